set_option maxRecDepth 100000
def dkwX5_doesPlane_4 : List UInt8 := [172]
abbrev dktX5_doesPlane_4 : List UInt8 := dkwX5_doesPlane_4 ++ []
def dkwX5_doesPlane_3 : List UInt8 := [180, 0, 126, 21, 5, 92, 46, 4, 100, 79, 21, 6, 153, 0, 5, 4, 172, 132, 5, 1, 167, 255, 181, 3]
abbrev dktX5_doesPlane_3 : List UInt8 := dkwX5_doesPlane_3 ++ dktX5_doesPlane_4
def dkwX5_doesPlane_2 : List UInt8 := [180, 0, 123, 27, 21, 5, 79, 42, 27, 4, 96, 28, 21, 5, 21, 4, 182, 1, 132, 54, 6, 42]
abbrev dktX5_doesPlane_2 : List UInt8 := dkwX5_doesPlane_2 ++ dktX5_doesPlane_3
def dkwX5_doesPlane_1 : List UInt8 := [42, 180, 0, 126, 21, 5, 46, 16, 20, 162, 0, 54, 42, 180, 0, 126, 21, 5, 92, 46, 4, 96, 79, 42]
abbrev dktX5_doesPlane_1 : List UInt8 := dkwX5_doesPlane_1 ++ dktX5_doesPlane_2
def dkwX5_doesPlane_0 : List UInt8 := [27, 28, 160, 0, 10, 42, 21, 4, 182, 1, 129, 172, 29, 54, 5, 21, 5, 42, 182, 1, 16, 162, 0, 72]
abbrev dktX5_doesPlane_0 : List UInt8 := dkwX5_doesPlane_0 ++ dktX5_doesPlane_1
theorem dksX5_doesPlane_0 : bcX5_doesPlane.data.toList.drop 0 = dktX5_doesPlane_0 := by decide +kernel
theorem dksX5_doesPlane_1 : bcX5_doesPlane.data.toList.drop 24 = dktX5_doesPlane_1 := dk_seg dksX5_doesPlane_0 24 rfl rfl
theorem dksX5_doesPlane_2 : bcX5_doesPlane.data.toList.drop 48 = dktX5_doesPlane_2 := dk_seg dksX5_doesPlane_1 24 rfl rfl
theorem dksX5_doesPlane_3 : bcX5_doesPlane.data.toList.drop 70 = dktX5_doesPlane_3 := dk_seg dksX5_doesPlane_2 22 rfl rfl
theorem dksX5_doesPlane_4 : bcX5_doesPlane.data.toList.drop 94 = dktX5_doesPlane_4 := dk_seg dksX5_doesPlane_3 24 rfl rfl
theorem dX5_doesPlane_0 : decode bcX5_doesPlane 0 = .ok (.iload_n 1, 1) := dk_27 (dk_at dksX5_doesPlane_0 0 rfl rfl)
theorem dX5_doesPlane_1 : decode bcX5_doesPlane 1 = .ok (.iload_n 2, 1) := dk_28 (dk_at dksX5_doesPlane_0 1 rfl rfl)
theorem dX5_doesPlane_2 : decode bcX5_doesPlane 2 = .ok (.if_icmp .ne 10, 3) := dk_160 0 10 (dk_at dksX5_doesPlane_0 2 rfl rfl)
theorem dX5_doesPlane_5 : decode bcX5_doesPlane 5 = .ok (.aload_n 0, 1) := dk_42 (dk_at dksX5_doesPlane_0 5 rfl rfl)
theorem dX5_doesPlane_6 : decode bcX5_doesPlane 6 = .ok (.iload 4, 2) := dk_21 4 (dk_at dksX5_doesPlane_0 6 rfl rfl)
theorem dX5_doesPlane_8 : decode bcX5_doesPlane 8 = .ok (.invokevirtual 385, 3) := dk_182 1 129 (dk_at dksX5_doesPlane_0 8 rfl rfl)
theorem dX5_doesPlane_11 : decode bcX5_doesPlane 11 = .ok (.ireturn, 1) := dk_172 (dk_at dksX5_doesPlane_0 11 rfl rfl)
theorem dX5_doesPlane_12 : decode bcX5_doesPlane 12 = .ok (.iload_n 3, 1) := dk_29 (dk_at dksX5_doesPlane_0 12 rfl rfl)
theorem dX5_doesPlane_13 : decode bcX5_doesPlane 13 = .ok (.istore 5, 2) := dk_54 5 (dk_at dksX5_doesPlane_0 13 rfl rfl)
theorem dX5_doesPlane_15 : decode bcX5_doesPlane 15 = .ok (.iload 5, 2) := dk_21 5 (dk_at dksX5_doesPlane_0 15 rfl rfl)
theorem dX5_doesPlane_17 : decode bcX5_doesPlane 17 = .ok (.aload_n 0, 1) := dk_42 (dk_at dksX5_doesPlane_0 17 rfl rfl)
theorem dX5_doesPlane_18 : decode bcX5_doesPlane 18 = .ok (.invokevirtual 272, 3) := dk_182 1 16 (dk_at dksX5_doesPlane_0 18 rfl rfl)
theorem dX5_doesPlane_21 : decode bcX5_doesPlane 21 = .ok (.if_icmp .ge 72, 3) := dk_162 0 72 (dk_at dksX5_doesPlane_0 21 rfl rfl)
theorem dX5_doesPlane_24 : decode bcX5_doesPlane 24 = .ok (.aload_n 0, 1) := dk_42 (dk_at dksX5_doesPlane_1 0 rfl rfl)
theorem dX5_doesPlane_25 : decode bcX5_doesPlane 25 = .ok (.getfield 126, 3) := dk_180 0 126 (dk_at dksX5_doesPlane_1 1 rfl rfl)
theorem dX5_doesPlane_28 : decode bcX5_doesPlane 28 = .ok (.iload 5, 2) := dk_21 5 (dk_at dksX5_doesPlane_1 4 rfl rfl)
theorem dX5_doesPlane_30 : decode bcX5_doesPlane 30 = .ok (.iaload, 1) := dk_46 (dk_at dksX5_doesPlane_1 6 rfl rfl)
theorem dX5_doesPlane_31 : decode bcX5_doesPlane 31 = .ok (.bipush 20, 2) := dk_16 20 (dk_at dksX5_doesPlane_1 7 rfl rfl)
theorem dX5_doesPlane_33 : decode bcX5_doesPlane 33 = .ok (.if_icmp .ge 54, 3) := dk_162 0 54 (dk_at dksX5_doesPlane_1 9 rfl rfl)
theorem dX5_doesPlane_36 : decode bcX5_doesPlane 36 = .ok (.aload_n 0, 1) := dk_42 (dk_at dksX5_doesPlane_1 12 rfl rfl)
theorem dX5_doesPlane_37 : decode bcX5_doesPlane 37 = .ok (.getfield 126, 3) := dk_180 0 126 (dk_at dksX5_doesPlane_1 13 rfl rfl)
theorem dX5_doesPlane_40 : decode bcX5_doesPlane 40 = .ok (.iload 5, 2) := dk_21 5 (dk_at dksX5_doesPlane_1 16 rfl rfl)
theorem dX5_doesPlane_42 : decode bcX5_doesPlane 42 = .ok (.dup2, 1) := dk_92 (dk_at dksX5_doesPlane_1 18 rfl rfl)
theorem dX5_doesPlane_43 : decode bcX5_doesPlane 43 = .ok (.iaload, 1) := dk_46 (dk_at dksX5_doesPlane_1 19 rfl rfl)
theorem dX5_doesPlane_44 : decode bcX5_doesPlane 44 = .ok (.iconst 1, 1) := dk_4 (dk_at dksX5_doesPlane_1 20 rfl rfl)
theorem dX5_doesPlane_45 : decode bcX5_doesPlane 45 = .ok (.iadd, 1) := dk_96 (dk_at dksX5_doesPlane_1 21 rfl rfl)
theorem dX5_doesPlane_46 : decode bcX5_doesPlane 46 = .ok (.iastore, 1) := dk_79 (dk_at dksX5_doesPlane_1 22 rfl rfl)
theorem dX5_doesPlane_47 : decode bcX5_doesPlane 47 = .ok (.aload_n 0, 1) := dk_42 (dk_at dksX5_doesPlane_1 23 rfl rfl)
theorem dX5_doesPlane_48 : decode bcX5_doesPlane 48 = .ok (.getfield 123, 3) := dk_180 0 123 (dk_at dksX5_doesPlane_2 0 rfl rfl)
theorem dX5_doesPlane_51 : decode bcX5_doesPlane 51 = .ok (.iload_n 1, 1) := dk_27 (dk_at dksX5_doesPlane_2 3 rfl rfl)
theorem dX5_doesPlane_52 : decode bcX5_doesPlane 52 = .ok (.iload 5, 2) := dk_21 5 (dk_at dksX5_doesPlane_2 4 rfl rfl)
theorem dX5_doesPlane_54 : decode bcX5_doesPlane 54 = .ok (.iastore, 1) := dk_79 (dk_at dksX5_doesPlane_2 6 rfl rfl)
theorem dX5_doesPlane_55 : decode bcX5_doesPlane 55 = .ok (.aload_n 0, 1) := dk_42 (dk_at dksX5_doesPlane_2 7 rfl rfl)
theorem dX5_doesPlane_56 : decode bcX5_doesPlane 56 = .ok (.iload_n 1, 1) := dk_27 (dk_at dksX5_doesPlane_2 8 rfl rfl)
theorem dX5_doesPlane_57 : decode bcX5_doesPlane 57 = .ok (.iconst 1, 1) := dk_4 (dk_at dksX5_doesPlane_2 9 rfl rfl)
theorem dX5_doesPlane_58 : decode bcX5_doesPlane 58 = .ok (.iadd, 1) := dk_96 (dk_at dksX5_doesPlane_2 10 rfl rfl)
theorem dX5_doesPlane_59 : decode bcX5_doesPlane 59 = .ok (.iload_n 2, 1) := dk_28 (dk_at dksX5_doesPlane_2 11 rfl rfl)
theorem dX5_doesPlane_60 : decode bcX5_doesPlane 60 = .ok (.iload 5, 2) := dk_21 5 (dk_at dksX5_doesPlane_2 12 rfl rfl)
theorem dX5_doesPlane_62 : decode bcX5_doesPlane 62 = .ok (.iload 4, 2) := dk_21 4 (dk_at dksX5_doesPlane_2 14 rfl rfl)
theorem dX5_doesPlane_64 : decode bcX5_doesPlane 64 = .ok (.invokevirtual 388, 3) := dk_182 1 132 (dk_at dksX5_doesPlane_2 16 rfl rfl)
theorem dX5_doesPlane_67 : decode bcX5_doesPlane 67 = .ok (.istore 6, 2) := dk_54 6 (dk_at dksX5_doesPlane_2 19 rfl rfl)
theorem dX5_doesPlane_69 : decode bcX5_doesPlane 69 = .ok (.aload_n 0, 1) := dk_42 (dk_at dksX5_doesPlane_2 21 rfl rfl)
theorem dX5_doesPlane_70 : decode bcX5_doesPlane 70 = .ok (.getfield 126, 3) := dk_180 0 126 (dk_at dksX5_doesPlane_3 0 rfl rfl)
theorem dX5_doesPlane_73 : decode bcX5_doesPlane 73 = .ok (.iload 5, 2) := dk_21 5 (dk_at dksX5_doesPlane_3 3 rfl rfl)
theorem dX5_doesPlane_75 : decode bcX5_doesPlane 75 = .ok (.dup2, 1) := dk_92 (dk_at dksX5_doesPlane_3 5 rfl rfl)
theorem dX5_doesPlane_76 : decode bcX5_doesPlane 76 = .ok (.iaload, 1) := dk_46 (dk_at dksX5_doesPlane_3 6 rfl rfl)
theorem dX5_doesPlane_77 : decode bcX5_doesPlane 77 = .ok (.iconst 1, 1) := dk_4 (dk_at dksX5_doesPlane_3 7 rfl rfl)
theorem dX5_doesPlane_78 : decode bcX5_doesPlane 78 = .ok (.isub, 1) := dk_100 (dk_at dksX5_doesPlane_3 8 rfl rfl)
theorem dX5_doesPlane_79 : decode bcX5_doesPlane 79 = .ok (.iastore, 1) := dk_79 (dk_at dksX5_doesPlane_3 9 rfl rfl)
theorem dX5_doesPlane_80 : decode bcX5_doesPlane 80 = .ok (.iload 6, 2) := dk_21 6 (dk_at dksX5_doesPlane_3 10 rfl rfl)
theorem dX5_doesPlane_82 : decode bcX5_doesPlane 82 = .ok (.ifCond .eq 5, 3) := dk_153 0 5 (dk_at dksX5_doesPlane_3 12 rfl rfl)
theorem dX5_doesPlane_85 : decode bcX5_doesPlane 85 = .ok (.iconst 1, 1) := dk_4 (dk_at dksX5_doesPlane_3 15 rfl rfl)
theorem dX5_doesPlane_86 : decode bcX5_doesPlane 86 = .ok (.ireturn, 1) := dk_172 (dk_at dksX5_doesPlane_3 16 rfl rfl)
theorem dX5_doesPlane_87 : decode bcX5_doesPlane 87 = .ok (.iinc 5 1, 3) := dk_132 5 1 (dk_at dksX5_doesPlane_3 17 rfl rfl)
theorem dX5_doesPlane_90 : decode bcX5_doesPlane 90 = .ok (.goto (-75), 3) := dk_167 255 181 (dk_at dksX5_doesPlane_3 20 rfl rfl)
theorem dX5_doesPlane_93 : decode bcX5_doesPlane 93 = .ok (.iconst 0, 1) := dk_3 (dk_at dksX5_doesPlane_3 23 rfl rfl)
theorem dX5_doesPlane_94 : decode bcX5_doesPlane 94 = .ok (.ireturn, 1) := dk_172 (dk_at dksX5_doesPlane_4 0 rfl rfl)
abbrev SX5_doesPlane (pc : Nat) (i : xI) : Prop := Snd "SwollenHouseModel" "doesPlane" prog_25_method_108_code 7 (Option.some Jvm.ClassFile.FieldType.boolean) [] pc i
theorem oX5_doesPlane_0 : SX5_doesPlane 0 (i_iload 1 1) := snd_iload_n dX5_doesPlane_0 rfl
theorem oX5_doesPlane_1 : SX5_doesPlane 1 (i_iload 2 2) := snd_iload_n dX5_doesPlane_1 rfl
theorem oX5_doesPlane_2 : SX5_doesPlane 2 (i_if2 (fun x y => ¬ x = y) 12 5) := snd_icmp_ne dX5_doesPlane_2 (by decide)
theorem oX5_doesPlane_5 : SX5_doesPlane 5 (i_aload 0 6) := snd_aload_n dX5_doesPlane_5 rfl
theorem oX5_doesPlane_6 : SX5_doesPlane 6 (i_iload 4 8) := snd_iload dX5_doesPlane_6
theorem oX5_doesPlane_8 : SX5_doesPlane 8 (i_cv 4 350 1 11) := snd_cv rfl infX5_areOne (by decide) rfl (xVm_V dX5_doesPlane_8 rfl q2180 q2182 qs121 q136 q2183 pdX5_areOne)
theorem oX5_doesPlane_11 : SX5_doesPlane 11 (i_zret) := snd_zret dX5_doesPlane_11 rfl
theorem oX5_doesPlane_12 : SX5_doesPlane 12 (i_iload 3 13) := snd_iload_n dX5_doesPlane_12 rfl
theorem oX5_doesPlane_13 : SX5_doesPlane 13 (i_istore 5 15) := snd_istore dX5_doesPlane_13 (by decide)
theorem oX5_doesPlane_15 : SX5_doesPlane 15 (i_iload 5 17) := snd_iload dX5_doesPlane_15
theorem oX5_doesPlane_17 : SX5_doesPlane 17 (i_aload 0 18) := snd_aload_n dX5_doesPlane_17 rfl
theorem oX5_doesPlane_18 : SX5_doesPlane 18 (i_cv 4 250 0 21) := snd_cv rfl infX5_doors (by decide) rfl (xVm_V dX5_doesPlane_18 rfl q1686 q1688 qs60 q136 q1689 pdX5_doors)
theorem oX5_doesPlane_21 : SX5_doesPlane 21 (i_if2 (fun x y => y ≤ x) 93 24) := snd_icmp_ge dX5_doesPlane_21 (by decide)
theorem oX5_doesPlane_24 : SX5_doesPlane 24 (i_aload 0 25) := snd_aload_n dX5_doesPlane_24 rfl
theorem oX5_doesPlane_25 : SX5_doesPlane 25 (i_getf 4 29 28) := snd_getf dX5_doesPlane_25 rfl (by decide) in_X5 (Or.inl q1727) (Or.inl rfl) (by decide)
theorem oX5_doesPlane_28 : SX5_doesPlane 28 (i_iload 5 30) := snd_iload dX5_doesPlane_28
theorem oX5_doesPlane_30 : SX5_doesPlane 30 (i_ai 0 31) := snd_ai0 dX5_doesPlane_30
theorem oX5_doesPlane_31 : SX5_doesPlane 31 (i_const (.int (nI 20)) 33) := snd_bipush dX5_doesPlane_31 (by decide)
theorem oX5_doesPlane_33 : SX5_doesPlane 33 (i_if2 (fun x y => y ≤ x) 87 36) := snd_icmp_ge dX5_doesPlane_33 (by decide)
theorem oX5_doesPlane_36 : SX5_doesPlane 36 (i_aload 0 37) := snd_aload_n dX5_doesPlane_36 rfl
theorem oX5_doesPlane_37 : SX5_doesPlane 37 (i_getf 4 29 40) := snd_getf dX5_doesPlane_37 rfl (by decide) in_X5 (Or.inl q1727) (Or.inl rfl) (by decide)
theorem oX5_doesPlane_40 : SX5_doesPlane 40 (i_iload 5 42) := snd_iload dX5_doesPlane_40
theorem oX5_doesPlane_42 : SX5_doesPlane 42 (i_dup2 43) := snd_dup2 dX5_doesPlane_42
theorem oX5_doesPlane_43 : SX5_doesPlane 43 (i_ai 0 44) := snd_ai0 dX5_doesPlane_43
theorem oX5_doesPlane_44 : SX5_doesPlane 44 (i_const (.int (nI 1)) 45) := snd_iconst dX5_doesPlane_44 (by decide)
theorem oX5_doesPlane_45 : SX5_doesPlane 45 (i_ii (fun x y => x + y) 46) := snd_iadd dX5_doesPlane_45
theorem oX5_doesPlane_46 : SX5_doesPlane 46 (i_si (fun v => v) 0 47) := snd_si0 dX5_doesPlane_46
theorem oX5_doesPlane_47 : SX5_doesPlane 47 (i_aload 0 48) := snd_aload_n dX5_doesPlane_47 rfl
theorem oX5_doesPlane_48 : SX5_doesPlane 48 (i_getf 4 28 51) := snd_getf dX5_doesPlane_48 rfl (by decide) in_X5 (Or.inl q1726) (Or.inl rfl) (by decide)
theorem oX5_doesPlane_51 : SX5_doesPlane 51 (i_iload 1 52) := snd_iload_n dX5_doesPlane_51 rfl
theorem oX5_doesPlane_52 : SX5_doesPlane 52 (i_iload 5 54) := snd_iload dX5_doesPlane_52
theorem oX5_doesPlane_54 : SX5_doesPlane 54 (i_si (fun v => v) 0 55) := snd_si0 dX5_doesPlane_54
theorem oX5_doesPlane_55 : SX5_doesPlane 55 (i_aload 0 56) := snd_aload_n dX5_doesPlane_55 rfl
theorem oX5_doesPlane_56 : SX5_doesPlane 56 (i_iload 1 57) := snd_iload_n dX5_doesPlane_56 rfl
theorem oX5_doesPlane_57 : SX5_doesPlane 57 (i_const (.int (nI 1)) 58) := snd_iconst dX5_doesPlane_57 (by decide)
theorem oX5_doesPlane_58 : SX5_doesPlane 58 (i_ii (fun x y => x + y) 59) := snd_iadd dX5_doesPlane_58
theorem oX5_doesPlane_59 : SX5_doesPlane 59 (i_iload 2 60) := snd_iload_n dX5_doesPlane_59 rfl
theorem oX5_doesPlane_60 : SX5_doesPlane 60 (i_iload 5 62) := snd_iload dX5_doesPlane_60
theorem oX5_doesPlane_62 : SX5_doesPlane 62 (i_iload 4 64) := snd_iload dX5_doesPlane_62
theorem oX5_doesPlane_64 : SX5_doesPlane 64 (i_cv 4 349 4 67) := snd_cv rfl infX5_doesPlane (by decide) rfl (xVm_V dX5_doesPlane_64 rfl q2176 q2178 qs120 q136 q2179 pdX5_doesPlane)
theorem oX5_doesPlane_67 : SX5_doesPlane 67 (i_istore 6 69) := snd_istore dX5_doesPlane_67 (by decide)
theorem oX5_doesPlane_69 : SX5_doesPlane 69 (i_aload 0 70) := snd_aload_n dX5_doesPlane_69 rfl
theorem oX5_doesPlane_70 : SX5_doesPlane 70 (i_getf 4 29 73) := snd_getf dX5_doesPlane_70 rfl (by decide) in_X5 (Or.inl q1727) (Or.inl rfl) (by decide)
theorem oX5_doesPlane_73 : SX5_doesPlane 73 (i_iload 5 75) := snd_iload dX5_doesPlane_73
theorem oX5_doesPlane_75 : SX5_doesPlane 75 (i_dup2 76) := snd_dup2 dX5_doesPlane_75
theorem oX5_doesPlane_76 : SX5_doesPlane 76 (i_ai 0 77) := snd_ai0 dX5_doesPlane_76
theorem oX5_doesPlane_77 : SX5_doesPlane 77 (i_const (.int (nI 1)) 78) := snd_iconst dX5_doesPlane_77 (by decide)
theorem oX5_doesPlane_78 : SX5_doesPlane 78 (i_ii (fun x y => x - y) 79) := snd_isub dX5_doesPlane_78
theorem oX5_doesPlane_79 : SX5_doesPlane 79 (i_si (fun v => v) 0 80) := snd_si0 dX5_doesPlane_79
theorem oX5_doesPlane_80 : SX5_doesPlane 80 (i_iload 6 82) := snd_iload dX5_doesPlane_80
theorem oX5_doesPlane_82 : SX5_doesPlane 82 (i_if1 (fun x => x = 0) 87 85) := snd_if_eq dX5_doesPlane_82 (by decide)
theorem oX5_doesPlane_85 : SX5_doesPlane 85 (i_const (.int (nI 1)) 86) := snd_iconst dX5_doesPlane_85 (by decide)
theorem oX5_doesPlane_86 : SX5_doesPlane 86 (i_zret) := snd_zret dX5_doesPlane_86 rfl
theorem oX5_doesPlane_87 : SX5_doesPlane 87 (i_iinc 5 (nI 1) 90) := snd_iinc dX5_doesPlane_87 (by decide) (by decide)
theorem oX5_doesPlane_90 : SX5_doesPlane 90 (i_goto 15) := snd_goto dX5_doesPlane_90 (by decide)
theorem oX5_doesPlane_93 : SX5_doesPlane 93 (i_const (.int (nI 0)) 94) := snd_iconst dX5_doesPlane_93 (by decide)
theorem oX5_doesPlane_94 : SX5_doesPlane 94 (i_zret) := snd_zret dX5_doesPlane_94 rfl
theorem okX5_doesPlane : ∀ q ∈ cX5_doesPlane, SX5_doesPlane q.1 q.2 := List.forall_mem_cons.mpr ⟨oX5_doesPlane_0, List.forall_mem_cons.mpr ⟨oX5_doesPlane_1, List.forall_mem_cons.mpr ⟨oX5_doesPlane_2, List.forall_mem_cons.mpr ⟨oX5_doesPlane_5, List.forall_mem_cons.mpr ⟨oX5_doesPlane_6, List.forall_mem_cons.mpr ⟨oX5_doesPlane_8, List.forall_mem_cons.mpr ⟨oX5_doesPlane_11, List.forall_mem_cons.mpr ⟨oX5_doesPlane_12, List.forall_mem_cons.mpr ⟨oX5_doesPlane_13, List.forall_mem_cons.mpr ⟨oX5_doesPlane_15, List.forall_mem_cons.mpr ⟨oX5_doesPlane_17, List.forall_mem_cons.mpr ⟨oX5_doesPlane_18, List.forall_mem_cons.mpr ⟨oX5_doesPlane_21, List.forall_mem_cons.mpr ⟨oX5_doesPlane_24, List.forall_mem_cons.mpr ⟨oX5_doesPlane_25, List.forall_mem_cons.mpr ⟨oX5_doesPlane_28, List.forall_mem_cons.mpr ⟨oX5_doesPlane_30, List.forall_mem_cons.mpr ⟨oX5_doesPlane_31, List.forall_mem_cons.mpr ⟨oX5_doesPlane_33, List.forall_mem_cons.mpr ⟨oX5_doesPlane_36, List.forall_mem_cons.mpr ⟨oX5_doesPlane_37, List.forall_mem_cons.mpr ⟨oX5_doesPlane_40, List.forall_mem_cons.mpr ⟨oX5_doesPlane_42, List.forall_mem_cons.mpr ⟨oX5_doesPlane_43, List.forall_mem_cons.mpr ⟨oX5_doesPlane_44, List.forall_mem_cons.mpr ⟨oX5_doesPlane_45, List.forall_mem_cons.mpr ⟨oX5_doesPlane_46, List.forall_mem_cons.mpr ⟨oX5_doesPlane_47, List.forall_mem_cons.mpr ⟨oX5_doesPlane_48, List.forall_mem_cons.mpr ⟨oX5_doesPlane_51, List.forall_mem_cons.mpr ⟨oX5_doesPlane_52, List.forall_mem_cons.mpr ⟨oX5_doesPlane_54, List.forall_mem_cons.mpr ⟨oX5_doesPlane_55, List.forall_mem_cons.mpr ⟨oX5_doesPlane_56, List.forall_mem_cons.mpr ⟨oX5_doesPlane_57, List.forall_mem_cons.mpr ⟨oX5_doesPlane_58, List.forall_mem_cons.mpr ⟨oX5_doesPlane_59, List.forall_mem_cons.mpr ⟨oX5_doesPlane_60, List.forall_mem_cons.mpr ⟨oX5_doesPlane_62, List.forall_mem_cons.mpr ⟨oX5_doesPlane_64, List.forall_mem_cons.mpr ⟨oX5_doesPlane_67, List.forall_mem_cons.mpr ⟨oX5_doesPlane_69, List.forall_mem_cons.mpr ⟨oX5_doesPlane_70, List.forall_mem_cons.mpr ⟨oX5_doesPlane_73, List.forall_mem_cons.mpr ⟨oX5_doesPlane_75, List.forall_mem_cons.mpr ⟨oX5_doesPlane_76, List.forall_mem_cons.mpr ⟨oX5_doesPlane_77, List.forall_mem_cons.mpr ⟨oX5_doesPlane_78, List.forall_mem_cons.mpr ⟨oX5_doesPlane_79, List.forall_mem_cons.mpr ⟨oX5_doesPlane_80, List.forall_mem_cons.mpr ⟨oX5_doesPlane_82, List.forall_mem_cons.mpr ⟨oX5_doesPlane_85, List.forall_mem_cons.mpr ⟨oX5_doesPlane_86, List.forall_mem_cons.mpr ⟨oX5_doesPlane_87, List.forall_mem_cons.mpr ⟨oX5_doesPlane_90, List.forall_mem_cons.mpr ⟨oX5_doesPlane_93, List.forall_mem_cons.mpr ⟨oX5_doesPlane_94, fun _ h => absurd h List.not_mem_nil⟩⟩⟩⟩⟩⟩⟩⟩⟩⟩⟩⟩⟩⟩⟩⟩⟩⟩⟩⟩⟩⟩⟩⟩⟩⟩⟩⟩⟩⟩⟩⟩⟩⟩⟩⟩⟩⟩⟩⟩⟩⟩⟩⟩⟩⟩⟩⟩⟩⟩⟩⟩⟩⟩⟩⟩⟩
def dkwX5_areOne_5 : List UInt8 := [167, 255, 201, 28, 172]
abbrev dktX5_areOne_5 : List UInt8 := dkwX5_areOne_5 ++ []
def dkwX5_areOne_4 : List UInt8 := [180, 0, 113, 16, 18, 29, 96, 46, 122, 4, 126, 4, 160, 0, 7, 4, 167, 0, 4, 3, 61, 132, 3, 1]
abbrev dktX5_areOne_4 : List UInt8 := dkwX5_areOne_4 ++ dktX5_areOne_5
def dkwX5_areOne_3 : List UInt8 := [153, 0, 41, 42, 42, 180, 0, 113, 16, 18, 46, 42, 17, 5, 85, 182, 1, 104, 182, 1, 107, 42]
abbrev dktX5_areOne_3 : List UInt8 := dkwX5_areOne_3 ++ dktX5_areOne_4
def dkwX5_areOne_2 : List UInt8 := [182, 1, 72, 132, 2, 1, 167, 255, 241, 4, 61, 4, 62, 29, 42, 182, 1, 23, 162, 0, 53, 28]
abbrev dktX5_areOne_2 : List UInt8 := dkwX5_areOne_2 ++ dktX5_areOne_3
def dkwX5_areOne_1 : List UInt8 := [180, 0, 126, 28, 46, 79, 132, 2, 1, 167, 255, 229, 3, 61, 28, 27, 162, 0, 16, 42, 17, 5, 85]
abbrev dktX5_areOne_1 : List UInt8 := dkwX5_areOne_1 ++ dktX5_areOne_2
def dkwX5_areOne_0 : List UInt8 := [42, 182, 1, 116, 3, 61, 28, 42, 182, 1, 16, 162, 0, 25, 42, 180, 0, 113, 17, 5, 87, 28, 96, 42]
abbrev dktX5_areOne_0 : List UInt8 := dkwX5_areOne_0 ++ dktX5_areOne_1
theorem dksX5_areOne_0 : bcX5_areOne.data.toList.drop 0 = dktX5_areOne_0 := by decide +kernel
theorem dksX5_areOne_1 : bcX5_areOne.data.toList.drop 24 = dktX5_areOne_1 := dk_seg dksX5_areOne_0 24 rfl rfl
theorem dksX5_areOne_2 : bcX5_areOne.data.toList.drop 47 = dktX5_areOne_2 := dk_seg dksX5_areOne_1 23 rfl rfl
theorem dksX5_areOne_3 : bcX5_areOne.data.toList.drop 69 = dktX5_areOne_3 := dk_seg dksX5_areOne_2 22 rfl rfl
theorem dksX5_areOne_4 : bcX5_areOne.data.toList.drop 91 = dktX5_areOne_4 := dk_seg dksX5_areOne_3 22 rfl rfl
theorem dksX5_areOne_5 : bcX5_areOne.data.toList.drop 115 = dktX5_areOne_5 := dk_seg dksX5_areOne_4 24 rfl rfl
theorem dX5_areOne_0 : decode bcX5_areOne 0 = .ok (.aload_n 0, 1) := dk_42 (dk_at dksX5_areOne_0 0 rfl rfl)
theorem dX5_areOne_1 : decode bcX5_areOne 1 = .ok (.invokevirtual 372, 3) := dk_182 1 116 (dk_at dksX5_areOne_0 1 rfl rfl)
theorem dX5_areOne_4 : decode bcX5_areOne 4 = .ok (.iconst 0, 1) := dk_3 (dk_at dksX5_areOne_0 4 rfl rfl)
theorem dX5_areOne_5 : decode bcX5_areOne 5 = .ok (.istore_n 2, 1) := dk_61 (dk_at dksX5_areOne_0 5 rfl rfl)
theorem dX5_areOne_6 : decode bcX5_areOne 6 = .ok (.iload_n 2, 1) := dk_28 (dk_at dksX5_areOne_0 6 rfl rfl)
theorem dX5_areOne_7 : decode bcX5_areOne 7 = .ok (.aload_n 0, 1) := dk_42 (dk_at dksX5_areOne_0 7 rfl rfl)
theorem dX5_areOne_8 : decode bcX5_areOne 8 = .ok (.invokevirtual 272, 3) := dk_182 1 16 (dk_at dksX5_areOne_0 8 rfl rfl)
theorem dX5_areOne_11 : decode bcX5_areOne 11 = .ok (.if_icmp .ge 25, 3) := dk_162 0 25 (dk_at dksX5_areOne_0 11 rfl rfl)
theorem dX5_areOne_14 : decode bcX5_areOne 14 = .ok (.aload_n 0, 1) := dk_42 (dk_at dksX5_areOne_0 14 rfl rfl)
theorem dX5_areOne_15 : decode bcX5_areOne 15 = .ok (.getfield 113, 3) := dk_180 0 113 (dk_at dksX5_areOne_0 15 rfl rfl)
theorem dX5_areOne_18 : decode bcX5_areOne 18 = .ok (.sipush 1367, 3) := dk_17 5 87 (dk_at dksX5_areOne_0 18 rfl rfl)
theorem dX5_areOne_21 : decode bcX5_areOne 21 = .ok (.iload_n 2, 1) := dk_28 (dk_at dksX5_areOne_0 21 rfl rfl)
theorem dX5_areOne_22 : decode bcX5_areOne 22 = .ok (.iadd, 1) := dk_96 (dk_at dksX5_areOne_0 22 rfl rfl)
theorem dX5_areOne_23 : decode bcX5_areOne 23 = .ok (.aload_n 0, 1) := dk_42 (dk_at dksX5_areOne_0 23 rfl rfl)
theorem dX5_areOne_24 : decode bcX5_areOne 24 = .ok (.getfield 126, 3) := dk_180 0 126 (dk_at dksX5_areOne_1 0 rfl rfl)
theorem dX5_areOne_27 : decode bcX5_areOne 27 = .ok (.iload_n 2, 1) := dk_28 (dk_at dksX5_areOne_1 3 rfl rfl)
theorem dX5_areOne_28 : decode bcX5_areOne 28 = .ok (.iaload, 1) := dk_46 (dk_at dksX5_areOne_1 4 rfl rfl)
theorem dX5_areOne_29 : decode bcX5_areOne 29 = .ok (.iastore, 1) := dk_79 (dk_at dksX5_areOne_1 5 rfl rfl)
theorem dX5_areOne_30 : decode bcX5_areOne 30 = .ok (.iinc 2 1, 3) := dk_132 2 1 (dk_at dksX5_areOne_1 6 rfl rfl)
theorem dX5_areOne_33 : decode bcX5_areOne 33 = .ok (.goto (-27), 3) := dk_167 255 229 (dk_at dksX5_areOne_1 9 rfl rfl)
theorem dX5_areOne_36 : decode bcX5_areOne 36 = .ok (.iconst 0, 1) := dk_3 (dk_at dksX5_areOne_1 12 rfl rfl)
theorem dX5_areOne_37 : decode bcX5_areOne 37 = .ok (.istore_n 2, 1) := dk_61 (dk_at dksX5_areOne_1 13 rfl rfl)
theorem dX5_areOne_38 : decode bcX5_areOne 38 = .ok (.iload_n 2, 1) := dk_28 (dk_at dksX5_areOne_1 14 rfl rfl)
theorem dX5_areOne_39 : decode bcX5_areOne 39 = .ok (.iload_n 1, 1) := dk_27 (dk_at dksX5_areOne_1 15 rfl rfl)
theorem dX5_areOne_40 : decode bcX5_areOne 40 = .ok (.if_icmp .ge 16, 3) := dk_162 0 16 (dk_at dksX5_areOne_1 16 rfl rfl)
theorem dX5_areOne_43 : decode bcX5_areOne 43 = .ok (.aload_n 0, 1) := dk_42 (dk_at dksX5_areOne_1 19 rfl rfl)
theorem dX5_areOne_44 : decode bcX5_areOne 44 = .ok (.sipush 1365, 3) := dk_17 5 85 (dk_at dksX5_areOne_1 20 rfl rfl)
theorem dX5_areOne_47 : decode bcX5_areOne 47 = .ok (.invokevirtual 328, 3) := dk_182 1 72 (dk_at dksX5_areOne_2 0 rfl rfl)
theorem dX5_areOne_50 : decode bcX5_areOne 50 = .ok (.iinc 2 1, 3) := dk_132 2 1 (dk_at dksX5_areOne_2 3 rfl rfl)
theorem dX5_areOne_53 : decode bcX5_areOne 53 = .ok (.goto (-15), 3) := dk_167 255 241 (dk_at dksX5_areOne_2 6 rfl rfl)
theorem dX5_areOne_56 : decode bcX5_areOne 56 = .ok (.iconst 1, 1) := dk_4 (dk_at dksX5_areOne_2 9 rfl rfl)
theorem dX5_areOne_57 : decode bcX5_areOne 57 = .ok (.istore_n 2, 1) := dk_61 (dk_at dksX5_areOne_2 10 rfl rfl)
theorem dX5_areOne_58 : decode bcX5_areOne 58 = .ok (.iconst 1, 1) := dk_4 (dk_at dksX5_areOne_2 11 rfl rfl)
theorem dX5_areOne_59 : decode bcX5_areOne 59 = .ok (.istore_n 3, 1) := dk_62 (dk_at dksX5_areOne_2 12 rfl rfl)
theorem dX5_areOne_60 : decode bcX5_areOne 60 = .ok (.iload_n 3, 1) := dk_29 (dk_at dksX5_areOne_2 13 rfl rfl)
theorem dX5_areOne_61 : decode bcX5_areOne 61 = .ok (.aload_n 0, 1) := dk_42 (dk_at dksX5_areOne_2 14 rfl rfl)
theorem dX5_areOne_62 : decode bcX5_areOne 62 = .ok (.invokevirtual 279, 3) := dk_182 1 23 (dk_at dksX5_areOne_2 15 rfl rfl)
theorem dX5_areOne_65 : decode bcX5_areOne 65 = .ok (.if_icmp .ge 53, 3) := dk_162 0 53 (dk_at dksX5_areOne_2 18 rfl rfl)
theorem dX5_areOne_68 : decode bcX5_areOne 68 = .ok (.iload_n 2, 1) := dk_28 (dk_at dksX5_areOne_2 21 rfl rfl)
theorem dX5_areOne_69 : decode bcX5_areOne 69 = .ok (.ifCond .eq 41, 3) := dk_153 0 41 (dk_at dksX5_areOne_3 0 rfl rfl)
theorem dX5_areOne_72 : decode bcX5_areOne 72 = .ok (.aload_n 0, 1) := dk_42 (dk_at dksX5_areOne_3 3 rfl rfl)
theorem dX5_areOne_73 : decode bcX5_areOne 73 = .ok (.aload_n 0, 1) := dk_42 (dk_at dksX5_areOne_3 4 rfl rfl)
theorem dX5_areOne_74 : decode bcX5_areOne 74 = .ok (.getfield 113, 3) := dk_180 0 113 (dk_at dksX5_areOne_3 5 rfl rfl)
theorem dX5_areOne_77 : decode bcX5_areOne 77 = .ok (.bipush 18, 2) := dk_16 18 (dk_at dksX5_areOne_3 8 rfl rfl)
theorem dX5_areOne_79 : decode bcX5_areOne 79 = .ok (.iaload, 1) := dk_46 (dk_at dksX5_areOne_3 10 rfl rfl)
theorem dX5_areOne_80 : decode bcX5_areOne 80 = .ok (.aload_n 0, 1) := dk_42 (dk_at dksX5_areOne_3 11 rfl rfl)
theorem dX5_areOne_81 : decode bcX5_areOne 81 = .ok (.sipush 1365, 3) := dk_17 5 85 (dk_at dksX5_areOne_3 12 rfl rfl)
theorem dX5_areOne_84 : decode bcX5_areOne 84 = .ok (.invokevirtual 360, 3) := dk_182 1 104 (dk_at dksX5_areOne_3 15 rfl rfl)
theorem dX5_areOne_87 : decode bcX5_areOne 87 = .ok (.invokevirtual 363, 3) := dk_182 1 107 (dk_at dksX5_areOne_3 18 rfl rfl)
theorem dX5_areOne_90 : decode bcX5_areOne 90 = .ok (.aload_n 0, 1) := dk_42 (dk_at dksX5_areOne_3 21 rfl rfl)
theorem dX5_areOne_91 : decode bcX5_areOne 91 = .ok (.getfield 113, 3) := dk_180 0 113 (dk_at dksX5_areOne_4 0 rfl rfl)
theorem dX5_areOne_94 : decode bcX5_areOne 94 = .ok (.bipush 18, 2) := dk_16 18 (dk_at dksX5_areOne_4 3 rfl rfl)
theorem dX5_areOne_96 : decode bcX5_areOne 96 = .ok (.iload_n 3, 1) := dk_29 (dk_at dksX5_areOne_4 5 rfl rfl)
theorem dX5_areOne_97 : decode bcX5_areOne 97 = .ok (.iadd, 1) := dk_96 (dk_at dksX5_areOne_4 6 rfl rfl)
theorem dX5_areOne_98 : decode bcX5_areOne 98 = .ok (.iaload, 1) := dk_46 (dk_at dksX5_areOne_4 7 rfl rfl)
theorem dX5_areOne_99 : decode bcX5_areOne 99 = .ok (.ishr, 1) := dk_122 (dk_at dksX5_areOne_4 8 rfl rfl)
theorem dX5_areOne_100 : decode bcX5_areOne 100 = .ok (.iconst 1, 1) := dk_4 (dk_at dksX5_areOne_4 9 rfl rfl)
theorem dX5_areOne_101 : decode bcX5_areOne 101 = .ok (.iand, 1) := dk_126 (dk_at dksX5_areOne_4 10 rfl rfl)
theorem dX5_areOne_102 : decode bcX5_areOne 102 = .ok (.iconst 1, 1) := dk_4 (dk_at dksX5_areOne_4 11 rfl rfl)
theorem dX5_areOne_103 : decode bcX5_areOne 103 = .ok (.if_icmp .ne 7, 3) := dk_160 0 7 (dk_at dksX5_areOne_4 12 rfl rfl)
theorem dX5_areOne_106 : decode bcX5_areOne 106 = .ok (.iconst 1, 1) := dk_4 (dk_at dksX5_areOne_4 15 rfl rfl)
theorem dX5_areOne_107 : decode bcX5_areOne 107 = .ok (.goto 4, 3) := dk_167 0 4 (dk_at dksX5_areOne_4 16 rfl rfl)
theorem dX5_areOne_110 : decode bcX5_areOne 110 = .ok (.iconst 0, 1) := dk_3 (dk_at dksX5_areOne_4 19 rfl rfl)
theorem dX5_areOne_111 : decode bcX5_areOne 111 = .ok (.istore_n 2, 1) := dk_61 (dk_at dksX5_areOne_4 20 rfl rfl)
theorem dX5_areOne_112 : decode bcX5_areOne 112 = .ok (.iinc 3 1, 3) := dk_132 3 1 (dk_at dksX5_areOne_4 21 rfl rfl)
theorem dX5_areOne_115 : decode bcX5_areOne 115 = .ok (.goto (-55), 3) := dk_167 255 201 (dk_at dksX5_areOne_5 0 rfl rfl)
theorem dX5_areOne_118 : decode bcX5_areOne 118 = .ok (.iload_n 2, 1) := dk_28 (dk_at dksX5_areOne_5 3 rfl rfl)
theorem dX5_areOne_119 : decode bcX5_areOne 119 = .ok (.ireturn, 1) := dk_172 (dk_at dksX5_areOne_5 4 rfl rfl)
abbrev SX5_areOne (pc : Nat) (i : xI) : Prop := Snd "SwollenHouseModel" "areOne" prog_25_method_107_code 4 (Option.some Jvm.ClassFile.FieldType.boolean) [] pc i
theorem oX5_areOne_0 : SX5_areOne 0 (i_aload 0 1) := snd_aload_n dX5_areOne_0 rfl
theorem oX5_areOne_1 : SX5_areOne 1 (i_cvv 4 337 0 4) := snd_cvv rfl infX5_triesNow (by decide) rfl (xVm_V dX5_areOne_1 rfl q2128 q2130 qs116 q136 q2131 pdX5_triesNow)
theorem oX5_areOne_4 : SX5_areOne 4 (i_const (.int (nI 0)) 5) := snd_iconst dX5_areOne_4 (by decide)
theorem oX5_areOne_5 : SX5_areOne 5 (i_istore 2 6) := snd_istore_n dX5_areOne_5 rfl (by decide)
theorem oX5_areOne_6 : SX5_areOne 6 (i_iload 2 7) := snd_iload_n dX5_areOne_6 rfl
theorem oX5_areOne_7 : SX5_areOne 7 (i_aload 0 8) := snd_aload_n dX5_areOne_7 rfl
theorem oX5_areOne_8 : SX5_areOne 8 (i_cv 4 250 0 11) := snd_cv rfl infX5_doors (by decide) rfl (xVm_V dX5_areOne_8 rfl q1686 q1688 qs60 q136 q1689 pdX5_doors)
theorem oX5_areOne_11 : SX5_areOne 11 (i_if2 (fun x y => y ≤ x) 36 14) := snd_icmp_ge dX5_areOne_11 (by decide)
theorem oX5_areOne_14 : SX5_areOne 14 (i_aload 0 15) := snd_aload_n dX5_areOne_14 rfl
theorem oX5_areOne_15 : SX5_areOne 15 (i_getf 4 24 18) := snd_getf dX5_areOne_15 rfl (by decide) in_X5 (Or.inl q1722) (Or.inl rfl) (by decide)
theorem oX5_areOne_18 : SX5_areOne 18 (i_const (.int (nI 1367)) 21) := snd_sipush dX5_areOne_18 (by decide)
theorem oX5_areOne_21 : SX5_areOne 21 (i_iload 2 22) := snd_iload_n dX5_areOne_21 rfl
theorem oX5_areOne_22 : SX5_areOne 22 (i_ii (fun x y => x + y) 23) := snd_iadd dX5_areOne_22
theorem oX5_areOne_23 : SX5_areOne 23 (i_aload 0 24) := snd_aload_n dX5_areOne_23 rfl
theorem oX5_areOne_24 : SX5_areOne 24 (i_getf 4 29 27) := snd_getf dX5_areOne_24 rfl (by decide) in_X5 (Or.inl q1727) (Or.inl rfl) (by decide)
theorem oX5_areOne_27 : SX5_areOne 27 (i_iload 2 28) := snd_iload_n dX5_areOne_27 rfl
theorem oX5_areOne_28 : SX5_areOne 28 (i_ai 0 29) := snd_ai0 dX5_areOne_28
theorem oX5_areOne_29 : SX5_areOne 29 (i_si (fun v => v) 0 30) := snd_si0 dX5_areOne_29
theorem oX5_areOne_30 : SX5_areOne 30 (i_iinc 2 (nI 1) 33) := snd_iinc dX5_areOne_30 (by decide) (by decide)
theorem oX5_areOne_33 : SX5_areOne 33 (i_goto 6) := snd_goto dX5_areOne_33 (by decide)
theorem oX5_areOne_36 : SX5_areOne 36 (i_const (.int (nI 0)) 37) := snd_iconst dX5_areOne_36 (by decide)
theorem oX5_areOne_37 : SX5_areOne 37 (i_istore 2 38) := snd_istore_n dX5_areOne_37 rfl (by decide)
theorem oX5_areOne_38 : SX5_areOne 38 (i_iload 2 39) := snd_iload_n dX5_areOne_38 rfl
theorem oX5_areOne_39 : SX5_areOne 39 (i_iload 1 40) := snd_iload_n dX5_areOne_39 rfl
theorem oX5_areOne_40 : SX5_areOne 40 (i_if2 (fun x y => y ≤ x) 56 43) := snd_icmp_ge dX5_areOne_40 (by decide)
theorem oX5_areOne_43 : SX5_areOne 43 (i_aload 0 44) := snd_aload_n dX5_areOne_43 rfl
theorem oX5_areOne_44 : SX5_areOne 44 (i_const (.int (nI 1365)) 47) := snd_sipush dX5_areOne_44 (by decide)
theorem oX5_areOne_47 : SX5_areOne 47 (i_cvv 4 296 1 50) := snd_cvv rfl infX5_passes (by decide) rfl (xVm_V dX5_areOne_47 rfl q1966 q1968 qs96 q136 q1969 pdX5_passes)
theorem oX5_areOne_50 : SX5_areOne 50 (i_iinc 2 (nI 1) 53) := snd_iinc dX5_areOne_50 (by decide) (by decide)
theorem oX5_areOne_53 : SX5_areOne 53 (i_goto 38) := snd_goto dX5_areOne_53 (by decide)
theorem oX5_areOne_56 : SX5_areOne 56 (i_const (.int (nI 1)) 57) := snd_iconst dX5_areOne_56 (by decide)
theorem oX5_areOne_57 : SX5_areOne 57 (i_istore 2 58) := snd_istore_n dX5_areOne_57 rfl (by decide)
theorem oX5_areOne_58 : SX5_areOne 58 (i_const (.int (nI 1)) 59) := snd_iconst dX5_areOne_58 (by decide)
theorem oX5_areOne_59 : SX5_areOne 59 (i_istore 3 60) := snd_istore_n dX5_areOne_59 rfl (by decide)
theorem oX5_areOne_60 : SX5_areOne 60 (i_iload 3 61) := snd_iload_n dX5_areOne_60 rfl
theorem oX5_areOne_61 : SX5_areOne 61 (i_aload 0 62) := snd_aload_n dX5_areOne_61 rfl
theorem oX5_areOne_62 : SX5_areOne 62 (i_cv 4 252 0 65) := snd_cv rfl infX5_persons (by decide) rfl (xVm_V dX5_areOne_62 rfl q1694 q1696 qs62 q136 q1697 pdX5_persons)
theorem oX5_areOne_65 : SX5_areOne 65 (i_if2 (fun x y => y ≤ x) 118 68) := snd_icmp_ge dX5_areOne_65 (by decide)
theorem oX5_areOne_68 : SX5_areOne 68 (i_iload 2 69) := snd_iload_n dX5_areOne_68 rfl
theorem oX5_areOne_69 : SX5_areOne 69 (i_if1 (fun x => x = 0) 110 72) := snd_if_eq dX5_areOne_69 (by decide)
theorem oX5_areOne_72 : SX5_areOne 72 (i_aload 0 73) := snd_aload_n dX5_areOne_72 rfl
theorem oX5_areOne_73 : SX5_areOne 73 (i_aload 0 74) := snd_aload_n dX5_areOne_73 rfl
theorem oX5_areOne_74 : SX5_areOne 74 (i_getf 4 24 77) := snd_getf dX5_areOne_74 rfl (by decide) in_X5 (Or.inl q1722) (Or.inl rfl) (by decide)
theorem oX5_areOne_77 : SX5_areOne 77 (i_const (.int (nI 18)) 79) := snd_bipush dX5_areOne_77 (by decide)
theorem oX5_areOne_79 : SX5_areOne 79 (i_ai 0 80) := snd_ai0 dX5_areOne_79
theorem oX5_areOne_80 : SX5_areOne 80 (i_aload 0 81) := snd_aload_n dX5_areOne_80 rfl
theorem oX5_areOne_81 : SX5_areOne 81 (i_const (.int (nI 1365)) 84) := snd_sipush dX5_areOne_81 (by decide)
theorem oX5_areOne_84 : SX5_areOne 84 (i_cv 4 321 1 87) := snd_cv rfl infX5_openNow (by decide) rfl (xVm_V dX5_areOne_84 rfl q2064 q2066 qs111 q136 q2067 pdX5_openNow)
theorem oX5_areOne_87 : SX5_areOne 87 (i_cv 4 322 2 90) := snd_cv rfl infX5_rangeBy (by decide) rfl (xVm_V dX5_areOne_87 rfl q2068 q2070 qs112 q136 q2071 pdX5_rangeBy)
theorem oX5_areOne_90 : SX5_areOne 90 (i_aload 0 91) := snd_aload_n dX5_areOne_90 rfl
theorem oX5_areOne_91 : SX5_areOne 91 (i_getf 4 24 94) := snd_getf dX5_areOne_91 rfl (by decide) in_X5 (Or.inl q1722) (Or.inl rfl) (by decide)
theorem oX5_areOne_94 : SX5_areOne 94 (i_const (.int (nI 18)) 96) := snd_bipush dX5_areOne_94 (by decide)
theorem oX5_areOne_96 : SX5_areOne 96 (i_iload 3 97) := snd_iload_n dX5_areOne_96 rfl
theorem oX5_areOne_97 : SX5_areOne 97 (i_ii (fun x y => x + y) 98) := snd_iadd dX5_areOne_97
theorem oX5_areOne_98 : SX5_areOne 98 (i_ai 0 99) := snd_ai0 dX5_areOne_98
theorem oX5_areOne_99 : SX5_areOne 99 (i_ii (fun x y => x >>> (y &&& 31)) 100) := snd_ishr dX5_areOne_99
theorem oX5_areOne_100 : SX5_areOne 100 (i_const (.int (nI 1)) 101) := snd_iconst dX5_areOne_100 (by decide)
theorem oX5_areOne_101 : SX5_areOne 101 (i_ii (fun x y => x &&& y) 102) := snd_iand dX5_areOne_101
theorem oX5_areOne_102 : SX5_areOne 102 (i_const (.int (nI 1)) 103) := snd_iconst dX5_areOne_102 (by decide)
theorem oX5_areOne_103 : SX5_areOne 103 (i_if2 (fun x y => ¬ x = y) 110 106) := snd_icmp_ne dX5_areOne_103 (by decide)
theorem oX5_areOne_106 : SX5_areOne 106 (i_const (.int (nI 1)) 107) := snd_iconst dX5_areOne_106 (by decide)
theorem oX5_areOne_107 : SX5_areOne 107 (i_goto 111) := snd_goto dX5_areOne_107 (by decide)
theorem oX5_areOne_110 : SX5_areOne 110 (i_const (.int (nI 0)) 111) := snd_iconst dX5_areOne_110 (by decide)
theorem oX5_areOne_111 : SX5_areOne 111 (i_istore 2 112) := snd_istore_n dX5_areOne_111 rfl (by decide)
theorem oX5_areOne_112 : SX5_areOne 112 (i_iinc 3 (nI 1) 115) := snd_iinc dX5_areOne_112 (by decide) (by decide)
theorem oX5_areOne_115 : SX5_areOne 115 (i_goto 60) := snd_goto dX5_areOne_115 (by decide)
theorem oX5_areOne_118 : SX5_areOne 118 (i_iload 2 119) := snd_iload_n dX5_areOne_118 rfl
theorem oX5_areOne_119 : SX5_areOne 119 (i_zret) := snd_zret dX5_areOne_119 rfl
theorem okX5_areOne : ∀ q ∈ cX5_areOne, SX5_areOne q.1 q.2 := List.forall_mem_cons.mpr ⟨oX5_areOne_0, List.forall_mem_cons.mpr ⟨oX5_areOne_1, List.forall_mem_cons.mpr ⟨oX5_areOne_4, List.forall_mem_cons.mpr ⟨oX5_areOne_5, List.forall_mem_cons.mpr ⟨oX5_areOne_6, List.forall_mem_cons.mpr ⟨oX5_areOne_7, List.forall_mem_cons.mpr ⟨oX5_areOne_8, List.forall_mem_cons.mpr ⟨oX5_areOne_11, List.forall_mem_cons.mpr ⟨oX5_areOne_14, List.forall_mem_cons.mpr ⟨oX5_areOne_15, List.forall_mem_cons.mpr ⟨oX5_areOne_18, List.forall_mem_cons.mpr ⟨oX5_areOne_21, List.forall_mem_cons.mpr ⟨oX5_areOne_22, List.forall_mem_cons.mpr ⟨oX5_areOne_23, List.forall_mem_cons.mpr ⟨oX5_areOne_24, List.forall_mem_cons.mpr ⟨oX5_areOne_27, List.forall_mem_cons.mpr ⟨oX5_areOne_28, List.forall_mem_cons.mpr ⟨oX5_areOne_29, List.forall_mem_cons.mpr ⟨oX5_areOne_30, List.forall_mem_cons.mpr ⟨oX5_areOne_33, List.forall_mem_cons.mpr ⟨oX5_areOne_36, List.forall_mem_cons.mpr ⟨oX5_areOne_37, List.forall_mem_cons.mpr ⟨oX5_areOne_38, List.forall_mem_cons.mpr ⟨oX5_areOne_39, List.forall_mem_cons.mpr ⟨oX5_areOne_40, List.forall_mem_cons.mpr ⟨oX5_areOne_43, List.forall_mem_cons.mpr ⟨oX5_areOne_44, List.forall_mem_cons.mpr ⟨oX5_areOne_47, List.forall_mem_cons.mpr ⟨oX5_areOne_50, List.forall_mem_cons.mpr ⟨oX5_areOne_53, List.forall_mem_cons.mpr ⟨oX5_areOne_56, List.forall_mem_cons.mpr ⟨oX5_areOne_57, List.forall_mem_cons.mpr ⟨oX5_areOne_58, List.forall_mem_cons.mpr ⟨oX5_areOne_59, List.forall_mem_cons.mpr ⟨oX5_areOne_60, List.forall_mem_cons.mpr ⟨oX5_areOne_61, List.forall_mem_cons.mpr ⟨oX5_areOne_62, List.forall_mem_cons.mpr ⟨oX5_areOne_65, List.forall_mem_cons.mpr ⟨oX5_areOne_68, List.forall_mem_cons.mpr ⟨oX5_areOne_69, List.forall_mem_cons.mpr ⟨oX5_areOne_72, List.forall_mem_cons.mpr ⟨oX5_areOne_73, List.forall_mem_cons.mpr ⟨oX5_areOne_74, List.forall_mem_cons.mpr ⟨oX5_areOne_77, List.forall_mem_cons.mpr ⟨oX5_areOne_79, List.forall_mem_cons.mpr ⟨oX5_areOne_80, List.forall_mem_cons.mpr ⟨oX5_areOne_81, List.forall_mem_cons.mpr ⟨oX5_areOne_84, List.forall_mem_cons.mpr ⟨oX5_areOne_87, List.forall_mem_cons.mpr ⟨oX5_areOne_90, List.forall_mem_cons.mpr ⟨oX5_areOne_91, List.forall_mem_cons.mpr ⟨oX5_areOne_94, List.forall_mem_cons.mpr ⟨oX5_areOne_96, List.forall_mem_cons.mpr ⟨oX5_areOne_97, List.forall_mem_cons.mpr ⟨oX5_areOne_98, List.forall_mem_cons.mpr ⟨oX5_areOne_99, List.forall_mem_cons.mpr ⟨oX5_areOne_100, List.forall_mem_cons.mpr ⟨oX5_areOne_101, List.forall_mem_cons.mpr ⟨oX5_areOne_102, List.forall_mem_cons.mpr ⟨oX5_areOne_103, List.forall_mem_cons.mpr ⟨oX5_areOne_106, List.forall_mem_cons.mpr ⟨oX5_areOne_107, List.forall_mem_cons.mpr ⟨oX5_areOne_110, List.forall_mem_cons.mpr ⟨oX5_areOne_111, List.forall_mem_cons.mpr ⟨oX5_areOne_112, List.forall_mem_cons.mpr ⟨oX5_areOne_115, List.forall_mem_cons.mpr ⟨oX5_areOne_118, List.forall_mem_cons.mpr ⟨oX5_areOne_119, fun _ h => absurd h List.not_mem_nil⟩⟩⟩⟩⟩⟩⟩⟩⟩⟩⟩⟩⟩⟩⟩⟩⟩⟩⟩⟩⟩⟩⟩⟩⟩⟩⟩⟩⟩⟩⟩⟩⟩⟩⟩⟩⟩⟩⟩⟩⟩⟩⟩⟩⟩⟩⟩⟩⟩⟩⟩⟩⟩⟩⟩⟩⟩⟩⟩⟩⟩⟩⟩⟩⟩⟩⟩⟩
def dkwX5_feel_4 : List UInt8 := [46, 4, 96, 79, 4, 172]
abbrev dktX5_feel_4 : List UInt8 := dkwX5_feel_4 ++ []
def dkwX5_feel_3 : List UInt8 := [180, 0, 113, 21, 4, 5, 96, 29, 153, 0, 7, 4, 167, 0, 4, 3, 79, 42, 180, 0, 113, 16, 23, 92]
abbrev dktX5_feel_3 : List UInt8 := dkwX5_feel_3 ++ dktX5_feel_4
def dkwX5_feel_2 : List UInt8 := [96, 54, 4, 42, 180, 0, 113, 21, 4, 27, 79, 42, 180, 0, 113, 21, 4, 4, 96, 28, 79, 42]
abbrev dktX5_feel_2 : List UInt8 := dkwX5_feel_2 ++ dktX5_feel_3
def dkwX5_feel_1 : List UInt8 := [180, 0, 113, 16, 23, 46, 16, 8, 160, 0, 5, 3, 172, 16, 24, 6, 42, 180, 0, 113, 16, 23, 46, 104]
abbrev dktX5_feel_1 : List UInt8 := dkwX5_feel_1 ++ dktX5_feel_2
def dkwX5_feel_0 : List UInt8 := [42, 3, 181, 0, 1, 42, 27, 182, 1, 63, 153, 0, 25, 28, 4, 16, 30, 184, 0, 204, 153, 0, 15, 42]
abbrev dktX5_feel_0 : List UInt8 := dkwX5_feel_0 ++ dktX5_feel_1
theorem dksX5_feel_0 : bcX5_feel.data.toList.drop 0 = dktX5_feel_0 := by decide +kernel
theorem dksX5_feel_1 : bcX5_feel.data.toList.drop 24 = dktX5_feel_1 := dk_seg dksX5_feel_0 24 rfl rfl
theorem dksX5_feel_2 : bcX5_feel.data.toList.drop 48 = dktX5_feel_2 := dk_seg dksX5_feel_1 24 rfl rfl
theorem dksX5_feel_3 : bcX5_feel.data.toList.drop 70 = dktX5_feel_3 := dk_seg dksX5_feel_2 22 rfl rfl
theorem dksX5_feel_4 : bcX5_feel.data.toList.drop 94 = dktX5_feel_4 := dk_seg dksX5_feel_3 24 rfl rfl
theorem dX5_feel_0 : decode bcX5_feel 0 = .ok (.aload_n 0, 1) := dk_42 (dk_at dksX5_feel_0 0 rfl rfl)
theorem dX5_feel_1 : decode bcX5_feel 1 = .ok (.iconst 0, 1) := dk_3 (dk_at dksX5_feel_0 1 rfl rfl)
theorem dX5_feel_2 : decode bcX5_feel 2 = .ok (.putfield 1, 3) := dk_181 0 1 (dk_at dksX5_feel_0 2 rfl rfl)
theorem dX5_feel_5 : decode bcX5_feel 5 = .ok (.aload_n 0, 1) := dk_42 (dk_at dksX5_feel_0 5 rfl rfl)
theorem dX5_feel_6 : decode bcX5_feel 6 = .ok (.iload_n 1, 1) := dk_27 (dk_at dksX5_feel_0 6 rfl rfl)
theorem dX5_feel_7 : decode bcX5_feel 7 = .ok (.invokevirtual 319, 3) := dk_182 1 63 (dk_at dksX5_feel_0 7 rfl rfl)
theorem dX5_feel_10 : decode bcX5_feel 10 = .ok (.ifCond .eq 25, 3) := dk_153 0 25 (dk_at dksX5_feel_0 10 rfl rfl)
theorem dX5_feel_13 : decode bcX5_feel 13 = .ok (.iload_n 2, 1) := dk_28 (dk_at dksX5_feel_0 13 rfl rfl)
theorem dX5_feel_14 : decode bcX5_feel 14 = .ok (.iconst 1, 1) := dk_4 (dk_at dksX5_feel_0 14 rfl rfl)
theorem dX5_feel_15 : decode bcX5_feel 15 = .ok (.bipush 30, 2) := dk_16 30 (dk_at dksX5_feel_0 15 rfl rfl)
theorem dX5_feel_17 : decode bcX5_feel 17 = .ok (.invokestatic 204, 3) := dk_184 0 204 (dk_at dksX5_feel_0 17 rfl rfl)
theorem dX5_feel_20 : decode bcX5_feel 20 = .ok (.ifCond .eq 15, 3) := dk_153 0 15 (dk_at dksX5_feel_0 20 rfl rfl)
theorem dX5_feel_23 : decode bcX5_feel 23 = .ok (.aload_n 0, 1) := dk_42 (dk_at dksX5_feel_0 23 rfl rfl)
theorem dX5_feel_24 : decode bcX5_feel 24 = .ok (.getfield 113, 3) := dk_180 0 113 (dk_at dksX5_feel_1 0 rfl rfl)
theorem dX5_feel_27 : decode bcX5_feel 27 = .ok (.bipush 23, 2) := dk_16 23 (dk_at dksX5_feel_1 3 rfl rfl)
theorem dX5_feel_29 : decode bcX5_feel 29 = .ok (.iaload, 1) := dk_46 (dk_at dksX5_feel_1 5 rfl rfl)
theorem dX5_feel_30 : decode bcX5_feel 30 = .ok (.bipush 8, 2) := dk_16 8 (dk_at dksX5_feel_1 6 rfl rfl)
theorem dX5_feel_32 : decode bcX5_feel 32 = .ok (.if_icmp .ne 5, 3) := dk_160 0 5 (dk_at dksX5_feel_1 8 rfl rfl)
theorem dX5_feel_35 : decode bcX5_feel 35 = .ok (.iconst 0, 1) := dk_3 (dk_at dksX5_feel_1 11 rfl rfl)
theorem dX5_feel_36 : decode bcX5_feel 36 = .ok (.ireturn, 1) := dk_172 (dk_at dksX5_feel_1 12 rfl rfl)
theorem dX5_feel_37 : decode bcX5_feel 37 = .ok (.bipush 24, 2) := dk_16 24 (dk_at dksX5_feel_1 13 rfl rfl)
theorem dX5_feel_39 : decode bcX5_feel 39 = .ok (.iconst 3, 1) := dk_6 (dk_at dksX5_feel_1 15 rfl rfl)
theorem dX5_feel_40 : decode bcX5_feel 40 = .ok (.aload_n 0, 1) := dk_42 (dk_at dksX5_feel_1 16 rfl rfl)
theorem dX5_feel_41 : decode bcX5_feel 41 = .ok (.getfield 113, 3) := dk_180 0 113 (dk_at dksX5_feel_1 17 rfl rfl)
theorem dX5_feel_44 : decode bcX5_feel 44 = .ok (.bipush 23, 2) := dk_16 23 (dk_at dksX5_feel_1 20 rfl rfl)
theorem dX5_feel_46 : decode bcX5_feel 46 = .ok (.iaload, 1) := dk_46 (dk_at dksX5_feel_1 22 rfl rfl)
theorem dX5_feel_47 : decode bcX5_feel 47 = .ok (.imul, 1) := dk_104 (dk_at dksX5_feel_1 23 rfl rfl)
theorem dX5_feel_48 : decode bcX5_feel 48 = .ok (.iadd, 1) := dk_96 (dk_at dksX5_feel_2 0 rfl rfl)
theorem dX5_feel_49 : decode bcX5_feel 49 = .ok (.istore 4, 2) := dk_54 4 (dk_at dksX5_feel_2 1 rfl rfl)
theorem dX5_feel_51 : decode bcX5_feel 51 = .ok (.aload_n 0, 1) := dk_42 (dk_at dksX5_feel_2 3 rfl rfl)
theorem dX5_feel_52 : decode bcX5_feel 52 = .ok (.getfield 113, 3) := dk_180 0 113 (dk_at dksX5_feel_2 4 rfl rfl)
theorem dX5_feel_55 : decode bcX5_feel 55 = .ok (.iload 4, 2) := dk_21 4 (dk_at dksX5_feel_2 7 rfl rfl)
theorem dX5_feel_57 : decode bcX5_feel 57 = .ok (.iload_n 1, 1) := dk_27 (dk_at dksX5_feel_2 9 rfl rfl)
theorem dX5_feel_58 : decode bcX5_feel 58 = .ok (.iastore, 1) := dk_79 (dk_at dksX5_feel_2 10 rfl rfl)
theorem dX5_feel_59 : decode bcX5_feel 59 = .ok (.aload_n 0, 1) := dk_42 (dk_at dksX5_feel_2 11 rfl rfl)
theorem dX5_feel_60 : decode bcX5_feel 60 = .ok (.getfield 113, 3) := dk_180 0 113 (dk_at dksX5_feel_2 12 rfl rfl)
theorem dX5_feel_63 : decode bcX5_feel 63 = .ok (.iload 4, 2) := dk_21 4 (dk_at dksX5_feel_2 15 rfl rfl)
theorem dX5_feel_65 : decode bcX5_feel 65 = .ok (.iconst 1, 1) := dk_4 (dk_at dksX5_feel_2 17 rfl rfl)
theorem dX5_feel_66 : decode bcX5_feel 66 = .ok (.iadd, 1) := dk_96 (dk_at dksX5_feel_2 18 rfl rfl)
theorem dX5_feel_67 : decode bcX5_feel 67 = .ok (.iload_n 2, 1) := dk_28 (dk_at dksX5_feel_2 19 rfl rfl)
theorem dX5_feel_68 : decode bcX5_feel 68 = .ok (.iastore, 1) := dk_79 (dk_at dksX5_feel_2 20 rfl rfl)
theorem dX5_feel_69 : decode bcX5_feel 69 = .ok (.aload_n 0, 1) := dk_42 (dk_at dksX5_feel_2 21 rfl rfl)
theorem dX5_feel_70 : decode bcX5_feel 70 = .ok (.getfield 113, 3) := dk_180 0 113 (dk_at dksX5_feel_3 0 rfl rfl)
theorem dX5_feel_73 : decode bcX5_feel 73 = .ok (.iload 4, 2) := dk_21 4 (dk_at dksX5_feel_3 3 rfl rfl)
theorem dX5_feel_75 : decode bcX5_feel 75 = .ok (.iconst 2, 1) := dk_5 (dk_at dksX5_feel_3 5 rfl rfl)
theorem dX5_feel_76 : decode bcX5_feel 76 = .ok (.iadd, 1) := dk_96 (dk_at dksX5_feel_3 6 rfl rfl)
theorem dX5_feel_77 : decode bcX5_feel 77 = .ok (.iload_n 3, 1) := dk_29 (dk_at dksX5_feel_3 7 rfl rfl)
theorem dX5_feel_78 : decode bcX5_feel 78 = .ok (.ifCond .eq 7, 3) := dk_153 0 7 (dk_at dksX5_feel_3 8 rfl rfl)
theorem dX5_feel_81 : decode bcX5_feel 81 = .ok (.iconst 1, 1) := dk_4 (dk_at dksX5_feel_3 11 rfl rfl)
theorem dX5_feel_82 : decode bcX5_feel 82 = .ok (.goto 4, 3) := dk_167 0 4 (dk_at dksX5_feel_3 12 rfl rfl)
theorem dX5_feel_85 : decode bcX5_feel 85 = .ok (.iconst 0, 1) := dk_3 (dk_at dksX5_feel_3 15 rfl rfl)
theorem dX5_feel_86 : decode bcX5_feel 86 = .ok (.iastore, 1) := dk_79 (dk_at dksX5_feel_3 16 rfl rfl)
theorem dX5_feel_87 : decode bcX5_feel 87 = .ok (.aload_n 0, 1) := dk_42 (dk_at dksX5_feel_3 17 rfl rfl)
theorem dX5_feel_88 : decode bcX5_feel 88 = .ok (.getfield 113, 3) := dk_180 0 113 (dk_at dksX5_feel_3 18 rfl rfl)
theorem dX5_feel_91 : decode bcX5_feel 91 = .ok (.bipush 23, 2) := dk_16 23 (dk_at dksX5_feel_3 21 rfl rfl)
theorem dX5_feel_93 : decode bcX5_feel 93 = .ok (.dup2, 1) := dk_92 (dk_at dksX5_feel_3 23 rfl rfl)
theorem dX5_feel_94 : decode bcX5_feel 94 = .ok (.iaload, 1) := dk_46 (dk_at dksX5_feel_4 0 rfl rfl)
theorem dX5_feel_95 : decode bcX5_feel 95 = .ok (.iconst 1, 1) := dk_4 (dk_at dksX5_feel_4 1 rfl rfl)
theorem dX5_feel_96 : decode bcX5_feel 96 = .ok (.iadd, 1) := dk_96 (dk_at dksX5_feel_4 2 rfl rfl)
theorem dX5_feel_97 : decode bcX5_feel 97 = .ok (.iastore, 1) := dk_79 (dk_at dksX5_feel_4 3 rfl rfl)
theorem dX5_feel_98 : decode bcX5_feel 98 = .ok (.iconst 1, 1) := dk_4 (dk_at dksX5_feel_4 4 rfl rfl)
theorem dX5_feel_99 : decode bcX5_feel 99 = .ok (.ireturn, 1) := dk_172 (dk_at dksX5_feel_4 5 rfl rfl)
abbrev SX5_feel (pc : Nat) (i : xI) : Prop := Snd "SwollenHouseModel" "feel" prog_25_method_110_code 5 (Option.some Jvm.ClassFile.FieldType.boolean) [] pc i
theorem oX5_feel_0 : SX5_feel 0 (i_aload 0 1) := snd_aload_n dX5_feel_0 rfl
theorem oX5_feel_1 : SX5_feel 1 (i_const (.int (nI 0)) 2) := snd_iconst dX5_feel_1 (by decide)
theorem oX5_feel_2 : SX5_feel 2 (i_putfi 4 0 5) := snd_putfi dX5_feel_2 rfl (by decide) in_X5 tyX5 tyX5_ok nmX5 (Or.inl ⟨rfl, q1698⟩) (Or.inl rfl) rfl
theorem oX5_feel_5 : SX5_feel 5 (i_aload 0 6) := snd_aload_n dX5_feel_5 rfl
theorem oX5_feel_6 : SX5_feel 6 (i_iload 1 7) := snd_iload_n dX5_feel_6 rfl
theorem oX5_feel_7 : SX5_feel 7 (i_cv 4 287 1 10) := snd_cv rfl infX5_isDoor (by decide) rfl (xVm_V dX5_feel_7 rfl q1930 q1932 qs89 q136 q1933 pdX5_isDoor)
theorem oX5_feel_10 : SX5_feel 10 (i_if1 (fun x => x = 0) 35 13) := snd_if_eq dX5_feel_10 (by decide)
theorem oX5_feel_13 : SX5_feel 13 (i_iload 2 14) := snd_iload_n dX5_feel_13 rfl
theorem oX5_feel_14 : SX5_feel 14 (i_const (.int (nI 1)) 15) := snd_iconst dX5_feel_14 (by decide)
theorem oX5_feel_15 : SX5_feel 15 (i_const (.int (nI 30)) 17) := snd_bipush dX5_feel_15 (by decide)
theorem oX5_feel_17 : SX5_feel 17 (i_cs 268 3 20) := snd_cs rfl infX5_within (by decide) (xSm_S dX5_feel_17 q1855 q1856 q136 q1857 pdX5_within)
theorem oX5_feel_20 : SX5_feel 20 (i_if1 (fun x => x = 0) 35 23) := snd_if_eq dX5_feel_20 (by decide)
theorem oX5_feel_23 : SX5_feel 23 (i_aload 0 24) := snd_aload_n dX5_feel_23 rfl
theorem oX5_feel_24 : SX5_feel 24 (i_getf 4 24 27) := snd_getf dX5_feel_24 rfl (by decide) in_X5 (Or.inl q1722) (Or.inl rfl) (by decide)
theorem oX5_feel_27 : SX5_feel 27 (i_const (.int (nI 23)) 29) := snd_bipush dX5_feel_27 (by decide)
theorem oX5_feel_29 : SX5_feel 29 (i_ai 0 30) := snd_ai0 dX5_feel_29
theorem oX5_feel_30 : SX5_feel 30 (i_const (.int (nI 8)) 32) := snd_bipush dX5_feel_30 (by decide)
theorem oX5_feel_32 : SX5_feel 32 (i_if2 (fun x y => ¬ x = y) 37 35) := snd_icmp_ne dX5_feel_32 (by decide)
theorem oX5_feel_35 : SX5_feel 35 (i_const (.int (nI 0)) 36) := snd_iconst dX5_feel_35 (by decide)
theorem oX5_feel_36 : SX5_feel 36 (i_zret) := snd_zret dX5_feel_36 rfl
theorem oX5_feel_37 : SX5_feel 37 (i_const (.int (nI 24)) 39) := snd_bipush dX5_feel_37 (by decide)
theorem oX5_feel_39 : SX5_feel 39 (i_const (.int (nI 3)) 40) := snd_iconst dX5_feel_39 (by decide)
theorem oX5_feel_40 : SX5_feel 40 (i_aload 0 41) := snd_aload_n dX5_feel_40 rfl
theorem oX5_feel_41 : SX5_feel 41 (i_getf 4 24 44) := snd_getf dX5_feel_41 rfl (by decide) in_X5 (Or.inl q1722) (Or.inl rfl) (by decide)
theorem oX5_feel_44 : SX5_feel 44 (i_const (.int (nI 23)) 46) := snd_bipush dX5_feel_44 (by decide)
theorem oX5_feel_46 : SX5_feel 46 (i_ai 0 47) := snd_ai0 dX5_feel_46
theorem oX5_feel_47 : SX5_feel 47 (i_ii (fun x y => x * y) 48) := snd_imul dX5_feel_47
theorem oX5_feel_48 : SX5_feel 48 (i_ii (fun x y => x + y) 49) := snd_iadd dX5_feel_48
theorem oX5_feel_49 : SX5_feel 49 (i_istore 4 51) := snd_istore dX5_feel_49 (by decide)
theorem oX5_feel_51 : SX5_feel 51 (i_aload 0 52) := snd_aload_n dX5_feel_51 rfl
theorem oX5_feel_52 : SX5_feel 52 (i_getf 4 24 55) := snd_getf dX5_feel_52 rfl (by decide) in_X5 (Or.inl q1722) (Or.inl rfl) (by decide)
theorem oX5_feel_55 : SX5_feel 55 (i_iload 4 57) := snd_iload dX5_feel_55
theorem oX5_feel_57 : SX5_feel 57 (i_iload 1 58) := snd_iload_n dX5_feel_57 rfl
theorem oX5_feel_58 : SX5_feel 58 (i_si (fun v => v) 0 59) := snd_si0 dX5_feel_58
theorem oX5_feel_59 : SX5_feel 59 (i_aload 0 60) := snd_aload_n dX5_feel_59 rfl
theorem oX5_feel_60 : SX5_feel 60 (i_getf 4 24 63) := snd_getf dX5_feel_60 rfl (by decide) in_X5 (Or.inl q1722) (Or.inl rfl) (by decide)
theorem oX5_feel_63 : SX5_feel 63 (i_iload 4 65) := snd_iload dX5_feel_63
theorem oX5_feel_65 : SX5_feel 65 (i_const (.int (nI 1)) 66) := snd_iconst dX5_feel_65 (by decide)
theorem oX5_feel_66 : SX5_feel 66 (i_ii (fun x y => x + y) 67) := snd_iadd dX5_feel_66
theorem oX5_feel_67 : SX5_feel 67 (i_iload 2 68) := snd_iload_n dX5_feel_67 rfl
theorem oX5_feel_68 : SX5_feel 68 (i_si (fun v => v) 0 69) := snd_si0 dX5_feel_68
theorem oX5_feel_69 : SX5_feel 69 (i_aload 0 70) := snd_aload_n dX5_feel_69 rfl
theorem oX5_feel_70 : SX5_feel 70 (i_getf 4 24 73) := snd_getf dX5_feel_70 rfl (by decide) in_X5 (Or.inl q1722) (Or.inl rfl) (by decide)
theorem oX5_feel_73 : SX5_feel 73 (i_iload 4 75) := snd_iload dX5_feel_73
theorem oX5_feel_75 : SX5_feel 75 (i_const (.int (nI 2)) 76) := snd_iconst dX5_feel_75 (by decide)
theorem oX5_feel_76 : SX5_feel 76 (i_ii (fun x y => x + y) 77) := snd_iadd dX5_feel_76
theorem oX5_feel_77 : SX5_feel 77 (i_iload 3 78) := snd_iload_n dX5_feel_77 rfl
theorem oX5_feel_78 : SX5_feel 78 (i_if1 (fun x => x = 0) 85 81) := snd_if_eq dX5_feel_78 (by decide)
theorem oX5_feel_81 : SX5_feel 81 (i_const (.int (nI 1)) 82) := snd_iconst dX5_feel_81 (by decide)
theorem oX5_feel_82 : SX5_feel 82 (i_goto 86) := snd_goto dX5_feel_82 (by decide)
theorem oX5_feel_85 : SX5_feel 85 (i_const (.int (nI 0)) 86) := snd_iconst dX5_feel_85 (by decide)
theorem oX5_feel_86 : SX5_feel 86 (i_si (fun v => v) 0 87) := snd_si0 dX5_feel_86
theorem oX5_feel_87 : SX5_feel 87 (i_aload 0 88) := snd_aload_n dX5_feel_87 rfl
theorem oX5_feel_88 : SX5_feel 88 (i_getf 4 24 91) := snd_getf dX5_feel_88 rfl (by decide) in_X5 (Or.inl q1722) (Or.inl rfl) (by decide)
theorem oX5_feel_91 : SX5_feel 91 (i_const (.int (nI 23)) 93) := snd_bipush dX5_feel_91 (by decide)
theorem oX5_feel_93 : SX5_feel 93 (i_dup2 94) := snd_dup2 dX5_feel_93
theorem oX5_feel_94 : SX5_feel 94 (i_ai 0 95) := snd_ai0 dX5_feel_94
theorem oX5_feel_95 : SX5_feel 95 (i_const (.int (nI 1)) 96) := snd_iconst dX5_feel_95 (by decide)
theorem oX5_feel_96 : SX5_feel 96 (i_ii (fun x y => x + y) 97) := snd_iadd dX5_feel_96
theorem oX5_feel_97 : SX5_feel 97 (i_si (fun v => v) 0 98) := snd_si0 dX5_feel_97
theorem oX5_feel_98 : SX5_feel 98 (i_const (.int (nI 1)) 99) := snd_iconst dX5_feel_98 (by decide)
theorem oX5_feel_99 : SX5_feel 99 (i_zret) := snd_zret dX5_feel_99 rfl
theorem okX5_feel : ∀ q ∈ cX5_feel, SX5_feel q.1 q.2 := List.forall_mem_cons.mpr ⟨oX5_feel_0, List.forall_mem_cons.mpr ⟨oX5_feel_1, List.forall_mem_cons.mpr ⟨oX5_feel_2, List.forall_mem_cons.mpr ⟨oX5_feel_5, List.forall_mem_cons.mpr ⟨oX5_feel_6, List.forall_mem_cons.mpr ⟨oX5_feel_7, List.forall_mem_cons.mpr ⟨oX5_feel_10, List.forall_mem_cons.mpr ⟨oX5_feel_13, List.forall_mem_cons.mpr ⟨oX5_feel_14, List.forall_mem_cons.mpr ⟨oX5_feel_15, List.forall_mem_cons.mpr ⟨oX5_feel_17, List.forall_mem_cons.mpr ⟨oX5_feel_20, List.forall_mem_cons.mpr ⟨oX5_feel_23, List.forall_mem_cons.mpr ⟨oX5_feel_24, List.forall_mem_cons.mpr ⟨oX5_feel_27, List.forall_mem_cons.mpr ⟨oX5_feel_29, List.forall_mem_cons.mpr ⟨oX5_feel_30, List.forall_mem_cons.mpr ⟨oX5_feel_32, List.forall_mem_cons.mpr ⟨oX5_feel_35, List.forall_mem_cons.mpr ⟨oX5_feel_36, List.forall_mem_cons.mpr ⟨oX5_feel_37, List.forall_mem_cons.mpr ⟨oX5_feel_39, List.forall_mem_cons.mpr ⟨oX5_feel_40, List.forall_mem_cons.mpr ⟨oX5_feel_41, List.forall_mem_cons.mpr ⟨oX5_feel_44, List.forall_mem_cons.mpr ⟨oX5_feel_46, List.forall_mem_cons.mpr ⟨oX5_feel_47, List.forall_mem_cons.mpr ⟨oX5_feel_48, List.forall_mem_cons.mpr ⟨oX5_feel_49, List.forall_mem_cons.mpr ⟨oX5_feel_51, List.forall_mem_cons.mpr ⟨oX5_feel_52, List.forall_mem_cons.mpr ⟨oX5_feel_55, List.forall_mem_cons.mpr ⟨oX5_feel_57, List.forall_mem_cons.mpr ⟨oX5_feel_58, List.forall_mem_cons.mpr ⟨oX5_feel_59, List.forall_mem_cons.mpr ⟨oX5_feel_60, List.forall_mem_cons.mpr ⟨oX5_feel_63, List.forall_mem_cons.mpr ⟨oX5_feel_65, List.forall_mem_cons.mpr ⟨oX5_feel_66, List.forall_mem_cons.mpr ⟨oX5_feel_67, List.forall_mem_cons.mpr ⟨oX5_feel_68, List.forall_mem_cons.mpr ⟨oX5_feel_69, List.forall_mem_cons.mpr ⟨oX5_feel_70, List.forall_mem_cons.mpr ⟨oX5_feel_73, List.forall_mem_cons.mpr ⟨oX5_feel_75, List.forall_mem_cons.mpr ⟨oX5_feel_76, List.forall_mem_cons.mpr ⟨oX5_feel_77, List.forall_mem_cons.mpr ⟨oX5_feel_78, List.forall_mem_cons.mpr ⟨oX5_feel_81, List.forall_mem_cons.mpr ⟨oX5_feel_82, List.forall_mem_cons.mpr ⟨oX5_feel_85, List.forall_mem_cons.mpr ⟨oX5_feel_86, List.forall_mem_cons.mpr ⟨oX5_feel_87, List.forall_mem_cons.mpr ⟨oX5_feel_88, List.forall_mem_cons.mpr ⟨oX5_feel_91, List.forall_mem_cons.mpr ⟨oX5_feel_93, List.forall_mem_cons.mpr ⟨oX5_feel_94, List.forall_mem_cons.mpr ⟨oX5_feel_95, List.forall_mem_cons.mpr ⟨oX5_feel_96, List.forall_mem_cons.mpr ⟨oX5_feel_97, List.forall_mem_cons.mpr ⟨oX5_feel_98, List.forall_mem_cons.mpr ⟨oX5_feel_99, fun _ h => absurd h List.not_mem_nil⟩⟩⟩⟩⟩⟩⟩⟩⟩⟩⟩⟩⟩⟩⟩⟩⟩⟩⟩⟩⟩⟩⟩⟩⟩⟩⟩⟩⟩⟩⟩⟩⟩⟩⟩⟩⟩⟩⟩⟩⟩⟩⟩⟩⟩⟩⟩⟩⟩⟩⟩⟩⟩⟩⟩⟩⟩⟩⟩⟩⟩⟩
def dkwX5_wets_0 : List UInt8 := [42, 3, 181, 0, 1, 42, 182, 1, 136, 172]
abbrev dktX5_wets_0 : List UInt8 := dkwX5_wets_0 ++ []
theorem dksX5_wets_0 : bcX5_wets.data.toList.drop 0 = dktX5_wets_0 := by decide +kernel
theorem dX5_wets_0 : decode bcX5_wets 0 = .ok (.aload_n 0, 1) := dk_42 (dk_at dksX5_wets_0 0 rfl rfl)
theorem dX5_wets_1 : decode bcX5_wets 1 = .ok (.iconst 0, 1) := dk_3 (dk_at dksX5_wets_0 1 rfl rfl)
theorem dX5_wets_2 : decode bcX5_wets 2 = .ok (.putfield 1, 3) := dk_181 0 1 (dk_at dksX5_wets_0 2 rfl rfl)
theorem dX5_wets_5 : decode bcX5_wets 5 = .ok (.aload_n 0, 1) := dk_42 (dk_at dksX5_wets_0 5 rfl rfl)
theorem dX5_wets_6 : decode bcX5_wets 6 = .ok (.invokevirtual 392, 3) := dk_182 1 136 (dk_at dksX5_wets_0 6 rfl rfl)
theorem dX5_wets_9 : decode bcX5_wets 9 = .ok (.ireturn, 1) := dk_172 (dk_at dksX5_wets_0 9 rfl rfl)
abbrev SX5_wets (pc : Nat) (i : xI) : Prop := Snd "SwollenHouseModel" "wets" prog_25_method_112_code 1 (Option.some Jvm.ClassFile.FieldType.int) [] pc i
theorem oX5_wets_0 : SX5_wets 0 (i_aload 0 1) := snd_aload_n dX5_wets_0 rfl
theorem oX5_wets_1 : SX5_wets 1 (i_const (.int (nI 0)) 2) := snd_iconst dX5_wets_1 (by decide)
theorem oX5_wets_2 : SX5_wets 2 (i_putfi 4 0 5) := snd_putfi dX5_wets_2 rfl (by decide) in_X5 tyX5 tyX5_ok nmX5 (Or.inl ⟨rfl, q1698⟩) (Or.inl rfl) rfl
theorem oX5_wets_5 : SX5_wets 5 (i_aload 0 6) := snd_aload_n dX5_wets_5 rfl
theorem oX5_wets_6 : SX5_wets 6 (i_cv 4 353 0 9) := snd_cv rfl infX5_wetsNow (by decide) rfl (xVm_V dX5_wets_6 rfl q2192 q2194 qs122 q136 q2195 pdX5_wetsNow)
theorem oX5_wets_9 : SX5_wets 9 (i_iret) := snd_iret dX5_wets_9 rfl
theorem okX5_wets : ∀ q ∈ cX5_wets, SX5_wets q.1 q.2 := List.forall_mem_cons.mpr ⟨oX5_wets_0, List.forall_mem_cons.mpr ⟨oX5_wets_1, List.forall_mem_cons.mpr ⟨oX5_wets_2, List.forall_mem_cons.mpr ⟨oX5_wets_5, List.forall_mem_cons.mpr ⟨oX5_wets_6, List.forall_mem_cons.mpr ⟨oX5_wets_9, fun _ h => absurd h List.not_mem_nil⟩⟩⟩⟩⟩⟩
def dkwX5_wetsNow_6 : List UInt8 := [153, 0, 9, 4, 28, 120, 167, 0, 4, 3, 128, 60, 132, 2, 1, 167, 255, 106, 27, 172]
abbrev dktX5_wetsNow_6 : List UInt8 := dkwX5_wetsNow_6 ++ []
def dkwX5_wetsNow_5 : List UInt8 := [21, 5, 5, 96, 46, 160, 0, 7, 4, 167, 0, 4, 3, 62, 132, 4, 1, 167, 255, 181, 27, 29]
abbrev dktX5_wetsNow_5 : List UInt8 := dkwX5_wetsNow_5 ++ dktX5_wetsNow_6
def dkwX5_wetsNow_4 : List UInt8 := [180, 0, 113, 21, 5, 4, 96, 46, 96, 46, 42, 180, 0, 113, 21, 5, 46, 122, 4, 126, 42, 180, 0, 113]
abbrev dktX5_wetsNow_4 : List UInt8 := dkwX5_wetsNow_4 ++ dktX5_wetsNow_5
def dkwX5_wetsNow_3 : List UInt8 := [16, 24, 6, 21, 4, 104, 96, 54, 5, 29, 153, 0, 48, 42, 180, 0, 129, 16, 31, 28, 104, 42]
abbrev dktX5_wetsNow_3 : List UInt8 := dkwX5_wetsNow_3 ++ dktX5_wetsNow_4
def dkwX5_wetsNow_2 : List UInt8 := [79, 132, 3, 1, 167, 255, 221, 4, 62, 3, 54, 4, 21, 4, 42, 180, 0, 113, 16, 23, 46, 162, 0, 69]
abbrev dktX5_wetsNow_2 : List UInt8 := dkwX5_wetsNow_2 ++ dktX5_wetsNow_3
def dkwX5_wetsNow_1 : List UInt8 := [17, 5, 85, 28, 182, 1, 57, 42, 180, 0, 129, 16, 31, 28, 104, 29, 96, 42, 17, 5, 85, 182, 1, 74]
abbrev dktX5_wetsNow_1 : List UInt8 := dkwX5_wetsNow_1 ++ dktX5_wetsNow_2
def dkwX5_wetsNow_0 : List UInt8 := [3, 60, 3, 61, 28, 16, 10, 162, 0, 150, 42, 182, 1, 116, 4, 62, 29, 16, 30, 163, 0, 35, 42]
abbrev dktX5_wetsNow_0 : List UInt8 := dkwX5_wetsNow_0 ++ dktX5_wetsNow_1
theorem dksX5_wetsNow_0 : bcX5_wetsNow.data.toList.drop 0 = dktX5_wetsNow_0 := by decide +kernel
theorem dksX5_wetsNow_1 : bcX5_wetsNow.data.toList.drop 23 = dktX5_wetsNow_1 := dk_seg dksX5_wetsNow_0 23 rfl rfl
theorem dksX5_wetsNow_2 : bcX5_wetsNow.data.toList.drop 47 = dktX5_wetsNow_2 := dk_seg dksX5_wetsNow_1 24 rfl rfl
theorem dksX5_wetsNow_3 : bcX5_wetsNow.data.toList.drop 71 = dktX5_wetsNow_3 := dk_seg dksX5_wetsNow_2 24 rfl rfl
theorem dksX5_wetsNow_4 : bcX5_wetsNow.data.toList.drop 93 = dktX5_wetsNow_4 := dk_seg dksX5_wetsNow_3 22 rfl rfl
theorem dksX5_wetsNow_5 : bcX5_wetsNow.data.toList.drop 117 = dktX5_wetsNow_5 := dk_seg dksX5_wetsNow_4 24 rfl rfl
theorem dksX5_wetsNow_6 : bcX5_wetsNow.data.toList.drop 139 = dktX5_wetsNow_6 := dk_seg dksX5_wetsNow_5 22 rfl rfl
theorem dX5_wetsNow_0 : decode bcX5_wetsNow 0 = .ok (.iconst 0, 1) := dk_3 (dk_at dksX5_wetsNow_0 0 rfl rfl)
theorem dX5_wetsNow_1 : decode bcX5_wetsNow 1 = .ok (.istore_n 1, 1) := dk_60 (dk_at dksX5_wetsNow_0 1 rfl rfl)
theorem dX5_wetsNow_2 : decode bcX5_wetsNow 2 = .ok (.iconst 0, 1) := dk_3 (dk_at dksX5_wetsNow_0 2 rfl rfl)
theorem dX5_wetsNow_3 : decode bcX5_wetsNow 3 = .ok (.istore_n 2, 1) := dk_61 (dk_at dksX5_wetsNow_0 3 rfl rfl)
theorem dX5_wetsNow_4 : decode bcX5_wetsNow 4 = .ok (.iload_n 2, 1) := dk_28 (dk_at dksX5_wetsNow_0 4 rfl rfl)
theorem dX5_wetsNow_5 : decode bcX5_wetsNow 5 = .ok (.bipush 10, 2) := dk_16 10 (dk_at dksX5_wetsNow_0 5 rfl rfl)
theorem dX5_wetsNow_7 : decode bcX5_wetsNow 7 = .ok (.if_icmp .ge 150, 3) := dk_162 0 150 (dk_at dksX5_wetsNow_0 7 rfl rfl)
theorem dX5_wetsNow_10 : decode bcX5_wetsNow 10 = .ok (.aload_n 0, 1) := dk_42 (dk_at dksX5_wetsNow_0 10 rfl rfl)
theorem dX5_wetsNow_11 : decode bcX5_wetsNow 11 = .ok (.invokevirtual 372, 3) := dk_182 1 116 (dk_at dksX5_wetsNow_0 11 rfl rfl)
theorem dX5_wetsNow_14 : decode bcX5_wetsNow 14 = .ok (.iconst 1, 1) := dk_4 (dk_at dksX5_wetsNow_0 14 rfl rfl)
theorem dX5_wetsNow_15 : decode bcX5_wetsNow 15 = .ok (.istore_n 3, 1) := dk_62 (dk_at dksX5_wetsNow_0 15 rfl rfl)
theorem dX5_wetsNow_16 : decode bcX5_wetsNow 16 = .ok (.iload_n 3, 1) := dk_29 (dk_at dksX5_wetsNow_0 16 rfl rfl)
theorem dX5_wetsNow_17 : decode bcX5_wetsNow 17 = .ok (.bipush 30, 2) := dk_16 30 (dk_at dksX5_wetsNow_0 17 rfl rfl)
theorem dX5_wetsNow_19 : decode bcX5_wetsNow 19 = .ok (.if_icmp .gt 35, 3) := dk_163 0 35 (dk_at dksX5_wetsNow_0 19 rfl rfl)
theorem dX5_wetsNow_22 : decode bcX5_wetsNow 22 = .ok (.aload_n 0, 1) := dk_42 (dk_at dksX5_wetsNow_0 22 rfl rfl)
theorem dX5_wetsNow_23 : decode bcX5_wetsNow 23 = .ok (.sipush 1365, 3) := dk_17 5 85 (dk_at dksX5_wetsNow_1 0 rfl rfl)
theorem dX5_wetsNow_26 : decode bcX5_wetsNow 26 = .ok (.iload_n 2, 1) := dk_28 (dk_at dksX5_wetsNow_1 3 rfl rfl)
theorem dX5_wetsNow_27 : decode bcX5_wetsNow 27 = .ok (.invokevirtual 313, 3) := dk_182 1 57 (dk_at dksX5_wetsNow_1 4 rfl rfl)
theorem dX5_wetsNow_30 : decode bcX5_wetsNow 30 = .ok (.aload_n 0, 1) := dk_42 (dk_at dksX5_wetsNow_1 7 rfl rfl)
theorem dX5_wetsNow_31 : decode bcX5_wetsNow 31 = .ok (.getfield 129, 3) := dk_180 0 129 (dk_at dksX5_wetsNow_1 8 rfl rfl)
theorem dX5_wetsNow_34 : decode bcX5_wetsNow 34 = .ok (.bipush 31, 2) := dk_16 31 (dk_at dksX5_wetsNow_1 11 rfl rfl)
theorem dX5_wetsNow_36 : decode bcX5_wetsNow 36 = .ok (.iload_n 2, 1) := dk_28 (dk_at dksX5_wetsNow_1 13 rfl rfl)
theorem dX5_wetsNow_37 : decode bcX5_wetsNow 37 = .ok (.imul, 1) := dk_104 (dk_at dksX5_wetsNow_1 14 rfl rfl)
theorem dX5_wetsNow_38 : decode bcX5_wetsNow 38 = .ok (.iload_n 3, 1) := dk_29 (dk_at dksX5_wetsNow_1 15 rfl rfl)
theorem dX5_wetsNow_39 : decode bcX5_wetsNow 39 = .ok (.iadd, 1) := dk_96 (dk_at dksX5_wetsNow_1 16 rfl rfl)
theorem dX5_wetsNow_40 : decode bcX5_wetsNow 40 = .ok (.aload_n 0, 1) := dk_42 (dk_at dksX5_wetsNow_1 17 rfl rfl)
theorem dX5_wetsNow_41 : decode bcX5_wetsNow 41 = .ok (.sipush 1365, 3) := dk_17 5 85 (dk_at dksX5_wetsNow_1 18 rfl rfl)
theorem dX5_wetsNow_44 : decode bcX5_wetsNow 44 = .ok (.invokevirtual 330, 3) := dk_182 1 74 (dk_at dksX5_wetsNow_1 21 rfl rfl)
theorem dX5_wetsNow_47 : decode bcX5_wetsNow 47 = .ok (.iastore, 1) := dk_79 (dk_at dksX5_wetsNow_2 0 rfl rfl)
theorem dX5_wetsNow_48 : decode bcX5_wetsNow 48 = .ok (.iinc 3 1, 3) := dk_132 3 1 (dk_at dksX5_wetsNow_2 1 rfl rfl)
theorem dX5_wetsNow_51 : decode bcX5_wetsNow 51 = .ok (.goto (-35), 3) := dk_167 255 221 (dk_at dksX5_wetsNow_2 4 rfl rfl)
theorem dX5_wetsNow_54 : decode bcX5_wetsNow 54 = .ok (.iconst 1, 1) := dk_4 (dk_at dksX5_wetsNow_2 7 rfl rfl)
theorem dX5_wetsNow_55 : decode bcX5_wetsNow 55 = .ok (.istore_n 3, 1) := dk_62 (dk_at dksX5_wetsNow_2 8 rfl rfl)
theorem dX5_wetsNow_56 : decode bcX5_wetsNow 56 = .ok (.iconst 0, 1) := dk_3 (dk_at dksX5_wetsNow_2 9 rfl rfl)
theorem dX5_wetsNow_57 : decode bcX5_wetsNow 57 = .ok (.istore 4, 2) := dk_54 4 (dk_at dksX5_wetsNow_2 10 rfl rfl)
theorem dX5_wetsNow_59 : decode bcX5_wetsNow 59 = .ok (.iload 4, 2) := dk_21 4 (dk_at dksX5_wetsNow_2 12 rfl rfl)
theorem dX5_wetsNow_61 : decode bcX5_wetsNow 61 = .ok (.aload_n 0, 1) := dk_42 (dk_at dksX5_wetsNow_2 14 rfl rfl)
theorem dX5_wetsNow_62 : decode bcX5_wetsNow 62 = .ok (.getfield 113, 3) := dk_180 0 113 (dk_at dksX5_wetsNow_2 15 rfl rfl)
theorem dX5_wetsNow_65 : decode bcX5_wetsNow 65 = .ok (.bipush 23, 2) := dk_16 23 (dk_at dksX5_wetsNow_2 18 rfl rfl)
theorem dX5_wetsNow_67 : decode bcX5_wetsNow 67 = .ok (.iaload, 1) := dk_46 (dk_at dksX5_wetsNow_2 20 rfl rfl)
theorem dX5_wetsNow_68 : decode bcX5_wetsNow 68 = .ok (.if_icmp .ge 69, 3) := dk_162 0 69 (dk_at dksX5_wetsNow_2 21 rfl rfl)
theorem dX5_wetsNow_71 : decode bcX5_wetsNow 71 = .ok (.bipush 24, 2) := dk_16 24 (dk_at dksX5_wetsNow_3 0 rfl rfl)
theorem dX5_wetsNow_73 : decode bcX5_wetsNow 73 = .ok (.iconst 3, 1) := dk_6 (dk_at dksX5_wetsNow_3 2 rfl rfl)
theorem dX5_wetsNow_74 : decode bcX5_wetsNow 74 = .ok (.iload 4, 2) := dk_21 4 (dk_at dksX5_wetsNow_3 3 rfl rfl)
theorem dX5_wetsNow_76 : decode bcX5_wetsNow 76 = .ok (.imul, 1) := dk_104 (dk_at dksX5_wetsNow_3 5 rfl rfl)
theorem dX5_wetsNow_77 : decode bcX5_wetsNow 77 = .ok (.iadd, 1) := dk_96 (dk_at dksX5_wetsNow_3 6 rfl rfl)
theorem dX5_wetsNow_78 : decode bcX5_wetsNow 78 = .ok (.istore 5, 2) := dk_54 5 (dk_at dksX5_wetsNow_3 7 rfl rfl)
theorem dX5_wetsNow_80 : decode bcX5_wetsNow 80 = .ok (.iload_n 3, 1) := dk_29 (dk_at dksX5_wetsNow_3 9 rfl rfl)
theorem dX5_wetsNow_81 : decode bcX5_wetsNow 81 = .ok (.ifCond .eq 48, 3) := dk_153 0 48 (dk_at dksX5_wetsNow_3 10 rfl rfl)
theorem dX5_wetsNow_84 : decode bcX5_wetsNow 84 = .ok (.aload_n 0, 1) := dk_42 (dk_at dksX5_wetsNow_3 13 rfl rfl)
theorem dX5_wetsNow_85 : decode bcX5_wetsNow 85 = .ok (.getfield 129, 3) := dk_180 0 129 (dk_at dksX5_wetsNow_3 14 rfl rfl)
theorem dX5_wetsNow_88 : decode bcX5_wetsNow 88 = .ok (.bipush 31, 2) := dk_16 31 (dk_at dksX5_wetsNow_3 17 rfl rfl)
theorem dX5_wetsNow_90 : decode bcX5_wetsNow 90 = .ok (.iload_n 2, 1) := dk_28 (dk_at dksX5_wetsNow_3 19 rfl rfl)
theorem dX5_wetsNow_91 : decode bcX5_wetsNow 91 = .ok (.imul, 1) := dk_104 (dk_at dksX5_wetsNow_3 20 rfl rfl)
theorem dX5_wetsNow_92 : decode bcX5_wetsNow 92 = .ok (.aload_n 0, 1) := dk_42 (dk_at dksX5_wetsNow_3 21 rfl rfl)
theorem dX5_wetsNow_93 : decode bcX5_wetsNow 93 = .ok (.getfield 113, 3) := dk_180 0 113 (dk_at dksX5_wetsNow_4 0 rfl rfl)
theorem dX5_wetsNow_96 : decode bcX5_wetsNow 96 = .ok (.iload 5, 2) := dk_21 5 (dk_at dksX5_wetsNow_4 3 rfl rfl)
theorem dX5_wetsNow_98 : decode bcX5_wetsNow 98 = .ok (.iconst 1, 1) := dk_4 (dk_at dksX5_wetsNow_4 5 rfl rfl)
theorem dX5_wetsNow_99 : decode bcX5_wetsNow 99 = .ok (.iadd, 1) := dk_96 (dk_at dksX5_wetsNow_4 6 rfl rfl)
theorem dX5_wetsNow_100 : decode bcX5_wetsNow 100 = .ok (.iaload, 1) := dk_46 (dk_at dksX5_wetsNow_4 7 rfl rfl)
theorem dX5_wetsNow_101 : decode bcX5_wetsNow 101 = .ok (.iadd, 1) := dk_96 (dk_at dksX5_wetsNow_4 8 rfl rfl)
theorem dX5_wetsNow_102 : decode bcX5_wetsNow 102 = .ok (.iaload, 1) := dk_46 (dk_at dksX5_wetsNow_4 9 rfl rfl)
theorem dX5_wetsNow_103 : decode bcX5_wetsNow 103 = .ok (.aload_n 0, 1) := dk_42 (dk_at dksX5_wetsNow_4 10 rfl rfl)
theorem dX5_wetsNow_104 : decode bcX5_wetsNow 104 = .ok (.getfield 113, 3) := dk_180 0 113 (dk_at dksX5_wetsNow_4 11 rfl rfl)
theorem dX5_wetsNow_107 : decode bcX5_wetsNow 107 = .ok (.iload 5, 2) := dk_21 5 (dk_at dksX5_wetsNow_4 14 rfl rfl)
theorem dX5_wetsNow_109 : decode bcX5_wetsNow 109 = .ok (.iaload, 1) := dk_46 (dk_at dksX5_wetsNow_4 16 rfl rfl)
theorem dX5_wetsNow_110 : decode bcX5_wetsNow 110 = .ok (.ishr, 1) := dk_122 (dk_at dksX5_wetsNow_4 17 rfl rfl)
theorem dX5_wetsNow_111 : decode bcX5_wetsNow 111 = .ok (.iconst 1, 1) := dk_4 (dk_at dksX5_wetsNow_4 18 rfl rfl)
theorem dX5_wetsNow_112 : decode bcX5_wetsNow 112 = .ok (.iand, 1) := dk_126 (dk_at dksX5_wetsNow_4 19 rfl rfl)
theorem dX5_wetsNow_113 : decode bcX5_wetsNow 113 = .ok (.aload_n 0, 1) := dk_42 (dk_at dksX5_wetsNow_4 20 rfl rfl)
theorem dX5_wetsNow_114 : decode bcX5_wetsNow 114 = .ok (.getfield 113, 3) := dk_180 0 113 (dk_at dksX5_wetsNow_4 21 rfl rfl)
theorem dX5_wetsNow_117 : decode bcX5_wetsNow 117 = .ok (.iload 5, 2) := dk_21 5 (dk_at dksX5_wetsNow_5 0 rfl rfl)
theorem dX5_wetsNow_119 : decode bcX5_wetsNow 119 = .ok (.iconst 2, 1) := dk_5 (dk_at dksX5_wetsNow_5 2 rfl rfl)
theorem dX5_wetsNow_120 : decode bcX5_wetsNow 120 = .ok (.iadd, 1) := dk_96 (dk_at dksX5_wetsNow_5 3 rfl rfl)
theorem dX5_wetsNow_121 : decode bcX5_wetsNow 121 = .ok (.iaload, 1) := dk_46 (dk_at dksX5_wetsNow_5 4 rfl rfl)
theorem dX5_wetsNow_122 : decode bcX5_wetsNow 122 = .ok (.if_icmp .ne 7, 3) := dk_160 0 7 (dk_at dksX5_wetsNow_5 5 rfl rfl)
theorem dX5_wetsNow_125 : decode bcX5_wetsNow 125 = .ok (.iconst 1, 1) := dk_4 (dk_at dksX5_wetsNow_5 8 rfl rfl)
theorem dX5_wetsNow_126 : decode bcX5_wetsNow 126 = .ok (.goto 4, 3) := dk_167 0 4 (dk_at dksX5_wetsNow_5 9 rfl rfl)
theorem dX5_wetsNow_129 : decode bcX5_wetsNow 129 = .ok (.iconst 0, 1) := dk_3 (dk_at dksX5_wetsNow_5 12 rfl rfl)
theorem dX5_wetsNow_130 : decode bcX5_wetsNow 130 = .ok (.istore_n 3, 1) := dk_62 (dk_at dksX5_wetsNow_5 13 rfl rfl)
theorem dX5_wetsNow_131 : decode bcX5_wetsNow 131 = .ok (.iinc 4 1, 3) := dk_132 4 1 (dk_at dksX5_wetsNow_5 14 rfl rfl)
theorem dX5_wetsNow_134 : decode bcX5_wetsNow 134 = .ok (.goto (-75), 3) := dk_167 255 181 (dk_at dksX5_wetsNow_5 17 rfl rfl)
theorem dX5_wetsNow_137 : decode bcX5_wetsNow 137 = .ok (.iload_n 1, 1) := dk_27 (dk_at dksX5_wetsNow_5 20 rfl rfl)
theorem dX5_wetsNow_138 : decode bcX5_wetsNow 138 = .ok (.iload_n 3, 1) := dk_29 (dk_at dksX5_wetsNow_5 21 rfl rfl)
theorem dX5_wetsNow_139 : decode bcX5_wetsNow 139 = .ok (.ifCond .eq 9, 3) := dk_153 0 9 (dk_at dksX5_wetsNow_6 0 rfl rfl)
theorem dX5_wetsNow_142 : decode bcX5_wetsNow 142 = .ok (.iconst 1, 1) := dk_4 (dk_at dksX5_wetsNow_6 3 rfl rfl)
theorem dX5_wetsNow_143 : decode bcX5_wetsNow 143 = .ok (.iload_n 2, 1) := dk_28 (dk_at dksX5_wetsNow_6 4 rfl rfl)
theorem dX5_wetsNow_144 : decode bcX5_wetsNow 144 = .ok (.ishl, 1) := dk_120 (dk_at dksX5_wetsNow_6 5 rfl rfl)
theorem dX5_wetsNow_145 : decode bcX5_wetsNow 145 = .ok (.goto 4, 3) := dk_167 0 4 (dk_at dksX5_wetsNow_6 6 rfl rfl)
theorem dX5_wetsNow_148 : decode bcX5_wetsNow 148 = .ok (.iconst 0, 1) := dk_3 (dk_at dksX5_wetsNow_6 9 rfl rfl)
theorem dX5_wetsNow_149 : decode bcX5_wetsNow 149 = .ok (.ior, 1) := dk_128 (dk_at dksX5_wetsNow_6 10 rfl rfl)
theorem dX5_wetsNow_150 : decode bcX5_wetsNow 150 = .ok (.istore_n 1, 1) := dk_60 (dk_at dksX5_wetsNow_6 11 rfl rfl)
theorem dX5_wetsNow_151 : decode bcX5_wetsNow 151 = .ok (.iinc 2 1, 3) := dk_132 2 1 (dk_at dksX5_wetsNow_6 12 rfl rfl)
theorem dX5_wetsNow_154 : decode bcX5_wetsNow 154 = .ok (.goto (-150), 3) := dk_167 255 106 (dk_at dksX5_wetsNow_6 15 rfl rfl)
theorem dX5_wetsNow_157 : decode bcX5_wetsNow 157 = .ok (.iload_n 1, 1) := dk_27 (dk_at dksX5_wetsNow_6 18 rfl rfl)
theorem dX5_wetsNow_158 : decode bcX5_wetsNow 158 = .ok (.ireturn, 1) := dk_172 (dk_at dksX5_wetsNow_6 19 rfl rfl)
abbrev SX5_wetsNow (pc : Nat) (i : xI) : Prop := Snd "SwollenHouseModel" "wetsNow" prog_25_method_111_code 6 (Option.some Jvm.ClassFile.FieldType.int) [] pc i
theorem oX5_wetsNow_0 : SX5_wetsNow 0 (i_const (.int (nI 0)) 1) := snd_iconst dX5_wetsNow_0 (by decide)
theorem oX5_wetsNow_1 : SX5_wetsNow 1 (i_istore 1 2) := snd_istore_n dX5_wetsNow_1 rfl (by decide)
theorem oX5_wetsNow_2 : SX5_wetsNow 2 (i_const (.int (nI 0)) 3) := snd_iconst dX5_wetsNow_2 (by decide)
theorem oX5_wetsNow_3 : SX5_wetsNow 3 (i_istore 2 4) := snd_istore_n dX5_wetsNow_3 rfl (by decide)
theorem oX5_wetsNow_4 : SX5_wetsNow 4 (i_iload 2 5) := snd_iload_n dX5_wetsNow_4 rfl
theorem oX5_wetsNow_5 : SX5_wetsNow 5 (i_const (.int (nI 10)) 7) := snd_bipush dX5_wetsNow_5 (by decide)
theorem oX5_wetsNow_7 : SX5_wetsNow 7 (i_if2 (fun x y => y ≤ x) 157 10) := snd_icmp_ge dX5_wetsNow_7 (by decide)
theorem oX5_wetsNow_10 : SX5_wetsNow 10 (i_aload 0 11) := snd_aload_n dX5_wetsNow_10 rfl
theorem oX5_wetsNow_11 : SX5_wetsNow 11 (i_cvv 4 337 0 14) := snd_cvv rfl infX5_triesNow (by decide) rfl (xVm_V dX5_wetsNow_11 rfl q2128 q2130 qs116 q136 q2131 pdX5_triesNow)
theorem oX5_wetsNow_14 : SX5_wetsNow 14 (i_const (.int (nI 1)) 15) := snd_iconst dX5_wetsNow_14 (by decide)
theorem oX5_wetsNow_15 : SX5_wetsNow 15 (i_istore 3 16) := snd_istore_n dX5_wetsNow_15 rfl (by decide)
theorem oX5_wetsNow_16 : SX5_wetsNow 16 (i_iload 3 17) := snd_iload_n dX5_wetsNow_16 rfl
theorem oX5_wetsNow_17 : SX5_wetsNow 17 (i_const (.int (nI 30)) 19) := snd_bipush dX5_wetsNow_17 (by decide)
theorem oX5_wetsNow_19 : SX5_wetsNow 19 (i_if2 (fun x y => y < x) 54 22) := snd_icmp_gt dX5_wetsNow_19 (by decide)
theorem oX5_wetsNow_22 : SX5_wetsNow 22 (i_aload 0 23) := snd_aload_n dX5_wetsNow_22 rfl
theorem oX5_wetsNow_23 : SX5_wetsNow 23 (i_const (.int (nI 1365)) 26) := snd_sipush dX5_wetsNow_23 (by decide)
theorem oX5_wetsNow_26 : SX5_wetsNow 26 (i_iload 2 27) := snd_iload_n dX5_wetsNow_26 rfl
theorem oX5_wetsNow_27 : SX5_wetsNow 27 (i_cvv 4 298 2 30) := snd_cvv rfl infX5_passes_2 (by decide) rfl (xVm_V dX5_wetsNow_27 rfl q1974 q1976 qs98 q136 q1977 pdX5_passes_2)
theorem oX5_wetsNow_30 : SX5_wetsNow 30 (i_aload 0 31) := snd_aload_n dX5_wetsNow_30 rfl
theorem oX5_wetsNow_31 : SX5_wetsNow 31 (i_getf 4 30 34) := snd_getf dX5_wetsNow_31 rfl (by decide) in_X5 (Or.inl q1728) (Or.inl rfl) (by decide)
theorem oX5_wetsNow_34 : SX5_wetsNow 34 (i_const (.int (nI 31)) 36) := snd_bipush dX5_wetsNow_34 (by decide)
theorem oX5_wetsNow_36 : SX5_wetsNow 36 (i_iload 2 37) := snd_iload_n dX5_wetsNow_36 rfl
theorem oX5_wetsNow_37 : SX5_wetsNow 37 (i_ii (fun x y => x * y) 38) := snd_imul dX5_wetsNow_37
theorem oX5_wetsNow_38 : SX5_wetsNow 38 (i_iload 3 39) := snd_iload_n dX5_wetsNow_38 rfl
theorem oX5_wetsNow_39 : SX5_wetsNow 39 (i_ii (fun x y => x + y) 40) := snd_iadd dX5_wetsNow_39
theorem oX5_wetsNow_40 : SX5_wetsNow 40 (i_aload 0 41) := snd_aload_n dX5_wetsNow_40 rfl
theorem oX5_wetsNow_41 : SX5_wetsNow 41 (i_const (.int (nI 1365)) 44) := snd_sipush dX5_wetsNow_41 (by decide)
theorem oX5_wetsNow_44 : SX5_wetsNow 44 (i_cv 4 302 1 47) := snd_cv rfl infX5_sticking (by decide) rfl (xVm_V dX5_wetsNow_44 rfl q1989 q1991 qs101 q136 q1992 pdX5_sticking)
theorem oX5_wetsNow_47 : SX5_wetsNow 47 (i_si (fun v => v) 0 48) := snd_si0 dX5_wetsNow_47
theorem oX5_wetsNow_48 : SX5_wetsNow 48 (i_iinc 3 (nI 1) 51) := snd_iinc dX5_wetsNow_48 (by decide) (by decide)
theorem oX5_wetsNow_51 : SX5_wetsNow 51 (i_goto 16) := snd_goto dX5_wetsNow_51 (by decide)
theorem oX5_wetsNow_54 : SX5_wetsNow 54 (i_const (.int (nI 1)) 55) := snd_iconst dX5_wetsNow_54 (by decide)
theorem oX5_wetsNow_55 : SX5_wetsNow 55 (i_istore 3 56) := snd_istore_n dX5_wetsNow_55 rfl (by decide)
theorem oX5_wetsNow_56 : SX5_wetsNow 56 (i_const (.int (nI 0)) 57) := snd_iconst dX5_wetsNow_56 (by decide)
theorem oX5_wetsNow_57 : SX5_wetsNow 57 (i_istore 4 59) := snd_istore dX5_wetsNow_57 (by decide)
theorem oX5_wetsNow_59 : SX5_wetsNow 59 (i_iload 4 61) := snd_iload dX5_wetsNow_59
theorem oX5_wetsNow_61 : SX5_wetsNow 61 (i_aload 0 62) := snd_aload_n dX5_wetsNow_61 rfl
theorem oX5_wetsNow_62 : SX5_wetsNow 62 (i_getf 4 24 65) := snd_getf dX5_wetsNow_62 rfl (by decide) in_X5 (Or.inl q1722) (Or.inl rfl) (by decide)
theorem oX5_wetsNow_65 : SX5_wetsNow 65 (i_const (.int (nI 23)) 67) := snd_bipush dX5_wetsNow_65 (by decide)
theorem oX5_wetsNow_67 : SX5_wetsNow 67 (i_ai 0 68) := snd_ai0 dX5_wetsNow_67
theorem oX5_wetsNow_68 : SX5_wetsNow 68 (i_if2 (fun x y => y ≤ x) 137 71) := snd_icmp_ge dX5_wetsNow_68 (by decide)
theorem oX5_wetsNow_71 : SX5_wetsNow 71 (i_const (.int (nI 24)) 73) := snd_bipush dX5_wetsNow_71 (by decide)
theorem oX5_wetsNow_73 : SX5_wetsNow 73 (i_const (.int (nI 3)) 74) := snd_iconst dX5_wetsNow_73 (by decide)
theorem oX5_wetsNow_74 : SX5_wetsNow 74 (i_iload 4 76) := snd_iload dX5_wetsNow_74
theorem oX5_wetsNow_76 : SX5_wetsNow 76 (i_ii (fun x y => x * y) 77) := snd_imul dX5_wetsNow_76
theorem oX5_wetsNow_77 : SX5_wetsNow 77 (i_ii (fun x y => x + y) 78) := snd_iadd dX5_wetsNow_77
theorem oX5_wetsNow_78 : SX5_wetsNow 78 (i_istore 5 80) := snd_istore dX5_wetsNow_78 (by decide)
theorem oX5_wetsNow_80 : SX5_wetsNow 80 (i_iload 3 81) := snd_iload_n dX5_wetsNow_80 rfl
theorem oX5_wetsNow_81 : SX5_wetsNow 81 (i_if1 (fun x => x = 0) 129 84) := snd_if_eq dX5_wetsNow_81 (by decide)
theorem oX5_wetsNow_84 : SX5_wetsNow 84 (i_aload 0 85) := snd_aload_n dX5_wetsNow_84 rfl
theorem oX5_wetsNow_85 : SX5_wetsNow 85 (i_getf 4 30 88) := snd_getf dX5_wetsNow_85 rfl (by decide) in_X5 (Or.inl q1728) (Or.inl rfl) (by decide)
theorem oX5_wetsNow_88 : SX5_wetsNow 88 (i_const (.int (nI 31)) 90) := snd_bipush dX5_wetsNow_88 (by decide)
theorem oX5_wetsNow_90 : SX5_wetsNow 90 (i_iload 2 91) := snd_iload_n dX5_wetsNow_90 rfl
theorem oX5_wetsNow_91 : SX5_wetsNow 91 (i_ii (fun x y => x * y) 92) := snd_imul dX5_wetsNow_91
theorem oX5_wetsNow_92 : SX5_wetsNow 92 (i_aload 0 93) := snd_aload_n dX5_wetsNow_92 rfl
theorem oX5_wetsNow_93 : SX5_wetsNow 93 (i_getf 4 24 96) := snd_getf dX5_wetsNow_93 rfl (by decide) in_X5 (Or.inl q1722) (Or.inl rfl) (by decide)
theorem oX5_wetsNow_96 : SX5_wetsNow 96 (i_iload 5 98) := snd_iload dX5_wetsNow_96
theorem oX5_wetsNow_98 : SX5_wetsNow 98 (i_const (.int (nI 1)) 99) := snd_iconst dX5_wetsNow_98 (by decide)
theorem oX5_wetsNow_99 : SX5_wetsNow 99 (i_ii (fun x y => x + y) 100) := snd_iadd dX5_wetsNow_99
theorem oX5_wetsNow_100 : SX5_wetsNow 100 (i_ai 0 101) := snd_ai0 dX5_wetsNow_100
theorem oX5_wetsNow_101 : SX5_wetsNow 101 (i_ii (fun x y => x + y) 102) := snd_iadd dX5_wetsNow_101
theorem oX5_wetsNow_102 : SX5_wetsNow 102 (i_ai 0 103) := snd_ai0 dX5_wetsNow_102
theorem oX5_wetsNow_103 : SX5_wetsNow 103 (i_aload 0 104) := snd_aload_n dX5_wetsNow_103 rfl
theorem oX5_wetsNow_104 : SX5_wetsNow 104 (i_getf 4 24 107) := snd_getf dX5_wetsNow_104 rfl (by decide) in_X5 (Or.inl q1722) (Or.inl rfl) (by decide)
theorem oX5_wetsNow_107 : SX5_wetsNow 107 (i_iload 5 109) := snd_iload dX5_wetsNow_107
theorem oX5_wetsNow_109 : SX5_wetsNow 109 (i_ai 0 110) := snd_ai0 dX5_wetsNow_109
theorem oX5_wetsNow_110 : SX5_wetsNow 110 (i_ii (fun x y => x >>> (y &&& 31)) 111) := snd_ishr dX5_wetsNow_110
theorem oX5_wetsNow_111 : SX5_wetsNow 111 (i_const (.int (nI 1)) 112) := snd_iconst dX5_wetsNow_111 (by decide)
theorem oX5_wetsNow_112 : SX5_wetsNow 112 (i_ii (fun x y => x &&& y) 113) := snd_iand dX5_wetsNow_112
theorem oX5_wetsNow_113 : SX5_wetsNow 113 (i_aload 0 114) := snd_aload_n dX5_wetsNow_113 rfl
theorem oX5_wetsNow_114 : SX5_wetsNow 114 (i_getf 4 24 117) := snd_getf dX5_wetsNow_114 rfl (by decide) in_X5 (Or.inl q1722) (Or.inl rfl) (by decide)
theorem oX5_wetsNow_117 : SX5_wetsNow 117 (i_iload 5 119) := snd_iload dX5_wetsNow_117
theorem oX5_wetsNow_119 : SX5_wetsNow 119 (i_const (.int (nI 2)) 120) := snd_iconst dX5_wetsNow_119 (by decide)
theorem oX5_wetsNow_120 : SX5_wetsNow 120 (i_ii (fun x y => x + y) 121) := snd_iadd dX5_wetsNow_120
theorem oX5_wetsNow_121 : SX5_wetsNow 121 (i_ai 0 122) := snd_ai0 dX5_wetsNow_121
theorem oX5_wetsNow_122 : SX5_wetsNow 122 (i_if2 (fun x y => ¬ x = y) 129 125) := snd_icmp_ne dX5_wetsNow_122 (by decide)
theorem oX5_wetsNow_125 : SX5_wetsNow 125 (i_const (.int (nI 1)) 126) := snd_iconst dX5_wetsNow_125 (by decide)
theorem oX5_wetsNow_126 : SX5_wetsNow 126 (i_goto 130) := snd_goto dX5_wetsNow_126 (by decide)
theorem oX5_wetsNow_129 : SX5_wetsNow 129 (i_const (.int (nI 0)) 130) := snd_iconst dX5_wetsNow_129 (by decide)
theorem oX5_wetsNow_130 : SX5_wetsNow 130 (i_istore 3 131) := snd_istore_n dX5_wetsNow_130 rfl (by decide)
theorem oX5_wetsNow_131 : SX5_wetsNow 131 (i_iinc 4 (nI 1) 134) := snd_iinc dX5_wetsNow_131 (by decide) (by decide)
theorem oX5_wetsNow_134 : SX5_wetsNow 134 (i_goto 59) := snd_goto dX5_wetsNow_134 (by decide)
theorem oX5_wetsNow_137 : SX5_wetsNow 137 (i_iload 1 138) := snd_iload_n dX5_wetsNow_137 rfl
theorem oX5_wetsNow_138 : SX5_wetsNow 138 (i_iload 3 139) := snd_iload_n dX5_wetsNow_138 rfl
theorem oX5_wetsNow_139 : SX5_wetsNow 139 (i_if1 (fun x => x = 0) 148 142) := snd_if_eq dX5_wetsNow_139 (by decide)
theorem oX5_wetsNow_142 : SX5_wetsNow 142 (i_const (.int (nI 1)) 143) := snd_iconst dX5_wetsNow_142 (by decide)
theorem oX5_wetsNow_143 : SX5_wetsNow 143 (i_iload 2 144) := snd_iload_n dX5_wetsNow_143 rfl
theorem oX5_wetsNow_144 : SX5_wetsNow 144 (i_ii (fun x y => x <<< (y &&& 31)) 145) := snd_ishl dX5_wetsNow_144
theorem oX5_wetsNow_145 : SX5_wetsNow 145 (i_goto 149) := snd_goto dX5_wetsNow_145 (by decide)
theorem oX5_wetsNow_148 : SX5_wetsNow 148 (i_const (.int (nI 0)) 149) := snd_iconst dX5_wetsNow_148 (by decide)
theorem oX5_wetsNow_149 : SX5_wetsNow 149 (i_ii (fun x y => x ||| y) 150) := snd_ior dX5_wetsNow_149
theorem oX5_wetsNow_150 : SX5_wetsNow 150 (i_istore 1 151) := snd_istore_n dX5_wetsNow_150 rfl (by decide)
theorem oX5_wetsNow_151 : SX5_wetsNow 151 (i_iinc 2 (nI 1) 154) := snd_iinc dX5_wetsNow_151 (by decide) (by decide)
theorem oX5_wetsNow_154 : SX5_wetsNow 154 (i_goto 4) := snd_goto dX5_wetsNow_154 (by decide)
theorem oX5_wetsNow_157 : SX5_wetsNow 157 (i_iload 1 158) := snd_iload_n dX5_wetsNow_157 rfl
theorem oX5_wetsNow_158 : SX5_wetsNow 158 (i_iret) := snd_iret dX5_wetsNow_158 rfl
theorem okX5_wetsNow : ∀ q ∈ cX5_wetsNow, SX5_wetsNow q.1 q.2 := List.forall_mem_cons.mpr ⟨oX5_wetsNow_0, List.forall_mem_cons.mpr ⟨oX5_wetsNow_1, List.forall_mem_cons.mpr ⟨oX5_wetsNow_2, List.forall_mem_cons.mpr ⟨oX5_wetsNow_3, List.forall_mem_cons.mpr ⟨oX5_wetsNow_4, List.forall_mem_cons.mpr ⟨oX5_wetsNow_5, List.forall_mem_cons.mpr ⟨oX5_wetsNow_7, List.forall_mem_cons.mpr ⟨oX5_wetsNow_10, List.forall_mem_cons.mpr ⟨oX5_wetsNow_11, List.forall_mem_cons.mpr ⟨oX5_wetsNow_14, List.forall_mem_cons.mpr ⟨oX5_wetsNow_15, List.forall_mem_cons.mpr ⟨oX5_wetsNow_16, List.forall_mem_cons.mpr ⟨oX5_wetsNow_17, List.forall_mem_cons.mpr ⟨oX5_wetsNow_19, List.forall_mem_cons.mpr ⟨oX5_wetsNow_22, List.forall_mem_cons.mpr ⟨oX5_wetsNow_23, List.forall_mem_cons.mpr ⟨oX5_wetsNow_26, List.forall_mem_cons.mpr ⟨oX5_wetsNow_27, List.forall_mem_cons.mpr ⟨oX5_wetsNow_30, List.forall_mem_cons.mpr ⟨oX5_wetsNow_31, List.forall_mem_cons.mpr ⟨oX5_wetsNow_34, List.forall_mem_cons.mpr ⟨oX5_wetsNow_36, List.forall_mem_cons.mpr ⟨oX5_wetsNow_37, List.forall_mem_cons.mpr ⟨oX5_wetsNow_38, List.forall_mem_cons.mpr ⟨oX5_wetsNow_39, List.forall_mem_cons.mpr ⟨oX5_wetsNow_40, List.forall_mem_cons.mpr ⟨oX5_wetsNow_41, List.forall_mem_cons.mpr ⟨oX5_wetsNow_44, List.forall_mem_cons.mpr ⟨oX5_wetsNow_47, List.forall_mem_cons.mpr ⟨oX5_wetsNow_48, List.forall_mem_cons.mpr ⟨oX5_wetsNow_51, List.forall_mem_cons.mpr ⟨oX5_wetsNow_54, List.forall_mem_cons.mpr ⟨oX5_wetsNow_55, List.forall_mem_cons.mpr ⟨oX5_wetsNow_56, List.forall_mem_cons.mpr ⟨oX5_wetsNow_57, List.forall_mem_cons.mpr ⟨oX5_wetsNow_59, List.forall_mem_cons.mpr ⟨oX5_wetsNow_61, List.forall_mem_cons.mpr ⟨oX5_wetsNow_62, List.forall_mem_cons.mpr ⟨oX5_wetsNow_65, List.forall_mem_cons.mpr ⟨oX5_wetsNow_67, List.forall_mem_cons.mpr ⟨oX5_wetsNow_68, List.forall_mem_cons.mpr ⟨oX5_wetsNow_71, List.forall_mem_cons.mpr ⟨oX5_wetsNow_73, List.forall_mem_cons.mpr ⟨oX5_wetsNow_74, List.forall_mem_cons.mpr ⟨oX5_wetsNow_76, List.forall_mem_cons.mpr ⟨oX5_wetsNow_77, List.forall_mem_cons.mpr ⟨oX5_wetsNow_78, List.forall_mem_cons.mpr ⟨oX5_wetsNow_80, List.forall_mem_cons.mpr ⟨oX5_wetsNow_81, List.forall_mem_cons.mpr ⟨oX5_wetsNow_84, List.forall_mem_cons.mpr ⟨oX5_wetsNow_85, List.forall_mem_cons.mpr ⟨oX5_wetsNow_88, List.forall_mem_cons.mpr ⟨oX5_wetsNow_90, List.forall_mem_cons.mpr ⟨oX5_wetsNow_91, List.forall_mem_cons.mpr ⟨oX5_wetsNow_92, List.forall_mem_cons.mpr ⟨oX5_wetsNow_93, List.forall_mem_cons.mpr ⟨oX5_wetsNow_96, List.forall_mem_cons.mpr ⟨oX5_wetsNow_98, List.forall_mem_cons.mpr ⟨oX5_wetsNow_99, List.forall_mem_cons.mpr ⟨oX5_wetsNow_100, List.forall_mem_cons.mpr ⟨oX5_wetsNow_101, List.forall_mem_cons.mpr ⟨oX5_wetsNow_102, List.forall_mem_cons.mpr ⟨oX5_wetsNow_103, List.forall_mem_cons.mpr ⟨oX5_wetsNow_104, List.forall_mem_cons.mpr ⟨oX5_wetsNow_107, List.forall_mem_cons.mpr ⟨oX5_wetsNow_109, List.forall_mem_cons.mpr ⟨oX5_wetsNow_110, List.forall_mem_cons.mpr ⟨oX5_wetsNow_111, List.forall_mem_cons.mpr ⟨oX5_wetsNow_112, List.forall_mem_cons.mpr ⟨oX5_wetsNow_113, List.forall_mem_cons.mpr ⟨oX5_wetsNow_114, List.forall_mem_cons.mpr ⟨oX5_wetsNow_117, List.forall_mem_cons.mpr ⟨oX5_wetsNow_119, List.forall_mem_cons.mpr ⟨oX5_wetsNow_120, List.forall_mem_cons.mpr ⟨oX5_wetsNow_121, List.forall_mem_cons.mpr ⟨oX5_wetsNow_122, List.forall_mem_cons.mpr ⟨oX5_wetsNow_125, List.forall_mem_cons.mpr ⟨oX5_wetsNow_126, List.forall_mem_cons.mpr ⟨oX5_wetsNow_129, List.forall_mem_cons.mpr ⟨oX5_wetsNow_130, List.forall_mem_cons.mpr ⟨oX5_wetsNow_131, List.forall_mem_cons.mpr ⟨oX5_wetsNow_134, List.forall_mem_cons.mpr ⟨oX5_wetsNow_137, List.forall_mem_cons.mpr ⟨oX5_wetsNow_138, List.forall_mem_cons.mpr ⟨oX5_wetsNow_139, List.forall_mem_cons.mpr ⟨oX5_wetsNow_142, List.forall_mem_cons.mpr ⟨oX5_wetsNow_143, List.forall_mem_cons.mpr ⟨oX5_wetsNow_144, List.forall_mem_cons.mpr ⟨oX5_wetsNow_145, List.forall_mem_cons.mpr ⟨oX5_wetsNow_148, List.forall_mem_cons.mpr ⟨oX5_wetsNow_149, List.forall_mem_cons.mpr ⟨oX5_wetsNow_150, List.forall_mem_cons.mpr ⟨oX5_wetsNow_151, List.forall_mem_cons.mpr ⟨oX5_wetsNow_154, List.forall_mem_cons.mpr ⟨oX5_wetsNow_157, List.forall_mem_cons.mpr ⟨oX5_wetsNow_158, fun _ h => absurd h List.not_mem_nil⟩⟩⟩⟩⟩⟩⟩⟩⟩⟩⟩⟩⟩⟩⟩⟩⟩⟩⟩⟩⟩⟩⟩⟩⟩⟩⟩⟩⟩⟩⟩⟩⟩⟩⟩⟩⟩⟩⟩⟩⟩⟩⟩⟩⟩⟩⟩⟩⟩⟩⟩⟩⟩⟩⟩⟩⟩⟩⟩⟩⟩⟩⟩⟩⟩⟩⟩⟩⟩⟩⟩⟩⟩⟩⟩⟩⟩⟩⟩⟩⟩⟩⟩⟩⟩⟩⟩⟩⟩⟩⟩⟩⟩⟩⟩⟩
def dkwX5_tries_7 : List UInt8 := [167, 255, 116, 29, 172]
abbrev dktX5_tries_7 : List UInt8 := dkwX5_tries_7 ++ []
def dkwX5_tries_6 : List UInt8 := [21, 4, 162, 0, 8, 21, 8, 167, 0, 5, 21, 4, 54, 4, 132, 6, 1, 167, 255, 132, 132, 5, 1]
abbrev dktX5_tries_6 : List UInt8 := dkwX5_tries_6 ++ dktX5_tries_7
def dkwX5_tries_5 : List UInt8 := [54, 8, 21, 8, 21, 4, 162, 0, 14, 16, 8, 21, 5, 104, 21, 6, 96, 167, 0, 4, 29, 62, 21, 8]
abbrev dktX5_tries_5 : List UInt8 := dkwX5_tries_5 ++ dktX5_tries_6
def dkwX5_tries_4 : List UInt8 := [132, 8, 1, 167, 255, 209, 21, 7, 28, 21, 7, 100, 164, 0, 8, 21, 7, 167, 0, 7, 28, 21, 7, 100]
abbrev dktX5_tries_4 : List UInt8 := dkwX5_tries_4 ++ dktX5_tries_5
def dkwX5_tries_3 : List UInt8 := [180, 0, 129, 16, 31, 21, 8, 104, 21, 5, 96, 46, 21, 6, 122, 4, 126, 167, 0, 4, 3, 96, 54, 7]
abbrev dktX5_tries_3 : List UInt8 := dkwX5_tries_3 ++ dktX5_tries_4
def dkwX5_tries_2 : List UInt8 := [54, 8, 21, 8, 16, 10, 162, 0, 46, 21, 7, 27, 21, 8, 122, 4, 126, 4, 160, 0, 24, 42]
abbrev dktX5_tries_2 : List UInt8 := dkwX5_tries_2 ++ dktX5_tries_3
def dkwX5_tries_1 : List UInt8 := [21, 5, 16, 30, 163, 0, 139, 3, 54, 6, 21, 6, 42, 182, 1, 16, 162, 0, 121, 3, 54, 7, 3]
abbrev dktX5_tries_1 : List UInt8 := dkwX5_tries_1 ++ dktX5_tries_2
def dkwX5_tries_0 : List UInt8 := [42, 3, 181, 0, 1, 42, 182, 1, 136, 60, 27, 184, 1, 95, 61, 2, 62, 28, 54, 4, 4, 54, 5]
abbrev dktX5_tries_0 : List UInt8 := dkwX5_tries_0 ++ dktX5_tries_1
theorem dksX5_tries_0 : bcX5_tries.data.toList.drop 0 = dktX5_tries_0 := by decide +kernel
theorem dksX5_tries_1 : bcX5_tries.data.toList.drop 23 = dktX5_tries_1 := dk_seg dksX5_tries_0 23 rfl rfl
theorem dksX5_tries_2 : bcX5_tries.data.toList.drop 46 = dktX5_tries_2 := dk_seg dksX5_tries_1 23 rfl rfl
theorem dksX5_tries_3 : bcX5_tries.data.toList.drop 68 = dktX5_tries_3 := dk_seg dksX5_tries_2 22 rfl rfl
theorem dksX5_tries_4 : bcX5_tries.data.toList.drop 92 = dktX5_tries_4 := dk_seg dksX5_tries_3 24 rfl rfl
theorem dksX5_tries_5 : bcX5_tries.data.toList.drop 116 = dktX5_tries_5 := dk_seg dksX5_tries_4 24 rfl rfl
theorem dksX5_tries_6 : bcX5_tries.data.toList.drop 140 = dktX5_tries_6 := dk_seg dksX5_tries_5 24 rfl rfl
theorem dksX5_tries_7 : bcX5_tries.data.toList.drop 163 = dktX5_tries_7 := dk_seg dksX5_tries_6 23 rfl rfl
theorem dX5_tries_0 : decode bcX5_tries 0 = .ok (.aload_n 0, 1) := dk_42 (dk_at dksX5_tries_0 0 rfl rfl)
theorem dX5_tries_1 : decode bcX5_tries 1 = .ok (.iconst 0, 1) := dk_3 (dk_at dksX5_tries_0 1 rfl rfl)
theorem dX5_tries_2 : decode bcX5_tries 2 = .ok (.putfield 1, 3) := dk_181 0 1 (dk_at dksX5_tries_0 2 rfl rfl)
theorem dX5_tries_5 : decode bcX5_tries 5 = .ok (.aload_n 0, 1) := dk_42 (dk_at dksX5_tries_0 5 rfl rfl)
theorem dX5_tries_6 : decode bcX5_tries 6 = .ok (.invokevirtual 392, 3) := dk_182 1 136 (dk_at dksX5_tries_0 6 rfl rfl)
theorem dX5_tries_9 : decode bcX5_tries 9 = .ok (.istore_n 1, 1) := dk_60 (dk_at dksX5_tries_0 9 rfl rfl)
theorem dX5_tries_10 : decode bcX5_tries 10 = .ok (.iload_n 1, 1) := dk_27 (dk_at dksX5_tries_0 10 rfl rfl)
theorem dX5_tries_11 : decode bcX5_tries 11 = .ok (.invokestatic 351, 3) := dk_184 1 95 (dk_at dksX5_tries_0 11 rfl rfl)
theorem dX5_tries_14 : decode bcX5_tries 14 = .ok (.istore_n 2, 1) := dk_61 (dk_at dksX5_tries_0 14 rfl rfl)
theorem dX5_tries_15 : decode bcX5_tries 15 = .ok (.iconst (-1), 1) := dk_2 (dk_at dksX5_tries_0 15 rfl rfl)
theorem dX5_tries_16 : decode bcX5_tries 16 = .ok (.istore_n 3, 1) := dk_62 (dk_at dksX5_tries_0 16 rfl rfl)
theorem dX5_tries_17 : decode bcX5_tries 17 = .ok (.iload_n 2, 1) := dk_28 (dk_at dksX5_tries_0 17 rfl rfl)
theorem dX5_tries_18 : decode bcX5_tries 18 = .ok (.istore 4, 2) := dk_54 4 (dk_at dksX5_tries_0 18 rfl rfl)
theorem dX5_tries_20 : decode bcX5_tries 20 = .ok (.iconst 1, 1) := dk_4 (dk_at dksX5_tries_0 20 rfl rfl)
theorem dX5_tries_21 : decode bcX5_tries 21 = .ok (.istore 5, 2) := dk_54 5 (dk_at dksX5_tries_0 21 rfl rfl)
theorem dX5_tries_23 : decode bcX5_tries 23 = .ok (.iload 5, 2) := dk_21 5 (dk_at dksX5_tries_1 0 rfl rfl)
theorem dX5_tries_25 : decode bcX5_tries 25 = .ok (.bipush 30, 2) := dk_16 30 (dk_at dksX5_tries_1 2 rfl rfl)
theorem dX5_tries_27 : decode bcX5_tries 27 = .ok (.if_icmp .gt 139, 3) := dk_163 0 139 (dk_at dksX5_tries_1 4 rfl rfl)
theorem dX5_tries_30 : decode bcX5_tries 30 = .ok (.iconst 0, 1) := dk_3 (dk_at dksX5_tries_1 7 rfl rfl)
theorem dX5_tries_31 : decode bcX5_tries 31 = .ok (.istore 6, 2) := dk_54 6 (dk_at dksX5_tries_1 8 rfl rfl)
theorem dX5_tries_33 : decode bcX5_tries 33 = .ok (.iload 6, 2) := dk_21 6 (dk_at dksX5_tries_1 10 rfl rfl)
theorem dX5_tries_35 : decode bcX5_tries 35 = .ok (.aload_n 0, 1) := dk_42 (dk_at dksX5_tries_1 12 rfl rfl)
theorem dX5_tries_36 : decode bcX5_tries 36 = .ok (.invokevirtual 272, 3) := dk_182 1 16 (dk_at dksX5_tries_1 13 rfl rfl)
theorem dX5_tries_39 : decode bcX5_tries 39 = .ok (.if_icmp .ge 121, 3) := dk_162 0 121 (dk_at dksX5_tries_1 16 rfl rfl)
theorem dX5_tries_42 : decode bcX5_tries 42 = .ok (.iconst 0, 1) := dk_3 (dk_at dksX5_tries_1 19 rfl rfl)
theorem dX5_tries_43 : decode bcX5_tries 43 = .ok (.istore 7, 2) := dk_54 7 (dk_at dksX5_tries_1 20 rfl rfl)
theorem dX5_tries_45 : decode bcX5_tries 45 = .ok (.iconst 0, 1) := dk_3 (dk_at dksX5_tries_1 22 rfl rfl)
theorem dX5_tries_46 : decode bcX5_tries 46 = .ok (.istore 8, 2) := dk_54 8 (dk_at dksX5_tries_2 0 rfl rfl)
theorem dX5_tries_48 : decode bcX5_tries 48 = .ok (.iload 8, 2) := dk_21 8 (dk_at dksX5_tries_2 2 rfl rfl)
theorem dX5_tries_50 : decode bcX5_tries 50 = .ok (.bipush 10, 2) := dk_16 10 (dk_at dksX5_tries_2 4 rfl rfl)
theorem dX5_tries_52 : decode bcX5_tries 52 = .ok (.if_icmp .ge 46, 3) := dk_162 0 46 (dk_at dksX5_tries_2 6 rfl rfl)
theorem dX5_tries_55 : decode bcX5_tries 55 = .ok (.iload 7, 2) := dk_21 7 (dk_at dksX5_tries_2 9 rfl rfl)
theorem dX5_tries_57 : decode bcX5_tries 57 = .ok (.iload_n 1, 1) := dk_27 (dk_at dksX5_tries_2 11 rfl rfl)
theorem dX5_tries_58 : decode bcX5_tries 58 = .ok (.iload 8, 2) := dk_21 8 (dk_at dksX5_tries_2 12 rfl rfl)
theorem dX5_tries_60 : decode bcX5_tries 60 = .ok (.ishr, 1) := dk_122 (dk_at dksX5_tries_2 14 rfl rfl)
theorem dX5_tries_61 : decode bcX5_tries 61 = .ok (.iconst 1, 1) := dk_4 (dk_at dksX5_tries_2 15 rfl rfl)
theorem dX5_tries_62 : decode bcX5_tries 62 = .ok (.iand, 1) := dk_126 (dk_at dksX5_tries_2 16 rfl rfl)
theorem dX5_tries_63 : decode bcX5_tries 63 = .ok (.iconst 1, 1) := dk_4 (dk_at dksX5_tries_2 17 rfl rfl)
theorem dX5_tries_64 : decode bcX5_tries 64 = .ok (.if_icmp .ne 24, 3) := dk_160 0 24 (dk_at dksX5_tries_2 18 rfl rfl)
theorem dX5_tries_67 : decode bcX5_tries 67 = .ok (.aload_n 0, 1) := dk_42 (dk_at dksX5_tries_2 21 rfl rfl)
theorem dX5_tries_68 : decode bcX5_tries 68 = .ok (.getfield 129, 3) := dk_180 0 129 (dk_at dksX5_tries_3 0 rfl rfl)
theorem dX5_tries_71 : decode bcX5_tries 71 = .ok (.bipush 31, 2) := dk_16 31 (dk_at dksX5_tries_3 3 rfl rfl)
theorem dX5_tries_73 : decode bcX5_tries 73 = .ok (.iload 8, 2) := dk_21 8 (dk_at dksX5_tries_3 5 rfl rfl)
theorem dX5_tries_75 : decode bcX5_tries 75 = .ok (.imul, 1) := dk_104 (dk_at dksX5_tries_3 7 rfl rfl)
theorem dX5_tries_76 : decode bcX5_tries 76 = .ok (.iload 5, 2) := dk_21 5 (dk_at dksX5_tries_3 8 rfl rfl)
theorem dX5_tries_78 : decode bcX5_tries 78 = .ok (.iadd, 1) := dk_96 (dk_at dksX5_tries_3 10 rfl rfl)
theorem dX5_tries_79 : decode bcX5_tries 79 = .ok (.iaload, 1) := dk_46 (dk_at dksX5_tries_3 11 rfl rfl)
theorem dX5_tries_80 : decode bcX5_tries 80 = .ok (.iload 6, 2) := dk_21 6 (dk_at dksX5_tries_3 12 rfl rfl)
theorem dX5_tries_82 : decode bcX5_tries 82 = .ok (.ishr, 1) := dk_122 (dk_at dksX5_tries_3 14 rfl rfl)
theorem dX5_tries_83 : decode bcX5_tries 83 = .ok (.iconst 1, 1) := dk_4 (dk_at dksX5_tries_3 15 rfl rfl)
theorem dX5_tries_84 : decode bcX5_tries 84 = .ok (.iand, 1) := dk_126 (dk_at dksX5_tries_3 16 rfl rfl)
theorem dX5_tries_85 : decode bcX5_tries 85 = .ok (.goto 4, 3) := dk_167 0 4 (dk_at dksX5_tries_3 17 rfl rfl)
theorem dX5_tries_88 : decode bcX5_tries 88 = .ok (.iconst 0, 1) := dk_3 (dk_at dksX5_tries_3 20 rfl rfl)
theorem dX5_tries_89 : decode bcX5_tries 89 = .ok (.iadd, 1) := dk_96 (dk_at dksX5_tries_3 21 rfl rfl)
theorem dX5_tries_90 : decode bcX5_tries 90 = .ok (.istore 7, 2) := dk_54 7 (dk_at dksX5_tries_3 22 rfl rfl)
theorem dX5_tries_92 : decode bcX5_tries 92 = .ok (.iinc 8 1, 3) := dk_132 8 1 (dk_at dksX5_tries_4 0 rfl rfl)
theorem dX5_tries_95 : decode bcX5_tries 95 = .ok (.goto (-47), 3) := dk_167 255 209 (dk_at dksX5_tries_4 3 rfl rfl)
theorem dX5_tries_98 : decode bcX5_tries 98 = .ok (.iload 7, 2) := dk_21 7 (dk_at dksX5_tries_4 6 rfl rfl)
theorem dX5_tries_100 : decode bcX5_tries 100 = .ok (.iload_n 2, 1) := dk_28 (dk_at dksX5_tries_4 8 rfl rfl)
theorem dX5_tries_101 : decode bcX5_tries 101 = .ok (.iload 7, 2) := dk_21 7 (dk_at dksX5_tries_4 9 rfl rfl)
theorem dX5_tries_103 : decode bcX5_tries 103 = .ok (.isub, 1) := dk_100 (dk_at dksX5_tries_4 11 rfl rfl)
theorem dX5_tries_104 : decode bcX5_tries 104 = .ok (.if_icmp .le 8, 3) := dk_164 0 8 (dk_at dksX5_tries_4 12 rfl rfl)
theorem dX5_tries_107 : decode bcX5_tries 107 = .ok (.iload 7, 2) := dk_21 7 (dk_at dksX5_tries_4 15 rfl rfl)
theorem dX5_tries_109 : decode bcX5_tries 109 = .ok (.goto 7, 3) := dk_167 0 7 (dk_at dksX5_tries_4 17 rfl rfl)
theorem dX5_tries_112 : decode bcX5_tries 112 = .ok (.iload_n 2, 1) := dk_28 (dk_at dksX5_tries_4 20 rfl rfl)
theorem dX5_tries_113 : decode bcX5_tries 113 = .ok (.iload 7, 2) := dk_21 7 (dk_at dksX5_tries_4 21 rfl rfl)
theorem dX5_tries_115 : decode bcX5_tries 115 = .ok (.isub, 1) := dk_100 (dk_at dksX5_tries_4 23 rfl rfl)
theorem dX5_tries_116 : decode bcX5_tries 116 = .ok (.istore 8, 2) := dk_54 8 (dk_at dksX5_tries_5 0 rfl rfl)
theorem dX5_tries_118 : decode bcX5_tries 118 = .ok (.iload 8, 2) := dk_21 8 (dk_at dksX5_tries_5 2 rfl rfl)
theorem dX5_tries_120 : decode bcX5_tries 120 = .ok (.iload 4, 2) := dk_21 4 (dk_at dksX5_tries_5 4 rfl rfl)
theorem dX5_tries_122 : decode bcX5_tries 122 = .ok (.if_icmp .ge 14, 3) := dk_162 0 14 (dk_at dksX5_tries_5 6 rfl rfl)
theorem dX5_tries_125 : decode bcX5_tries 125 = .ok (.bipush 8, 2) := dk_16 8 (dk_at dksX5_tries_5 9 rfl rfl)
theorem dX5_tries_127 : decode bcX5_tries 127 = .ok (.iload 5, 2) := dk_21 5 (dk_at dksX5_tries_5 11 rfl rfl)
theorem dX5_tries_129 : decode bcX5_tries 129 = .ok (.imul, 1) := dk_104 (dk_at dksX5_tries_5 13 rfl rfl)
theorem dX5_tries_130 : decode bcX5_tries 130 = .ok (.iload 6, 2) := dk_21 6 (dk_at dksX5_tries_5 14 rfl rfl)
theorem dX5_tries_132 : decode bcX5_tries 132 = .ok (.iadd, 1) := dk_96 (dk_at dksX5_tries_5 16 rfl rfl)
theorem dX5_tries_133 : decode bcX5_tries 133 = .ok (.goto 4, 3) := dk_167 0 4 (dk_at dksX5_tries_5 17 rfl rfl)
theorem dX5_tries_136 : decode bcX5_tries 136 = .ok (.iload_n 3, 1) := dk_29 (dk_at dksX5_tries_5 20 rfl rfl)
theorem dX5_tries_137 : decode bcX5_tries 137 = .ok (.istore_n 3, 1) := dk_62 (dk_at dksX5_tries_5 21 rfl rfl)
theorem dX5_tries_138 : decode bcX5_tries 138 = .ok (.iload 8, 2) := dk_21 8 (dk_at dksX5_tries_5 22 rfl rfl)
theorem dX5_tries_140 : decode bcX5_tries 140 = .ok (.iload 4, 2) := dk_21 4 (dk_at dksX5_tries_6 0 rfl rfl)
theorem dX5_tries_142 : decode bcX5_tries 142 = .ok (.if_icmp .ge 8, 3) := dk_162 0 8 (dk_at dksX5_tries_6 2 rfl rfl)
theorem dX5_tries_145 : decode bcX5_tries 145 = .ok (.iload 8, 2) := dk_21 8 (dk_at dksX5_tries_6 5 rfl rfl)
theorem dX5_tries_147 : decode bcX5_tries 147 = .ok (.goto 5, 3) := dk_167 0 5 (dk_at dksX5_tries_6 7 rfl rfl)
theorem dX5_tries_150 : decode bcX5_tries 150 = .ok (.iload 4, 2) := dk_21 4 (dk_at dksX5_tries_6 10 rfl rfl)
theorem dX5_tries_152 : decode bcX5_tries 152 = .ok (.istore 4, 2) := dk_54 4 (dk_at dksX5_tries_6 12 rfl rfl)
theorem dX5_tries_154 : decode bcX5_tries 154 = .ok (.iinc 6 1, 3) := dk_132 6 1 (dk_at dksX5_tries_6 14 rfl rfl)
theorem dX5_tries_157 : decode bcX5_tries 157 = .ok (.goto (-124), 3) := dk_167 255 132 (dk_at dksX5_tries_6 17 rfl rfl)
theorem dX5_tries_160 : decode bcX5_tries 160 = .ok (.iinc 5 1, 3) := dk_132 5 1 (dk_at dksX5_tries_6 20 rfl rfl)
theorem dX5_tries_163 : decode bcX5_tries 163 = .ok (.goto (-140), 3) := dk_167 255 116 (dk_at dksX5_tries_7 0 rfl rfl)
theorem dX5_tries_166 : decode bcX5_tries 166 = .ok (.iload_n 3, 1) := dk_29 (dk_at dksX5_tries_7 3 rfl rfl)
theorem dX5_tries_167 : decode bcX5_tries 167 = .ok (.ireturn, 1) := dk_172 (dk_at dksX5_tries_7 4 rfl rfl)
abbrev SX5_tries (pc : Nat) (i : xI) : Prop := Snd "SwollenHouseModel" "tries" prog_25_method_113_code 9 (Option.some Jvm.ClassFile.FieldType.int) [] pc i
theorem oX5_tries_0 : SX5_tries 0 (i_aload 0 1) := snd_aload_n dX5_tries_0 rfl
theorem oX5_tries_1 : SX5_tries 1 (i_const (.int (nI 0)) 2) := snd_iconst dX5_tries_1 (by decide)
theorem oX5_tries_2 : SX5_tries 2 (i_putfi 4 0 5) := snd_putfi dX5_tries_2 rfl (by decide) in_X5 tyX5 tyX5_ok nmX5 (Or.inl ⟨rfl, q1698⟩) (Or.inl rfl) rfl
theorem oX5_tries_5 : SX5_tries 5 (i_aload 0 6) := snd_aload_n dX5_tries_5 rfl
theorem oX5_tries_6 : SX5_tries 6 (i_cv 4 353 0 9) := snd_cv rfl infX5_wetsNow (by decide) rfl (xVm_V dX5_tries_6 rfl q2192 q2194 qs122 q136 q2195 pdX5_wetsNow)
theorem oX5_tries_9 : SX5_tries 9 (i_istore 1 10) := snd_istore_n dX5_tries_9 rfl (by decide)
theorem oX5_tries_10 : SX5_tries 10 (i_iload 1 11) := snd_iload_n dX5_tries_10 rfl
theorem oX5_tries_11 : SX5_tries 11 (i_cs 316 1 14) := snd_cs rfl infX5_bits (by decide) (xSm_S dX5_tries_11 q2045 q2046 q136 q2047 pdX5_bits)
theorem oX5_tries_14 : SX5_tries 14 (i_istore 2 15) := snd_istore_n dX5_tries_14 rfl (by decide)
theorem oX5_tries_15 : SX5_tries 15 (i_const (.int (-1)) 16) := snd_iconst dX5_tries_15 (by decide)
theorem oX5_tries_16 : SX5_tries 16 (i_istore 3 17) := snd_istore_n dX5_tries_16 rfl (by decide)
theorem oX5_tries_17 : SX5_tries 17 (i_iload 2 18) := snd_iload_n dX5_tries_17 rfl
theorem oX5_tries_18 : SX5_tries 18 (i_istore 4 20) := snd_istore dX5_tries_18 (by decide)
theorem oX5_tries_20 : SX5_tries 20 (i_const (.int (nI 1)) 21) := snd_iconst dX5_tries_20 (by decide)
theorem oX5_tries_21 : SX5_tries 21 (i_istore 5 23) := snd_istore dX5_tries_21 (by decide)
theorem oX5_tries_23 : SX5_tries 23 (i_iload 5 25) := snd_iload dX5_tries_23
theorem oX5_tries_25 : SX5_tries 25 (i_const (.int (nI 30)) 27) := snd_bipush dX5_tries_25 (by decide)
theorem oX5_tries_27 : SX5_tries 27 (i_if2 (fun x y => y < x) 166 30) := snd_icmp_gt dX5_tries_27 (by decide)
theorem oX5_tries_30 : SX5_tries 30 (i_const (.int (nI 0)) 31) := snd_iconst dX5_tries_30 (by decide)
theorem oX5_tries_31 : SX5_tries 31 (i_istore 6 33) := snd_istore dX5_tries_31 (by decide)
theorem oX5_tries_33 : SX5_tries 33 (i_iload 6 35) := snd_iload dX5_tries_33
theorem oX5_tries_35 : SX5_tries 35 (i_aload 0 36) := snd_aload_n dX5_tries_35 rfl
theorem oX5_tries_36 : SX5_tries 36 (i_cv 4 250 0 39) := snd_cv rfl infX5_doors (by decide) rfl (xVm_V dX5_tries_36 rfl q1686 q1688 qs60 q136 q1689 pdX5_doors)
theorem oX5_tries_39 : SX5_tries 39 (i_if2 (fun x y => y ≤ x) 160 42) := snd_icmp_ge dX5_tries_39 (by decide)
theorem oX5_tries_42 : SX5_tries 42 (i_const (.int (nI 0)) 43) := snd_iconst dX5_tries_42 (by decide)
theorem oX5_tries_43 : SX5_tries 43 (i_istore 7 45) := snd_istore dX5_tries_43 (by decide)
theorem oX5_tries_45 : SX5_tries 45 (i_const (.int (nI 0)) 46) := snd_iconst dX5_tries_45 (by decide)
theorem oX5_tries_46 : SX5_tries 46 (i_istore 8 48) := snd_istore dX5_tries_46 (by decide)
theorem oX5_tries_48 : SX5_tries 48 (i_iload 8 50) := snd_iload dX5_tries_48
theorem oX5_tries_50 : SX5_tries 50 (i_const (.int (nI 10)) 52) := snd_bipush dX5_tries_50 (by decide)
theorem oX5_tries_52 : SX5_tries 52 (i_if2 (fun x y => y ≤ x) 98 55) := snd_icmp_ge dX5_tries_52 (by decide)
theorem oX5_tries_55 : SX5_tries 55 (i_iload 7 57) := snd_iload dX5_tries_55
theorem oX5_tries_57 : SX5_tries 57 (i_iload 1 58) := snd_iload_n dX5_tries_57 rfl
theorem oX5_tries_58 : SX5_tries 58 (i_iload 8 60) := snd_iload dX5_tries_58
theorem oX5_tries_60 : SX5_tries 60 (i_ii (fun x y => x >>> (y &&& 31)) 61) := snd_ishr dX5_tries_60
theorem oX5_tries_61 : SX5_tries 61 (i_const (.int (nI 1)) 62) := snd_iconst dX5_tries_61 (by decide)
theorem oX5_tries_62 : SX5_tries 62 (i_ii (fun x y => x &&& y) 63) := snd_iand dX5_tries_62
theorem oX5_tries_63 : SX5_tries 63 (i_const (.int (nI 1)) 64) := snd_iconst dX5_tries_63 (by decide)
theorem oX5_tries_64 : SX5_tries 64 (i_if2 (fun x y => ¬ x = y) 88 67) := snd_icmp_ne dX5_tries_64 (by decide)
theorem oX5_tries_67 : SX5_tries 67 (i_aload 0 68) := snd_aload_n dX5_tries_67 rfl
theorem oX5_tries_68 : SX5_tries 68 (i_getf 4 30 71) := snd_getf dX5_tries_68 rfl (by decide) in_X5 (Or.inl q1728) (Or.inl rfl) (by decide)
theorem oX5_tries_71 : SX5_tries 71 (i_const (.int (nI 31)) 73) := snd_bipush dX5_tries_71 (by decide)
theorem oX5_tries_73 : SX5_tries 73 (i_iload 8 75) := snd_iload dX5_tries_73
theorem oX5_tries_75 : SX5_tries 75 (i_ii (fun x y => x * y) 76) := snd_imul dX5_tries_75
theorem oX5_tries_76 : SX5_tries 76 (i_iload 5 78) := snd_iload dX5_tries_76
theorem oX5_tries_78 : SX5_tries 78 (i_ii (fun x y => x + y) 79) := snd_iadd dX5_tries_78
theorem oX5_tries_79 : SX5_tries 79 (i_ai 0 80) := snd_ai0 dX5_tries_79
theorem oX5_tries_80 : SX5_tries 80 (i_iload 6 82) := snd_iload dX5_tries_80
theorem oX5_tries_82 : SX5_tries 82 (i_ii (fun x y => x >>> (y &&& 31)) 83) := snd_ishr dX5_tries_82
theorem oX5_tries_83 : SX5_tries 83 (i_const (.int (nI 1)) 84) := snd_iconst dX5_tries_83 (by decide)
theorem oX5_tries_84 : SX5_tries 84 (i_ii (fun x y => x &&& y) 85) := snd_iand dX5_tries_84
theorem oX5_tries_85 : SX5_tries 85 (i_goto 89) := snd_goto dX5_tries_85 (by decide)
theorem oX5_tries_88 : SX5_tries 88 (i_const (.int (nI 0)) 89) := snd_iconst dX5_tries_88 (by decide)
theorem oX5_tries_89 : SX5_tries 89 (i_ii (fun x y => x + y) 90) := snd_iadd dX5_tries_89
theorem oX5_tries_90 : SX5_tries 90 (i_istore 7 92) := snd_istore dX5_tries_90 (by decide)
theorem oX5_tries_92 : SX5_tries 92 (i_iinc 8 (nI 1) 95) := snd_iinc dX5_tries_92 (by decide) (by decide)
theorem oX5_tries_95 : SX5_tries 95 (i_goto 48) := snd_goto dX5_tries_95 (by decide)
theorem oX5_tries_98 : SX5_tries 98 (i_iload 7 100) := snd_iload dX5_tries_98
theorem oX5_tries_100 : SX5_tries 100 (i_iload 2 101) := snd_iload_n dX5_tries_100 rfl
theorem oX5_tries_101 : SX5_tries 101 (i_iload 7 103) := snd_iload dX5_tries_101
theorem oX5_tries_103 : SX5_tries 103 (i_ii (fun x y => x - y) 104) := snd_isub dX5_tries_103
theorem oX5_tries_104 : SX5_tries 104 (i_if2 (fun x y => x ≤ y) 112 107) := snd_icmp_le dX5_tries_104 (by decide)
theorem oX5_tries_107 : SX5_tries 107 (i_iload 7 109) := snd_iload dX5_tries_107
theorem oX5_tries_109 : SX5_tries 109 (i_goto 116) := snd_goto dX5_tries_109 (by decide)
theorem oX5_tries_112 : SX5_tries 112 (i_iload 2 113) := snd_iload_n dX5_tries_112 rfl
theorem oX5_tries_113 : SX5_tries 113 (i_iload 7 115) := snd_iload dX5_tries_113
theorem oX5_tries_115 : SX5_tries 115 (i_ii (fun x y => x - y) 116) := snd_isub dX5_tries_115
theorem oX5_tries_116 : SX5_tries 116 (i_istore 8 118) := snd_istore dX5_tries_116 (by decide)
theorem oX5_tries_118 : SX5_tries 118 (i_iload 8 120) := snd_iload dX5_tries_118
theorem oX5_tries_120 : SX5_tries 120 (i_iload 4 122) := snd_iload dX5_tries_120
theorem oX5_tries_122 : SX5_tries 122 (i_if2 (fun x y => y ≤ x) 136 125) := snd_icmp_ge dX5_tries_122 (by decide)
theorem oX5_tries_125 : SX5_tries 125 (i_const (.int (nI 8)) 127) := snd_bipush dX5_tries_125 (by decide)
theorem oX5_tries_127 : SX5_tries 127 (i_iload 5 129) := snd_iload dX5_tries_127
theorem oX5_tries_129 : SX5_tries 129 (i_ii (fun x y => x * y) 130) := snd_imul dX5_tries_129
theorem oX5_tries_130 : SX5_tries 130 (i_iload 6 132) := snd_iload dX5_tries_130
theorem oX5_tries_132 : SX5_tries 132 (i_ii (fun x y => x + y) 133) := snd_iadd dX5_tries_132
theorem oX5_tries_133 : SX5_tries 133 (i_goto 137) := snd_goto dX5_tries_133 (by decide)
theorem oX5_tries_136 : SX5_tries 136 (i_iload 3 137) := snd_iload_n dX5_tries_136 rfl
theorem oX5_tries_137 : SX5_tries 137 (i_istore 3 138) := snd_istore_n dX5_tries_137 rfl (by decide)
theorem oX5_tries_138 : SX5_tries 138 (i_iload 8 140) := snd_iload dX5_tries_138
theorem oX5_tries_140 : SX5_tries 140 (i_iload 4 142) := snd_iload dX5_tries_140
theorem oX5_tries_142 : SX5_tries 142 (i_if2 (fun x y => y ≤ x) 150 145) := snd_icmp_ge dX5_tries_142 (by decide)
theorem oX5_tries_145 : SX5_tries 145 (i_iload 8 147) := snd_iload dX5_tries_145
theorem oX5_tries_147 : SX5_tries 147 (i_goto 152) := snd_goto dX5_tries_147 (by decide)
theorem oX5_tries_150 : SX5_tries 150 (i_iload 4 152) := snd_iload dX5_tries_150
theorem oX5_tries_152 : SX5_tries 152 (i_istore 4 154) := snd_istore dX5_tries_152 (by decide)
theorem oX5_tries_154 : SX5_tries 154 (i_iinc 6 (nI 1) 157) := snd_iinc dX5_tries_154 (by decide) (by decide)
theorem oX5_tries_157 : SX5_tries 157 (i_goto 33) := snd_goto dX5_tries_157 (by decide)
theorem oX5_tries_160 : SX5_tries 160 (i_iinc 5 (nI 1) 163) := snd_iinc dX5_tries_160 (by decide) (by decide)
theorem oX5_tries_163 : SX5_tries 163 (i_goto 23) := snd_goto dX5_tries_163 (by decide)
theorem oX5_tries_166 : SX5_tries 166 (i_iload 3 167) := snd_iload_n dX5_tries_166 rfl
theorem oX5_tries_167 : SX5_tries 167 (i_iret) := snd_iret dX5_tries_167 rfl
theorem okX5_tries : ∀ q ∈ cX5_tries, SX5_tries q.1 q.2 := List.forall_mem_cons.mpr ⟨oX5_tries_0, List.forall_mem_cons.mpr ⟨oX5_tries_1, List.forall_mem_cons.mpr ⟨oX5_tries_2, List.forall_mem_cons.mpr ⟨oX5_tries_5, List.forall_mem_cons.mpr ⟨oX5_tries_6, List.forall_mem_cons.mpr ⟨oX5_tries_9, List.forall_mem_cons.mpr ⟨oX5_tries_10, List.forall_mem_cons.mpr ⟨oX5_tries_11, List.forall_mem_cons.mpr ⟨oX5_tries_14, List.forall_mem_cons.mpr ⟨oX5_tries_15, List.forall_mem_cons.mpr ⟨oX5_tries_16, List.forall_mem_cons.mpr ⟨oX5_tries_17, List.forall_mem_cons.mpr ⟨oX5_tries_18, List.forall_mem_cons.mpr ⟨oX5_tries_20, List.forall_mem_cons.mpr ⟨oX5_tries_21, List.forall_mem_cons.mpr ⟨oX5_tries_23, List.forall_mem_cons.mpr ⟨oX5_tries_25, List.forall_mem_cons.mpr ⟨oX5_tries_27, List.forall_mem_cons.mpr ⟨oX5_tries_30, List.forall_mem_cons.mpr ⟨oX5_tries_31, List.forall_mem_cons.mpr ⟨oX5_tries_33, List.forall_mem_cons.mpr ⟨oX5_tries_35, List.forall_mem_cons.mpr ⟨oX5_tries_36, List.forall_mem_cons.mpr ⟨oX5_tries_39, List.forall_mem_cons.mpr ⟨oX5_tries_42, List.forall_mem_cons.mpr ⟨oX5_tries_43, List.forall_mem_cons.mpr ⟨oX5_tries_45, List.forall_mem_cons.mpr ⟨oX5_tries_46, List.forall_mem_cons.mpr ⟨oX5_tries_48, List.forall_mem_cons.mpr ⟨oX5_tries_50, List.forall_mem_cons.mpr ⟨oX5_tries_52, List.forall_mem_cons.mpr ⟨oX5_tries_55, List.forall_mem_cons.mpr ⟨oX5_tries_57, List.forall_mem_cons.mpr ⟨oX5_tries_58, List.forall_mem_cons.mpr ⟨oX5_tries_60, List.forall_mem_cons.mpr ⟨oX5_tries_61, List.forall_mem_cons.mpr ⟨oX5_tries_62, List.forall_mem_cons.mpr ⟨oX5_tries_63, List.forall_mem_cons.mpr ⟨oX5_tries_64, List.forall_mem_cons.mpr ⟨oX5_tries_67, List.forall_mem_cons.mpr ⟨oX5_tries_68, List.forall_mem_cons.mpr ⟨oX5_tries_71, List.forall_mem_cons.mpr ⟨oX5_tries_73, List.forall_mem_cons.mpr ⟨oX5_tries_75, List.forall_mem_cons.mpr ⟨oX5_tries_76, List.forall_mem_cons.mpr ⟨oX5_tries_78, List.forall_mem_cons.mpr ⟨oX5_tries_79, List.forall_mem_cons.mpr ⟨oX5_tries_80, List.forall_mem_cons.mpr ⟨oX5_tries_82, List.forall_mem_cons.mpr ⟨oX5_tries_83, List.forall_mem_cons.mpr ⟨oX5_tries_84, List.forall_mem_cons.mpr ⟨oX5_tries_85, List.forall_mem_cons.mpr ⟨oX5_tries_88, List.forall_mem_cons.mpr ⟨oX5_tries_89, List.forall_mem_cons.mpr ⟨oX5_tries_90, List.forall_mem_cons.mpr ⟨oX5_tries_92, List.forall_mem_cons.mpr ⟨oX5_tries_95, List.forall_mem_cons.mpr ⟨oX5_tries_98, List.forall_mem_cons.mpr ⟨oX5_tries_100, List.forall_mem_cons.mpr ⟨oX5_tries_101, List.forall_mem_cons.mpr ⟨oX5_tries_103, List.forall_mem_cons.mpr ⟨oX5_tries_104, List.forall_mem_cons.mpr ⟨oX5_tries_107, List.forall_mem_cons.mpr ⟨oX5_tries_109, List.forall_mem_cons.mpr ⟨oX5_tries_112, List.forall_mem_cons.mpr ⟨oX5_tries_113, List.forall_mem_cons.mpr ⟨oX5_tries_115, List.forall_mem_cons.mpr ⟨oX5_tries_116, List.forall_mem_cons.mpr ⟨oX5_tries_118, List.forall_mem_cons.mpr ⟨oX5_tries_120, List.forall_mem_cons.mpr ⟨oX5_tries_122, List.forall_mem_cons.mpr ⟨oX5_tries_125, List.forall_mem_cons.mpr ⟨oX5_tries_127, List.forall_mem_cons.mpr ⟨oX5_tries_129, List.forall_mem_cons.mpr ⟨oX5_tries_130, List.forall_mem_cons.mpr ⟨oX5_tries_132, List.forall_mem_cons.mpr ⟨oX5_tries_133, List.forall_mem_cons.mpr ⟨oX5_tries_136, List.forall_mem_cons.mpr ⟨oX5_tries_137, List.forall_mem_cons.mpr ⟨oX5_tries_138, List.forall_mem_cons.mpr ⟨oX5_tries_140, List.forall_mem_cons.mpr ⟨oX5_tries_142, List.forall_mem_cons.mpr ⟨oX5_tries_145, List.forall_mem_cons.mpr ⟨oX5_tries_147, List.forall_mem_cons.mpr ⟨oX5_tries_150, List.forall_mem_cons.mpr ⟨oX5_tries_152, List.forall_mem_cons.mpr ⟨oX5_tries_154, List.forall_mem_cons.mpr ⟨oX5_tries_157, List.forall_mem_cons.mpr ⟨oX5_tries_160, List.forall_mem_cons.mpr ⟨oX5_tries_163, List.forall_mem_cons.mpr ⟨oX5_tries_166, List.forall_mem_cons.mpr ⟨oX5_tries_167, fun _ h => absurd h List.not_mem_nil⟩⟩⟩⟩⟩⟩⟩⟩⟩⟩⟩⟩⟩⟩⟩⟩⟩⟩⟩⟩⟩⟩⟩⟩⟩⟩⟩⟩⟩⟩⟩⟩⟩⟩⟩⟩⟩⟩⟩⟩⟩⟩⟩⟩⟩⟩⟩⟩⟩⟩⟩⟩⟩⟩⟩⟩⟩⟩⟩⟩⟩⟩⟩⟩⟩⟩⟩⟩⟩⟩⟩⟩⟩⟩⟩⟩⟩⟩⟩⟩⟩⟩⟩⟩⟩⟩⟩⟩⟩⟩⟩⟩
def dkwX5_say_3 : List UInt8 := [92, 46, 4, 96, 79, 4, 172]
abbrev dktX5_say_3 : List UInt8 := dkwX5_say_3 ++ []
def dkwX5_say_2 : List UInt8 := [96, 62, 42, 180, 0, 113, 29, 27, 79, 42, 180, 0, 113, 29, 4, 96, 28, 79, 42, 180, 0, 113, 16, 48]
abbrev dktX5_say_2 : List UInt8 := dkwX5_say_2 ++ dktX5_say_3
def dkwX5_say_1 : List UInt8 := [180, 0, 113, 16, 48, 46, 16, 8, 160, 0, 5, 3, 172, 16, 49, 5, 42, 180, 0, 113, 16, 48, 46, 104]
abbrev dktX5_say_1 : List UInt8 := dkwX5_say_1 ++ dktX5_say_2
def dkwX5_say_0 : List UInt8 := [42, 3, 181, 0, 1, 42, 27, 182, 1, 101, 153, 0, 25, 28, 3, 16, 40, 184, 0, 204, 153, 0, 15, 42]
abbrev dktX5_say_0 : List UInt8 := dkwX5_say_0 ++ dktX5_say_1
theorem dksX5_say_0 : bcX5_say.data.toList.drop 0 = dktX5_say_0 := by decide +kernel
theorem dksX5_say_1 : bcX5_say.data.toList.drop 24 = dktX5_say_1 := dk_seg dksX5_say_0 24 rfl rfl
theorem dksX5_say_2 : bcX5_say.data.toList.drop 48 = dktX5_say_2 := dk_seg dksX5_say_1 24 rfl rfl
theorem dksX5_say_3 : bcX5_say.data.toList.drop 72 = dktX5_say_3 := dk_seg dksX5_say_2 24 rfl rfl
theorem dX5_say_0 : decode bcX5_say 0 = .ok (.aload_n 0, 1) := dk_42 (dk_at dksX5_say_0 0 rfl rfl)
theorem dX5_say_1 : decode bcX5_say 1 = .ok (.iconst 0, 1) := dk_3 (dk_at dksX5_say_0 1 rfl rfl)
theorem dX5_say_2 : decode bcX5_say 2 = .ok (.putfield 1, 3) := dk_181 0 1 (dk_at dksX5_say_0 2 rfl rfl)
theorem dX5_say_5 : decode bcX5_say 5 = .ok (.aload_n 0, 1) := dk_42 (dk_at dksX5_say_0 5 rfl rfl)
theorem dX5_say_6 : decode bcX5_say 6 = .ok (.iload_n 1, 1) := dk_27 (dk_at dksX5_say_0 6 rfl rfl)
theorem dX5_say_7 : decode bcX5_say 7 = .ok (.invokevirtual 357, 3) := dk_182 1 101 (dk_at dksX5_say_0 7 rfl rfl)
theorem dX5_say_10 : decode bcX5_say 10 = .ok (.ifCond .eq 25, 3) := dk_153 0 25 (dk_at dksX5_say_0 10 rfl rfl)
theorem dX5_say_13 : decode bcX5_say 13 = .ok (.iload_n 2, 1) := dk_28 (dk_at dksX5_say_0 13 rfl rfl)
theorem dX5_say_14 : decode bcX5_say 14 = .ok (.iconst 0, 1) := dk_3 (dk_at dksX5_say_0 14 rfl rfl)
theorem dX5_say_15 : decode bcX5_say 15 = .ok (.bipush 40, 2) := dk_16 40 (dk_at dksX5_say_0 15 rfl rfl)
theorem dX5_say_17 : decode bcX5_say 17 = .ok (.invokestatic 204, 3) := dk_184 0 204 (dk_at dksX5_say_0 17 rfl rfl)
theorem dX5_say_20 : decode bcX5_say 20 = .ok (.ifCond .eq 15, 3) := dk_153 0 15 (dk_at dksX5_say_0 20 rfl rfl)
theorem dX5_say_23 : decode bcX5_say 23 = .ok (.aload_n 0, 1) := dk_42 (dk_at dksX5_say_0 23 rfl rfl)
theorem dX5_say_24 : decode bcX5_say 24 = .ok (.getfield 113, 3) := dk_180 0 113 (dk_at dksX5_say_1 0 rfl rfl)
theorem dX5_say_27 : decode bcX5_say 27 = .ok (.bipush 48, 2) := dk_16 48 (dk_at dksX5_say_1 3 rfl rfl)
theorem dX5_say_29 : decode bcX5_say 29 = .ok (.iaload, 1) := dk_46 (dk_at dksX5_say_1 5 rfl rfl)
theorem dX5_say_30 : decode bcX5_say 30 = .ok (.bipush 8, 2) := dk_16 8 (dk_at dksX5_say_1 6 rfl rfl)
theorem dX5_say_32 : decode bcX5_say 32 = .ok (.if_icmp .ne 5, 3) := dk_160 0 5 (dk_at dksX5_say_1 8 rfl rfl)
theorem dX5_say_35 : decode bcX5_say 35 = .ok (.iconst 0, 1) := dk_3 (dk_at dksX5_say_1 11 rfl rfl)
theorem dX5_say_36 : decode bcX5_say 36 = .ok (.ireturn, 1) := dk_172 (dk_at dksX5_say_1 12 rfl rfl)
theorem dX5_say_37 : decode bcX5_say 37 = .ok (.bipush 49, 2) := dk_16 49 (dk_at dksX5_say_1 13 rfl rfl)
theorem dX5_say_39 : decode bcX5_say 39 = .ok (.iconst 2, 1) := dk_5 (dk_at dksX5_say_1 15 rfl rfl)
theorem dX5_say_40 : decode bcX5_say 40 = .ok (.aload_n 0, 1) := dk_42 (dk_at dksX5_say_1 16 rfl rfl)
theorem dX5_say_41 : decode bcX5_say 41 = .ok (.getfield 113, 3) := dk_180 0 113 (dk_at dksX5_say_1 17 rfl rfl)
theorem dX5_say_44 : decode bcX5_say 44 = .ok (.bipush 48, 2) := dk_16 48 (dk_at dksX5_say_1 20 rfl rfl)
theorem dX5_say_46 : decode bcX5_say 46 = .ok (.iaload, 1) := dk_46 (dk_at dksX5_say_1 22 rfl rfl)
theorem dX5_say_47 : decode bcX5_say 47 = .ok (.imul, 1) := dk_104 (dk_at dksX5_say_1 23 rfl rfl)
theorem dX5_say_48 : decode bcX5_say 48 = .ok (.iadd, 1) := dk_96 (dk_at dksX5_say_2 0 rfl rfl)
theorem dX5_say_49 : decode bcX5_say 49 = .ok (.istore_n 3, 1) := dk_62 (dk_at dksX5_say_2 1 rfl rfl)
theorem dX5_say_50 : decode bcX5_say 50 = .ok (.aload_n 0, 1) := dk_42 (dk_at dksX5_say_2 2 rfl rfl)
theorem dX5_say_51 : decode bcX5_say 51 = .ok (.getfield 113, 3) := dk_180 0 113 (dk_at dksX5_say_2 3 rfl rfl)
theorem dX5_say_54 : decode bcX5_say 54 = .ok (.iload_n 3, 1) := dk_29 (dk_at dksX5_say_2 6 rfl rfl)
theorem dX5_say_55 : decode bcX5_say 55 = .ok (.iload_n 1, 1) := dk_27 (dk_at dksX5_say_2 7 rfl rfl)
theorem dX5_say_56 : decode bcX5_say 56 = .ok (.iastore, 1) := dk_79 (dk_at dksX5_say_2 8 rfl rfl)
theorem dX5_say_57 : decode bcX5_say 57 = .ok (.aload_n 0, 1) := dk_42 (dk_at dksX5_say_2 9 rfl rfl)
theorem dX5_say_58 : decode bcX5_say 58 = .ok (.getfield 113, 3) := dk_180 0 113 (dk_at dksX5_say_2 10 rfl rfl)
theorem dX5_say_61 : decode bcX5_say 61 = .ok (.iload_n 3, 1) := dk_29 (dk_at dksX5_say_2 13 rfl rfl)
theorem dX5_say_62 : decode bcX5_say 62 = .ok (.iconst 1, 1) := dk_4 (dk_at dksX5_say_2 14 rfl rfl)
theorem dX5_say_63 : decode bcX5_say 63 = .ok (.iadd, 1) := dk_96 (dk_at dksX5_say_2 15 rfl rfl)
theorem dX5_say_64 : decode bcX5_say 64 = .ok (.iload_n 2, 1) := dk_28 (dk_at dksX5_say_2 16 rfl rfl)
theorem dX5_say_65 : decode bcX5_say 65 = .ok (.iastore, 1) := dk_79 (dk_at dksX5_say_2 17 rfl rfl)
theorem dX5_say_66 : decode bcX5_say 66 = .ok (.aload_n 0, 1) := dk_42 (dk_at dksX5_say_2 18 rfl rfl)
theorem dX5_say_67 : decode bcX5_say 67 = .ok (.getfield 113, 3) := dk_180 0 113 (dk_at dksX5_say_2 19 rfl rfl)
theorem dX5_say_70 : decode bcX5_say 70 = .ok (.bipush 48, 2) := dk_16 48 (dk_at dksX5_say_2 22 rfl rfl)
theorem dX5_say_72 : decode bcX5_say 72 = .ok (.dup2, 1) := dk_92 (dk_at dksX5_say_3 0 rfl rfl)
theorem dX5_say_73 : decode bcX5_say 73 = .ok (.iaload, 1) := dk_46 (dk_at dksX5_say_3 1 rfl rfl)
theorem dX5_say_74 : decode bcX5_say 74 = .ok (.iconst 1, 1) := dk_4 (dk_at dksX5_say_3 2 rfl rfl)
theorem dX5_say_75 : decode bcX5_say 75 = .ok (.iadd, 1) := dk_96 (dk_at dksX5_say_3 3 rfl rfl)
theorem dX5_say_76 : decode bcX5_say 76 = .ok (.iastore, 1) := dk_79 (dk_at dksX5_say_3 4 rfl rfl)
theorem dX5_say_77 : decode bcX5_say 77 = .ok (.iconst 1, 1) := dk_4 (dk_at dksX5_say_3 5 rfl rfl)
theorem dX5_say_78 : decode bcX5_say 78 = .ok (.ireturn, 1) := dk_172 (dk_at dksX5_say_3 6 rfl rfl)
abbrev SX5_say (pc : Nat) (i : xI) : Prop := Snd "SwollenHouseModel" "say" prog_25_method_114_code 4 (Option.some Jvm.ClassFile.FieldType.boolean) [] pc i
theorem oX5_say_0 : SX5_say 0 (i_aload 0 1) := snd_aload_n dX5_say_0 rfl
theorem oX5_say_1 : SX5_say 1 (i_const (.int (nI 0)) 2) := snd_iconst dX5_say_1 (by decide)
theorem oX5_say_2 : SX5_say 2 (i_putfi 4 0 5) := snd_putfi dX5_say_2 rfl (by decide) in_X5 tyX5 tyX5_ok nmX5 (Or.inl ⟨rfl, q1698⟩) (Or.inl rfl) rfl
theorem oX5_say_5 : SX5_say 5 (i_aload 0 6) := snd_aload_n dX5_say_5 rfl
theorem oX5_say_6 : SX5_say 6 (i_iload 1 7) := snd_iload_n dX5_say_6 rfl
theorem oX5_say_7 : SX5_say 7 (i_cv 4 319 1 10) := snd_cv rfl infX5_isRoom (by decide) rfl (xVm_V dX5_say_7 rfl q2056 q2058 qs109 q136 q2059 pdX5_isRoom)
theorem oX5_say_10 : SX5_say 10 (i_if1 (fun x => x = 0) 35 13) := snd_if_eq dX5_say_10 (by decide)
theorem oX5_say_13 : SX5_say 13 (i_iload 2 14) := snd_iload_n dX5_say_13 rfl
theorem oX5_say_14 : SX5_say 14 (i_const (.int (nI 0)) 15) := snd_iconst dX5_say_14 (by decide)
theorem oX5_say_15 : SX5_say 15 (i_const (.int (nI 40)) 17) := snd_bipush dX5_say_15 (by decide)
theorem oX5_say_17 : SX5_say 17 (i_cs 268 3 20) := snd_cs rfl infX5_within (by decide) (xSm_S dX5_say_17 q1855 q1856 q136 q1857 pdX5_within)
theorem oX5_say_20 : SX5_say 20 (i_if1 (fun x => x = 0) 35 23) := snd_if_eq dX5_say_20 (by decide)
theorem oX5_say_23 : SX5_say 23 (i_aload 0 24) := snd_aload_n dX5_say_23 rfl
theorem oX5_say_24 : SX5_say 24 (i_getf 4 24 27) := snd_getf dX5_say_24 rfl (by decide) in_X5 (Or.inl q1722) (Or.inl rfl) (by decide)
theorem oX5_say_27 : SX5_say 27 (i_const (.int (nI 48)) 29) := snd_bipush dX5_say_27 (by decide)
theorem oX5_say_29 : SX5_say 29 (i_ai 0 30) := snd_ai0 dX5_say_29
theorem oX5_say_30 : SX5_say 30 (i_const (.int (nI 8)) 32) := snd_bipush dX5_say_30 (by decide)
theorem oX5_say_32 : SX5_say 32 (i_if2 (fun x y => ¬ x = y) 37 35) := snd_icmp_ne dX5_say_32 (by decide)
theorem oX5_say_35 : SX5_say 35 (i_const (.int (nI 0)) 36) := snd_iconst dX5_say_35 (by decide)
theorem oX5_say_36 : SX5_say 36 (i_zret) := snd_zret dX5_say_36 rfl
theorem oX5_say_37 : SX5_say 37 (i_const (.int (nI 49)) 39) := snd_bipush dX5_say_37 (by decide)
theorem oX5_say_39 : SX5_say 39 (i_const (.int (nI 2)) 40) := snd_iconst dX5_say_39 (by decide)
theorem oX5_say_40 : SX5_say 40 (i_aload 0 41) := snd_aload_n dX5_say_40 rfl
theorem oX5_say_41 : SX5_say 41 (i_getf 4 24 44) := snd_getf dX5_say_41 rfl (by decide) in_X5 (Or.inl q1722) (Or.inl rfl) (by decide)
theorem oX5_say_44 : SX5_say 44 (i_const (.int (nI 48)) 46) := snd_bipush dX5_say_44 (by decide)
theorem oX5_say_46 : SX5_say 46 (i_ai 0 47) := snd_ai0 dX5_say_46
theorem oX5_say_47 : SX5_say 47 (i_ii (fun x y => x * y) 48) := snd_imul dX5_say_47
theorem oX5_say_48 : SX5_say 48 (i_ii (fun x y => x + y) 49) := snd_iadd dX5_say_48
theorem oX5_say_49 : SX5_say 49 (i_istore 3 50) := snd_istore_n dX5_say_49 rfl (by decide)
theorem oX5_say_50 : SX5_say 50 (i_aload 0 51) := snd_aload_n dX5_say_50 rfl
theorem oX5_say_51 : SX5_say 51 (i_getf 4 24 54) := snd_getf dX5_say_51 rfl (by decide) in_X5 (Or.inl q1722) (Or.inl rfl) (by decide)
theorem oX5_say_54 : SX5_say 54 (i_iload 3 55) := snd_iload_n dX5_say_54 rfl
theorem oX5_say_55 : SX5_say 55 (i_iload 1 56) := snd_iload_n dX5_say_55 rfl
theorem oX5_say_56 : SX5_say 56 (i_si (fun v => v) 0 57) := snd_si0 dX5_say_56
theorem oX5_say_57 : SX5_say 57 (i_aload 0 58) := snd_aload_n dX5_say_57 rfl
theorem oX5_say_58 : SX5_say 58 (i_getf 4 24 61) := snd_getf dX5_say_58 rfl (by decide) in_X5 (Or.inl q1722) (Or.inl rfl) (by decide)
theorem oX5_say_61 : SX5_say 61 (i_iload 3 62) := snd_iload_n dX5_say_61 rfl
theorem oX5_say_62 : SX5_say 62 (i_const (.int (nI 1)) 63) := snd_iconst dX5_say_62 (by decide)
theorem oX5_say_63 : SX5_say 63 (i_ii (fun x y => x + y) 64) := snd_iadd dX5_say_63
theorem oX5_say_64 : SX5_say 64 (i_iload 2 65) := snd_iload_n dX5_say_64 rfl
theorem oX5_say_65 : SX5_say 65 (i_si (fun v => v) 0 66) := snd_si0 dX5_say_65
theorem oX5_say_66 : SX5_say 66 (i_aload 0 67) := snd_aload_n dX5_say_66 rfl
theorem oX5_say_67 : SX5_say 67 (i_getf 4 24 70) := snd_getf dX5_say_67 rfl (by decide) in_X5 (Or.inl q1722) (Or.inl rfl) (by decide)
theorem oX5_say_70 : SX5_say 70 (i_const (.int (nI 48)) 72) := snd_bipush dX5_say_70 (by decide)
theorem oX5_say_72 : SX5_say 72 (i_dup2 73) := snd_dup2 dX5_say_72
theorem oX5_say_73 : SX5_say 73 (i_ai 0 74) := snd_ai0 dX5_say_73
theorem oX5_say_74 : SX5_say 74 (i_const (.int (nI 1)) 75) := snd_iconst dX5_say_74 (by decide)
theorem oX5_say_75 : SX5_say 75 (i_ii (fun x y => x + y) 76) := snd_iadd dX5_say_75
theorem oX5_say_76 : SX5_say 76 (i_si (fun v => v) 0 77) := snd_si0 dX5_say_76
theorem oX5_say_77 : SX5_say 77 (i_const (.int (nI 1)) 78) := snd_iconst dX5_say_77 (by decide)
theorem oX5_say_78 : SX5_say 78 (i_zret) := snd_zret dX5_say_78 rfl
theorem okX5_say : ∀ q ∈ cX5_say, SX5_say q.1 q.2 := List.forall_mem_cons.mpr ⟨oX5_say_0, List.forall_mem_cons.mpr ⟨oX5_say_1, List.forall_mem_cons.mpr ⟨oX5_say_2, List.forall_mem_cons.mpr ⟨oX5_say_5, List.forall_mem_cons.mpr ⟨oX5_say_6, List.forall_mem_cons.mpr ⟨oX5_say_7, List.forall_mem_cons.mpr ⟨oX5_say_10, List.forall_mem_cons.mpr ⟨oX5_say_13, List.forall_mem_cons.mpr ⟨oX5_say_14, List.forall_mem_cons.mpr ⟨oX5_say_15, List.forall_mem_cons.mpr ⟨oX5_say_17, List.forall_mem_cons.mpr ⟨oX5_say_20, List.forall_mem_cons.mpr ⟨oX5_say_23, List.forall_mem_cons.mpr ⟨oX5_say_24, List.forall_mem_cons.mpr ⟨oX5_say_27, List.forall_mem_cons.mpr ⟨oX5_say_29, List.forall_mem_cons.mpr ⟨oX5_say_30, List.forall_mem_cons.mpr ⟨oX5_say_32, List.forall_mem_cons.mpr ⟨oX5_say_35, List.forall_mem_cons.mpr ⟨oX5_say_36, List.forall_mem_cons.mpr ⟨oX5_say_37, List.forall_mem_cons.mpr ⟨oX5_say_39, List.forall_mem_cons.mpr ⟨oX5_say_40, List.forall_mem_cons.mpr ⟨oX5_say_41, List.forall_mem_cons.mpr ⟨oX5_say_44, List.forall_mem_cons.mpr ⟨oX5_say_46, List.forall_mem_cons.mpr ⟨oX5_say_47, List.forall_mem_cons.mpr ⟨oX5_say_48, List.forall_mem_cons.mpr ⟨oX5_say_49, List.forall_mem_cons.mpr ⟨oX5_say_50, List.forall_mem_cons.mpr ⟨oX5_say_51, List.forall_mem_cons.mpr ⟨oX5_say_54, List.forall_mem_cons.mpr ⟨oX5_say_55, List.forall_mem_cons.mpr ⟨oX5_say_56, List.forall_mem_cons.mpr ⟨oX5_say_57, List.forall_mem_cons.mpr ⟨oX5_say_58, List.forall_mem_cons.mpr ⟨oX5_say_61, List.forall_mem_cons.mpr ⟨oX5_say_62, List.forall_mem_cons.mpr ⟨oX5_say_63, List.forall_mem_cons.mpr ⟨oX5_say_64, List.forall_mem_cons.mpr ⟨oX5_say_65, List.forall_mem_cons.mpr ⟨oX5_say_66, List.forall_mem_cons.mpr ⟨oX5_say_67, List.forall_mem_cons.mpr ⟨oX5_say_70, List.forall_mem_cons.mpr ⟨oX5_say_72, List.forall_mem_cons.mpr ⟨oX5_say_73, List.forall_mem_cons.mpr ⟨oX5_say_74, List.forall_mem_cons.mpr ⟨oX5_say_75, List.forall_mem_cons.mpr ⟨oX5_say_76, List.forall_mem_cons.mpr ⟨oX5_say_77, List.forall_mem_cons.mpr ⟨oX5_say_78, fun _ h => absurd h List.not_mem_nil⟩⟩⟩⟩⟩⟩⟩⟩⟩⟩⟩⟩⟩⟩⟩⟩⟩⟩⟩⟩⟩⟩⟩⟩⟩⟩⟩⟩⟩⟩⟩⟩⟩⟩⟩⟩⟩⟩⟩⟩⟩⟩⟩⟩⟩⟩⟩⟩⟩⟩⟩
def dkwX5_who_5 : List UInt8 := [27, 172]
abbrev dktX5_who_5 : List UInt8 := dkwX5_who_5 ++ []
def dkwX5_who_4 : List UInt8 := [2, 167, 0, 9, 4, 21, 4, 120, 2, 130, 126, 60, 132, 4, 1, 167, 255, 191, 132, 2, 1, 167, 255, 164]
abbrev dktX5_who_4 : List UInt8 := dkwX5_who_4 ++ dktX5_who_5
def dkwX5_who_3 : List UInt8 := [182, 1, 126, 54, 5, 27, 21, 5, 155, 0, 20, 21, 5, 42, 180, 0, 113, 29, 4, 96, 46, 163, 0, 7]
abbrev dktX5_who_3 : List UInt8 := dkwX5_who_3 ++ dktX5_who_4
def dkwX5_who_2 : List UInt8 := [182, 1, 23, 162, 0, 62, 42, 42, 180, 0, 113, 16, 18, 21, 4, 96, 46, 42, 180, 0, 113, 29, 46]
abbrev dktX5_who_2 : List UInt8 := dkwX5_who_2 ++ dktX5_who_3
def dkwX5_who_1 : List UInt8 := [180, 0, 113, 16, 48, 46, 162, 0, 87, 16, 49, 5, 28, 104, 96, 62, 3, 54, 4, 21, 4, 42]
abbrev dktX5_who_1 : List UInt8 := dkwX5_who_1 ++ dktX5_who_2
def dkwX5_who_0 : List UInt8 := [42, 3, 181, 0, 1, 42, 182, 1, 123, 4, 42, 182, 1, 23, 120, 4, 100, 60, 3, 61, 28, 42]
abbrev dktX5_who_0 : List UInt8 := dkwX5_who_0 ++ dktX5_who_1
theorem dksX5_who_0 : bcX5_who.data.toList.drop 0 = dktX5_who_0 := by decide +kernel
theorem dksX5_who_1 : bcX5_who.data.toList.drop 22 = dktX5_who_1 := dk_seg dksX5_who_0 22 rfl rfl
theorem dksX5_who_2 : bcX5_who.data.toList.drop 44 = dktX5_who_2 := dk_seg dksX5_who_1 22 rfl rfl
theorem dksX5_who_3 : bcX5_who.data.toList.drop 67 = dktX5_who_3 := dk_seg dksX5_who_2 23 rfl rfl
theorem dksX5_who_4 : bcX5_who.data.toList.drop 91 = dktX5_who_4 := dk_seg dksX5_who_3 24 rfl rfl
theorem dksX5_who_5 : bcX5_who.data.toList.drop 115 = dktX5_who_5 := dk_seg dksX5_who_4 24 rfl rfl
theorem dX5_who_0 : decode bcX5_who 0 = .ok (.aload_n 0, 1) := dk_42 (dk_at dksX5_who_0 0 rfl rfl)
theorem dX5_who_1 : decode bcX5_who 1 = .ok (.iconst 0, 1) := dk_3 (dk_at dksX5_who_0 1 rfl rfl)
theorem dX5_who_2 : decode bcX5_who 2 = .ok (.putfield 1, 3) := dk_181 0 1 (dk_at dksX5_who_0 2 rfl rfl)
theorem dX5_who_5 : decode bcX5_who 5 = .ok (.aload_n 0, 1) := dk_42 (dk_at dksX5_who_0 5 rfl rfl)
theorem dX5_who_6 : decode bcX5_who 6 = .ok (.invokevirtual 379, 3) := dk_182 1 123 (dk_at dksX5_who_0 6 rfl rfl)
theorem dX5_who_9 : decode bcX5_who 9 = .ok (.iconst 1, 1) := dk_4 (dk_at dksX5_who_0 9 rfl rfl)
theorem dX5_who_10 : decode bcX5_who 10 = .ok (.aload_n 0, 1) := dk_42 (dk_at dksX5_who_0 10 rfl rfl)
theorem dX5_who_11 : decode bcX5_who 11 = .ok (.invokevirtual 279, 3) := dk_182 1 23 (dk_at dksX5_who_0 11 rfl rfl)
theorem dX5_who_14 : decode bcX5_who 14 = .ok (.ishl, 1) := dk_120 (dk_at dksX5_who_0 14 rfl rfl)
theorem dX5_who_15 : decode bcX5_who 15 = .ok (.iconst 1, 1) := dk_4 (dk_at dksX5_who_0 15 rfl rfl)
theorem dX5_who_16 : decode bcX5_who 16 = .ok (.isub, 1) := dk_100 (dk_at dksX5_who_0 16 rfl rfl)
theorem dX5_who_17 : decode bcX5_who 17 = .ok (.istore_n 1, 1) := dk_60 (dk_at dksX5_who_0 17 rfl rfl)
theorem dX5_who_18 : decode bcX5_who 18 = .ok (.iconst 0, 1) := dk_3 (dk_at dksX5_who_0 18 rfl rfl)
theorem dX5_who_19 : decode bcX5_who 19 = .ok (.istore_n 2, 1) := dk_61 (dk_at dksX5_who_0 19 rfl rfl)
theorem dX5_who_20 : decode bcX5_who 20 = .ok (.iload_n 2, 1) := dk_28 (dk_at dksX5_who_0 20 rfl rfl)
theorem dX5_who_21 : decode bcX5_who 21 = .ok (.aload_n 0, 1) := dk_42 (dk_at dksX5_who_0 21 rfl rfl)
theorem dX5_who_22 : decode bcX5_who 22 = .ok (.getfield 113, 3) := dk_180 0 113 (dk_at dksX5_who_1 0 rfl rfl)
theorem dX5_who_25 : decode bcX5_who 25 = .ok (.bipush 48, 2) := dk_16 48 (dk_at dksX5_who_1 3 rfl rfl)
theorem dX5_who_27 : decode bcX5_who 27 = .ok (.iaload, 1) := dk_46 (dk_at dksX5_who_1 5 rfl rfl)
theorem dX5_who_28 : decode bcX5_who 28 = .ok (.if_icmp .ge 87, 3) := dk_162 0 87 (dk_at dksX5_who_1 6 rfl rfl)
theorem dX5_who_31 : decode bcX5_who 31 = .ok (.bipush 49, 2) := dk_16 49 (dk_at dksX5_who_1 9 rfl rfl)
theorem dX5_who_33 : decode bcX5_who 33 = .ok (.iconst 2, 1) := dk_5 (dk_at dksX5_who_1 11 rfl rfl)
theorem dX5_who_34 : decode bcX5_who 34 = .ok (.iload_n 2, 1) := dk_28 (dk_at dksX5_who_1 12 rfl rfl)
theorem dX5_who_35 : decode bcX5_who 35 = .ok (.imul, 1) := dk_104 (dk_at dksX5_who_1 13 rfl rfl)
theorem dX5_who_36 : decode bcX5_who 36 = .ok (.iadd, 1) := dk_96 (dk_at dksX5_who_1 14 rfl rfl)
theorem dX5_who_37 : decode bcX5_who 37 = .ok (.istore_n 3, 1) := dk_62 (dk_at dksX5_who_1 15 rfl rfl)
theorem dX5_who_38 : decode bcX5_who 38 = .ok (.iconst 0, 1) := dk_3 (dk_at dksX5_who_1 16 rfl rfl)
theorem dX5_who_39 : decode bcX5_who 39 = .ok (.istore 4, 2) := dk_54 4 (dk_at dksX5_who_1 17 rfl rfl)
theorem dX5_who_41 : decode bcX5_who 41 = .ok (.iload 4, 2) := dk_21 4 (dk_at dksX5_who_1 19 rfl rfl)
theorem dX5_who_43 : decode bcX5_who 43 = .ok (.aload_n 0, 1) := dk_42 (dk_at dksX5_who_1 21 rfl rfl)
theorem dX5_who_44 : decode bcX5_who 44 = .ok (.invokevirtual 279, 3) := dk_182 1 23 (dk_at dksX5_who_2 0 rfl rfl)
theorem dX5_who_47 : decode bcX5_who 47 = .ok (.if_icmp .ge 62, 3) := dk_162 0 62 (dk_at dksX5_who_2 3 rfl rfl)
theorem dX5_who_50 : decode bcX5_who 50 = .ok (.aload_n 0, 1) := dk_42 (dk_at dksX5_who_2 6 rfl rfl)
theorem dX5_who_51 : decode bcX5_who 51 = .ok (.aload_n 0, 1) := dk_42 (dk_at dksX5_who_2 7 rfl rfl)
theorem dX5_who_52 : decode bcX5_who 52 = .ok (.getfield 113, 3) := dk_180 0 113 (dk_at dksX5_who_2 8 rfl rfl)
theorem dX5_who_55 : decode bcX5_who 55 = .ok (.bipush 18, 2) := dk_16 18 (dk_at dksX5_who_2 11 rfl rfl)
theorem dX5_who_57 : decode bcX5_who 57 = .ok (.iload 4, 2) := dk_21 4 (dk_at dksX5_who_2 13 rfl rfl)
theorem dX5_who_59 : decode bcX5_who 59 = .ok (.iadd, 1) := dk_96 (dk_at dksX5_who_2 15 rfl rfl)
theorem dX5_who_60 : decode bcX5_who 60 = .ok (.iaload, 1) := dk_46 (dk_at dksX5_who_2 16 rfl rfl)
theorem dX5_who_61 : decode bcX5_who 61 = .ok (.aload_n 0, 1) := dk_42 (dk_at dksX5_who_2 17 rfl rfl)
theorem dX5_who_62 : decode bcX5_who 62 = .ok (.getfield 113, 3) := dk_180 0 113 (dk_at dksX5_who_2 18 rfl rfl)
theorem dX5_who_65 : decode bcX5_who 65 = .ok (.iload_n 3, 1) := dk_29 (dk_at dksX5_who_2 21 rfl rfl)
theorem dX5_who_66 : decode bcX5_who 66 = .ok (.iaload, 1) := dk_46 (dk_at dksX5_who_2 22 rfl rfl)
theorem dX5_who_67 : decode bcX5_who 67 = .ok (.invokevirtual 382, 3) := dk_182 1 126 (dk_at dksX5_who_3 0 rfl rfl)
theorem dX5_who_70 : decode bcX5_who 70 = .ok (.istore 5, 2) := dk_54 5 (dk_at dksX5_who_3 3 rfl rfl)
theorem dX5_who_72 : decode bcX5_who 72 = .ok (.iload_n 1, 1) := dk_27 (dk_at dksX5_who_3 5 rfl rfl)
theorem dX5_who_73 : decode bcX5_who 73 = .ok (.iload 5, 2) := dk_21 5 (dk_at dksX5_who_3 6 rfl rfl)
theorem dX5_who_75 : decode bcX5_who 75 = .ok (.ifCond .lt 20, 3) := dk_155 0 20 (dk_at dksX5_who_3 8 rfl rfl)
theorem dX5_who_78 : decode bcX5_who 78 = .ok (.iload 5, 2) := dk_21 5 (dk_at dksX5_who_3 11 rfl rfl)
theorem dX5_who_80 : decode bcX5_who 80 = .ok (.aload_n 0, 1) := dk_42 (dk_at dksX5_who_3 13 rfl rfl)
theorem dX5_who_81 : decode bcX5_who 81 = .ok (.getfield 113, 3) := dk_180 0 113 (dk_at dksX5_who_3 14 rfl rfl)
theorem dX5_who_84 : decode bcX5_who 84 = .ok (.iload_n 3, 1) := dk_29 (dk_at dksX5_who_3 17 rfl rfl)
theorem dX5_who_85 : decode bcX5_who 85 = .ok (.iconst 1, 1) := dk_4 (dk_at dksX5_who_3 18 rfl rfl)
theorem dX5_who_86 : decode bcX5_who 86 = .ok (.iadd, 1) := dk_96 (dk_at dksX5_who_3 19 rfl rfl)
theorem dX5_who_87 : decode bcX5_who 87 = .ok (.iaload, 1) := dk_46 (dk_at dksX5_who_3 20 rfl rfl)
theorem dX5_who_88 : decode bcX5_who 88 = .ok (.if_icmp .gt 7, 3) := dk_163 0 7 (dk_at dksX5_who_3 21 rfl rfl)
theorem dX5_who_91 : decode bcX5_who 91 = .ok (.iconst (-1), 1) := dk_2 (dk_at dksX5_who_4 0 rfl rfl)
theorem dX5_who_92 : decode bcX5_who 92 = .ok (.goto 9, 3) := dk_167 0 9 (dk_at dksX5_who_4 1 rfl rfl)
theorem dX5_who_95 : decode bcX5_who 95 = .ok (.iconst 1, 1) := dk_4 (dk_at dksX5_who_4 4 rfl rfl)
theorem dX5_who_96 : decode bcX5_who 96 = .ok (.iload 4, 2) := dk_21 4 (dk_at dksX5_who_4 5 rfl rfl)
theorem dX5_who_98 : decode bcX5_who 98 = .ok (.ishl, 1) := dk_120 (dk_at dksX5_who_4 7 rfl rfl)
theorem dX5_who_99 : decode bcX5_who 99 = .ok (.iconst (-1), 1) := dk_2 (dk_at dksX5_who_4 8 rfl rfl)
theorem dX5_who_100 : decode bcX5_who 100 = .ok (.ixor, 1) := dk_130 (dk_at dksX5_who_4 9 rfl rfl)
theorem dX5_who_101 : decode bcX5_who 101 = .ok (.iand, 1) := dk_126 (dk_at dksX5_who_4 10 rfl rfl)
theorem dX5_who_102 : decode bcX5_who 102 = .ok (.istore_n 1, 1) := dk_60 (dk_at dksX5_who_4 11 rfl rfl)
theorem dX5_who_103 : decode bcX5_who 103 = .ok (.iinc 4 1, 3) := dk_132 4 1 (dk_at dksX5_who_4 12 rfl rfl)
theorem dX5_who_106 : decode bcX5_who 106 = .ok (.goto (-65), 3) := dk_167 255 191 (dk_at dksX5_who_4 15 rfl rfl)
theorem dX5_who_109 : decode bcX5_who 109 = .ok (.iinc 2 1, 3) := dk_132 2 1 (dk_at dksX5_who_4 18 rfl rfl)
theorem dX5_who_112 : decode bcX5_who 112 = .ok (.goto (-92), 3) := dk_167 255 164 (dk_at dksX5_who_4 21 rfl rfl)
theorem dX5_who_115 : decode bcX5_who 115 = .ok (.iload_n 1, 1) := dk_27 (dk_at dksX5_who_5 0 rfl rfl)
theorem dX5_who_116 : decode bcX5_who 116 = .ok (.ireturn, 1) := dk_172 (dk_at dksX5_who_5 1 rfl rfl)
abbrev SX5_who (pc : Nat) (i : xI) : Prop := Snd "SwollenHouseModel" "who" prog_25_method_115_code 6 (Option.some Jvm.ClassFile.FieldType.int) [] pc i
theorem oX5_who_0 : SX5_who 0 (i_aload 0 1) := snd_aload_n dX5_who_0 rfl
theorem oX5_who_1 : SX5_who 1 (i_const (.int (nI 0)) 2) := snd_iconst dX5_who_1 (by decide)
theorem oX5_who_2 : SX5_who 2 (i_putfi 4 0 5) := snd_putfi dX5_who_2 rfl (by decide) in_X5 tyX5 tyX5_ok nmX5 (Or.inl ⟨rfl, q1698⟩) (Or.inl rfl) rfl
theorem oX5_who_5 : SX5_who 5 (i_aload 0 6) := snd_aload_n dX5_who_5 rfl
theorem oX5_who_6 : SX5_who 6 (i_cvv 4 344 0 9) := snd_cvv rfl infX5_opensThen (by decide) rfl (xVm_V dX5_who_6 rfl q2156 q2158 qs118 q136 q2159 pdX5_opensThen)
theorem oX5_who_9 : SX5_who 9 (i_const (.int (nI 1)) 10) := snd_iconst dX5_who_9 (by decide)
theorem oX5_who_10 : SX5_who 10 (i_aload 0 11) := snd_aload_n dX5_who_10 rfl
theorem oX5_who_11 : SX5_who 11 (i_cv 4 252 0 14) := snd_cv rfl infX5_persons (by decide) rfl (xVm_V dX5_who_11 rfl q1694 q1696 qs62 q136 q1697 pdX5_persons)
theorem oX5_who_14 : SX5_who 14 (i_ii (fun x y => x <<< (y &&& 31)) 15) := snd_ishl dX5_who_14
theorem oX5_who_15 : SX5_who 15 (i_const (.int (nI 1)) 16) := snd_iconst dX5_who_15 (by decide)
theorem oX5_who_16 : SX5_who 16 (i_ii (fun x y => x - y) 17) := snd_isub dX5_who_16
theorem oX5_who_17 : SX5_who 17 (i_istore 1 18) := snd_istore_n dX5_who_17 rfl (by decide)
theorem oX5_who_18 : SX5_who 18 (i_const (.int (nI 0)) 19) := snd_iconst dX5_who_18 (by decide)
theorem oX5_who_19 : SX5_who 19 (i_istore 2 20) := snd_istore_n dX5_who_19 rfl (by decide)
theorem oX5_who_20 : SX5_who 20 (i_iload 2 21) := snd_iload_n dX5_who_20 rfl
theorem oX5_who_21 : SX5_who 21 (i_aload 0 22) := snd_aload_n dX5_who_21 rfl
theorem oX5_who_22 : SX5_who 22 (i_getf 4 24 25) := snd_getf dX5_who_22 rfl (by decide) in_X5 (Or.inl q1722) (Or.inl rfl) (by decide)
theorem oX5_who_25 : SX5_who 25 (i_const (.int (nI 48)) 27) := snd_bipush dX5_who_25 (by decide)
theorem oX5_who_27 : SX5_who 27 (i_ai 0 28) := snd_ai0 dX5_who_27
theorem oX5_who_28 : SX5_who 28 (i_if2 (fun x y => y ≤ x) 115 31) := snd_icmp_ge dX5_who_28 (by decide)
theorem oX5_who_31 : SX5_who 31 (i_const (.int (nI 49)) 33) := snd_bipush dX5_who_31 (by decide)
theorem oX5_who_33 : SX5_who 33 (i_const (.int (nI 2)) 34) := snd_iconst dX5_who_33 (by decide)
theorem oX5_who_34 : SX5_who 34 (i_iload 2 35) := snd_iload_n dX5_who_34 rfl
theorem oX5_who_35 : SX5_who 35 (i_ii (fun x y => x * y) 36) := snd_imul dX5_who_35
theorem oX5_who_36 : SX5_who 36 (i_ii (fun x y => x + y) 37) := snd_iadd dX5_who_36
theorem oX5_who_37 : SX5_who 37 (i_istore 3 38) := snd_istore_n dX5_who_37 rfl (by decide)
theorem oX5_who_38 : SX5_who 38 (i_const (.int (nI 0)) 39) := snd_iconst dX5_who_38 (by decide)
theorem oX5_who_39 : SX5_who 39 (i_istore 4 41) := snd_istore dX5_who_39 (by decide)
theorem oX5_who_41 : SX5_who 41 (i_iload 4 43) := snd_iload dX5_who_41
theorem oX5_who_43 : SX5_who 43 (i_aload 0 44) := snd_aload_n dX5_who_43 rfl
theorem oX5_who_44 : SX5_who 44 (i_cv 4 252 0 47) := snd_cv rfl infX5_persons (by decide) rfl (xVm_V dX5_who_44 rfl q1694 q1696 qs62 q136 q1697 pdX5_persons)
theorem oX5_who_47 : SX5_who 47 (i_if2 (fun x y => y ≤ x) 109 50) := snd_icmp_ge dX5_who_47 (by decide)
theorem oX5_who_50 : SX5_who 50 (i_aload 0 51) := snd_aload_n dX5_who_50 rfl
theorem oX5_who_51 : SX5_who 51 (i_aload 0 52) := snd_aload_n dX5_who_51 rfl
theorem oX5_who_52 : SX5_who 52 (i_getf 4 24 55) := snd_getf dX5_who_52 rfl (by decide) in_X5 (Or.inl q1722) (Or.inl rfl) (by decide)
theorem oX5_who_55 : SX5_who 55 (i_const (.int (nI 18)) 57) := snd_bipush dX5_who_55 (by decide)
theorem oX5_who_57 : SX5_who 57 (i_iload 4 59) := snd_iload dX5_who_57
theorem oX5_who_59 : SX5_who 59 (i_ii (fun x y => x + y) 60) := snd_iadd dX5_who_59
theorem oX5_who_60 : SX5_who 60 (i_ai 0 61) := snd_ai0 dX5_who_60
theorem oX5_who_61 : SX5_who 61 (i_aload 0 62) := snd_aload_n dX5_who_61 rfl
theorem oX5_who_62 : SX5_who 62 (i_getf 4 24 65) := snd_getf dX5_who_62 rfl (by decide) in_X5 (Or.inl q1722) (Or.inl rfl) (by decide)
theorem oX5_who_65 : SX5_who 65 (i_iload 3 66) := snd_iload_n dX5_who_65 rfl
theorem oX5_who_66 : SX5_who 66 (i_ai 0 67) := snd_ai0 dX5_who_66
theorem oX5_who_67 : SX5_who 67 (i_cv 4 345 2 70) := snd_cv rfl infX5_arrivesBy (by decide) rfl (xVm_V dX5_who_67 rfl q2160 q2162 qs119 q136 q2163 pdX5_arrivesBy)
theorem oX5_who_70 : SX5_who 70 (i_istore 5 72) := snd_istore dX5_who_70 (by decide)
theorem oX5_who_72 : SX5_who 72 (i_iload 1 73) := snd_iload_n dX5_who_72 rfl
theorem oX5_who_73 : SX5_who 73 (i_iload 5 75) := snd_iload dX5_who_73
theorem oX5_who_75 : SX5_who 75 (i_if1 (fun x => x < 0) 95 78) := snd_if_lt dX5_who_75 (by decide)
theorem oX5_who_78 : SX5_who 78 (i_iload 5 80) := snd_iload dX5_who_78
theorem oX5_who_80 : SX5_who 80 (i_aload 0 81) := snd_aload_n dX5_who_80 rfl
theorem oX5_who_81 : SX5_who 81 (i_getf 4 24 84) := snd_getf dX5_who_81 rfl (by decide) in_X5 (Or.inl q1722) (Or.inl rfl) (by decide)
theorem oX5_who_84 : SX5_who 84 (i_iload 3 85) := snd_iload_n dX5_who_84 rfl
theorem oX5_who_85 : SX5_who 85 (i_const (.int (nI 1)) 86) := snd_iconst dX5_who_85 (by decide)
theorem oX5_who_86 : SX5_who 86 (i_ii (fun x y => x + y) 87) := snd_iadd dX5_who_86
theorem oX5_who_87 : SX5_who 87 (i_ai 0 88) := snd_ai0 dX5_who_87
theorem oX5_who_88 : SX5_who 88 (i_if2 (fun x y => y < x) 95 91) := snd_icmp_gt dX5_who_88 (by decide)
theorem oX5_who_91 : SX5_who 91 (i_const (.int (-1)) 92) := snd_iconst dX5_who_91 (by decide)
theorem oX5_who_92 : SX5_who 92 (i_goto 101) := snd_goto dX5_who_92 (by decide)
theorem oX5_who_95 : SX5_who 95 (i_const (.int (nI 1)) 96) := snd_iconst dX5_who_95 (by decide)
theorem oX5_who_96 : SX5_who 96 (i_iload 4 98) := snd_iload dX5_who_96
theorem oX5_who_98 : SX5_who 98 (i_ii (fun x y => x <<< (y &&& 31)) 99) := snd_ishl dX5_who_98
theorem oX5_who_99 : SX5_who 99 (i_const (.int (-1)) 100) := snd_iconst dX5_who_99 (by decide)
theorem oX5_who_100 : SX5_who 100 (i_ii (fun x y => x ^^^ y) 101) := snd_ixor dX5_who_100
theorem oX5_who_101 : SX5_who 101 (i_ii (fun x y => x &&& y) 102) := snd_iand dX5_who_101
theorem oX5_who_102 : SX5_who 102 (i_istore 1 103) := snd_istore_n dX5_who_102 rfl (by decide)
theorem oX5_who_103 : SX5_who 103 (i_iinc 4 (nI 1) 106) := snd_iinc dX5_who_103 (by decide) (by decide)
theorem oX5_who_106 : SX5_who 106 (i_goto 41) := snd_goto dX5_who_106 (by decide)
theorem oX5_who_109 : SX5_who 109 (i_iinc 2 (nI 1) 112) := snd_iinc dX5_who_109 (by decide) (by decide)
theorem oX5_who_112 : SX5_who 112 (i_goto 20) := snd_goto dX5_who_112 (by decide)
theorem oX5_who_115 : SX5_who 115 (i_iload 1 116) := snd_iload_n dX5_who_115 rfl
theorem oX5_who_116 : SX5_who 116 (i_iret) := snd_iret dX5_who_116 rfl
theorem okX5_who : ∀ q ∈ cX5_who, SX5_who q.1 q.2 := List.forall_mem_cons.mpr ⟨oX5_who_0, List.forall_mem_cons.mpr ⟨oX5_who_1, List.forall_mem_cons.mpr ⟨oX5_who_2, List.forall_mem_cons.mpr ⟨oX5_who_5, List.forall_mem_cons.mpr ⟨oX5_who_6, List.forall_mem_cons.mpr ⟨oX5_who_9, List.forall_mem_cons.mpr ⟨oX5_who_10, List.forall_mem_cons.mpr ⟨oX5_who_11, List.forall_mem_cons.mpr ⟨oX5_who_14, List.forall_mem_cons.mpr ⟨oX5_who_15, List.forall_mem_cons.mpr ⟨oX5_who_16, List.forall_mem_cons.mpr ⟨oX5_who_17, List.forall_mem_cons.mpr ⟨oX5_who_18, List.forall_mem_cons.mpr ⟨oX5_who_19, List.forall_mem_cons.mpr ⟨oX5_who_20, List.forall_mem_cons.mpr ⟨oX5_who_21, List.forall_mem_cons.mpr ⟨oX5_who_22, List.forall_mem_cons.mpr ⟨oX5_who_25, List.forall_mem_cons.mpr ⟨oX5_who_27, List.forall_mem_cons.mpr ⟨oX5_who_28, List.forall_mem_cons.mpr ⟨oX5_who_31, List.forall_mem_cons.mpr ⟨oX5_who_33, List.forall_mem_cons.mpr ⟨oX5_who_34, List.forall_mem_cons.mpr ⟨oX5_who_35, List.forall_mem_cons.mpr ⟨oX5_who_36, List.forall_mem_cons.mpr ⟨oX5_who_37, List.forall_mem_cons.mpr ⟨oX5_who_38, List.forall_mem_cons.mpr ⟨oX5_who_39, List.forall_mem_cons.mpr ⟨oX5_who_41, List.forall_mem_cons.mpr ⟨oX5_who_43, List.forall_mem_cons.mpr ⟨oX5_who_44, List.forall_mem_cons.mpr ⟨oX5_who_47, List.forall_mem_cons.mpr ⟨oX5_who_50, List.forall_mem_cons.mpr ⟨oX5_who_51, List.forall_mem_cons.mpr ⟨oX5_who_52, List.forall_mem_cons.mpr ⟨oX5_who_55, List.forall_mem_cons.mpr ⟨oX5_who_57, List.forall_mem_cons.mpr ⟨oX5_who_59, List.forall_mem_cons.mpr ⟨oX5_who_60, List.forall_mem_cons.mpr ⟨oX5_who_61, List.forall_mem_cons.mpr ⟨oX5_who_62, List.forall_mem_cons.mpr ⟨oX5_who_65, List.forall_mem_cons.mpr ⟨oX5_who_66, List.forall_mem_cons.mpr ⟨oX5_who_67, List.forall_mem_cons.mpr ⟨oX5_who_70, List.forall_mem_cons.mpr ⟨oX5_who_72, List.forall_mem_cons.mpr ⟨oX5_who_73, List.forall_mem_cons.mpr ⟨oX5_who_75, List.forall_mem_cons.mpr ⟨oX5_who_78, List.forall_mem_cons.mpr ⟨oX5_who_80, List.forall_mem_cons.mpr ⟨oX5_who_81, List.forall_mem_cons.mpr ⟨oX5_who_84, List.forall_mem_cons.mpr ⟨oX5_who_85, List.forall_mem_cons.mpr ⟨oX5_who_86, List.forall_mem_cons.mpr ⟨oX5_who_87, List.forall_mem_cons.mpr ⟨oX5_who_88, List.forall_mem_cons.mpr ⟨oX5_who_91, List.forall_mem_cons.mpr ⟨oX5_who_92, List.forall_mem_cons.mpr ⟨oX5_who_95, List.forall_mem_cons.mpr ⟨oX5_who_96, List.forall_mem_cons.mpr ⟨oX5_who_98, List.forall_mem_cons.mpr ⟨oX5_who_99, List.forall_mem_cons.mpr ⟨oX5_who_100, List.forall_mem_cons.mpr ⟨oX5_who_101, List.forall_mem_cons.mpr ⟨oX5_who_102, List.forall_mem_cons.mpr ⟨oX5_who_103, List.forall_mem_cons.mpr ⟨oX5_who_106, List.forall_mem_cons.mpr ⟨oX5_who_109, List.forall_mem_cons.mpr ⟨oX5_who_112, List.forall_mem_cons.mpr ⟨oX5_who_115, List.forall_mem_cons.mpr ⟨oX5_who_116, fun _ h => absurd h List.not_mem_nil⟩⟩⟩⟩⟩⟩⟩⟩⟩⟩⟩⟩⟩⟩⟩⟩⟩⟩⟩⟩⟩⟩⟩⟩⟩⟩⟩⟩⟩⟩⟩⟩⟩⟩⟩⟩⟩⟩⟩⟩⟩⟩⟩⟩⟩⟩⟩⟩⟩⟩⟩⟩⟩⟩⟩⟩⟩⟩⟩⟩⟩⟩⟩⟩⟩⟩⟩⟩⟩⟩⟩
def dkwX5_chance_8 : List UInt8 := [22, 4, 109, 136, 172]
abbrev dktX5_chance_8 : List UInt8 := dkwX5_chance_8 ++ []
def dkwX5_chance_7 : List UInt8 := [153, 0, 8, 22, 9, 167, 0, 4, 9, 97, 55, 6, 132, 8, 1, 167, 255, 145, 22, 6, 20, 1, 139, 105]
abbrev dktX5_chance_7 : List UInt8 := dkwX5_chance_7 ++ dktX5_chance_8
def dkwX5_chance_6 : List UInt8 := [167, 0, 4, 3, 182, 1, 57, 132, 11, 1, 167, 255, 191, 22, 6, 42, 17, 5, 85, 27, 182, 1, 45]
abbrev dktX5_chance_6 : List UInt8 := dkwX5_chance_6 ++ dktX5_chance_7
def dkwX5_chance_5 : List UInt8 := [167, 0, 8, 16, 10, 29, 100, 133, 105, 55, 9, 42, 17, 5, 85, 21, 12, 153, 0, 8, 16, 9]
abbrev dktX5_chance_5 : List UInt8 := dkwX5_chance_5 ++ dktX5_chance_6
def dkwX5_chance_4 : List UInt8 := [122, 4, 126, 4, 160, 0, 7, 4, 167, 0, 4, 3, 54, 12, 22, 9, 21, 12, 153, 0, 8, 29, 133]
abbrev dktX5_chance_4 : List UInt8 := dkwX5_chance_4 ++ dktX5_chance_5
def dkwX5_chance_3 : List UInt8 := [120, 162, 0, 109, 42, 182, 1, 116, 10, 55, 9, 3, 54, 11, 21, 11, 28, 162, 0, 65, 21, 8, 21, 11]
abbrev dktX5_chance_3 : List UInt8 := dkwX5_chance_3 ++ dktX5_chance_4
def dkwX5_chance_2 : List UInt8 := [162, 0, 17, 22, 4, 20, 0, 155, 105, 55, 4, 132, 8, 1, 167, 255, 239, 3, 54, 8, 21, 8, 4, 28]
abbrev dktX5_chance_2 : List UInt8 := dkwX5_chance_2 ++ dktX5_chance_3
def dkwX5_chance_1 : List UInt8 := [3, 16, 10, 184, 0, 204, 154, 0, 5, 2, 172, 10, 55, 4, 9, 55, 6, 3, 54, 8, 21, 8, 28]
abbrev dktX5_chance_1 : List UInt8 := dkwX5_chance_1 ++ dktX5_chance_2
def dkwX5_chance_0 : List UInt8 := [42, 3, 181, 0, 1, 42, 27, 182, 1, 63, 153, 0, 23, 28, 4, 16, 6, 184, 0, 204, 153, 0, 13, 29]
abbrev dktX5_chance_0 : List UInt8 := dkwX5_chance_0 ++ dktX5_chance_1
theorem dksX5_chance_0 : bcX5_chance.data.toList.drop 0 = dktX5_chance_0 := by decide +kernel
theorem dksX5_chance_1 : bcX5_chance.data.toList.drop 24 = dktX5_chance_1 := dk_seg dksX5_chance_0 24 rfl rfl
theorem dksX5_chance_2 : bcX5_chance.data.toList.drop 47 = dktX5_chance_2 := dk_seg dksX5_chance_1 23 rfl rfl
theorem dksX5_chance_3 : bcX5_chance.data.toList.drop 71 = dktX5_chance_3 := dk_seg dksX5_chance_2 24 rfl rfl
theorem dksX5_chance_4 : bcX5_chance.data.toList.drop 95 = dktX5_chance_4 := dk_seg dksX5_chance_3 24 rfl rfl
theorem dksX5_chance_5 : bcX5_chance.data.toList.drop 118 = dktX5_chance_5 := dk_seg dksX5_chance_4 23 rfl rfl
theorem dksX5_chance_6 : bcX5_chance.data.toList.drop 140 = dktX5_chance_6 := dk_seg dksX5_chance_5 22 rfl rfl
theorem dksX5_chance_7 : bcX5_chance.data.toList.drop 163 = dktX5_chance_7 := dk_seg dksX5_chance_6 23 rfl rfl
theorem dksX5_chance_8 : bcX5_chance.data.toList.drop 187 = dktX5_chance_8 := dk_seg dksX5_chance_7 24 rfl rfl
theorem dX5_chance_0 : decode bcX5_chance 0 = .ok (.aload_n 0, 1) := dk_42 (dk_at dksX5_chance_0 0 rfl rfl)
theorem dX5_chance_1 : decode bcX5_chance 1 = .ok (.iconst 0, 1) := dk_3 (dk_at dksX5_chance_0 1 rfl rfl)
theorem dX5_chance_2 : decode bcX5_chance 2 = .ok (.putfield 1, 3) := dk_181 0 1 (dk_at dksX5_chance_0 2 rfl rfl)
theorem dX5_chance_5 : decode bcX5_chance 5 = .ok (.aload_n 0, 1) := dk_42 (dk_at dksX5_chance_0 5 rfl rfl)
theorem dX5_chance_6 : decode bcX5_chance 6 = .ok (.iload_n 1, 1) := dk_27 (dk_at dksX5_chance_0 6 rfl rfl)
theorem dX5_chance_7 : decode bcX5_chance 7 = .ok (.invokevirtual 319, 3) := dk_182 1 63 (dk_at dksX5_chance_0 7 rfl rfl)
theorem dX5_chance_10 : decode bcX5_chance 10 = .ok (.ifCond .eq 23, 3) := dk_153 0 23 (dk_at dksX5_chance_0 10 rfl rfl)
theorem dX5_chance_13 : decode bcX5_chance 13 = .ok (.iload_n 2, 1) := dk_28 (dk_at dksX5_chance_0 13 rfl rfl)
theorem dX5_chance_14 : decode bcX5_chance 14 = .ok (.iconst 1, 1) := dk_4 (dk_at dksX5_chance_0 14 rfl rfl)
theorem dX5_chance_15 : decode bcX5_chance 15 = .ok (.bipush 6, 2) := dk_16 6 (dk_at dksX5_chance_0 15 rfl rfl)
theorem dX5_chance_17 : decode bcX5_chance 17 = .ok (.invokestatic 204, 3) := dk_184 0 204 (dk_at dksX5_chance_0 17 rfl rfl)
theorem dX5_chance_20 : decode bcX5_chance 20 = .ok (.ifCond .eq 13, 3) := dk_153 0 13 (dk_at dksX5_chance_0 20 rfl rfl)
theorem dX5_chance_23 : decode bcX5_chance 23 = .ok (.iload_n 3, 1) := dk_29 (dk_at dksX5_chance_0 23 rfl rfl)
theorem dX5_chance_24 : decode bcX5_chance 24 = .ok (.iconst 0, 1) := dk_3 (dk_at dksX5_chance_1 0 rfl rfl)
theorem dX5_chance_25 : decode bcX5_chance 25 = .ok (.bipush 10, 2) := dk_16 10 (dk_at dksX5_chance_1 1 rfl rfl)
theorem dX5_chance_27 : decode bcX5_chance 27 = .ok (.invokestatic 204, 3) := dk_184 0 204 (dk_at dksX5_chance_1 3 rfl rfl)
theorem dX5_chance_30 : decode bcX5_chance 30 = .ok (.ifCond .ne 5, 3) := dk_154 0 5 (dk_at dksX5_chance_1 6 rfl rfl)
theorem dX5_chance_33 : decode bcX5_chance 33 = .ok (.iconst (-1), 1) := dk_2 (dk_at dksX5_chance_1 9 rfl rfl)
theorem dX5_chance_34 : decode bcX5_chance 34 = .ok (.ireturn, 1) := dk_172 (dk_at dksX5_chance_1 10 rfl rfl)
theorem dX5_chance_35 : decode bcX5_chance 35 = .ok (.lconst 1, 1) := dk_10 (dk_at dksX5_chance_1 11 rfl rfl)
theorem dX5_chance_36 : decode bcX5_chance 36 = .ok (.lstore 4, 2) := dk_55 4 (dk_at dksX5_chance_1 12 rfl rfl)
theorem dX5_chance_38 : decode bcX5_chance 38 = .ok (.lconst 0, 1) := dk_9 (dk_at dksX5_chance_1 14 rfl rfl)
theorem dX5_chance_39 : decode bcX5_chance 39 = .ok (.lstore 6, 2) := dk_55 6 (dk_at dksX5_chance_1 15 rfl rfl)
theorem dX5_chance_41 : decode bcX5_chance 41 = .ok (.iconst 0, 1) := dk_3 (dk_at dksX5_chance_1 17 rfl rfl)
theorem dX5_chance_42 : decode bcX5_chance 42 = .ok (.istore 8, 2) := dk_54 8 (dk_at dksX5_chance_1 18 rfl rfl)
theorem dX5_chance_44 : decode bcX5_chance 44 = .ok (.iload 8, 2) := dk_21 8 (dk_at dksX5_chance_1 20 rfl rfl)
theorem dX5_chance_46 : decode bcX5_chance 46 = .ok (.iload_n 2, 1) := dk_28 (dk_at dksX5_chance_1 22 rfl rfl)
theorem dX5_chance_47 : decode bcX5_chance 47 = .ok (.if_icmp .ge 17, 3) := dk_162 0 17 (dk_at dksX5_chance_2 0 rfl rfl)
theorem dX5_chance_50 : decode bcX5_chance 50 = .ok (.lload 4, 2) := dk_22 4 (dk_at dksX5_chance_2 3 rfl rfl)
theorem dX5_chance_52 : decode bcX5_chance 52 = .ok (.ldc2_w 155, 3) := dk_20 0 155 (dk_at dksX5_chance_2 5 rfl rfl)
theorem dX5_chance_55 : decode bcX5_chance 55 = .ok (.lmul, 1) := dk_105 (dk_at dksX5_chance_2 8 rfl rfl)
theorem dX5_chance_56 : decode bcX5_chance 56 = .ok (.lstore 4, 2) := dk_55 4 (dk_at dksX5_chance_2 9 rfl rfl)
theorem dX5_chance_58 : decode bcX5_chance 58 = .ok (.iinc 8 1, 3) := dk_132 8 1 (dk_at dksX5_chance_2 11 rfl rfl)
theorem dX5_chance_61 : decode bcX5_chance 61 = .ok (.goto (-17), 3) := dk_167 255 239 (dk_at dksX5_chance_2 14 rfl rfl)
theorem dX5_chance_64 : decode bcX5_chance 64 = .ok (.iconst 0, 1) := dk_3 (dk_at dksX5_chance_2 17 rfl rfl)
theorem dX5_chance_65 : decode bcX5_chance 65 = .ok (.istore 8, 2) := dk_54 8 (dk_at dksX5_chance_2 18 rfl rfl)
theorem dX5_chance_67 : decode bcX5_chance 67 = .ok (.iload 8, 2) := dk_21 8 (dk_at dksX5_chance_2 20 rfl rfl)
theorem dX5_chance_69 : decode bcX5_chance 69 = .ok (.iconst 1, 1) := dk_4 (dk_at dksX5_chance_2 22 rfl rfl)
theorem dX5_chance_70 : decode bcX5_chance 70 = .ok (.iload_n 2, 1) := dk_28 (dk_at dksX5_chance_2 23 rfl rfl)
theorem dX5_chance_71 : decode bcX5_chance 71 = .ok (.ishl, 1) := dk_120 (dk_at dksX5_chance_3 0 rfl rfl)
theorem dX5_chance_72 : decode bcX5_chance 72 = .ok (.if_icmp .ge 109, 3) := dk_162 0 109 (dk_at dksX5_chance_3 1 rfl rfl)
theorem dX5_chance_75 : decode bcX5_chance 75 = .ok (.aload_n 0, 1) := dk_42 (dk_at dksX5_chance_3 4 rfl rfl)
theorem dX5_chance_76 : decode bcX5_chance 76 = .ok (.invokevirtual 372, 3) := dk_182 1 116 (dk_at dksX5_chance_3 5 rfl rfl)
theorem dX5_chance_79 : decode bcX5_chance 79 = .ok (.lconst 1, 1) := dk_10 (dk_at dksX5_chance_3 8 rfl rfl)
theorem dX5_chance_80 : decode bcX5_chance 80 = .ok (.lstore 9, 2) := dk_55 9 (dk_at dksX5_chance_3 9 rfl rfl)
theorem dX5_chance_82 : decode bcX5_chance 82 = .ok (.iconst 0, 1) := dk_3 (dk_at dksX5_chance_3 11 rfl rfl)
theorem dX5_chance_83 : decode bcX5_chance 83 = .ok (.istore 11, 2) := dk_54 11 (dk_at dksX5_chance_3 12 rfl rfl)
theorem dX5_chance_85 : decode bcX5_chance 85 = .ok (.iload 11, 2) := dk_21 11 (dk_at dksX5_chance_3 14 rfl rfl)
theorem dX5_chance_87 : decode bcX5_chance 87 = .ok (.iload_n 2, 1) := dk_28 (dk_at dksX5_chance_3 16 rfl rfl)
theorem dX5_chance_88 : decode bcX5_chance 88 = .ok (.if_icmp .ge 65, 3) := dk_162 0 65 (dk_at dksX5_chance_3 17 rfl rfl)
theorem dX5_chance_91 : decode bcX5_chance 91 = .ok (.iload 8, 2) := dk_21 8 (dk_at dksX5_chance_3 20 rfl rfl)
theorem dX5_chance_93 : decode bcX5_chance 93 = .ok (.iload 11, 2) := dk_21 11 (dk_at dksX5_chance_3 22 rfl rfl)
theorem dX5_chance_95 : decode bcX5_chance 95 = .ok (.ishr, 1) := dk_122 (dk_at dksX5_chance_4 0 rfl rfl)
theorem dX5_chance_96 : decode bcX5_chance 96 = .ok (.iconst 1, 1) := dk_4 (dk_at dksX5_chance_4 1 rfl rfl)
theorem dX5_chance_97 : decode bcX5_chance 97 = .ok (.iand, 1) := dk_126 (dk_at dksX5_chance_4 2 rfl rfl)
theorem dX5_chance_98 : decode bcX5_chance 98 = .ok (.iconst 1, 1) := dk_4 (dk_at dksX5_chance_4 3 rfl rfl)
theorem dX5_chance_99 : decode bcX5_chance 99 = .ok (.if_icmp .ne 7, 3) := dk_160 0 7 (dk_at dksX5_chance_4 4 rfl rfl)
theorem dX5_chance_102 : decode bcX5_chance 102 = .ok (.iconst 1, 1) := dk_4 (dk_at dksX5_chance_4 7 rfl rfl)
theorem dX5_chance_103 : decode bcX5_chance 103 = .ok (.goto 4, 3) := dk_167 0 4 (dk_at dksX5_chance_4 8 rfl rfl)
theorem dX5_chance_106 : decode bcX5_chance 106 = .ok (.iconst 0, 1) := dk_3 (dk_at dksX5_chance_4 11 rfl rfl)
theorem dX5_chance_107 : decode bcX5_chance 107 = .ok (.istore 12, 2) := dk_54 12 (dk_at dksX5_chance_4 12 rfl rfl)
theorem dX5_chance_109 : decode bcX5_chance 109 = .ok (.lload 9, 2) := dk_22 9 (dk_at dksX5_chance_4 14 rfl rfl)
theorem dX5_chance_111 : decode bcX5_chance 111 = .ok (.iload 12, 2) := dk_21 12 (dk_at dksX5_chance_4 16 rfl rfl)
theorem dX5_chance_113 : decode bcX5_chance 113 = .ok (.ifCond .eq 8, 3) := dk_153 0 8 (dk_at dksX5_chance_4 18 rfl rfl)
theorem dX5_chance_116 : decode bcX5_chance 116 = .ok (.iload_n 3, 1) := dk_29 (dk_at dksX5_chance_4 21 rfl rfl)
theorem dX5_chance_117 : decode bcX5_chance 117 = .ok (.i2l, 1) := dk_133 (dk_at dksX5_chance_4 22 rfl rfl)
theorem dX5_chance_118 : decode bcX5_chance 118 = .ok (.goto 8, 3) := dk_167 0 8 (dk_at dksX5_chance_5 0 rfl rfl)
theorem dX5_chance_121 : decode bcX5_chance 121 = .ok (.bipush 10, 2) := dk_16 10 (dk_at dksX5_chance_5 3 rfl rfl)
theorem dX5_chance_123 : decode bcX5_chance 123 = .ok (.iload_n 3, 1) := dk_29 (dk_at dksX5_chance_5 5 rfl rfl)
theorem dX5_chance_124 : decode bcX5_chance 124 = .ok (.isub, 1) := dk_100 (dk_at dksX5_chance_5 6 rfl rfl)
theorem dX5_chance_125 : decode bcX5_chance 125 = .ok (.i2l, 1) := dk_133 (dk_at dksX5_chance_5 7 rfl rfl)
theorem dX5_chance_126 : decode bcX5_chance 126 = .ok (.lmul, 1) := dk_105 (dk_at dksX5_chance_5 8 rfl rfl)
theorem dX5_chance_127 : decode bcX5_chance 127 = .ok (.lstore 9, 2) := dk_55 9 (dk_at dksX5_chance_5 9 rfl rfl)
theorem dX5_chance_129 : decode bcX5_chance 129 = .ok (.aload_n 0, 1) := dk_42 (dk_at dksX5_chance_5 11 rfl rfl)
theorem dX5_chance_130 : decode bcX5_chance 130 = .ok (.sipush 1365, 3) := dk_17 5 85 (dk_at dksX5_chance_5 12 rfl rfl)
theorem dX5_chance_133 : decode bcX5_chance 133 = .ok (.iload 12, 2) := dk_21 12 (dk_at dksX5_chance_5 15 rfl rfl)
theorem dX5_chance_135 : decode bcX5_chance 135 = .ok (.ifCond .eq 8, 3) := dk_153 0 8 (dk_at dksX5_chance_5 17 rfl rfl)
theorem dX5_chance_138 : decode bcX5_chance 138 = .ok (.bipush 9, 2) := dk_16 9 (dk_at dksX5_chance_5 20 rfl rfl)
theorem dX5_chance_140 : decode bcX5_chance 140 = .ok (.goto 4, 3) := dk_167 0 4 (dk_at dksX5_chance_6 0 rfl rfl)
theorem dX5_chance_143 : decode bcX5_chance 143 = .ok (.iconst 0, 1) := dk_3 (dk_at dksX5_chance_6 3 rfl rfl)
theorem dX5_chance_144 : decode bcX5_chance 144 = .ok (.invokevirtual 313, 3) := dk_182 1 57 (dk_at dksX5_chance_6 4 rfl rfl)
theorem dX5_chance_147 : decode bcX5_chance 147 = .ok (.iinc 11 1, 3) := dk_132 11 1 (dk_at dksX5_chance_6 7 rfl rfl)
theorem dX5_chance_150 : decode bcX5_chance 150 = .ok (.goto (-65), 3) := dk_167 255 191 (dk_at dksX5_chance_6 10 rfl rfl)
theorem dX5_chance_153 : decode bcX5_chance 153 = .ok (.lload 6, 2) := dk_22 6 (dk_at dksX5_chance_6 13 rfl rfl)
theorem dX5_chance_155 : decode bcX5_chance 155 = .ok (.aload_n 0, 1) := dk_42 (dk_at dksX5_chance_6 15 rfl rfl)
theorem dX5_chance_156 : decode bcX5_chance 156 = .ok (.sipush 1365, 3) := dk_17 5 85 (dk_at dksX5_chance_6 16 rfl rfl)
theorem dX5_chance_159 : decode bcX5_chance 159 = .ok (.iload_n 1, 1) := dk_27 (dk_at dksX5_chance_6 19 rfl rfl)
theorem dX5_chance_160 : decode bcX5_chance 160 = .ok (.invokevirtual 301, 3) := dk_182 1 45 (dk_at dksX5_chance_6 20 rfl rfl)
theorem dX5_chance_163 : decode bcX5_chance 163 = .ok (.ifCond .eq 8, 3) := dk_153 0 8 (dk_at dksX5_chance_7 0 rfl rfl)
theorem dX5_chance_166 : decode bcX5_chance 166 = .ok (.lload 9, 2) := dk_22 9 (dk_at dksX5_chance_7 3 rfl rfl)
theorem dX5_chance_168 : decode bcX5_chance 168 = .ok (.goto 4, 3) := dk_167 0 4 (dk_at dksX5_chance_7 5 rfl rfl)
theorem dX5_chance_171 : decode bcX5_chance 171 = .ok (.lconst 0, 1) := dk_9 (dk_at dksX5_chance_7 8 rfl rfl)
theorem dX5_chance_172 : decode bcX5_chance 172 = .ok (.ladd, 1) := dk_97 (dk_at dksX5_chance_7 9 rfl rfl)
theorem dX5_chance_173 : decode bcX5_chance 173 = .ok (.lstore 6, 2) := dk_55 6 (dk_at dksX5_chance_7 10 rfl rfl)
theorem dX5_chance_175 : decode bcX5_chance 175 = .ok (.iinc 8 1, 3) := dk_132 8 1 (dk_at dksX5_chance_7 12 rfl rfl)
theorem dX5_chance_178 : decode bcX5_chance 178 = .ok (.goto (-111), 3) := dk_167 255 145 (dk_at dksX5_chance_7 15 rfl rfl)
theorem dX5_chance_181 : decode bcX5_chance 181 = .ok (.lload 6, 2) := dk_22 6 (dk_at dksX5_chance_7 18 rfl rfl)
theorem dX5_chance_183 : decode bcX5_chance 183 = .ok (.ldc2_w 395, 3) := dk_20 1 139 (dk_at dksX5_chance_7 20 rfl rfl)
theorem dX5_chance_186 : decode bcX5_chance 186 = .ok (.lmul, 1) := dk_105 (dk_at dksX5_chance_7 23 rfl rfl)
theorem dX5_chance_187 : decode bcX5_chance 187 = .ok (.lload 4, 2) := dk_22 4 (dk_at dksX5_chance_8 0 rfl rfl)
theorem dX5_chance_189 : decode bcX5_chance 189 = .ok (.ldiv, 1) := dk_109 (dk_at dksX5_chance_8 2 rfl rfl)
theorem dX5_chance_190 : decode bcX5_chance 190 = .ok (.l2i, 1) := dk_136 (dk_at dksX5_chance_8 3 rfl rfl)
theorem dX5_chance_191 : decode bcX5_chance 191 = .ok (.ireturn, 1) := dk_172 (dk_at dksX5_chance_8 4 rfl rfl)
abbrev SX5_chance (pc : Nat) (i : xI) : Prop := Snd "SwollenHouseModel" "chance" prog_25_method_116_code 13 (Option.some Jvm.ClassFile.FieldType.int) [] pc i
theorem oX5_chance_0 : SX5_chance 0 (i_aload 0 1) := snd_aload_n dX5_chance_0 rfl
theorem oX5_chance_1 : SX5_chance 1 (i_const (.int (nI 0)) 2) := snd_iconst dX5_chance_1 (by decide)
theorem oX5_chance_2 : SX5_chance 2 (i_putfi 4 0 5) := snd_putfi dX5_chance_2 rfl (by decide) in_X5 tyX5 tyX5_ok nmX5 (Or.inl ⟨rfl, q1698⟩) (Or.inl rfl) rfl
theorem oX5_chance_5 : SX5_chance 5 (i_aload 0 6) := snd_aload_n dX5_chance_5 rfl
theorem oX5_chance_6 : SX5_chance 6 (i_iload 1 7) := snd_iload_n dX5_chance_6 rfl
theorem oX5_chance_7 : SX5_chance 7 (i_cv 4 287 1 10) := snd_cv rfl infX5_isDoor (by decide) rfl (xVm_V dX5_chance_7 rfl q1930 q1932 qs89 q136 q1933 pdX5_isDoor)
theorem oX5_chance_10 : SX5_chance 10 (i_if1 (fun x => x = 0) 33 13) := snd_if_eq dX5_chance_10 (by decide)
theorem oX5_chance_13 : SX5_chance 13 (i_iload 2 14) := snd_iload_n dX5_chance_13 rfl
theorem oX5_chance_14 : SX5_chance 14 (i_const (.int (nI 1)) 15) := snd_iconst dX5_chance_14 (by decide)
theorem oX5_chance_15 : SX5_chance 15 (i_const (.int (nI 6)) 17) := snd_bipush dX5_chance_15 (by decide)
theorem oX5_chance_17 : SX5_chance 17 (i_cs 268 3 20) := snd_cs rfl infX5_within (by decide) (xSm_S dX5_chance_17 q1855 q1856 q136 q1857 pdX5_within)
theorem oX5_chance_20 : SX5_chance 20 (i_if1 (fun x => x = 0) 33 23) := snd_if_eq dX5_chance_20 (by decide)
theorem oX5_chance_23 : SX5_chance 23 (i_iload 3 24) := snd_iload_n dX5_chance_23 rfl
theorem oX5_chance_24 : SX5_chance 24 (i_const (.int (nI 0)) 25) := snd_iconst dX5_chance_24 (by decide)
theorem oX5_chance_25 : SX5_chance 25 (i_const (.int (nI 10)) 27) := snd_bipush dX5_chance_25 (by decide)
theorem oX5_chance_27 : SX5_chance 27 (i_cs 268 3 30) := snd_cs rfl infX5_within (by decide) (xSm_S dX5_chance_27 q1855 q1856 q136 q1857 pdX5_within)
theorem oX5_chance_30 : SX5_chance 30 (i_if1 (fun x => ¬ x = 0) 35 33) := snd_if_ne dX5_chance_30 (by decide)
theorem oX5_chance_33 : SX5_chance 33 (i_const (.int (-1)) 34) := snd_iconst dX5_chance_33 (by decide)
theorem oX5_chance_34 : SX5_chance 34 (i_iret) := snd_iret dX5_chance_34 rfl
theorem oX5_chance_35 : SX5_chance 35 (i_const (.long (lN 1)) 36) := snd_lconst dX5_chance_35 (by decide)
theorem oX5_chance_36 : SX5_chance 36 (i_lstore 4 38) := snd_lstore dX5_chance_36 (by decide)
theorem oX5_chance_38 : SX5_chance 38 (i_const (.long (lN 0)) 39) := snd_lconst dX5_chance_38 (by decide)
theorem oX5_chance_39 : SX5_chance 39 (i_lstore 6 41) := snd_lstore dX5_chance_39 (by decide)
theorem oX5_chance_41 : SX5_chance 41 (i_const (.int (nI 0)) 42) := snd_iconst dX5_chance_41 (by decide)
theorem oX5_chance_42 : SX5_chance 42 (i_istore 8 44) := snd_istore dX5_chance_42 (by decide)
theorem oX5_chance_44 : SX5_chance 44 (i_iload 8 46) := snd_iload dX5_chance_44
theorem oX5_chance_46 : SX5_chance 46 (i_iload 2 47) := snd_iload_n dX5_chance_46 rfl
theorem oX5_chance_47 : SX5_chance 47 (i_if2 (fun x y => y ≤ x) 64 50) := snd_icmp_ge dX5_chance_47 (by decide)
theorem oX5_chance_50 : SX5_chance 50 (i_lload 4 52) := snd_lload dX5_chance_50
theorem oX5_chance_52 : SX5_chance 52 (i_const (.long (lN 10)) 55) := snd_ldc2 dX5_chance_52 q1814
theorem oX5_chance_55 : SX5_chance 55 (i_ll (fun x y => x * y) 56) := snd_lmul dX5_chance_55
theorem oX5_chance_56 : SX5_chance 56 (i_lstore 4 58) := snd_lstore dX5_chance_56 (by decide)
theorem oX5_chance_58 : SX5_chance 58 (i_iinc 8 (nI 1) 61) := snd_iinc dX5_chance_58 (by decide) (by decide)
theorem oX5_chance_61 : SX5_chance 61 (i_goto 44) := snd_goto dX5_chance_61 (by decide)
theorem oX5_chance_64 : SX5_chance 64 (i_const (.int (nI 0)) 65) := snd_iconst dX5_chance_64 (by decide)
theorem oX5_chance_65 : SX5_chance 65 (i_istore 8 67) := snd_istore dX5_chance_65 (by decide)
theorem oX5_chance_67 : SX5_chance 67 (i_iload 8 69) := snd_iload dX5_chance_67
theorem oX5_chance_69 : SX5_chance 69 (i_const (.int (nI 1)) 70) := snd_iconst dX5_chance_69 (by decide)
theorem oX5_chance_70 : SX5_chance 70 (i_iload 2 71) := snd_iload_n dX5_chance_70 rfl
theorem oX5_chance_71 : SX5_chance 71 (i_ii (fun x y => x <<< (y &&& 31)) 72) := snd_ishl dX5_chance_71
theorem oX5_chance_72 : SX5_chance 72 (i_if2 (fun x y => y ≤ x) 181 75) := snd_icmp_ge dX5_chance_72 (by decide)
theorem oX5_chance_75 : SX5_chance 75 (i_aload 0 76) := snd_aload_n dX5_chance_75 rfl
theorem oX5_chance_76 : SX5_chance 76 (i_cvv 4 337 0 79) := snd_cvv rfl infX5_triesNow (by decide) rfl (xVm_V dX5_chance_76 rfl q2128 q2130 qs116 q136 q2131 pdX5_triesNow)
theorem oX5_chance_79 : SX5_chance 79 (i_const (.long (lN 1)) 80) := snd_lconst dX5_chance_79 (by decide)
theorem oX5_chance_80 : SX5_chance 80 (i_lstore 9 82) := snd_lstore dX5_chance_80 (by decide)
theorem oX5_chance_82 : SX5_chance 82 (i_const (.int (nI 0)) 83) := snd_iconst dX5_chance_82 (by decide)
theorem oX5_chance_83 : SX5_chance 83 (i_istore 11 85) := snd_istore dX5_chance_83 (by decide)
theorem oX5_chance_85 : SX5_chance 85 (i_iload 11 87) := snd_iload dX5_chance_85
theorem oX5_chance_87 : SX5_chance 87 (i_iload 2 88) := snd_iload_n dX5_chance_87 rfl
theorem oX5_chance_88 : SX5_chance 88 (i_if2 (fun x y => y ≤ x) 153 91) := snd_icmp_ge dX5_chance_88 (by decide)
theorem oX5_chance_91 : SX5_chance 91 (i_iload 8 93) := snd_iload dX5_chance_91
theorem oX5_chance_93 : SX5_chance 93 (i_iload 11 95) := snd_iload dX5_chance_93
theorem oX5_chance_95 : SX5_chance 95 (i_ii (fun x y => x >>> (y &&& 31)) 96) := snd_ishr dX5_chance_95
theorem oX5_chance_96 : SX5_chance 96 (i_const (.int (nI 1)) 97) := snd_iconst dX5_chance_96 (by decide)
theorem oX5_chance_97 : SX5_chance 97 (i_ii (fun x y => x &&& y) 98) := snd_iand dX5_chance_97
theorem oX5_chance_98 : SX5_chance 98 (i_const (.int (nI 1)) 99) := snd_iconst dX5_chance_98 (by decide)
theorem oX5_chance_99 : SX5_chance 99 (i_if2 (fun x y => ¬ x = y) 106 102) := snd_icmp_ne dX5_chance_99 (by decide)
theorem oX5_chance_102 : SX5_chance 102 (i_const (.int (nI 1)) 103) := snd_iconst dX5_chance_102 (by decide)
theorem oX5_chance_103 : SX5_chance 103 (i_goto 107) := snd_goto dX5_chance_103 (by decide)
theorem oX5_chance_106 : SX5_chance 106 (i_const (.int (nI 0)) 107) := snd_iconst dX5_chance_106 (by decide)
theorem oX5_chance_107 : SX5_chance 107 (i_istore 12 109) := snd_istore dX5_chance_107 (by decide)
theorem oX5_chance_109 : SX5_chance 109 (i_lload 9 111) := snd_lload dX5_chance_109
theorem oX5_chance_111 : SX5_chance 111 (i_iload 12 113) := snd_iload dX5_chance_111
theorem oX5_chance_113 : SX5_chance 113 (i_if1 (fun x => x = 0) 121 116) := snd_if_eq dX5_chance_113 (by decide)
theorem oX5_chance_116 : SX5_chance 116 (i_iload 3 117) := snd_iload_n dX5_chance_116 rfl
theorem oX5_chance_117 : SX5_chance 117 (i_i2l 118) := snd_i2l dX5_chance_117
theorem oX5_chance_118 : SX5_chance 118 (i_goto 126) := snd_goto dX5_chance_118 (by decide)
theorem oX5_chance_121 : SX5_chance 121 (i_const (.int (nI 10)) 123) := snd_bipush dX5_chance_121 (by decide)
theorem oX5_chance_123 : SX5_chance 123 (i_iload 3 124) := snd_iload_n dX5_chance_123 rfl
theorem oX5_chance_124 : SX5_chance 124 (i_ii (fun x y => x - y) 125) := snd_isub dX5_chance_124
theorem oX5_chance_125 : SX5_chance 125 (i_i2l 126) := snd_i2l dX5_chance_125
theorem oX5_chance_126 : SX5_chance 126 (i_ll (fun x y => x * y) 127) := snd_lmul dX5_chance_126
theorem oX5_chance_127 : SX5_chance 127 (i_lstore 9 129) := snd_lstore dX5_chance_127 (by decide)
theorem oX5_chance_129 : SX5_chance 129 (i_aload 0 130) := snd_aload_n dX5_chance_129 rfl
theorem oX5_chance_130 : SX5_chance 130 (i_const (.int (nI 1365)) 133) := snd_sipush dX5_chance_130 (by decide)
theorem oX5_chance_133 : SX5_chance 133 (i_iload 12 135) := snd_iload dX5_chance_133
theorem oX5_chance_135 : SX5_chance 135 (i_if1 (fun x => x = 0) 143 138) := snd_if_eq dX5_chance_135 (by decide)
theorem oX5_chance_138 : SX5_chance 138 (i_const (.int (nI 9)) 140) := snd_bipush dX5_chance_138 (by decide)
theorem oX5_chance_140 : SX5_chance 140 (i_goto 144) := snd_goto dX5_chance_140 (by decide)
theorem oX5_chance_143 : SX5_chance 143 (i_const (.int (nI 0)) 144) := snd_iconst dX5_chance_143 (by decide)
theorem oX5_chance_144 : SX5_chance 144 (i_cvv 4 298 2 147) := snd_cvv rfl infX5_passes_2 (by decide) rfl (xVm_V dX5_chance_144 rfl q1974 q1976 qs98 q136 q1977 pdX5_passes_2)
theorem oX5_chance_147 : SX5_chance 147 (i_iinc 11 (nI 1) 150) := snd_iinc dX5_chance_147 (by decide) (by decide)
theorem oX5_chance_150 : SX5_chance 150 (i_goto 85) := snd_goto dX5_chance_150 (by decide)
theorem oX5_chance_153 : SX5_chance 153 (i_lload 6 155) := snd_lload dX5_chance_153
theorem oX5_chance_155 : SX5_chance 155 (i_aload 0 156) := snd_aload_n dX5_chance_155 rfl
theorem oX5_chance_156 : SX5_chance 156 (i_const (.int (nI 1365)) 159) := snd_sipush dX5_chance_156 (by decide)
theorem oX5_chance_159 : SX5_chance 159 (i_iload 1 160) := snd_iload_n dX5_chance_159 rfl
theorem oX5_chance_160 : SX5_chance 160 (i_cv 4 289 2 163) := snd_cv rfl infX5_doesStick (by decide) rfl (xVm_V dX5_chance_160 rfl q1938 q1940 qs91 q136 q1941 pdX5_doesStick)
theorem oX5_chance_163 : SX5_chance 163 (i_if1 (fun x => x = 0) 171 166) := snd_if_eq dX5_chance_163 (by decide)
theorem oX5_chance_166 : SX5_chance 166 (i_lload 9 168) := snd_lload dX5_chance_166
theorem oX5_chance_168 : SX5_chance 168 (i_goto 172) := snd_goto dX5_chance_168 (by decide)
theorem oX5_chance_171 : SX5_chance 171 (i_const (.long (lN 0)) 172) := snd_lconst dX5_chance_171 (by decide)
theorem oX5_chance_172 : SX5_chance 172 (i_ll (fun x y => x + y) 173) := snd_ladd dX5_chance_172
theorem oX5_chance_173 : SX5_chance 173 (i_lstore 6 175) := snd_lstore dX5_chance_173 (by decide)
theorem oX5_chance_175 : SX5_chance 175 (i_iinc 8 (nI 1) 178) := snd_iinc dX5_chance_175 (by decide) (by decide)
theorem oX5_chance_178 : SX5_chance 178 (i_goto 67) := snd_goto dX5_chance_178 (by decide)
theorem oX5_chance_181 : SX5_chance 181 (i_lload 6 183) := snd_lload dX5_chance_181
theorem oX5_chance_183 : SX5_chance 183 (i_const (.long (lN 1000000)) 186) := snd_ldc2 dX5_chance_183 q2212
theorem oX5_chance_186 : SX5_chance 186 (i_ll (fun x y => x * y) 187) := snd_lmul dX5_chance_186
theorem oX5_chance_187 : SX5_chance 187 (i_lload 4 189) := snd_lload dX5_chance_187
theorem oX5_chance_189 : SX5_chance 189 (i_lz (fun x y => x / y) 190) := snd_ldiv dX5_chance_189
theorem oX5_chance_190 : SX5_chance 190 (i_l2i 191) := snd_l2i dX5_chance_190
theorem oX5_chance_191 : SX5_chance 191 (i_iret) := snd_iret dX5_chance_191 rfl
theorem okX5_chance : ∀ q ∈ cX5_chance, SX5_chance q.1 q.2 := List.forall_mem_cons.mpr ⟨oX5_chance_0, List.forall_mem_cons.mpr ⟨oX5_chance_1, List.forall_mem_cons.mpr ⟨oX5_chance_2, List.forall_mem_cons.mpr ⟨oX5_chance_5, List.forall_mem_cons.mpr ⟨oX5_chance_6, List.forall_mem_cons.mpr ⟨oX5_chance_7, List.forall_mem_cons.mpr ⟨oX5_chance_10, List.forall_mem_cons.mpr ⟨oX5_chance_13, List.forall_mem_cons.mpr ⟨oX5_chance_14, List.forall_mem_cons.mpr ⟨oX5_chance_15, List.forall_mem_cons.mpr ⟨oX5_chance_17, List.forall_mem_cons.mpr ⟨oX5_chance_20, List.forall_mem_cons.mpr ⟨oX5_chance_23, List.forall_mem_cons.mpr ⟨oX5_chance_24, List.forall_mem_cons.mpr ⟨oX5_chance_25, List.forall_mem_cons.mpr ⟨oX5_chance_27, List.forall_mem_cons.mpr ⟨oX5_chance_30, List.forall_mem_cons.mpr ⟨oX5_chance_33, List.forall_mem_cons.mpr ⟨oX5_chance_34, List.forall_mem_cons.mpr ⟨oX5_chance_35, List.forall_mem_cons.mpr ⟨oX5_chance_36, List.forall_mem_cons.mpr ⟨oX5_chance_38, List.forall_mem_cons.mpr ⟨oX5_chance_39, List.forall_mem_cons.mpr ⟨oX5_chance_41, List.forall_mem_cons.mpr ⟨oX5_chance_42, List.forall_mem_cons.mpr ⟨oX5_chance_44, List.forall_mem_cons.mpr ⟨oX5_chance_46, List.forall_mem_cons.mpr ⟨oX5_chance_47, List.forall_mem_cons.mpr ⟨oX5_chance_50, List.forall_mem_cons.mpr ⟨oX5_chance_52, List.forall_mem_cons.mpr ⟨oX5_chance_55, List.forall_mem_cons.mpr ⟨oX5_chance_56, List.forall_mem_cons.mpr ⟨oX5_chance_58, List.forall_mem_cons.mpr ⟨oX5_chance_61, List.forall_mem_cons.mpr ⟨oX5_chance_64, List.forall_mem_cons.mpr ⟨oX5_chance_65, List.forall_mem_cons.mpr ⟨oX5_chance_67, List.forall_mem_cons.mpr ⟨oX5_chance_69, List.forall_mem_cons.mpr ⟨oX5_chance_70, List.forall_mem_cons.mpr ⟨oX5_chance_71, List.forall_mem_cons.mpr ⟨oX5_chance_72, List.forall_mem_cons.mpr ⟨oX5_chance_75, List.forall_mem_cons.mpr ⟨oX5_chance_76, List.forall_mem_cons.mpr ⟨oX5_chance_79, List.forall_mem_cons.mpr ⟨oX5_chance_80, List.forall_mem_cons.mpr ⟨oX5_chance_82, List.forall_mem_cons.mpr ⟨oX5_chance_83, List.forall_mem_cons.mpr ⟨oX5_chance_85, List.forall_mem_cons.mpr ⟨oX5_chance_87, List.forall_mem_cons.mpr ⟨oX5_chance_88, List.forall_mem_cons.mpr ⟨oX5_chance_91, List.forall_mem_cons.mpr ⟨oX5_chance_93, List.forall_mem_cons.mpr ⟨oX5_chance_95, List.forall_mem_cons.mpr ⟨oX5_chance_96, List.forall_mem_cons.mpr ⟨oX5_chance_97, List.forall_mem_cons.mpr ⟨oX5_chance_98, List.forall_mem_cons.mpr ⟨oX5_chance_99, List.forall_mem_cons.mpr ⟨oX5_chance_102, List.forall_mem_cons.mpr ⟨oX5_chance_103, List.forall_mem_cons.mpr ⟨oX5_chance_106, List.forall_mem_cons.mpr ⟨oX5_chance_107, List.forall_mem_cons.mpr ⟨oX5_chance_109, List.forall_mem_cons.mpr ⟨oX5_chance_111, List.forall_mem_cons.mpr ⟨oX5_chance_113, List.forall_mem_cons.mpr ⟨oX5_chance_116, List.forall_mem_cons.mpr ⟨oX5_chance_117, List.forall_mem_cons.mpr ⟨oX5_chance_118, List.forall_mem_cons.mpr ⟨oX5_chance_121, List.forall_mem_cons.mpr ⟨oX5_chance_123, List.forall_mem_cons.mpr ⟨oX5_chance_124, List.forall_mem_cons.mpr ⟨oX5_chance_125, List.forall_mem_cons.mpr ⟨oX5_chance_126, List.forall_mem_cons.mpr ⟨oX5_chance_127, List.forall_mem_cons.mpr ⟨oX5_chance_129, List.forall_mem_cons.mpr ⟨oX5_chance_130, List.forall_mem_cons.mpr ⟨oX5_chance_133, List.forall_mem_cons.mpr ⟨oX5_chance_135, List.forall_mem_cons.mpr ⟨oX5_chance_138, List.forall_mem_cons.mpr ⟨oX5_chance_140, List.forall_mem_cons.mpr ⟨oX5_chance_143, List.forall_mem_cons.mpr ⟨oX5_chance_144, List.forall_mem_cons.mpr ⟨oX5_chance_147, List.forall_mem_cons.mpr ⟨oX5_chance_150, List.forall_mem_cons.mpr ⟨oX5_chance_153, List.forall_mem_cons.mpr ⟨oX5_chance_155, List.forall_mem_cons.mpr ⟨oX5_chance_156, List.forall_mem_cons.mpr ⟨oX5_chance_159, List.forall_mem_cons.mpr ⟨oX5_chance_160, List.forall_mem_cons.mpr ⟨oX5_chance_163, List.forall_mem_cons.mpr ⟨oX5_chance_166, List.forall_mem_cons.mpr ⟨oX5_chance_168, List.forall_mem_cons.mpr ⟨oX5_chance_171, List.forall_mem_cons.mpr ⟨oX5_chance_172, List.forall_mem_cons.mpr ⟨oX5_chance_173, List.forall_mem_cons.mpr ⟨oX5_chance_175, List.forall_mem_cons.mpr ⟨oX5_chance_178, List.forall_mem_cons.mpr ⟨oX5_chance_181, List.forall_mem_cons.mpr ⟨oX5_chance_183, List.forall_mem_cons.mpr ⟨oX5_chance_186, List.forall_mem_cons.mpr ⟨oX5_chance_187, List.forall_mem_cons.mpr ⟨oX5_chance_189, List.forall_mem_cons.mpr ⟨oX5_chance_190, List.forall_mem_cons.mpr ⟨oX5_chance_191, fun _ h => absurd h List.not_mem_nil⟩⟩⟩⟩⟩⟩⟩⟩⟩⟩⟩⟩⟩⟩⟩⟩⟩⟩⟩⟩⟩⟩⟩⟩⟩⟩⟩⟩⟩⟩⟩⟩⟩⟩⟩⟩⟩⟩⟩⟩⟩⟩⟩⟩⟩⟩⟩⟩⟩⟩⟩⟩⟩⟩⟩⟩⟩⟩⟩⟩⟩⟩⟩⟩⟩⟩⟩⟩⟩⟩⟩⟩⟩⟩⟩⟩⟩⟩⟩⟩⟩⟩⟩⟩⟩⟩⟩⟩⟩⟩⟩⟩⟩⟩⟩⟩⟩⟩⟩⟩⟩⟩⟩
def dkwX5_rests_9 : List UInt8 := [156, 0, 8, 21, 6, 167, 0, 5, 21, 7, 172]
abbrev dktX5_rests_9 : List UInt8 := dkwX5_rests_9 ++ []
def dkwX5_rests_8 : List UInt8 := [155, 0, 7, 3, 167, 0, 4, 4, 181, 0, 1, 42, 180, 0, 1, 158, 0, 7, 3, 167, 0, 15, 21, 4]
abbrev dktX5_rests_8 : List UInt8 := dkwX5_rests_8 ++ dktX5_rests_9
def dkwX5_rests_7 : List UInt8 := [96, 54, 6, 132, 8, 1, 167, 255, 137, 42, 21, 5, 153, 0, 17, 21, 4, 155, 0, 8, 21, 7]
abbrev dktX5_rests_7 : List UInt8 := dkwX5_rests_7 ++ dktX5_rests_8
def dkwX5_rests_6 : List UInt8 := [160, 0, 8, 21, 8, 167, 0, 5, 21, 7, 54, 7, 21, 6, 21, 11, 153, 0, 7, 4, 167, 0, 4, 3]
abbrev dktX5_rests_6 : List UInt8 := dkwX5_rests_6 ++ dktX5_rests_7
def dkwX5_rests_5 : List UInt8 := [29, 184, 1, 141, 163, 0, 7, 4, 167, 0, 4, 3, 54, 11, 21, 11, 153, 0, 15, 21, 6, 21, 4]
abbrev dktX5_rests_5 : List UInt8 := dkwX5_rests_5 ++ dktX5_rests_6
def dkwX5_rests_4 : List UInt8 := [184, 1, 141, 163, 0, 32, 4, 21, 10, 100, 21, 9, 27, 28, 29, 184, 1, 141, 21, 10, 21, 9, 27, 28]
abbrev dktX5_rests_4 : List UInt8 := dkwX5_rests_4 ++ dktX5_rests_5
def dkwX5_rests_3 : List UInt8 := [5, 112, 54, 10, 4, 21, 9, 100, 21, 10, 27, 28, 29, 184, 1, 141, 21, 9, 21, 10, 27, 28, 29]
abbrev dktX5_rests_3 : List UInt8 := dkwX5_rests_3 ++ dktX5_rests_4
def dkwX5_rests_2 : List UInt8 := [54, 7, 3, 54, 8, 21, 8, 7, 162, 0, 119, 21, 5, 153, 0, 114, 21, 8, 5, 108, 54, 9, 21, 8]
abbrev dktX5_rests_2 : List UInt8 := dkwX5_rests_2 ++ dktX5_rests_3
def dkwX5_rests_1 : List UInt8 := [184, 0, 204, 153, 0, 13, 21, 4, 2, 161, 0, 7, 4, 167, 0, 4, 3, 54, 5, 3, 54, 6, 2]
abbrev dktX5_rests_1 : List UInt8 := dkwX5_rests_1 ++ dktX5_rests_2
def dkwX5_rests_0 : List UInt8 := [27, 3, 16, 9, 184, 0, 204, 153, 0, 33, 28, 3, 16, 9, 184, 0, 204, 153, 0, 23, 29, 3, 16, 9]
abbrev dktX5_rests_0 : List UInt8 := dkwX5_rests_0 ++ dktX5_rests_1
theorem dksX5_rests_0 : bcX5_rests.data.toList.drop 0 = dktX5_rests_0 := by decide +kernel
theorem dksX5_rests_1 : bcX5_rests.data.toList.drop 24 = dktX5_rests_1 := dk_seg dksX5_rests_0 24 rfl rfl
theorem dksX5_rests_2 : bcX5_rests.data.toList.drop 47 = dktX5_rests_2 := dk_seg dksX5_rests_1 23 rfl rfl
theorem dksX5_rests_3 : bcX5_rests.data.toList.drop 71 = dktX5_rests_3 := dk_seg dksX5_rests_2 24 rfl rfl
theorem dksX5_rests_4 : bcX5_rests.data.toList.drop 94 = dktX5_rests_4 := dk_seg dksX5_rests_3 23 rfl rfl
theorem dksX5_rests_5 : bcX5_rests.data.toList.drop 118 = dktX5_rests_5 := dk_seg dksX5_rests_4 24 rfl rfl
theorem dksX5_rests_6 : bcX5_rests.data.toList.drop 141 = dktX5_rests_6 := dk_seg dksX5_rests_5 23 rfl rfl
theorem dksX5_rests_7 : bcX5_rests.data.toList.drop 165 = dktX5_rests_7 := dk_seg dksX5_rests_6 24 rfl rfl
theorem dksX5_rests_8 : bcX5_rests.data.toList.drop 187 = dktX5_rests_8 := dk_seg dksX5_rests_7 22 rfl rfl
theorem dksX5_rests_9 : bcX5_rests.data.toList.drop 211 = dktX5_rests_9 := dk_seg dksX5_rests_8 24 rfl rfl
theorem dX5_rests_0 : decode bcX5_rests 0 = .ok (.iload_n 1, 1) := dk_27 (dk_at dksX5_rests_0 0 rfl rfl)
theorem dX5_rests_1 : decode bcX5_rests 1 = .ok (.iconst 0, 1) := dk_3 (dk_at dksX5_rests_0 1 rfl rfl)
theorem dX5_rests_2 : decode bcX5_rests 2 = .ok (.bipush 9, 2) := dk_16 9 (dk_at dksX5_rests_0 2 rfl rfl)
theorem dX5_rests_4 : decode bcX5_rests 4 = .ok (.invokestatic 204, 3) := dk_184 0 204 (dk_at dksX5_rests_0 4 rfl rfl)
theorem dX5_rests_7 : decode bcX5_rests 7 = .ok (.ifCond .eq 33, 3) := dk_153 0 33 (dk_at dksX5_rests_0 7 rfl rfl)
theorem dX5_rests_10 : decode bcX5_rests 10 = .ok (.iload_n 2, 1) := dk_28 (dk_at dksX5_rests_0 10 rfl rfl)
theorem dX5_rests_11 : decode bcX5_rests 11 = .ok (.iconst 0, 1) := dk_3 (dk_at dksX5_rests_0 11 rfl rfl)
theorem dX5_rests_12 : decode bcX5_rests 12 = .ok (.bipush 9, 2) := dk_16 9 (dk_at dksX5_rests_0 12 rfl rfl)
theorem dX5_rests_14 : decode bcX5_rests 14 = .ok (.invokestatic 204, 3) := dk_184 0 204 (dk_at dksX5_rests_0 14 rfl rfl)
theorem dX5_rests_17 : decode bcX5_rests 17 = .ok (.ifCond .eq 23, 3) := dk_153 0 23 (dk_at dksX5_rests_0 17 rfl rfl)
theorem dX5_rests_20 : decode bcX5_rests 20 = .ok (.iload_n 3, 1) := dk_29 (dk_at dksX5_rests_0 20 rfl rfl)
theorem dX5_rests_21 : decode bcX5_rests 21 = .ok (.iconst 0, 1) := dk_3 (dk_at dksX5_rests_0 21 rfl rfl)
theorem dX5_rests_22 : decode bcX5_rests 22 = .ok (.bipush 9, 2) := dk_16 9 (dk_at dksX5_rests_0 22 rfl rfl)
theorem dX5_rests_24 : decode bcX5_rests 24 = .ok (.invokestatic 204, 3) := dk_184 0 204 (dk_at dksX5_rests_1 0 rfl rfl)
theorem dX5_rests_27 : decode bcX5_rests 27 = .ok (.ifCond .eq 13, 3) := dk_153 0 13 (dk_at dksX5_rests_1 3 rfl rfl)
theorem dX5_rests_30 : decode bcX5_rests 30 = .ok (.iload 4, 2) := dk_21 4 (dk_at dksX5_rests_1 6 rfl rfl)
theorem dX5_rests_32 : decode bcX5_rests 32 = .ok (.iconst (-1), 1) := dk_2 (dk_at dksX5_rests_1 8 rfl rfl)
theorem dX5_rests_33 : decode bcX5_rests 33 = .ok (.if_icmp .lt 7, 3) := dk_161 0 7 (dk_at dksX5_rests_1 9 rfl rfl)
theorem dX5_rests_36 : decode bcX5_rests 36 = .ok (.iconst 1, 1) := dk_4 (dk_at dksX5_rests_1 12 rfl rfl)
theorem dX5_rests_37 : decode bcX5_rests 37 = .ok (.goto 4, 3) := dk_167 0 4 (dk_at dksX5_rests_1 13 rfl rfl)
theorem dX5_rests_40 : decode bcX5_rests 40 = .ok (.iconst 0, 1) := dk_3 (dk_at dksX5_rests_1 16 rfl rfl)
theorem dX5_rests_41 : decode bcX5_rests 41 = .ok (.istore 5, 2) := dk_54 5 (dk_at dksX5_rests_1 17 rfl rfl)
theorem dX5_rests_43 : decode bcX5_rests 43 = .ok (.iconst 0, 1) := dk_3 (dk_at dksX5_rests_1 19 rfl rfl)
theorem dX5_rests_44 : decode bcX5_rests 44 = .ok (.istore 6, 2) := dk_54 6 (dk_at dksX5_rests_1 20 rfl rfl)
theorem dX5_rests_46 : decode bcX5_rests 46 = .ok (.iconst (-1), 1) := dk_2 (dk_at dksX5_rests_1 22 rfl rfl)
theorem dX5_rests_47 : decode bcX5_rests 47 = .ok (.istore 7, 2) := dk_54 7 (dk_at dksX5_rests_2 0 rfl rfl)
theorem dX5_rests_49 : decode bcX5_rests 49 = .ok (.iconst 0, 1) := dk_3 (dk_at dksX5_rests_2 2 rfl rfl)
theorem dX5_rests_50 : decode bcX5_rests 50 = .ok (.istore 8, 2) := dk_54 8 (dk_at dksX5_rests_2 3 rfl rfl)
theorem dX5_rests_52 : decode bcX5_rests 52 = .ok (.iload 8, 2) := dk_21 8 (dk_at dksX5_rests_2 5 rfl rfl)
theorem dX5_rests_54 : decode bcX5_rests 54 = .ok (.iconst 4, 1) := dk_7 (dk_at dksX5_rests_2 7 rfl rfl)
theorem dX5_rests_55 : decode bcX5_rests 55 = .ok (.if_icmp .ge 119, 3) := dk_162 0 119 (dk_at dksX5_rests_2 8 rfl rfl)
theorem dX5_rests_58 : decode bcX5_rests 58 = .ok (.iload 5, 2) := dk_21 5 (dk_at dksX5_rests_2 11 rfl rfl)
theorem dX5_rests_60 : decode bcX5_rests 60 = .ok (.ifCond .eq 114, 3) := dk_153 0 114 (dk_at dksX5_rests_2 13 rfl rfl)
theorem dX5_rests_63 : decode bcX5_rests 63 = .ok (.iload 8, 2) := dk_21 8 (dk_at dksX5_rests_2 16 rfl rfl)
theorem dX5_rests_65 : decode bcX5_rests 65 = .ok (.iconst 2, 1) := dk_5 (dk_at dksX5_rests_2 18 rfl rfl)
theorem dX5_rests_66 : decode bcX5_rests 66 = .ok (.idiv, 1) := dk_108 (dk_at dksX5_rests_2 19 rfl rfl)
theorem dX5_rests_67 : decode bcX5_rests 67 = .ok (.istore 9, 2) := dk_54 9 (dk_at dksX5_rests_2 20 rfl rfl)
theorem dX5_rests_69 : decode bcX5_rests 69 = .ok (.iload 8, 2) := dk_21 8 (dk_at dksX5_rests_2 22 rfl rfl)
theorem dX5_rests_71 : decode bcX5_rests 71 = .ok (.iconst 2, 1) := dk_5 (dk_at dksX5_rests_3 0 rfl rfl)
theorem dX5_rests_72 : decode bcX5_rests 72 = .ok (.irem, 1) := dk_112 (dk_at dksX5_rests_3 1 rfl rfl)
theorem dX5_rests_73 : decode bcX5_rests 73 = .ok (.istore 10, 2) := dk_54 10 (dk_at dksX5_rests_3 2 rfl rfl)
theorem dX5_rests_75 : decode bcX5_rests 75 = .ok (.iconst 1, 1) := dk_4 (dk_at dksX5_rests_3 4 rfl rfl)
theorem dX5_rests_76 : decode bcX5_rests 76 = .ok (.iload 9, 2) := dk_21 9 (dk_at dksX5_rests_3 5 rfl rfl)
theorem dX5_rests_78 : decode bcX5_rests 78 = .ok (.isub, 1) := dk_100 (dk_at dksX5_rests_3 7 rfl rfl)
theorem dX5_rests_79 : decode bcX5_rests 79 = .ok (.iload 10, 2) := dk_21 10 (dk_at dksX5_rests_3 8 rfl rfl)
theorem dX5_rests_81 : decode bcX5_rests 81 = .ok (.iload_n 1, 1) := dk_27 (dk_at dksX5_rests_3 10 rfl rfl)
theorem dX5_rests_82 : decode bcX5_rests 82 = .ok (.iload_n 2, 1) := dk_28 (dk_at dksX5_rests_3 11 rfl rfl)
theorem dX5_rests_83 : decode bcX5_rests 83 = .ok (.iload_n 3, 1) := dk_29 (dk_at dksX5_rests_3 12 rfl rfl)
theorem dX5_rests_84 : decode bcX5_rests 84 = .ok (.invokestatic 397, 3) := dk_184 1 141 (dk_at dksX5_rests_3 13 rfl rfl)
theorem dX5_rests_87 : decode bcX5_rests 87 = .ok (.iload 9, 2) := dk_21 9 (dk_at dksX5_rests_3 16 rfl rfl)
theorem dX5_rests_89 : decode bcX5_rests 89 = .ok (.iload 10, 2) := dk_21 10 (dk_at dksX5_rests_3 18 rfl rfl)
theorem dX5_rests_91 : decode bcX5_rests 91 = .ok (.iload_n 1, 1) := dk_27 (dk_at dksX5_rests_3 20 rfl rfl)
theorem dX5_rests_92 : decode bcX5_rests 92 = .ok (.iload_n 2, 1) := dk_28 (dk_at dksX5_rests_3 21 rfl rfl)
theorem dX5_rests_93 : decode bcX5_rests 93 = .ok (.iload_n 3, 1) := dk_29 (dk_at dksX5_rests_3 22 rfl rfl)
theorem dX5_rests_94 : decode bcX5_rests 94 = .ok (.invokestatic 397, 3) := dk_184 1 141 (dk_at dksX5_rests_4 0 rfl rfl)
theorem dX5_rests_97 : decode bcX5_rests 97 = .ok (.if_icmp .gt 32, 3) := dk_163 0 32 (dk_at dksX5_rests_4 3 rfl rfl)
theorem dX5_rests_100 : decode bcX5_rests 100 = .ok (.iconst 1, 1) := dk_4 (dk_at dksX5_rests_4 6 rfl rfl)
theorem dX5_rests_101 : decode bcX5_rests 101 = .ok (.iload 10, 2) := dk_21 10 (dk_at dksX5_rests_4 7 rfl rfl)
theorem dX5_rests_103 : decode bcX5_rests 103 = .ok (.isub, 1) := dk_100 (dk_at dksX5_rests_4 9 rfl rfl)
theorem dX5_rests_104 : decode bcX5_rests 104 = .ok (.iload 9, 2) := dk_21 9 (dk_at dksX5_rests_4 10 rfl rfl)
theorem dX5_rests_106 : decode bcX5_rests 106 = .ok (.iload_n 1, 1) := dk_27 (dk_at dksX5_rests_4 12 rfl rfl)
theorem dX5_rests_107 : decode bcX5_rests 107 = .ok (.iload_n 2, 1) := dk_28 (dk_at dksX5_rests_4 13 rfl rfl)
theorem dX5_rests_108 : decode bcX5_rests 108 = .ok (.iload_n 3, 1) := dk_29 (dk_at dksX5_rests_4 14 rfl rfl)
theorem dX5_rests_109 : decode bcX5_rests 109 = .ok (.invokestatic 397, 3) := dk_184 1 141 (dk_at dksX5_rests_4 15 rfl rfl)
theorem dX5_rests_112 : decode bcX5_rests 112 = .ok (.iload 10, 2) := dk_21 10 (dk_at dksX5_rests_4 18 rfl rfl)
theorem dX5_rests_114 : decode bcX5_rests 114 = .ok (.iload 9, 2) := dk_21 9 (dk_at dksX5_rests_4 20 rfl rfl)
theorem dX5_rests_116 : decode bcX5_rests 116 = .ok (.iload_n 1, 1) := dk_27 (dk_at dksX5_rests_4 22 rfl rfl)
theorem dX5_rests_117 : decode bcX5_rests 117 = .ok (.iload_n 2, 1) := dk_28 (dk_at dksX5_rests_4 23 rfl rfl)
theorem dX5_rests_118 : decode bcX5_rests 118 = .ok (.iload_n 3, 1) := dk_29 (dk_at dksX5_rests_5 0 rfl rfl)
theorem dX5_rests_119 : decode bcX5_rests 119 = .ok (.invokestatic 397, 3) := dk_184 1 141 (dk_at dksX5_rests_5 1 rfl rfl)
theorem dX5_rests_122 : decode bcX5_rests 122 = .ok (.if_icmp .gt 7, 3) := dk_163 0 7 (dk_at dksX5_rests_5 4 rfl rfl)
theorem dX5_rests_125 : decode bcX5_rests 125 = .ok (.iconst 1, 1) := dk_4 (dk_at dksX5_rests_5 7 rfl rfl)
theorem dX5_rests_126 : decode bcX5_rests 126 = .ok (.goto 4, 3) := dk_167 0 4 (dk_at dksX5_rests_5 8 rfl rfl)
theorem dX5_rests_129 : decode bcX5_rests 129 = .ok (.iconst 0, 1) := dk_3 (dk_at dksX5_rests_5 11 rfl rfl)
theorem dX5_rests_130 : decode bcX5_rests 130 = .ok (.istore 11, 2) := dk_54 11 (dk_at dksX5_rests_5 12 rfl rfl)
theorem dX5_rests_132 : decode bcX5_rests 132 = .ok (.iload 11, 2) := dk_21 11 (dk_at dksX5_rests_5 14 rfl rfl)
theorem dX5_rests_134 : decode bcX5_rests 134 = .ok (.ifCond .eq 15, 3) := dk_153 0 15 (dk_at dksX5_rests_5 16 rfl rfl)
theorem dX5_rests_137 : decode bcX5_rests 137 = .ok (.iload 6, 2) := dk_21 6 (dk_at dksX5_rests_5 19 rfl rfl)
theorem dX5_rests_139 : decode bcX5_rests 139 = .ok (.iload 4, 2) := dk_21 4 (dk_at dksX5_rests_5 21 rfl rfl)
theorem dX5_rests_141 : decode bcX5_rests 141 = .ok (.if_icmp .ne 8, 3) := dk_160 0 8 (dk_at dksX5_rests_6 0 rfl rfl)
theorem dX5_rests_144 : decode bcX5_rests 144 = .ok (.iload 8, 2) := dk_21 8 (dk_at dksX5_rests_6 3 rfl rfl)
theorem dX5_rests_146 : decode bcX5_rests 146 = .ok (.goto 5, 3) := dk_167 0 5 (dk_at dksX5_rests_6 5 rfl rfl)
theorem dX5_rests_149 : decode bcX5_rests 149 = .ok (.iload 7, 2) := dk_21 7 (dk_at dksX5_rests_6 8 rfl rfl)
theorem dX5_rests_151 : decode bcX5_rests 151 = .ok (.istore 7, 2) := dk_54 7 (dk_at dksX5_rests_6 10 rfl rfl)
theorem dX5_rests_153 : decode bcX5_rests 153 = .ok (.iload 6, 2) := dk_21 6 (dk_at dksX5_rests_6 12 rfl rfl)
theorem dX5_rests_155 : decode bcX5_rests 155 = .ok (.iload 11, 2) := dk_21 11 (dk_at dksX5_rests_6 14 rfl rfl)
theorem dX5_rests_157 : decode bcX5_rests 157 = .ok (.ifCond .eq 7, 3) := dk_153 0 7 (dk_at dksX5_rests_6 16 rfl rfl)
theorem dX5_rests_160 : decode bcX5_rests 160 = .ok (.iconst 1, 1) := dk_4 (dk_at dksX5_rests_6 19 rfl rfl)
theorem dX5_rests_161 : decode bcX5_rests 161 = .ok (.goto 4, 3) := dk_167 0 4 (dk_at dksX5_rests_6 20 rfl rfl)
theorem dX5_rests_164 : decode bcX5_rests 164 = .ok (.iconst 0, 1) := dk_3 (dk_at dksX5_rests_6 23 rfl rfl)
theorem dX5_rests_165 : decode bcX5_rests 165 = .ok (.iadd, 1) := dk_96 (dk_at dksX5_rests_7 0 rfl rfl)
theorem dX5_rests_166 : decode bcX5_rests 166 = .ok (.istore 6, 2) := dk_54 6 (dk_at dksX5_rests_7 1 rfl rfl)
theorem dX5_rests_168 : decode bcX5_rests 168 = .ok (.iinc 8 1, 3) := dk_132 8 1 (dk_at dksX5_rests_7 3 rfl rfl)
theorem dX5_rests_171 : decode bcX5_rests 171 = .ok (.goto (-119), 3) := dk_167 255 137 (dk_at dksX5_rests_7 6 rfl rfl)
theorem dX5_rests_174 : decode bcX5_rests 174 = .ok (.aload_n 0, 1) := dk_42 (dk_at dksX5_rests_7 9 rfl rfl)
theorem dX5_rests_175 : decode bcX5_rests 175 = .ok (.iload 5, 2) := dk_21 5 (dk_at dksX5_rests_7 10 rfl rfl)
theorem dX5_rests_177 : decode bcX5_rests 177 = .ok (.ifCond .eq 17, 3) := dk_153 0 17 (dk_at dksX5_rests_7 12 rfl rfl)
theorem dX5_rests_180 : decode bcX5_rests 180 = .ok (.iload 4, 2) := dk_21 4 (dk_at dksX5_rests_7 15 rfl rfl)
theorem dX5_rests_182 : decode bcX5_rests 182 = .ok (.ifCond .lt 8, 3) := dk_155 0 8 (dk_at dksX5_rests_7 17 rfl rfl)
theorem dX5_rests_185 : decode bcX5_rests 185 = .ok (.iload 7, 2) := dk_21 7 (dk_at dksX5_rests_7 20 rfl rfl)
theorem dX5_rests_187 : decode bcX5_rests 187 = .ok (.ifCond .lt 7, 3) := dk_155 0 7 (dk_at dksX5_rests_8 0 rfl rfl)
theorem dX5_rests_190 : decode bcX5_rests 190 = .ok (.iconst 0, 1) := dk_3 (dk_at dksX5_rests_8 3 rfl rfl)
theorem dX5_rests_191 : decode bcX5_rests 191 = .ok (.goto 4, 3) := dk_167 0 4 (dk_at dksX5_rests_8 4 rfl rfl)
theorem dX5_rests_194 : decode bcX5_rests 194 = .ok (.iconst 1, 1) := dk_4 (dk_at dksX5_rests_8 7 rfl rfl)
theorem dX5_rests_195 : decode bcX5_rests 195 = .ok (.putfield 1, 3) := dk_181 0 1 (dk_at dksX5_rests_8 8 rfl rfl)
theorem dX5_rests_198 : decode bcX5_rests 198 = .ok (.aload_n 0, 1) := dk_42 (dk_at dksX5_rests_8 11 rfl rfl)
theorem dX5_rests_199 : decode bcX5_rests 199 = .ok (.getfield 1, 3) := dk_180 0 1 (dk_at dksX5_rests_8 12 rfl rfl)
theorem dX5_rests_202 : decode bcX5_rests 202 = .ok (.ifCond .le 7, 3) := dk_158 0 7 (dk_at dksX5_rests_8 15 rfl rfl)
theorem dX5_rests_205 : decode bcX5_rests 205 = .ok (.iconst 0, 1) := dk_3 (dk_at dksX5_rests_8 18 rfl rfl)
theorem dX5_rests_206 : decode bcX5_rests 206 = .ok (.goto 15, 3) := dk_167 0 15 (dk_at dksX5_rests_8 19 rfl rfl)
theorem dX5_rests_209 : decode bcX5_rests 209 = .ok (.iload 4, 2) := dk_21 4 (dk_at dksX5_rests_8 22 rfl rfl)
theorem dX5_rests_211 : decode bcX5_rests 211 = .ok (.ifCond .ge 8, 3) := dk_156 0 8 (dk_at dksX5_rests_9 0 rfl rfl)
theorem dX5_rests_214 : decode bcX5_rests 214 = .ok (.iload 6, 2) := dk_21 6 (dk_at dksX5_rests_9 3 rfl rfl)
theorem dX5_rests_216 : decode bcX5_rests 216 = .ok (.goto 5, 3) := dk_167 0 5 (dk_at dksX5_rests_9 5 rfl rfl)
theorem dX5_rests_219 : decode bcX5_rests 219 = .ok (.iload 7, 2) := dk_21 7 (dk_at dksX5_rests_9 8 rfl rfl)
theorem dX5_rests_221 : decode bcX5_rests 221 = .ok (.ireturn, 1) := dk_172 (dk_at dksX5_rests_9 10 rfl rfl)
abbrev SX5_rests (pc : Nat) (i : xI) : Prop := Snd "SwollenHouseModel" "rests" prog_25_method_118_code 12 (Option.some Jvm.ClassFile.FieldType.int) [] pc i
theorem oX5_rests_0 : SX5_rests 0 (i_iload 1 1) := snd_iload_n dX5_rests_0 rfl
theorem oX5_rests_1 : SX5_rests 1 (i_const (.int (nI 0)) 2) := snd_iconst dX5_rests_1 (by decide)
theorem oX5_rests_2 : SX5_rests 2 (i_const (.int (nI 9)) 4) := snd_bipush dX5_rests_2 (by decide)
theorem oX5_rests_4 : SX5_rests 4 (i_cs 268 3 7) := snd_cs rfl infX5_within (by decide) (xSm_S dX5_rests_4 q1855 q1856 q136 q1857 pdX5_within)
theorem oX5_rests_7 : SX5_rests 7 (i_if1 (fun x => x = 0) 40 10) := snd_if_eq dX5_rests_7 (by decide)
theorem oX5_rests_10 : SX5_rests 10 (i_iload 2 11) := snd_iload_n dX5_rests_10 rfl
theorem oX5_rests_11 : SX5_rests 11 (i_const (.int (nI 0)) 12) := snd_iconst dX5_rests_11 (by decide)
theorem oX5_rests_12 : SX5_rests 12 (i_const (.int (nI 9)) 14) := snd_bipush dX5_rests_12 (by decide)
theorem oX5_rests_14 : SX5_rests 14 (i_cs 268 3 17) := snd_cs rfl infX5_within (by decide) (xSm_S dX5_rests_14 q1855 q1856 q136 q1857 pdX5_within)
theorem oX5_rests_17 : SX5_rests 17 (i_if1 (fun x => x = 0) 40 20) := snd_if_eq dX5_rests_17 (by decide)
theorem oX5_rests_20 : SX5_rests 20 (i_iload 3 21) := snd_iload_n dX5_rests_20 rfl
theorem oX5_rests_21 : SX5_rests 21 (i_const (.int (nI 0)) 22) := snd_iconst dX5_rests_21 (by decide)
theorem oX5_rests_22 : SX5_rests 22 (i_const (.int (nI 9)) 24) := snd_bipush dX5_rests_22 (by decide)
theorem oX5_rests_24 : SX5_rests 24 (i_cs 268 3 27) := snd_cs rfl infX5_within (by decide) (xSm_S dX5_rests_24 q1855 q1856 q136 q1857 pdX5_within)
theorem oX5_rests_27 : SX5_rests 27 (i_if1 (fun x => x = 0) 40 30) := snd_if_eq dX5_rests_27 (by decide)
theorem oX5_rests_30 : SX5_rests 30 (i_iload 4 32) := snd_iload dX5_rests_30
theorem oX5_rests_32 : SX5_rests 32 (i_const (.int (-1)) 33) := snd_iconst dX5_rests_32 (by decide)
theorem oX5_rests_33 : SX5_rests 33 (i_if2 (fun x y => x < y) 40 36) := snd_icmp_lt dX5_rests_33 (by decide)
theorem oX5_rests_36 : SX5_rests 36 (i_const (.int (nI 1)) 37) := snd_iconst dX5_rests_36 (by decide)
theorem oX5_rests_37 : SX5_rests 37 (i_goto 41) := snd_goto dX5_rests_37 (by decide)
theorem oX5_rests_40 : SX5_rests 40 (i_const (.int (nI 0)) 41) := snd_iconst dX5_rests_40 (by decide)
theorem oX5_rests_41 : SX5_rests 41 (i_istore 5 43) := snd_istore dX5_rests_41 (by decide)
theorem oX5_rests_43 : SX5_rests 43 (i_const (.int (nI 0)) 44) := snd_iconst dX5_rests_43 (by decide)
theorem oX5_rests_44 : SX5_rests 44 (i_istore 6 46) := snd_istore dX5_rests_44 (by decide)
theorem oX5_rests_46 : SX5_rests 46 (i_const (.int (-1)) 47) := snd_iconst dX5_rests_46 (by decide)
theorem oX5_rests_47 : SX5_rests 47 (i_istore 7 49) := snd_istore dX5_rests_47 (by decide)
theorem oX5_rests_49 : SX5_rests 49 (i_const (.int (nI 0)) 50) := snd_iconst dX5_rests_49 (by decide)
theorem oX5_rests_50 : SX5_rests 50 (i_istore 8 52) := snd_istore dX5_rests_50 (by decide)
theorem oX5_rests_52 : SX5_rests 52 (i_iload 8 54) := snd_iload dX5_rests_52
theorem oX5_rests_54 : SX5_rests 54 (i_const (.int (nI 4)) 55) := snd_iconst dX5_rests_54 (by decide)
theorem oX5_rests_55 : SX5_rests 55 (i_if2 (fun x y => y ≤ x) 174 58) := snd_icmp_ge dX5_rests_55 (by decide)
theorem oX5_rests_58 : SX5_rests 58 (i_iload 5 60) := snd_iload dX5_rests_58
theorem oX5_rests_60 : SX5_rests 60 (i_if1 (fun x => x = 0) 174 63) := snd_if_eq dX5_rests_60 (by decide)
theorem oX5_rests_63 : SX5_rests 63 (i_iload 8 65) := snd_iload dX5_rests_63
theorem oX5_rests_65 : SX5_rests 65 (i_const (.int (nI 2)) 66) := snd_iconst dX5_rests_65 (by decide)
theorem oX5_rests_66 : SX5_rests 66 (i_iz (fun x y => x / y) 67) := snd_idiv dX5_rests_66
theorem oX5_rests_67 : SX5_rests 67 (i_istore 9 69) := snd_istore dX5_rests_67 (by decide)
theorem oX5_rests_69 : SX5_rests 69 (i_iload 8 71) := snd_iload dX5_rests_69
theorem oX5_rests_71 : SX5_rests 71 (i_const (.int (nI 2)) 72) := snd_iconst dX5_rests_71 (by decide)
theorem oX5_rests_72 : SX5_rests 72 (i_iz (fun x y => x - x / y * y) 73) := snd_irem dX5_rests_72
theorem oX5_rests_73 : SX5_rests 73 (i_istore 10 75) := snd_istore dX5_rests_73 (by decide)
theorem oX5_rests_75 : SX5_rests 75 (i_const (.int (nI 1)) 76) := snd_iconst dX5_rests_75 (by decide)
theorem oX5_rests_76 : SX5_rests 76 (i_iload 9 78) := snd_iload dX5_rests_76
theorem oX5_rests_78 : SX5_rests 78 (i_ii (fun x y => x - y) 79) := snd_isub dX5_rests_78
theorem oX5_rests_79 : SX5_rests 79 (i_iload 10 81) := snd_iload dX5_rests_79
theorem oX5_rests_81 : SX5_rests 81 (i_iload 1 82) := snd_iload_n dX5_rests_81 rfl
theorem oX5_rests_82 : SX5_rests 82 (i_iload 2 83) := snd_iload_n dX5_rests_82 rfl
theorem oX5_rests_83 : SX5_rests 83 (i_iload 3 84) := snd_iload_n dX5_rests_83 rfl
theorem oX5_rests_84 : SX5_rests 84 (i_cs 359 5 87) := snd_cs rfl infX5_getsBy (by decide) (xSm_S dX5_rests_84 q2217 q2218 q136 q2219 pdX5_getsBy)
theorem oX5_rests_87 : SX5_rests 87 (i_iload 9 89) := snd_iload dX5_rests_87
theorem oX5_rests_89 : SX5_rests 89 (i_iload 10 91) := snd_iload dX5_rests_89
theorem oX5_rests_91 : SX5_rests 91 (i_iload 1 92) := snd_iload_n dX5_rests_91 rfl
theorem oX5_rests_92 : SX5_rests 92 (i_iload 2 93) := snd_iload_n dX5_rests_92 rfl
theorem oX5_rests_93 : SX5_rests 93 (i_iload 3 94) := snd_iload_n dX5_rests_93 rfl
theorem oX5_rests_94 : SX5_rests 94 (i_cs 359 5 97) := snd_cs rfl infX5_getsBy (by decide) (xSm_S dX5_rests_94 q2217 q2218 q136 q2219 pdX5_getsBy)
theorem oX5_rests_97 : SX5_rests 97 (i_if2 (fun x y => y < x) 129 100) := snd_icmp_gt dX5_rests_97 (by decide)
theorem oX5_rests_100 : SX5_rests 100 (i_const (.int (nI 1)) 101) := snd_iconst dX5_rests_100 (by decide)
theorem oX5_rests_101 : SX5_rests 101 (i_iload 10 103) := snd_iload dX5_rests_101
theorem oX5_rests_103 : SX5_rests 103 (i_ii (fun x y => x - y) 104) := snd_isub dX5_rests_103
theorem oX5_rests_104 : SX5_rests 104 (i_iload 9 106) := snd_iload dX5_rests_104
theorem oX5_rests_106 : SX5_rests 106 (i_iload 1 107) := snd_iload_n dX5_rests_106 rfl
theorem oX5_rests_107 : SX5_rests 107 (i_iload 2 108) := snd_iload_n dX5_rests_107 rfl
theorem oX5_rests_108 : SX5_rests 108 (i_iload 3 109) := snd_iload_n dX5_rests_108 rfl
theorem oX5_rests_109 : SX5_rests 109 (i_cs 359 5 112) := snd_cs rfl infX5_getsBy (by decide) (xSm_S dX5_rests_109 q2217 q2218 q136 q2219 pdX5_getsBy)
theorem oX5_rests_112 : SX5_rests 112 (i_iload 10 114) := snd_iload dX5_rests_112
theorem oX5_rests_114 : SX5_rests 114 (i_iload 9 116) := snd_iload dX5_rests_114
theorem oX5_rests_116 : SX5_rests 116 (i_iload 1 117) := snd_iload_n dX5_rests_116 rfl
theorem oX5_rests_117 : SX5_rests 117 (i_iload 2 118) := snd_iload_n dX5_rests_117 rfl
theorem oX5_rests_118 : SX5_rests 118 (i_iload 3 119) := snd_iload_n dX5_rests_118 rfl
theorem oX5_rests_119 : SX5_rests 119 (i_cs 359 5 122) := snd_cs rfl infX5_getsBy (by decide) (xSm_S dX5_rests_119 q2217 q2218 q136 q2219 pdX5_getsBy)
theorem oX5_rests_122 : SX5_rests 122 (i_if2 (fun x y => y < x) 129 125) := snd_icmp_gt dX5_rests_122 (by decide)
theorem oX5_rests_125 : SX5_rests 125 (i_const (.int (nI 1)) 126) := snd_iconst dX5_rests_125 (by decide)
theorem oX5_rests_126 : SX5_rests 126 (i_goto 130) := snd_goto dX5_rests_126 (by decide)
theorem oX5_rests_129 : SX5_rests 129 (i_const (.int (nI 0)) 130) := snd_iconst dX5_rests_129 (by decide)
theorem oX5_rests_130 : SX5_rests 130 (i_istore 11 132) := snd_istore dX5_rests_130 (by decide)
theorem oX5_rests_132 : SX5_rests 132 (i_iload 11 134) := snd_iload dX5_rests_132
theorem oX5_rests_134 : SX5_rests 134 (i_if1 (fun x => x = 0) 149 137) := snd_if_eq dX5_rests_134 (by decide)
theorem oX5_rests_137 : SX5_rests 137 (i_iload 6 139) := snd_iload dX5_rests_137
theorem oX5_rests_139 : SX5_rests 139 (i_iload 4 141) := snd_iload dX5_rests_139
theorem oX5_rests_141 : SX5_rests 141 (i_if2 (fun x y => ¬ x = y) 149 144) := snd_icmp_ne dX5_rests_141 (by decide)
theorem oX5_rests_144 : SX5_rests 144 (i_iload 8 146) := snd_iload dX5_rests_144
theorem oX5_rests_146 : SX5_rests 146 (i_goto 151) := snd_goto dX5_rests_146 (by decide)
theorem oX5_rests_149 : SX5_rests 149 (i_iload 7 151) := snd_iload dX5_rests_149
theorem oX5_rests_151 : SX5_rests 151 (i_istore 7 153) := snd_istore dX5_rests_151 (by decide)
theorem oX5_rests_153 : SX5_rests 153 (i_iload 6 155) := snd_iload dX5_rests_153
theorem oX5_rests_155 : SX5_rests 155 (i_iload 11 157) := snd_iload dX5_rests_155
theorem oX5_rests_157 : SX5_rests 157 (i_if1 (fun x => x = 0) 164 160) := snd_if_eq dX5_rests_157 (by decide)
theorem oX5_rests_160 : SX5_rests 160 (i_const (.int (nI 1)) 161) := snd_iconst dX5_rests_160 (by decide)
theorem oX5_rests_161 : SX5_rests 161 (i_goto 165) := snd_goto dX5_rests_161 (by decide)
theorem oX5_rests_164 : SX5_rests 164 (i_const (.int (nI 0)) 165) := snd_iconst dX5_rests_164 (by decide)
theorem oX5_rests_165 : SX5_rests 165 (i_ii (fun x y => x + y) 166) := snd_iadd dX5_rests_165
theorem oX5_rests_166 : SX5_rests 166 (i_istore 6 168) := snd_istore dX5_rests_166 (by decide)
theorem oX5_rests_168 : SX5_rests 168 (i_iinc 8 (nI 1) 171) := snd_iinc dX5_rests_168 (by decide) (by decide)
theorem oX5_rests_171 : SX5_rests 171 (i_goto 52) := snd_goto dX5_rests_171 (by decide)
theorem oX5_rests_174 : SX5_rests 174 (i_aload 0 175) := snd_aload_n dX5_rests_174 rfl
theorem oX5_rests_175 : SX5_rests 175 (i_iload 5 177) := snd_iload dX5_rests_175
theorem oX5_rests_177 : SX5_rests 177 (i_if1 (fun x => x = 0) 194 180) := snd_if_eq dX5_rests_177 (by decide)
theorem oX5_rests_180 : SX5_rests 180 (i_iload 4 182) := snd_iload dX5_rests_180
theorem oX5_rests_182 : SX5_rests 182 (i_if1 (fun x => x < 0) 190 185) := snd_if_lt dX5_rests_182 (by decide)
theorem oX5_rests_185 : SX5_rests 185 (i_iload 7 187) := snd_iload dX5_rests_185
theorem oX5_rests_187 : SX5_rests 187 (i_if1 (fun x => x < 0) 194 190) := snd_if_lt dX5_rests_187 (by decide)
theorem oX5_rests_190 : SX5_rests 190 (i_const (.int (nI 0)) 191) := snd_iconst dX5_rests_190 (by decide)
theorem oX5_rests_191 : SX5_rests 191 (i_goto 195) := snd_goto dX5_rests_191 (by decide)
theorem oX5_rests_194 : SX5_rests 194 (i_const (.int (nI 1)) 195) := snd_iconst dX5_rests_194 (by decide)
theorem oX5_rests_195 : SX5_rests 195 (i_putfi 4 0 198) := snd_putfi dX5_rests_195 rfl (by decide) in_X5 tyX5 tyX5_ok nmX5 (Or.inl ⟨rfl, q1698⟩) (Or.inl rfl) rfl
theorem oX5_rests_198 : SX5_rests 198 (i_aload 0 199) := snd_aload_n dX5_rests_198 rfl
theorem oX5_rests_199 : SX5_rests 199 (i_getf 4 0 202) := snd_getf dX5_rests_199 rfl (by decide) in_X5 (Or.inl q1698) (Or.inl rfl) (by decide)
theorem oX5_rests_202 : SX5_rests 202 (i_if1 (fun x => x ≤ 0) 209 205) := snd_if_le dX5_rests_202 (by decide)
theorem oX5_rests_205 : SX5_rests 205 (i_const (.int (nI 0)) 206) := snd_iconst dX5_rests_205 (by decide)
theorem oX5_rests_206 : SX5_rests 206 (i_goto 221) := snd_goto dX5_rests_206 (by decide)
theorem oX5_rests_209 : SX5_rests 209 (i_iload 4 211) := snd_iload dX5_rests_209
theorem oX5_rests_211 : SX5_rests 211 (i_if1 (fun x => 0 ≤ x) 219 214) := snd_if_ge dX5_rests_211 (by decide)
theorem oX5_rests_214 : SX5_rests 214 (i_iload 6 216) := snd_iload dX5_rests_214
theorem oX5_rests_216 : SX5_rests 216 (i_goto 221) := snd_goto dX5_rests_216 (by decide)
theorem oX5_rests_219 : SX5_rests 219 (i_iload 7 221) := snd_iload dX5_rests_219
theorem oX5_rests_221 : SX5_rests 221 (i_iret) := snd_iret dX5_rests_221 rfl
theorem okX5_rests : ∀ q ∈ cX5_rests, SX5_rests q.1 q.2 := List.forall_mem_cons.mpr ⟨oX5_rests_0, List.forall_mem_cons.mpr ⟨oX5_rests_1, List.forall_mem_cons.mpr ⟨oX5_rests_2, List.forall_mem_cons.mpr ⟨oX5_rests_4, List.forall_mem_cons.mpr ⟨oX5_rests_7, List.forall_mem_cons.mpr ⟨oX5_rests_10, List.forall_mem_cons.mpr ⟨oX5_rests_11, List.forall_mem_cons.mpr ⟨oX5_rests_12, List.forall_mem_cons.mpr ⟨oX5_rests_14, List.forall_mem_cons.mpr ⟨oX5_rests_17, List.forall_mem_cons.mpr ⟨oX5_rests_20, List.forall_mem_cons.mpr ⟨oX5_rests_21, List.forall_mem_cons.mpr ⟨oX5_rests_22, List.forall_mem_cons.mpr ⟨oX5_rests_24, List.forall_mem_cons.mpr ⟨oX5_rests_27, List.forall_mem_cons.mpr ⟨oX5_rests_30, List.forall_mem_cons.mpr ⟨oX5_rests_32, List.forall_mem_cons.mpr ⟨oX5_rests_33, List.forall_mem_cons.mpr ⟨oX5_rests_36, List.forall_mem_cons.mpr ⟨oX5_rests_37, List.forall_mem_cons.mpr ⟨oX5_rests_40, List.forall_mem_cons.mpr ⟨oX5_rests_41, List.forall_mem_cons.mpr ⟨oX5_rests_43, List.forall_mem_cons.mpr ⟨oX5_rests_44, List.forall_mem_cons.mpr ⟨oX5_rests_46, List.forall_mem_cons.mpr ⟨oX5_rests_47, List.forall_mem_cons.mpr ⟨oX5_rests_49, List.forall_mem_cons.mpr ⟨oX5_rests_50, List.forall_mem_cons.mpr ⟨oX5_rests_52, List.forall_mem_cons.mpr ⟨oX5_rests_54, List.forall_mem_cons.mpr ⟨oX5_rests_55, List.forall_mem_cons.mpr ⟨oX5_rests_58, List.forall_mem_cons.mpr ⟨oX5_rests_60, List.forall_mem_cons.mpr ⟨oX5_rests_63, List.forall_mem_cons.mpr ⟨oX5_rests_65, List.forall_mem_cons.mpr ⟨oX5_rests_66, List.forall_mem_cons.mpr ⟨oX5_rests_67, List.forall_mem_cons.mpr ⟨oX5_rests_69, List.forall_mem_cons.mpr ⟨oX5_rests_71, List.forall_mem_cons.mpr ⟨oX5_rests_72, List.forall_mem_cons.mpr ⟨oX5_rests_73, List.forall_mem_cons.mpr ⟨oX5_rests_75, List.forall_mem_cons.mpr ⟨oX5_rests_76, List.forall_mem_cons.mpr ⟨oX5_rests_78, List.forall_mem_cons.mpr ⟨oX5_rests_79, List.forall_mem_cons.mpr ⟨oX5_rests_81, List.forall_mem_cons.mpr ⟨oX5_rests_82, List.forall_mem_cons.mpr ⟨oX5_rests_83, List.forall_mem_cons.mpr ⟨oX5_rests_84, List.forall_mem_cons.mpr ⟨oX5_rests_87, List.forall_mem_cons.mpr ⟨oX5_rests_89, List.forall_mem_cons.mpr ⟨oX5_rests_91, List.forall_mem_cons.mpr ⟨oX5_rests_92, List.forall_mem_cons.mpr ⟨oX5_rests_93, List.forall_mem_cons.mpr ⟨oX5_rests_94, List.forall_mem_cons.mpr ⟨oX5_rests_97, List.forall_mem_cons.mpr ⟨oX5_rests_100, List.forall_mem_cons.mpr ⟨oX5_rests_101, List.forall_mem_cons.mpr ⟨oX5_rests_103, List.forall_mem_cons.mpr ⟨oX5_rests_104, List.forall_mem_cons.mpr ⟨oX5_rests_106, List.forall_mem_cons.mpr ⟨oX5_rests_107, List.forall_mem_cons.mpr ⟨oX5_rests_108, List.forall_mem_cons.mpr ⟨oX5_rests_109, List.forall_mem_cons.mpr ⟨oX5_rests_112, List.forall_mem_cons.mpr ⟨oX5_rests_114, List.forall_mem_cons.mpr ⟨oX5_rests_116, List.forall_mem_cons.mpr ⟨oX5_rests_117, List.forall_mem_cons.mpr ⟨oX5_rests_118, List.forall_mem_cons.mpr ⟨oX5_rests_119, List.forall_mem_cons.mpr ⟨oX5_rests_122, List.forall_mem_cons.mpr ⟨oX5_rests_125, List.forall_mem_cons.mpr ⟨oX5_rests_126, List.forall_mem_cons.mpr ⟨oX5_rests_129, List.forall_mem_cons.mpr ⟨oX5_rests_130, List.forall_mem_cons.mpr ⟨oX5_rests_132, List.forall_mem_cons.mpr ⟨oX5_rests_134, List.forall_mem_cons.mpr ⟨oX5_rests_137, List.forall_mem_cons.mpr ⟨oX5_rests_139, List.forall_mem_cons.mpr ⟨oX5_rests_141, List.forall_mem_cons.mpr ⟨oX5_rests_144, List.forall_mem_cons.mpr ⟨oX5_rests_146, List.forall_mem_cons.mpr ⟨oX5_rests_149, List.forall_mem_cons.mpr ⟨oX5_rests_151, List.forall_mem_cons.mpr ⟨oX5_rests_153, List.forall_mem_cons.mpr ⟨oX5_rests_155, List.forall_mem_cons.mpr ⟨oX5_rests_157, List.forall_mem_cons.mpr ⟨oX5_rests_160, List.forall_mem_cons.mpr ⟨oX5_rests_161, List.forall_mem_cons.mpr ⟨oX5_rests_164, List.forall_mem_cons.mpr ⟨oX5_rests_165, List.forall_mem_cons.mpr ⟨oX5_rests_166, List.forall_mem_cons.mpr ⟨oX5_rests_168, List.forall_mem_cons.mpr ⟨oX5_rests_171, List.forall_mem_cons.mpr ⟨oX5_rests_174, List.forall_mem_cons.mpr ⟨oX5_rests_175, List.forall_mem_cons.mpr ⟨oX5_rests_177, List.forall_mem_cons.mpr ⟨oX5_rests_180, List.forall_mem_cons.mpr ⟨oX5_rests_182, List.forall_mem_cons.mpr ⟨oX5_rests_185, List.forall_mem_cons.mpr ⟨oX5_rests_187, List.forall_mem_cons.mpr ⟨oX5_rests_190, List.forall_mem_cons.mpr ⟨oX5_rests_191, List.forall_mem_cons.mpr ⟨oX5_rests_194, List.forall_mem_cons.mpr ⟨oX5_rests_195, List.forall_mem_cons.mpr ⟨oX5_rests_198, List.forall_mem_cons.mpr ⟨oX5_rests_199, List.forall_mem_cons.mpr ⟨oX5_rests_202, List.forall_mem_cons.mpr ⟨oX5_rests_205, List.forall_mem_cons.mpr ⟨oX5_rests_206, List.forall_mem_cons.mpr ⟨oX5_rests_209, List.forall_mem_cons.mpr ⟨oX5_rests_211, List.forall_mem_cons.mpr ⟨oX5_rests_214, List.forall_mem_cons.mpr ⟨oX5_rests_216, List.forall_mem_cons.mpr ⟨oX5_rests_219, List.forall_mem_cons.mpr ⟨oX5_rests_221, fun _ h => absurd h List.not_mem_nil⟩⟩⟩⟩⟩⟩⟩⟩⟩⟩⟩⟩⟩⟩⟩⟩⟩⟩⟩⟩⟩⟩⟩⟩⟩⟩⟩⟩⟩⟩⟩⟩⟩⟩⟩⟩⟩⟩⟩⟩⟩⟩⟩⟩⟩⟩⟩⟩⟩⟩⟩⟩⟩⟩⟩⟩⟩⟩⟩⟩⟩⟩⟩⟩⟩⟩⟩⟩⟩⟩⟩⟩⟩⟩⟩⟩⟩⟩⟩⟩⟩⟩⟩⟩⟩⟩⟩⟩⟩⟩⟩⟩⟩⟩⟩⟩⟩⟩⟩⟩⟩⟩⟩⟩⟩⟩⟩⟩⟩⟩⟩⟩⟩⟩⟩⟩
def dkwX5_getsBy_1 : List UInt8 := [21, 4, 167, 0, 4, 3, 172]
abbrev dktX5_getsBy_1 : List UInt8 := dkwX5_getsBy_1 ++ []
def dkwX5_getsBy_0 : List UInt8 := [26, 4, 160, 0, 17, 27, 4, 160, 0, 8, 28, 116, 167, 0, 18, 29, 167, 0, 14, 27, 4, 160, 0, 8]
abbrev dktX5_getsBy_0 : List UInt8 := dkwX5_getsBy_0 ++ dktX5_getsBy_1
theorem dksX5_getsBy_0 : bcX5_getsBy.data.toList.drop 0 = dktX5_getsBy_0 := by decide +kernel
theorem dksX5_getsBy_1 : bcX5_getsBy.data.toList.drop 24 = dktX5_getsBy_1 := dk_seg dksX5_getsBy_0 24 rfl rfl
theorem dX5_getsBy_0 : decode bcX5_getsBy 0 = .ok (.iload_n 0, 1) := dk_26 (dk_at dksX5_getsBy_0 0 rfl rfl)
theorem dX5_getsBy_1 : decode bcX5_getsBy 1 = .ok (.iconst 1, 1) := dk_4 (dk_at dksX5_getsBy_0 1 rfl rfl)
theorem dX5_getsBy_2 : decode bcX5_getsBy 2 = .ok (.if_icmp .ne 17, 3) := dk_160 0 17 (dk_at dksX5_getsBy_0 2 rfl rfl)
theorem dX5_getsBy_5 : decode bcX5_getsBy 5 = .ok (.iload_n 1, 1) := dk_27 (dk_at dksX5_getsBy_0 5 rfl rfl)
theorem dX5_getsBy_6 : decode bcX5_getsBy 6 = .ok (.iconst 1, 1) := dk_4 (dk_at dksX5_getsBy_0 6 rfl rfl)
theorem dX5_getsBy_7 : decode bcX5_getsBy 7 = .ok (.if_icmp .ne 8, 3) := dk_160 0 8 (dk_at dksX5_getsBy_0 7 rfl rfl)
theorem dX5_getsBy_10 : decode bcX5_getsBy 10 = .ok (.iload_n 2, 1) := dk_28 (dk_at dksX5_getsBy_0 10 rfl rfl)
theorem dX5_getsBy_11 : decode bcX5_getsBy 11 = .ok (.ineg, 1) := dk_116 (dk_at dksX5_getsBy_0 11 rfl rfl)
theorem dX5_getsBy_12 : decode bcX5_getsBy 12 = .ok (.goto 18, 3) := dk_167 0 18 (dk_at dksX5_getsBy_0 12 rfl rfl)
theorem dX5_getsBy_15 : decode bcX5_getsBy 15 = .ok (.iload_n 3, 1) := dk_29 (dk_at dksX5_getsBy_0 15 rfl rfl)
theorem dX5_getsBy_16 : decode bcX5_getsBy 16 = .ok (.goto 14, 3) := dk_167 0 14 (dk_at dksX5_getsBy_0 16 rfl rfl)
theorem dX5_getsBy_19 : decode bcX5_getsBy 19 = .ok (.iload_n 1, 1) := dk_27 (dk_at dksX5_getsBy_0 19 rfl rfl)
theorem dX5_getsBy_20 : decode bcX5_getsBy 20 = .ok (.iconst 1, 1) := dk_4 (dk_at dksX5_getsBy_0 20 rfl rfl)
theorem dX5_getsBy_21 : decode bcX5_getsBy 21 = .ok (.if_icmp .ne 8, 3) := dk_160 0 8 (dk_at dksX5_getsBy_0 21 rfl rfl)
theorem dX5_getsBy_24 : decode bcX5_getsBy 24 = .ok (.iload 4, 2) := dk_21 4 (dk_at dksX5_getsBy_1 0 rfl rfl)
theorem dX5_getsBy_26 : decode bcX5_getsBy 26 = .ok (.goto 4, 3) := dk_167 0 4 (dk_at dksX5_getsBy_1 2 rfl rfl)
theorem dX5_getsBy_29 : decode bcX5_getsBy 29 = .ok (.iconst 0, 1) := dk_3 (dk_at dksX5_getsBy_1 5 rfl rfl)
theorem dX5_getsBy_30 : decode bcX5_getsBy 30 = .ok (.ireturn, 1) := dk_172 (dk_at dksX5_getsBy_1 6 rfl rfl)
abbrev SX5_getsBy (pc : Nat) (i : xI) : Prop := Snd "SwollenHouseModel" "getsBy" prog_25_method_117_code 5 (Option.some Jvm.ClassFile.FieldType.int) [] pc i
theorem oX5_getsBy_0 : SX5_getsBy 0 (i_iload 0 1) := snd_iload_n dX5_getsBy_0 rfl
theorem oX5_getsBy_1 : SX5_getsBy 1 (i_const (.int (nI 1)) 2) := snd_iconst dX5_getsBy_1 (by decide)
theorem oX5_getsBy_2 : SX5_getsBy 2 (i_if2 (fun x y => ¬ x = y) 19 5) := snd_icmp_ne dX5_getsBy_2 (by decide)
theorem oX5_getsBy_5 : SX5_getsBy 5 (i_iload 1 6) := snd_iload_n dX5_getsBy_5 rfl
theorem oX5_getsBy_6 : SX5_getsBy 6 (i_const (.int (nI 1)) 7) := snd_iconst dX5_getsBy_6 (by decide)
theorem oX5_getsBy_7 : SX5_getsBy 7 (i_if2 (fun x y => ¬ x = y) 15 10) := snd_icmp_ne dX5_getsBy_7 (by decide)
theorem oX5_getsBy_10 : SX5_getsBy 10 (i_iload 2 11) := snd_iload_n dX5_getsBy_10 rfl
theorem oX5_getsBy_11 : SX5_getsBy 11 (i_i1 (fun x => -x) 12) := snd_ineg dX5_getsBy_11
theorem oX5_getsBy_12 : SX5_getsBy 12 (i_goto 30) := snd_goto dX5_getsBy_12 (by decide)
theorem oX5_getsBy_15 : SX5_getsBy 15 (i_iload 3 16) := snd_iload_n dX5_getsBy_15 rfl
theorem oX5_getsBy_16 : SX5_getsBy 16 (i_goto 30) := snd_goto dX5_getsBy_16 (by decide)
theorem oX5_getsBy_19 : SX5_getsBy 19 (i_iload 1 20) := snd_iload_n dX5_getsBy_19 rfl
theorem oX5_getsBy_20 : SX5_getsBy 20 (i_const (.int (nI 1)) 21) := snd_iconst dX5_getsBy_20 (by decide)
theorem oX5_getsBy_21 : SX5_getsBy 21 (i_if2 (fun x y => ¬ x = y) 29 24) := snd_icmp_ne dX5_getsBy_21 (by decide)
theorem oX5_getsBy_24 : SX5_getsBy 24 (i_iload 4 26) := snd_iload dX5_getsBy_24
theorem oX5_getsBy_26 : SX5_getsBy 26 (i_goto 30) := snd_goto dX5_getsBy_26 (by decide)
theorem oX5_getsBy_29 : SX5_getsBy 29 (i_const (.int (nI 0)) 30) := snd_iconst dX5_getsBy_29 (by decide)
theorem oX5_getsBy_30 : SX5_getsBy 30 (i_iret) := snd_iret dX5_getsBy_30 rfl
theorem okX5_getsBy : ∀ q ∈ cX5_getsBy, SX5_getsBy q.1 q.2 := List.forall_mem_cons.mpr ⟨oX5_getsBy_0, List.forall_mem_cons.mpr ⟨oX5_getsBy_1, List.forall_mem_cons.mpr ⟨oX5_getsBy_2, List.forall_mem_cons.mpr ⟨oX5_getsBy_5, List.forall_mem_cons.mpr ⟨oX5_getsBy_6, List.forall_mem_cons.mpr ⟨oX5_getsBy_7, List.forall_mem_cons.mpr ⟨oX5_getsBy_10, List.forall_mem_cons.mpr ⟨oX5_getsBy_11, List.forall_mem_cons.mpr ⟨oX5_getsBy_12, List.forall_mem_cons.mpr ⟨oX5_getsBy_15, List.forall_mem_cons.mpr ⟨oX5_getsBy_16, List.forall_mem_cons.mpr ⟨oX5_getsBy_19, List.forall_mem_cons.mpr ⟨oX5_getsBy_20, List.forall_mem_cons.mpr ⟨oX5_getsBy_21, List.forall_mem_cons.mpr ⟨oX5_getsBy_24, List.forall_mem_cons.mpr ⟨oX5_getsBy_26, List.forall_mem_cons.mpr ⟨oX5_getsBy_29, List.forall_mem_cons.mpr ⟨oX5_getsBy_30, fun _ h => absurd h List.not_mem_nil⟩⟩⟩⟩⟩⟩⟩⟩⟩⟩⟩⟩⟩⟩⟩⟩⟩⟩
def dkwX5_years_5 : List UInt8 := [17, 5, 150, 182, 1, 74, 184, 1, 95, 167, 0, 14, 42, 17, 5, 160, 42, 182, 1, 16, 182, 1, 163, 172]
abbrev dktX5_years_5 : List UInt8 := dkwX5_years_5 ++ []
def dkwX5_years_4 : List UInt8 := [182, 1, 72, 132, 5, 1, 167, 255, 216, 29, 154, 0, 8, 21, 4, 167, 0, 32, 29, 4, 160, 0, 16, 42]
abbrev dktX5_years_4 : List UInt8 := dkwX5_years_4 ++ dktX5_years_5
def dkwX5_years_3 : List UInt8 := [158, 0, 14, 42, 182, 1, 160, 153, 0, 7, 4, 167, 0, 4, 3, 96, 54, 4, 42, 17, 5, 150]
abbrev dktX5_years_3 : List UInt8 := dkwX5_years_3 ++ dktX5_years_4
def dkwX5_years_2 : List UInt8 := [42, 27, 133, 181, 1, 145, 3, 54, 4, 3, 54, 5, 21, 5, 28, 162, 0, 40, 21, 4, 42, 182, 1, 16]
abbrev dktX5_years_2 : List UInt8 := dkwX5_years_2 ++ dktX5_years_3
def dkwX5_years_1 : List UInt8 := [153, 0, 12, 29, 3, 5, 184, 0, 204, 154, 0, 5, 2, 172, 42, 3, 17, 5, 150, 16, 23, 182, 1, 32]
abbrev dktX5_years_1 : List UInt8 := dkwX5_years_1 ++ dktX5_years_2
def dkwX5_years_0 : List UInt8 := [42, 3, 181, 0, 1, 27, 3, 17, 39, 15, 184, 0, 204, 153, 0, 22, 28, 4, 16, 99, 184, 0, 204]
abbrev dktX5_years_0 : List UInt8 := dkwX5_years_0 ++ dktX5_years_1
theorem dksX5_years_0 : bcX5_years.data.toList.drop 0 = dktX5_years_0 := by decide +kernel
theorem dksX5_years_1 : bcX5_years.data.toList.drop 23 = dktX5_years_1 := dk_seg dksX5_years_0 23 rfl rfl
theorem dksX5_years_2 : bcX5_years.data.toList.drop 47 = dktX5_years_2 := dk_seg dksX5_years_1 24 rfl rfl
theorem dksX5_years_3 : bcX5_years.data.toList.drop 71 = dktX5_years_3 := dk_seg dksX5_years_2 24 rfl rfl
theorem dksX5_years_4 : bcX5_years.data.toList.drop 93 = dktX5_years_4 := dk_seg dksX5_years_3 22 rfl rfl
theorem dksX5_years_5 : bcX5_years.data.toList.drop 117 = dktX5_years_5 := dk_seg dksX5_years_4 24 rfl rfl
theorem dX5_years_0 : decode bcX5_years 0 = .ok (.aload_n 0, 1) := dk_42 (dk_at dksX5_years_0 0 rfl rfl)
theorem dX5_years_1 : decode bcX5_years 1 = .ok (.iconst 0, 1) := dk_3 (dk_at dksX5_years_0 1 rfl rfl)
theorem dX5_years_2 : decode bcX5_years 2 = .ok (.putfield 1, 3) := dk_181 0 1 (dk_at dksX5_years_0 2 rfl rfl)
theorem dX5_years_5 : decode bcX5_years 5 = .ok (.iload_n 1, 1) := dk_27 (dk_at dksX5_years_0 5 rfl rfl)
theorem dX5_years_6 : decode bcX5_years 6 = .ok (.iconst 0, 1) := dk_3 (dk_at dksX5_years_0 6 rfl rfl)
theorem dX5_years_7 : decode bcX5_years 7 = .ok (.sipush 9999, 3) := dk_17 39 15 (dk_at dksX5_years_0 7 rfl rfl)
theorem dX5_years_10 : decode bcX5_years 10 = .ok (.invokestatic 204, 3) := dk_184 0 204 (dk_at dksX5_years_0 10 rfl rfl)
theorem dX5_years_13 : decode bcX5_years 13 = .ok (.ifCond .eq 22, 3) := dk_153 0 22 (dk_at dksX5_years_0 13 rfl rfl)
theorem dX5_years_16 : decode bcX5_years 16 = .ok (.iload_n 2, 1) := dk_28 (dk_at dksX5_years_0 16 rfl rfl)
theorem dX5_years_17 : decode bcX5_years 17 = .ok (.iconst 1, 1) := dk_4 (dk_at dksX5_years_0 17 rfl rfl)
theorem dX5_years_18 : decode bcX5_years 18 = .ok (.bipush 99, 2) := dk_16 99 (dk_at dksX5_years_0 18 rfl rfl)
theorem dX5_years_20 : decode bcX5_years 20 = .ok (.invokestatic 204, 3) := dk_184 0 204 (dk_at dksX5_years_0 20 rfl rfl)
theorem dX5_years_23 : decode bcX5_years 23 = .ok (.ifCond .eq 12, 3) := dk_153 0 12 (dk_at dksX5_years_1 0 rfl rfl)
theorem dX5_years_26 : decode bcX5_years 26 = .ok (.iload_n 3, 1) := dk_29 (dk_at dksX5_years_1 3 rfl rfl)
theorem dX5_years_27 : decode bcX5_years 27 = .ok (.iconst 0, 1) := dk_3 (dk_at dksX5_years_1 4 rfl rfl)
theorem dX5_years_28 : decode bcX5_years 28 = .ok (.iconst 2, 1) := dk_5 (dk_at dksX5_years_1 5 rfl rfl)
theorem dX5_years_29 : decode bcX5_years 29 = .ok (.invokestatic 204, 3) := dk_184 0 204 (dk_at dksX5_years_1 6 rfl rfl)
theorem dX5_years_32 : decode bcX5_years 32 = .ok (.ifCond .ne 5, 3) := dk_154 0 5 (dk_at dksX5_years_1 9 rfl rfl)
theorem dX5_years_35 : decode bcX5_years 35 = .ok (.iconst (-1), 1) := dk_2 (dk_at dksX5_years_1 12 rfl rfl)
theorem dX5_years_36 : decode bcX5_years 36 = .ok (.ireturn, 1) := dk_172 (dk_at dksX5_years_1 13 rfl rfl)
theorem dX5_years_37 : decode bcX5_years 37 = .ok (.aload_n 0, 1) := dk_42 (dk_at dksX5_years_1 14 rfl rfl)
theorem dX5_years_38 : decode bcX5_years 38 = .ok (.iconst 0, 1) := dk_3 (dk_at dksX5_years_1 15 rfl rfl)
theorem dX5_years_39 : decode bcX5_years 39 = .ok (.sipush 1430, 3) := dk_17 5 150 (dk_at dksX5_years_1 16 rfl rfl)
theorem dX5_years_42 : decode bcX5_years 42 = .ok (.bipush 23, 2) := dk_16 23 (dk_at dksX5_years_1 19 rfl rfl)
theorem dX5_years_44 : decode bcX5_years 44 = .ok (.invokevirtual 288, 3) := dk_182 1 32 (dk_at dksX5_years_1 21 rfl rfl)
theorem dX5_years_47 : decode bcX5_years 47 = .ok (.aload_n 0, 1) := dk_42 (dk_at dksX5_years_2 0 rfl rfl)
theorem dX5_years_48 : decode bcX5_years 48 = .ok (.iload_n 1, 1) := dk_27 (dk_at dksX5_years_2 1 rfl rfl)
theorem dX5_years_49 : decode bcX5_years 49 = .ok (.i2l, 1) := dk_133 (dk_at dksX5_years_2 2 rfl rfl)
theorem dX5_years_50 : decode bcX5_years 50 = .ok (.putfield 401, 3) := dk_181 1 145 (dk_at dksX5_years_2 3 rfl rfl)
theorem dX5_years_53 : decode bcX5_years 53 = .ok (.iconst 0, 1) := dk_3 (dk_at dksX5_years_2 6 rfl rfl)
theorem dX5_years_54 : decode bcX5_years 54 = .ok (.istore 4, 2) := dk_54 4 (dk_at dksX5_years_2 7 rfl rfl)
theorem dX5_years_56 : decode bcX5_years 56 = .ok (.iconst 0, 1) := dk_3 (dk_at dksX5_years_2 9 rfl rfl)
theorem dX5_years_57 : decode bcX5_years 57 = .ok (.istore 5, 2) := dk_54 5 (dk_at dksX5_years_2 10 rfl rfl)
theorem dX5_years_59 : decode bcX5_years 59 = .ok (.iload 5, 2) := dk_21 5 (dk_at dksX5_years_2 12 rfl rfl)
theorem dX5_years_61 : decode bcX5_years 61 = .ok (.iload_n 2, 1) := dk_28 (dk_at dksX5_years_2 14 rfl rfl)
theorem dX5_years_62 : decode bcX5_years 62 = .ok (.if_icmp .ge 40, 3) := dk_162 0 40 (dk_at dksX5_years_2 15 rfl rfl)
theorem dX5_years_65 : decode bcX5_years 65 = .ok (.iload 4, 2) := dk_21 4 (dk_at dksX5_years_2 18 rfl rfl)
theorem dX5_years_67 : decode bcX5_years 67 = .ok (.aload_n 0, 1) := dk_42 (dk_at dksX5_years_2 20 rfl rfl)
theorem dX5_years_68 : decode bcX5_years 68 = .ok (.invokevirtual 272, 3) := dk_182 1 16 (dk_at dksX5_years_2 21 rfl rfl)
theorem dX5_years_71 : decode bcX5_years 71 = .ok (.ifCond .le 14, 3) := dk_158 0 14 (dk_at dksX5_years_3 0 rfl rfl)
theorem dX5_years_74 : decode bcX5_years 74 = .ok (.aload_n 0, 1) := dk_42 (dk_at dksX5_years_3 3 rfl rfl)
theorem dX5_years_75 : decode bcX5_years 75 = .ok (.invokevirtual 416, 3) := dk_182 1 160 (dk_at dksX5_years_3 4 rfl rfl)
theorem dX5_years_78 : decode bcX5_years 78 = .ok (.ifCond .eq 7, 3) := dk_153 0 7 (dk_at dksX5_years_3 7 rfl rfl)
theorem dX5_years_81 : decode bcX5_years 81 = .ok (.iconst 1, 1) := dk_4 (dk_at dksX5_years_3 10 rfl rfl)
theorem dX5_years_82 : decode bcX5_years 82 = .ok (.goto 4, 3) := dk_167 0 4 (dk_at dksX5_years_3 11 rfl rfl)
theorem dX5_years_85 : decode bcX5_years 85 = .ok (.iconst 0, 1) := dk_3 (dk_at dksX5_years_3 14 rfl rfl)
theorem dX5_years_86 : decode bcX5_years 86 = .ok (.iadd, 1) := dk_96 (dk_at dksX5_years_3 15 rfl rfl)
theorem dX5_years_87 : decode bcX5_years 87 = .ok (.istore 4, 2) := dk_54 4 (dk_at dksX5_years_3 16 rfl rfl)
theorem dX5_years_89 : decode bcX5_years 89 = .ok (.aload_n 0, 1) := dk_42 (dk_at dksX5_years_3 18 rfl rfl)
theorem dX5_years_90 : decode bcX5_years 90 = .ok (.sipush 1430, 3) := dk_17 5 150 (dk_at dksX5_years_3 19 rfl rfl)
theorem dX5_years_93 : decode bcX5_years 93 = .ok (.invokevirtual 328, 3) := dk_182 1 72 (dk_at dksX5_years_4 0 rfl rfl)
theorem dX5_years_96 : decode bcX5_years 96 = .ok (.iinc 5 1, 3) := dk_132 5 1 (dk_at dksX5_years_4 3 rfl rfl)
theorem dX5_years_99 : decode bcX5_years 99 = .ok (.goto (-40), 3) := dk_167 255 216 (dk_at dksX5_years_4 6 rfl rfl)
theorem dX5_years_102 : decode bcX5_years 102 = .ok (.iload_n 3, 1) := dk_29 (dk_at dksX5_years_4 9 rfl rfl)
theorem dX5_years_103 : decode bcX5_years 103 = .ok (.ifCond .ne 8, 3) := dk_154 0 8 (dk_at dksX5_years_4 10 rfl rfl)
theorem dX5_years_106 : decode bcX5_years 106 = .ok (.iload 4, 2) := dk_21 4 (dk_at dksX5_years_4 13 rfl rfl)
theorem dX5_years_108 : decode bcX5_years 108 = .ok (.goto 32, 3) := dk_167 0 32 (dk_at dksX5_years_4 15 rfl rfl)
theorem dX5_years_111 : decode bcX5_years 111 = .ok (.iload_n 3, 1) := dk_29 (dk_at dksX5_years_4 18 rfl rfl)
theorem dX5_years_112 : decode bcX5_years 112 = .ok (.iconst 1, 1) := dk_4 (dk_at dksX5_years_4 19 rfl rfl)
theorem dX5_years_113 : decode bcX5_years 113 = .ok (.if_icmp .ne 16, 3) := dk_160 0 16 (dk_at dksX5_years_4 20 rfl rfl)
theorem dX5_years_116 : decode bcX5_years 116 = .ok (.aload_n 0, 1) := dk_42 (dk_at dksX5_years_4 23 rfl rfl)
theorem dX5_years_117 : decode bcX5_years 117 = .ok (.sipush 1430, 3) := dk_17 5 150 (dk_at dksX5_years_5 0 rfl rfl)
theorem dX5_years_120 : decode bcX5_years 120 = .ok (.invokevirtual 330, 3) := dk_182 1 74 (dk_at dksX5_years_5 3 rfl rfl)
theorem dX5_years_123 : decode bcX5_years 123 = .ok (.invokestatic 351, 3) := dk_184 1 95 (dk_at dksX5_years_5 6 rfl rfl)
theorem dX5_years_126 : decode bcX5_years 126 = .ok (.goto 14, 3) := dk_167 0 14 (dk_at dksX5_years_5 9 rfl rfl)
theorem dX5_years_129 : decode bcX5_years 129 = .ok (.aload_n 0, 1) := dk_42 (dk_at dksX5_years_5 12 rfl rfl)
theorem dX5_years_130 : decode bcX5_years 130 = .ok (.sipush 1440, 3) := dk_17 5 160 (dk_at dksX5_years_5 13 rfl rfl)
theorem dX5_years_133 : decode bcX5_years 133 = .ok (.aload_n 0, 1) := dk_42 (dk_at dksX5_years_5 16 rfl rfl)
theorem dX5_years_134 : decode bcX5_years 134 = .ok (.invokevirtual 272, 3) := dk_182 1 16 (dk_at dksX5_years_5 17 rfl rfl)
theorem dX5_years_137 : decode bcX5_years 137 = .ok (.invokevirtual 419, 3) := dk_182 1 163 (dk_at dksX5_years_5 20 rfl rfl)
theorem dX5_years_140 : decode bcX5_years 140 = .ok (.ireturn, 1) := dk_172 (dk_at dksX5_years_5 23 rfl rfl)
abbrev SX5_years (pc : Nat) (i : xI) : Prop := Snd "SwollenHouseModel" "years" prog_25_method_121_code 6 (Option.some Jvm.ClassFile.FieldType.int) [] pc i
theorem oX5_years_0 : SX5_years 0 (i_aload 0 1) := snd_aload_n dX5_years_0 rfl
theorem oX5_years_1 : SX5_years 1 (i_const (.int (nI 0)) 2) := snd_iconst dX5_years_1 (by decide)
theorem oX5_years_2 : SX5_years 2 (i_putfi 4 0 5) := snd_putfi dX5_years_2 rfl (by decide) in_X5 tyX5 tyX5_ok nmX5 (Or.inl ⟨rfl, q1698⟩) (Or.inl rfl) rfl
theorem oX5_years_5 : SX5_years 5 (i_iload 1 6) := snd_iload_n dX5_years_5 rfl
theorem oX5_years_6 : SX5_years 6 (i_const (.int (nI 0)) 7) := snd_iconst dX5_years_6 (by decide)
theorem oX5_years_7 : SX5_years 7 (i_const (.int (nI 9999)) 10) := snd_sipush dX5_years_7 (by decide)
theorem oX5_years_10 : SX5_years 10 (i_cs 268 3 13) := snd_cs rfl infX5_within (by decide) (xSm_S dX5_years_10 q1855 q1856 q136 q1857 pdX5_within)
theorem oX5_years_13 : SX5_years 13 (i_if1 (fun x => x = 0) 35 16) := snd_if_eq dX5_years_13 (by decide)
theorem oX5_years_16 : SX5_years 16 (i_iload 2 17) := snd_iload_n dX5_years_16 rfl
theorem oX5_years_17 : SX5_years 17 (i_const (.int (nI 1)) 18) := snd_iconst dX5_years_17 (by decide)
theorem oX5_years_18 : SX5_years 18 (i_const (.int (nI 99)) 20) := snd_bipush dX5_years_18 (by decide)
theorem oX5_years_20 : SX5_years 20 (i_cs 268 3 23) := snd_cs rfl infX5_within (by decide) (xSm_S dX5_years_20 q1855 q1856 q136 q1857 pdX5_within)
theorem oX5_years_23 : SX5_years 23 (i_if1 (fun x => x = 0) 35 26) := snd_if_eq dX5_years_23 (by decide)
theorem oX5_years_26 : SX5_years 26 (i_iload 3 27) := snd_iload_n dX5_years_26 rfl
theorem oX5_years_27 : SX5_years 27 (i_const (.int (nI 0)) 28) := snd_iconst dX5_years_27 (by decide)
theorem oX5_years_28 : SX5_years 28 (i_const (.int (nI 2)) 29) := snd_iconst dX5_years_28 (by decide)
theorem oX5_years_29 : SX5_years 29 (i_cs 268 3 32) := snd_cs rfl infX5_within (by decide) (xSm_S dX5_years_29 q1855 q1856 q136 q1857 pdX5_within)
theorem oX5_years_32 : SX5_years 32 (i_if1 (fun x => ¬ x = 0) 37 35) := snd_if_ne dX5_years_32 (by decide)
theorem oX5_years_35 : SX5_years 35 (i_const (.int (-1)) 36) := snd_iconst dX5_years_35 (by decide)
theorem oX5_years_36 : SX5_years 36 (i_iret) := snd_iret dX5_years_36 rfl
theorem oX5_years_37 : SX5_years 37 (i_aload 0 38) := snd_aload_n dX5_years_37 rfl
theorem oX5_years_38 : SX5_years 38 (i_const (.int (nI 0)) 39) := snd_iconst dX5_years_38 (by decide)
theorem oX5_years_39 : SX5_years 39 (i_const (.int (nI 1430)) 42) := snd_sipush dX5_years_39 (by decide)
theorem oX5_years_42 : SX5_years 42 (i_const (.int (nI 23)) 44) := snd_bipush dX5_years_42 (by decide)
theorem oX5_years_44 : SX5_years 44 (i_cvv 4 295 3 47) := snd_cvv rfl infX5_copies (by decide) rfl (xVm_V dX5_years_44 rfl q1962 q1964 qs95 q136 q1965 pdX5_copies)
theorem oX5_years_47 : SX5_years 47 (i_aload 0 48) := snd_aload_n dX5_years_47 rfl
theorem oX5_years_48 : SX5_years 48 (i_iload 1 49) := snd_iload_n dX5_years_48 rfl
theorem oX5_years_49 : SX5_years 49 (i_i2l 50) := snd_i2l dX5_years_49
theorem oX5_years_50 : SX5_years 50 (i_putfl 4 31 53) := snd_putfl dX5_years_50 rfl (by decide) in_X5 tyX5 tyX5_ok nmX5 (Or.inl ⟨rfl, q1729⟩) (Or.inl rfl) rfl
theorem oX5_years_53 : SX5_years 53 (i_const (.int (nI 0)) 54) := snd_iconst dX5_years_53 (by decide)
theorem oX5_years_54 : SX5_years 54 (i_istore 4 56) := snd_istore dX5_years_54 (by decide)
theorem oX5_years_56 : SX5_years 56 (i_const (.int (nI 0)) 57) := snd_iconst dX5_years_56 (by decide)
theorem oX5_years_57 : SX5_years 57 (i_istore 5 59) := snd_istore dX5_years_57 (by decide)
theorem oX5_years_59 : SX5_years 59 (i_iload 5 61) := snd_iload dX5_years_59
theorem oX5_years_61 : SX5_years 61 (i_iload 2 62) := snd_iload_n dX5_years_61 rfl
theorem oX5_years_62 : SX5_years 62 (i_if2 (fun x y => y ≤ x) 102 65) := snd_icmp_ge dX5_years_62 (by decide)
theorem oX5_years_65 : SX5_years 65 (i_iload 4 67) := snd_iload dX5_years_65
theorem oX5_years_67 : SX5_years 67 (i_aload 0 68) := snd_aload_n dX5_years_67 rfl
theorem oX5_years_68 : SX5_years 68 (i_cv 4 250 0 71) := snd_cv rfl infX5_doors (by decide) rfl (xVm_V dX5_years_68 rfl q1686 q1688 qs60 q136 q1689 pdX5_doors)
theorem oX5_years_71 : SX5_years 71 (i_if1 (fun x => x ≤ 0) 85 74) := snd_if_le dX5_years_71 (by decide)
theorem oX5_years_74 : SX5_years 74 (i_aload 0 75) := snd_aload_n dX5_years_74 rfl
theorem oX5_years_75 : SX5_years 75 (i_cv 4 361 0 78) := snd_cv rfl infX5_drawsDeed (by decide) rfl (xVm_V dX5_years_75 rfl q2224 q2226 qs123 q136 q2227 pdX5_drawsDeed)
theorem oX5_years_78 : SX5_years 78 (i_if1 (fun x => x = 0) 85 81) := snd_if_eq dX5_years_78 (by decide)
theorem oX5_years_81 : SX5_years 81 (i_const (.int (nI 1)) 82) := snd_iconst dX5_years_81 (by decide)
theorem oX5_years_82 : SX5_years 82 (i_goto 86) := snd_goto dX5_years_82 (by decide)
theorem oX5_years_85 : SX5_years 85 (i_const (.int (nI 0)) 86) := snd_iconst dX5_years_85 (by decide)
theorem oX5_years_86 : SX5_years 86 (i_ii (fun x y => x + y) 87) := snd_iadd dX5_years_86
theorem oX5_years_87 : SX5_years 87 (i_istore 4 89) := snd_istore dX5_years_87 (by decide)
theorem oX5_years_89 : SX5_years 89 (i_aload 0 90) := snd_aload_n dX5_years_89 rfl
theorem oX5_years_90 : SX5_years 90 (i_const (.int (nI 1430)) 93) := snd_sipush dX5_years_90 (by decide)
theorem oX5_years_93 : SX5_years 93 (i_cvv 4 296 1 96) := snd_cvv rfl infX5_passes (by decide) rfl (xVm_V dX5_years_93 rfl q1966 q1968 qs96 q136 q1969 pdX5_passes)
theorem oX5_years_96 : SX5_years 96 (i_iinc 5 (nI 1) 99) := snd_iinc dX5_years_96 (by decide) (by decide)
theorem oX5_years_99 : SX5_years 99 (i_goto 59) := snd_goto dX5_years_99 (by decide)
theorem oX5_years_102 : SX5_years 102 (i_iload 3 103) := snd_iload_n dX5_years_102 rfl
theorem oX5_years_103 : SX5_years 103 (i_if1 (fun x => ¬ x = 0) 111 106) := snd_if_ne dX5_years_103 (by decide)
theorem oX5_years_106 : SX5_years 106 (i_iload 4 108) := snd_iload dX5_years_106
theorem oX5_years_108 : SX5_years 108 (i_goto 140) := snd_goto dX5_years_108 (by decide)
theorem oX5_years_111 : SX5_years 111 (i_iload 3 112) := snd_iload_n dX5_years_111 rfl
theorem oX5_years_112 : SX5_years 112 (i_const (.int (nI 1)) 113) := snd_iconst dX5_years_112 (by decide)
theorem oX5_years_113 : SX5_years 113 (i_if2 (fun x y => ¬ x = y) 129 116) := snd_icmp_ne dX5_years_113 (by decide)
theorem oX5_years_116 : SX5_years 116 (i_aload 0 117) := snd_aload_n dX5_years_116 rfl
theorem oX5_years_117 : SX5_years 117 (i_const (.int (nI 1430)) 120) := snd_sipush dX5_years_117 (by decide)
theorem oX5_years_120 : SX5_years 120 (i_cv 4 302 1 123) := snd_cv rfl infX5_sticking (by decide) rfl (xVm_V dX5_years_120 rfl q1989 q1991 qs101 q136 q1992 pdX5_sticking)
theorem oX5_years_123 : SX5_years 123 (i_cs 316 1 126) := snd_cs rfl infX5_bits (by decide) (xSm_S dX5_years_123 q2045 q2046 q136 q2047 pdX5_bits)
theorem oX5_years_126 : SX5_years 126 (i_goto 140) := snd_goto dX5_years_126 (by decide)
theorem oX5_years_129 : SX5_years 129 (i_aload 0 130) := snd_aload_n dX5_years_129 rfl
theorem oX5_years_130 : SX5_years 130 (i_const (.int (nI 1440)) 133) := snd_sipush dX5_years_130 (by decide)
theorem oX5_years_133 : SX5_years 133 (i_aload 0 134) := snd_aload_n dX5_years_133 rfl
theorem oX5_years_134 : SX5_years 134 (i_cv 4 250 0 137) := snd_cv rfl infX5_doors (by decide) rfl (xVm_V dX5_years_134 rfl q1686 q1688 qs60 q136 q1689 pdX5_doors)
theorem oX5_years_137 : SX5_years 137 (i_cv 4 363 2 140) := snd_cv rfl infX5_sumOf (by decide) rfl (xVm_V dX5_years_137 rfl q2236 q2238 qs125 q136 q2239 pdX5_sumOf)
theorem oX5_years_140 : SX5_years 140 (i_iret) := snd_iret dX5_years_140 rfl
theorem okX5_years : ∀ q ∈ cX5_years, SX5_years q.1 q.2 := List.forall_mem_cons.mpr ⟨oX5_years_0, List.forall_mem_cons.mpr ⟨oX5_years_1, List.forall_mem_cons.mpr ⟨oX5_years_2, List.forall_mem_cons.mpr ⟨oX5_years_5, List.forall_mem_cons.mpr ⟨oX5_years_6, List.forall_mem_cons.mpr ⟨oX5_years_7, List.forall_mem_cons.mpr ⟨oX5_years_10, List.forall_mem_cons.mpr ⟨oX5_years_13, List.forall_mem_cons.mpr ⟨oX5_years_16, List.forall_mem_cons.mpr ⟨oX5_years_17, List.forall_mem_cons.mpr ⟨oX5_years_18, List.forall_mem_cons.mpr ⟨oX5_years_20, List.forall_mem_cons.mpr ⟨oX5_years_23, List.forall_mem_cons.mpr ⟨oX5_years_26, List.forall_mem_cons.mpr ⟨oX5_years_27, List.forall_mem_cons.mpr ⟨oX5_years_28, List.forall_mem_cons.mpr ⟨oX5_years_29, List.forall_mem_cons.mpr ⟨oX5_years_32, List.forall_mem_cons.mpr ⟨oX5_years_35, List.forall_mem_cons.mpr ⟨oX5_years_36, List.forall_mem_cons.mpr ⟨oX5_years_37, List.forall_mem_cons.mpr ⟨oX5_years_38, List.forall_mem_cons.mpr ⟨oX5_years_39, List.forall_mem_cons.mpr ⟨oX5_years_42, List.forall_mem_cons.mpr ⟨oX5_years_44, List.forall_mem_cons.mpr ⟨oX5_years_47, List.forall_mem_cons.mpr ⟨oX5_years_48, List.forall_mem_cons.mpr ⟨oX5_years_49, List.forall_mem_cons.mpr ⟨oX5_years_50, List.forall_mem_cons.mpr ⟨oX5_years_53, List.forall_mem_cons.mpr ⟨oX5_years_54, List.forall_mem_cons.mpr ⟨oX5_years_56, List.forall_mem_cons.mpr ⟨oX5_years_57, List.forall_mem_cons.mpr ⟨oX5_years_59, List.forall_mem_cons.mpr ⟨oX5_years_61, List.forall_mem_cons.mpr ⟨oX5_years_62, List.forall_mem_cons.mpr ⟨oX5_years_65, List.forall_mem_cons.mpr ⟨oX5_years_67, List.forall_mem_cons.mpr ⟨oX5_years_68, List.forall_mem_cons.mpr ⟨oX5_years_71, List.forall_mem_cons.mpr ⟨oX5_years_74, List.forall_mem_cons.mpr ⟨oX5_years_75, List.forall_mem_cons.mpr ⟨oX5_years_78, List.forall_mem_cons.mpr ⟨oX5_years_81, List.forall_mem_cons.mpr ⟨oX5_years_82, List.forall_mem_cons.mpr ⟨oX5_years_85, List.forall_mem_cons.mpr ⟨oX5_years_86, List.forall_mem_cons.mpr ⟨oX5_years_87, List.forall_mem_cons.mpr ⟨oX5_years_89, List.forall_mem_cons.mpr ⟨oX5_years_90, List.forall_mem_cons.mpr ⟨oX5_years_93, List.forall_mem_cons.mpr ⟨oX5_years_96, List.forall_mem_cons.mpr ⟨oX5_years_99, List.forall_mem_cons.mpr ⟨oX5_years_102, List.forall_mem_cons.mpr ⟨oX5_years_103, List.forall_mem_cons.mpr ⟨oX5_years_106, List.forall_mem_cons.mpr ⟨oX5_years_108, List.forall_mem_cons.mpr ⟨oX5_years_111, List.forall_mem_cons.mpr ⟨oX5_years_112, List.forall_mem_cons.mpr ⟨oX5_years_113, List.forall_mem_cons.mpr ⟨oX5_years_116, List.forall_mem_cons.mpr ⟨oX5_years_117, List.forall_mem_cons.mpr ⟨oX5_years_120, List.forall_mem_cons.mpr ⟨oX5_years_123, List.forall_mem_cons.mpr ⟨oX5_years_126, List.forall_mem_cons.mpr ⟨oX5_years_129, List.forall_mem_cons.mpr ⟨oX5_years_130, List.forall_mem_cons.mpr ⟨oX5_years_133, List.forall_mem_cons.mpr ⟨oX5_years_134, List.forall_mem_cons.mpr ⟨oX5_years_137, List.forall_mem_cons.mpr ⟨oX5_years_140, fun _ h => absurd h List.not_mem_nil⟩⟩⟩⟩⟩⟩⟩⟩⟩⟩⟩⟩⟩⟩⟩⟩⟩⟩⟩⟩⟩⟩⟩⟩⟩⟩⟩⟩⟩⟩⟩⟩⟩⟩⟩⟩⟩⟩⟩⟩⟩⟩⟩⟩⟩⟩⟩⟩⟩⟩⟩⟩⟩⟩⟩⟩⟩⟩⟩⟩⟩⟩⟩⟩⟩⟩⟩⟩⟩⟩⟩
def dkwX5_drawsDeed_7 : List UInt8 := [180, 0, 113, 17, 5, 152, 28, 96, 46, 79, 3, 172]
abbrev dktX5_drawsDeed_7 : List UInt8 := dkwX5_drawsDeed_7 ++ []
def dkwX5_drawsDeed_6 : List UInt8 := [17, 5, 150, 28, 182, 1, 86, 153, 0, 16, 42, 180, 0, 113, 17, 5, 160, 28, 96, 46, 167, 0, 13, 42]
abbrev dktX5_drawsDeed_6 : List UInt8 := dkwX5_drawsDeed_6 ++ dktX5_drawsDeed_7
def dkwX5_drawsDeed_5 : List UInt8 := [160, 0, 56, 42, 42, 182, 1, 16, 182, 1, 157, 61, 42, 180, 0, 113, 17, 5, 152, 28, 96, 42]
abbrev dktX5_drawsDeed_5 : List UInt8 := dkwX5_drawsDeed_5 ++ dktX5_drawsDeed_6
def dkwX5_drawsDeed_4 : List UInt8 := [182, 1, 77, 153, 0, 14, 42, 17, 5, 150, 28, 29, 182, 1, 80, 4, 172, 167, 0, 61, 27, 5]
abbrev dktX5_drawsDeed_4 : List UInt8 := dkwX5_drawsDeed_4 ++ dktX5_drawsDeed_5
def dkwX5_drawsDeed_3 : List UInt8 := [182, 1, 23, 182, 1, 157, 61, 42, 42, 182, 1, 16, 182, 1, 157, 62, 42, 17, 5, 150, 28, 29]
abbrev dktX5_drawsDeed_3 : List UInt8 := dkwX5_drawsDeed_3 ++ dktX5_drawsDeed_4
def dkwX5_drawsDeed_2 : List UInt8 := [167, 0, 4, 3, 96, 79, 167, 0, 117, 27, 4, 160, 0, 54, 42, 182, 1, 23, 158, 0, 47, 42, 42]
abbrev dktX5_drawsDeed_2 : List UInt8 := dkwX5_drawsDeed_2 ++ dktX5_drawsDeed_3
def dkwX5_drawsDeed_1 : List UInt8 := [17, 5, 152, 28, 96, 92, 46, 42, 180, 0, 113, 17, 5, 152, 28, 96, 46, 16, 20, 162, 0, 7, 4]
abbrev dktX5_drawsDeed_1 : List UInt8 := dkwX5_drawsDeed_1 ++ dktX5_drawsDeed_2
def dkwX5_drawsDeed_0 : List UInt8 := [42, 8, 182, 1, 157, 60, 27, 154, 0, 48, 42, 42, 182, 1, 16, 182, 1, 157, 61, 42, 180, 0, 113]
abbrev dktX5_drawsDeed_0 : List UInt8 := dkwX5_drawsDeed_0 ++ dktX5_drawsDeed_1
theorem dksX5_drawsDeed_0 : bcX5_drawsDeed.data.toList.drop 0 = dktX5_drawsDeed_0 := by decide +kernel
theorem dksX5_drawsDeed_1 : bcX5_drawsDeed.data.toList.drop 23 = dktX5_drawsDeed_1 := dk_seg dksX5_drawsDeed_0 23 rfl rfl
theorem dksX5_drawsDeed_2 : bcX5_drawsDeed.data.toList.drop 46 = dktX5_drawsDeed_2 := dk_seg dksX5_drawsDeed_1 23 rfl rfl
theorem dksX5_drawsDeed_3 : bcX5_drawsDeed.data.toList.drop 69 = dktX5_drawsDeed_3 := dk_seg dksX5_drawsDeed_2 23 rfl rfl
theorem dksX5_drawsDeed_4 : bcX5_drawsDeed.data.toList.drop 91 = dktX5_drawsDeed_4 := dk_seg dksX5_drawsDeed_3 22 rfl rfl
theorem dksX5_drawsDeed_5 : bcX5_drawsDeed.data.toList.drop 113 = dktX5_drawsDeed_5 := dk_seg dksX5_drawsDeed_4 22 rfl rfl
theorem dksX5_drawsDeed_6 : bcX5_drawsDeed.data.toList.drop 135 = dktX5_drawsDeed_6 := dk_seg dksX5_drawsDeed_5 22 rfl rfl
theorem dksX5_drawsDeed_7 : bcX5_drawsDeed.data.toList.drop 159 = dktX5_drawsDeed_7 := dk_seg dksX5_drawsDeed_6 24 rfl rfl
theorem dX5_drawsDeed_0 : decode bcX5_drawsDeed 0 = .ok (.aload_n 0, 1) := dk_42 (dk_at dksX5_drawsDeed_0 0 rfl rfl)
theorem dX5_drawsDeed_1 : decode bcX5_drawsDeed 1 = .ok (.iconst 5, 1) := dk_8 (dk_at dksX5_drawsDeed_0 1 rfl rfl)
theorem dX5_drawsDeed_2 : decode bcX5_drawsDeed 2 = .ok (.invokevirtual 413, 3) := dk_182 1 157 (dk_at dksX5_drawsDeed_0 2 rfl rfl)
theorem dX5_drawsDeed_5 : decode bcX5_drawsDeed 5 = .ok (.istore_n 1, 1) := dk_60 (dk_at dksX5_drawsDeed_0 5 rfl rfl)
theorem dX5_drawsDeed_6 : decode bcX5_drawsDeed 6 = .ok (.iload_n 1, 1) := dk_27 (dk_at dksX5_drawsDeed_0 6 rfl rfl)
theorem dX5_drawsDeed_7 : decode bcX5_drawsDeed 7 = .ok (.ifCond .ne 48, 3) := dk_154 0 48 (dk_at dksX5_drawsDeed_0 7 rfl rfl)
theorem dX5_drawsDeed_10 : decode bcX5_drawsDeed 10 = .ok (.aload_n 0, 1) := dk_42 (dk_at dksX5_drawsDeed_0 10 rfl rfl)
theorem dX5_drawsDeed_11 : decode bcX5_drawsDeed 11 = .ok (.aload_n 0, 1) := dk_42 (dk_at dksX5_drawsDeed_0 11 rfl rfl)
theorem dX5_drawsDeed_12 : decode bcX5_drawsDeed 12 = .ok (.invokevirtual 272, 3) := dk_182 1 16 (dk_at dksX5_drawsDeed_0 12 rfl rfl)
theorem dX5_drawsDeed_15 : decode bcX5_drawsDeed 15 = .ok (.invokevirtual 413, 3) := dk_182 1 157 (dk_at dksX5_drawsDeed_0 15 rfl rfl)
theorem dX5_drawsDeed_18 : decode bcX5_drawsDeed 18 = .ok (.istore_n 2, 1) := dk_61 (dk_at dksX5_drawsDeed_0 18 rfl rfl)
theorem dX5_drawsDeed_19 : decode bcX5_drawsDeed 19 = .ok (.aload_n 0, 1) := dk_42 (dk_at dksX5_drawsDeed_0 19 rfl rfl)
theorem dX5_drawsDeed_20 : decode bcX5_drawsDeed 20 = .ok (.getfield 113, 3) := dk_180 0 113 (dk_at dksX5_drawsDeed_0 20 rfl rfl)
theorem dX5_drawsDeed_23 : decode bcX5_drawsDeed 23 = .ok (.sipush 1432, 3) := dk_17 5 152 (dk_at dksX5_drawsDeed_1 0 rfl rfl)
theorem dX5_drawsDeed_26 : decode bcX5_drawsDeed 26 = .ok (.iload_n 2, 1) := dk_28 (dk_at dksX5_drawsDeed_1 3 rfl rfl)
theorem dX5_drawsDeed_27 : decode bcX5_drawsDeed 27 = .ok (.iadd, 1) := dk_96 (dk_at dksX5_drawsDeed_1 4 rfl rfl)
theorem dX5_drawsDeed_28 : decode bcX5_drawsDeed 28 = .ok (.dup2, 1) := dk_92 (dk_at dksX5_drawsDeed_1 5 rfl rfl)
theorem dX5_drawsDeed_29 : decode bcX5_drawsDeed 29 = .ok (.iaload, 1) := dk_46 (dk_at dksX5_drawsDeed_1 6 rfl rfl)
theorem dX5_drawsDeed_30 : decode bcX5_drawsDeed 30 = .ok (.aload_n 0, 1) := dk_42 (dk_at dksX5_drawsDeed_1 7 rfl rfl)
theorem dX5_drawsDeed_31 : decode bcX5_drawsDeed 31 = .ok (.getfield 113, 3) := dk_180 0 113 (dk_at dksX5_drawsDeed_1 8 rfl rfl)
theorem dX5_drawsDeed_34 : decode bcX5_drawsDeed 34 = .ok (.sipush 1432, 3) := dk_17 5 152 (dk_at dksX5_drawsDeed_1 11 rfl rfl)
theorem dX5_drawsDeed_37 : decode bcX5_drawsDeed 37 = .ok (.iload_n 2, 1) := dk_28 (dk_at dksX5_drawsDeed_1 14 rfl rfl)
theorem dX5_drawsDeed_38 : decode bcX5_drawsDeed 38 = .ok (.iadd, 1) := dk_96 (dk_at dksX5_drawsDeed_1 15 rfl rfl)
theorem dX5_drawsDeed_39 : decode bcX5_drawsDeed 39 = .ok (.iaload, 1) := dk_46 (dk_at dksX5_drawsDeed_1 16 rfl rfl)
theorem dX5_drawsDeed_40 : decode bcX5_drawsDeed 40 = .ok (.bipush 20, 2) := dk_16 20 (dk_at dksX5_drawsDeed_1 17 rfl rfl)
theorem dX5_drawsDeed_42 : decode bcX5_drawsDeed 42 = .ok (.if_icmp .ge 7, 3) := dk_162 0 7 (dk_at dksX5_drawsDeed_1 19 rfl rfl)
theorem dX5_drawsDeed_45 : decode bcX5_drawsDeed 45 = .ok (.iconst 1, 1) := dk_4 (dk_at dksX5_drawsDeed_1 22 rfl rfl)
theorem dX5_drawsDeed_46 : decode bcX5_drawsDeed 46 = .ok (.goto 4, 3) := dk_167 0 4 (dk_at dksX5_drawsDeed_2 0 rfl rfl)
theorem dX5_drawsDeed_49 : decode bcX5_drawsDeed 49 = .ok (.iconst 0, 1) := dk_3 (dk_at dksX5_drawsDeed_2 3 rfl rfl)
theorem dX5_drawsDeed_50 : decode bcX5_drawsDeed 50 = .ok (.iadd, 1) := dk_96 (dk_at dksX5_drawsDeed_2 4 rfl rfl)
theorem dX5_drawsDeed_51 : decode bcX5_drawsDeed 51 = .ok (.iastore, 1) := dk_79 (dk_at dksX5_drawsDeed_2 5 rfl rfl)
theorem dX5_drawsDeed_52 : decode bcX5_drawsDeed 52 = .ok (.goto 117, 3) := dk_167 0 117 (dk_at dksX5_drawsDeed_2 6 rfl rfl)
theorem dX5_drawsDeed_55 : decode bcX5_drawsDeed 55 = .ok (.iload_n 1, 1) := dk_27 (dk_at dksX5_drawsDeed_2 9 rfl rfl)
theorem dX5_drawsDeed_56 : decode bcX5_drawsDeed 56 = .ok (.iconst 1, 1) := dk_4 (dk_at dksX5_drawsDeed_2 10 rfl rfl)
theorem dX5_drawsDeed_57 : decode bcX5_drawsDeed 57 = .ok (.if_icmp .ne 54, 3) := dk_160 0 54 (dk_at dksX5_drawsDeed_2 11 rfl rfl)
theorem dX5_drawsDeed_60 : decode bcX5_drawsDeed 60 = .ok (.aload_n 0, 1) := dk_42 (dk_at dksX5_drawsDeed_2 14 rfl rfl)
theorem dX5_drawsDeed_61 : decode bcX5_drawsDeed 61 = .ok (.invokevirtual 279, 3) := dk_182 1 23 (dk_at dksX5_drawsDeed_2 15 rfl rfl)
theorem dX5_drawsDeed_64 : decode bcX5_drawsDeed 64 = .ok (.ifCond .le 47, 3) := dk_158 0 47 (dk_at dksX5_drawsDeed_2 18 rfl rfl)
theorem dX5_drawsDeed_67 : decode bcX5_drawsDeed 67 = .ok (.aload_n 0, 1) := dk_42 (dk_at dksX5_drawsDeed_2 21 rfl rfl)
theorem dX5_drawsDeed_68 : decode bcX5_drawsDeed 68 = .ok (.aload_n 0, 1) := dk_42 (dk_at dksX5_drawsDeed_2 22 rfl rfl)
theorem dX5_drawsDeed_69 : decode bcX5_drawsDeed 69 = .ok (.invokevirtual 279, 3) := dk_182 1 23 (dk_at dksX5_drawsDeed_3 0 rfl rfl)
theorem dX5_drawsDeed_72 : decode bcX5_drawsDeed 72 = .ok (.invokevirtual 413, 3) := dk_182 1 157 (dk_at dksX5_drawsDeed_3 3 rfl rfl)
theorem dX5_drawsDeed_75 : decode bcX5_drawsDeed 75 = .ok (.istore_n 2, 1) := dk_61 (dk_at dksX5_drawsDeed_3 6 rfl rfl)
theorem dX5_drawsDeed_76 : decode bcX5_drawsDeed 76 = .ok (.aload_n 0, 1) := dk_42 (dk_at dksX5_drawsDeed_3 7 rfl rfl)
theorem dX5_drawsDeed_77 : decode bcX5_drawsDeed 77 = .ok (.aload_n 0, 1) := dk_42 (dk_at dksX5_drawsDeed_3 8 rfl rfl)
theorem dX5_drawsDeed_78 : decode bcX5_drawsDeed 78 = .ok (.invokevirtual 272, 3) := dk_182 1 16 (dk_at dksX5_drawsDeed_3 9 rfl rfl)
theorem dX5_drawsDeed_81 : decode bcX5_drawsDeed 81 = .ok (.invokevirtual 413, 3) := dk_182 1 157 (dk_at dksX5_drawsDeed_3 12 rfl rfl)
theorem dX5_drawsDeed_84 : decode bcX5_drawsDeed 84 = .ok (.istore_n 3, 1) := dk_62 (dk_at dksX5_drawsDeed_3 15 rfl rfl)
theorem dX5_drawsDeed_85 : decode bcX5_drawsDeed 85 = .ok (.aload_n 0, 1) := dk_42 (dk_at dksX5_drawsDeed_3 16 rfl rfl)
theorem dX5_drawsDeed_86 : decode bcX5_drawsDeed 86 = .ok (.sipush 1430, 3) := dk_17 5 150 (dk_at dksX5_drawsDeed_3 17 rfl rfl)
theorem dX5_drawsDeed_89 : decode bcX5_drawsDeed 89 = .ok (.iload_n 2, 1) := dk_28 (dk_at dksX5_drawsDeed_3 20 rfl rfl)
theorem dX5_drawsDeed_90 : decode bcX5_drawsDeed 90 = .ok (.iload_n 3, 1) := dk_29 (dk_at dksX5_drawsDeed_3 21 rfl rfl)
theorem dX5_drawsDeed_91 : decode bcX5_drawsDeed 91 = .ok (.invokevirtual 333, 3) := dk_182 1 77 (dk_at dksX5_drawsDeed_4 0 rfl rfl)
theorem dX5_drawsDeed_94 : decode bcX5_drawsDeed 94 = .ok (.ifCond .eq 14, 3) := dk_153 0 14 (dk_at dksX5_drawsDeed_4 3 rfl rfl)
theorem dX5_drawsDeed_97 : decode bcX5_drawsDeed 97 = .ok (.aload_n 0, 1) := dk_42 (dk_at dksX5_drawsDeed_4 6 rfl rfl)
theorem dX5_drawsDeed_98 : decode bcX5_drawsDeed 98 = .ok (.sipush 1430, 3) := dk_17 5 150 (dk_at dksX5_drawsDeed_4 7 rfl rfl)
theorem dX5_drawsDeed_101 : decode bcX5_drawsDeed 101 = .ok (.iload_n 2, 1) := dk_28 (dk_at dksX5_drawsDeed_4 10 rfl rfl)
theorem dX5_drawsDeed_102 : decode bcX5_drawsDeed 102 = .ok (.iload_n 3, 1) := dk_29 (dk_at dksX5_drawsDeed_4 11 rfl rfl)
theorem dX5_drawsDeed_103 : decode bcX5_drawsDeed 103 = .ok (.invokevirtual 336, 3) := dk_182 1 80 (dk_at dksX5_drawsDeed_4 12 rfl rfl)
theorem dX5_drawsDeed_106 : decode bcX5_drawsDeed 106 = .ok (.iconst 1, 1) := dk_4 (dk_at dksX5_drawsDeed_4 15 rfl rfl)
theorem dX5_drawsDeed_107 : decode bcX5_drawsDeed 107 = .ok (.ireturn, 1) := dk_172 (dk_at dksX5_drawsDeed_4 16 rfl rfl)
theorem dX5_drawsDeed_108 : decode bcX5_drawsDeed 108 = .ok (.goto 61, 3) := dk_167 0 61 (dk_at dksX5_drawsDeed_4 17 rfl rfl)
theorem dX5_drawsDeed_111 : decode bcX5_drawsDeed 111 = .ok (.iload_n 1, 1) := dk_27 (dk_at dksX5_drawsDeed_4 20 rfl rfl)
theorem dX5_drawsDeed_112 : decode bcX5_drawsDeed 112 = .ok (.iconst 2, 1) := dk_5 (dk_at dksX5_drawsDeed_4 21 rfl rfl)
theorem dX5_drawsDeed_113 : decode bcX5_drawsDeed 113 = .ok (.if_icmp .ne 56, 3) := dk_160 0 56 (dk_at dksX5_drawsDeed_5 0 rfl rfl)
theorem dX5_drawsDeed_116 : decode bcX5_drawsDeed 116 = .ok (.aload_n 0, 1) := dk_42 (dk_at dksX5_drawsDeed_5 3 rfl rfl)
theorem dX5_drawsDeed_117 : decode bcX5_drawsDeed 117 = .ok (.aload_n 0, 1) := dk_42 (dk_at dksX5_drawsDeed_5 4 rfl rfl)
theorem dX5_drawsDeed_118 : decode bcX5_drawsDeed 118 = .ok (.invokevirtual 272, 3) := dk_182 1 16 (dk_at dksX5_drawsDeed_5 5 rfl rfl)
theorem dX5_drawsDeed_121 : decode bcX5_drawsDeed 121 = .ok (.invokevirtual 413, 3) := dk_182 1 157 (dk_at dksX5_drawsDeed_5 8 rfl rfl)
theorem dX5_drawsDeed_124 : decode bcX5_drawsDeed 124 = .ok (.istore_n 2, 1) := dk_61 (dk_at dksX5_drawsDeed_5 11 rfl rfl)
theorem dX5_drawsDeed_125 : decode bcX5_drawsDeed 125 = .ok (.aload_n 0, 1) := dk_42 (dk_at dksX5_drawsDeed_5 12 rfl rfl)
theorem dX5_drawsDeed_126 : decode bcX5_drawsDeed 126 = .ok (.getfield 113, 3) := dk_180 0 113 (dk_at dksX5_drawsDeed_5 13 rfl rfl)
theorem dX5_drawsDeed_129 : decode bcX5_drawsDeed 129 = .ok (.sipush 1432, 3) := dk_17 5 152 (dk_at dksX5_drawsDeed_5 16 rfl rfl)
theorem dX5_drawsDeed_132 : decode bcX5_drawsDeed 132 = .ok (.iload_n 2, 1) := dk_28 (dk_at dksX5_drawsDeed_5 19 rfl rfl)
theorem dX5_drawsDeed_133 : decode bcX5_drawsDeed 133 = .ok (.iadd, 1) := dk_96 (dk_at dksX5_drawsDeed_5 20 rfl rfl)
theorem dX5_drawsDeed_134 : decode bcX5_drawsDeed 134 = .ok (.aload_n 0, 1) := dk_42 (dk_at dksX5_drawsDeed_5 21 rfl rfl)
theorem dX5_drawsDeed_135 : decode bcX5_drawsDeed 135 = .ok (.sipush 1430, 3) := dk_17 5 150 (dk_at dksX5_drawsDeed_6 0 rfl rfl)
theorem dX5_drawsDeed_138 : decode bcX5_drawsDeed 138 = .ok (.iload_n 2, 1) := dk_28 (dk_at dksX5_drawsDeed_6 3 rfl rfl)
theorem dX5_drawsDeed_139 : decode bcX5_drawsDeed 139 = .ok (.invokevirtual 342, 3) := dk_182 1 86 (dk_at dksX5_drawsDeed_6 4 rfl rfl)
theorem dX5_drawsDeed_142 : decode bcX5_drawsDeed 142 = .ok (.ifCond .eq 16, 3) := dk_153 0 16 (dk_at dksX5_drawsDeed_6 7 rfl rfl)
theorem dX5_drawsDeed_145 : decode bcX5_drawsDeed 145 = .ok (.aload_n 0, 1) := dk_42 (dk_at dksX5_drawsDeed_6 10 rfl rfl)
theorem dX5_drawsDeed_146 : decode bcX5_drawsDeed 146 = .ok (.getfield 113, 3) := dk_180 0 113 (dk_at dksX5_drawsDeed_6 11 rfl rfl)
theorem dX5_drawsDeed_149 : decode bcX5_drawsDeed 149 = .ok (.sipush 1440, 3) := dk_17 5 160 (dk_at dksX5_drawsDeed_6 14 rfl rfl)
theorem dX5_drawsDeed_152 : decode bcX5_drawsDeed 152 = .ok (.iload_n 2, 1) := dk_28 (dk_at dksX5_drawsDeed_6 17 rfl rfl)
theorem dX5_drawsDeed_153 : decode bcX5_drawsDeed 153 = .ok (.iadd, 1) := dk_96 (dk_at dksX5_drawsDeed_6 18 rfl rfl)
theorem dX5_drawsDeed_154 : decode bcX5_drawsDeed 154 = .ok (.iaload, 1) := dk_46 (dk_at dksX5_drawsDeed_6 19 rfl rfl)
theorem dX5_drawsDeed_155 : decode bcX5_drawsDeed 155 = .ok (.goto 13, 3) := dk_167 0 13 (dk_at dksX5_drawsDeed_6 20 rfl rfl)
theorem dX5_drawsDeed_158 : decode bcX5_drawsDeed 158 = .ok (.aload_n 0, 1) := dk_42 (dk_at dksX5_drawsDeed_6 23 rfl rfl)
theorem dX5_drawsDeed_159 : decode bcX5_drawsDeed 159 = .ok (.getfield 113, 3) := dk_180 0 113 (dk_at dksX5_drawsDeed_7 0 rfl rfl)
theorem dX5_drawsDeed_162 : decode bcX5_drawsDeed 162 = .ok (.sipush 1432, 3) := dk_17 5 152 (dk_at dksX5_drawsDeed_7 3 rfl rfl)
theorem dX5_drawsDeed_165 : decode bcX5_drawsDeed 165 = .ok (.iload_n 2, 1) := dk_28 (dk_at dksX5_drawsDeed_7 6 rfl rfl)
theorem dX5_drawsDeed_166 : decode bcX5_drawsDeed 166 = .ok (.iadd, 1) := dk_96 (dk_at dksX5_drawsDeed_7 7 rfl rfl)
theorem dX5_drawsDeed_167 : decode bcX5_drawsDeed 167 = .ok (.iaload, 1) := dk_46 (dk_at dksX5_drawsDeed_7 8 rfl rfl)
theorem dX5_drawsDeed_168 : decode bcX5_drawsDeed 168 = .ok (.iastore, 1) := dk_79 (dk_at dksX5_drawsDeed_7 9 rfl rfl)
theorem dX5_drawsDeed_169 : decode bcX5_drawsDeed 169 = .ok (.iconst 0, 1) := dk_3 (dk_at dksX5_drawsDeed_7 10 rfl rfl)
theorem dX5_drawsDeed_170 : decode bcX5_drawsDeed 170 = .ok (.ireturn, 1) := dk_172 (dk_at dksX5_drawsDeed_7 11 rfl rfl)
abbrev SX5_drawsDeed (pc : Nat) (i : xI) : Prop := Snd "SwollenHouseModel" "drawsDeed" prog_25_method_120_code 4 (Option.some Jvm.ClassFile.FieldType.boolean) [] pc i
theorem oX5_drawsDeed_0 : SX5_drawsDeed 0 (i_aload 0 1) := snd_aload_n dX5_drawsDeed_0 rfl
theorem oX5_drawsDeed_1 : SX5_drawsDeed 1 (i_const (.int (nI 5)) 2) := snd_iconst dX5_drawsDeed_1 (by decide)
theorem oX5_drawsDeed_2 : SX5_drawsDeed 2 (i_cv 4 362 1 5) := snd_cv rfl infX5_draw (by decide) rfl (xVm_V dX5_drawsDeed_2 rfl q2228 q2230 qs124 q136 q2231 pdX5_draw)
theorem oX5_drawsDeed_5 : SX5_drawsDeed 5 (i_istore 1 6) := snd_istore_n dX5_drawsDeed_5 rfl (by decide)
theorem oX5_drawsDeed_6 : SX5_drawsDeed 6 (i_iload 1 7) := snd_iload_n dX5_drawsDeed_6 rfl
theorem oX5_drawsDeed_7 : SX5_drawsDeed 7 (i_if1 (fun x => ¬ x = 0) 55 10) := snd_if_ne dX5_drawsDeed_7 (by decide)
theorem oX5_drawsDeed_10 : SX5_drawsDeed 10 (i_aload 0 11) := snd_aload_n dX5_drawsDeed_10 rfl
theorem oX5_drawsDeed_11 : SX5_drawsDeed 11 (i_aload 0 12) := snd_aload_n dX5_drawsDeed_11 rfl
theorem oX5_drawsDeed_12 : SX5_drawsDeed 12 (i_cv 4 250 0 15) := snd_cv rfl infX5_doors (by decide) rfl (xVm_V dX5_drawsDeed_12 rfl q1686 q1688 qs60 q136 q1689 pdX5_doors)
theorem oX5_drawsDeed_15 : SX5_drawsDeed 15 (i_cv 4 362 1 18) := snd_cv rfl infX5_draw (by decide) rfl (xVm_V dX5_drawsDeed_15 rfl q2228 q2230 qs124 q136 q2231 pdX5_draw)
theorem oX5_drawsDeed_18 : SX5_drawsDeed 18 (i_istore 2 19) := snd_istore_n dX5_drawsDeed_18 rfl (by decide)
theorem oX5_drawsDeed_19 : SX5_drawsDeed 19 (i_aload 0 20) := snd_aload_n dX5_drawsDeed_19 rfl
theorem oX5_drawsDeed_20 : SX5_drawsDeed 20 (i_getf 4 24 23) := snd_getf dX5_drawsDeed_20 rfl (by decide) in_X5 (Or.inl q1722) (Or.inl rfl) (by decide)
theorem oX5_drawsDeed_23 : SX5_drawsDeed 23 (i_const (.int (nI 1432)) 26) := snd_sipush dX5_drawsDeed_23 (by decide)
theorem oX5_drawsDeed_26 : SX5_drawsDeed 26 (i_iload 2 27) := snd_iload_n dX5_drawsDeed_26 rfl
theorem oX5_drawsDeed_27 : SX5_drawsDeed 27 (i_ii (fun x y => x + y) 28) := snd_iadd dX5_drawsDeed_27
theorem oX5_drawsDeed_28 : SX5_drawsDeed 28 (i_dup2 29) := snd_dup2 dX5_drawsDeed_28
theorem oX5_drawsDeed_29 : SX5_drawsDeed 29 (i_ai 0 30) := snd_ai0 dX5_drawsDeed_29
theorem oX5_drawsDeed_30 : SX5_drawsDeed 30 (i_aload 0 31) := snd_aload_n dX5_drawsDeed_30 rfl
theorem oX5_drawsDeed_31 : SX5_drawsDeed 31 (i_getf 4 24 34) := snd_getf dX5_drawsDeed_31 rfl (by decide) in_X5 (Or.inl q1722) (Or.inl rfl) (by decide)
theorem oX5_drawsDeed_34 : SX5_drawsDeed 34 (i_const (.int (nI 1432)) 37) := snd_sipush dX5_drawsDeed_34 (by decide)
theorem oX5_drawsDeed_37 : SX5_drawsDeed 37 (i_iload 2 38) := snd_iload_n dX5_drawsDeed_37 rfl
theorem oX5_drawsDeed_38 : SX5_drawsDeed 38 (i_ii (fun x y => x + y) 39) := snd_iadd dX5_drawsDeed_38
theorem oX5_drawsDeed_39 : SX5_drawsDeed 39 (i_ai 0 40) := snd_ai0 dX5_drawsDeed_39
theorem oX5_drawsDeed_40 : SX5_drawsDeed 40 (i_const (.int (nI 20)) 42) := snd_bipush dX5_drawsDeed_40 (by decide)
theorem oX5_drawsDeed_42 : SX5_drawsDeed 42 (i_if2 (fun x y => y ≤ x) 49 45) := snd_icmp_ge dX5_drawsDeed_42 (by decide)
theorem oX5_drawsDeed_45 : SX5_drawsDeed 45 (i_const (.int (nI 1)) 46) := snd_iconst dX5_drawsDeed_45 (by decide)
theorem oX5_drawsDeed_46 : SX5_drawsDeed 46 (i_goto 50) := snd_goto dX5_drawsDeed_46 (by decide)
theorem oX5_drawsDeed_49 : SX5_drawsDeed 49 (i_const (.int (nI 0)) 50) := snd_iconst dX5_drawsDeed_49 (by decide)
theorem oX5_drawsDeed_50 : SX5_drawsDeed 50 (i_ii (fun x y => x + y) 51) := snd_iadd dX5_drawsDeed_50
theorem oX5_drawsDeed_51 : SX5_drawsDeed 51 (i_si (fun v => v) 0 52) := snd_si0 dX5_drawsDeed_51
theorem oX5_drawsDeed_52 : SX5_drawsDeed 52 (i_goto 169) := snd_goto dX5_drawsDeed_52 (by decide)
theorem oX5_drawsDeed_55 : SX5_drawsDeed 55 (i_iload 1 56) := snd_iload_n dX5_drawsDeed_55 rfl
theorem oX5_drawsDeed_56 : SX5_drawsDeed 56 (i_const (.int (nI 1)) 57) := snd_iconst dX5_drawsDeed_56 (by decide)
theorem oX5_drawsDeed_57 : SX5_drawsDeed 57 (i_if2 (fun x y => ¬ x = y) 111 60) := snd_icmp_ne dX5_drawsDeed_57 (by decide)
theorem oX5_drawsDeed_60 : SX5_drawsDeed 60 (i_aload 0 61) := snd_aload_n dX5_drawsDeed_60 rfl
theorem oX5_drawsDeed_61 : SX5_drawsDeed 61 (i_cv 4 252 0 64) := snd_cv rfl infX5_persons (by decide) rfl (xVm_V dX5_drawsDeed_61 rfl q1694 q1696 qs62 q136 q1697 pdX5_persons)
theorem oX5_drawsDeed_64 : SX5_drawsDeed 64 (i_if1 (fun x => x ≤ 0) 111 67) := snd_if_le dX5_drawsDeed_64 (by decide)
theorem oX5_drawsDeed_67 : SX5_drawsDeed 67 (i_aload 0 68) := snd_aload_n dX5_drawsDeed_67 rfl
theorem oX5_drawsDeed_68 : SX5_drawsDeed 68 (i_aload 0 69) := snd_aload_n dX5_drawsDeed_68 rfl
theorem oX5_drawsDeed_69 : SX5_drawsDeed 69 (i_cv 4 252 0 72) := snd_cv rfl infX5_persons (by decide) rfl (xVm_V dX5_drawsDeed_69 rfl q1694 q1696 qs62 q136 q1697 pdX5_persons)
theorem oX5_drawsDeed_72 : SX5_drawsDeed 72 (i_cv 4 362 1 75) := snd_cv rfl infX5_draw (by decide) rfl (xVm_V dX5_drawsDeed_72 rfl q2228 q2230 qs124 q136 q2231 pdX5_draw)
theorem oX5_drawsDeed_75 : SX5_drawsDeed 75 (i_istore 2 76) := snd_istore_n dX5_drawsDeed_75 rfl (by decide)
theorem oX5_drawsDeed_76 : SX5_drawsDeed 76 (i_aload 0 77) := snd_aload_n dX5_drawsDeed_76 rfl
theorem oX5_drawsDeed_77 : SX5_drawsDeed 77 (i_aload 0 78) := snd_aload_n dX5_drawsDeed_77 rfl
theorem oX5_drawsDeed_78 : SX5_drawsDeed 78 (i_cv 4 250 0 81) := snd_cv rfl infX5_doors (by decide) rfl (xVm_V dX5_drawsDeed_78 rfl q1686 q1688 qs60 q136 q1689 pdX5_doors)
theorem oX5_drawsDeed_81 : SX5_drawsDeed 81 (i_cv 4 362 1 84) := snd_cv rfl infX5_draw (by decide) rfl (xVm_V dX5_drawsDeed_81 rfl q2228 q2230 qs124 q136 q2231 pdX5_draw)
theorem oX5_drawsDeed_84 : SX5_drawsDeed 84 (i_istore 3 85) := snd_istore_n dX5_drawsDeed_84 rfl (by decide)
theorem oX5_drawsDeed_85 : SX5_drawsDeed 85 (i_aload 0 86) := snd_aload_n dX5_drawsDeed_85 rfl
theorem oX5_drawsDeed_86 : SX5_drawsDeed 86 (i_const (.int (nI 1430)) 89) := snd_sipush dX5_drawsDeed_86 (by decide)
theorem oX5_drawsDeed_89 : SX5_drawsDeed 89 (i_iload 2 90) := snd_iload_n dX5_drawsDeed_89 rfl
theorem oX5_drawsDeed_90 : SX5_drawsDeed 90 (i_iload 3 91) := snd_iload_n dX5_drawsDeed_90 rfl
theorem oX5_drawsDeed_91 : SX5_drawsDeed 91 (i_cv 4 304 3 94) := snd_cv rfl infX5_mayWalk (by decide) rfl (xVm_V dX5_drawsDeed_91 rfl q1997 q1999 qs102 q136 q2000 pdX5_mayWalk)
theorem oX5_drawsDeed_94 : SX5_drawsDeed 94 (i_if1 (fun x => x = 0) 108 97) := snd_if_eq dX5_drawsDeed_94 (by decide)
theorem oX5_drawsDeed_97 : SX5_drawsDeed 97 (i_aload 0 98) := snd_aload_n dX5_drawsDeed_97 rfl
theorem oX5_drawsDeed_98 : SX5_drawsDeed 98 (i_const (.int (nI 1430)) 101) := snd_sipush dX5_drawsDeed_98 (by decide)
theorem oX5_drawsDeed_101 : SX5_drawsDeed 101 (i_iload 2 102) := snd_iload_n dX5_drawsDeed_101 rfl
theorem oX5_drawsDeed_102 : SX5_drawsDeed 102 (i_iload 3 103) := snd_iload_n dX5_drawsDeed_102 rfl
theorem oX5_drawsDeed_103 : SX5_drawsDeed 103 (i_cvv 4 306 3 106) := snd_cvv rfl infX5_walks (by decide) rfl (xVm_V dX5_drawsDeed_103 rfl q2005 q2007 qs104 q136 q2008 pdX5_walks)
theorem oX5_drawsDeed_106 : SX5_drawsDeed 106 (i_const (.int (nI 1)) 107) := snd_iconst dX5_drawsDeed_106 (by decide)
theorem oX5_drawsDeed_107 : SX5_drawsDeed 107 (i_zret) := snd_zret dX5_drawsDeed_107 rfl
theorem oX5_drawsDeed_108 : SX5_drawsDeed 108 (i_goto 169) := snd_goto dX5_drawsDeed_108 (by decide)
theorem oX5_drawsDeed_111 : SX5_drawsDeed 111 (i_iload 1 112) := snd_iload_n dX5_drawsDeed_111 rfl
theorem oX5_drawsDeed_112 : SX5_drawsDeed 112 (i_const (.int (nI 2)) 113) := snd_iconst dX5_drawsDeed_112 (by decide)
theorem oX5_drawsDeed_113 : SX5_drawsDeed 113 (i_if2 (fun x y => ¬ x = y) 169 116) := snd_icmp_ne dX5_drawsDeed_113 (by decide)
theorem oX5_drawsDeed_116 : SX5_drawsDeed 116 (i_aload 0 117) := snd_aload_n dX5_drawsDeed_116 rfl
theorem oX5_drawsDeed_117 : SX5_drawsDeed 117 (i_aload 0 118) := snd_aload_n dX5_drawsDeed_117 rfl
theorem oX5_drawsDeed_118 : SX5_drawsDeed 118 (i_cv 4 250 0 121) := snd_cv rfl infX5_doors (by decide) rfl (xVm_V dX5_drawsDeed_118 rfl q1686 q1688 qs60 q136 q1689 pdX5_doors)
theorem oX5_drawsDeed_121 : SX5_drawsDeed 121 (i_cv 4 362 1 124) := snd_cv rfl infX5_draw (by decide) rfl (xVm_V dX5_drawsDeed_121 rfl q2228 q2230 qs124 q136 q2231 pdX5_draw)
theorem oX5_drawsDeed_124 : SX5_drawsDeed 124 (i_istore 2 125) := snd_istore_n dX5_drawsDeed_124 rfl (by decide)
theorem oX5_drawsDeed_125 : SX5_drawsDeed 125 (i_aload 0 126) := snd_aload_n dX5_drawsDeed_125 rfl
theorem oX5_drawsDeed_126 : SX5_drawsDeed 126 (i_getf 4 24 129) := snd_getf dX5_drawsDeed_126 rfl (by decide) in_X5 (Or.inl q1722) (Or.inl rfl) (by decide)
theorem oX5_drawsDeed_129 : SX5_drawsDeed 129 (i_const (.int (nI 1432)) 132) := snd_sipush dX5_drawsDeed_129 (by decide)
theorem oX5_drawsDeed_132 : SX5_drawsDeed 132 (i_iload 2 133) := snd_iload_n dX5_drawsDeed_132 rfl
theorem oX5_drawsDeed_133 : SX5_drawsDeed 133 (i_ii (fun x y => x + y) 134) := snd_iadd dX5_drawsDeed_133
theorem oX5_drawsDeed_134 : SX5_drawsDeed 134 (i_aload 0 135) := snd_aload_n dX5_drawsDeed_134 rfl
theorem oX5_drawsDeed_135 : SX5_drawsDeed 135 (i_const (.int (nI 1430)) 138) := snd_sipush dX5_drawsDeed_135 (by decide)
theorem oX5_drawsDeed_138 : SX5_drawsDeed 138 (i_iload 2 139) := snd_iload_n dX5_drawsDeed_138 rfl
theorem oX5_drawsDeed_139 : SX5_drawsDeed 139 (i_cv 4 311 2 142) := snd_cv rfl infX5_mayForce (by decide) rfl (xVm_V dX5_drawsDeed_139 rfl q2025 q2027 qs106 q136 q2028 pdX5_mayForce)
theorem oX5_drawsDeed_142 : SX5_drawsDeed 142 (i_if1 (fun x => x = 0) 158 145) := snd_if_eq dX5_drawsDeed_142 (by decide)
theorem oX5_drawsDeed_145 : SX5_drawsDeed 145 (i_aload 0 146) := snd_aload_n dX5_drawsDeed_145 rfl
theorem oX5_drawsDeed_146 : SX5_drawsDeed 146 (i_getf 4 24 149) := snd_getf dX5_drawsDeed_146 rfl (by decide) in_X5 (Or.inl q1722) (Or.inl rfl) (by decide)
theorem oX5_drawsDeed_149 : SX5_drawsDeed 149 (i_const (.int (nI 1440)) 152) := snd_sipush dX5_drawsDeed_149 (by decide)
theorem oX5_drawsDeed_152 : SX5_drawsDeed 152 (i_iload 2 153) := snd_iload_n dX5_drawsDeed_152 rfl
theorem oX5_drawsDeed_153 : SX5_drawsDeed 153 (i_ii (fun x y => x + y) 154) := snd_iadd dX5_drawsDeed_153
theorem oX5_drawsDeed_154 : SX5_drawsDeed 154 (i_ai 0 155) := snd_ai0 dX5_drawsDeed_154
theorem oX5_drawsDeed_155 : SX5_drawsDeed 155 (i_goto 168) := snd_goto dX5_drawsDeed_155 (by decide)
theorem oX5_drawsDeed_158 : SX5_drawsDeed 158 (i_aload 0 159) := snd_aload_n dX5_drawsDeed_158 rfl
theorem oX5_drawsDeed_159 : SX5_drawsDeed 159 (i_getf 4 24 162) := snd_getf dX5_drawsDeed_159 rfl (by decide) in_X5 (Or.inl q1722) (Or.inl rfl) (by decide)
theorem oX5_drawsDeed_162 : SX5_drawsDeed 162 (i_const (.int (nI 1432)) 165) := snd_sipush dX5_drawsDeed_162 (by decide)
theorem oX5_drawsDeed_165 : SX5_drawsDeed 165 (i_iload 2 166) := snd_iload_n dX5_drawsDeed_165 rfl
theorem oX5_drawsDeed_166 : SX5_drawsDeed 166 (i_ii (fun x y => x + y) 167) := snd_iadd dX5_drawsDeed_166
theorem oX5_drawsDeed_167 : SX5_drawsDeed 167 (i_ai 0 168) := snd_ai0 dX5_drawsDeed_167
theorem oX5_drawsDeed_168 : SX5_drawsDeed 168 (i_si (fun v => v) 0 169) := snd_si0 dX5_drawsDeed_168
theorem oX5_drawsDeed_169 : SX5_drawsDeed 169 (i_const (.int (nI 0)) 170) := snd_iconst dX5_drawsDeed_169 (by decide)
theorem oX5_drawsDeed_170 : SX5_drawsDeed 170 (i_zret) := snd_zret dX5_drawsDeed_170 rfl
theorem okX5_drawsDeed : ∀ q ∈ cX5_drawsDeed, SX5_drawsDeed q.1 q.2 := List.forall_mem_cons.mpr ⟨oX5_drawsDeed_0, List.forall_mem_cons.mpr ⟨oX5_drawsDeed_1, List.forall_mem_cons.mpr ⟨oX5_drawsDeed_2, List.forall_mem_cons.mpr ⟨oX5_drawsDeed_5, List.forall_mem_cons.mpr ⟨oX5_drawsDeed_6, List.forall_mem_cons.mpr ⟨oX5_drawsDeed_7, List.forall_mem_cons.mpr ⟨oX5_drawsDeed_10, List.forall_mem_cons.mpr ⟨oX5_drawsDeed_11, List.forall_mem_cons.mpr ⟨oX5_drawsDeed_12, List.forall_mem_cons.mpr ⟨oX5_drawsDeed_15, List.forall_mem_cons.mpr ⟨oX5_drawsDeed_18, List.forall_mem_cons.mpr ⟨oX5_drawsDeed_19, List.forall_mem_cons.mpr ⟨oX5_drawsDeed_20, List.forall_mem_cons.mpr ⟨oX5_drawsDeed_23, List.forall_mem_cons.mpr ⟨oX5_drawsDeed_26, List.forall_mem_cons.mpr ⟨oX5_drawsDeed_27, List.forall_mem_cons.mpr ⟨oX5_drawsDeed_28, List.forall_mem_cons.mpr ⟨oX5_drawsDeed_29, List.forall_mem_cons.mpr ⟨oX5_drawsDeed_30, List.forall_mem_cons.mpr ⟨oX5_drawsDeed_31, List.forall_mem_cons.mpr ⟨oX5_drawsDeed_34, List.forall_mem_cons.mpr ⟨oX5_drawsDeed_37, List.forall_mem_cons.mpr ⟨oX5_drawsDeed_38, List.forall_mem_cons.mpr ⟨oX5_drawsDeed_39, List.forall_mem_cons.mpr ⟨oX5_drawsDeed_40, List.forall_mem_cons.mpr ⟨oX5_drawsDeed_42, List.forall_mem_cons.mpr ⟨oX5_drawsDeed_45, List.forall_mem_cons.mpr ⟨oX5_drawsDeed_46, List.forall_mem_cons.mpr ⟨oX5_drawsDeed_49, List.forall_mem_cons.mpr ⟨oX5_drawsDeed_50, List.forall_mem_cons.mpr ⟨oX5_drawsDeed_51, List.forall_mem_cons.mpr ⟨oX5_drawsDeed_52, List.forall_mem_cons.mpr ⟨oX5_drawsDeed_55, List.forall_mem_cons.mpr ⟨oX5_drawsDeed_56, List.forall_mem_cons.mpr ⟨oX5_drawsDeed_57, List.forall_mem_cons.mpr ⟨oX5_drawsDeed_60, List.forall_mem_cons.mpr ⟨oX5_drawsDeed_61, List.forall_mem_cons.mpr ⟨oX5_drawsDeed_64, List.forall_mem_cons.mpr ⟨oX5_drawsDeed_67, List.forall_mem_cons.mpr ⟨oX5_drawsDeed_68, List.forall_mem_cons.mpr ⟨oX5_drawsDeed_69, List.forall_mem_cons.mpr ⟨oX5_drawsDeed_72, List.forall_mem_cons.mpr ⟨oX5_drawsDeed_75, List.forall_mem_cons.mpr ⟨oX5_drawsDeed_76, List.forall_mem_cons.mpr ⟨oX5_drawsDeed_77, List.forall_mem_cons.mpr ⟨oX5_drawsDeed_78, List.forall_mem_cons.mpr ⟨oX5_drawsDeed_81, List.forall_mem_cons.mpr ⟨oX5_drawsDeed_84, List.forall_mem_cons.mpr ⟨oX5_drawsDeed_85, List.forall_mem_cons.mpr ⟨oX5_drawsDeed_86, List.forall_mem_cons.mpr ⟨oX5_drawsDeed_89, List.forall_mem_cons.mpr ⟨oX5_drawsDeed_90, List.forall_mem_cons.mpr ⟨oX5_drawsDeed_91, List.forall_mem_cons.mpr ⟨oX5_drawsDeed_94, List.forall_mem_cons.mpr ⟨oX5_drawsDeed_97, List.forall_mem_cons.mpr ⟨oX5_drawsDeed_98, List.forall_mem_cons.mpr ⟨oX5_drawsDeed_101, List.forall_mem_cons.mpr ⟨oX5_drawsDeed_102, List.forall_mem_cons.mpr ⟨oX5_drawsDeed_103, List.forall_mem_cons.mpr ⟨oX5_drawsDeed_106, List.forall_mem_cons.mpr ⟨oX5_drawsDeed_107, List.forall_mem_cons.mpr ⟨oX5_drawsDeed_108, List.forall_mem_cons.mpr ⟨oX5_drawsDeed_111, List.forall_mem_cons.mpr ⟨oX5_drawsDeed_112, List.forall_mem_cons.mpr ⟨oX5_drawsDeed_113, List.forall_mem_cons.mpr ⟨oX5_drawsDeed_116, List.forall_mem_cons.mpr ⟨oX5_drawsDeed_117, List.forall_mem_cons.mpr ⟨oX5_drawsDeed_118, List.forall_mem_cons.mpr ⟨oX5_drawsDeed_121, List.forall_mem_cons.mpr ⟨oX5_drawsDeed_124, List.forall_mem_cons.mpr ⟨oX5_drawsDeed_125, List.forall_mem_cons.mpr ⟨oX5_drawsDeed_126, List.forall_mem_cons.mpr ⟨oX5_drawsDeed_129, List.forall_mem_cons.mpr ⟨oX5_drawsDeed_132, List.forall_mem_cons.mpr ⟨oX5_drawsDeed_133, List.forall_mem_cons.mpr ⟨oX5_drawsDeed_134, List.forall_mem_cons.mpr ⟨oX5_drawsDeed_135, List.forall_mem_cons.mpr ⟨oX5_drawsDeed_138, List.forall_mem_cons.mpr ⟨oX5_drawsDeed_139, List.forall_mem_cons.mpr ⟨oX5_drawsDeed_142, List.forall_mem_cons.mpr ⟨oX5_drawsDeed_145, List.forall_mem_cons.mpr ⟨oX5_drawsDeed_146, List.forall_mem_cons.mpr ⟨oX5_drawsDeed_149, List.forall_mem_cons.mpr ⟨oX5_drawsDeed_152, List.forall_mem_cons.mpr ⟨oX5_drawsDeed_153, List.forall_mem_cons.mpr ⟨oX5_drawsDeed_154, List.forall_mem_cons.mpr ⟨oX5_drawsDeed_155, List.forall_mem_cons.mpr ⟨oX5_drawsDeed_158, List.forall_mem_cons.mpr ⟨oX5_drawsDeed_159, List.forall_mem_cons.mpr ⟨oX5_drawsDeed_162, List.forall_mem_cons.mpr ⟨oX5_drawsDeed_165, List.forall_mem_cons.mpr ⟨oX5_drawsDeed_166, List.forall_mem_cons.mpr ⟨oX5_drawsDeed_167, List.forall_mem_cons.mpr ⟨oX5_drawsDeed_168, List.forall_mem_cons.mpr ⟨oX5_drawsDeed_169, List.forall_mem_cons.mpr ⟨oX5_drawsDeed_170, fun _ h => absurd h List.not_mem_nil⟩⟩⟩⟩⟩⟩⟩⟩⟩⟩⟩⟩⟩⟩⟩⟩⟩⟩⟩⟩⟩⟩⟩⟩⟩⟩⟩⟩⟩⟩⟩⟩⟩⟩⟩⟩⟩⟩⟩⟩⟩⟩⟩⟩⟩⟩⟩⟩⟩⟩⟩⟩⟩⟩⟩⟩⟩⟩⟩⟩⟩⟩⟩⟩⟩⟩⟩⟩⟩⟩⟩⟩⟩⟩⟩⟩⟩⟩⟩⟩⟩⟩⟩⟩⟩⟩⟩⟩⟩⟩⟩⟩⟩⟩⟩⟩
def dkwX5_draw_1 : List UInt8 := [20, 1, 155, 109, 27, 133, 113, 136, 172]
abbrev dktX5_draw_1 : List UInt8 := dkwX5_draw_1 ++ []
def dkwX5_draw_0 : List UInt8 := [42, 42, 180, 1, 145, 20, 1, 149, 105, 20, 1, 151, 97, 20, 1, 153, 113, 181, 1, 145, 42, 180, 1, 145]
abbrev dktX5_draw_0 : List UInt8 := dkwX5_draw_0 ++ dktX5_draw_1
theorem dksX5_draw_0 : bcX5_draw.data.toList.drop 0 = dktX5_draw_0 := by decide +kernel
theorem dksX5_draw_1 : bcX5_draw.data.toList.drop 24 = dktX5_draw_1 := dk_seg dksX5_draw_0 24 rfl rfl
theorem dX5_draw_0 : decode bcX5_draw 0 = .ok (.aload_n 0, 1) := dk_42 (dk_at dksX5_draw_0 0 rfl rfl)
theorem dX5_draw_1 : decode bcX5_draw 1 = .ok (.aload_n 0, 1) := dk_42 (dk_at dksX5_draw_0 1 rfl rfl)
theorem dX5_draw_2 : decode bcX5_draw 2 = .ok (.getfield 401, 3) := dk_180 1 145 (dk_at dksX5_draw_0 2 rfl rfl)
theorem dX5_draw_5 : decode bcX5_draw 5 = .ok (.ldc2_w 405, 3) := dk_20 1 149 (dk_at dksX5_draw_0 5 rfl rfl)
theorem dX5_draw_8 : decode bcX5_draw 8 = .ok (.lmul, 1) := dk_105 (dk_at dksX5_draw_0 8 rfl rfl)
theorem dX5_draw_9 : decode bcX5_draw 9 = .ok (.ldc2_w 407, 3) := dk_20 1 151 (dk_at dksX5_draw_0 9 rfl rfl)
theorem dX5_draw_12 : decode bcX5_draw 12 = .ok (.ladd, 1) := dk_97 (dk_at dksX5_draw_0 12 rfl rfl)
theorem dX5_draw_13 : decode bcX5_draw 13 = .ok (.ldc2_w 409, 3) := dk_20 1 153 (dk_at dksX5_draw_0 13 rfl rfl)
theorem dX5_draw_16 : decode bcX5_draw 16 = .ok (.lrem, 1) := dk_113 (dk_at dksX5_draw_0 16 rfl rfl)
theorem dX5_draw_17 : decode bcX5_draw 17 = .ok (.putfield 401, 3) := dk_181 1 145 (dk_at dksX5_draw_0 17 rfl rfl)
theorem dX5_draw_20 : decode bcX5_draw 20 = .ok (.aload_n 0, 1) := dk_42 (dk_at dksX5_draw_0 20 rfl rfl)
theorem dX5_draw_21 : decode bcX5_draw 21 = .ok (.getfield 401, 3) := dk_180 1 145 (dk_at dksX5_draw_0 21 rfl rfl)
theorem dX5_draw_24 : decode bcX5_draw 24 = .ok (.ldc2_w 411, 3) := dk_20 1 155 (dk_at dksX5_draw_1 0 rfl rfl)
theorem dX5_draw_27 : decode bcX5_draw 27 = .ok (.ldiv, 1) := dk_109 (dk_at dksX5_draw_1 3 rfl rfl)
theorem dX5_draw_28 : decode bcX5_draw 28 = .ok (.iload_n 1, 1) := dk_27 (dk_at dksX5_draw_1 4 rfl rfl)
theorem dX5_draw_29 : decode bcX5_draw 29 = .ok (.i2l, 1) := dk_133 (dk_at dksX5_draw_1 5 rfl rfl)
theorem dX5_draw_30 : decode bcX5_draw 30 = .ok (.lrem, 1) := dk_113 (dk_at dksX5_draw_1 6 rfl rfl)
theorem dX5_draw_31 : decode bcX5_draw 31 = .ok (.l2i, 1) := dk_136 (dk_at dksX5_draw_1 7 rfl rfl)
theorem dX5_draw_32 : decode bcX5_draw 32 = .ok (.ireturn, 1) := dk_172 (dk_at dksX5_draw_1 8 rfl rfl)
abbrev SX5_draw (pc : Nat) (i : xI) : Prop := Snd "SwollenHouseModel" "draw" prog_25_method_119_code 2 (Option.some Jvm.ClassFile.FieldType.int) [] pc i
theorem oX5_draw_0 : SX5_draw 0 (i_aload 0 1) := snd_aload_n dX5_draw_0 rfl
theorem oX5_draw_1 : SX5_draw 1 (i_aload 0 2) := snd_aload_n dX5_draw_1 rfl
theorem oX5_draw_2 : SX5_draw 2 (i_getf 4 31 5) := snd_getf dX5_draw_2 rfl (by decide) in_X5 (Or.inl q1729) (Or.inl rfl) (by decide)
theorem oX5_draw_5 : SX5_draw 5 (i_const (.long (lN 1103515245)) 8) := snd_ldc2 dX5_draw_5 q2232
theorem oX5_draw_8 : SX5_draw 8 (i_ll (fun x y => x * y) 9) := snd_lmul dX5_draw_8
theorem oX5_draw_9 : SX5_draw 9 (i_const (.long (lN 12345)) 12) := snd_ldc2 dX5_draw_9 q2233
theorem oX5_draw_12 : SX5_draw 12 (i_ll (fun x y => x + y) 13) := snd_ladd dX5_draw_12
theorem oX5_draw_13 : SX5_draw 13 (i_const (.long (lN 2147483648)) 16) := snd_ldc2 dX5_draw_13 q2234
theorem oX5_draw_16 : SX5_draw 16 (i_lz (fun x y => x - x / y * y) 17) := snd_lrem dX5_draw_16
theorem oX5_draw_17 : SX5_draw 17 (i_putfl 4 31 20) := snd_putfl dX5_draw_17 rfl (by decide) in_X5 tyX5 tyX5_ok nmX5 (Or.inl ⟨rfl, q1729⟩) (Or.inl rfl) rfl
theorem oX5_draw_20 : SX5_draw 20 (i_aload 0 21) := snd_aload_n dX5_draw_20 rfl
theorem oX5_draw_21 : SX5_draw 21 (i_getf 4 31 24) := snd_getf dX5_draw_21 rfl (by decide) in_X5 (Or.inl q1729) (Or.inl rfl) (by decide)
theorem oX5_draw_24 : SX5_draw 24 (i_const (.long (lN 65536)) 27) := snd_ldc2 dX5_draw_24 q2235
theorem oX5_draw_27 : SX5_draw 27 (i_lz (fun x y => x / y) 28) := snd_ldiv dX5_draw_27
theorem oX5_draw_28 : SX5_draw 28 (i_iload 1 29) := snd_iload_n dX5_draw_28 rfl
theorem oX5_draw_29 : SX5_draw 29 (i_i2l 30) := snd_i2l dX5_draw_29
theorem oX5_draw_30 : SX5_draw 30 (i_lz (fun x y => x - x / y * y) 31) := snd_lrem dX5_draw_30
theorem oX5_draw_31 : SX5_draw 31 (i_l2i 32) := snd_l2i dX5_draw_31
theorem oX5_draw_32 : SX5_draw 32 (i_iret) := snd_iret dX5_draw_32 rfl
theorem okX5_draw : ∀ q ∈ cX5_draw, SX5_draw q.1 q.2 := List.forall_mem_cons.mpr ⟨oX5_draw_0, List.forall_mem_cons.mpr ⟨oX5_draw_1, List.forall_mem_cons.mpr ⟨oX5_draw_2, List.forall_mem_cons.mpr ⟨oX5_draw_5, List.forall_mem_cons.mpr ⟨oX5_draw_8, List.forall_mem_cons.mpr ⟨oX5_draw_9, List.forall_mem_cons.mpr ⟨oX5_draw_12, List.forall_mem_cons.mpr ⟨oX5_draw_13, List.forall_mem_cons.mpr ⟨oX5_draw_16, List.forall_mem_cons.mpr ⟨oX5_draw_17, List.forall_mem_cons.mpr ⟨oX5_draw_20, List.forall_mem_cons.mpr ⟨oX5_draw_21, List.forall_mem_cons.mpr ⟨oX5_draw_24, List.forall_mem_cons.mpr ⟨oX5_draw_27, List.forall_mem_cons.mpr ⟨oX5_draw_28, List.forall_mem_cons.mpr ⟨oX5_draw_29, List.forall_mem_cons.mpr ⟨oX5_draw_30, List.forall_mem_cons.mpr ⟨oX5_draw_31, List.forall_mem_cons.mpr ⟨oX5_draw_32, fun _ h => absurd h List.not_mem_nil⟩⟩⟩⟩⟩⟩⟩⟩⟩⟩⟩⟩⟩⟩⟩⟩⟩⟩⟩
def dkwX5_sumOf_1 : List UInt8 := [132, 4, 1, 167, 255, 235, 29, 172]
abbrev dktX5_sumOf_1 : List UInt8 := dkwX5_sumOf_1 ++ []
def dkwX5_sumOf_0 : List UInt8 := [3, 62, 3, 54, 4, 21, 4, 28, 162, 0, 21, 29, 42, 180, 0, 113, 27, 21, 4, 96, 46, 96, 62]
abbrev dktX5_sumOf_0 : List UInt8 := dkwX5_sumOf_0 ++ dktX5_sumOf_1
theorem dksX5_sumOf_0 : bcX5_sumOf.data.toList.drop 0 = dktX5_sumOf_0 := by decide +kernel
theorem dksX5_sumOf_1 : bcX5_sumOf.data.toList.drop 23 = dktX5_sumOf_1 := dk_seg dksX5_sumOf_0 23 rfl rfl
theorem dX5_sumOf_0 : decode bcX5_sumOf 0 = .ok (.iconst 0, 1) := dk_3 (dk_at dksX5_sumOf_0 0 rfl rfl)
theorem dX5_sumOf_1 : decode bcX5_sumOf 1 = .ok (.istore_n 3, 1) := dk_62 (dk_at dksX5_sumOf_0 1 rfl rfl)
theorem dX5_sumOf_2 : decode bcX5_sumOf 2 = .ok (.iconst 0, 1) := dk_3 (dk_at dksX5_sumOf_0 2 rfl rfl)
theorem dX5_sumOf_3 : decode bcX5_sumOf 3 = .ok (.istore 4, 2) := dk_54 4 (dk_at dksX5_sumOf_0 3 rfl rfl)
theorem dX5_sumOf_5 : decode bcX5_sumOf 5 = .ok (.iload 4, 2) := dk_21 4 (dk_at dksX5_sumOf_0 5 rfl rfl)
theorem dX5_sumOf_7 : decode bcX5_sumOf 7 = .ok (.iload_n 2, 1) := dk_28 (dk_at dksX5_sumOf_0 7 rfl rfl)
theorem dX5_sumOf_8 : decode bcX5_sumOf 8 = .ok (.if_icmp .ge 21, 3) := dk_162 0 21 (dk_at dksX5_sumOf_0 8 rfl rfl)
theorem dX5_sumOf_11 : decode bcX5_sumOf 11 = .ok (.iload_n 3, 1) := dk_29 (dk_at dksX5_sumOf_0 11 rfl rfl)
theorem dX5_sumOf_12 : decode bcX5_sumOf 12 = .ok (.aload_n 0, 1) := dk_42 (dk_at dksX5_sumOf_0 12 rfl rfl)
theorem dX5_sumOf_13 : decode bcX5_sumOf 13 = .ok (.getfield 113, 3) := dk_180 0 113 (dk_at dksX5_sumOf_0 13 rfl rfl)
theorem dX5_sumOf_16 : decode bcX5_sumOf 16 = .ok (.iload_n 1, 1) := dk_27 (dk_at dksX5_sumOf_0 16 rfl rfl)
theorem dX5_sumOf_17 : decode bcX5_sumOf 17 = .ok (.iload 4, 2) := dk_21 4 (dk_at dksX5_sumOf_0 17 rfl rfl)
theorem dX5_sumOf_19 : decode bcX5_sumOf 19 = .ok (.iadd, 1) := dk_96 (dk_at dksX5_sumOf_0 19 rfl rfl)
theorem dX5_sumOf_20 : decode bcX5_sumOf 20 = .ok (.iaload, 1) := dk_46 (dk_at dksX5_sumOf_0 20 rfl rfl)
theorem dX5_sumOf_21 : decode bcX5_sumOf 21 = .ok (.iadd, 1) := dk_96 (dk_at dksX5_sumOf_0 21 rfl rfl)
theorem dX5_sumOf_22 : decode bcX5_sumOf 22 = .ok (.istore_n 3, 1) := dk_62 (dk_at dksX5_sumOf_0 22 rfl rfl)
theorem dX5_sumOf_23 : decode bcX5_sumOf 23 = .ok (.iinc 4 1, 3) := dk_132 4 1 (dk_at dksX5_sumOf_1 0 rfl rfl)
theorem dX5_sumOf_26 : decode bcX5_sumOf 26 = .ok (.goto (-21), 3) := dk_167 255 235 (dk_at dksX5_sumOf_1 3 rfl rfl)
theorem dX5_sumOf_29 : decode bcX5_sumOf 29 = .ok (.iload_n 3, 1) := dk_29 (dk_at dksX5_sumOf_1 6 rfl rfl)
theorem dX5_sumOf_30 : decode bcX5_sumOf 30 = .ok (.ireturn, 1) := dk_172 (dk_at dksX5_sumOf_1 7 rfl rfl)
abbrev SX5_sumOf (pc : Nat) (i : xI) : Prop := Snd "SwollenHouseModel" "sumOf" prog_25_method_66_code 5 (Option.some Jvm.ClassFile.FieldType.int) [] pc i
theorem oX5_sumOf_0 : SX5_sumOf 0 (i_const (.int (nI 0)) 1) := snd_iconst dX5_sumOf_0 (by decide)
theorem oX5_sumOf_1 : SX5_sumOf 1 (i_istore 3 2) := snd_istore_n dX5_sumOf_1 rfl (by decide)
theorem oX5_sumOf_2 : SX5_sumOf 2 (i_const (.int (nI 0)) 3) := snd_iconst dX5_sumOf_2 (by decide)
theorem oX5_sumOf_3 : SX5_sumOf 3 (i_istore 4 5) := snd_istore dX5_sumOf_3 (by decide)
theorem oX5_sumOf_5 : SX5_sumOf 5 (i_iload 4 7) := snd_iload dX5_sumOf_5
theorem oX5_sumOf_7 : SX5_sumOf 7 (i_iload 2 8) := snd_iload_n dX5_sumOf_7 rfl
theorem oX5_sumOf_8 : SX5_sumOf 8 (i_if2 (fun x y => y ≤ x) 29 11) := snd_icmp_ge dX5_sumOf_8 (by decide)
theorem oX5_sumOf_11 : SX5_sumOf 11 (i_iload 3 12) := snd_iload_n dX5_sumOf_11 rfl
theorem oX5_sumOf_12 : SX5_sumOf 12 (i_aload 0 13) := snd_aload_n dX5_sumOf_12 rfl
theorem oX5_sumOf_13 : SX5_sumOf 13 (i_getf 4 24 16) := snd_getf dX5_sumOf_13 rfl (by decide) in_X5 (Or.inl q1722) (Or.inl rfl) (by decide)
theorem oX5_sumOf_16 : SX5_sumOf 16 (i_iload 1 17) := snd_iload_n dX5_sumOf_16 rfl
theorem oX5_sumOf_17 : SX5_sumOf 17 (i_iload 4 19) := snd_iload dX5_sumOf_17
theorem oX5_sumOf_19 : SX5_sumOf 19 (i_ii (fun x y => x + y) 20) := snd_iadd dX5_sumOf_19
theorem oX5_sumOf_20 : SX5_sumOf 20 (i_ai 0 21) := snd_ai0 dX5_sumOf_20
theorem oX5_sumOf_21 : SX5_sumOf 21 (i_ii (fun x y => x + y) 22) := snd_iadd dX5_sumOf_21
theorem oX5_sumOf_22 : SX5_sumOf 22 (i_istore 3 23) := snd_istore_n dX5_sumOf_22 rfl (by decide)
theorem oX5_sumOf_23 : SX5_sumOf 23 (i_iinc 4 (nI 1) 26) := snd_iinc dX5_sumOf_23 (by decide) (by decide)
theorem oX5_sumOf_26 : SX5_sumOf 26 (i_goto 5) := snd_goto dX5_sumOf_26 (by decide)
theorem oX5_sumOf_29 : SX5_sumOf 29 (i_iload 3 30) := snd_iload_n dX5_sumOf_29 rfl
theorem oX5_sumOf_30 : SX5_sumOf 30 (i_iret) := snd_iret dX5_sumOf_30 rfl
theorem okX5_sumOf : ∀ q ∈ cX5_sumOf, SX5_sumOf q.1 q.2 := List.forall_mem_cons.mpr ⟨oX5_sumOf_0, List.forall_mem_cons.mpr ⟨oX5_sumOf_1, List.forall_mem_cons.mpr ⟨oX5_sumOf_2, List.forall_mem_cons.mpr ⟨oX5_sumOf_3, List.forall_mem_cons.mpr ⟨oX5_sumOf_5, List.forall_mem_cons.mpr ⟨oX5_sumOf_7, List.forall_mem_cons.mpr ⟨oX5_sumOf_8, List.forall_mem_cons.mpr ⟨oX5_sumOf_11, List.forall_mem_cons.mpr ⟨oX5_sumOf_12, List.forall_mem_cons.mpr ⟨oX5_sumOf_13, List.forall_mem_cons.mpr ⟨oX5_sumOf_16, List.forall_mem_cons.mpr ⟨oX5_sumOf_17, List.forall_mem_cons.mpr ⟨oX5_sumOf_19, List.forall_mem_cons.mpr ⟨oX5_sumOf_20, List.forall_mem_cons.mpr ⟨oX5_sumOf_21, List.forall_mem_cons.mpr ⟨oX5_sumOf_22, List.forall_mem_cons.mpr ⟨oX5_sumOf_23, List.forall_mem_cons.mpr ⟨oX5_sumOf_26, List.forall_mem_cons.mpr ⟨oX5_sumOf_29, List.forall_mem_cons.mpr ⟨oX5_sumOf_30, fun _ h => absurd h List.not_mem_nil⟩⟩⟩⟩⟩⟩⟩⟩⟩⟩⟩⟩⟩⟩⟩⟩⟩⟩⟩⟩
def dkwX5_mark_3 : List UInt8 := [28, 153, 0, 7, 3, 167, 0, 7, 42, 180, 1, 29, 181, 1, 29, 4, 172]
abbrev dktX5_mark_3 : List UInt8 := dkwX5_mark_3 ++ []
def dkwX5_mark_2 : List UInt8 := [167, 0, 4, 3, 28, 153, 0, 7, 3, 167, 0, 9, 16, 65, 4, 27, 96, 104, 16, 65, 182, 1, 32, 42]
abbrev dktX5_mark_2 : List UInt8 := dkwX5_mark_2 ++ dktX5_mark_3
def dkwX5_mark_1 : List UInt8 := [154, 0, 5, 3, 172, 42, 180, 0, 116, 27, 4, 84, 42, 28, 153, 0, 12, 16, 65, 4, 27, 96, 104]
abbrev dktX5_mark_1 : List UInt8 := dkwX5_mark_1 ++ dktX5_mark_2
def dkwX5_mark_0 : List UInt8 := [42, 3, 181, 0, 1, 27, 3, 6, 184, 0, 204, 153, 0, 16, 28, 153, 0, 14, 42, 180, 0, 116, 27, 51]
abbrev dktX5_mark_0 : List UInt8 := dkwX5_mark_0 ++ dktX5_mark_1
theorem dksX5_mark_0 : bcX5_mark.data.toList.drop 0 = dktX5_mark_0 := by decide +kernel
theorem dksX5_mark_1 : bcX5_mark.data.toList.drop 24 = dktX5_mark_1 := dk_seg dksX5_mark_0 24 rfl rfl
theorem dksX5_mark_2 : bcX5_mark.data.toList.drop 47 = dktX5_mark_2 := dk_seg dksX5_mark_1 23 rfl rfl
theorem dksX5_mark_3 : bcX5_mark.data.toList.drop 71 = dktX5_mark_3 := dk_seg dksX5_mark_2 24 rfl rfl
theorem dX5_mark_0 : decode bcX5_mark 0 = .ok (.aload_n 0, 1) := dk_42 (dk_at dksX5_mark_0 0 rfl rfl)
theorem dX5_mark_1 : decode bcX5_mark 1 = .ok (.iconst 0, 1) := dk_3 (dk_at dksX5_mark_0 1 rfl rfl)
theorem dX5_mark_2 : decode bcX5_mark 2 = .ok (.putfield 1, 3) := dk_181 0 1 (dk_at dksX5_mark_0 2 rfl rfl)
theorem dX5_mark_5 : decode bcX5_mark 5 = .ok (.iload_n 1, 1) := dk_27 (dk_at dksX5_mark_0 5 rfl rfl)
theorem dX5_mark_6 : decode bcX5_mark 6 = .ok (.iconst 0, 1) := dk_3 (dk_at dksX5_mark_0 6 rfl rfl)
theorem dX5_mark_7 : decode bcX5_mark 7 = .ok (.iconst 3, 1) := dk_6 (dk_at dksX5_mark_0 7 rfl rfl)
theorem dX5_mark_8 : decode bcX5_mark 8 = .ok (.invokestatic 204, 3) := dk_184 0 204 (dk_at dksX5_mark_0 8 rfl rfl)
theorem dX5_mark_11 : decode bcX5_mark 11 = .ok (.ifCond .eq 16, 3) := dk_153 0 16 (dk_at dksX5_mark_0 11 rfl rfl)
theorem dX5_mark_14 : decode bcX5_mark 14 = .ok (.iload_n 2, 1) := dk_28 (dk_at dksX5_mark_0 14 rfl rfl)
theorem dX5_mark_15 : decode bcX5_mark 15 = .ok (.ifCond .eq 14, 3) := dk_153 0 14 (dk_at dksX5_mark_0 15 rfl rfl)
theorem dX5_mark_18 : decode bcX5_mark 18 = .ok (.aload_n 0, 1) := dk_42 (dk_at dksX5_mark_0 18 rfl rfl)
theorem dX5_mark_19 : decode bcX5_mark 19 = .ok (.getfield 116, 3) := dk_180 0 116 (dk_at dksX5_mark_0 19 rfl rfl)
theorem dX5_mark_22 : decode bcX5_mark 22 = .ok (.iload_n 1, 1) := dk_27 (dk_at dksX5_mark_0 22 rfl rfl)
theorem dX5_mark_23 : decode bcX5_mark 23 = .ok (.baload, 1) := dk_51 (dk_at dksX5_mark_0 23 rfl rfl)
theorem dX5_mark_24 : decode bcX5_mark 24 = .ok (.ifCond .ne 5, 3) := dk_154 0 5 (dk_at dksX5_mark_1 0 rfl rfl)
theorem dX5_mark_27 : decode bcX5_mark 27 = .ok (.iconst 0, 1) := dk_3 (dk_at dksX5_mark_1 3 rfl rfl)
theorem dX5_mark_28 : decode bcX5_mark 28 = .ok (.ireturn, 1) := dk_172 (dk_at dksX5_mark_1 4 rfl rfl)
theorem dX5_mark_29 : decode bcX5_mark 29 = .ok (.aload_n 0, 1) := dk_42 (dk_at dksX5_mark_1 5 rfl rfl)
theorem dX5_mark_30 : decode bcX5_mark 30 = .ok (.getfield 116, 3) := dk_180 0 116 (dk_at dksX5_mark_1 6 rfl rfl)
theorem dX5_mark_33 : decode bcX5_mark 33 = .ok (.iload_n 1, 1) := dk_27 (dk_at dksX5_mark_1 9 rfl rfl)
theorem dX5_mark_34 : decode bcX5_mark 34 = .ok (.iconst 1, 1) := dk_4 (dk_at dksX5_mark_1 10 rfl rfl)
theorem dX5_mark_35 : decode bcX5_mark 35 = .ok (.bastore, 1) := dk_84 (dk_at dksX5_mark_1 11 rfl rfl)
theorem dX5_mark_36 : decode bcX5_mark 36 = .ok (.aload_n 0, 1) := dk_42 (dk_at dksX5_mark_1 12 rfl rfl)
theorem dX5_mark_37 : decode bcX5_mark 37 = .ok (.iload_n 2, 1) := dk_28 (dk_at dksX5_mark_1 13 rfl rfl)
theorem dX5_mark_38 : decode bcX5_mark 38 = .ok (.ifCond .eq 12, 3) := dk_153 0 12 (dk_at dksX5_mark_1 14 rfl rfl)
theorem dX5_mark_41 : decode bcX5_mark 41 = .ok (.bipush 65, 2) := dk_16 65 (dk_at dksX5_mark_1 17 rfl rfl)
theorem dX5_mark_43 : decode bcX5_mark 43 = .ok (.iconst 1, 1) := dk_4 (dk_at dksX5_mark_1 19 rfl rfl)
theorem dX5_mark_44 : decode bcX5_mark 44 = .ok (.iload_n 1, 1) := dk_27 (dk_at dksX5_mark_1 20 rfl rfl)
theorem dX5_mark_45 : decode bcX5_mark 45 = .ok (.iadd, 1) := dk_96 (dk_at dksX5_mark_1 21 rfl rfl)
theorem dX5_mark_46 : decode bcX5_mark 46 = .ok (.imul, 1) := dk_104 (dk_at dksX5_mark_1 22 rfl rfl)
theorem dX5_mark_47 : decode bcX5_mark 47 = .ok (.goto 4, 3) := dk_167 0 4 (dk_at dksX5_mark_2 0 rfl rfl)
theorem dX5_mark_50 : decode bcX5_mark 50 = .ok (.iconst 0, 1) := dk_3 (dk_at dksX5_mark_2 3 rfl rfl)
theorem dX5_mark_51 : decode bcX5_mark 51 = .ok (.iload_n 2, 1) := dk_28 (dk_at dksX5_mark_2 4 rfl rfl)
theorem dX5_mark_52 : decode bcX5_mark 52 = .ok (.ifCond .eq 7, 3) := dk_153 0 7 (dk_at dksX5_mark_2 5 rfl rfl)
theorem dX5_mark_55 : decode bcX5_mark 55 = .ok (.iconst 0, 1) := dk_3 (dk_at dksX5_mark_2 8 rfl rfl)
theorem dX5_mark_56 : decode bcX5_mark 56 = .ok (.goto 9, 3) := dk_167 0 9 (dk_at dksX5_mark_2 9 rfl rfl)
theorem dX5_mark_59 : decode bcX5_mark 59 = .ok (.bipush 65, 2) := dk_16 65 (dk_at dksX5_mark_2 12 rfl rfl)
theorem dX5_mark_61 : decode bcX5_mark 61 = .ok (.iconst 1, 1) := dk_4 (dk_at dksX5_mark_2 14 rfl rfl)
theorem dX5_mark_62 : decode bcX5_mark 62 = .ok (.iload_n 1, 1) := dk_27 (dk_at dksX5_mark_2 15 rfl rfl)
theorem dX5_mark_63 : decode bcX5_mark 63 = .ok (.iadd, 1) := dk_96 (dk_at dksX5_mark_2 16 rfl rfl)
theorem dX5_mark_64 : decode bcX5_mark 64 = .ok (.imul, 1) := dk_104 (dk_at dksX5_mark_2 17 rfl rfl)
theorem dX5_mark_65 : decode bcX5_mark 65 = .ok (.bipush 65, 2) := dk_16 65 (dk_at dksX5_mark_2 18 rfl rfl)
theorem dX5_mark_67 : decode bcX5_mark 67 = .ok (.invokevirtual 288, 3) := dk_182 1 32 (dk_at dksX5_mark_2 20 rfl rfl)
theorem dX5_mark_70 : decode bcX5_mark 70 = .ok (.aload_n 0, 1) := dk_42 (dk_at dksX5_mark_2 23 rfl rfl)
theorem dX5_mark_71 : decode bcX5_mark 71 = .ok (.iload_n 2, 1) := dk_28 (dk_at dksX5_mark_3 0 rfl rfl)
theorem dX5_mark_72 : decode bcX5_mark 72 = .ok (.ifCond .eq 7, 3) := dk_153 0 7 (dk_at dksX5_mark_3 1 rfl rfl)
theorem dX5_mark_75 : decode bcX5_mark 75 = .ok (.iconst 0, 1) := dk_3 (dk_at dksX5_mark_3 4 rfl rfl)
theorem dX5_mark_76 : decode bcX5_mark 76 = .ok (.goto 7, 3) := dk_167 0 7 (dk_at dksX5_mark_3 5 rfl rfl)
theorem dX5_mark_79 : decode bcX5_mark 79 = .ok (.aload_n 0, 1) := dk_42 (dk_at dksX5_mark_3 8 rfl rfl)
theorem dX5_mark_80 : decode bcX5_mark 80 = .ok (.getfield 285, 3) := dk_180 1 29 (dk_at dksX5_mark_3 9 rfl rfl)
theorem dX5_mark_83 : decode bcX5_mark 83 = .ok (.putfield 285, 3) := dk_181 1 29 (dk_at dksX5_mark_3 12 rfl rfl)
theorem dX5_mark_86 : decode bcX5_mark 86 = .ok (.iconst 1, 1) := dk_4 (dk_at dksX5_mark_3 15 rfl rfl)
theorem dX5_mark_87 : decode bcX5_mark 87 = .ok (.ireturn, 1) := dk_172 (dk_at dksX5_mark_3 16 rfl rfl)
abbrev SX5_mark (pc : Nat) (i : xI) : Prop := Snd "SwollenHouseModel" "mark" prog_25_method_122_code 3 (Option.some Jvm.ClassFile.FieldType.boolean) [] pc i
theorem oX5_mark_0 : SX5_mark 0 (i_aload 0 1) := snd_aload_n dX5_mark_0 rfl
theorem oX5_mark_1 : SX5_mark 1 (i_const (.int (nI 0)) 2) := snd_iconst dX5_mark_1 (by decide)
theorem oX5_mark_2 : SX5_mark 2 (i_putfi 4 0 5) := snd_putfi dX5_mark_2 rfl (by decide) in_X5 tyX5 tyX5_ok nmX5 (Or.inl ⟨rfl, q1698⟩) (Or.inl rfl) rfl
theorem oX5_mark_5 : SX5_mark 5 (i_iload 1 6) := snd_iload_n dX5_mark_5 rfl
theorem oX5_mark_6 : SX5_mark 6 (i_const (.int (nI 0)) 7) := snd_iconst dX5_mark_6 (by decide)
theorem oX5_mark_7 : SX5_mark 7 (i_const (.int (nI 3)) 8) := snd_iconst dX5_mark_7 (by decide)
theorem oX5_mark_8 : SX5_mark 8 (i_cs 268 3 11) := snd_cs rfl infX5_within (by decide) (xSm_S dX5_mark_8 q1855 q1856 q136 q1857 pdX5_within)
theorem oX5_mark_11 : SX5_mark 11 (i_if1 (fun x => x = 0) 27 14) := snd_if_eq dX5_mark_11 (by decide)
theorem oX5_mark_14 : SX5_mark 14 (i_iload 2 15) := snd_iload_n dX5_mark_14 rfl
theorem oX5_mark_15 : SX5_mark 15 (i_if1 (fun x => x = 0) 29 18) := snd_if_eq dX5_mark_15 (by decide)
theorem oX5_mark_18 : SX5_mark 18 (i_aload 0 19) := snd_aload_n dX5_mark_18 rfl
theorem oX5_mark_19 : SX5_mark 19 (i_getf 4 26 22) := snd_getf dX5_mark_19 rfl (by decide) in_X5 (Or.inl q1724) (Or.inl rfl) (by decide)
theorem oX5_mark_22 : SX5_mark 22 (i_iload 1 23) := snd_iload_n dX5_mark_22 rfl
theorem oX5_mark_23 : SX5_mark 23 (i_ai 2 24) := snd_ai2 dX5_mark_23
theorem oX5_mark_24 : SX5_mark 24 (i_if1 (fun x => ¬ x = 0) 29 27) := snd_if_ne dX5_mark_24 (by decide)
theorem oX5_mark_27 : SX5_mark 27 (i_const (.int (nI 0)) 28) := snd_iconst dX5_mark_27 (by decide)
theorem oX5_mark_28 : SX5_mark 28 (i_zret) := snd_zret dX5_mark_28 rfl
theorem oX5_mark_29 : SX5_mark 29 (i_aload 0 30) := snd_aload_n dX5_mark_29 rfl
theorem oX5_mark_30 : SX5_mark 30 (i_getf 4 26 33) := snd_getf dX5_mark_30 rfl (by decide) in_X5 (Or.inl q1724) (Or.inl rfl) (by decide)
theorem oX5_mark_33 : SX5_mark 33 (i_iload 1 34) := snd_iload_n dX5_mark_33 rfl
theorem oX5_mark_34 : SX5_mark 34 (i_const (.int (nI 1)) 35) := snd_iconst dX5_mark_34 (by decide)
theorem oX5_mark_35 : SX5_mark 35 (i_si (fun v => vp_nar .boolean v) 2 36) := snd_si2 dX5_mark_35
theorem oX5_mark_36 : SX5_mark 36 (i_aload 0 37) := snd_aload_n dX5_mark_36 rfl
theorem oX5_mark_37 : SX5_mark 37 (i_iload 2 38) := snd_iload_n dX5_mark_37 rfl
theorem oX5_mark_38 : SX5_mark 38 (i_if1 (fun x => x = 0) 50 41) := snd_if_eq dX5_mark_38 (by decide)
theorem oX5_mark_41 : SX5_mark 41 (i_const (.int (nI 65)) 43) := snd_bipush dX5_mark_41 (by decide)
theorem oX5_mark_43 : SX5_mark 43 (i_const (.int (nI 1)) 44) := snd_iconst dX5_mark_43 (by decide)
theorem oX5_mark_44 : SX5_mark 44 (i_iload 1 45) := snd_iload_n dX5_mark_44 rfl
theorem oX5_mark_45 : SX5_mark 45 (i_ii (fun x y => x + y) 46) := snd_iadd dX5_mark_45
theorem oX5_mark_46 : SX5_mark 46 (i_ii (fun x y => x * y) 47) := snd_imul dX5_mark_46
theorem oX5_mark_47 : SX5_mark 47 (i_goto 51) := snd_goto dX5_mark_47 (by decide)
theorem oX5_mark_50 : SX5_mark 50 (i_const (.int (nI 0)) 51) := snd_iconst dX5_mark_50 (by decide)
theorem oX5_mark_51 : SX5_mark 51 (i_iload 2 52) := snd_iload_n dX5_mark_51 rfl
theorem oX5_mark_52 : SX5_mark 52 (i_if1 (fun x => x = 0) 59 55) := snd_if_eq dX5_mark_52 (by decide)
theorem oX5_mark_55 : SX5_mark 55 (i_const (.int (nI 0)) 56) := snd_iconst dX5_mark_55 (by decide)
theorem oX5_mark_56 : SX5_mark 56 (i_goto 65) := snd_goto dX5_mark_56 (by decide)
theorem oX5_mark_59 : SX5_mark 59 (i_const (.int (nI 65)) 61) := snd_bipush dX5_mark_59 (by decide)
theorem oX5_mark_61 : SX5_mark 61 (i_const (.int (nI 1)) 62) := snd_iconst dX5_mark_61 (by decide)
theorem oX5_mark_62 : SX5_mark 62 (i_iload 1 63) := snd_iload_n dX5_mark_62 rfl
theorem oX5_mark_63 : SX5_mark 63 (i_ii (fun x y => x + y) 64) := snd_iadd dX5_mark_63
theorem oX5_mark_64 : SX5_mark 64 (i_ii (fun x y => x * y) 65) := snd_imul dX5_mark_64
theorem oX5_mark_65 : SX5_mark 65 (i_const (.int (nI 65)) 67) := snd_bipush dX5_mark_65 (by decide)
theorem oX5_mark_67 : SX5_mark 67 (i_cvv 4 295 3 70) := snd_cvv rfl infX5_copies (by decide) rfl (xVm_V dX5_mark_67 rfl q1962 q1964 qs95 q136 q1965 pdX5_copies)
theorem oX5_mark_70 : SX5_mark 70 (i_aload 0 71) := snd_aload_n dX5_mark_70 rfl
theorem oX5_mark_71 : SX5_mark 71 (i_iload 2 72) := snd_iload_n dX5_mark_71 rfl
theorem oX5_mark_72 : SX5_mark 72 (i_if1 (fun x => x = 0) 79 75) := snd_if_eq dX5_mark_72 (by decide)
theorem oX5_mark_75 : SX5_mark 75 (i_const (.int (nI 0)) 76) := snd_iconst dX5_mark_75 (by decide)
theorem oX5_mark_76 : SX5_mark 76 (i_goto 83) := snd_goto dX5_mark_76 (by decide)
theorem oX5_mark_79 : SX5_mark 79 (i_aload 0 80) := snd_aload_n dX5_mark_79 rfl
theorem oX5_mark_80 : SX5_mark 80 (i_getf 4 25 83) := snd_getf dX5_mark_80 rfl (by decide) in_X5 (Or.inl q1723) (Or.inl rfl) (by decide)
theorem oX5_mark_83 : SX5_mark 83 (i_putfi 4 25 86) := snd_putfi dX5_mark_83 rfl (by decide) in_X5 tyX5 tyX5_ok nmX5 (Or.inl ⟨rfl, q1723⟩) (Or.inl rfl) rfl
theorem oX5_mark_86 : SX5_mark 86 (i_const (.int (nI 1)) 87) := snd_iconst dX5_mark_86 (by decide)
theorem oX5_mark_87 : SX5_mark 87 (i_zret) := snd_zret dX5_mark_87 rfl
theorem okX5_mark : ∀ q ∈ cX5_mark, SX5_mark q.1 q.2 := List.forall_mem_cons.mpr ⟨oX5_mark_0, List.forall_mem_cons.mpr ⟨oX5_mark_1, List.forall_mem_cons.mpr ⟨oX5_mark_2, List.forall_mem_cons.mpr ⟨oX5_mark_5, List.forall_mem_cons.mpr ⟨oX5_mark_6, List.forall_mem_cons.mpr ⟨oX5_mark_7, List.forall_mem_cons.mpr ⟨oX5_mark_8, List.forall_mem_cons.mpr ⟨oX5_mark_11, List.forall_mem_cons.mpr ⟨oX5_mark_14, List.forall_mem_cons.mpr ⟨oX5_mark_15, List.forall_mem_cons.mpr ⟨oX5_mark_18, List.forall_mem_cons.mpr ⟨oX5_mark_19, List.forall_mem_cons.mpr ⟨oX5_mark_22, List.forall_mem_cons.mpr ⟨oX5_mark_23, List.forall_mem_cons.mpr ⟨oX5_mark_24, List.forall_mem_cons.mpr ⟨oX5_mark_27, List.forall_mem_cons.mpr ⟨oX5_mark_28, List.forall_mem_cons.mpr ⟨oX5_mark_29, List.forall_mem_cons.mpr ⟨oX5_mark_30, List.forall_mem_cons.mpr ⟨oX5_mark_33, List.forall_mem_cons.mpr ⟨oX5_mark_34, List.forall_mem_cons.mpr ⟨oX5_mark_35, List.forall_mem_cons.mpr ⟨oX5_mark_36, List.forall_mem_cons.mpr ⟨oX5_mark_37, List.forall_mem_cons.mpr ⟨oX5_mark_38, List.forall_mem_cons.mpr ⟨oX5_mark_41, List.forall_mem_cons.mpr ⟨oX5_mark_43, List.forall_mem_cons.mpr ⟨oX5_mark_44, List.forall_mem_cons.mpr ⟨oX5_mark_45, List.forall_mem_cons.mpr ⟨oX5_mark_46, List.forall_mem_cons.mpr ⟨oX5_mark_47, List.forall_mem_cons.mpr ⟨oX5_mark_50, List.forall_mem_cons.mpr ⟨oX5_mark_51, List.forall_mem_cons.mpr ⟨oX5_mark_52, List.forall_mem_cons.mpr ⟨oX5_mark_55, List.forall_mem_cons.mpr ⟨oX5_mark_56, List.forall_mem_cons.mpr ⟨oX5_mark_59, List.forall_mem_cons.mpr ⟨oX5_mark_61, List.forall_mem_cons.mpr ⟨oX5_mark_62, List.forall_mem_cons.mpr ⟨oX5_mark_63, List.forall_mem_cons.mpr ⟨oX5_mark_64, List.forall_mem_cons.mpr ⟨oX5_mark_65, List.forall_mem_cons.mpr ⟨oX5_mark_67, List.forall_mem_cons.mpr ⟨oX5_mark_70, List.forall_mem_cons.mpr ⟨oX5_mark_71, List.forall_mem_cons.mpr ⟨oX5_mark_72, List.forall_mem_cons.mpr ⟨oX5_mark_75, List.forall_mem_cons.mpr ⟨oX5_mark_76, List.forall_mem_cons.mpr ⟨oX5_mark_79, List.forall_mem_cons.mpr ⟨oX5_mark_80, List.forall_mem_cons.mpr ⟨oX5_mark_83, List.forall_mem_cons.mpr ⟨oX5_mark_86, List.forall_mem_cons.mpr ⟨oX5_mark_87, fun _ h => absurd h List.not_mem_nil⟩⟩⟩⟩⟩⟩⟩⟩⟩⟩⟩⟩⟩⟩⟩⟩⟩⟩⟩⟩⟩⟩⟩⟩⟩⟩⟩⟩⟩⟩⟩⟩⟩⟩⟩⟩⟩⟩⟩⟩⟩⟩⟩⟩⟩⟩⟩⟩⟩⟩⟩⟩⟩
def dkwX5_count_5 : List UInt8 := [42, 180, 1, 29, 172, 42, 180, 0, 11, 172, 2, 172]
abbrev dktX5_count_5 : List UInt8 := dkwX5_count_5 ++ []
def dkwX5_count_4 : List UInt8 := [172, 42, 180, 0, 104, 3, 46, 172, 42, 180, 0, 113, 16, 23, 46, 172, 42, 180, 0, 113, 16, 48, 46, 172]
abbrev dktX5_count_4 : List UInt8 := dkwX5_count_4 ++ dktX5_count_5
def dkwX5_count_3 : List UInt8 := [172, 42, 3, 182, 1, 74, 172, 42, 180, 0, 113, 4, 46, 172, 42, 16, 10, 42, 182, 1, 16, 182, 1, 163]
abbrev dktX5_count_3 : List UInt8 := dkwX5_count_3 ++ dktX5_count_4
def dkwX5_count_2 : List UInt8 := [42, 180, 0, 83, 27, 46, 172, 42, 180, 0, 113, 3, 46, 172, 42, 42, 180, 0, 113, 3, 46, 182, 1, 54]
abbrev dktX5_count_2 : List UInt8 := dkwX5_count_2 ++ dktX5_count_3
def dkwX5_count_1 : List UInt8 := [170, 0, 0, 0, 0, 148, 0, 0, 0, 0, 0, 0, 0, 12, 0, 0, 0, 66, 0, 0, 0, 66, 0, 0, 0, 66, 0, 0, 0, 73, 0, 0, 0, 80, 0, 0, 0, 91, 0, 0, 0, 97, 0, 0, 0, 104, 0, 0, 0, 115, 0, 0, 0, 122, 0, 0, 0, 130, 0, 0, 0, 138, 0, 0, 0, 143]
abbrev dktX5_count_1 : List UInt8 := dkwX5_count_1 ++ dktX5_count_2
def dkwX5_count_0 : List UInt8 := [42, 3, 181, 0, 1, 27]
abbrev dktX5_count_0 : List UInt8 := dkwX5_count_0 ++ dktX5_count_1
theorem dksX5_count_0 : bcX5_count.data.toList.drop 0 = dktX5_count_0 := by decide +kernel
theorem dksX5_count_1 : bcX5_count.data.toList.drop 6 = dktX5_count_1 := dk_seg dksX5_count_0 6 rfl rfl
theorem dksX5_count_2 : bcX5_count.data.toList.drop 72 = dktX5_count_2 := dk_seg dksX5_count_1 66 rfl rfl
theorem dksX5_count_3 : bcX5_count.data.toList.drop 96 = dktX5_count_3 := dk_seg dksX5_count_2 24 rfl rfl
theorem dksX5_count_4 : bcX5_count.data.toList.drop 120 = dktX5_count_4 := dk_seg dksX5_count_3 24 rfl rfl
theorem dksX5_count_5 : bcX5_count.data.toList.drop 144 = dktX5_count_5 := dk_seg dksX5_count_4 24 rfl rfl
theorem dX5_count_0 : decode bcX5_count 0 = .ok (.aload_n 0, 1) := dk_42 (dk_at dksX5_count_0 0 rfl rfl)
theorem dX5_count_1 : decode bcX5_count 1 = .ok (.iconst 0, 1) := dk_3 (dk_at dksX5_count_0 1 rfl rfl)
theorem dX5_count_2 : decode bcX5_count 2 = .ok (.putfield 1, 3) := dk_181 0 1 (dk_at dksX5_count_0 2 rfl rfl)
theorem dX5_count_5 : decode bcX5_count 5 = .ok (.iload_n 1, 1) := dk_27 (dk_at dksX5_count_0 5 rfl rfl)
theorem dX5_count_6 : decode bcX5_count 6 = .ok (.tableswitch 148 0 12 #[66, 66, 66, 73, 80, 91, 97, 104, 115, 122, 130, 138, 143], 66) := by decide +kernel
theorem dX5_count_72 : decode bcX5_count 72 = .ok (.aload_n 0, 1) := dk_42 (dk_at dksX5_count_2 0 rfl rfl)
theorem dX5_count_73 : decode bcX5_count 73 = .ok (.getfield 83, 3) := dk_180 0 83 (dk_at dksX5_count_2 1 rfl rfl)
theorem dX5_count_76 : decode bcX5_count 76 = .ok (.iload_n 1, 1) := dk_27 (dk_at dksX5_count_2 4 rfl rfl)
theorem dX5_count_77 : decode bcX5_count 77 = .ok (.iaload, 1) := dk_46 (dk_at dksX5_count_2 5 rfl rfl)
theorem dX5_count_78 : decode bcX5_count 78 = .ok (.ireturn, 1) := dk_172 (dk_at dksX5_count_2 6 rfl rfl)
theorem dX5_count_79 : decode bcX5_count 79 = .ok (.aload_n 0, 1) := dk_42 (dk_at dksX5_count_2 7 rfl rfl)
theorem dX5_count_80 : decode bcX5_count 80 = .ok (.getfield 113, 3) := dk_180 0 113 (dk_at dksX5_count_2 8 rfl rfl)
theorem dX5_count_83 : decode bcX5_count 83 = .ok (.iconst 0, 1) := dk_3 (dk_at dksX5_count_2 11 rfl rfl)
theorem dX5_count_84 : decode bcX5_count 84 = .ok (.iaload, 1) := dk_46 (dk_at dksX5_count_2 12 rfl rfl)
theorem dX5_count_85 : decode bcX5_count 85 = .ok (.ireturn, 1) := dk_172 (dk_at dksX5_count_2 13 rfl rfl)
theorem dX5_count_86 : decode bcX5_count 86 = .ok (.aload_n 0, 1) := dk_42 (dk_at dksX5_count_2 14 rfl rfl)
theorem dX5_count_87 : decode bcX5_count 87 = .ok (.aload_n 0, 1) := dk_42 (dk_at dksX5_count_2 15 rfl rfl)
theorem dX5_count_88 : decode bcX5_count 88 = .ok (.getfield 113, 3) := dk_180 0 113 (dk_at dksX5_count_2 16 rfl rfl)
theorem dX5_count_91 : decode bcX5_count 91 = .ok (.iconst 0, 1) := dk_3 (dk_at dksX5_count_2 19 rfl rfl)
theorem dX5_count_92 : decode bcX5_count 92 = .ok (.iaload, 1) := dk_46 (dk_at dksX5_count_2 20 rfl rfl)
theorem dX5_count_93 : decode bcX5_count 93 = .ok (.invokevirtual 310, 3) := dk_182 1 54 (dk_at dksX5_count_2 21 rfl rfl)
theorem dX5_count_96 : decode bcX5_count 96 = .ok (.ireturn, 1) := dk_172 (dk_at dksX5_count_3 0 rfl rfl)
theorem dX5_count_97 : decode bcX5_count 97 = .ok (.aload_n 0, 1) := dk_42 (dk_at dksX5_count_3 1 rfl rfl)
theorem dX5_count_98 : decode bcX5_count 98 = .ok (.iconst 0, 1) := dk_3 (dk_at dksX5_count_3 2 rfl rfl)
theorem dX5_count_99 : decode bcX5_count 99 = .ok (.invokevirtual 330, 3) := dk_182 1 74 (dk_at dksX5_count_3 3 rfl rfl)
theorem dX5_count_102 : decode bcX5_count 102 = .ok (.ireturn, 1) := dk_172 (dk_at dksX5_count_3 6 rfl rfl)
theorem dX5_count_103 : decode bcX5_count 103 = .ok (.aload_n 0, 1) := dk_42 (dk_at dksX5_count_3 7 rfl rfl)
theorem dX5_count_104 : decode bcX5_count 104 = .ok (.getfield 113, 3) := dk_180 0 113 (dk_at dksX5_count_3 8 rfl rfl)
theorem dX5_count_107 : decode bcX5_count 107 = .ok (.iconst 1, 1) := dk_4 (dk_at dksX5_count_3 11 rfl rfl)
theorem dX5_count_108 : decode bcX5_count 108 = .ok (.iaload, 1) := dk_46 (dk_at dksX5_count_3 12 rfl rfl)
theorem dX5_count_109 : decode bcX5_count 109 = .ok (.ireturn, 1) := dk_172 (dk_at dksX5_count_3 13 rfl rfl)
theorem dX5_count_110 : decode bcX5_count 110 = .ok (.aload_n 0, 1) := dk_42 (dk_at dksX5_count_3 14 rfl rfl)
theorem dX5_count_111 : decode bcX5_count 111 = .ok (.bipush 10, 2) := dk_16 10 (dk_at dksX5_count_3 15 rfl rfl)
theorem dX5_count_113 : decode bcX5_count 113 = .ok (.aload_n 0, 1) := dk_42 (dk_at dksX5_count_3 17 rfl rfl)
theorem dX5_count_114 : decode bcX5_count 114 = .ok (.invokevirtual 272, 3) := dk_182 1 16 (dk_at dksX5_count_3 18 rfl rfl)
theorem dX5_count_117 : decode bcX5_count 117 = .ok (.invokevirtual 419, 3) := dk_182 1 163 (dk_at dksX5_count_3 21 rfl rfl)
theorem dX5_count_120 : decode bcX5_count 120 = .ok (.ireturn, 1) := dk_172 (dk_at dksX5_count_4 0 rfl rfl)
theorem dX5_count_121 : decode bcX5_count 121 = .ok (.aload_n 0, 1) := dk_42 (dk_at dksX5_count_4 1 rfl rfl)
theorem dX5_count_122 : decode bcX5_count 122 = .ok (.getfield 104, 3) := dk_180 0 104 (dk_at dksX5_count_4 2 rfl rfl)
theorem dX5_count_125 : decode bcX5_count 125 = .ok (.iconst 0, 1) := dk_3 (dk_at dksX5_count_4 5 rfl rfl)
theorem dX5_count_126 : decode bcX5_count 126 = .ok (.iaload, 1) := dk_46 (dk_at dksX5_count_4 6 rfl rfl)
theorem dX5_count_127 : decode bcX5_count 127 = .ok (.ireturn, 1) := dk_172 (dk_at dksX5_count_4 7 rfl rfl)
theorem dX5_count_128 : decode bcX5_count 128 = .ok (.aload_n 0, 1) := dk_42 (dk_at dksX5_count_4 8 rfl rfl)
theorem dX5_count_129 : decode bcX5_count 129 = .ok (.getfield 113, 3) := dk_180 0 113 (dk_at dksX5_count_4 9 rfl rfl)
theorem dX5_count_132 : decode bcX5_count 132 = .ok (.bipush 23, 2) := dk_16 23 (dk_at dksX5_count_4 12 rfl rfl)
theorem dX5_count_134 : decode bcX5_count 134 = .ok (.iaload, 1) := dk_46 (dk_at dksX5_count_4 14 rfl rfl)
theorem dX5_count_135 : decode bcX5_count 135 = .ok (.ireturn, 1) := dk_172 (dk_at dksX5_count_4 15 rfl rfl)
theorem dX5_count_136 : decode bcX5_count 136 = .ok (.aload_n 0, 1) := dk_42 (dk_at dksX5_count_4 16 rfl rfl)
theorem dX5_count_137 : decode bcX5_count 137 = .ok (.getfield 113, 3) := dk_180 0 113 (dk_at dksX5_count_4 17 rfl rfl)
theorem dX5_count_140 : decode bcX5_count 140 = .ok (.bipush 48, 2) := dk_16 48 (dk_at dksX5_count_4 20 rfl rfl)
theorem dX5_count_142 : decode bcX5_count 142 = .ok (.iaload, 1) := dk_46 (dk_at dksX5_count_4 22 rfl rfl)
theorem dX5_count_143 : decode bcX5_count 143 = .ok (.ireturn, 1) := dk_172 (dk_at dksX5_count_4 23 rfl rfl)
theorem dX5_count_144 : decode bcX5_count 144 = .ok (.aload_n 0, 1) := dk_42 (dk_at dksX5_count_5 0 rfl rfl)
theorem dX5_count_145 : decode bcX5_count 145 = .ok (.getfield 285, 3) := dk_180 1 29 (dk_at dksX5_count_5 1 rfl rfl)
theorem dX5_count_148 : decode bcX5_count 148 = .ok (.ireturn, 1) := dk_172 (dk_at dksX5_count_5 4 rfl rfl)
theorem dX5_count_149 : decode bcX5_count 149 = .ok (.aload_n 0, 1) := dk_42 (dk_at dksX5_count_5 5 rfl rfl)
theorem dX5_count_150 : decode bcX5_count 150 = .ok (.getfield 11, 3) := dk_180 0 11 (dk_at dksX5_count_5 6 rfl rfl)
theorem dX5_count_153 : decode bcX5_count 153 = .ok (.ireturn, 1) := dk_172 (dk_at dksX5_count_5 9 rfl rfl)
theorem dX5_count_154 : decode bcX5_count 154 = .ok (.iconst (-1), 1) := dk_2 (dk_at dksX5_count_5 10 rfl rfl)
theorem dX5_count_155 : decode bcX5_count 155 = .ok (.ireturn, 1) := dk_172 (dk_at dksX5_count_5 11 rfl rfl)
abbrev SX5_count (pc : Nat) (i : xI) : Prop := Snd "SwollenHouseModel" "count" prog_25_method_123_code 2 (Option.some Jvm.ClassFile.FieldType.int) [] pc i
theorem oX5_count_0 : SX5_count 0 (i_aload 0 1) := snd_aload_n dX5_count_0 rfl
theorem oX5_count_1 : SX5_count 1 (i_const (.int (nI 0)) 2) := snd_iconst dX5_count_1 (by decide)
theorem oX5_count_2 : SX5_count 2 (i_putfi 4 0 5) := snd_putfi dX5_count_2 rfl (by decide) in_X5 tyX5 tyX5_ok nmX5 (Or.inl ⟨rfl, q1698⟩) (Or.inl rfl) rfl
theorem oX5_count_5 : SX5_count 5 (i_iload 1 6) := snd_iload_n dX5_count_5 rfl
theorem oX5_count_6 : SX5_count 6 (i_tsw 0 [72, 72, 72, 79, 86, 97, 103, 110, 121, 128, 136, 144, 149] 154) := snd_tsw dX5_count_6 (by decide) (by decide) (by decide)
theorem oX5_count_72 : SX5_count 72 (i_aload 0 73) := snd_aload_n dX5_count_72 rfl
theorem oX5_count_73 : SX5_count 73 (i_getf 4 10 76) := snd_getf dX5_count_73 rfl (by decide) in_X5 (Or.inl q1708) (Or.inl rfl) (by decide)
theorem oX5_count_76 : SX5_count 76 (i_iload 1 77) := snd_iload_n dX5_count_76 rfl
theorem oX5_count_77 : SX5_count 77 (i_ai 0 78) := snd_ai0 dX5_count_77
theorem oX5_count_78 : SX5_count 78 (i_iret) := snd_iret dX5_count_78 rfl
theorem oX5_count_79 : SX5_count 79 (i_aload 0 80) := snd_aload_n dX5_count_79 rfl
theorem oX5_count_80 : SX5_count 80 (i_getf 4 24 83) := snd_getf dX5_count_80 rfl (by decide) in_X5 (Or.inl q1722) (Or.inl rfl) (by decide)
theorem oX5_count_83 : SX5_count 83 (i_const (.int (nI 0)) 84) := snd_iconst dX5_count_83 (by decide)
theorem oX5_count_84 : SX5_count 84 (i_ai 0 85) := snd_ai0 dX5_count_84
theorem oX5_count_85 : SX5_count 85 (i_iret) := snd_iret dX5_count_85 rfl
theorem oX5_count_86 : SX5_count 86 (i_aload 0 87) := snd_aload_n dX5_count_86 rfl
theorem oX5_count_87 : SX5_count 87 (i_aload 0 88) := snd_aload_n dX5_count_87 rfl
theorem oX5_count_88 : SX5_count 88 (i_getf 4 24 91) := snd_getf dX5_count_88 rfl (by decide) in_X5 (Or.inl q1722) (Or.inl rfl) (by decide)
theorem oX5_count_91 : SX5_count 91 (i_const (.int (nI 0)) 92) := snd_iconst dX5_count_91 (by decide)
theorem oX5_count_92 : SX5_count 92 (i_ai 0 93) := snd_ai0 dX5_count_92
theorem oX5_count_93 : SX5_count 93 (i_cv 4 297 1 96) := snd_cv rfl infX5_dampOn (by decide) rfl (xVm_V dX5_count_93 rfl q1970 q1972 qs97 q136 q1973 pdX5_dampOn)
theorem oX5_count_96 : SX5_count 96 (i_iret) := snd_iret dX5_count_96 rfl
theorem oX5_count_97 : SX5_count 97 (i_aload 0 98) := snd_aload_n dX5_count_97 rfl
theorem oX5_count_98 : SX5_count 98 (i_const (.int (nI 0)) 99) := snd_iconst dX5_count_98 (by decide)
theorem oX5_count_99 : SX5_count 99 (i_cv 4 302 1 102) := snd_cv rfl infX5_sticking (by decide) rfl (xVm_V dX5_count_99 rfl q1989 q1991 qs101 q136 q1992 pdX5_sticking)
theorem oX5_count_102 : SX5_count 102 (i_iret) := snd_iret dX5_count_102 rfl
theorem oX5_count_103 : SX5_count 103 (i_aload 0 104) := snd_aload_n dX5_count_103 rfl
theorem oX5_count_104 : SX5_count 104 (i_getf 4 24 107) := snd_getf dX5_count_104 rfl (by decide) in_X5 (Or.inl q1722) (Or.inl rfl) (by decide)
theorem oX5_count_107 : SX5_count 107 (i_const (.int (nI 1)) 108) := snd_iconst dX5_count_107 (by decide)
theorem oX5_count_108 : SX5_count 108 (i_ai 0 109) := snd_ai0 dX5_count_108
theorem oX5_count_109 : SX5_count 109 (i_iret) := snd_iret dX5_count_109 rfl
theorem oX5_count_110 : SX5_count 110 (i_aload 0 111) := snd_aload_n dX5_count_110 rfl
theorem oX5_count_111 : SX5_count 111 (i_const (.int (nI 10)) 113) := snd_bipush dX5_count_111 (by decide)
theorem oX5_count_113 : SX5_count 113 (i_aload 0 114) := snd_aload_n dX5_count_113 rfl
theorem oX5_count_114 : SX5_count 114 (i_cv 4 250 0 117) := snd_cv rfl infX5_doors (by decide) rfl (xVm_V dX5_count_114 rfl q1686 q1688 qs60 q136 q1689 pdX5_doors)
theorem oX5_count_117 : SX5_count 117 (i_cv 4 363 2 120) := snd_cv rfl infX5_sumOf (by decide) rfl (xVm_V dX5_count_117 rfl q2236 q2238 qs125 q136 q2239 pdX5_sumOf)
theorem oX5_count_120 : SX5_count 120 (i_iret) := snd_iret dX5_count_120 rfl
theorem oX5_count_121 : SX5_count 121 (i_aload 0 122) := snd_aload_n dX5_count_121 rfl
theorem oX5_count_122 : SX5_count 122 (i_getf 4 21 125) := snd_getf dX5_count_122 rfl (by decide) in_X5 (Or.inl q1719) (Or.inl rfl) (by decide)
theorem oX5_count_125 : SX5_count 125 (i_const (.int (nI 0)) 126) := snd_iconst dX5_count_125 (by decide)
theorem oX5_count_126 : SX5_count 126 (i_ai 0 127) := snd_ai0 dX5_count_126
theorem oX5_count_127 : SX5_count 127 (i_iret) := snd_iret dX5_count_127 rfl
theorem oX5_count_128 : SX5_count 128 (i_aload 0 129) := snd_aload_n dX5_count_128 rfl
theorem oX5_count_129 : SX5_count 129 (i_getf 4 24 132) := snd_getf dX5_count_129 rfl (by decide) in_X5 (Or.inl q1722) (Or.inl rfl) (by decide)
theorem oX5_count_132 : SX5_count 132 (i_const (.int (nI 23)) 134) := snd_bipush dX5_count_132 (by decide)
theorem oX5_count_134 : SX5_count 134 (i_ai 0 135) := snd_ai0 dX5_count_134
theorem oX5_count_135 : SX5_count 135 (i_iret) := snd_iret dX5_count_135 rfl
theorem oX5_count_136 : SX5_count 136 (i_aload 0 137) := snd_aload_n dX5_count_136 rfl
theorem oX5_count_137 : SX5_count 137 (i_getf 4 24 140) := snd_getf dX5_count_137 rfl (by decide) in_X5 (Or.inl q1722) (Or.inl rfl) (by decide)
theorem oX5_count_140 : SX5_count 140 (i_const (.int (nI 48)) 142) := snd_bipush dX5_count_140 (by decide)
theorem oX5_count_142 : SX5_count 142 (i_ai 0 143) := snd_ai0 dX5_count_142
theorem oX5_count_143 : SX5_count 143 (i_iret) := snd_iret dX5_count_143 rfl
theorem oX5_count_144 : SX5_count 144 (i_aload 0 145) := snd_aload_n dX5_count_144 rfl
theorem oX5_count_145 : SX5_count 145 (i_getf 4 25 148) := snd_getf dX5_count_145 rfl (by decide) in_X5 (Or.inl q1723) (Or.inl rfl) (by decide)
theorem oX5_count_148 : SX5_count 148 (i_iret) := snd_iret dX5_count_148 rfl
theorem oX5_count_149 : SX5_count 149 (i_aload 0 150) := snd_aload_n dX5_count_149 rfl
theorem oX5_count_150 : SX5_count 150 (i_getf 4 2 153) := snd_getf dX5_count_150 rfl (by decide) in_X5 (Or.inl q1700) (Or.inl rfl) (by decide)
theorem oX5_count_153 : SX5_count 153 (i_iret) := snd_iret dX5_count_153 rfl
theorem oX5_count_154 : SX5_count 154 (i_const (.int (-1)) 155) := snd_iconst dX5_count_154 (by decide)
theorem oX5_count_155 : SX5_count 155 (i_iret) := snd_iret dX5_count_155 rfl
theorem okX5_count : ∀ q ∈ cX5_count, SX5_count q.1 q.2 := List.forall_mem_cons.mpr ⟨oX5_count_0, List.forall_mem_cons.mpr ⟨oX5_count_1, List.forall_mem_cons.mpr ⟨oX5_count_2, List.forall_mem_cons.mpr ⟨oX5_count_5, List.forall_mem_cons.mpr ⟨oX5_count_6, List.forall_mem_cons.mpr ⟨oX5_count_72, List.forall_mem_cons.mpr ⟨oX5_count_73, List.forall_mem_cons.mpr ⟨oX5_count_76, List.forall_mem_cons.mpr ⟨oX5_count_77, List.forall_mem_cons.mpr ⟨oX5_count_78, List.forall_mem_cons.mpr ⟨oX5_count_79, List.forall_mem_cons.mpr ⟨oX5_count_80, List.forall_mem_cons.mpr ⟨oX5_count_83, List.forall_mem_cons.mpr ⟨oX5_count_84, List.forall_mem_cons.mpr ⟨oX5_count_85, List.forall_mem_cons.mpr ⟨oX5_count_86, List.forall_mem_cons.mpr ⟨oX5_count_87, List.forall_mem_cons.mpr ⟨oX5_count_88, List.forall_mem_cons.mpr ⟨oX5_count_91, List.forall_mem_cons.mpr ⟨oX5_count_92, List.forall_mem_cons.mpr ⟨oX5_count_93, List.forall_mem_cons.mpr ⟨oX5_count_96, List.forall_mem_cons.mpr ⟨oX5_count_97, List.forall_mem_cons.mpr ⟨oX5_count_98, List.forall_mem_cons.mpr ⟨oX5_count_99, List.forall_mem_cons.mpr ⟨oX5_count_102, List.forall_mem_cons.mpr ⟨oX5_count_103, List.forall_mem_cons.mpr ⟨oX5_count_104, List.forall_mem_cons.mpr ⟨oX5_count_107, List.forall_mem_cons.mpr ⟨oX5_count_108, List.forall_mem_cons.mpr ⟨oX5_count_109, List.forall_mem_cons.mpr ⟨oX5_count_110, List.forall_mem_cons.mpr ⟨oX5_count_111, List.forall_mem_cons.mpr ⟨oX5_count_113, List.forall_mem_cons.mpr ⟨oX5_count_114, List.forall_mem_cons.mpr ⟨oX5_count_117, List.forall_mem_cons.mpr ⟨oX5_count_120, List.forall_mem_cons.mpr ⟨oX5_count_121, List.forall_mem_cons.mpr ⟨oX5_count_122, List.forall_mem_cons.mpr ⟨oX5_count_125, List.forall_mem_cons.mpr ⟨oX5_count_126, List.forall_mem_cons.mpr ⟨oX5_count_127, List.forall_mem_cons.mpr ⟨oX5_count_128, List.forall_mem_cons.mpr ⟨oX5_count_129, List.forall_mem_cons.mpr ⟨oX5_count_132, List.forall_mem_cons.mpr ⟨oX5_count_134, List.forall_mem_cons.mpr ⟨oX5_count_135, List.forall_mem_cons.mpr ⟨oX5_count_136, List.forall_mem_cons.mpr ⟨oX5_count_137, List.forall_mem_cons.mpr ⟨oX5_count_140, List.forall_mem_cons.mpr ⟨oX5_count_142, List.forall_mem_cons.mpr ⟨oX5_count_143, List.forall_mem_cons.mpr ⟨oX5_count_144, List.forall_mem_cons.mpr ⟨oX5_count_145, List.forall_mem_cons.mpr ⟨oX5_count_148, List.forall_mem_cons.mpr ⟨oX5_count_149, List.forall_mem_cons.mpr ⟨oX5_count_150, List.forall_mem_cons.mpr ⟨oX5_count_153, List.forall_mem_cons.mpr ⟨oX5_count_154, List.forall_mem_cons.mpr ⟨oX5_count_155, fun _ h => absurd h List.not_mem_nil⟩⟩⟩⟩⟩⟩⟩⟩⟩⟩⟩⟩⟩⟩⟩⟩⟩⟩⟩⟩⟩⟩⟩⟩⟩⟩⟩⟩⟩⟩⟩⟩⟩⟩⟩⟩⟩⟩⟩⟩⟩⟩⟩⟩⟩⟩⟩⟩⟩⟩⟩⟩⟩⟩⟩⟩⟩⟩⟩⟩
