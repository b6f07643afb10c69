set_option maxRecDepth 100000
def dkwX5_mayForce_1 : List UInt8 := [172]
abbrev dktX5_mayForce_1 : List UInt8 := dkwX5_mayForce_1 ++ []
def dkwX5_mayForce_0 : List UInt8 := [42, 27, 28, 182, 1, 45, 153, 0, 17, 42, 27, 28, 182, 1, 38, 5, 163, 0, 7, 4, 167, 0, 4, 3]
abbrev dktX5_mayForce_0 : List UInt8 := dkwX5_mayForce_0 ++ dktX5_mayForce_1
theorem dksX5_mayForce_0 : bcX5_mayForce.data.toList.drop 0 = dktX5_mayForce_0 := by decide +kernel
theorem dksX5_mayForce_1 : bcX5_mayForce.data.toList.drop 24 = dktX5_mayForce_1 := dk_seg dksX5_mayForce_0 24 rfl rfl
theorem dX5_mayForce_0 : decode bcX5_mayForce 0 = .ok (.aload_n 0, 1) := dk_42 (dk_at dksX5_mayForce_0 0 rfl rfl)
theorem dX5_mayForce_1 : decode bcX5_mayForce 1 = .ok (.iload_n 1, 1) := dk_27 (dk_at dksX5_mayForce_0 1 rfl rfl)
theorem dX5_mayForce_2 : decode bcX5_mayForce 2 = .ok (.iload_n 2, 1) := dk_28 (dk_at dksX5_mayForce_0 2 rfl rfl)
theorem dX5_mayForce_3 : decode bcX5_mayForce 3 = .ok (.invokevirtual 301, 3) := dk_182 1 45 (dk_at dksX5_mayForce_0 3 rfl rfl)
theorem dX5_mayForce_6 : decode bcX5_mayForce 6 = .ok (.ifCond .eq 17, 3) := dk_153 0 17 (dk_at dksX5_mayForce_0 6 rfl rfl)
theorem dX5_mayForce_9 : decode bcX5_mayForce 9 = .ok (.aload_n 0, 1) := dk_42 (dk_at dksX5_mayForce_0 9 rfl rfl)
theorem dX5_mayForce_10 : decode bcX5_mayForce 10 = .ok (.iload_n 1, 1) := dk_27 (dk_at dksX5_mayForce_0 10 rfl rfl)
theorem dX5_mayForce_11 : decode bcX5_mayForce 11 = .ok (.iload_n 2, 1) := dk_28 (dk_at dksX5_mayForce_0 11 rfl rfl)
theorem dX5_mayForce_12 : decode bcX5_mayForce 12 = .ok (.invokevirtual 294, 3) := dk_182 1 38 (dk_at dksX5_mayForce_0 12 rfl rfl)
theorem dX5_mayForce_15 : decode bcX5_mayForce 15 = .ok (.iconst 2, 1) := dk_5 (dk_at dksX5_mayForce_0 15 rfl rfl)
theorem dX5_mayForce_16 : decode bcX5_mayForce 16 = .ok (.if_icmp .gt 7, 3) := dk_163 0 7 (dk_at dksX5_mayForce_0 16 rfl rfl)
theorem dX5_mayForce_19 : decode bcX5_mayForce 19 = .ok (.iconst 1, 1) := dk_4 (dk_at dksX5_mayForce_0 19 rfl rfl)
theorem dX5_mayForce_20 : decode bcX5_mayForce 20 = .ok (.goto 4, 3) := dk_167 0 4 (dk_at dksX5_mayForce_0 20 rfl rfl)
theorem dX5_mayForce_23 : decode bcX5_mayForce 23 = .ok (.iconst 0, 1) := dk_3 (dk_at dksX5_mayForce_0 23 rfl rfl)
theorem dX5_mayForce_24 : decode bcX5_mayForce 24 = .ok (.ireturn, 1) := dk_172 (dk_at dksX5_mayForce_1 0 rfl rfl)
abbrev SX5_mayForce (pc : Nat) (i : xI) : Prop := Snd "SwollenHouseModel" "mayForce" prog_25_method_62_code 3 (Option.some Jvm.ClassFile.FieldType.boolean) [] pc i
theorem oX5_mayForce_0 : SX5_mayForce 0 (i_aload 0 1) := snd_aload_n dX5_mayForce_0 rfl
theorem oX5_mayForce_1 : SX5_mayForce 1 (i_iload 1 2) := snd_iload_n dX5_mayForce_1 rfl
theorem oX5_mayForce_2 : SX5_mayForce 2 (i_iload 2 3) := snd_iload_n dX5_mayForce_2 rfl
theorem oX5_mayForce_3 : SX5_mayForce 3 (i_cv 4 289 2 6) := snd_cv rfl infX5_doesStick (by decide) rfl (xVm_V dX5_mayForce_3 rfl q1938 q1940 qs91 q136 q1941 pdX5_doesStick)
theorem oX5_mayForce_6 : SX5_mayForce 6 (i_if1 (fun x => x = 0) 23 9) := snd_if_eq dX5_mayForce_6 (by decide)
theorem oX5_mayForce_9 : SX5_mayForce 9 (i_aload 0 10) := snd_aload_n dX5_mayForce_9 rfl
theorem oX5_mayForce_10 : SX5_mayForce 10 (i_iload 1 11) := snd_iload_n dX5_mayForce_10 rfl
theorem oX5_mayForce_11 : SX5_mayForce 11 (i_iload 2 12) := snd_iload_n dX5_mayForce_11 rfl
theorem oX5_mayForce_12 : SX5_mayForce 12 (i_cv 4 290 2 15) := snd_cv rfl infX5_overOf (by decide) rfl (xVm_V dX5_mayForce_12 rfl q1942 q1944 qs92 q136 q1945 pdX5_overOf)
theorem oX5_mayForce_15 : SX5_mayForce 15 (i_const (.int (nI 2)) 16) := snd_iconst dX5_mayForce_15 (by decide)
theorem oX5_mayForce_16 : SX5_mayForce 16 (i_if2 (fun x y => y < x) 23 19) := snd_icmp_gt dX5_mayForce_16 (by decide)
theorem oX5_mayForce_19 : SX5_mayForce 19 (i_const (.int (nI 1)) 20) := snd_iconst dX5_mayForce_19 (by decide)
theorem oX5_mayForce_20 : SX5_mayForce 20 (i_goto 24) := snd_goto dX5_mayForce_20 (by decide)
theorem oX5_mayForce_23 : SX5_mayForce 23 (i_const (.int (nI 0)) 24) := snd_iconst dX5_mayForce_23 (by decide)
theorem oX5_mayForce_24 : SX5_mayForce 24 (i_zret) := snd_zret dX5_mayForce_24 rfl
theorem okX5_mayForce : ∀ q ∈ cX5_mayForce, SX5_mayForce q.1 q.2 := List.forall_mem_cons.mpr ⟨oX5_mayForce_0, List.forall_mem_cons.mpr ⟨oX5_mayForce_1, List.forall_mem_cons.mpr ⟨oX5_mayForce_2, List.forall_mem_cons.mpr ⟨oX5_mayForce_3, List.forall_mem_cons.mpr ⟨oX5_mayForce_6, List.forall_mem_cons.mpr ⟨oX5_mayForce_9, List.forall_mem_cons.mpr ⟨oX5_mayForce_10, List.forall_mem_cons.mpr ⟨oX5_mayForce_11, List.forall_mem_cons.mpr ⟨oX5_mayForce_12, List.forall_mem_cons.mpr ⟨oX5_mayForce_15, List.forall_mem_cons.mpr ⟨oX5_mayForce_16, List.forall_mem_cons.mpr ⟨oX5_mayForce_19, List.forall_mem_cons.mpr ⟨oX5_mayForce_20, List.forall_mem_cons.mpr ⟨oX5_mayForce_23, List.forall_mem_cons.mpr ⟨oX5_mayForce_24, fun _ h => absurd h List.not_mem_nil⟩⟩⟩⟩⟩⟩⟩⟩⟩⟩⟩⟩⟩⟩⟩
def dkwX5_undo_1 : List UInt8 := [42, 16, 65, 8, 42, 180, 1, 29, 96, 104, 3, 16, 23, 182, 1, 32, 4, 172]
abbrev dktX5_undo_1 : List UInt8 := dkwX5_undo_1 ++ []
def dkwX5_undo_0 : List UInt8 := [42, 3, 181, 0, 1, 42, 180, 1, 29, 154, 0, 5, 3, 172, 42, 89, 180, 1, 29, 4, 100, 181, 1, 29]
abbrev dktX5_undo_0 : List UInt8 := dkwX5_undo_0 ++ dktX5_undo_1
theorem dksX5_undo_0 : bcX5_undo.data.toList.drop 0 = dktX5_undo_0 := by decide +kernel
theorem dksX5_undo_1 : bcX5_undo.data.toList.drop 24 = dktX5_undo_1 := dk_seg dksX5_undo_0 24 rfl rfl
theorem dX5_undo_0 : decode bcX5_undo 0 = .ok (.aload_n 0, 1) := dk_42 (dk_at dksX5_undo_0 0 rfl rfl)
theorem dX5_undo_1 : decode bcX5_undo 1 = .ok (.iconst 0, 1) := dk_3 (dk_at dksX5_undo_0 1 rfl rfl)
theorem dX5_undo_2 : decode bcX5_undo 2 = .ok (.putfield 1, 3) := dk_181 0 1 (dk_at dksX5_undo_0 2 rfl rfl)
theorem dX5_undo_5 : decode bcX5_undo 5 = .ok (.aload_n 0, 1) := dk_42 (dk_at dksX5_undo_0 5 rfl rfl)
theorem dX5_undo_6 : decode bcX5_undo 6 = .ok (.getfield 285, 3) := dk_180 1 29 (dk_at dksX5_undo_0 6 rfl rfl)
theorem dX5_undo_9 : decode bcX5_undo 9 = .ok (.ifCond .ne 5, 3) := dk_154 0 5 (dk_at dksX5_undo_0 9 rfl rfl)
theorem dX5_undo_12 : decode bcX5_undo 12 = .ok (.iconst 0, 1) := dk_3 (dk_at dksX5_undo_0 12 rfl rfl)
theorem dX5_undo_13 : decode bcX5_undo 13 = .ok (.ireturn, 1) := dk_172 (dk_at dksX5_undo_0 13 rfl rfl)
theorem dX5_undo_14 : decode bcX5_undo 14 = .ok (.aload_n 0, 1) := dk_42 (dk_at dksX5_undo_0 14 rfl rfl)
theorem dX5_undo_15 : decode bcX5_undo 15 = .ok (.dup, 1) := dk_89 (dk_at dksX5_undo_0 15 rfl rfl)
theorem dX5_undo_16 : decode bcX5_undo 16 = .ok (.getfield 285, 3) := dk_180 1 29 (dk_at dksX5_undo_0 16 rfl rfl)
theorem dX5_undo_19 : decode bcX5_undo 19 = .ok (.iconst 1, 1) := dk_4 (dk_at dksX5_undo_0 19 rfl rfl)
theorem dX5_undo_20 : decode bcX5_undo 20 = .ok (.isub, 1) := dk_100 (dk_at dksX5_undo_0 20 rfl rfl)
theorem dX5_undo_21 : decode bcX5_undo 21 = .ok (.putfield 285, 3) := dk_181 1 29 (dk_at dksX5_undo_0 21 rfl rfl)
theorem dX5_undo_24 : decode bcX5_undo 24 = .ok (.aload_n 0, 1) := dk_42 (dk_at dksX5_undo_1 0 rfl rfl)
theorem dX5_undo_25 : decode bcX5_undo 25 = .ok (.bipush 65, 2) := dk_16 65 (dk_at dksX5_undo_1 1 rfl rfl)
theorem dX5_undo_27 : decode bcX5_undo 27 = .ok (.iconst 5, 1) := dk_8 (dk_at dksX5_undo_1 3 rfl rfl)
theorem dX5_undo_28 : decode bcX5_undo 28 = .ok (.aload_n 0, 1) := dk_42 (dk_at dksX5_undo_1 4 rfl rfl)
theorem dX5_undo_29 : decode bcX5_undo 29 = .ok (.getfield 285, 3) := dk_180 1 29 (dk_at dksX5_undo_1 5 rfl rfl)
theorem dX5_undo_32 : decode bcX5_undo 32 = .ok (.iadd, 1) := dk_96 (dk_at dksX5_undo_1 8 rfl rfl)
theorem dX5_undo_33 : decode bcX5_undo 33 = .ok (.imul, 1) := dk_104 (dk_at dksX5_undo_1 9 rfl rfl)
theorem dX5_undo_34 : decode bcX5_undo 34 = .ok (.iconst 0, 1) := dk_3 (dk_at dksX5_undo_1 10 rfl rfl)
theorem dX5_undo_35 : decode bcX5_undo 35 = .ok (.bipush 23, 2) := dk_16 23 (dk_at dksX5_undo_1 11 rfl rfl)
theorem dX5_undo_37 : decode bcX5_undo 37 = .ok (.invokevirtual 288, 3) := dk_182 1 32 (dk_at dksX5_undo_1 13 rfl rfl)
theorem dX5_undo_40 : decode bcX5_undo 40 = .ok (.iconst 1, 1) := dk_4 (dk_at dksX5_undo_1 16 rfl rfl)
theorem dX5_undo_41 : decode bcX5_undo 41 = .ok (.ireturn, 1) := dk_172 (dk_at dksX5_undo_1 17 rfl rfl)
abbrev SX5_undo (pc : Nat) (i : xI) : Prop := Snd "SwollenHouseModel" "undo" prog_25_method_74_code 1 (Option.some Jvm.ClassFile.FieldType.boolean) [] pc i
theorem oX5_undo_0 : SX5_undo 0 (i_aload 0 1) := snd_aload_n dX5_undo_0 rfl
theorem oX5_undo_1 : SX5_undo 1 (i_const (.int (nI 0)) 2) := snd_iconst dX5_undo_1 (by decide)
theorem oX5_undo_2 : SX5_undo 2 (i_putfi 4 0 5) := snd_putfi dX5_undo_2 rfl (by decide) in_X5 tyX5 tyX5_ok nmX5 (Or.inl ⟨rfl, q1698⟩) (Or.inl rfl) rfl
theorem oX5_undo_5 : SX5_undo 5 (i_aload 0 6) := snd_aload_n dX5_undo_5 rfl
theorem oX5_undo_6 : SX5_undo 6 (i_getf 4 25 9) := snd_getf dX5_undo_6 rfl (by decide) in_X5 (Or.inl q1723) (Or.inl rfl) (by decide)
theorem oX5_undo_9 : SX5_undo 9 (i_if1 (fun x => ¬ x = 0) 14 12) := snd_if_ne dX5_undo_9 (by decide)
theorem oX5_undo_12 : SX5_undo 12 (i_const (.int (nI 0)) 13) := snd_iconst dX5_undo_12 (by decide)
theorem oX5_undo_13 : SX5_undo 13 (i_zret) := snd_zret dX5_undo_13 rfl
theorem oX5_undo_14 : SX5_undo 14 (i_aload 0 15) := snd_aload_n dX5_undo_14 rfl
theorem oX5_undo_15 : SX5_undo 15 (i_dup 16) := snd_dup dX5_undo_15
theorem oX5_undo_16 : SX5_undo 16 (i_getf 4 25 19) := snd_getf dX5_undo_16 rfl (by decide) in_X5 (Or.inl q1723) (Or.inl rfl) (by decide)
theorem oX5_undo_19 : SX5_undo 19 (i_const (.int (nI 1)) 20) := snd_iconst dX5_undo_19 (by decide)
theorem oX5_undo_20 : SX5_undo 20 (i_ii (fun x y => x - y) 21) := snd_isub dX5_undo_20
theorem oX5_undo_21 : SX5_undo 21 (i_putfi 4 25 24) := snd_putfi dX5_undo_21 rfl (by decide) in_X5 tyX5 tyX5_ok nmX5 (Or.inl ⟨rfl, q1723⟩) (Or.inl rfl) rfl
theorem oX5_undo_24 : SX5_undo 24 (i_aload 0 25) := snd_aload_n dX5_undo_24 rfl
theorem oX5_undo_25 : SX5_undo 25 (i_const (.int (nI 65)) 27) := snd_bipush dX5_undo_25 (by decide)
theorem oX5_undo_27 : SX5_undo 27 (i_const (.int (nI 5)) 28) := snd_iconst dX5_undo_27 (by decide)
theorem oX5_undo_28 : SX5_undo 28 (i_aload 0 29) := snd_aload_n dX5_undo_28 rfl
theorem oX5_undo_29 : SX5_undo 29 (i_getf 4 25 32) := snd_getf dX5_undo_29 rfl (by decide) in_X5 (Or.inl q1723) (Or.inl rfl) (by decide)
theorem oX5_undo_32 : SX5_undo 32 (i_ii (fun x y => x + y) 33) := snd_iadd dX5_undo_32
theorem oX5_undo_33 : SX5_undo 33 (i_ii (fun x y => x * y) 34) := snd_imul dX5_undo_33
theorem oX5_undo_34 : SX5_undo 34 (i_const (.int (nI 0)) 35) := snd_iconst dX5_undo_34 (by decide)
theorem oX5_undo_35 : SX5_undo 35 (i_const (.int (nI 23)) 37) := snd_bipush dX5_undo_35 (by decide)
theorem oX5_undo_37 : SX5_undo 37 (i_cvv 4 295 3 40) := snd_cvv rfl infX5_copies (by decide) rfl (xVm_V dX5_undo_37 rfl q1962 q1964 qs95 q136 q1965 pdX5_copies)
theorem oX5_undo_40 : SX5_undo 40 (i_const (.int (nI 1)) 41) := snd_iconst dX5_undo_40 (by decide)
theorem oX5_undo_41 : SX5_undo 41 (i_zret) := snd_zret dX5_undo_41 rfl
theorem okX5_undo : ∀ q ∈ cX5_undo, SX5_undo q.1 q.2 := List.forall_mem_cons.mpr ⟨oX5_undo_0, List.forall_mem_cons.mpr ⟨oX5_undo_1, List.forall_mem_cons.mpr ⟨oX5_undo_2, List.forall_mem_cons.mpr ⟨oX5_undo_5, List.forall_mem_cons.mpr ⟨oX5_undo_6, List.forall_mem_cons.mpr ⟨oX5_undo_9, List.forall_mem_cons.mpr ⟨oX5_undo_12, List.forall_mem_cons.mpr ⟨oX5_undo_13, List.forall_mem_cons.mpr ⟨oX5_undo_14, List.forall_mem_cons.mpr ⟨oX5_undo_15, List.forall_mem_cons.mpr ⟨oX5_undo_16, List.forall_mem_cons.mpr ⟨oX5_undo_19, List.forall_mem_cons.mpr ⟨oX5_undo_20, List.forall_mem_cons.mpr ⟨oX5_undo_21, List.forall_mem_cons.mpr ⟨oX5_undo_24, List.forall_mem_cons.mpr ⟨oX5_undo_25, List.forall_mem_cons.mpr ⟨oX5_undo_27, List.forall_mem_cons.mpr ⟨oX5_undo_28, List.forall_mem_cons.mpr ⟨oX5_undo_29, List.forall_mem_cons.mpr ⟨oX5_undo_32, List.forall_mem_cons.mpr ⟨oX5_undo_33, List.forall_mem_cons.mpr ⟨oX5_undo_34, List.forall_mem_cons.mpr ⟨oX5_undo_35, List.forall_mem_cons.mpr ⟨oX5_undo_37, List.forall_mem_cons.mpr ⟨oX5_undo_40, List.forall_mem_cons.mpr ⟨oX5_undo_41, fun _ h => absurd h List.not_mem_nil⟩⟩⟩⟩⟩⟩⟩⟩⟩⟩⟩⟩⟩⟩⟩⟩⟩⟩⟩⟩⟩⟩⟩⟩⟩⟩
def dkwX5_judged_12 : List UInt8 := [17, 5, 85, 182, 1, 74, 184, 1, 95, 172]
abbrev dktX5_judged_12 : List UInt8 := dkwX5_judged_12 ++ []
def dkwX5_judged_11 : List UInt8 := [132, 4, 1, 167, 255, 29, 27, 154, 0, 7, 28, 167, 0, 22, 27, 4, 160, 0, 7, 29, 167, 0, 13, 42]
abbrev dktX5_judged_11 : List UInt8 := dkwX5_judged_11 ++ dktX5_judged_12
def dkwX5_judged_10 : List UInt8 := [79, 29, 156, 0, 18, 42, 17, 5, 85, 182, 1, 92, 153, 0, 8, 21, 4, 167, 0, 4, 29, 62]
abbrev dktX5_judged_10 : List UInt8 := dkwX5_judged_10 ++ dktX5_judged_11
def dkwX5_judged_9 : List UInt8 := [153, 0, 25, 42, 180, 0, 113, 17, 5, 87, 21, 6, 96, 42, 180, 0, 113, 17, 5, 95, 21, 6, 96, 46]
abbrev dktX5_judged_9 : List UInt8 := dkwX5_judged_9 ++ dktX5_judged_10
def dkwX5_judged_8 : List UInt8 := [160, 0, 21, 42, 180, 0, 113, 17, 5, 86, 92, 46, 4, 21, 6, 120, 130, 79, 167, 0, 30, 21, 8]
abbrev dktX5_judged_8 : List UInt8 := dkwX5_judged_8 ++ dktX5_judged_9
def dkwX5_judged_7 : List UInt8 := [17, 5, 87, 21, 6, 96, 92, 46, 4, 96, 79, 167, 0, 59, 21, 8, 153, 0, 27, 21, 5, 6]
abbrev dktX5_judged_7 : List UInt8 := dkwX5_judged_7 ++ dktX5_judged_8
def dkwX5_judged_6 : List UInt8 := [21, 6, 182, 1, 80, 167, 0, 88, 21, 8, 153, 0, 27, 21, 5, 5, 160, 0, 21, 42, 180, 0, 113]
abbrev dktX5_judged_6 : List UInt8 := dkwX5_judged_6 ++ dktX5_judged_7
def dkwX5_judged_5 : List UInt8 := [182, 1, 72, 167, 0, 113, 21, 8, 153, 0, 23, 21, 5, 4, 160, 0, 17, 42, 17, 5, 85, 21, 7]
abbrev dktX5_judged_5 : List UInt8 := dkwX5_judged_5 ++ dktX5_judged_6
def dkwX5_judged_4 : List UInt8 := [154, 0, 12, 28, 156, 0, 8, 21, 4, 167, 0, 4, 28, 61, 21, 5, 154, 0, 13, 42, 17, 5, 85]
abbrev dktX5_judged_4 : List UInt8 := dkwX5_judged_4 ++ dktX5_judged_5
def dkwX5_judged_3 : List UInt8 := [6, 6, 21, 4, 104, 96, 46, 54, 7, 42, 21, 5, 21, 6, 21, 7, 182, 1, 89, 54, 8, 21, 8]
abbrev dktX5_judged_3 : List UInt8 := dkwX5_judged_3 ++ dktX5_judged_4
def dkwX5_judged_2 : List UInt8 := [21, 4, 104, 96, 46, 54, 5, 42, 180, 0, 104, 5, 6, 21, 4, 104, 96, 46, 54, 6, 42, 180, 0, 104]
abbrev dktX5_judged_2 : List UInt8 := dkwX5_judged_2 ++ dktX5_judged_3
def dkwX5_judged_1 : List UInt8 := [2, 61, 2, 62, 3, 54, 4, 21, 4, 42, 180, 0, 104, 3, 46, 162, 0, 222, 42, 180, 0, 104, 4, 6]
abbrev dktX5_judged_1 : List UInt8 := dkwX5_judged_1 ++ dktX5_judged_2
def dkwX5_judged_0 : List UInt8 := [42, 3, 181, 0, 1, 27, 3, 5, 184, 0, 204, 154, 0, 6, 16, 254, 172, 42, 17, 5, 85, 182, 1, 26]
abbrev dktX5_judged_0 : List UInt8 := dkwX5_judged_0 ++ dktX5_judged_1
theorem dksX5_judged_0 : bcX5_judged.data.toList.drop 0 = dktX5_judged_0 := by decide +kernel
theorem dksX5_judged_1 : bcX5_judged.data.toList.drop 24 = dktX5_judged_1 := dk_seg dksX5_judged_0 24 rfl rfl
theorem dksX5_judged_2 : bcX5_judged.data.toList.drop 48 = dktX5_judged_2 := dk_seg dksX5_judged_1 24 rfl rfl
theorem dksX5_judged_3 : bcX5_judged.data.toList.drop 72 = dktX5_judged_3 := dk_seg dksX5_judged_2 24 rfl rfl
theorem dksX5_judged_4 : bcX5_judged.data.toList.drop 95 = dktX5_judged_4 := dk_seg dksX5_judged_3 23 rfl rfl
theorem dksX5_judged_5 : bcX5_judged.data.toList.drop 118 = dktX5_judged_5 := dk_seg dksX5_judged_4 23 rfl rfl
theorem dksX5_judged_6 : bcX5_judged.data.toList.drop 141 = dktX5_judged_6 := dk_seg dksX5_judged_5 23 rfl rfl
theorem dksX5_judged_7 : bcX5_judged.data.toList.drop 164 = dktX5_judged_7 := dk_seg dksX5_judged_6 23 rfl rfl
theorem dksX5_judged_8 : bcX5_judged.data.toList.drop 186 = dktX5_judged_8 := dk_seg dksX5_judged_7 22 rfl rfl
theorem dksX5_judged_9 : bcX5_judged.data.toList.drop 209 = dktX5_judged_9 := dk_seg dksX5_judged_8 23 rfl rfl
theorem dksX5_judged_10 : bcX5_judged.data.toList.drop 233 = dktX5_judged_10 := dk_seg dksX5_judged_9 24 rfl rfl
theorem dksX5_judged_11 : bcX5_judged.data.toList.drop 255 = dktX5_judged_11 := dk_seg dksX5_judged_10 22 rfl rfl
theorem dksX5_judged_12 : bcX5_judged.data.toList.drop 279 = dktX5_judged_12 := dk_seg dksX5_judged_11 24 rfl rfl
theorem dX5_judged_0 : decode bcX5_judged 0 = .ok (.aload_n 0, 1) := dk_42 (dk_at dksX5_judged_0 0 rfl rfl)
theorem dX5_judged_1 : decode bcX5_judged 1 = .ok (.iconst 0, 1) := dk_3 (dk_at dksX5_judged_0 1 rfl rfl)
theorem dX5_judged_2 : decode bcX5_judged 2 = .ok (.putfield 1, 3) := dk_181 0 1 (dk_at dksX5_judged_0 2 rfl rfl)
theorem dX5_judged_5 : decode bcX5_judged 5 = .ok (.iload_n 1, 1) := dk_27 (dk_at dksX5_judged_0 5 rfl rfl)
theorem dX5_judged_6 : decode bcX5_judged 6 = .ok (.iconst 0, 1) := dk_3 (dk_at dksX5_judged_0 6 rfl rfl)
theorem dX5_judged_7 : decode bcX5_judged 7 = .ok (.iconst 2, 1) := dk_5 (dk_at dksX5_judged_0 7 rfl rfl)
theorem dX5_judged_8 : decode bcX5_judged 8 = .ok (.invokestatic 204, 3) := dk_184 0 204 (dk_at dksX5_judged_0 8 rfl rfl)
theorem dX5_judged_11 : decode bcX5_judged 11 = .ok (.ifCond .ne 6, 3) := dk_154 0 6 (dk_at dksX5_judged_0 11 rfl rfl)
theorem dX5_judged_14 : decode bcX5_judged 14 = .ok (.bipush (-2), 2) := dk_16 254 (dk_at dksX5_judged_0 14 rfl rfl)
theorem dX5_judged_16 : decode bcX5_judged 16 = .ok (.ireturn, 1) := dk_172 (dk_at dksX5_judged_0 16 rfl rfl)
theorem dX5_judged_17 : decode bcX5_judged 17 = .ok (.aload_n 0, 1) := dk_42 (dk_at dksX5_judged_0 17 rfl rfl)
theorem dX5_judged_18 : decode bcX5_judged 18 = .ok (.sipush 1365, 3) := dk_17 5 85 (dk_at dksX5_judged_0 18 rfl rfl)
theorem dX5_judged_21 : decode bcX5_judged 21 = .ok (.invokevirtual 282, 3) := dk_182 1 26 (dk_at dksX5_judged_0 21 rfl rfl)
theorem dX5_judged_24 : decode bcX5_judged 24 = .ok (.iconst (-1), 1) := dk_2 (dk_at dksX5_judged_1 0 rfl rfl)
theorem dX5_judged_25 : decode bcX5_judged 25 = .ok (.istore_n 2, 1) := dk_61 (dk_at dksX5_judged_1 1 rfl rfl)
theorem dX5_judged_26 : decode bcX5_judged 26 = .ok (.iconst (-1), 1) := dk_2 (dk_at dksX5_judged_1 2 rfl rfl)
theorem dX5_judged_27 : decode bcX5_judged 27 = .ok (.istore_n 3, 1) := dk_62 (dk_at dksX5_judged_1 3 rfl rfl)
theorem dX5_judged_28 : decode bcX5_judged 28 = .ok (.iconst 0, 1) := dk_3 (dk_at dksX5_judged_1 4 rfl rfl)
theorem dX5_judged_29 : decode bcX5_judged 29 = .ok (.istore 4, 2) := dk_54 4 (dk_at dksX5_judged_1 5 rfl rfl)
theorem dX5_judged_31 : decode bcX5_judged 31 = .ok (.iload 4, 2) := dk_21 4 (dk_at dksX5_judged_1 7 rfl rfl)
theorem dX5_judged_33 : decode bcX5_judged 33 = .ok (.aload_n 0, 1) := dk_42 (dk_at dksX5_judged_1 9 rfl rfl)
theorem dX5_judged_34 : decode bcX5_judged 34 = .ok (.getfield 104, 3) := dk_180 0 104 (dk_at dksX5_judged_1 10 rfl rfl)
theorem dX5_judged_37 : decode bcX5_judged 37 = .ok (.iconst 0, 1) := dk_3 (dk_at dksX5_judged_1 13 rfl rfl)
theorem dX5_judged_38 : decode bcX5_judged 38 = .ok (.iaload, 1) := dk_46 (dk_at dksX5_judged_1 14 rfl rfl)
theorem dX5_judged_39 : decode bcX5_judged 39 = .ok (.if_icmp .ge 222, 3) := dk_162 0 222 (dk_at dksX5_judged_1 15 rfl rfl)
theorem dX5_judged_42 : decode bcX5_judged 42 = .ok (.aload_n 0, 1) := dk_42 (dk_at dksX5_judged_1 18 rfl rfl)
theorem dX5_judged_43 : decode bcX5_judged 43 = .ok (.getfield 104, 3) := dk_180 0 104 (dk_at dksX5_judged_1 19 rfl rfl)
theorem dX5_judged_46 : decode bcX5_judged 46 = .ok (.iconst 1, 1) := dk_4 (dk_at dksX5_judged_1 22 rfl rfl)
theorem dX5_judged_47 : decode bcX5_judged 47 = .ok (.iconst 3, 1) := dk_6 (dk_at dksX5_judged_1 23 rfl rfl)
theorem dX5_judged_48 : decode bcX5_judged 48 = .ok (.iload 4, 2) := dk_21 4 (dk_at dksX5_judged_2 0 rfl rfl)
theorem dX5_judged_50 : decode bcX5_judged 50 = .ok (.imul, 1) := dk_104 (dk_at dksX5_judged_2 2 rfl rfl)
theorem dX5_judged_51 : decode bcX5_judged 51 = .ok (.iadd, 1) := dk_96 (dk_at dksX5_judged_2 3 rfl rfl)
theorem dX5_judged_52 : decode bcX5_judged 52 = .ok (.iaload, 1) := dk_46 (dk_at dksX5_judged_2 4 rfl rfl)
theorem dX5_judged_53 : decode bcX5_judged 53 = .ok (.istore 5, 2) := dk_54 5 (dk_at dksX5_judged_2 5 rfl rfl)
theorem dX5_judged_55 : decode bcX5_judged 55 = .ok (.aload_n 0, 1) := dk_42 (dk_at dksX5_judged_2 7 rfl rfl)
theorem dX5_judged_56 : decode bcX5_judged 56 = .ok (.getfield 104, 3) := dk_180 0 104 (dk_at dksX5_judged_2 8 rfl rfl)
theorem dX5_judged_59 : decode bcX5_judged 59 = .ok (.iconst 2, 1) := dk_5 (dk_at dksX5_judged_2 11 rfl rfl)
theorem dX5_judged_60 : decode bcX5_judged 60 = .ok (.iconst 3, 1) := dk_6 (dk_at dksX5_judged_2 12 rfl rfl)
theorem dX5_judged_61 : decode bcX5_judged 61 = .ok (.iload 4, 2) := dk_21 4 (dk_at dksX5_judged_2 13 rfl rfl)
theorem dX5_judged_63 : decode bcX5_judged 63 = .ok (.imul, 1) := dk_104 (dk_at dksX5_judged_2 15 rfl rfl)
theorem dX5_judged_64 : decode bcX5_judged 64 = .ok (.iadd, 1) := dk_96 (dk_at dksX5_judged_2 16 rfl rfl)
theorem dX5_judged_65 : decode bcX5_judged 65 = .ok (.iaload, 1) := dk_46 (dk_at dksX5_judged_2 17 rfl rfl)
theorem dX5_judged_66 : decode bcX5_judged 66 = .ok (.istore 6, 2) := dk_54 6 (dk_at dksX5_judged_2 18 rfl rfl)
theorem dX5_judged_68 : decode bcX5_judged 68 = .ok (.aload_n 0, 1) := dk_42 (dk_at dksX5_judged_2 20 rfl rfl)
theorem dX5_judged_69 : decode bcX5_judged 69 = .ok (.getfield 104, 3) := dk_180 0 104 (dk_at dksX5_judged_2 21 rfl rfl)
theorem dX5_judged_72 : decode bcX5_judged 72 = .ok (.iconst 3, 1) := dk_6 (dk_at dksX5_judged_3 0 rfl rfl)
theorem dX5_judged_73 : decode bcX5_judged 73 = .ok (.iconst 3, 1) := dk_6 (dk_at dksX5_judged_3 1 rfl rfl)
theorem dX5_judged_74 : decode bcX5_judged 74 = .ok (.iload 4, 2) := dk_21 4 (dk_at dksX5_judged_3 2 rfl rfl)
theorem dX5_judged_76 : decode bcX5_judged 76 = .ok (.imul, 1) := dk_104 (dk_at dksX5_judged_3 4 rfl rfl)
theorem dX5_judged_77 : decode bcX5_judged 77 = .ok (.iadd, 1) := dk_96 (dk_at dksX5_judged_3 5 rfl rfl)
theorem dX5_judged_78 : decode bcX5_judged 78 = .ok (.iaload, 1) := dk_46 (dk_at dksX5_judged_3 6 rfl rfl)
theorem dX5_judged_79 : decode bcX5_judged 79 = .ok (.istore 7, 2) := dk_54 7 (dk_at dksX5_judged_3 7 rfl rfl)
theorem dX5_judged_81 : decode bcX5_judged 81 = .ok (.aload_n 0, 1) := dk_42 (dk_at dksX5_judged_3 9 rfl rfl)
theorem dX5_judged_82 : decode bcX5_judged 82 = .ok (.iload 5, 2) := dk_21 5 (dk_at dksX5_judged_3 10 rfl rfl)
theorem dX5_judged_84 : decode bcX5_judged 84 = .ok (.iload 6, 2) := dk_21 6 (dk_at dksX5_judged_3 12 rfl rfl)
theorem dX5_judged_86 : decode bcX5_judged 86 = .ok (.iload 7, 2) := dk_21 7 (dk_at dksX5_judged_3 14 rfl rfl)
theorem dX5_judged_88 : decode bcX5_judged 88 = .ok (.invokevirtual 345, 3) := dk_182 1 89 (dk_at dksX5_judged_3 16 rfl rfl)
theorem dX5_judged_91 : decode bcX5_judged 91 = .ok (.istore 8, 2) := dk_54 8 (dk_at dksX5_judged_3 19 rfl rfl)
theorem dX5_judged_93 : decode bcX5_judged 93 = .ok (.iload 8, 2) := dk_21 8 (dk_at dksX5_judged_3 21 rfl rfl)
theorem dX5_judged_95 : decode bcX5_judged 95 = .ok (.ifCond .ne 12, 3) := dk_154 0 12 (dk_at dksX5_judged_4 0 rfl rfl)
theorem dX5_judged_98 : decode bcX5_judged 98 = .ok (.iload_n 2, 1) := dk_28 (dk_at dksX5_judged_4 3 rfl rfl)
theorem dX5_judged_99 : decode bcX5_judged 99 = .ok (.ifCond .ge 8, 3) := dk_156 0 8 (dk_at dksX5_judged_4 4 rfl rfl)
theorem dX5_judged_102 : decode bcX5_judged 102 = .ok (.iload 4, 2) := dk_21 4 (dk_at dksX5_judged_4 7 rfl rfl)
theorem dX5_judged_104 : decode bcX5_judged 104 = .ok (.goto 4, 3) := dk_167 0 4 (dk_at dksX5_judged_4 9 rfl rfl)
theorem dX5_judged_107 : decode bcX5_judged 107 = .ok (.iload_n 2, 1) := dk_28 (dk_at dksX5_judged_4 12 rfl rfl)
theorem dX5_judged_108 : decode bcX5_judged 108 = .ok (.istore_n 2, 1) := dk_61 (dk_at dksX5_judged_4 13 rfl rfl)
theorem dX5_judged_109 : decode bcX5_judged 109 = .ok (.iload 5, 2) := dk_21 5 (dk_at dksX5_judged_4 14 rfl rfl)
theorem dX5_judged_111 : decode bcX5_judged 111 = .ok (.ifCond .ne 13, 3) := dk_154 0 13 (dk_at dksX5_judged_4 16 rfl rfl)
theorem dX5_judged_114 : decode bcX5_judged 114 = .ok (.aload_n 0, 1) := dk_42 (dk_at dksX5_judged_4 19 rfl rfl)
theorem dX5_judged_115 : decode bcX5_judged 115 = .ok (.sipush 1365, 3) := dk_17 5 85 (dk_at dksX5_judged_4 20 rfl rfl)
theorem dX5_judged_118 : decode bcX5_judged 118 = .ok (.invokevirtual 328, 3) := dk_182 1 72 (dk_at dksX5_judged_5 0 rfl rfl)
theorem dX5_judged_121 : decode bcX5_judged 121 = .ok (.goto 113, 3) := dk_167 0 113 (dk_at dksX5_judged_5 3 rfl rfl)
theorem dX5_judged_124 : decode bcX5_judged 124 = .ok (.iload 8, 2) := dk_21 8 (dk_at dksX5_judged_5 6 rfl rfl)
theorem dX5_judged_126 : decode bcX5_judged 126 = .ok (.ifCond .eq 23, 3) := dk_153 0 23 (dk_at dksX5_judged_5 8 rfl rfl)
theorem dX5_judged_129 : decode bcX5_judged 129 = .ok (.iload 5, 2) := dk_21 5 (dk_at dksX5_judged_5 11 rfl rfl)
theorem dX5_judged_131 : decode bcX5_judged 131 = .ok (.iconst 1, 1) := dk_4 (dk_at dksX5_judged_5 13 rfl rfl)
theorem dX5_judged_132 : decode bcX5_judged 132 = .ok (.if_icmp .ne 17, 3) := dk_160 0 17 (dk_at dksX5_judged_5 14 rfl rfl)
theorem dX5_judged_135 : decode bcX5_judged 135 = .ok (.aload_n 0, 1) := dk_42 (dk_at dksX5_judged_5 17 rfl rfl)
theorem dX5_judged_136 : decode bcX5_judged 136 = .ok (.sipush 1365, 3) := dk_17 5 85 (dk_at dksX5_judged_5 18 rfl rfl)
theorem dX5_judged_139 : decode bcX5_judged 139 = .ok (.iload 7, 2) := dk_21 7 (dk_at dksX5_judged_5 21 rfl rfl)
theorem dX5_judged_141 : decode bcX5_judged 141 = .ok (.iload 6, 2) := dk_21 6 (dk_at dksX5_judged_6 0 rfl rfl)
theorem dX5_judged_143 : decode bcX5_judged 143 = .ok (.invokevirtual 336, 3) := dk_182 1 80 (dk_at dksX5_judged_6 2 rfl rfl)
theorem dX5_judged_146 : decode bcX5_judged 146 = .ok (.goto 88, 3) := dk_167 0 88 (dk_at dksX5_judged_6 5 rfl rfl)
theorem dX5_judged_149 : decode bcX5_judged 149 = .ok (.iload 8, 2) := dk_21 8 (dk_at dksX5_judged_6 8 rfl rfl)
theorem dX5_judged_151 : decode bcX5_judged 151 = .ok (.ifCond .eq 27, 3) := dk_153 0 27 (dk_at dksX5_judged_6 10 rfl rfl)
theorem dX5_judged_154 : decode bcX5_judged 154 = .ok (.iload 5, 2) := dk_21 5 (dk_at dksX5_judged_6 13 rfl rfl)
theorem dX5_judged_156 : decode bcX5_judged 156 = .ok (.iconst 2, 1) := dk_5 (dk_at dksX5_judged_6 15 rfl rfl)
theorem dX5_judged_157 : decode bcX5_judged 157 = .ok (.if_icmp .ne 21, 3) := dk_160 0 21 (dk_at dksX5_judged_6 16 rfl rfl)
theorem dX5_judged_160 : decode bcX5_judged 160 = .ok (.aload_n 0, 1) := dk_42 (dk_at dksX5_judged_6 19 rfl rfl)
theorem dX5_judged_161 : decode bcX5_judged 161 = .ok (.getfield 113, 3) := dk_180 0 113 (dk_at dksX5_judged_6 20 rfl rfl)
theorem dX5_judged_164 : decode bcX5_judged 164 = .ok (.sipush 1367, 3) := dk_17 5 87 (dk_at dksX5_judged_7 0 rfl rfl)
theorem dX5_judged_167 : decode bcX5_judged 167 = .ok (.iload 6, 2) := dk_21 6 (dk_at dksX5_judged_7 3 rfl rfl)
theorem dX5_judged_169 : decode bcX5_judged 169 = .ok (.iadd, 1) := dk_96 (dk_at dksX5_judged_7 5 rfl rfl)
theorem dX5_judged_170 : decode bcX5_judged 170 = .ok (.dup2, 1) := dk_92 (dk_at dksX5_judged_7 6 rfl rfl)
theorem dX5_judged_171 : decode bcX5_judged 171 = .ok (.iaload, 1) := dk_46 (dk_at dksX5_judged_7 7 rfl rfl)
theorem dX5_judged_172 : decode bcX5_judged 172 = .ok (.iconst 1, 1) := dk_4 (dk_at dksX5_judged_7 8 rfl rfl)
theorem dX5_judged_173 : decode bcX5_judged 173 = .ok (.iadd, 1) := dk_96 (dk_at dksX5_judged_7 9 rfl rfl)
theorem dX5_judged_174 : decode bcX5_judged 174 = .ok (.iastore, 1) := dk_79 (dk_at dksX5_judged_7 10 rfl rfl)
theorem dX5_judged_175 : decode bcX5_judged 175 = .ok (.goto 59, 3) := dk_167 0 59 (dk_at dksX5_judged_7 11 rfl rfl)
theorem dX5_judged_178 : decode bcX5_judged 178 = .ok (.iload 8, 2) := dk_21 8 (dk_at dksX5_judged_7 14 rfl rfl)
theorem dX5_judged_180 : decode bcX5_judged 180 = .ok (.ifCond .eq 27, 3) := dk_153 0 27 (dk_at dksX5_judged_7 16 rfl rfl)
theorem dX5_judged_183 : decode bcX5_judged 183 = .ok (.iload 5, 2) := dk_21 5 (dk_at dksX5_judged_7 19 rfl rfl)
theorem dX5_judged_185 : decode bcX5_judged 185 = .ok (.iconst 3, 1) := dk_6 (dk_at dksX5_judged_7 21 rfl rfl)
theorem dX5_judged_186 : decode bcX5_judged 186 = .ok (.if_icmp .ne 21, 3) := dk_160 0 21 (dk_at dksX5_judged_8 0 rfl rfl)
theorem dX5_judged_189 : decode bcX5_judged 189 = .ok (.aload_n 0, 1) := dk_42 (dk_at dksX5_judged_8 3 rfl rfl)
theorem dX5_judged_190 : decode bcX5_judged 190 = .ok (.getfield 113, 3) := dk_180 0 113 (dk_at dksX5_judged_8 4 rfl rfl)
theorem dX5_judged_193 : decode bcX5_judged 193 = .ok (.sipush 1366, 3) := dk_17 5 86 (dk_at dksX5_judged_8 7 rfl rfl)
theorem dX5_judged_196 : decode bcX5_judged 196 = .ok (.dup2, 1) := dk_92 (dk_at dksX5_judged_8 10 rfl rfl)
theorem dX5_judged_197 : decode bcX5_judged 197 = .ok (.iaload, 1) := dk_46 (dk_at dksX5_judged_8 11 rfl rfl)
theorem dX5_judged_198 : decode bcX5_judged 198 = .ok (.iconst 1, 1) := dk_4 (dk_at dksX5_judged_8 12 rfl rfl)
theorem dX5_judged_199 : decode bcX5_judged 199 = .ok (.iload 6, 2) := dk_21 6 (dk_at dksX5_judged_8 13 rfl rfl)
theorem dX5_judged_201 : decode bcX5_judged 201 = .ok (.ishl, 1) := dk_120 (dk_at dksX5_judged_8 15 rfl rfl)
theorem dX5_judged_202 : decode bcX5_judged 202 = .ok (.ixor, 1) := dk_130 (dk_at dksX5_judged_8 16 rfl rfl)
theorem dX5_judged_203 : decode bcX5_judged 203 = .ok (.iastore, 1) := dk_79 (dk_at dksX5_judged_8 17 rfl rfl)
theorem dX5_judged_204 : decode bcX5_judged 204 = .ok (.goto 30, 3) := dk_167 0 30 (dk_at dksX5_judged_8 18 rfl rfl)
theorem dX5_judged_207 : decode bcX5_judged 207 = .ok (.iload 8, 2) := dk_21 8 (dk_at dksX5_judged_8 21 rfl rfl)
theorem dX5_judged_209 : decode bcX5_judged 209 = .ok (.ifCond .eq 25, 3) := dk_153 0 25 (dk_at dksX5_judged_9 0 rfl rfl)
theorem dX5_judged_212 : decode bcX5_judged 212 = .ok (.aload_n 0, 1) := dk_42 (dk_at dksX5_judged_9 3 rfl rfl)
theorem dX5_judged_213 : decode bcX5_judged 213 = .ok (.getfield 113, 3) := dk_180 0 113 (dk_at dksX5_judged_9 4 rfl rfl)
theorem dX5_judged_216 : decode bcX5_judged 216 = .ok (.sipush 1367, 3) := dk_17 5 87 (dk_at dksX5_judged_9 7 rfl rfl)
theorem dX5_judged_219 : decode bcX5_judged 219 = .ok (.iload 6, 2) := dk_21 6 (dk_at dksX5_judged_9 10 rfl rfl)
theorem dX5_judged_221 : decode bcX5_judged 221 = .ok (.iadd, 1) := dk_96 (dk_at dksX5_judged_9 12 rfl rfl)
theorem dX5_judged_222 : decode bcX5_judged 222 = .ok (.aload_n 0, 1) := dk_42 (dk_at dksX5_judged_9 13 rfl rfl)
theorem dX5_judged_223 : decode bcX5_judged 223 = .ok (.getfield 113, 3) := dk_180 0 113 (dk_at dksX5_judged_9 14 rfl rfl)
theorem dX5_judged_226 : decode bcX5_judged 226 = .ok (.sipush 1375, 3) := dk_17 5 95 (dk_at dksX5_judged_9 17 rfl rfl)
theorem dX5_judged_229 : decode bcX5_judged 229 = .ok (.iload 6, 2) := dk_21 6 (dk_at dksX5_judged_9 20 rfl rfl)
theorem dX5_judged_231 : decode bcX5_judged 231 = .ok (.iadd, 1) := dk_96 (dk_at dksX5_judged_9 22 rfl rfl)
theorem dX5_judged_232 : decode bcX5_judged 232 = .ok (.iaload, 1) := dk_46 (dk_at dksX5_judged_9 23 rfl rfl)
theorem dX5_judged_233 : decode bcX5_judged 233 = .ok (.iastore, 1) := dk_79 (dk_at dksX5_judged_10 0 rfl rfl)
theorem dX5_judged_234 : decode bcX5_judged 234 = .ok (.iload_n 3, 1) := dk_29 (dk_at dksX5_judged_10 1 rfl rfl)
theorem dX5_judged_235 : decode bcX5_judged 235 = .ok (.ifCond .ge 18, 3) := dk_156 0 18 (dk_at dksX5_judged_10 2 rfl rfl)
theorem dX5_judged_238 : decode bcX5_judged 238 = .ok (.aload_n 0, 1) := dk_42 (dk_at dksX5_judged_10 5 rfl rfl)
theorem dX5_judged_239 : decode bcX5_judged 239 = .ok (.sipush 1365, 3) := dk_17 5 85 (dk_at dksX5_judged_10 6 rfl rfl)
theorem dX5_judged_242 : decode bcX5_judged 242 = .ok (.invokevirtual 348, 3) := dk_182 1 92 (dk_at dksX5_judged_10 9 rfl rfl)
theorem dX5_judged_245 : decode bcX5_judged 245 = .ok (.ifCond .eq 8, 3) := dk_153 0 8 (dk_at dksX5_judged_10 12 rfl rfl)
theorem dX5_judged_248 : decode bcX5_judged 248 = .ok (.iload 4, 2) := dk_21 4 (dk_at dksX5_judged_10 15 rfl rfl)
theorem dX5_judged_250 : decode bcX5_judged 250 = .ok (.goto 4, 3) := dk_167 0 4 (dk_at dksX5_judged_10 17 rfl rfl)
theorem dX5_judged_253 : decode bcX5_judged 253 = .ok (.iload_n 3, 1) := dk_29 (dk_at dksX5_judged_10 20 rfl rfl)
theorem dX5_judged_254 : decode bcX5_judged 254 = .ok (.istore_n 3, 1) := dk_62 (dk_at dksX5_judged_10 21 rfl rfl)
theorem dX5_judged_255 : decode bcX5_judged 255 = .ok (.iinc 4 1, 3) := dk_132 4 1 (dk_at dksX5_judged_11 0 rfl rfl)
theorem dX5_judged_258 : decode bcX5_judged 258 = .ok (.goto (-227), 3) := dk_167 255 29 (dk_at dksX5_judged_11 3 rfl rfl)
theorem dX5_judged_261 : decode bcX5_judged 261 = .ok (.iload_n 1, 1) := dk_27 (dk_at dksX5_judged_11 6 rfl rfl)
theorem dX5_judged_262 : decode bcX5_judged 262 = .ok (.ifCond .ne 7, 3) := dk_154 0 7 (dk_at dksX5_judged_11 7 rfl rfl)
theorem dX5_judged_265 : decode bcX5_judged 265 = .ok (.iload_n 2, 1) := dk_28 (dk_at dksX5_judged_11 10 rfl rfl)
theorem dX5_judged_266 : decode bcX5_judged 266 = .ok (.goto 22, 3) := dk_167 0 22 (dk_at dksX5_judged_11 11 rfl rfl)
theorem dX5_judged_269 : decode bcX5_judged 269 = .ok (.iload_n 1, 1) := dk_27 (dk_at dksX5_judged_11 14 rfl rfl)
theorem dX5_judged_270 : decode bcX5_judged 270 = .ok (.iconst 1, 1) := dk_4 (dk_at dksX5_judged_11 15 rfl rfl)
theorem dX5_judged_271 : decode bcX5_judged 271 = .ok (.if_icmp .ne 7, 3) := dk_160 0 7 (dk_at dksX5_judged_11 16 rfl rfl)
theorem dX5_judged_274 : decode bcX5_judged 274 = .ok (.iload_n 3, 1) := dk_29 (dk_at dksX5_judged_11 19 rfl rfl)
theorem dX5_judged_275 : decode bcX5_judged 275 = .ok (.goto 13, 3) := dk_167 0 13 (dk_at dksX5_judged_11 20 rfl rfl)
theorem dX5_judged_278 : decode bcX5_judged 278 = .ok (.aload_n 0, 1) := dk_42 (dk_at dksX5_judged_11 23 rfl rfl)
theorem dX5_judged_279 : decode bcX5_judged 279 = .ok (.sipush 1365, 3) := dk_17 5 85 (dk_at dksX5_judged_12 0 rfl rfl)
theorem dX5_judged_282 : decode bcX5_judged 282 = .ok (.invokevirtual 330, 3) := dk_182 1 74 (dk_at dksX5_judged_12 3 rfl rfl)
theorem dX5_judged_285 : decode bcX5_judged 285 = .ok (.invokestatic 351, 3) := dk_184 1 95 (dk_at dksX5_judged_12 6 rfl rfl)
theorem dX5_judged_288 : decode bcX5_judged 288 = .ok (.ireturn, 1) := dk_172 (dk_at dksX5_judged_12 9 rfl rfl)
abbrev SX5_judged (pc : Nat) (i : xI) : Prop := Snd "SwollenHouseModel" "judged" prog_25_method_76_code 9 (Option.some Jvm.ClassFile.FieldType.int) [] pc i
theorem oX5_judged_0 : SX5_judged 0 (i_aload 0 1) := snd_aload_n dX5_judged_0 rfl
theorem oX5_judged_1 : SX5_judged 1 (i_const (.int (nI 0)) 2) := snd_iconst dX5_judged_1 (by decide)
theorem oX5_judged_2 : SX5_judged 2 (i_putfi 4 0 5) := snd_putfi dX5_judged_2 rfl (by decide) in_X5 tyX5 tyX5_ok nmX5 (Or.inl ⟨rfl, q1698⟩) (Or.inl rfl) rfl
theorem oX5_judged_5 : SX5_judged 5 (i_iload 1 6) := snd_iload_n dX5_judged_5 rfl
theorem oX5_judged_6 : SX5_judged 6 (i_const (.int (nI 0)) 7) := snd_iconst dX5_judged_6 (by decide)
theorem oX5_judged_7 : SX5_judged 7 (i_const (.int (nI 2)) 8) := snd_iconst dX5_judged_7 (by decide)
theorem oX5_judged_8 : SX5_judged 8 (i_cs 268 3 11) := snd_cs rfl infX5_within (by decide) (xSm_S dX5_judged_8 q1855 q1856 q136 q1857 pdX5_within)
theorem oX5_judged_11 : SX5_judged 11 (i_if1 (fun x => ¬ x = 0) 17 14) := snd_if_ne dX5_judged_11 (by decide)
theorem oX5_judged_14 : SX5_judged 14 (i_const (.int (-2)) 16) := snd_bipush dX5_judged_14 (by decide)
theorem oX5_judged_16 : SX5_judged 16 (i_iret) := snd_iret dX5_judged_16 rfl
theorem oX5_judged_17 : SX5_judged 17 (i_aload 0 18) := snd_aload_n dX5_judged_17 rfl
theorem oX5_judged_18 : SX5_judged 18 (i_const (.int (nI 1365)) 21) := snd_sipush dX5_judged_18 (by decide)
theorem oX5_judged_21 : SX5_judged 21 (i_cvv 4 249 1 24) := snd_cvv rfl infX5_starts (by decide) rfl (xVm_V dX5_judged_21 rfl q1682 q1684 qs59 q136 q1685 pdX5_starts)
theorem oX5_judged_24 : SX5_judged 24 (i_const (.int (-1)) 25) := snd_iconst dX5_judged_24 (by decide)
theorem oX5_judged_25 : SX5_judged 25 (i_istore 2 26) := snd_istore_n dX5_judged_25 rfl (by decide)
theorem oX5_judged_26 : SX5_judged 26 (i_const (.int (-1)) 27) := snd_iconst dX5_judged_26 (by decide)
theorem oX5_judged_27 : SX5_judged 27 (i_istore 3 28) := snd_istore_n dX5_judged_27 rfl (by decide)
theorem oX5_judged_28 : SX5_judged 28 (i_const (.int (nI 0)) 29) := snd_iconst dX5_judged_28 (by decide)
theorem oX5_judged_29 : SX5_judged 29 (i_istore 4 31) := snd_istore dX5_judged_29 (by decide)
theorem oX5_judged_31 : SX5_judged 31 (i_iload 4 33) := snd_iload dX5_judged_31
theorem oX5_judged_33 : SX5_judged 33 (i_aload 0 34) := snd_aload_n dX5_judged_33 rfl
theorem oX5_judged_34 : SX5_judged 34 (i_getf 4 21 37) := snd_getf dX5_judged_34 rfl (by decide) in_X5 (Or.inl q1719) (Or.inl rfl) (by decide)
theorem oX5_judged_37 : SX5_judged 37 (i_const (.int (nI 0)) 38) := snd_iconst dX5_judged_37 (by decide)
theorem oX5_judged_38 : SX5_judged 38 (i_ai 0 39) := snd_ai0 dX5_judged_38
theorem oX5_judged_39 : SX5_judged 39 (i_if2 (fun x y => y ≤ x) 261 42) := snd_icmp_ge dX5_judged_39 (by decide)
theorem oX5_judged_42 : SX5_judged 42 (i_aload 0 43) := snd_aload_n dX5_judged_42 rfl
theorem oX5_judged_43 : SX5_judged 43 (i_getf 4 21 46) := snd_getf dX5_judged_43 rfl (by decide) in_X5 (Or.inl q1719) (Or.inl rfl) (by decide)
theorem oX5_judged_46 : SX5_judged 46 (i_const (.int (nI 1)) 47) := snd_iconst dX5_judged_46 (by decide)
theorem oX5_judged_47 : SX5_judged 47 (i_const (.int (nI 3)) 48) := snd_iconst dX5_judged_47 (by decide)
theorem oX5_judged_48 : SX5_judged 48 (i_iload 4 50) := snd_iload dX5_judged_48
theorem oX5_judged_50 : SX5_judged 50 (i_ii (fun x y => x * y) 51) := snd_imul dX5_judged_50
theorem oX5_judged_51 : SX5_judged 51 (i_ii (fun x y => x + y) 52) := snd_iadd dX5_judged_51
theorem oX5_judged_52 : SX5_judged 52 (i_ai 0 53) := snd_ai0 dX5_judged_52
theorem oX5_judged_53 : SX5_judged 53 (i_istore 5 55) := snd_istore dX5_judged_53 (by decide)
theorem oX5_judged_55 : SX5_judged 55 (i_aload 0 56) := snd_aload_n dX5_judged_55 rfl
theorem oX5_judged_56 : SX5_judged 56 (i_getf 4 21 59) := snd_getf dX5_judged_56 rfl (by decide) in_X5 (Or.inl q1719) (Or.inl rfl) (by decide)
theorem oX5_judged_59 : SX5_judged 59 (i_const (.int (nI 2)) 60) := snd_iconst dX5_judged_59 (by decide)
theorem oX5_judged_60 : SX5_judged 60 (i_const (.int (nI 3)) 61) := snd_iconst dX5_judged_60 (by decide)
theorem oX5_judged_61 : SX5_judged 61 (i_iload 4 63) := snd_iload dX5_judged_61
theorem oX5_judged_63 : SX5_judged 63 (i_ii (fun x y => x * y) 64) := snd_imul dX5_judged_63
theorem oX5_judged_64 : SX5_judged 64 (i_ii (fun x y => x + y) 65) := snd_iadd dX5_judged_64
theorem oX5_judged_65 : SX5_judged 65 (i_ai 0 66) := snd_ai0 dX5_judged_65
theorem oX5_judged_66 : SX5_judged 66 (i_istore 6 68) := snd_istore dX5_judged_66 (by decide)
theorem oX5_judged_68 : SX5_judged 68 (i_aload 0 69) := snd_aload_n dX5_judged_68 rfl
theorem oX5_judged_69 : SX5_judged 69 (i_getf 4 21 72) := snd_getf dX5_judged_69 rfl (by decide) in_X5 (Or.inl q1719) (Or.inl rfl) (by decide)
theorem oX5_judged_72 : SX5_judged 72 (i_const (.int (nI 3)) 73) := snd_iconst dX5_judged_72 (by decide)
theorem oX5_judged_73 : SX5_judged 73 (i_const (.int (nI 3)) 74) := snd_iconst dX5_judged_73 (by decide)
theorem oX5_judged_74 : SX5_judged 74 (i_iload 4 76) := snd_iload dX5_judged_74
theorem oX5_judged_76 : SX5_judged 76 (i_ii (fun x y => x * y) 77) := snd_imul dX5_judged_76
theorem oX5_judged_77 : SX5_judged 77 (i_ii (fun x y => x + y) 78) := snd_iadd dX5_judged_77
theorem oX5_judged_78 : SX5_judged 78 (i_ai 0 79) := snd_ai0 dX5_judged_78
theorem oX5_judged_79 : SX5_judged 79 (i_istore 7 81) := snd_istore dX5_judged_79 (by decide)
theorem oX5_judged_81 : SX5_judged 81 (i_aload 0 82) := snd_aload_n dX5_judged_81 rfl
theorem oX5_judged_82 : SX5_judged 82 (i_iload 5 84) := snd_iload dX5_judged_82
theorem oX5_judged_84 : SX5_judged 84 (i_iload 6 86) := snd_iload dX5_judged_84
theorem oX5_judged_86 : SX5_judged 86 (i_iload 7 88) := snd_iload dX5_judged_86
theorem oX5_judged_88 : SX5_judged 88 (i_cv 4 314 3 91) := snd_cv rfl infX5_can (by decide) rfl (xVm_V dX5_judged_88 rfl q2037 q2039 qs107 q136 q2040 pdX5_can)
theorem oX5_judged_91 : SX5_judged 91 (i_istore 8 93) := snd_istore dX5_judged_91 (by decide)
theorem oX5_judged_93 : SX5_judged 93 (i_iload 8 95) := snd_iload dX5_judged_93
theorem oX5_judged_95 : SX5_judged 95 (i_if1 (fun x => ¬ x = 0) 107 98) := snd_if_ne dX5_judged_95 (by decide)
theorem oX5_judged_98 : SX5_judged 98 (i_iload 2 99) := snd_iload_n dX5_judged_98 rfl
theorem oX5_judged_99 : SX5_judged 99 (i_if1 (fun x => 0 ≤ x) 107 102) := snd_if_ge dX5_judged_99 (by decide)
theorem oX5_judged_102 : SX5_judged 102 (i_iload 4 104) := snd_iload dX5_judged_102
theorem oX5_judged_104 : SX5_judged 104 (i_goto 108) := snd_goto dX5_judged_104 (by decide)
theorem oX5_judged_107 : SX5_judged 107 (i_iload 2 108) := snd_iload_n dX5_judged_107 rfl
theorem oX5_judged_108 : SX5_judged 108 (i_istore 2 109) := snd_istore_n dX5_judged_108 rfl (by decide)
theorem oX5_judged_109 : SX5_judged 109 (i_iload 5 111) := snd_iload dX5_judged_109
theorem oX5_judged_111 : SX5_judged 111 (i_if1 (fun x => ¬ x = 0) 124 114) := snd_if_ne dX5_judged_111 (by decide)
theorem oX5_judged_114 : SX5_judged 114 (i_aload 0 115) := snd_aload_n dX5_judged_114 rfl
theorem oX5_judged_115 : SX5_judged 115 (i_const (.int (nI 1365)) 118) := snd_sipush dX5_judged_115 (by decide)
theorem oX5_judged_118 : SX5_judged 118 (i_cvv 4 296 1 121) := snd_cvv rfl infX5_passes (by decide) rfl (xVm_V dX5_judged_118 rfl q1966 q1968 qs96 q136 q1969 pdX5_passes)
theorem oX5_judged_121 : SX5_judged 121 (i_goto 234) := snd_goto dX5_judged_121 (by decide)
theorem oX5_judged_124 : SX5_judged 124 (i_iload 8 126) := snd_iload dX5_judged_124
theorem oX5_judged_126 : SX5_judged 126 (i_if1 (fun x => x = 0) 149 129) := snd_if_eq dX5_judged_126 (by decide)
theorem oX5_judged_129 : SX5_judged 129 (i_iload 5 131) := snd_iload dX5_judged_129
theorem oX5_judged_131 : SX5_judged 131 (i_const (.int (nI 1)) 132) := snd_iconst dX5_judged_131 (by decide)
theorem oX5_judged_132 : SX5_judged 132 (i_if2 (fun x y => ¬ x = y) 149 135) := snd_icmp_ne dX5_judged_132 (by decide)
theorem oX5_judged_135 : SX5_judged 135 (i_aload 0 136) := snd_aload_n dX5_judged_135 rfl
theorem oX5_judged_136 : SX5_judged 136 (i_const (.int (nI 1365)) 139) := snd_sipush dX5_judged_136 (by decide)
theorem oX5_judged_139 : SX5_judged 139 (i_iload 7 141) := snd_iload dX5_judged_139
theorem oX5_judged_141 : SX5_judged 141 (i_iload 6 143) := snd_iload dX5_judged_141
theorem oX5_judged_143 : SX5_judged 143 (i_cvv 4 306 3 146) := snd_cvv rfl infX5_walks (by decide) rfl (xVm_V dX5_judged_143 rfl q2005 q2007 qs104 q136 q2008 pdX5_walks)
theorem oX5_judged_146 : SX5_judged 146 (i_goto 234) := snd_goto dX5_judged_146 (by decide)
theorem oX5_judged_149 : SX5_judged 149 (i_iload 8 151) := snd_iload dX5_judged_149
theorem oX5_judged_151 : SX5_judged 151 (i_if1 (fun x => x = 0) 178 154) := snd_if_eq dX5_judged_151 (by decide)
theorem oX5_judged_154 : SX5_judged 154 (i_iload 5 156) := snd_iload dX5_judged_154
theorem oX5_judged_156 : SX5_judged 156 (i_const (.int (nI 2)) 157) := snd_iconst dX5_judged_156 (by decide)
theorem oX5_judged_157 : SX5_judged 157 (i_if2 (fun x y => ¬ x = y) 178 160) := snd_icmp_ne dX5_judged_157 (by decide)
theorem oX5_judged_160 : SX5_judged 160 (i_aload 0 161) := snd_aload_n dX5_judged_160 rfl
theorem oX5_judged_161 : SX5_judged 161 (i_getf 4 24 164) := snd_getf dX5_judged_161 rfl (by decide) in_X5 (Or.inl q1722) (Or.inl rfl) (by decide)
theorem oX5_judged_164 : SX5_judged 164 (i_const (.int (nI 1367)) 167) := snd_sipush dX5_judged_164 (by decide)
theorem oX5_judged_167 : SX5_judged 167 (i_iload 6 169) := snd_iload dX5_judged_167
theorem oX5_judged_169 : SX5_judged 169 (i_ii (fun x y => x + y) 170) := snd_iadd dX5_judged_169
theorem oX5_judged_170 : SX5_judged 170 (i_dup2 171) := snd_dup2 dX5_judged_170
theorem oX5_judged_171 : SX5_judged 171 (i_ai 0 172) := snd_ai0 dX5_judged_171
theorem oX5_judged_172 : SX5_judged 172 (i_const (.int (nI 1)) 173) := snd_iconst dX5_judged_172 (by decide)
theorem oX5_judged_173 : SX5_judged 173 (i_ii (fun x y => x + y) 174) := snd_iadd dX5_judged_173
theorem oX5_judged_174 : SX5_judged 174 (i_si (fun v => v) 0 175) := snd_si0 dX5_judged_174
theorem oX5_judged_175 : SX5_judged 175 (i_goto 234) := snd_goto dX5_judged_175 (by decide)
theorem oX5_judged_178 : SX5_judged 178 (i_iload 8 180) := snd_iload dX5_judged_178
theorem oX5_judged_180 : SX5_judged 180 (i_if1 (fun x => x = 0) 207 183) := snd_if_eq dX5_judged_180 (by decide)
theorem oX5_judged_183 : SX5_judged 183 (i_iload 5 185) := snd_iload dX5_judged_183
theorem oX5_judged_185 : SX5_judged 185 (i_const (.int (nI 3)) 186) := snd_iconst dX5_judged_185 (by decide)
theorem oX5_judged_186 : SX5_judged 186 (i_if2 (fun x y => ¬ x = y) 207 189) := snd_icmp_ne dX5_judged_186 (by decide)
theorem oX5_judged_189 : SX5_judged 189 (i_aload 0 190) := snd_aload_n dX5_judged_189 rfl
theorem oX5_judged_190 : SX5_judged 190 (i_getf 4 24 193) := snd_getf dX5_judged_190 rfl (by decide) in_X5 (Or.inl q1722) (Or.inl rfl) (by decide)
theorem oX5_judged_193 : SX5_judged 193 (i_const (.int (nI 1366)) 196) := snd_sipush dX5_judged_193 (by decide)
theorem oX5_judged_196 : SX5_judged 196 (i_dup2 197) := snd_dup2 dX5_judged_196
theorem oX5_judged_197 : SX5_judged 197 (i_ai 0 198) := snd_ai0 dX5_judged_197
theorem oX5_judged_198 : SX5_judged 198 (i_const (.int (nI 1)) 199) := snd_iconst dX5_judged_198 (by decide)
theorem oX5_judged_199 : SX5_judged 199 (i_iload 6 201) := snd_iload dX5_judged_199
theorem oX5_judged_201 : SX5_judged 201 (i_ii (fun x y => x <<< (y &&& 31)) 202) := snd_ishl dX5_judged_201
theorem oX5_judged_202 : SX5_judged 202 (i_ii (fun x y => x ^^^ y) 203) := snd_ixor dX5_judged_202
theorem oX5_judged_203 : SX5_judged 203 (i_si (fun v => v) 0 204) := snd_si0 dX5_judged_203
theorem oX5_judged_204 : SX5_judged 204 (i_goto 234) := snd_goto dX5_judged_204 (by decide)
theorem oX5_judged_207 : SX5_judged 207 (i_iload 8 209) := snd_iload dX5_judged_207
theorem oX5_judged_209 : SX5_judged 209 (i_if1 (fun x => x = 0) 234 212) := snd_if_eq dX5_judged_209 (by decide)
theorem oX5_judged_212 : SX5_judged 212 (i_aload 0 213) := snd_aload_n dX5_judged_212 rfl
theorem oX5_judged_213 : SX5_judged 213 (i_getf 4 24 216) := snd_getf dX5_judged_213 rfl (by decide) in_X5 (Or.inl q1722) (Or.inl rfl) (by decide)
theorem oX5_judged_216 : SX5_judged 216 (i_const (.int (nI 1367)) 219) := snd_sipush dX5_judged_216 (by decide)
theorem oX5_judged_219 : SX5_judged 219 (i_iload 6 221) := snd_iload dX5_judged_219
theorem oX5_judged_221 : SX5_judged 221 (i_ii (fun x y => x + y) 222) := snd_iadd dX5_judged_221
theorem oX5_judged_222 : SX5_judged 222 (i_aload 0 223) := snd_aload_n dX5_judged_222 rfl
theorem oX5_judged_223 : SX5_judged 223 (i_getf 4 24 226) := snd_getf dX5_judged_223 rfl (by decide) in_X5 (Or.inl q1722) (Or.inl rfl) (by decide)
theorem oX5_judged_226 : SX5_judged 226 (i_const (.int (nI 1375)) 229) := snd_sipush dX5_judged_226 (by decide)
theorem oX5_judged_229 : SX5_judged 229 (i_iload 6 231) := snd_iload dX5_judged_229
theorem oX5_judged_231 : SX5_judged 231 (i_ii (fun x y => x + y) 232) := snd_iadd dX5_judged_231
theorem oX5_judged_232 : SX5_judged 232 (i_ai 0 233) := snd_ai0 dX5_judged_232
theorem oX5_judged_233 : SX5_judged 233 (i_si (fun v => v) 0 234) := snd_si0 dX5_judged_233
theorem oX5_judged_234 : SX5_judged 234 (i_iload 3 235) := snd_iload_n dX5_judged_234 rfl
theorem oX5_judged_235 : SX5_judged 235 (i_if1 (fun x => 0 ≤ x) 253 238) := snd_if_ge dX5_judged_235 (by decide)
theorem oX5_judged_238 : SX5_judged 238 (i_aload 0 239) := snd_aload_n dX5_judged_238 rfl
theorem oX5_judged_239 : SX5_judged 239 (i_const (.int (nI 1365)) 242) := snd_sipush dX5_judged_239 (by decide)
theorem oX5_judged_242 : SX5_judged 242 (i_cv 4 315 1 245) := snd_cv rfl infX5_shutIn (by decide) rfl (xVm_V dX5_judged_242 rfl q2041 q2043 qs108 q136 q2044 pdX5_shutIn)
theorem oX5_judged_245 : SX5_judged 245 (i_if1 (fun x => x = 0) 253 248) := snd_if_eq dX5_judged_245 (by decide)
theorem oX5_judged_248 : SX5_judged 248 (i_iload 4 250) := snd_iload dX5_judged_248
theorem oX5_judged_250 : SX5_judged 250 (i_goto 254) := snd_goto dX5_judged_250 (by decide)
theorem oX5_judged_253 : SX5_judged 253 (i_iload 3 254) := snd_iload_n dX5_judged_253 rfl
theorem oX5_judged_254 : SX5_judged 254 (i_istore 3 255) := snd_istore_n dX5_judged_254 rfl (by decide)
theorem oX5_judged_255 : SX5_judged 255 (i_iinc 4 (nI 1) 258) := snd_iinc dX5_judged_255 (by decide) (by decide)
theorem oX5_judged_258 : SX5_judged 258 (i_goto 31) := snd_goto dX5_judged_258 (by decide)
theorem oX5_judged_261 : SX5_judged 261 (i_iload 1 262) := snd_iload_n dX5_judged_261 rfl
theorem oX5_judged_262 : SX5_judged 262 (i_if1 (fun x => ¬ x = 0) 269 265) := snd_if_ne dX5_judged_262 (by decide)
theorem oX5_judged_265 : SX5_judged 265 (i_iload 2 266) := snd_iload_n dX5_judged_265 rfl
theorem oX5_judged_266 : SX5_judged 266 (i_goto 288) := snd_goto dX5_judged_266 (by decide)
theorem oX5_judged_269 : SX5_judged 269 (i_iload 1 270) := snd_iload_n dX5_judged_269 rfl
theorem oX5_judged_270 : SX5_judged 270 (i_const (.int (nI 1)) 271) := snd_iconst dX5_judged_270 (by decide)
theorem oX5_judged_271 : SX5_judged 271 (i_if2 (fun x y => ¬ x = y) 278 274) := snd_icmp_ne dX5_judged_271 (by decide)
theorem oX5_judged_274 : SX5_judged 274 (i_iload 3 275) := snd_iload_n dX5_judged_274 rfl
theorem oX5_judged_275 : SX5_judged 275 (i_goto 288) := snd_goto dX5_judged_275 (by decide)
theorem oX5_judged_278 : SX5_judged 278 (i_aload 0 279) := snd_aload_n dX5_judged_278 rfl
theorem oX5_judged_279 : SX5_judged 279 (i_const (.int (nI 1365)) 282) := snd_sipush dX5_judged_279 (by decide)
theorem oX5_judged_282 : SX5_judged 282 (i_cv 4 302 1 285) := snd_cv rfl infX5_sticking (by decide) rfl (xVm_V dX5_judged_282 rfl q1989 q1991 qs101 q136 q1992 pdX5_sticking)
theorem oX5_judged_285 : SX5_judged 285 (i_cs 316 1 288) := snd_cs rfl infX5_bits (by decide) (xSm_S dX5_judged_285 q2045 q2046 q136 q2047 pdX5_bits)
theorem oX5_judged_288 : SX5_judged 288 (i_iret) := snd_iret dX5_judged_288 rfl
theorem okX5_judged : ∀ q ∈ cX5_judged, SX5_judged q.1 q.2 := List.forall_mem_cons.mpr ⟨oX5_judged_0, List.forall_mem_cons.mpr ⟨oX5_judged_1, List.forall_mem_cons.mpr ⟨oX5_judged_2, List.forall_mem_cons.mpr ⟨oX5_judged_5, List.forall_mem_cons.mpr ⟨oX5_judged_6, List.forall_mem_cons.mpr ⟨oX5_judged_7, List.forall_mem_cons.mpr ⟨oX5_judged_8, List.forall_mem_cons.mpr ⟨oX5_judged_11, List.forall_mem_cons.mpr ⟨oX5_judged_14, List.forall_mem_cons.mpr ⟨oX5_judged_16, List.forall_mem_cons.mpr ⟨oX5_judged_17, List.forall_mem_cons.mpr ⟨oX5_judged_18, List.forall_mem_cons.mpr ⟨oX5_judged_21, List.forall_mem_cons.mpr ⟨oX5_judged_24, List.forall_mem_cons.mpr ⟨oX5_judged_25, List.forall_mem_cons.mpr ⟨oX5_judged_26, List.forall_mem_cons.mpr ⟨oX5_judged_27, List.forall_mem_cons.mpr ⟨oX5_judged_28, List.forall_mem_cons.mpr ⟨oX5_judged_29, List.forall_mem_cons.mpr ⟨oX5_judged_31, List.forall_mem_cons.mpr ⟨oX5_judged_33, List.forall_mem_cons.mpr ⟨oX5_judged_34, List.forall_mem_cons.mpr ⟨oX5_judged_37, List.forall_mem_cons.mpr ⟨oX5_judged_38, List.forall_mem_cons.mpr ⟨oX5_judged_39, List.forall_mem_cons.mpr ⟨oX5_judged_42, List.forall_mem_cons.mpr ⟨oX5_judged_43, List.forall_mem_cons.mpr ⟨oX5_judged_46, List.forall_mem_cons.mpr ⟨oX5_judged_47, List.forall_mem_cons.mpr ⟨oX5_judged_48, List.forall_mem_cons.mpr ⟨oX5_judged_50, List.forall_mem_cons.mpr ⟨oX5_judged_51, List.forall_mem_cons.mpr ⟨oX5_judged_52, List.forall_mem_cons.mpr ⟨oX5_judged_53, List.forall_mem_cons.mpr ⟨oX5_judged_55, List.forall_mem_cons.mpr ⟨oX5_judged_56, List.forall_mem_cons.mpr ⟨oX5_judged_59, List.forall_mem_cons.mpr ⟨oX5_judged_60, List.forall_mem_cons.mpr ⟨oX5_judged_61, List.forall_mem_cons.mpr ⟨oX5_judged_63, List.forall_mem_cons.mpr ⟨oX5_judged_64, List.forall_mem_cons.mpr ⟨oX5_judged_65, List.forall_mem_cons.mpr ⟨oX5_judged_66, List.forall_mem_cons.mpr ⟨oX5_judged_68, List.forall_mem_cons.mpr ⟨oX5_judged_69, List.forall_mem_cons.mpr ⟨oX5_judged_72, List.forall_mem_cons.mpr ⟨oX5_judged_73, List.forall_mem_cons.mpr ⟨oX5_judged_74, List.forall_mem_cons.mpr ⟨oX5_judged_76, List.forall_mem_cons.mpr ⟨oX5_judged_77, List.forall_mem_cons.mpr ⟨oX5_judged_78, List.forall_mem_cons.mpr ⟨oX5_judged_79, List.forall_mem_cons.mpr ⟨oX5_judged_81, List.forall_mem_cons.mpr ⟨oX5_judged_82, List.forall_mem_cons.mpr ⟨oX5_judged_84, List.forall_mem_cons.mpr ⟨oX5_judged_86, List.forall_mem_cons.mpr ⟨oX5_judged_88, List.forall_mem_cons.mpr ⟨oX5_judged_91, List.forall_mem_cons.mpr ⟨oX5_judged_93, List.forall_mem_cons.mpr ⟨oX5_judged_95, List.forall_mem_cons.mpr ⟨oX5_judged_98, List.forall_mem_cons.mpr ⟨oX5_judged_99, List.forall_mem_cons.mpr ⟨oX5_judged_102, List.forall_mem_cons.mpr ⟨oX5_judged_104, List.forall_mem_cons.mpr ⟨oX5_judged_107, List.forall_mem_cons.mpr ⟨oX5_judged_108, List.forall_mem_cons.mpr ⟨oX5_judged_109, List.forall_mem_cons.mpr ⟨oX5_judged_111, List.forall_mem_cons.mpr ⟨oX5_judged_114, List.forall_mem_cons.mpr ⟨oX5_judged_115, List.forall_mem_cons.mpr ⟨oX5_judged_118, List.forall_mem_cons.mpr ⟨oX5_judged_121, List.forall_mem_cons.mpr ⟨oX5_judged_124, List.forall_mem_cons.mpr ⟨oX5_judged_126, List.forall_mem_cons.mpr ⟨oX5_judged_129, List.forall_mem_cons.mpr ⟨oX5_judged_131, List.forall_mem_cons.mpr ⟨oX5_judged_132, List.forall_mem_cons.mpr ⟨oX5_judged_135, List.forall_mem_cons.mpr ⟨oX5_judged_136, List.forall_mem_cons.mpr ⟨oX5_judged_139, List.forall_mem_cons.mpr ⟨oX5_judged_141, List.forall_mem_cons.mpr ⟨oX5_judged_143, List.forall_mem_cons.mpr ⟨oX5_judged_146, List.forall_mem_cons.mpr ⟨oX5_judged_149, List.forall_mem_cons.mpr ⟨oX5_judged_151, List.forall_mem_cons.mpr ⟨oX5_judged_154, List.forall_mem_cons.mpr ⟨oX5_judged_156, List.forall_mem_cons.mpr ⟨oX5_judged_157, List.forall_mem_cons.mpr ⟨oX5_judged_160, List.forall_mem_cons.mpr ⟨oX5_judged_161, List.forall_mem_cons.mpr ⟨oX5_judged_164, List.forall_mem_cons.mpr ⟨oX5_judged_167, List.forall_mem_cons.mpr ⟨oX5_judged_169, List.forall_mem_cons.mpr ⟨oX5_judged_170, List.forall_mem_cons.mpr ⟨oX5_judged_171, List.forall_mem_cons.mpr ⟨oX5_judged_172, List.forall_mem_cons.mpr ⟨oX5_judged_173, List.forall_mem_cons.mpr ⟨oX5_judged_174, List.forall_mem_cons.mpr ⟨oX5_judged_175, List.forall_mem_cons.mpr ⟨oX5_judged_178, List.forall_mem_cons.mpr ⟨oX5_judged_180, List.forall_mem_cons.mpr ⟨oX5_judged_183, List.forall_mem_cons.mpr ⟨oX5_judged_185, List.forall_mem_cons.mpr ⟨oX5_judged_186, List.forall_mem_cons.mpr ⟨oX5_judged_189, List.forall_mem_cons.mpr ⟨oX5_judged_190, List.forall_mem_cons.mpr ⟨oX5_judged_193, List.forall_mem_cons.mpr ⟨oX5_judged_196, List.forall_mem_cons.mpr ⟨oX5_judged_197, List.forall_mem_cons.mpr ⟨oX5_judged_198, List.forall_mem_cons.mpr ⟨oX5_judged_199, List.forall_mem_cons.mpr ⟨oX5_judged_201, List.forall_mem_cons.mpr ⟨oX5_judged_202, List.forall_mem_cons.mpr ⟨oX5_judged_203, List.forall_mem_cons.mpr ⟨oX5_judged_204, List.forall_mem_cons.mpr ⟨oX5_judged_207, List.forall_mem_cons.mpr ⟨oX5_judged_209, List.forall_mem_cons.mpr ⟨oX5_judged_212, List.forall_mem_cons.mpr ⟨oX5_judged_213, List.forall_mem_cons.mpr ⟨oX5_judged_216, List.forall_mem_cons.mpr ⟨oX5_judged_219, List.forall_mem_cons.mpr ⟨oX5_judged_221, List.forall_mem_cons.mpr ⟨oX5_judged_222, List.forall_mem_cons.mpr ⟨oX5_judged_223, List.forall_mem_cons.mpr ⟨oX5_judged_226, List.forall_mem_cons.mpr ⟨oX5_judged_229, List.forall_mem_cons.mpr ⟨oX5_judged_231, List.forall_mem_cons.mpr ⟨oX5_judged_232, List.forall_mem_cons.mpr ⟨oX5_judged_233, List.forall_mem_cons.mpr ⟨oX5_judged_234, List.forall_mem_cons.mpr ⟨oX5_judged_235, List.forall_mem_cons.mpr ⟨oX5_judged_238, List.forall_mem_cons.mpr ⟨oX5_judged_239, List.forall_mem_cons.mpr ⟨oX5_judged_242, List.forall_mem_cons.mpr ⟨oX5_judged_245, List.forall_mem_cons.mpr ⟨oX5_judged_248, List.forall_mem_cons.mpr ⟨oX5_judged_250, List.forall_mem_cons.mpr ⟨oX5_judged_253, List.forall_mem_cons.mpr ⟨oX5_judged_254, List.forall_mem_cons.mpr ⟨oX5_judged_255, List.forall_mem_cons.mpr ⟨oX5_judged_258, List.forall_mem_cons.mpr ⟨oX5_judged_261, List.forall_mem_cons.mpr ⟨oX5_judged_262, List.forall_mem_cons.mpr ⟨oX5_judged_265, List.forall_mem_cons.mpr ⟨oX5_judged_266, List.forall_mem_cons.mpr ⟨oX5_judged_269, List.forall_mem_cons.mpr ⟨oX5_judged_270, List.forall_mem_cons.mpr ⟨oX5_judged_271, List.forall_mem_cons.mpr ⟨oX5_judged_274, List.forall_mem_cons.mpr ⟨oX5_judged_275, List.forall_mem_cons.mpr ⟨oX5_judged_278, List.forall_mem_cons.mpr ⟨oX5_judged_279, List.forall_mem_cons.mpr ⟨oX5_judged_282, List.forall_mem_cons.mpr ⟨oX5_judged_285, List.forall_mem_cons.mpr ⟨oX5_judged_288, fun _ h => absurd h List.not_mem_nil⟩⟩⟩⟩⟩⟩⟩⟩⟩⟩⟩⟩⟩⟩⟩⟩⟩⟩⟩⟩⟩⟩⟩⟩⟩⟩⟩⟩⟩⟩⟩⟩⟩⟩⟩⟩⟩⟩⟩⟩⟩⟩⟩⟩⟩⟩⟩⟩⟩⟩⟩⟩⟩⟩⟩⟩⟩⟩⟩⟩⟩⟩⟩⟩⟩⟩⟩⟩⟩⟩⟩⟩⟩⟩⟩⟩⟩⟩⟩⟩⟩⟩⟩⟩⟩⟩⟩⟩⟩⟩⟩⟩⟩⟩⟩⟩⟩⟩⟩⟩⟩⟩⟩⟩⟩⟩⟩⟩⟩⟩⟩⟩⟩⟩⟩⟩⟩⟩⟩⟩⟩⟩⟩⟩⟩⟩⟩⟩⟩⟩⟩⟩⟩⟩⟩⟩⟩⟩⟩⟩⟩⟩⟩⟩⟩⟩⟩⟩⟩⟩⟩⟩⟩⟩⟩
def dkwX5_can_3 : List UInt8 := [167, 0, 14, 42, 17, 5, 85, 28, 182, 1, 86, 153, 0, 7, 4, 167, 0, 4, 3, 172]
abbrev dktX5_can_3 : List UInt8 := dkwX5_can_3 ++ []
def dkwX5_can_2 : List UInt8 := [16, 20, 162, 0, 40, 167, 0, 33, 27, 6, 160, 0, 17, 42, 17, 5, 85, 28, 182, 1, 83, 153, 0, 21]
abbrev dktX5_can_2 : List UInt8 := dkwX5_can_2 ++ dktX5_can_3
def dkwX5_can_1 : List UInt8 := [182, 1, 77, 153, 0, 63, 167, 0, 56, 27, 5, 160, 0, 21, 42, 180, 0, 113, 17, 5, 87, 28, 96, 46]
abbrev dktX5_can_1 : List UInt8 := dkwX5_can_1 ++ dktX5_can_2
def dkwX5_can_0 : List UInt8 := [27, 153, 0, 84, 42, 28, 182, 1, 63, 153, 0, 80, 27, 4, 160, 0, 18, 42, 17, 5, 85, 29, 28]
abbrev dktX5_can_0 : List UInt8 := dkwX5_can_0 ++ dktX5_can_1
theorem dksX5_can_0 : bcX5_can.data.toList.drop 0 = dktX5_can_0 := by decide +kernel
theorem dksX5_can_1 : bcX5_can.data.toList.drop 23 = dktX5_can_1 := dk_seg dksX5_can_0 23 rfl rfl
theorem dksX5_can_2 : bcX5_can.data.toList.drop 47 = dktX5_can_2 := dk_seg dksX5_can_1 24 rfl rfl
theorem dksX5_can_3 : bcX5_can.data.toList.drop 71 = dktX5_can_3 := dk_seg dksX5_can_2 24 rfl rfl
theorem dX5_can_0 : decode bcX5_can 0 = .ok (.iload_n 1, 1) := dk_27 (dk_at dksX5_can_0 0 rfl rfl)
theorem dX5_can_1 : decode bcX5_can 1 = .ok (.ifCond .eq 84, 3) := dk_153 0 84 (dk_at dksX5_can_0 1 rfl rfl)
theorem dX5_can_4 : decode bcX5_can 4 = .ok (.aload_n 0, 1) := dk_42 (dk_at dksX5_can_0 4 rfl rfl)
theorem dX5_can_5 : decode bcX5_can 5 = .ok (.iload_n 2, 1) := dk_28 (dk_at dksX5_can_0 5 rfl rfl)
theorem dX5_can_6 : decode bcX5_can 6 = .ok (.invokevirtual 319, 3) := dk_182 1 63 (dk_at dksX5_can_0 6 rfl rfl)
theorem dX5_can_9 : decode bcX5_can 9 = .ok (.ifCond .eq 80, 3) := dk_153 0 80 (dk_at dksX5_can_0 9 rfl rfl)
theorem dX5_can_12 : decode bcX5_can 12 = .ok (.iload_n 1, 1) := dk_27 (dk_at dksX5_can_0 12 rfl rfl)
theorem dX5_can_13 : decode bcX5_can 13 = .ok (.iconst 1, 1) := dk_4 (dk_at dksX5_can_0 13 rfl rfl)
theorem dX5_can_14 : decode bcX5_can 14 = .ok (.if_icmp .ne 18, 3) := dk_160 0 18 (dk_at dksX5_can_0 14 rfl rfl)
theorem dX5_can_17 : decode bcX5_can 17 = .ok (.aload_n 0, 1) := dk_42 (dk_at dksX5_can_0 17 rfl rfl)
theorem dX5_can_18 : decode bcX5_can 18 = .ok (.sipush 1365, 3) := dk_17 5 85 (dk_at dksX5_can_0 18 rfl rfl)
theorem dX5_can_21 : decode bcX5_can 21 = .ok (.iload_n 3, 1) := dk_29 (dk_at dksX5_can_0 21 rfl rfl)
theorem dX5_can_22 : decode bcX5_can 22 = .ok (.iload_n 2, 1) := dk_28 (dk_at dksX5_can_0 22 rfl rfl)
theorem dX5_can_23 : decode bcX5_can 23 = .ok (.invokevirtual 333, 3) := dk_182 1 77 (dk_at dksX5_can_1 0 rfl rfl)
theorem dX5_can_26 : decode bcX5_can 26 = .ok (.ifCond .eq 63, 3) := dk_153 0 63 (dk_at dksX5_can_1 3 rfl rfl)
theorem dX5_can_29 : decode bcX5_can 29 = .ok (.goto 56, 3) := dk_167 0 56 (dk_at dksX5_can_1 6 rfl rfl)
theorem dX5_can_32 : decode bcX5_can 32 = .ok (.iload_n 1, 1) := dk_27 (dk_at dksX5_can_1 9 rfl rfl)
theorem dX5_can_33 : decode bcX5_can 33 = .ok (.iconst 2, 1) := dk_5 (dk_at dksX5_can_1 10 rfl rfl)
theorem dX5_can_34 : decode bcX5_can 34 = .ok (.if_icmp .ne 21, 3) := dk_160 0 21 (dk_at dksX5_can_1 11 rfl rfl)
theorem dX5_can_37 : decode bcX5_can 37 = .ok (.aload_n 0, 1) := dk_42 (dk_at dksX5_can_1 14 rfl rfl)
theorem dX5_can_38 : decode bcX5_can 38 = .ok (.getfield 113, 3) := dk_180 0 113 (dk_at dksX5_can_1 15 rfl rfl)
theorem dX5_can_41 : decode bcX5_can 41 = .ok (.sipush 1367, 3) := dk_17 5 87 (dk_at dksX5_can_1 18 rfl rfl)
theorem dX5_can_44 : decode bcX5_can 44 = .ok (.iload_n 2, 1) := dk_28 (dk_at dksX5_can_1 21 rfl rfl)
theorem dX5_can_45 : decode bcX5_can 45 = .ok (.iadd, 1) := dk_96 (dk_at dksX5_can_1 22 rfl rfl)
theorem dX5_can_46 : decode bcX5_can 46 = .ok (.iaload, 1) := dk_46 (dk_at dksX5_can_1 23 rfl rfl)
theorem dX5_can_47 : decode bcX5_can 47 = .ok (.bipush 20, 2) := dk_16 20 (dk_at dksX5_can_2 0 rfl rfl)
theorem dX5_can_49 : decode bcX5_can 49 = .ok (.if_icmp .ge 40, 3) := dk_162 0 40 (dk_at dksX5_can_2 2 rfl rfl)
theorem dX5_can_52 : decode bcX5_can 52 = .ok (.goto 33, 3) := dk_167 0 33 (dk_at dksX5_can_2 5 rfl rfl)
theorem dX5_can_55 : decode bcX5_can 55 = .ok (.iload_n 1, 1) := dk_27 (dk_at dksX5_can_2 8 rfl rfl)
theorem dX5_can_56 : decode bcX5_can 56 = .ok (.iconst 3, 1) := dk_6 (dk_at dksX5_can_2 9 rfl rfl)
theorem dX5_can_57 : decode bcX5_can 57 = .ok (.if_icmp .ne 17, 3) := dk_160 0 17 (dk_at dksX5_can_2 10 rfl rfl)
theorem dX5_can_60 : decode bcX5_can 60 = .ok (.aload_n 0, 1) := dk_42 (dk_at dksX5_can_2 13 rfl rfl)
theorem dX5_can_61 : decode bcX5_can 61 = .ok (.sipush 1365, 3) := dk_17 5 85 (dk_at dksX5_can_2 14 rfl rfl)
theorem dX5_can_64 : decode bcX5_can 64 = .ok (.iload_n 2, 1) := dk_28 (dk_at dksX5_can_2 17 rfl rfl)
theorem dX5_can_65 : decode bcX5_can 65 = .ok (.invokevirtual 339, 3) := dk_182 1 83 (dk_at dksX5_can_2 18 rfl rfl)
theorem dX5_can_68 : decode bcX5_can 68 = .ok (.ifCond .eq 21, 3) := dk_153 0 21 (dk_at dksX5_can_2 21 rfl rfl)
theorem dX5_can_71 : decode bcX5_can 71 = .ok (.goto 14, 3) := dk_167 0 14 (dk_at dksX5_can_3 0 rfl rfl)
theorem dX5_can_74 : decode bcX5_can 74 = .ok (.aload_n 0, 1) := dk_42 (dk_at dksX5_can_3 3 rfl rfl)
theorem dX5_can_75 : decode bcX5_can 75 = .ok (.sipush 1365, 3) := dk_17 5 85 (dk_at dksX5_can_3 4 rfl rfl)
theorem dX5_can_78 : decode bcX5_can 78 = .ok (.iload_n 2, 1) := dk_28 (dk_at dksX5_can_3 7 rfl rfl)
theorem dX5_can_79 : decode bcX5_can 79 = .ok (.invokevirtual 342, 3) := dk_182 1 86 (dk_at dksX5_can_3 8 rfl rfl)
theorem dX5_can_82 : decode bcX5_can 82 = .ok (.ifCond .eq 7, 3) := dk_153 0 7 (dk_at dksX5_can_3 11 rfl rfl)
theorem dX5_can_85 : decode bcX5_can 85 = .ok (.iconst 1, 1) := dk_4 (dk_at dksX5_can_3 14 rfl rfl)
theorem dX5_can_86 : decode bcX5_can 86 = .ok (.goto 4, 3) := dk_167 0 4 (dk_at dksX5_can_3 15 rfl rfl)
theorem dX5_can_89 : decode bcX5_can 89 = .ok (.iconst 0, 1) := dk_3 (dk_at dksX5_can_3 18 rfl rfl)
theorem dX5_can_90 : decode bcX5_can 90 = .ok (.ireturn, 1) := dk_172 (dk_at dksX5_can_3 19 rfl rfl)
abbrev SX5_can (pc : Nat) (i : xI) : Prop := Snd "SwollenHouseModel" "can" prog_25_method_75_code 4 (Option.some Jvm.ClassFile.FieldType.boolean) [] pc i
theorem oX5_can_0 : SX5_can 0 (i_iload 1 1) := snd_iload_n dX5_can_0 rfl
theorem oX5_can_1 : SX5_can 1 (i_if1 (fun x => x = 0) 85 4) := snd_if_eq dX5_can_1 (by decide)
theorem oX5_can_4 : SX5_can 4 (i_aload 0 5) := snd_aload_n dX5_can_4 rfl
theorem oX5_can_5 : SX5_can 5 (i_iload 2 6) := snd_iload_n dX5_can_5 rfl
theorem oX5_can_6 : SX5_can 6 (i_cv 4 287 1 9) := snd_cv rfl infX5_isDoor (by decide) rfl (xVm_V dX5_can_6 rfl q1930 q1932 qs89 q136 q1933 pdX5_isDoor)
theorem oX5_can_9 : SX5_can 9 (i_if1 (fun x => x = 0) 89 12) := snd_if_eq dX5_can_9 (by decide)
theorem oX5_can_12 : SX5_can 12 (i_iload 1 13) := snd_iload_n dX5_can_12 rfl
theorem oX5_can_13 : SX5_can 13 (i_const (.int (nI 1)) 14) := snd_iconst dX5_can_13 (by decide)
theorem oX5_can_14 : SX5_can 14 (i_if2 (fun x y => ¬ x = y) 32 17) := snd_icmp_ne dX5_can_14 (by decide)
theorem oX5_can_17 : SX5_can 17 (i_aload 0 18) := snd_aload_n dX5_can_17 rfl
theorem oX5_can_18 : SX5_can 18 (i_const (.int (nI 1365)) 21) := snd_sipush dX5_can_18 (by decide)
theorem oX5_can_21 : SX5_can 21 (i_iload 3 22) := snd_iload_n dX5_can_21 rfl
theorem oX5_can_22 : SX5_can 22 (i_iload 2 23) := snd_iload_n dX5_can_22 rfl
theorem oX5_can_23 : SX5_can 23 (i_cv 4 304 3 26) := snd_cv rfl infX5_mayWalk (by decide) rfl (xVm_V dX5_can_23 rfl q1997 q1999 qs102 q136 q2000 pdX5_mayWalk)
theorem oX5_can_26 : SX5_can 26 (i_if1 (fun x => x = 0) 89 29) := snd_if_eq dX5_can_26 (by decide)
theorem oX5_can_29 : SX5_can 29 (i_goto 85) := snd_goto dX5_can_29 (by decide)
theorem oX5_can_32 : SX5_can 32 (i_iload 1 33) := snd_iload_n dX5_can_32 rfl
theorem oX5_can_33 : SX5_can 33 (i_const (.int (nI 2)) 34) := snd_iconst dX5_can_33 (by decide)
theorem oX5_can_34 : SX5_can 34 (i_if2 (fun x y => ¬ x = y) 55 37) := snd_icmp_ne dX5_can_34 (by decide)
theorem oX5_can_37 : SX5_can 37 (i_aload 0 38) := snd_aload_n dX5_can_37 rfl
theorem oX5_can_38 : SX5_can 38 (i_getf 4 24 41) := snd_getf dX5_can_38 rfl (by decide) in_X5 (Or.inl q1722) (Or.inl rfl) (by decide)
theorem oX5_can_41 : SX5_can 41 (i_const (.int (nI 1367)) 44) := snd_sipush dX5_can_41 (by decide)
theorem oX5_can_44 : SX5_can 44 (i_iload 2 45) := snd_iload_n dX5_can_44 rfl
theorem oX5_can_45 : SX5_can 45 (i_ii (fun x y => x + y) 46) := snd_iadd dX5_can_45
theorem oX5_can_46 : SX5_can 46 (i_ai 0 47) := snd_ai0 dX5_can_46
theorem oX5_can_47 : SX5_can 47 (i_const (.int (nI 20)) 49) := snd_bipush dX5_can_47 (by decide)
theorem oX5_can_49 : SX5_can 49 (i_if2 (fun x y => y ≤ x) 89 52) := snd_icmp_ge dX5_can_49 (by decide)
theorem oX5_can_52 : SX5_can 52 (i_goto 85) := snd_goto dX5_can_52 (by decide)
theorem oX5_can_55 : SX5_can 55 (i_iload 1 56) := snd_iload_n dX5_can_55 rfl
theorem oX5_can_56 : SX5_can 56 (i_const (.int (nI 3)) 57) := snd_iconst dX5_can_56 (by decide)
theorem oX5_can_57 : SX5_can 57 (i_if2 (fun x y => ¬ x = y) 74 60) := snd_icmp_ne dX5_can_57 (by decide)
theorem oX5_can_60 : SX5_can 60 (i_aload 0 61) := snd_aload_n dX5_can_60 rfl
theorem oX5_can_61 : SX5_can 61 (i_const (.int (nI 1365)) 64) := snd_sipush dX5_can_61 (by decide)
theorem oX5_can_64 : SX5_can 64 (i_iload 2 65) := snd_iload_n dX5_can_64 rfl
theorem oX5_can_65 : SX5_can 65 (i_cv 4 309 2 68) := snd_cv rfl infX5_mayWedge (by decide) rfl (xVm_V dX5_can_65 rfl q2017 q2019 qs105 q136 q2020 pdX5_mayWedge)
theorem oX5_can_68 : SX5_can 68 (i_if1 (fun x => x = 0) 89 71) := snd_if_eq dX5_can_68 (by decide)
theorem oX5_can_71 : SX5_can 71 (i_goto 85) := snd_goto dX5_can_71 (by decide)
theorem oX5_can_74 : SX5_can 74 (i_aload 0 75) := snd_aload_n dX5_can_74 rfl
theorem oX5_can_75 : SX5_can 75 (i_const (.int (nI 1365)) 78) := snd_sipush dX5_can_75 (by decide)
theorem oX5_can_78 : SX5_can 78 (i_iload 2 79) := snd_iload_n dX5_can_78 rfl
theorem oX5_can_79 : SX5_can 79 (i_cv 4 311 2 82) := snd_cv rfl infX5_mayForce (by decide) rfl (xVm_V dX5_can_79 rfl q2025 q2027 qs106 q136 q2028 pdX5_mayForce)
theorem oX5_can_82 : SX5_can 82 (i_if1 (fun x => x = 0) 89 85) := snd_if_eq dX5_can_82 (by decide)
theorem oX5_can_85 : SX5_can 85 (i_const (.int (nI 1)) 86) := snd_iconst dX5_can_85 (by decide)
theorem oX5_can_86 : SX5_can 86 (i_goto 90) := snd_goto dX5_can_86 (by decide)
theorem oX5_can_89 : SX5_can 89 (i_const (.int (nI 0)) 90) := snd_iconst dX5_can_89 (by decide)
theorem oX5_can_90 : SX5_can 90 (i_zret) := snd_zret dX5_can_90 rfl
theorem okX5_can : ∀ q ∈ cX5_can, SX5_can q.1 q.2 := List.forall_mem_cons.mpr ⟨oX5_can_0, List.forall_mem_cons.mpr ⟨oX5_can_1, List.forall_mem_cons.mpr ⟨oX5_can_4, List.forall_mem_cons.mpr ⟨oX5_can_5, List.forall_mem_cons.mpr ⟨oX5_can_6, List.forall_mem_cons.mpr ⟨oX5_can_9, List.forall_mem_cons.mpr ⟨oX5_can_12, List.forall_mem_cons.mpr ⟨oX5_can_13, List.forall_mem_cons.mpr ⟨oX5_can_14, List.forall_mem_cons.mpr ⟨oX5_can_17, List.forall_mem_cons.mpr ⟨oX5_can_18, List.forall_mem_cons.mpr ⟨oX5_can_21, List.forall_mem_cons.mpr ⟨oX5_can_22, List.forall_mem_cons.mpr ⟨oX5_can_23, List.forall_mem_cons.mpr ⟨oX5_can_26, List.forall_mem_cons.mpr ⟨oX5_can_29, List.forall_mem_cons.mpr ⟨oX5_can_32, List.forall_mem_cons.mpr ⟨oX5_can_33, List.forall_mem_cons.mpr ⟨oX5_can_34, List.forall_mem_cons.mpr ⟨oX5_can_37, List.forall_mem_cons.mpr ⟨oX5_can_38, List.forall_mem_cons.mpr ⟨oX5_can_41, List.forall_mem_cons.mpr ⟨oX5_can_44, List.forall_mem_cons.mpr ⟨oX5_can_45, List.forall_mem_cons.mpr ⟨oX5_can_46, List.forall_mem_cons.mpr ⟨oX5_can_47, List.forall_mem_cons.mpr ⟨oX5_can_49, List.forall_mem_cons.mpr ⟨oX5_can_52, List.forall_mem_cons.mpr ⟨oX5_can_55, List.forall_mem_cons.mpr ⟨oX5_can_56, List.forall_mem_cons.mpr ⟨oX5_can_57, List.forall_mem_cons.mpr ⟨oX5_can_60, List.forall_mem_cons.mpr ⟨oX5_can_61, List.forall_mem_cons.mpr ⟨oX5_can_64, List.forall_mem_cons.mpr ⟨oX5_can_65, List.forall_mem_cons.mpr ⟨oX5_can_68, List.forall_mem_cons.mpr ⟨oX5_can_71, List.forall_mem_cons.mpr ⟨oX5_can_74, List.forall_mem_cons.mpr ⟨oX5_can_75, List.forall_mem_cons.mpr ⟨oX5_can_78, List.forall_mem_cons.mpr ⟨oX5_can_79, List.forall_mem_cons.mpr ⟨oX5_can_82, List.forall_mem_cons.mpr ⟨oX5_can_85, List.forall_mem_cons.mpr ⟨oX5_can_86, List.forall_mem_cons.mpr ⟨oX5_can_89, List.forall_mem_cons.mpr ⟨oX5_can_90, fun _ h => absurd h List.not_mem_nil⟩⟩⟩⟩⟩⟩⟩⟩⟩⟩⟩⟩⟩⟩⟩⟩⟩⟩⟩⟩⟩⟩⟩⟩⟩⟩⟩⟩⟩⟩⟩⟩⟩⟩⟩⟩⟩⟩⟩⟩⟩⟩⟩⟩⟩⟩
def dkwX5_shutIn_5 : List UInt8 := [167, 0, 4, 3, 128, 61, 132, 3, 1, 167, 255, 134, 28, 172]
abbrev dktX5_shutIn_5 : List UInt8 := dkwX5_shutIn_5 ++ []
def dkwX5_shutIn_4 : List UInt8 := [96, 54, 5, 132, 6, 1, 167, 255, 177, 28, 21, 4, 158, 0, 14, 21, 5, 154, 0, 9, 4, 29, 120]
abbrev dktX5_shutIn_4 : List UInt8 := dkwX5_shutIn_4 ++ dktX5_shutIn_5
def dkwX5_shutIn_3 : List UInt8 := [54, 4, 21, 5, 21, 7, 153, 0, 17, 42, 27, 21, 6, 182, 1, 45, 154, 0, 7, 4, 167, 0, 4, 3]
abbrev dktX5_shutIn_3 : List UInt8 := dkwX5_shutIn_3 ++ dktX5_shutIn_4
def dkwX5_shutIn_2 : List UInt8 := [155, 0, 7, 4, 167, 0, 4, 3, 54, 7, 21, 4, 21, 7, 153, 0, 7, 4, 167, 0, 4, 3, 96]
abbrev dktX5_shutIn_2 : List UInt8 := dkwX5_shutIn_2 ++ dktX5_shutIn_3
def dkwX5_shutIn_1 : List UInt8 := [182, 1, 16, 162, 0, 76, 42, 21, 6, 42, 180, 0, 113, 27, 16, 18, 96, 29, 96, 46, 182, 1, 60]
abbrev dktX5_shutIn_1 : List UInt8 := dkwX5_shutIn_1 ++ dktX5_shutIn_2
def dkwX5_shutIn_0 : List UInt8 := [3, 61, 3, 62, 29, 42, 182, 1, 23, 162, 0, 120, 3, 54, 4, 3, 54, 5, 3, 54, 6, 21, 6, 42]
abbrev dktX5_shutIn_0 : List UInt8 := dkwX5_shutIn_0 ++ dktX5_shutIn_1
theorem dksX5_shutIn_0 : bcX5_shutIn.data.toList.drop 0 = dktX5_shutIn_0 := by decide +kernel
theorem dksX5_shutIn_1 : bcX5_shutIn.data.toList.drop 24 = dktX5_shutIn_1 := dk_seg dksX5_shutIn_0 24 rfl rfl
theorem dksX5_shutIn_2 : bcX5_shutIn.data.toList.drop 47 = dktX5_shutIn_2 := dk_seg dksX5_shutIn_1 23 rfl rfl
theorem dksX5_shutIn_3 : bcX5_shutIn.data.toList.drop 70 = dktX5_shutIn_3 := dk_seg dksX5_shutIn_2 23 rfl rfl
theorem dksX5_shutIn_4 : bcX5_shutIn.data.toList.drop 94 = dktX5_shutIn_4 := dk_seg dksX5_shutIn_3 24 rfl rfl
theorem dksX5_shutIn_5 : bcX5_shutIn.data.toList.drop 117 = dktX5_shutIn_5 := dk_seg dksX5_shutIn_4 23 rfl rfl
theorem dX5_shutIn_0 : decode bcX5_shutIn 0 = .ok (.iconst 0, 1) := dk_3 (dk_at dksX5_shutIn_0 0 rfl rfl)
theorem dX5_shutIn_1 : decode bcX5_shutIn 1 = .ok (.istore_n 2, 1) := dk_61 (dk_at dksX5_shutIn_0 1 rfl rfl)
theorem dX5_shutIn_2 : decode bcX5_shutIn 2 = .ok (.iconst 0, 1) := dk_3 (dk_at dksX5_shutIn_0 2 rfl rfl)
theorem dX5_shutIn_3 : decode bcX5_shutIn 3 = .ok (.istore_n 3, 1) := dk_62 (dk_at dksX5_shutIn_0 3 rfl rfl)
theorem dX5_shutIn_4 : decode bcX5_shutIn 4 = .ok (.iload_n 3, 1) := dk_29 (dk_at dksX5_shutIn_0 4 rfl rfl)
theorem dX5_shutIn_5 : decode bcX5_shutIn 5 = .ok (.aload_n 0, 1) := dk_42 (dk_at dksX5_shutIn_0 5 rfl rfl)
theorem dX5_shutIn_6 : decode bcX5_shutIn 6 = .ok (.invokevirtual 279, 3) := dk_182 1 23 (dk_at dksX5_shutIn_0 6 rfl rfl)
theorem dX5_shutIn_9 : decode bcX5_shutIn 9 = .ok (.if_icmp .ge 120, 3) := dk_162 0 120 (dk_at dksX5_shutIn_0 9 rfl rfl)
theorem dX5_shutIn_12 : decode bcX5_shutIn 12 = .ok (.iconst 0, 1) := dk_3 (dk_at dksX5_shutIn_0 12 rfl rfl)
theorem dX5_shutIn_13 : decode bcX5_shutIn 13 = .ok (.istore 4, 2) := dk_54 4 (dk_at dksX5_shutIn_0 13 rfl rfl)
theorem dX5_shutIn_15 : decode bcX5_shutIn 15 = .ok (.iconst 0, 1) := dk_3 (dk_at dksX5_shutIn_0 15 rfl rfl)
theorem dX5_shutIn_16 : decode bcX5_shutIn 16 = .ok (.istore 5, 2) := dk_54 5 (dk_at dksX5_shutIn_0 16 rfl rfl)
theorem dX5_shutIn_18 : decode bcX5_shutIn 18 = .ok (.iconst 0, 1) := dk_3 (dk_at dksX5_shutIn_0 18 rfl rfl)
theorem dX5_shutIn_19 : decode bcX5_shutIn 19 = .ok (.istore 6, 2) := dk_54 6 (dk_at dksX5_shutIn_0 19 rfl rfl)
theorem dX5_shutIn_21 : decode bcX5_shutIn 21 = .ok (.iload 6, 2) := dk_21 6 (dk_at dksX5_shutIn_0 21 rfl rfl)
theorem dX5_shutIn_23 : decode bcX5_shutIn 23 = .ok (.aload_n 0, 1) := dk_42 (dk_at dksX5_shutIn_0 23 rfl rfl)
theorem dX5_shutIn_24 : decode bcX5_shutIn 24 = .ok (.invokevirtual 272, 3) := dk_182 1 16 (dk_at dksX5_shutIn_1 0 rfl rfl)
theorem dX5_shutIn_27 : decode bcX5_shutIn 27 = .ok (.if_icmp .ge 76, 3) := dk_162 0 76 (dk_at dksX5_shutIn_1 3 rfl rfl)
theorem dX5_shutIn_30 : decode bcX5_shutIn 30 = .ok (.aload_n 0, 1) := dk_42 (dk_at dksX5_shutIn_1 6 rfl rfl)
theorem dX5_shutIn_31 : decode bcX5_shutIn 31 = .ok (.iload 6, 2) := dk_21 6 (dk_at dksX5_shutIn_1 7 rfl rfl)
theorem dX5_shutIn_33 : decode bcX5_shutIn 33 = .ok (.aload_n 0, 1) := dk_42 (dk_at dksX5_shutIn_1 9 rfl rfl)
theorem dX5_shutIn_34 : decode bcX5_shutIn 34 = .ok (.getfield 113, 3) := dk_180 0 113 (dk_at dksX5_shutIn_1 10 rfl rfl)
theorem dX5_shutIn_37 : decode bcX5_shutIn 37 = .ok (.iload_n 1, 1) := dk_27 (dk_at dksX5_shutIn_1 13 rfl rfl)
theorem dX5_shutIn_38 : decode bcX5_shutIn 38 = .ok (.bipush 18, 2) := dk_16 18 (dk_at dksX5_shutIn_1 14 rfl rfl)
theorem dX5_shutIn_40 : decode bcX5_shutIn 40 = .ok (.iadd, 1) := dk_96 (dk_at dksX5_shutIn_1 16 rfl rfl)
theorem dX5_shutIn_41 : decode bcX5_shutIn 41 = .ok (.iload_n 3, 1) := dk_29 (dk_at dksX5_shutIn_1 17 rfl rfl)
theorem dX5_shutIn_42 : decode bcX5_shutIn 42 = .ok (.iadd, 1) := dk_96 (dk_at dksX5_shutIn_1 18 rfl rfl)
theorem dX5_shutIn_43 : decode bcX5_shutIn 43 = .ok (.iaload, 1) := dk_46 (dk_at dksX5_shutIn_1 19 rfl rfl)
theorem dX5_shutIn_44 : decode bcX5_shutIn 44 = .ok (.invokevirtual 316, 3) := dk_182 1 60 (dk_at dksX5_shutIn_1 20 rfl rfl)
theorem dX5_shutIn_47 : decode bcX5_shutIn 47 = .ok (.ifCond .lt 7, 3) := dk_155 0 7 (dk_at dksX5_shutIn_2 0 rfl rfl)
theorem dX5_shutIn_50 : decode bcX5_shutIn 50 = .ok (.iconst 1, 1) := dk_4 (dk_at dksX5_shutIn_2 3 rfl rfl)
theorem dX5_shutIn_51 : decode bcX5_shutIn 51 = .ok (.goto 4, 3) := dk_167 0 4 (dk_at dksX5_shutIn_2 4 rfl rfl)
theorem dX5_shutIn_54 : decode bcX5_shutIn 54 = .ok (.iconst 0, 1) := dk_3 (dk_at dksX5_shutIn_2 7 rfl rfl)
theorem dX5_shutIn_55 : decode bcX5_shutIn 55 = .ok (.istore 7, 2) := dk_54 7 (dk_at dksX5_shutIn_2 8 rfl rfl)
theorem dX5_shutIn_57 : decode bcX5_shutIn 57 = .ok (.iload 4, 2) := dk_21 4 (dk_at dksX5_shutIn_2 10 rfl rfl)
theorem dX5_shutIn_59 : decode bcX5_shutIn 59 = .ok (.iload 7, 2) := dk_21 7 (dk_at dksX5_shutIn_2 12 rfl rfl)
theorem dX5_shutIn_61 : decode bcX5_shutIn 61 = .ok (.ifCond .eq 7, 3) := dk_153 0 7 (dk_at dksX5_shutIn_2 14 rfl rfl)
theorem dX5_shutIn_64 : decode bcX5_shutIn 64 = .ok (.iconst 1, 1) := dk_4 (dk_at dksX5_shutIn_2 17 rfl rfl)
theorem dX5_shutIn_65 : decode bcX5_shutIn 65 = .ok (.goto 4, 3) := dk_167 0 4 (dk_at dksX5_shutIn_2 18 rfl rfl)
theorem dX5_shutIn_68 : decode bcX5_shutIn 68 = .ok (.iconst 0, 1) := dk_3 (dk_at dksX5_shutIn_2 21 rfl rfl)
theorem dX5_shutIn_69 : decode bcX5_shutIn 69 = .ok (.iadd, 1) := dk_96 (dk_at dksX5_shutIn_2 22 rfl rfl)
theorem dX5_shutIn_70 : decode bcX5_shutIn 70 = .ok (.istore 4, 2) := dk_54 4 (dk_at dksX5_shutIn_3 0 rfl rfl)
theorem dX5_shutIn_72 : decode bcX5_shutIn 72 = .ok (.iload 5, 2) := dk_21 5 (dk_at dksX5_shutIn_3 2 rfl rfl)
theorem dX5_shutIn_74 : decode bcX5_shutIn 74 = .ok (.iload 7, 2) := dk_21 7 (dk_at dksX5_shutIn_3 4 rfl rfl)
theorem dX5_shutIn_76 : decode bcX5_shutIn 76 = .ok (.ifCond .eq 17, 3) := dk_153 0 17 (dk_at dksX5_shutIn_3 6 rfl rfl)
theorem dX5_shutIn_79 : decode bcX5_shutIn 79 = .ok (.aload_n 0, 1) := dk_42 (dk_at dksX5_shutIn_3 9 rfl rfl)
theorem dX5_shutIn_80 : decode bcX5_shutIn 80 = .ok (.iload_n 1, 1) := dk_27 (dk_at dksX5_shutIn_3 10 rfl rfl)
theorem dX5_shutIn_81 : decode bcX5_shutIn 81 = .ok (.iload 6, 2) := dk_21 6 (dk_at dksX5_shutIn_3 11 rfl rfl)
theorem dX5_shutIn_83 : decode bcX5_shutIn 83 = .ok (.invokevirtual 301, 3) := dk_182 1 45 (dk_at dksX5_shutIn_3 13 rfl rfl)
theorem dX5_shutIn_86 : decode bcX5_shutIn 86 = .ok (.ifCond .ne 7, 3) := dk_154 0 7 (dk_at dksX5_shutIn_3 16 rfl rfl)
theorem dX5_shutIn_89 : decode bcX5_shutIn 89 = .ok (.iconst 1, 1) := dk_4 (dk_at dksX5_shutIn_3 19 rfl rfl)
theorem dX5_shutIn_90 : decode bcX5_shutIn 90 = .ok (.goto 4, 3) := dk_167 0 4 (dk_at dksX5_shutIn_3 20 rfl rfl)
theorem dX5_shutIn_93 : decode bcX5_shutIn 93 = .ok (.iconst 0, 1) := dk_3 (dk_at dksX5_shutIn_3 23 rfl rfl)
theorem dX5_shutIn_94 : decode bcX5_shutIn 94 = .ok (.iadd, 1) := dk_96 (dk_at dksX5_shutIn_4 0 rfl rfl)
theorem dX5_shutIn_95 : decode bcX5_shutIn 95 = .ok (.istore 5, 2) := dk_54 5 (dk_at dksX5_shutIn_4 1 rfl rfl)
theorem dX5_shutIn_97 : decode bcX5_shutIn 97 = .ok (.iinc 6 1, 3) := dk_132 6 1 (dk_at dksX5_shutIn_4 3 rfl rfl)
theorem dX5_shutIn_100 : decode bcX5_shutIn 100 = .ok (.goto (-79), 3) := dk_167 255 177 (dk_at dksX5_shutIn_4 6 rfl rfl)
theorem dX5_shutIn_103 : decode bcX5_shutIn 103 = .ok (.iload_n 2, 1) := dk_28 (dk_at dksX5_shutIn_4 9 rfl rfl)
theorem dX5_shutIn_104 : decode bcX5_shutIn 104 = .ok (.iload 4, 2) := dk_21 4 (dk_at dksX5_shutIn_4 10 rfl rfl)
theorem dX5_shutIn_106 : decode bcX5_shutIn 106 = .ok (.ifCond .le 14, 3) := dk_158 0 14 (dk_at dksX5_shutIn_4 12 rfl rfl)
theorem dX5_shutIn_109 : decode bcX5_shutIn 109 = .ok (.iload 5, 2) := dk_21 5 (dk_at dksX5_shutIn_4 15 rfl rfl)
theorem dX5_shutIn_111 : decode bcX5_shutIn 111 = .ok (.ifCond .ne 9, 3) := dk_154 0 9 (dk_at dksX5_shutIn_4 17 rfl rfl)
theorem dX5_shutIn_114 : decode bcX5_shutIn 114 = .ok (.iconst 1, 1) := dk_4 (dk_at dksX5_shutIn_4 20 rfl rfl)
theorem dX5_shutIn_115 : decode bcX5_shutIn 115 = .ok (.iload_n 3, 1) := dk_29 (dk_at dksX5_shutIn_4 21 rfl rfl)
theorem dX5_shutIn_116 : decode bcX5_shutIn 116 = .ok (.ishl, 1) := dk_120 (dk_at dksX5_shutIn_4 22 rfl rfl)
theorem dX5_shutIn_117 : decode bcX5_shutIn 117 = .ok (.goto 4, 3) := dk_167 0 4 (dk_at dksX5_shutIn_5 0 rfl rfl)
theorem dX5_shutIn_120 : decode bcX5_shutIn 120 = .ok (.iconst 0, 1) := dk_3 (dk_at dksX5_shutIn_5 3 rfl rfl)
theorem dX5_shutIn_121 : decode bcX5_shutIn 121 = .ok (.ior, 1) := dk_128 (dk_at dksX5_shutIn_5 4 rfl rfl)
theorem dX5_shutIn_122 : decode bcX5_shutIn 122 = .ok (.istore_n 2, 1) := dk_61 (dk_at dksX5_shutIn_5 5 rfl rfl)
theorem dX5_shutIn_123 : decode bcX5_shutIn 123 = .ok (.iinc 3 1, 3) := dk_132 3 1 (dk_at dksX5_shutIn_5 6 rfl rfl)
theorem dX5_shutIn_126 : decode bcX5_shutIn 126 = .ok (.goto (-122), 3) := dk_167 255 134 (dk_at dksX5_shutIn_5 9 rfl rfl)
theorem dX5_shutIn_129 : decode bcX5_shutIn 129 = .ok (.iload_n 2, 1) := dk_28 (dk_at dksX5_shutIn_5 12 rfl rfl)
theorem dX5_shutIn_130 : decode bcX5_shutIn 130 = .ok (.ireturn, 1) := dk_172 (dk_at dksX5_shutIn_5 13 rfl rfl)
abbrev SX5_shutIn (pc : Nat) (i : xI) : Prop := Snd "SwollenHouseModel" "shutIn" prog_25_method_77_code 8 (Option.some Jvm.ClassFile.FieldType.int) [] pc i
theorem oX5_shutIn_0 : SX5_shutIn 0 (i_const (.int (nI 0)) 1) := snd_iconst dX5_shutIn_0 (by decide)
theorem oX5_shutIn_1 : SX5_shutIn 1 (i_istore 2 2) := snd_istore_n dX5_shutIn_1 rfl (by decide)
theorem oX5_shutIn_2 : SX5_shutIn 2 (i_const (.int (nI 0)) 3) := snd_iconst dX5_shutIn_2 (by decide)
theorem oX5_shutIn_3 : SX5_shutIn 3 (i_istore 3 4) := snd_istore_n dX5_shutIn_3 rfl (by decide)
theorem oX5_shutIn_4 : SX5_shutIn 4 (i_iload 3 5) := snd_iload_n dX5_shutIn_4 rfl
theorem oX5_shutIn_5 : SX5_shutIn 5 (i_aload 0 6) := snd_aload_n dX5_shutIn_5 rfl
theorem oX5_shutIn_6 : SX5_shutIn 6 (i_cv 4 252 0 9) := snd_cv rfl infX5_persons (by decide) rfl (xVm_V dX5_shutIn_6 rfl q1694 q1696 qs62 q136 q1697 pdX5_persons)
theorem oX5_shutIn_9 : SX5_shutIn 9 (i_if2 (fun x y => y ≤ x) 129 12) := snd_icmp_ge dX5_shutIn_9 (by decide)
theorem oX5_shutIn_12 : SX5_shutIn 12 (i_const (.int (nI 0)) 13) := snd_iconst dX5_shutIn_12 (by decide)
theorem oX5_shutIn_13 : SX5_shutIn 13 (i_istore 4 15) := snd_istore dX5_shutIn_13 (by decide)
theorem oX5_shutIn_15 : SX5_shutIn 15 (i_const (.int (nI 0)) 16) := snd_iconst dX5_shutIn_15 (by decide)
theorem oX5_shutIn_16 : SX5_shutIn 16 (i_istore 5 18) := snd_istore dX5_shutIn_16 (by decide)
theorem oX5_shutIn_18 : SX5_shutIn 18 (i_const (.int (nI 0)) 19) := snd_iconst dX5_shutIn_18 (by decide)
theorem oX5_shutIn_19 : SX5_shutIn 19 (i_istore 6 21) := snd_istore dX5_shutIn_19 (by decide)
theorem oX5_shutIn_21 : SX5_shutIn 21 (i_iload 6 23) := snd_iload dX5_shutIn_21
theorem oX5_shutIn_23 : SX5_shutIn 23 (i_aload 0 24) := snd_aload_n dX5_shutIn_23 rfl
theorem oX5_shutIn_24 : SX5_shutIn 24 (i_cv 4 250 0 27) := snd_cv rfl infX5_doors (by decide) rfl (xVm_V dX5_shutIn_24 rfl q1686 q1688 qs60 q136 q1689 pdX5_doors)
theorem oX5_shutIn_27 : SX5_shutIn 27 (i_if2 (fun x y => y ≤ x) 103 30) := snd_icmp_ge dX5_shutIn_27 (by decide)
theorem oX5_shutIn_30 : SX5_shutIn 30 (i_aload 0 31) := snd_aload_n dX5_shutIn_30 rfl
theorem oX5_shutIn_31 : SX5_shutIn 31 (i_iload 6 33) := snd_iload dX5_shutIn_31
theorem oX5_shutIn_33 : SX5_shutIn 33 (i_aload 0 34) := snd_aload_n dX5_shutIn_33 rfl
theorem oX5_shutIn_34 : SX5_shutIn 34 (i_getf 4 24 37) := snd_getf dX5_shutIn_34 rfl (by decide) in_X5 (Or.inl q1722) (Or.inl rfl) (by decide)
theorem oX5_shutIn_37 : SX5_shutIn 37 (i_iload 1 38) := snd_iload_n dX5_shutIn_37 rfl
theorem oX5_shutIn_38 : SX5_shutIn 38 (i_const (.int (nI 18)) 40) := snd_bipush dX5_shutIn_38 (by decide)
theorem oX5_shutIn_40 : SX5_shutIn 40 (i_ii (fun x y => x + y) 41) := snd_iadd dX5_shutIn_40
theorem oX5_shutIn_41 : SX5_shutIn 41 (i_iload 3 42) := snd_iload_n dX5_shutIn_41 rfl
theorem oX5_shutIn_42 : SX5_shutIn 42 (i_ii (fun x y => x + y) 43) := snd_iadd dX5_shutIn_42
theorem oX5_shutIn_43 : SX5_shutIn 43 (i_ai 0 44) := snd_ai0 dX5_shutIn_43
theorem oX5_shutIn_44 : SX5_shutIn 44 (i_cv 4 305 2 47) := snd_cv rfl infX5_behind (by decide) rfl (xVm_V dX5_shutIn_44 rfl q2001 q2003 qs103 q136 q2004 pdX5_behind)
theorem oX5_shutIn_47 : SX5_shutIn 47 (i_if1 (fun x => x < 0) 54 50) := snd_if_lt dX5_shutIn_47 (by decide)
theorem oX5_shutIn_50 : SX5_shutIn 50 (i_const (.int (nI 1)) 51) := snd_iconst dX5_shutIn_50 (by decide)
theorem oX5_shutIn_51 : SX5_shutIn 51 (i_goto 55) := snd_goto dX5_shutIn_51 (by decide)
theorem oX5_shutIn_54 : SX5_shutIn 54 (i_const (.int (nI 0)) 55) := snd_iconst dX5_shutIn_54 (by decide)
theorem oX5_shutIn_55 : SX5_shutIn 55 (i_istore 7 57) := snd_istore dX5_shutIn_55 (by decide)
theorem oX5_shutIn_57 : SX5_shutIn 57 (i_iload 4 59) := snd_iload dX5_shutIn_57
theorem oX5_shutIn_59 : SX5_shutIn 59 (i_iload 7 61) := snd_iload dX5_shutIn_59
theorem oX5_shutIn_61 : SX5_shutIn 61 (i_if1 (fun x => x = 0) 68 64) := snd_if_eq dX5_shutIn_61 (by decide)
theorem oX5_shutIn_64 : SX5_shutIn 64 (i_const (.int (nI 1)) 65) := snd_iconst dX5_shutIn_64 (by decide)
theorem oX5_shutIn_65 : SX5_shutIn 65 (i_goto 69) := snd_goto dX5_shutIn_65 (by decide)
theorem oX5_shutIn_68 : SX5_shutIn 68 (i_const (.int (nI 0)) 69) := snd_iconst dX5_shutIn_68 (by decide)
theorem oX5_shutIn_69 : SX5_shutIn 69 (i_ii (fun x y => x + y) 70) := snd_iadd dX5_shutIn_69
theorem oX5_shutIn_70 : SX5_shutIn 70 (i_istore 4 72) := snd_istore dX5_shutIn_70 (by decide)
theorem oX5_shutIn_72 : SX5_shutIn 72 (i_iload 5 74) := snd_iload dX5_shutIn_72
theorem oX5_shutIn_74 : SX5_shutIn 74 (i_iload 7 76) := snd_iload dX5_shutIn_74
theorem oX5_shutIn_76 : SX5_shutIn 76 (i_if1 (fun x => x = 0) 93 79) := snd_if_eq dX5_shutIn_76 (by decide)
theorem oX5_shutIn_79 : SX5_shutIn 79 (i_aload 0 80) := snd_aload_n dX5_shutIn_79 rfl
theorem oX5_shutIn_80 : SX5_shutIn 80 (i_iload 1 81) := snd_iload_n dX5_shutIn_80 rfl
theorem oX5_shutIn_81 : SX5_shutIn 81 (i_iload 6 83) := snd_iload dX5_shutIn_81
theorem oX5_shutIn_83 : SX5_shutIn 83 (i_cv 4 289 2 86) := snd_cv rfl infX5_doesStick (by decide) rfl (xVm_V dX5_shutIn_83 rfl q1938 q1940 qs91 q136 q1941 pdX5_doesStick)
theorem oX5_shutIn_86 : SX5_shutIn 86 (i_if1 (fun x => ¬ x = 0) 93 89) := snd_if_ne dX5_shutIn_86 (by decide)
theorem oX5_shutIn_89 : SX5_shutIn 89 (i_const (.int (nI 1)) 90) := snd_iconst dX5_shutIn_89 (by decide)
theorem oX5_shutIn_90 : SX5_shutIn 90 (i_goto 94) := snd_goto dX5_shutIn_90 (by decide)
theorem oX5_shutIn_93 : SX5_shutIn 93 (i_const (.int (nI 0)) 94) := snd_iconst dX5_shutIn_93 (by decide)
theorem oX5_shutIn_94 : SX5_shutIn 94 (i_ii (fun x y => x + y) 95) := snd_iadd dX5_shutIn_94
theorem oX5_shutIn_95 : SX5_shutIn 95 (i_istore 5 97) := snd_istore dX5_shutIn_95 (by decide)
theorem oX5_shutIn_97 : SX5_shutIn 97 (i_iinc 6 (nI 1) 100) := snd_iinc dX5_shutIn_97 (by decide) (by decide)
theorem oX5_shutIn_100 : SX5_shutIn 100 (i_goto 21) := snd_goto dX5_shutIn_100 (by decide)
theorem oX5_shutIn_103 : SX5_shutIn 103 (i_iload 2 104) := snd_iload_n dX5_shutIn_103 rfl
theorem oX5_shutIn_104 : SX5_shutIn 104 (i_iload 4 106) := snd_iload dX5_shutIn_104
theorem oX5_shutIn_106 : SX5_shutIn 106 (i_if1 (fun x => x ≤ 0) 120 109) := snd_if_le dX5_shutIn_106 (by decide)
theorem oX5_shutIn_109 : SX5_shutIn 109 (i_iload 5 111) := snd_iload dX5_shutIn_109
theorem oX5_shutIn_111 : SX5_shutIn 111 (i_if1 (fun x => ¬ x = 0) 120 114) := snd_if_ne dX5_shutIn_111 (by decide)
theorem oX5_shutIn_114 : SX5_shutIn 114 (i_const (.int (nI 1)) 115) := snd_iconst dX5_shutIn_114 (by decide)
theorem oX5_shutIn_115 : SX5_shutIn 115 (i_iload 3 116) := snd_iload_n dX5_shutIn_115 rfl
theorem oX5_shutIn_116 : SX5_shutIn 116 (i_ii (fun x y => x <<< (y &&& 31)) 117) := snd_ishl dX5_shutIn_116
theorem oX5_shutIn_117 : SX5_shutIn 117 (i_goto 121) := snd_goto dX5_shutIn_117 (by decide)
theorem oX5_shutIn_120 : SX5_shutIn 120 (i_const (.int (nI 0)) 121) := snd_iconst dX5_shutIn_120 (by decide)
theorem oX5_shutIn_121 : SX5_shutIn 121 (i_ii (fun x y => x ||| y) 122) := snd_ior dX5_shutIn_121
theorem oX5_shutIn_122 : SX5_shutIn 122 (i_istore 2 123) := snd_istore_n dX5_shutIn_122 rfl (by decide)
theorem oX5_shutIn_123 : SX5_shutIn 123 (i_iinc 3 (nI 1) 126) := snd_iinc dX5_shutIn_123 (by decide) (by decide)
theorem oX5_shutIn_126 : SX5_shutIn 126 (i_goto 4) := snd_goto dX5_shutIn_126 (by decide)
theorem oX5_shutIn_129 : SX5_shutIn 129 (i_iload 2 130) := snd_iload_n dX5_shutIn_129 rfl
theorem oX5_shutIn_130 : SX5_shutIn 130 (i_iret) := snd_iret dX5_shutIn_130 rfl
theorem okX5_shutIn : ∀ q ∈ cX5_shutIn, SX5_shutIn q.1 q.2 := List.forall_mem_cons.mpr ⟨oX5_shutIn_0, List.forall_mem_cons.mpr ⟨oX5_shutIn_1, List.forall_mem_cons.mpr ⟨oX5_shutIn_2, List.forall_mem_cons.mpr ⟨oX5_shutIn_3, List.forall_mem_cons.mpr ⟨oX5_shutIn_4, List.forall_mem_cons.mpr ⟨oX5_shutIn_5, List.forall_mem_cons.mpr ⟨oX5_shutIn_6, List.forall_mem_cons.mpr ⟨oX5_shutIn_9, List.forall_mem_cons.mpr ⟨oX5_shutIn_12, List.forall_mem_cons.mpr ⟨oX5_shutIn_13, List.forall_mem_cons.mpr ⟨oX5_shutIn_15, List.forall_mem_cons.mpr ⟨oX5_shutIn_16, List.forall_mem_cons.mpr ⟨oX5_shutIn_18, List.forall_mem_cons.mpr ⟨oX5_shutIn_19, List.forall_mem_cons.mpr ⟨oX5_shutIn_21, List.forall_mem_cons.mpr ⟨oX5_shutIn_23, List.forall_mem_cons.mpr ⟨oX5_shutIn_24, List.forall_mem_cons.mpr ⟨oX5_shutIn_27, List.forall_mem_cons.mpr ⟨oX5_shutIn_30, List.forall_mem_cons.mpr ⟨oX5_shutIn_31, List.forall_mem_cons.mpr ⟨oX5_shutIn_33, List.forall_mem_cons.mpr ⟨oX5_shutIn_34, List.forall_mem_cons.mpr ⟨oX5_shutIn_37, List.forall_mem_cons.mpr ⟨oX5_shutIn_38, List.forall_mem_cons.mpr ⟨oX5_shutIn_40, List.forall_mem_cons.mpr ⟨oX5_shutIn_41, List.forall_mem_cons.mpr ⟨oX5_shutIn_42, List.forall_mem_cons.mpr ⟨oX5_shutIn_43, List.forall_mem_cons.mpr ⟨oX5_shutIn_44, List.forall_mem_cons.mpr ⟨oX5_shutIn_47, List.forall_mem_cons.mpr ⟨oX5_shutIn_50, List.forall_mem_cons.mpr ⟨oX5_shutIn_51, List.forall_mem_cons.mpr ⟨oX5_shutIn_54, List.forall_mem_cons.mpr ⟨oX5_shutIn_55, List.forall_mem_cons.mpr ⟨oX5_shutIn_57, List.forall_mem_cons.mpr ⟨oX5_shutIn_59, List.forall_mem_cons.mpr ⟨oX5_shutIn_61, List.forall_mem_cons.mpr ⟨oX5_shutIn_64, List.forall_mem_cons.mpr ⟨oX5_shutIn_65, List.forall_mem_cons.mpr ⟨oX5_shutIn_68, List.forall_mem_cons.mpr ⟨oX5_shutIn_69, List.forall_mem_cons.mpr ⟨oX5_shutIn_70, List.forall_mem_cons.mpr ⟨oX5_shutIn_72, List.forall_mem_cons.mpr ⟨oX5_shutIn_74, List.forall_mem_cons.mpr ⟨oX5_shutIn_76, List.forall_mem_cons.mpr ⟨oX5_shutIn_79, List.forall_mem_cons.mpr ⟨oX5_shutIn_80, List.forall_mem_cons.mpr ⟨oX5_shutIn_81, List.forall_mem_cons.mpr ⟨oX5_shutIn_83, List.forall_mem_cons.mpr ⟨oX5_shutIn_86, List.forall_mem_cons.mpr ⟨oX5_shutIn_89, List.forall_mem_cons.mpr ⟨oX5_shutIn_90, List.forall_mem_cons.mpr ⟨oX5_shutIn_93, List.forall_mem_cons.mpr ⟨oX5_shutIn_94, List.forall_mem_cons.mpr ⟨oX5_shutIn_95, List.forall_mem_cons.mpr ⟨oX5_shutIn_97, List.forall_mem_cons.mpr ⟨oX5_shutIn_100, List.forall_mem_cons.mpr ⟨oX5_shutIn_103, List.forall_mem_cons.mpr ⟨oX5_shutIn_104, List.forall_mem_cons.mpr ⟨oX5_shutIn_106, List.forall_mem_cons.mpr ⟨oX5_shutIn_109, List.forall_mem_cons.mpr ⟨oX5_shutIn_111, List.forall_mem_cons.mpr ⟨oX5_shutIn_114, List.forall_mem_cons.mpr ⟨oX5_shutIn_115, List.forall_mem_cons.mpr ⟨oX5_shutIn_116, List.forall_mem_cons.mpr ⟨oX5_shutIn_117, List.forall_mem_cons.mpr ⟨oX5_shutIn_120, List.forall_mem_cons.mpr ⟨oX5_shutIn_121, List.forall_mem_cons.mpr ⟨oX5_shutIn_122, List.forall_mem_cons.mpr ⟨oX5_shutIn_123, List.forall_mem_cons.mpr ⟨oX5_shutIn_126, List.forall_mem_cons.mpr ⟨oX5_shutIn_129, List.forall_mem_cons.mpr ⟨oX5_shutIn_130, fun _ h => absurd h List.not_mem_nil⟩⟩⟩⟩⟩⟩⟩⟩⟩⟩⟩⟩⟩⟩⟩⟩⟩⟩⟩⟩⟩⟩⟩⟩⟩⟩⟩⟩⟩⟩⟩⟩⟩⟩⟩⟩⟩⟩⟩⟩⟩⟩⟩⟩⟩⟩⟩⟩⟩⟩⟩⟩⟩⟩⟩⟩⟩⟩⟩⟩⟩⟩⟩⟩⟩⟩⟩⟩⟩⟩⟩⟩⟩
def dkwX5_bits_1 : List UInt8 := [27, 172]
abbrev dktX5_bits_1 : List UInt8 := dkwX5_bits_1 ++ []
def dkwX5_bits_0 : List UInt8 := [3, 60, 3, 61, 28, 16, 30, 162, 0, 17, 27, 26, 28, 122, 4, 126, 96, 60, 132, 2, 1, 167, 255, 239]
abbrev dktX5_bits_0 : List UInt8 := dkwX5_bits_0 ++ dktX5_bits_1
theorem dksX5_bits_0 : bcX5_bits.data.toList.drop 0 = dktX5_bits_0 := by decide +kernel
theorem dksX5_bits_1 : bcX5_bits.data.toList.drop 24 = dktX5_bits_1 := dk_seg dksX5_bits_0 24 rfl rfl
theorem dX5_bits_0 : decode bcX5_bits 0 = .ok (.iconst 0, 1) := dk_3 (dk_at dksX5_bits_0 0 rfl rfl)
theorem dX5_bits_1 : decode bcX5_bits 1 = .ok (.istore_n 1, 1) := dk_60 (dk_at dksX5_bits_0 1 rfl rfl)
theorem dX5_bits_2 : decode bcX5_bits 2 = .ok (.iconst 0, 1) := dk_3 (dk_at dksX5_bits_0 2 rfl rfl)
theorem dX5_bits_3 : decode bcX5_bits 3 = .ok (.istore_n 2, 1) := dk_61 (dk_at dksX5_bits_0 3 rfl rfl)
theorem dX5_bits_4 : decode bcX5_bits 4 = .ok (.iload_n 2, 1) := dk_28 (dk_at dksX5_bits_0 4 rfl rfl)
theorem dX5_bits_5 : decode bcX5_bits 5 = .ok (.bipush 30, 2) := dk_16 30 (dk_at dksX5_bits_0 5 rfl rfl)
theorem dX5_bits_7 : decode bcX5_bits 7 = .ok (.if_icmp .ge 17, 3) := dk_162 0 17 (dk_at dksX5_bits_0 7 rfl rfl)
theorem dX5_bits_10 : decode bcX5_bits 10 = .ok (.iload_n 1, 1) := dk_27 (dk_at dksX5_bits_0 10 rfl rfl)
theorem dX5_bits_11 : decode bcX5_bits 11 = .ok (.iload_n 0, 1) := dk_26 (dk_at dksX5_bits_0 11 rfl rfl)
theorem dX5_bits_12 : decode bcX5_bits 12 = .ok (.iload_n 2, 1) := dk_28 (dk_at dksX5_bits_0 12 rfl rfl)
theorem dX5_bits_13 : decode bcX5_bits 13 = .ok (.ishr, 1) := dk_122 (dk_at dksX5_bits_0 13 rfl rfl)
theorem dX5_bits_14 : decode bcX5_bits 14 = .ok (.iconst 1, 1) := dk_4 (dk_at dksX5_bits_0 14 rfl rfl)
theorem dX5_bits_15 : decode bcX5_bits 15 = .ok (.iand, 1) := dk_126 (dk_at dksX5_bits_0 15 rfl rfl)
theorem dX5_bits_16 : decode bcX5_bits 16 = .ok (.iadd, 1) := dk_96 (dk_at dksX5_bits_0 16 rfl rfl)
theorem dX5_bits_17 : decode bcX5_bits 17 = .ok (.istore_n 1, 1) := dk_60 (dk_at dksX5_bits_0 17 rfl rfl)
theorem dX5_bits_18 : decode bcX5_bits 18 = .ok (.iinc 2 1, 3) := dk_132 2 1 (dk_at dksX5_bits_0 18 rfl rfl)
theorem dX5_bits_21 : decode bcX5_bits 21 = .ok (.goto (-17), 3) := dk_167 255 239 (dk_at dksX5_bits_0 21 rfl rfl)
theorem dX5_bits_24 : decode bcX5_bits 24 = .ok (.iload_n 1, 1) := dk_27 (dk_at dksX5_bits_1 0 rfl rfl)
theorem dX5_bits_25 : decode bcX5_bits 25 = .ok (.ireturn, 1) := dk_172 (dk_at dksX5_bits_1 1 rfl rfl)
abbrev SX5_bits (pc : Nat) (i : xI) : Prop := Snd "SwollenHouseModel" "bits" prog_25_method_65_code 3 (Option.some Jvm.ClassFile.FieldType.int) [] pc i
theorem oX5_bits_0 : SX5_bits 0 (i_const (.int (nI 0)) 1) := snd_iconst dX5_bits_0 (by decide)
theorem oX5_bits_1 : SX5_bits 1 (i_istore 1 2) := snd_istore_n dX5_bits_1 rfl (by decide)
theorem oX5_bits_2 : SX5_bits 2 (i_const (.int (nI 0)) 3) := snd_iconst dX5_bits_2 (by decide)
theorem oX5_bits_3 : SX5_bits 3 (i_istore 2 4) := snd_istore_n dX5_bits_3 rfl (by decide)
theorem oX5_bits_4 : SX5_bits 4 (i_iload 2 5) := snd_iload_n dX5_bits_4 rfl
theorem oX5_bits_5 : SX5_bits 5 (i_const (.int (nI 30)) 7) := snd_bipush dX5_bits_5 (by decide)
theorem oX5_bits_7 : SX5_bits 7 (i_if2 (fun x y => y ≤ x) 24 10) := snd_icmp_ge dX5_bits_7 (by decide)
theorem oX5_bits_10 : SX5_bits 10 (i_iload 1 11) := snd_iload_n dX5_bits_10 rfl
theorem oX5_bits_11 : SX5_bits 11 (i_iload 0 12) := snd_iload_n dX5_bits_11 rfl
theorem oX5_bits_12 : SX5_bits 12 (i_iload 2 13) := snd_iload_n dX5_bits_12 rfl
theorem oX5_bits_13 : SX5_bits 13 (i_ii (fun x y => x >>> (y &&& 31)) 14) := snd_ishr dX5_bits_13
theorem oX5_bits_14 : SX5_bits 14 (i_const (.int (nI 1)) 15) := snd_iconst dX5_bits_14 (by decide)
theorem oX5_bits_15 : SX5_bits 15 (i_ii (fun x y => x &&& y) 16) := snd_iand dX5_bits_15
theorem oX5_bits_16 : SX5_bits 16 (i_ii (fun x y => x + y) 17) := snd_iadd dX5_bits_16
theorem oX5_bits_17 : SX5_bits 17 (i_istore 1 18) := snd_istore_n dX5_bits_17 rfl (by decide)
theorem oX5_bits_18 : SX5_bits 18 (i_iinc 2 (nI 1) 21) := snd_iinc dX5_bits_18 (by decide) (by decide)
theorem oX5_bits_21 : SX5_bits 21 (i_goto 4) := snd_goto dX5_bits_21 (by decide)
theorem oX5_bits_24 : SX5_bits 24 (i_iload 1 25) := snd_iload_n dX5_bits_24 rfl
theorem oX5_bits_25 : SX5_bits 25 (i_iret) := snd_iret dX5_bits_25 rfl
theorem okX5_bits : ∀ q ∈ cX5_bits, SX5_bits q.1 q.2 := List.forall_mem_cons.mpr ⟨oX5_bits_0, List.forall_mem_cons.mpr ⟨oX5_bits_1, List.forall_mem_cons.mpr ⟨oX5_bits_2, List.forall_mem_cons.mpr ⟨oX5_bits_3, List.forall_mem_cons.mpr ⟨oX5_bits_4, List.forall_mem_cons.mpr ⟨oX5_bits_5, List.forall_mem_cons.mpr ⟨oX5_bits_7, List.forall_mem_cons.mpr ⟨oX5_bits_10, List.forall_mem_cons.mpr ⟨oX5_bits_11, List.forall_mem_cons.mpr ⟨oX5_bits_12, List.forall_mem_cons.mpr ⟨oX5_bits_13, List.forall_mem_cons.mpr ⟨oX5_bits_14, List.forall_mem_cons.mpr ⟨oX5_bits_15, List.forall_mem_cons.mpr ⟨oX5_bits_16, List.forall_mem_cons.mpr ⟨oX5_bits_17, List.forall_mem_cons.mpr ⟨oX5_bits_18, List.forall_mem_cons.mpr ⟨oX5_bits_21, List.forall_mem_cons.mpr ⟨oX5_bits_24, List.forall_mem_cons.mpr ⟨oX5_bits_25, fun _ h => absurd h List.not_mem_nil⟩⟩⟩⟩⟩⟩⟩⟩⟩⟩⟩⟩⟩⟩⟩⟩⟩⟩⟩
def dkwX5_shut_0 : List UInt8 := [42, 3, 181, 0, 1, 42, 3, 182, 1, 92, 172]
abbrev dktX5_shut_0 : List UInt8 := dkwX5_shut_0 ++ []
theorem dksX5_shut_0 : bcX5_shut.data.toList.drop 0 = dktX5_shut_0 := by decide +kernel
theorem dX5_shut_0 : decode bcX5_shut 0 = .ok (.aload_n 0, 1) := dk_42 (dk_at dksX5_shut_0 0 rfl rfl)
theorem dX5_shut_1 : decode bcX5_shut 1 = .ok (.iconst 0, 1) := dk_3 (dk_at dksX5_shut_0 1 rfl rfl)
theorem dX5_shut_2 : decode bcX5_shut 2 = .ok (.putfield 1, 3) := dk_181 0 1 (dk_at dksX5_shut_0 2 rfl rfl)
theorem dX5_shut_5 : decode bcX5_shut 5 = .ok (.aload_n 0, 1) := dk_42 (dk_at dksX5_shut_0 5 rfl rfl)
theorem dX5_shut_6 : decode bcX5_shut 6 = .ok (.iconst 0, 1) := dk_3 (dk_at dksX5_shut_0 6 rfl rfl)
theorem dX5_shut_7 : decode bcX5_shut 7 = .ok (.invokevirtual 348, 3) := dk_182 1 92 (dk_at dksX5_shut_0 7 rfl rfl)
theorem dX5_shut_10 : decode bcX5_shut 10 = .ok (.ireturn, 1) := dk_172 (dk_at dksX5_shut_0 10 rfl rfl)
abbrev SX5_shut (pc : Nat) (i : xI) : Prop := Snd "SwollenHouseModel" "shut" prog_25_method_78_code 1 (Option.some Jvm.ClassFile.FieldType.int) [] pc i
theorem oX5_shut_0 : SX5_shut 0 (i_aload 0 1) := snd_aload_n dX5_shut_0 rfl
theorem oX5_shut_1 : SX5_shut 1 (i_const (.int (nI 0)) 2) := snd_iconst dX5_shut_1 (by decide)
theorem oX5_shut_2 : SX5_shut 2 (i_putfi 4 0 5) := snd_putfi dX5_shut_2 rfl (by decide) in_X5 tyX5 tyX5_ok nmX5 (Or.inl ⟨rfl, q1698⟩) (Or.inl rfl) rfl
theorem oX5_shut_5 : SX5_shut 5 (i_aload 0 6) := snd_aload_n dX5_shut_5 rfl
theorem oX5_shut_6 : SX5_shut 6 (i_const (.int (nI 0)) 7) := snd_iconst dX5_shut_6 (by decide)
theorem oX5_shut_7 : SX5_shut 7 (i_cv 4 315 1 10) := snd_cv rfl infX5_shutIn (by decide) rfl (xVm_V dX5_shut_7 rfl q2041 q2043 qs108 q136 q2044 pdX5_shutIn)
theorem oX5_shut_10 : SX5_shut 10 (i_iret) := snd_iret dX5_shut_10 rfl
theorem okX5_shut : ∀ q ∈ cX5_shut, SX5_shut q.1 q.2 := List.forall_mem_cons.mpr ⟨oX5_shut_0, List.forall_mem_cons.mpr ⟨oX5_shut_1, List.forall_mem_cons.mpr ⟨oX5_shut_2, List.forall_mem_cons.mpr ⟨oX5_shut_5, List.forall_mem_cons.mpr ⟨oX5_shut_6, List.forall_mem_cons.mpr ⟨oX5_shut_7, List.forall_mem_cons.mpr ⟨oX5_shut_10, fun _ h => absurd h List.not_mem_nil⟩⟩⟩⟩⟩⟩⟩
def dkwX5_range_1 : List UInt8 := [167, 0, 4, 2, 172]
abbrev dktX5_range_1 : List UInt8 := dkwX5_range_1 ++ []
def dkwX5_range_0 : List UInt8 := [42, 3, 181, 0, 1, 42, 27, 182, 1, 101, 153, 0, 16, 42, 27, 42, 3, 182, 1, 104, 182, 1, 107]
abbrev dktX5_range_0 : List UInt8 := dkwX5_range_0 ++ dktX5_range_1
theorem dksX5_range_0 : bcX5_range.data.toList.drop 0 = dktX5_range_0 := by decide +kernel
theorem dksX5_range_1 : bcX5_range.data.toList.drop 23 = dktX5_range_1 := dk_seg dksX5_range_0 23 rfl rfl
theorem dX5_range_0 : decode bcX5_range 0 = .ok (.aload_n 0, 1) := dk_42 (dk_at dksX5_range_0 0 rfl rfl)
theorem dX5_range_1 : decode bcX5_range 1 = .ok (.iconst 0, 1) := dk_3 (dk_at dksX5_range_0 1 rfl rfl)
theorem dX5_range_2 : decode bcX5_range 2 = .ok (.putfield 1, 3) := dk_181 0 1 (dk_at dksX5_range_0 2 rfl rfl)
theorem dX5_range_5 : decode bcX5_range 5 = .ok (.aload_n 0, 1) := dk_42 (dk_at dksX5_range_0 5 rfl rfl)
theorem dX5_range_6 : decode bcX5_range 6 = .ok (.iload_n 1, 1) := dk_27 (dk_at dksX5_range_0 6 rfl rfl)
theorem dX5_range_7 : decode bcX5_range 7 = .ok (.invokevirtual 357, 3) := dk_182 1 101 (dk_at dksX5_range_0 7 rfl rfl)
theorem dX5_range_10 : decode bcX5_range 10 = .ok (.ifCond .eq 16, 3) := dk_153 0 16 (dk_at dksX5_range_0 10 rfl rfl)
theorem dX5_range_13 : decode bcX5_range 13 = .ok (.aload_n 0, 1) := dk_42 (dk_at dksX5_range_0 13 rfl rfl)
theorem dX5_range_14 : decode bcX5_range 14 = .ok (.iload_n 1, 1) := dk_27 (dk_at dksX5_range_0 14 rfl rfl)
theorem dX5_range_15 : decode bcX5_range 15 = .ok (.aload_n 0, 1) := dk_42 (dk_at dksX5_range_0 15 rfl rfl)
theorem dX5_range_16 : decode bcX5_range 16 = .ok (.iconst 0, 1) := dk_3 (dk_at dksX5_range_0 16 rfl rfl)
theorem dX5_range_17 : decode bcX5_range 17 = .ok (.invokevirtual 360, 3) := dk_182 1 104 (dk_at dksX5_range_0 17 rfl rfl)
theorem dX5_range_20 : decode bcX5_range 20 = .ok (.invokevirtual 363, 3) := dk_182 1 107 (dk_at dksX5_range_0 20 rfl rfl)
theorem dX5_range_23 : decode bcX5_range 23 = .ok (.goto 4, 3) := dk_167 0 4 (dk_at dksX5_range_1 0 rfl rfl)
theorem dX5_range_26 : decode bcX5_range 26 = .ok (.iconst (-1), 1) := dk_2 (dk_at dksX5_range_1 3 rfl rfl)
theorem dX5_range_27 : decode bcX5_range 27 = .ok (.ireturn, 1) := dk_172 (dk_at dksX5_range_1 4 rfl rfl)
abbrev SX5_range (pc : Nat) (i : xI) : Prop := Snd "SwollenHouseModel" "range" prog_25_method_82_code 2 (Option.some Jvm.ClassFile.FieldType.int) [] pc i
theorem oX5_range_0 : SX5_range 0 (i_aload 0 1) := snd_aload_n dX5_range_0 rfl
theorem oX5_range_1 : SX5_range 1 (i_const (.int (nI 0)) 2) := snd_iconst dX5_range_1 (by decide)
theorem oX5_range_2 : SX5_range 2 (i_putfi 4 0 5) := snd_putfi dX5_range_2 rfl (by decide) in_X5 tyX5 tyX5_ok nmX5 (Or.inl ⟨rfl, q1698⟩) (Or.inl rfl) rfl
theorem oX5_range_5 : SX5_range 5 (i_aload 0 6) := snd_aload_n dX5_range_5 rfl
theorem oX5_range_6 : SX5_range 6 (i_iload 1 7) := snd_iload_n dX5_range_6 rfl
theorem oX5_range_7 : SX5_range 7 (i_cv 4 319 1 10) := snd_cv rfl infX5_isRoom (by decide) rfl (xVm_V dX5_range_7 rfl q2056 q2058 qs109 q136 q2059 pdX5_isRoom)
theorem oX5_range_10 : SX5_range 10 (i_if1 (fun x => x = 0) 26 13) := snd_if_eq dX5_range_10 (by decide)
theorem oX5_range_13 : SX5_range 13 (i_aload 0 14) := snd_aload_n dX5_range_13 rfl
theorem oX5_range_14 : SX5_range 14 (i_iload 1 15) := snd_iload_n dX5_range_14 rfl
theorem oX5_range_15 : SX5_range 15 (i_aload 0 16) := snd_aload_n dX5_range_15 rfl
theorem oX5_range_16 : SX5_range 16 (i_const (.int (nI 0)) 17) := snd_iconst dX5_range_16 (by decide)
theorem oX5_range_17 : SX5_range 17 (i_cv 4 321 1 20) := snd_cv rfl infX5_openNow (by decide) rfl (xVm_V dX5_range_17 rfl q2064 q2066 qs111 q136 q2067 pdX5_openNow)
theorem oX5_range_20 : SX5_range 20 (i_cv 4 322 2 23) := snd_cv rfl infX5_rangeBy (by decide) rfl (xVm_V dX5_range_20 rfl q2068 q2070 qs112 q136 q2071 pdX5_rangeBy)
theorem oX5_range_23 : SX5_range 23 (i_goto 27) := snd_goto dX5_range_23 (by decide)
theorem oX5_range_26 : SX5_range 26 (i_const (.int (-1)) 27) := snd_iconst dX5_range_26 (by decide)
theorem oX5_range_27 : SX5_range 27 (i_iret) := snd_iret dX5_range_27 rfl
theorem okX5_range : ∀ q ∈ cX5_range, SX5_range q.1 q.2 := List.forall_mem_cons.mpr ⟨oX5_range_0, List.forall_mem_cons.mpr ⟨oX5_range_1, List.forall_mem_cons.mpr ⟨oX5_range_2, List.forall_mem_cons.mpr ⟨oX5_range_5, List.forall_mem_cons.mpr ⟨oX5_range_6, List.forall_mem_cons.mpr ⟨oX5_range_7, List.forall_mem_cons.mpr ⟨oX5_range_10, List.forall_mem_cons.mpr ⟨oX5_range_13, List.forall_mem_cons.mpr ⟨oX5_range_14, List.forall_mem_cons.mpr ⟨oX5_range_15, List.forall_mem_cons.mpr ⟨oX5_range_16, List.forall_mem_cons.mpr ⟨oX5_range_17, List.forall_mem_cons.mpr ⟨oX5_range_20, List.forall_mem_cons.mpr ⟨oX5_range_23, List.forall_mem_cons.mpr ⟨oX5_range_26, List.forall_mem_cons.mpr ⟨oX5_range_27, fun _ h => absurd h List.not_mem_nil⟩⟩⟩⟩⟩⟩⟩⟩⟩⟩⟩⟩⟩⟩⟩⟩
def dkwX5_isRoom_0 : List UInt8 := [27, 155, 0, 15, 27, 42, 182, 1, 35, 162, 0, 7, 4, 167, 0, 4, 3, 172]
abbrev dktX5_isRoom_0 : List UInt8 := dkwX5_isRoom_0 ++ []
theorem dksX5_isRoom_0 : bcX5_isRoom.data.toList.drop 0 = dktX5_isRoom_0 := by decide +kernel
theorem dX5_isRoom_0 : decode bcX5_isRoom 0 = .ok (.iload_n 1, 1) := dk_27 (dk_at dksX5_isRoom_0 0 rfl rfl)
theorem dX5_isRoom_1 : decode bcX5_isRoom 1 = .ok (.ifCond .lt 15, 3) := dk_155 0 15 (dk_at dksX5_isRoom_0 1 rfl rfl)
theorem dX5_isRoom_4 : decode bcX5_isRoom 4 = .ok (.iload_n 1, 1) := dk_27 (dk_at dksX5_isRoom_0 4 rfl rfl)
theorem dX5_isRoom_5 : decode bcX5_isRoom 5 = .ok (.aload_n 0, 1) := dk_42 (dk_at dksX5_isRoom_0 5 rfl rfl)
theorem dX5_isRoom_6 : decode bcX5_isRoom 6 = .ok (.invokevirtual 291, 3) := dk_182 1 35 (dk_at dksX5_isRoom_0 6 rfl rfl)
theorem dX5_isRoom_9 : decode bcX5_isRoom 9 = .ok (.if_icmp .ge 7, 3) := dk_162 0 7 (dk_at dksX5_isRoom_0 9 rfl rfl)
theorem dX5_isRoom_12 : decode bcX5_isRoom 12 = .ok (.iconst 1, 1) := dk_4 (dk_at dksX5_isRoom_0 12 rfl rfl)
theorem dX5_isRoom_13 : decode bcX5_isRoom 13 = .ok (.goto 4, 3) := dk_167 0 4 (dk_at dksX5_isRoom_0 13 rfl rfl)
theorem dX5_isRoom_16 : decode bcX5_isRoom 16 = .ok (.iconst 0, 1) := dk_3 (dk_at dksX5_isRoom_0 16 rfl rfl)
theorem dX5_isRoom_17 : decode bcX5_isRoom 17 = .ok (.ireturn, 1) := dk_172 (dk_at dksX5_isRoom_0 17 rfl rfl)
abbrev SX5_isRoom (pc : Nat) (i : xI) : Prop := Snd "SwollenHouseModel" "isRoom" prog_25_method_49_code 2 (Option.some Jvm.ClassFile.FieldType.boolean) [] pc i
theorem oX5_isRoom_0 : SX5_isRoom 0 (i_iload 1 1) := snd_iload_n dX5_isRoom_0 rfl
theorem oX5_isRoom_1 : SX5_isRoom 1 (i_if1 (fun x => x < 0) 16 4) := snd_if_lt dX5_isRoom_1 (by decide)
theorem oX5_isRoom_4 : SX5_isRoom 4 (i_iload 1 5) := snd_iload_n dX5_isRoom_4 rfl
theorem oX5_isRoom_5 : SX5_isRoom 5 (i_aload 0 6) := snd_aload_n dX5_isRoom_5 rfl
theorem oX5_isRoom_6 : SX5_isRoom 6 (i_cv 4 320 0 9) := snd_cv rfl infX5_rooms (by decide) rfl (xVm_V dX5_isRoom_6 rfl q2060 q2062 qs110 q136 q2063 pdX5_rooms)
theorem oX5_isRoom_9 : SX5_isRoom 9 (i_if2 (fun x y => y ≤ x) 16 12) := snd_icmp_ge dX5_isRoom_9 (by decide)
theorem oX5_isRoom_12 : SX5_isRoom 12 (i_const (.int (nI 1)) 13) := snd_iconst dX5_isRoom_12 (by decide)
theorem oX5_isRoom_13 : SX5_isRoom 13 (i_goto 17) := snd_goto dX5_isRoom_13 (by decide)
theorem oX5_isRoom_16 : SX5_isRoom 16 (i_const (.int (nI 0)) 17) := snd_iconst dX5_isRoom_16 (by decide)
theorem oX5_isRoom_17 : SX5_isRoom 17 (i_zret) := snd_zret dX5_isRoom_17 rfl
theorem okX5_isRoom : ∀ q ∈ cX5_isRoom, SX5_isRoom q.1 q.2 := List.forall_mem_cons.mpr ⟨oX5_isRoom_0, List.forall_mem_cons.mpr ⟨oX5_isRoom_1, List.forall_mem_cons.mpr ⟨oX5_isRoom_4, List.forall_mem_cons.mpr ⟨oX5_isRoom_5, List.forall_mem_cons.mpr ⟨oX5_isRoom_6, List.forall_mem_cons.mpr ⟨oX5_isRoom_9, List.forall_mem_cons.mpr ⟨oX5_isRoom_12, List.forall_mem_cons.mpr ⟨oX5_isRoom_13, List.forall_mem_cons.mpr ⟨oX5_isRoom_16, List.forall_mem_cons.mpr ⟨oX5_isRoom_17, fun _ h => absurd h List.not_mem_nil⟩⟩⟩⟩⟩⟩⟩⟩⟩⟩
def dkwX5_rooms_0 : List UInt8 := [42, 180, 0, 83, 3, 46, 172]
abbrev dktX5_rooms_0 : List UInt8 := dkwX5_rooms_0 ++ []
theorem dksX5_rooms_0 : bcX5_rooms.data.toList.drop 0 = dktX5_rooms_0 := by decide +kernel
theorem dX5_rooms_0 : decode bcX5_rooms 0 = .ok (.aload_n 0, 1) := dk_42 (dk_at dksX5_rooms_0 0 rfl rfl)
theorem dX5_rooms_1 : decode bcX5_rooms 1 = .ok (.getfield 83, 3) := dk_180 0 83 (dk_at dksX5_rooms_0 1 rfl rfl)
theorem dX5_rooms_4 : decode bcX5_rooms 4 = .ok (.iconst 0, 1) := dk_3 (dk_at dksX5_rooms_0 4 rfl rfl)
theorem dX5_rooms_5 : decode bcX5_rooms 5 = .ok (.iaload, 1) := dk_46 (dk_at dksX5_rooms_0 5 rfl rfl)
theorem dX5_rooms_6 : decode bcX5_rooms 6 = .ok (.ireturn, 1) := dk_172 (dk_at dksX5_rooms_0 6 rfl rfl)
abbrev SX5_rooms (pc : Nat) (i : xI) : Prop := Snd "SwollenHouseModel" "rooms" prog_25_method_45_code 1 (Option.some Jvm.ClassFile.FieldType.int) [] pc i
theorem oX5_rooms_0 : SX5_rooms 0 (i_aload 0 1) := snd_aload_n dX5_rooms_0 rfl
theorem oX5_rooms_1 : SX5_rooms 1 (i_getf 4 10 4) := snd_getf dX5_rooms_1 rfl (by decide) in_X5 (Or.inl q1708) (Or.inl rfl) (by decide)
theorem oX5_rooms_4 : SX5_rooms 4 (i_const (.int (nI 0)) 5) := snd_iconst dX5_rooms_4 (by decide)
theorem oX5_rooms_5 : SX5_rooms 5 (i_ai 0 6) := snd_ai0 dX5_rooms_5
theorem oX5_rooms_6 : SX5_rooms 6 (i_iret) := snd_iret dX5_rooms_6 rfl
theorem okX5_rooms : ∀ q ∈ cX5_rooms, SX5_rooms q.1 q.2 := List.forall_mem_cons.mpr ⟨oX5_rooms_0, List.forall_mem_cons.mpr ⟨oX5_rooms_1, List.forall_mem_cons.mpr ⟨oX5_rooms_4, List.forall_mem_cons.mpr ⟨oX5_rooms_5, List.forall_mem_cons.mpr ⟨oX5_rooms_6, fun _ h => absurd h List.not_mem_nil⟩⟩⟩⟩⟩
def dkwX5_openNow_0 : List UInt8 := [4, 42, 182, 1, 16, 120, 4, 100, 42, 27, 182, 1, 74, 2, 130, 126, 172]
abbrev dktX5_openNow_0 : List UInt8 := dkwX5_openNow_0 ++ []
theorem dksX5_openNow_0 : bcX5_openNow.data.toList.drop 0 = dktX5_openNow_0 := by decide +kernel
theorem dX5_openNow_0 : decode bcX5_openNow 0 = .ok (.iconst 1, 1) := dk_4 (dk_at dksX5_openNow_0 0 rfl rfl)
theorem dX5_openNow_1 : decode bcX5_openNow 1 = .ok (.aload_n 0, 1) := dk_42 (dk_at dksX5_openNow_0 1 rfl rfl)
theorem dX5_openNow_2 : decode bcX5_openNow 2 = .ok (.invokevirtual 272, 3) := dk_182 1 16 (dk_at dksX5_openNow_0 2 rfl rfl)
theorem dX5_openNow_5 : decode bcX5_openNow 5 = .ok (.ishl, 1) := dk_120 (dk_at dksX5_openNow_0 5 rfl rfl)
theorem dX5_openNow_6 : decode bcX5_openNow 6 = .ok (.iconst 1, 1) := dk_4 (dk_at dksX5_openNow_0 6 rfl rfl)
theorem dX5_openNow_7 : decode bcX5_openNow 7 = .ok (.isub, 1) := dk_100 (dk_at dksX5_openNow_0 7 rfl rfl)
theorem dX5_openNow_8 : decode bcX5_openNow 8 = .ok (.aload_n 0, 1) := dk_42 (dk_at dksX5_openNow_0 8 rfl rfl)
theorem dX5_openNow_9 : decode bcX5_openNow 9 = .ok (.iload_n 1, 1) := dk_27 (dk_at dksX5_openNow_0 9 rfl rfl)
theorem dX5_openNow_10 : decode bcX5_openNow 10 = .ok (.invokevirtual 330, 3) := dk_182 1 74 (dk_at dksX5_openNow_0 10 rfl rfl)
theorem dX5_openNow_13 : decode bcX5_openNow 13 = .ok (.iconst (-1), 1) := dk_2 (dk_at dksX5_openNow_0 13 rfl rfl)
theorem dX5_openNow_14 : decode bcX5_openNow 14 = .ok (.ixor, 1) := dk_130 (dk_at dksX5_openNow_0 14 rfl rfl)
theorem dX5_openNow_15 : decode bcX5_openNow 15 = .ok (.iand, 1) := dk_126 (dk_at dksX5_openNow_0 15 rfl rfl)
theorem dX5_openNow_16 : decode bcX5_openNow 16 = .ok (.ireturn, 1) := dk_172 (dk_at dksX5_openNow_0 16 rfl rfl)
abbrev SX5_openNow (pc : Nat) (i : xI) : Prop := Snd "SwollenHouseModel" "openNow" prog_25_method_81_code 2 (Option.some Jvm.ClassFile.FieldType.int) [] pc i
theorem oX5_openNow_0 : SX5_openNow 0 (i_const (.int (nI 1)) 1) := snd_iconst dX5_openNow_0 (by decide)
theorem oX5_openNow_1 : SX5_openNow 1 (i_aload 0 2) := snd_aload_n dX5_openNow_1 rfl
theorem oX5_openNow_2 : SX5_openNow 2 (i_cv 4 250 0 5) := snd_cv rfl infX5_doors (by decide) rfl (xVm_V dX5_openNow_2 rfl q1686 q1688 qs60 q136 q1689 pdX5_doors)
theorem oX5_openNow_5 : SX5_openNow 5 (i_ii (fun x y => x <<< (y &&& 31)) 6) := snd_ishl dX5_openNow_5
theorem oX5_openNow_6 : SX5_openNow 6 (i_const (.int (nI 1)) 7) := snd_iconst dX5_openNow_6 (by decide)
theorem oX5_openNow_7 : SX5_openNow 7 (i_ii (fun x y => x - y) 8) := snd_isub dX5_openNow_7
theorem oX5_openNow_8 : SX5_openNow 8 (i_aload 0 9) := snd_aload_n dX5_openNow_8 rfl
theorem oX5_openNow_9 : SX5_openNow 9 (i_iload 1 10) := snd_iload_n dX5_openNow_9 rfl
theorem oX5_openNow_10 : SX5_openNow 10 (i_cv 4 302 1 13) := snd_cv rfl infX5_sticking (by decide) rfl (xVm_V dX5_openNow_10 rfl q1989 q1991 qs101 q136 q1992 pdX5_sticking)
theorem oX5_openNow_13 : SX5_openNow 13 (i_const (.int (-1)) 14) := snd_iconst dX5_openNow_13 (by decide)
theorem oX5_openNow_14 : SX5_openNow 14 (i_ii (fun x y => x ^^^ y) 15) := snd_ixor dX5_openNow_14
theorem oX5_openNow_15 : SX5_openNow 15 (i_ii (fun x y => x &&& y) 16) := snd_iand dX5_openNow_15
theorem oX5_openNow_16 : SX5_openNow 16 (i_iret) := snd_iret dX5_openNow_16 rfl
theorem okX5_openNow : ∀ q ∈ cX5_openNow, SX5_openNow q.1 q.2 := List.forall_mem_cons.mpr ⟨oX5_openNow_0, List.forall_mem_cons.mpr ⟨oX5_openNow_1, List.forall_mem_cons.mpr ⟨oX5_openNow_2, List.forall_mem_cons.mpr ⟨oX5_openNow_5, List.forall_mem_cons.mpr ⟨oX5_openNow_6, List.forall_mem_cons.mpr ⟨oX5_openNow_7, List.forall_mem_cons.mpr ⟨oX5_openNow_8, List.forall_mem_cons.mpr ⟨oX5_openNow_9, List.forall_mem_cons.mpr ⟨oX5_openNow_10, List.forall_mem_cons.mpr ⟨oX5_openNow_13, List.forall_mem_cons.mpr ⟨oX5_openNow_14, List.forall_mem_cons.mpr ⟨oX5_openNow_15, List.forall_mem_cons.mpr ⟨oX5_openNow_16, fun _ h => absurd h List.not_mem_nil⟩⟩⟩⟩⟩⟩⟩⟩⟩⟩⟩⟩⟩
def dkwX5_rangeBy_1 : List UInt8 := [167, 255, 239, 29, 172]
abbrev dktX5_rangeBy_1 : List UInt8 := dkwX5_rangeBy_1 ++ []
def dkwX5_rangeBy_0 : List UInt8 := [4, 27, 120, 62, 3, 54, 4, 21, 4, 16, 7, 162, 0, 16, 42, 29, 28, 182, 1, 98, 62, 132, 4, 1]
abbrev dktX5_rangeBy_0 : List UInt8 := dkwX5_rangeBy_0 ++ dktX5_rangeBy_1
theorem dksX5_rangeBy_0 : bcX5_rangeBy.data.toList.drop 0 = dktX5_rangeBy_0 := by decide +kernel
theorem dksX5_rangeBy_1 : bcX5_rangeBy.data.toList.drop 24 = dktX5_rangeBy_1 := dk_seg dksX5_rangeBy_0 24 rfl rfl
theorem dX5_rangeBy_0 : decode bcX5_rangeBy 0 = .ok (.iconst 1, 1) := dk_4 (dk_at dksX5_rangeBy_0 0 rfl rfl)
theorem dX5_rangeBy_1 : decode bcX5_rangeBy 1 = .ok (.iload_n 1, 1) := dk_27 (dk_at dksX5_rangeBy_0 1 rfl rfl)
theorem dX5_rangeBy_2 : decode bcX5_rangeBy 2 = .ok (.ishl, 1) := dk_120 (dk_at dksX5_rangeBy_0 2 rfl rfl)
theorem dX5_rangeBy_3 : decode bcX5_rangeBy 3 = .ok (.istore_n 3, 1) := dk_62 (dk_at dksX5_rangeBy_0 3 rfl rfl)
theorem dX5_rangeBy_4 : decode bcX5_rangeBy 4 = .ok (.iconst 0, 1) := dk_3 (dk_at dksX5_rangeBy_0 4 rfl rfl)
theorem dX5_rangeBy_5 : decode bcX5_rangeBy 5 = .ok (.istore 4, 2) := dk_54 4 (dk_at dksX5_rangeBy_0 5 rfl rfl)
theorem dX5_rangeBy_7 : decode bcX5_rangeBy 7 = .ok (.iload 4, 2) := dk_21 4 (dk_at dksX5_rangeBy_0 7 rfl rfl)
theorem dX5_rangeBy_9 : decode bcX5_rangeBy 9 = .ok (.bipush 7, 2) := dk_16 7 (dk_at dksX5_rangeBy_0 9 rfl rfl)
theorem dX5_rangeBy_11 : decode bcX5_rangeBy 11 = .ok (.if_icmp .ge 16, 3) := dk_162 0 16 (dk_at dksX5_rangeBy_0 11 rfl rfl)
theorem dX5_rangeBy_14 : decode bcX5_rangeBy 14 = .ok (.aload_n 0, 1) := dk_42 (dk_at dksX5_rangeBy_0 14 rfl rfl)
theorem dX5_rangeBy_15 : decode bcX5_rangeBy 15 = .ok (.iload_n 3, 1) := dk_29 (dk_at dksX5_rangeBy_0 15 rfl rfl)
theorem dX5_rangeBy_16 : decode bcX5_rangeBy 16 = .ok (.iload_n 2, 1) := dk_28 (dk_at dksX5_rangeBy_0 16 rfl rfl)
theorem dX5_rangeBy_17 : decode bcX5_rangeBy 17 = .ok (.invokevirtual 354, 3) := dk_182 1 98 (dk_at dksX5_rangeBy_0 17 rfl rfl)
theorem dX5_rangeBy_20 : decode bcX5_rangeBy 20 = .ok (.istore_n 3, 1) := dk_62 (dk_at dksX5_rangeBy_0 20 rfl rfl)
theorem dX5_rangeBy_21 : decode bcX5_rangeBy 21 = .ok (.iinc 4 1, 3) := dk_132 4 1 (dk_at dksX5_rangeBy_0 21 rfl rfl)
theorem dX5_rangeBy_24 : decode bcX5_rangeBy 24 = .ok (.goto (-17), 3) := dk_167 255 239 (dk_at dksX5_rangeBy_1 0 rfl rfl)
theorem dX5_rangeBy_27 : decode bcX5_rangeBy 27 = .ok (.iload_n 3, 1) := dk_29 (dk_at dksX5_rangeBy_1 3 rfl rfl)
theorem dX5_rangeBy_28 : decode bcX5_rangeBy 28 = .ok (.ireturn, 1) := dk_172 (dk_at dksX5_rangeBy_1 4 rfl rfl)
abbrev SX5_rangeBy (pc : Nat) (i : xI) : Prop := Snd "SwollenHouseModel" "rangeBy" prog_25_method_80_code 5 (Option.some Jvm.ClassFile.FieldType.int) [] pc i
theorem oX5_rangeBy_0 : SX5_rangeBy 0 (i_const (.int (nI 1)) 1) := snd_iconst dX5_rangeBy_0 (by decide)
theorem oX5_rangeBy_1 : SX5_rangeBy 1 (i_iload 1 2) := snd_iload_n dX5_rangeBy_1 rfl
theorem oX5_rangeBy_2 : SX5_rangeBy 2 (i_ii (fun x y => x <<< (y &&& 31)) 3) := snd_ishl dX5_rangeBy_2
theorem oX5_rangeBy_3 : SX5_rangeBy 3 (i_istore 3 4) := snd_istore_n dX5_rangeBy_3 rfl (by decide)
theorem oX5_rangeBy_4 : SX5_rangeBy 4 (i_const (.int (nI 0)) 5) := snd_iconst dX5_rangeBy_4 (by decide)
theorem oX5_rangeBy_5 : SX5_rangeBy 5 (i_istore 4 7) := snd_istore dX5_rangeBy_5 (by decide)
theorem oX5_rangeBy_7 : SX5_rangeBy 7 (i_iload 4 9) := snd_iload dX5_rangeBy_7
theorem oX5_rangeBy_9 : SX5_rangeBy 9 (i_const (.int (nI 7)) 11) := snd_bipush dX5_rangeBy_9 (by decide)
theorem oX5_rangeBy_11 : SX5_rangeBy 11 (i_if2 (fun x y => y ≤ x) 27 14) := snd_icmp_ge dX5_rangeBy_11 (by decide)
theorem oX5_rangeBy_14 : SX5_rangeBy 14 (i_aload 0 15) := snd_aload_n dX5_rangeBy_14 rfl
theorem oX5_rangeBy_15 : SX5_rangeBy 15 (i_iload 3 16) := snd_iload_n dX5_rangeBy_15 rfl
theorem oX5_rangeBy_16 : SX5_rangeBy 16 (i_iload 2 17) := snd_iload_n dX5_rangeBy_16 rfl
theorem oX5_rangeBy_17 : SX5_rangeBy 17 (i_cv 4 323 2 20) := snd_cv rfl infX5_onFrom (by decide) rfl (xVm_V dX5_rangeBy_17 rfl q2072 q2074 qs113 q136 q2075 pdX5_onFrom)
theorem oX5_rangeBy_20 : SX5_rangeBy 20 (i_istore 3 21) := snd_istore_n dX5_rangeBy_20 rfl (by decide)
theorem oX5_rangeBy_21 : SX5_rangeBy 21 (i_iinc 4 (nI 1) 24) := snd_iinc dX5_rangeBy_21 (by decide) (by decide)
theorem oX5_rangeBy_24 : SX5_rangeBy 24 (i_goto 7) := snd_goto dX5_rangeBy_24 (by decide)
theorem oX5_rangeBy_27 : SX5_rangeBy 27 (i_iload 3 28) := snd_iload_n dX5_rangeBy_27 rfl
theorem oX5_rangeBy_28 : SX5_rangeBy 28 (i_iret) := snd_iret dX5_rangeBy_28 rfl
theorem okX5_rangeBy : ∀ q ∈ cX5_rangeBy, SX5_rangeBy q.1 q.2 := List.forall_mem_cons.mpr ⟨oX5_rangeBy_0, List.forall_mem_cons.mpr ⟨oX5_rangeBy_1, List.forall_mem_cons.mpr ⟨oX5_rangeBy_2, List.forall_mem_cons.mpr ⟨oX5_rangeBy_3, List.forall_mem_cons.mpr ⟨oX5_rangeBy_4, List.forall_mem_cons.mpr ⟨oX5_rangeBy_5, List.forall_mem_cons.mpr ⟨oX5_rangeBy_7, List.forall_mem_cons.mpr ⟨oX5_rangeBy_9, List.forall_mem_cons.mpr ⟨oX5_rangeBy_11, List.forall_mem_cons.mpr ⟨oX5_rangeBy_14, List.forall_mem_cons.mpr ⟨oX5_rangeBy_15, List.forall_mem_cons.mpr ⟨oX5_rangeBy_16, List.forall_mem_cons.mpr ⟨oX5_rangeBy_17, List.forall_mem_cons.mpr ⟨oX5_rangeBy_20, List.forall_mem_cons.mpr ⟨oX5_rangeBy_21, List.forall_mem_cons.mpr ⟨oX5_rangeBy_24, List.forall_mem_cons.mpr ⟨oX5_rangeBy_27, List.forall_mem_cons.mpr ⟨oX5_rangeBy_28, fun _ h => absurd h List.not_mem_nil⟩⟩⟩⟩⟩⟩⟩⟩⟩⟩⟩⟩⟩⟩⟩⟩⟩⟩
def dkwX5_onFrom_4 : List UInt8 := [21, 5, 120, 167, 0, 4, 3, 128, 62, 132, 4, 1, 167, 255, 157, 29, 172]
abbrev dktX5_onFrom_4 : List UInt8 := dkwX5_onFrom_4 ++ []
def dkwX5_onFrom_3 : List UInt8 := [167, 0, 4, 3, 128, 62, 29, 21, 7, 153, 0, 20, 27, 21, 6, 122, 4, 126, 4, 160, 0, 10, 4]
abbrev dktX5_onFrom_3 : List UInt8 := dkwX5_onFrom_3 ++ dktX5_onFrom_4
def dkwX5_onFrom_2 : List UInt8 := [54, 7, 29, 21, 7, 153, 0, 20, 27, 21, 5, 122, 4, 126, 4, 160, 0, 10, 4, 21, 6, 120]
abbrev dktX5_onFrom_2 : List UInt8 := dkwX5_onFrom_2 ++ dktX5_onFrom_3
def dkwX5_onFrom_1 : List UInt8 := [21, 4, 4, 182, 1, 20, 54, 6, 28, 21, 4, 122, 4, 126, 4, 160, 0, 7, 4, 167, 0, 4, 3]
abbrev dktX5_onFrom_1 : List UInt8 := dkwX5_onFrom_1 ++ dktX5_onFrom_2
def dkwX5_onFrom_0 : List UInt8 := [27, 62, 3, 54, 4, 21, 4, 42, 182, 1, 16, 162, 0, 96, 42, 21, 4, 3, 182, 1, 20, 54, 5, 42]
abbrev dktX5_onFrom_0 : List UInt8 := dkwX5_onFrom_0 ++ dktX5_onFrom_1
theorem dksX5_onFrom_0 : bcX5_onFrom.data.toList.drop 0 = dktX5_onFrom_0 := by decide +kernel
theorem dksX5_onFrom_1 : bcX5_onFrom.data.toList.drop 24 = dktX5_onFrom_1 := dk_seg dksX5_onFrom_0 24 rfl rfl
theorem dksX5_onFrom_2 : bcX5_onFrom.data.toList.drop 47 = dktX5_onFrom_2 := dk_seg dksX5_onFrom_1 23 rfl rfl
theorem dksX5_onFrom_3 : bcX5_onFrom.data.toList.drop 69 = dktX5_onFrom_3 := dk_seg dksX5_onFrom_2 22 rfl rfl
theorem dksX5_onFrom_4 : bcX5_onFrom.data.toList.drop 92 = dktX5_onFrom_4 := dk_seg dksX5_onFrom_3 23 rfl rfl
theorem dX5_onFrom_0 : decode bcX5_onFrom 0 = .ok (.iload_n 1, 1) := dk_27 (dk_at dksX5_onFrom_0 0 rfl rfl)
theorem dX5_onFrom_1 : decode bcX5_onFrom 1 = .ok (.istore_n 3, 1) := dk_62 (dk_at dksX5_onFrom_0 1 rfl rfl)
theorem dX5_onFrom_2 : decode bcX5_onFrom 2 = .ok (.iconst 0, 1) := dk_3 (dk_at dksX5_onFrom_0 2 rfl rfl)
theorem dX5_onFrom_3 : decode bcX5_onFrom 3 = .ok (.istore 4, 2) := dk_54 4 (dk_at dksX5_onFrom_0 3 rfl rfl)
theorem dX5_onFrom_5 : decode bcX5_onFrom 5 = .ok (.iload 4, 2) := dk_21 4 (dk_at dksX5_onFrom_0 5 rfl rfl)
theorem dX5_onFrom_7 : decode bcX5_onFrom 7 = .ok (.aload_n 0, 1) := dk_42 (dk_at dksX5_onFrom_0 7 rfl rfl)
theorem dX5_onFrom_8 : decode bcX5_onFrom 8 = .ok (.invokevirtual 272, 3) := dk_182 1 16 (dk_at dksX5_onFrom_0 8 rfl rfl)
theorem dX5_onFrom_11 : decode bcX5_onFrom 11 = .ok (.if_icmp .ge 96, 3) := dk_162 0 96 (dk_at dksX5_onFrom_0 11 rfl rfl)
theorem dX5_onFrom_14 : decode bcX5_onFrom 14 = .ok (.aload_n 0, 1) := dk_42 (dk_at dksX5_onFrom_0 14 rfl rfl)
theorem dX5_onFrom_15 : decode bcX5_onFrom 15 = .ok (.iload 4, 2) := dk_21 4 (dk_at dksX5_onFrom_0 15 rfl rfl)
theorem dX5_onFrom_17 : decode bcX5_onFrom 17 = .ok (.iconst 0, 1) := dk_3 (dk_at dksX5_onFrom_0 17 rfl rfl)
theorem dX5_onFrom_18 : decode bcX5_onFrom 18 = .ok (.invokevirtual 276, 3) := dk_182 1 20 (dk_at dksX5_onFrom_0 18 rfl rfl)
theorem dX5_onFrom_21 : decode bcX5_onFrom 21 = .ok (.istore 5, 2) := dk_54 5 (dk_at dksX5_onFrom_0 21 rfl rfl)
theorem dX5_onFrom_23 : decode bcX5_onFrom 23 = .ok (.aload_n 0, 1) := dk_42 (dk_at dksX5_onFrom_0 23 rfl rfl)
theorem dX5_onFrom_24 : decode bcX5_onFrom 24 = .ok (.iload 4, 2) := dk_21 4 (dk_at dksX5_onFrom_1 0 rfl rfl)
theorem dX5_onFrom_26 : decode bcX5_onFrom 26 = .ok (.iconst 1, 1) := dk_4 (dk_at dksX5_onFrom_1 2 rfl rfl)
theorem dX5_onFrom_27 : decode bcX5_onFrom 27 = .ok (.invokevirtual 276, 3) := dk_182 1 20 (dk_at dksX5_onFrom_1 3 rfl rfl)
theorem dX5_onFrom_30 : decode bcX5_onFrom 30 = .ok (.istore 6, 2) := dk_54 6 (dk_at dksX5_onFrom_1 6 rfl rfl)
theorem dX5_onFrom_32 : decode bcX5_onFrom 32 = .ok (.iload_n 2, 1) := dk_28 (dk_at dksX5_onFrom_1 8 rfl rfl)
theorem dX5_onFrom_33 : decode bcX5_onFrom 33 = .ok (.iload 4, 2) := dk_21 4 (dk_at dksX5_onFrom_1 9 rfl rfl)
theorem dX5_onFrom_35 : decode bcX5_onFrom 35 = .ok (.ishr, 1) := dk_122 (dk_at dksX5_onFrom_1 11 rfl rfl)
theorem dX5_onFrom_36 : decode bcX5_onFrom 36 = .ok (.iconst 1, 1) := dk_4 (dk_at dksX5_onFrom_1 12 rfl rfl)
theorem dX5_onFrom_37 : decode bcX5_onFrom 37 = .ok (.iand, 1) := dk_126 (dk_at dksX5_onFrom_1 13 rfl rfl)
theorem dX5_onFrom_38 : decode bcX5_onFrom 38 = .ok (.iconst 1, 1) := dk_4 (dk_at dksX5_onFrom_1 14 rfl rfl)
theorem dX5_onFrom_39 : decode bcX5_onFrom 39 = .ok (.if_icmp .ne 7, 3) := dk_160 0 7 (dk_at dksX5_onFrom_1 15 rfl rfl)
theorem dX5_onFrom_42 : decode bcX5_onFrom 42 = .ok (.iconst 1, 1) := dk_4 (dk_at dksX5_onFrom_1 18 rfl rfl)
theorem dX5_onFrom_43 : decode bcX5_onFrom 43 = .ok (.goto 4, 3) := dk_167 0 4 (dk_at dksX5_onFrom_1 19 rfl rfl)
theorem dX5_onFrom_46 : decode bcX5_onFrom 46 = .ok (.iconst 0, 1) := dk_3 (dk_at dksX5_onFrom_1 22 rfl rfl)
theorem dX5_onFrom_47 : decode bcX5_onFrom 47 = .ok (.istore 7, 2) := dk_54 7 (dk_at dksX5_onFrom_2 0 rfl rfl)
theorem dX5_onFrom_49 : decode bcX5_onFrom 49 = .ok (.iload_n 3, 1) := dk_29 (dk_at dksX5_onFrom_2 2 rfl rfl)
theorem dX5_onFrom_50 : decode bcX5_onFrom 50 = .ok (.iload 7, 2) := dk_21 7 (dk_at dksX5_onFrom_2 3 rfl rfl)
theorem dX5_onFrom_52 : decode bcX5_onFrom 52 = .ok (.ifCond .eq 20, 3) := dk_153 0 20 (dk_at dksX5_onFrom_2 5 rfl rfl)
theorem dX5_onFrom_55 : decode bcX5_onFrom 55 = .ok (.iload_n 1, 1) := dk_27 (dk_at dksX5_onFrom_2 8 rfl rfl)
theorem dX5_onFrom_56 : decode bcX5_onFrom 56 = .ok (.iload 5, 2) := dk_21 5 (dk_at dksX5_onFrom_2 9 rfl rfl)
theorem dX5_onFrom_58 : decode bcX5_onFrom 58 = .ok (.ishr, 1) := dk_122 (dk_at dksX5_onFrom_2 11 rfl rfl)
theorem dX5_onFrom_59 : decode bcX5_onFrom 59 = .ok (.iconst 1, 1) := dk_4 (dk_at dksX5_onFrom_2 12 rfl rfl)
theorem dX5_onFrom_60 : decode bcX5_onFrom 60 = .ok (.iand, 1) := dk_126 (dk_at dksX5_onFrom_2 13 rfl rfl)
theorem dX5_onFrom_61 : decode bcX5_onFrom 61 = .ok (.iconst 1, 1) := dk_4 (dk_at dksX5_onFrom_2 14 rfl rfl)
theorem dX5_onFrom_62 : decode bcX5_onFrom 62 = .ok (.if_icmp .ne 10, 3) := dk_160 0 10 (dk_at dksX5_onFrom_2 15 rfl rfl)
theorem dX5_onFrom_65 : decode bcX5_onFrom 65 = .ok (.iconst 1, 1) := dk_4 (dk_at dksX5_onFrom_2 18 rfl rfl)
theorem dX5_onFrom_66 : decode bcX5_onFrom 66 = .ok (.iload 6, 2) := dk_21 6 (dk_at dksX5_onFrom_2 19 rfl rfl)
theorem dX5_onFrom_68 : decode bcX5_onFrom 68 = .ok (.ishl, 1) := dk_120 (dk_at dksX5_onFrom_2 21 rfl rfl)
theorem dX5_onFrom_69 : decode bcX5_onFrom 69 = .ok (.goto 4, 3) := dk_167 0 4 (dk_at dksX5_onFrom_3 0 rfl rfl)
theorem dX5_onFrom_72 : decode bcX5_onFrom 72 = .ok (.iconst 0, 1) := dk_3 (dk_at dksX5_onFrom_3 3 rfl rfl)
theorem dX5_onFrom_73 : decode bcX5_onFrom 73 = .ok (.ior, 1) := dk_128 (dk_at dksX5_onFrom_3 4 rfl rfl)
theorem dX5_onFrom_74 : decode bcX5_onFrom 74 = .ok (.istore_n 3, 1) := dk_62 (dk_at dksX5_onFrom_3 5 rfl rfl)
theorem dX5_onFrom_75 : decode bcX5_onFrom 75 = .ok (.iload_n 3, 1) := dk_29 (dk_at dksX5_onFrom_3 6 rfl rfl)
theorem dX5_onFrom_76 : decode bcX5_onFrom 76 = .ok (.iload 7, 2) := dk_21 7 (dk_at dksX5_onFrom_3 7 rfl rfl)
theorem dX5_onFrom_78 : decode bcX5_onFrom 78 = .ok (.ifCond .eq 20, 3) := dk_153 0 20 (dk_at dksX5_onFrom_3 9 rfl rfl)
theorem dX5_onFrom_81 : decode bcX5_onFrom 81 = .ok (.iload_n 1, 1) := dk_27 (dk_at dksX5_onFrom_3 12 rfl rfl)
theorem dX5_onFrom_82 : decode bcX5_onFrom 82 = .ok (.iload 6, 2) := dk_21 6 (dk_at dksX5_onFrom_3 13 rfl rfl)
theorem dX5_onFrom_84 : decode bcX5_onFrom 84 = .ok (.ishr, 1) := dk_122 (dk_at dksX5_onFrom_3 15 rfl rfl)
theorem dX5_onFrom_85 : decode bcX5_onFrom 85 = .ok (.iconst 1, 1) := dk_4 (dk_at dksX5_onFrom_3 16 rfl rfl)
theorem dX5_onFrom_86 : decode bcX5_onFrom 86 = .ok (.iand, 1) := dk_126 (dk_at dksX5_onFrom_3 17 rfl rfl)
theorem dX5_onFrom_87 : decode bcX5_onFrom 87 = .ok (.iconst 1, 1) := dk_4 (dk_at dksX5_onFrom_3 18 rfl rfl)
theorem dX5_onFrom_88 : decode bcX5_onFrom 88 = .ok (.if_icmp .ne 10, 3) := dk_160 0 10 (dk_at dksX5_onFrom_3 19 rfl rfl)
theorem dX5_onFrom_91 : decode bcX5_onFrom 91 = .ok (.iconst 1, 1) := dk_4 (dk_at dksX5_onFrom_3 22 rfl rfl)
theorem dX5_onFrom_92 : decode bcX5_onFrom 92 = .ok (.iload 5, 2) := dk_21 5 (dk_at dksX5_onFrom_4 0 rfl rfl)
theorem dX5_onFrom_94 : decode bcX5_onFrom 94 = .ok (.ishl, 1) := dk_120 (dk_at dksX5_onFrom_4 2 rfl rfl)
theorem dX5_onFrom_95 : decode bcX5_onFrom 95 = .ok (.goto 4, 3) := dk_167 0 4 (dk_at dksX5_onFrom_4 3 rfl rfl)
theorem dX5_onFrom_98 : decode bcX5_onFrom 98 = .ok (.iconst 0, 1) := dk_3 (dk_at dksX5_onFrom_4 6 rfl rfl)
theorem dX5_onFrom_99 : decode bcX5_onFrom 99 = .ok (.ior, 1) := dk_128 (dk_at dksX5_onFrom_4 7 rfl rfl)
theorem dX5_onFrom_100 : decode bcX5_onFrom 100 = .ok (.istore_n 3, 1) := dk_62 (dk_at dksX5_onFrom_4 8 rfl rfl)
theorem dX5_onFrom_101 : decode bcX5_onFrom 101 = .ok (.iinc 4 1, 3) := dk_132 4 1 (dk_at dksX5_onFrom_4 9 rfl rfl)
theorem dX5_onFrom_104 : decode bcX5_onFrom 104 = .ok (.goto (-99), 3) := dk_167 255 157 (dk_at dksX5_onFrom_4 12 rfl rfl)
theorem dX5_onFrom_107 : decode bcX5_onFrom 107 = .ok (.iload_n 3, 1) := dk_29 (dk_at dksX5_onFrom_4 15 rfl rfl)
theorem dX5_onFrom_108 : decode bcX5_onFrom 108 = .ok (.ireturn, 1) := dk_172 (dk_at dksX5_onFrom_4 16 rfl rfl)
abbrev SX5_onFrom (pc : Nat) (i : xI) : Prop := Snd "SwollenHouseModel" "onFrom" prog_25_method_79_code 8 (Option.some Jvm.ClassFile.FieldType.int) [] pc i
theorem oX5_onFrom_0 : SX5_onFrom 0 (i_iload 1 1) := snd_iload_n dX5_onFrom_0 rfl
theorem oX5_onFrom_1 : SX5_onFrom 1 (i_istore 3 2) := snd_istore_n dX5_onFrom_1 rfl (by decide)
theorem oX5_onFrom_2 : SX5_onFrom 2 (i_const (.int (nI 0)) 3) := snd_iconst dX5_onFrom_2 (by decide)
theorem oX5_onFrom_3 : SX5_onFrom 3 (i_istore 4 5) := snd_istore dX5_onFrom_3 (by decide)
theorem oX5_onFrom_5 : SX5_onFrom 5 (i_iload 4 7) := snd_iload dX5_onFrom_5
theorem oX5_onFrom_7 : SX5_onFrom 7 (i_aload 0 8) := snd_aload_n dX5_onFrom_7 rfl
theorem oX5_onFrom_8 : SX5_onFrom 8 (i_cv 4 250 0 11) := snd_cv rfl infX5_doors (by decide) rfl (xVm_V dX5_onFrom_8 rfl q1686 q1688 qs60 q136 q1689 pdX5_doors)
theorem oX5_onFrom_11 : SX5_onFrom 11 (i_if2 (fun x y => y ≤ x) 107 14) := snd_icmp_ge dX5_onFrom_11 (by decide)
theorem oX5_onFrom_14 : SX5_onFrom 14 (i_aload 0 15) := snd_aload_n dX5_onFrom_14 rfl
theorem oX5_onFrom_15 : SX5_onFrom 15 (i_iload 4 17) := snd_iload dX5_onFrom_15
theorem oX5_onFrom_17 : SX5_onFrom 17 (i_const (.int (nI 0)) 18) := snd_iconst dX5_onFrom_17 (by decide)
theorem oX5_onFrom_18 : SX5_onFrom 18 (i_cv 4 251 2 21) := snd_cv rfl infX5_doorOf (by decide) rfl (xVm_V dX5_onFrom_18 rfl q1690 q1692 qs61 q136 q1693 pdX5_doorOf)
theorem oX5_onFrom_21 : SX5_onFrom 21 (i_istore 5 23) := snd_istore dX5_onFrom_21 (by decide)
theorem oX5_onFrom_23 : SX5_onFrom 23 (i_aload 0 24) := snd_aload_n dX5_onFrom_23 rfl
theorem oX5_onFrom_24 : SX5_onFrom 24 (i_iload 4 26) := snd_iload dX5_onFrom_24
theorem oX5_onFrom_26 : SX5_onFrom 26 (i_const (.int (nI 1)) 27) := snd_iconst dX5_onFrom_26 (by decide)
theorem oX5_onFrom_27 : SX5_onFrom 27 (i_cv 4 251 2 30) := snd_cv rfl infX5_doorOf (by decide) rfl (xVm_V dX5_onFrom_27 rfl q1690 q1692 qs61 q136 q1693 pdX5_doorOf)
theorem oX5_onFrom_30 : SX5_onFrom 30 (i_istore 6 32) := snd_istore dX5_onFrom_30 (by decide)
theorem oX5_onFrom_32 : SX5_onFrom 32 (i_iload 2 33) := snd_iload_n dX5_onFrom_32 rfl
theorem oX5_onFrom_33 : SX5_onFrom 33 (i_iload 4 35) := snd_iload dX5_onFrom_33
theorem oX5_onFrom_35 : SX5_onFrom 35 (i_ii (fun x y => x >>> (y &&& 31)) 36) := snd_ishr dX5_onFrom_35
theorem oX5_onFrom_36 : SX5_onFrom 36 (i_const (.int (nI 1)) 37) := snd_iconst dX5_onFrom_36 (by decide)
theorem oX5_onFrom_37 : SX5_onFrom 37 (i_ii (fun x y => x &&& y) 38) := snd_iand dX5_onFrom_37
theorem oX5_onFrom_38 : SX5_onFrom 38 (i_const (.int (nI 1)) 39) := snd_iconst dX5_onFrom_38 (by decide)
theorem oX5_onFrom_39 : SX5_onFrom 39 (i_if2 (fun x y => ¬ x = y) 46 42) := snd_icmp_ne dX5_onFrom_39 (by decide)
theorem oX5_onFrom_42 : SX5_onFrom 42 (i_const (.int (nI 1)) 43) := snd_iconst dX5_onFrom_42 (by decide)
theorem oX5_onFrom_43 : SX5_onFrom 43 (i_goto 47) := snd_goto dX5_onFrom_43 (by decide)
theorem oX5_onFrom_46 : SX5_onFrom 46 (i_const (.int (nI 0)) 47) := snd_iconst dX5_onFrom_46 (by decide)
theorem oX5_onFrom_47 : SX5_onFrom 47 (i_istore 7 49) := snd_istore dX5_onFrom_47 (by decide)
theorem oX5_onFrom_49 : SX5_onFrom 49 (i_iload 3 50) := snd_iload_n dX5_onFrom_49 rfl
theorem oX5_onFrom_50 : SX5_onFrom 50 (i_iload 7 52) := snd_iload dX5_onFrom_50
theorem oX5_onFrom_52 : SX5_onFrom 52 (i_if1 (fun x => x = 0) 72 55) := snd_if_eq dX5_onFrom_52 (by decide)
theorem oX5_onFrom_55 : SX5_onFrom 55 (i_iload 1 56) := snd_iload_n dX5_onFrom_55 rfl
theorem oX5_onFrom_56 : SX5_onFrom 56 (i_iload 5 58) := snd_iload dX5_onFrom_56
theorem oX5_onFrom_58 : SX5_onFrom 58 (i_ii (fun x y => x >>> (y &&& 31)) 59) := snd_ishr dX5_onFrom_58
theorem oX5_onFrom_59 : SX5_onFrom 59 (i_const (.int (nI 1)) 60) := snd_iconst dX5_onFrom_59 (by decide)
theorem oX5_onFrom_60 : SX5_onFrom 60 (i_ii (fun x y => x &&& y) 61) := snd_iand dX5_onFrom_60
theorem oX5_onFrom_61 : SX5_onFrom 61 (i_const (.int (nI 1)) 62) := snd_iconst dX5_onFrom_61 (by decide)
theorem oX5_onFrom_62 : SX5_onFrom 62 (i_if2 (fun x y => ¬ x = y) 72 65) := snd_icmp_ne dX5_onFrom_62 (by decide)
theorem oX5_onFrom_65 : SX5_onFrom 65 (i_const (.int (nI 1)) 66) := snd_iconst dX5_onFrom_65 (by decide)
theorem oX5_onFrom_66 : SX5_onFrom 66 (i_iload 6 68) := snd_iload dX5_onFrom_66
theorem oX5_onFrom_68 : SX5_onFrom 68 (i_ii (fun x y => x <<< (y &&& 31)) 69) := snd_ishl dX5_onFrom_68
theorem oX5_onFrom_69 : SX5_onFrom 69 (i_goto 73) := snd_goto dX5_onFrom_69 (by decide)
theorem oX5_onFrom_72 : SX5_onFrom 72 (i_const (.int (nI 0)) 73) := snd_iconst dX5_onFrom_72 (by decide)
theorem oX5_onFrom_73 : SX5_onFrom 73 (i_ii (fun x y => x ||| y) 74) := snd_ior dX5_onFrom_73
theorem oX5_onFrom_74 : SX5_onFrom 74 (i_istore 3 75) := snd_istore_n dX5_onFrom_74 rfl (by decide)
theorem oX5_onFrom_75 : SX5_onFrom 75 (i_iload 3 76) := snd_iload_n dX5_onFrom_75 rfl
theorem oX5_onFrom_76 : SX5_onFrom 76 (i_iload 7 78) := snd_iload dX5_onFrom_76
theorem oX5_onFrom_78 : SX5_onFrom 78 (i_if1 (fun x => x = 0) 98 81) := snd_if_eq dX5_onFrom_78 (by decide)
theorem oX5_onFrom_81 : SX5_onFrom 81 (i_iload 1 82) := snd_iload_n dX5_onFrom_81 rfl
theorem oX5_onFrom_82 : SX5_onFrom 82 (i_iload 6 84) := snd_iload dX5_onFrom_82
theorem oX5_onFrom_84 : SX5_onFrom 84 (i_ii (fun x y => x >>> (y &&& 31)) 85) := snd_ishr dX5_onFrom_84
theorem oX5_onFrom_85 : SX5_onFrom 85 (i_const (.int (nI 1)) 86) := snd_iconst dX5_onFrom_85 (by decide)
theorem oX5_onFrom_86 : SX5_onFrom 86 (i_ii (fun x y => x &&& y) 87) := snd_iand dX5_onFrom_86
theorem oX5_onFrom_87 : SX5_onFrom 87 (i_const (.int (nI 1)) 88) := snd_iconst dX5_onFrom_87 (by decide)
theorem oX5_onFrom_88 : SX5_onFrom 88 (i_if2 (fun x y => ¬ x = y) 98 91) := snd_icmp_ne dX5_onFrom_88 (by decide)
theorem oX5_onFrom_91 : SX5_onFrom 91 (i_const (.int (nI 1)) 92) := snd_iconst dX5_onFrom_91 (by decide)
theorem oX5_onFrom_92 : SX5_onFrom 92 (i_iload 5 94) := snd_iload dX5_onFrom_92
theorem oX5_onFrom_94 : SX5_onFrom 94 (i_ii (fun x y => x <<< (y &&& 31)) 95) := snd_ishl dX5_onFrom_94
theorem oX5_onFrom_95 : SX5_onFrom 95 (i_goto 99) := snd_goto dX5_onFrom_95 (by decide)
theorem oX5_onFrom_98 : SX5_onFrom 98 (i_const (.int (nI 0)) 99) := snd_iconst dX5_onFrom_98 (by decide)
theorem oX5_onFrom_99 : SX5_onFrom 99 (i_ii (fun x y => x ||| y) 100) := snd_ior dX5_onFrom_99
theorem oX5_onFrom_100 : SX5_onFrom 100 (i_istore 3 101) := snd_istore_n dX5_onFrom_100 rfl (by decide)
theorem oX5_onFrom_101 : SX5_onFrom 101 (i_iinc 4 (nI 1) 104) := snd_iinc dX5_onFrom_101 (by decide) (by decide)
theorem oX5_onFrom_104 : SX5_onFrom 104 (i_goto 5) := snd_goto dX5_onFrom_104 (by decide)
theorem oX5_onFrom_107 : SX5_onFrom 107 (i_iload 3 108) := snd_iload_n dX5_onFrom_107 rfl
theorem oX5_onFrom_108 : SX5_onFrom 108 (i_iret) := snd_iret dX5_onFrom_108 rfl
theorem okX5_onFrom : ∀ q ∈ cX5_onFrom, SX5_onFrom q.1 q.2 := List.forall_mem_cons.mpr ⟨oX5_onFrom_0, List.forall_mem_cons.mpr ⟨oX5_onFrom_1, List.forall_mem_cons.mpr ⟨oX5_onFrom_2, List.forall_mem_cons.mpr ⟨oX5_onFrom_3, List.forall_mem_cons.mpr ⟨oX5_onFrom_5, List.forall_mem_cons.mpr ⟨oX5_onFrom_7, List.forall_mem_cons.mpr ⟨oX5_onFrom_8, List.forall_mem_cons.mpr ⟨oX5_onFrom_11, List.forall_mem_cons.mpr ⟨oX5_onFrom_14, List.forall_mem_cons.mpr ⟨oX5_onFrom_15, List.forall_mem_cons.mpr ⟨oX5_onFrom_17, List.forall_mem_cons.mpr ⟨oX5_onFrom_18, List.forall_mem_cons.mpr ⟨oX5_onFrom_21, List.forall_mem_cons.mpr ⟨oX5_onFrom_23, List.forall_mem_cons.mpr ⟨oX5_onFrom_24, List.forall_mem_cons.mpr ⟨oX5_onFrom_26, List.forall_mem_cons.mpr ⟨oX5_onFrom_27, List.forall_mem_cons.mpr ⟨oX5_onFrom_30, List.forall_mem_cons.mpr ⟨oX5_onFrom_32, List.forall_mem_cons.mpr ⟨oX5_onFrom_33, List.forall_mem_cons.mpr ⟨oX5_onFrom_35, List.forall_mem_cons.mpr ⟨oX5_onFrom_36, List.forall_mem_cons.mpr ⟨oX5_onFrom_37, List.forall_mem_cons.mpr ⟨oX5_onFrom_38, List.forall_mem_cons.mpr ⟨oX5_onFrom_39, List.forall_mem_cons.mpr ⟨oX5_onFrom_42, List.forall_mem_cons.mpr ⟨oX5_onFrom_43, List.forall_mem_cons.mpr ⟨oX5_onFrom_46, List.forall_mem_cons.mpr ⟨oX5_onFrom_47, List.forall_mem_cons.mpr ⟨oX5_onFrom_49, List.forall_mem_cons.mpr ⟨oX5_onFrom_50, List.forall_mem_cons.mpr ⟨oX5_onFrom_52, List.forall_mem_cons.mpr ⟨oX5_onFrom_55, List.forall_mem_cons.mpr ⟨oX5_onFrom_56, List.forall_mem_cons.mpr ⟨oX5_onFrom_58, List.forall_mem_cons.mpr ⟨oX5_onFrom_59, List.forall_mem_cons.mpr ⟨oX5_onFrom_60, List.forall_mem_cons.mpr ⟨oX5_onFrom_61, List.forall_mem_cons.mpr ⟨oX5_onFrom_62, List.forall_mem_cons.mpr ⟨oX5_onFrom_65, List.forall_mem_cons.mpr ⟨oX5_onFrom_66, List.forall_mem_cons.mpr ⟨oX5_onFrom_68, List.forall_mem_cons.mpr ⟨oX5_onFrom_69, List.forall_mem_cons.mpr ⟨oX5_onFrom_72, List.forall_mem_cons.mpr ⟨oX5_onFrom_73, List.forall_mem_cons.mpr ⟨oX5_onFrom_74, List.forall_mem_cons.mpr ⟨oX5_onFrom_75, List.forall_mem_cons.mpr ⟨oX5_onFrom_76, List.forall_mem_cons.mpr ⟨oX5_onFrom_78, List.forall_mem_cons.mpr ⟨oX5_onFrom_81, List.forall_mem_cons.mpr ⟨oX5_onFrom_82, List.forall_mem_cons.mpr ⟨oX5_onFrom_84, List.forall_mem_cons.mpr ⟨oX5_onFrom_85, List.forall_mem_cons.mpr ⟨oX5_onFrom_86, List.forall_mem_cons.mpr ⟨oX5_onFrom_87, List.forall_mem_cons.mpr ⟨oX5_onFrom_88, List.forall_mem_cons.mpr ⟨oX5_onFrom_91, List.forall_mem_cons.mpr ⟨oX5_onFrom_92, List.forall_mem_cons.mpr ⟨oX5_onFrom_94, List.forall_mem_cons.mpr ⟨oX5_onFrom_95, List.forall_mem_cons.mpr ⟨oX5_onFrom_98, List.forall_mem_cons.mpr ⟨oX5_onFrom_99, List.forall_mem_cons.mpr ⟨oX5_onFrom_100, List.forall_mem_cons.mpr ⟨oX5_onFrom_101, List.forall_mem_cons.mpr ⟨oX5_onFrom_104, List.forall_mem_cons.mpr ⟨oX5_onFrom_107, List.forall_mem_cons.mpr ⟨oX5_onFrom_108, fun _ h => absurd h List.not_mem_nil⟩⟩⟩⟩⟩⟩⟩⟩⟩⟩⟩⟩⟩⟩⟩⟩⟩⟩⟩⟩⟩⟩⟩⟩⟩⟩⟩⟩⟩⟩⟩⟩⟩⟩⟩⟩⟩⟩⟩⟩⟩⟩⟩⟩⟩⟩⟩⟩⟩⟩⟩⟩⟩⟩⟩⟩⟩⟩⟩⟩⟩⟩⟩⟩⟩⟩⟩
def dkwX5_company_1 : List UInt8 := [167, 0, 4, 2, 172]
abbrev dktX5_company_1 : List UInt8 := dkwX5_company_1 ++ []
def dkwX5_company_0 : List UInt8 := [42, 3, 181, 0, 1, 42, 27, 182, 1, 66, 153, 0, 16, 42, 27, 42, 3, 182, 1, 104, 182, 1, 110]
abbrev dktX5_company_0 : List UInt8 := dkwX5_company_0 ++ dktX5_company_1
theorem dksX5_company_0 : bcX5_company.data.toList.drop 0 = dktX5_company_0 := by decide +kernel
theorem dksX5_company_1 : bcX5_company.data.toList.drop 23 = dktX5_company_1 := dk_seg dksX5_company_0 23 rfl rfl
theorem dX5_company_0 : decode bcX5_company 0 = .ok (.aload_n 0, 1) := dk_42 (dk_at dksX5_company_0 0 rfl rfl)
theorem dX5_company_1 : decode bcX5_company 1 = .ok (.iconst 0, 1) := dk_3 (dk_at dksX5_company_0 1 rfl rfl)
theorem dX5_company_2 : decode bcX5_company 2 = .ok (.putfield 1, 3) := dk_181 0 1 (dk_at dksX5_company_0 2 rfl rfl)
theorem dX5_company_5 : decode bcX5_company 5 = .ok (.aload_n 0, 1) := dk_42 (dk_at dksX5_company_0 5 rfl rfl)
theorem dX5_company_6 : decode bcX5_company 6 = .ok (.iload_n 1, 1) := dk_27 (dk_at dksX5_company_0 6 rfl rfl)
theorem dX5_company_7 : decode bcX5_company 7 = .ok (.invokevirtual 322, 3) := dk_182 1 66 (dk_at dksX5_company_0 7 rfl rfl)
theorem dX5_company_10 : decode bcX5_company 10 = .ok (.ifCond .eq 16, 3) := dk_153 0 16 (dk_at dksX5_company_0 10 rfl rfl)
theorem dX5_company_13 : decode bcX5_company 13 = .ok (.aload_n 0, 1) := dk_42 (dk_at dksX5_company_0 13 rfl rfl)
theorem dX5_company_14 : decode bcX5_company 14 = .ok (.iload_n 1, 1) := dk_27 (dk_at dksX5_company_0 14 rfl rfl)
theorem dX5_company_15 : decode bcX5_company 15 = .ok (.aload_n 0, 1) := dk_42 (dk_at dksX5_company_0 15 rfl rfl)
theorem dX5_company_16 : decode bcX5_company 16 = .ok (.iconst 0, 1) := dk_3 (dk_at dksX5_company_0 16 rfl rfl)
theorem dX5_company_17 : decode bcX5_company 17 = .ok (.invokevirtual 360, 3) := dk_182 1 104 (dk_at dksX5_company_0 17 rfl rfl)
theorem dX5_company_20 : decode bcX5_company 20 = .ok (.invokevirtual 366, 3) := dk_182 1 110 (dk_at dksX5_company_0 20 rfl rfl)
theorem dX5_company_23 : decode bcX5_company 23 = .ok (.goto 4, 3) := dk_167 0 4 (dk_at dksX5_company_1 0 rfl rfl)
theorem dX5_company_26 : decode bcX5_company 26 = .ok (.iconst (-1), 1) := dk_2 (dk_at dksX5_company_1 3 rfl rfl)
theorem dX5_company_27 : decode bcX5_company 27 = .ok (.ireturn, 1) := dk_172 (dk_at dksX5_company_1 4 rfl rfl)
abbrev SX5_company (pc : Nat) (i : xI) : Prop := Snd "SwollenHouseModel" "company" prog_25_method_84_code 2 (Option.some Jvm.ClassFile.FieldType.int) [] pc i
theorem oX5_company_0 : SX5_company 0 (i_aload 0 1) := snd_aload_n dX5_company_0 rfl
theorem oX5_company_1 : SX5_company 1 (i_const (.int (nI 0)) 2) := snd_iconst dX5_company_1 (by decide)
theorem oX5_company_2 : SX5_company 2 (i_putfi 4 0 5) := snd_putfi dX5_company_2 rfl (by decide) in_X5 tyX5 tyX5_ok nmX5 (Or.inl ⟨rfl, q1698⟩) (Or.inl rfl) rfl
theorem oX5_company_5 : SX5_company 5 (i_aload 0 6) := snd_aload_n dX5_company_5 rfl
theorem oX5_company_6 : SX5_company 6 (i_iload 1 7) := snd_iload_n dX5_company_6 rfl
theorem oX5_company_7 : SX5_company 7 (i_cv 4 292 1 10) := snd_cv rfl infX5_isPerson (by decide) rfl (xVm_V dX5_company_7 rfl q1950 q1952 qs93 q136 q1953 pdX5_isPerson)
theorem oX5_company_10 : SX5_company 10 (i_if1 (fun x => x = 0) 26 13) := snd_if_eq dX5_company_10 (by decide)
theorem oX5_company_13 : SX5_company 13 (i_aload 0 14) := snd_aload_n dX5_company_13 rfl
theorem oX5_company_14 : SX5_company 14 (i_iload 1 15) := snd_iload_n dX5_company_14 rfl
theorem oX5_company_15 : SX5_company 15 (i_aload 0 16) := snd_aload_n dX5_company_15 rfl
theorem oX5_company_16 : SX5_company 16 (i_const (.int (nI 0)) 17) := snd_iconst dX5_company_16 (by decide)
theorem oX5_company_17 : SX5_company 17 (i_cv 4 321 1 20) := snd_cv rfl infX5_openNow (by decide) rfl (xVm_V dX5_company_17 rfl q2064 q2066 qs111 q136 q2067 pdX5_openNow)
theorem oX5_company_20 : SX5_company 20 (i_cv 4 325 2 23) := snd_cv rfl infX5_companyBy (by decide) rfl (xVm_V dX5_company_20 rfl q2080 q2082 qs114 q136 q2083 pdX5_companyBy)
theorem oX5_company_23 : SX5_company 23 (i_goto 27) := snd_goto dX5_company_23 (by decide)
theorem oX5_company_26 : SX5_company 26 (i_const (.int (-1)) 27) := snd_iconst dX5_company_26 (by decide)
theorem oX5_company_27 : SX5_company 27 (i_iret) := snd_iret dX5_company_27 rfl
theorem okX5_company : ∀ q ∈ cX5_company, SX5_company q.1 q.2 := List.forall_mem_cons.mpr ⟨oX5_company_0, List.forall_mem_cons.mpr ⟨oX5_company_1, List.forall_mem_cons.mpr ⟨oX5_company_2, List.forall_mem_cons.mpr ⟨oX5_company_5, List.forall_mem_cons.mpr ⟨oX5_company_6, List.forall_mem_cons.mpr ⟨oX5_company_7, List.forall_mem_cons.mpr ⟨oX5_company_10, List.forall_mem_cons.mpr ⟨oX5_company_13, List.forall_mem_cons.mpr ⟨oX5_company_14, List.forall_mem_cons.mpr ⟨oX5_company_15, List.forall_mem_cons.mpr ⟨oX5_company_16, List.forall_mem_cons.mpr ⟨oX5_company_17, List.forall_mem_cons.mpr ⟨oX5_company_20, List.forall_mem_cons.mpr ⟨oX5_company_23, List.forall_mem_cons.mpr ⟨oX5_company_26, List.forall_mem_cons.mpr ⟨oX5_company_27, fun _ h => absurd h List.not_mem_nil⟩⟩⟩⟩⟩⟩⟩⟩⟩⟩⟩⟩⟩⟩⟩⟩
def dkwX5_companyBy_3 : List UInt8 := [167, 255, 207, 21, 4, 172]
abbrev dktX5_companyBy_3 : List UInt8 := dkwX5_companyBy_3 ++ []
def dkwX5_companyBy_2 : List UInt8 := [46, 122, 4, 126, 4, 160, 0, 10, 4, 21, 5, 120, 167, 0, 4, 3, 128, 54, 4, 132, 5, 1]
abbrev dktX5_companyBy_2 : List UInt8 := dkwX5_companyBy_2 ++ dktX5_companyBy_3
def dkwX5_companyBy_1 : List UInt8 := [182, 1, 23, 162, 0, 46, 21, 4, 21, 5, 27, 159, 0, 28, 29, 42, 180, 0, 113, 16, 18, 21, 5, 96]
abbrev dktX5_companyBy_1 : List UInt8 := dkwX5_companyBy_1 ++ dktX5_companyBy_2
def dkwX5_companyBy_0 : List UInt8 := [42, 42, 180, 0, 113, 16, 18, 27, 96, 46, 28, 182, 1, 107, 62, 3, 54, 4, 3, 54, 5, 21, 5, 42]
abbrev dktX5_companyBy_0 : List UInt8 := dkwX5_companyBy_0 ++ dktX5_companyBy_1
theorem dksX5_companyBy_0 : bcX5_companyBy.data.toList.drop 0 = dktX5_companyBy_0 := by decide +kernel
theorem dksX5_companyBy_1 : bcX5_companyBy.data.toList.drop 24 = dktX5_companyBy_1 := dk_seg dksX5_companyBy_0 24 rfl rfl
theorem dksX5_companyBy_2 : bcX5_companyBy.data.toList.drop 48 = dktX5_companyBy_2 := dk_seg dksX5_companyBy_1 24 rfl rfl
theorem dksX5_companyBy_3 : bcX5_companyBy.data.toList.drop 70 = dktX5_companyBy_3 := dk_seg dksX5_companyBy_2 22 rfl rfl
theorem dX5_companyBy_0 : decode bcX5_companyBy 0 = .ok (.aload_n 0, 1) := dk_42 (dk_at dksX5_companyBy_0 0 rfl rfl)
theorem dX5_companyBy_1 : decode bcX5_companyBy 1 = .ok (.aload_n 0, 1) := dk_42 (dk_at dksX5_companyBy_0 1 rfl rfl)
theorem dX5_companyBy_2 : decode bcX5_companyBy 2 = .ok (.getfield 113, 3) := dk_180 0 113 (dk_at dksX5_companyBy_0 2 rfl rfl)
theorem dX5_companyBy_5 : decode bcX5_companyBy 5 = .ok (.bipush 18, 2) := dk_16 18 (dk_at dksX5_companyBy_0 5 rfl rfl)
theorem dX5_companyBy_7 : decode bcX5_companyBy 7 = .ok (.iload_n 1, 1) := dk_27 (dk_at dksX5_companyBy_0 7 rfl rfl)
theorem dX5_companyBy_8 : decode bcX5_companyBy 8 = .ok (.iadd, 1) := dk_96 (dk_at dksX5_companyBy_0 8 rfl rfl)
theorem dX5_companyBy_9 : decode bcX5_companyBy 9 = .ok (.iaload, 1) := dk_46 (dk_at dksX5_companyBy_0 9 rfl rfl)
theorem dX5_companyBy_10 : decode bcX5_companyBy 10 = .ok (.iload_n 2, 1) := dk_28 (dk_at dksX5_companyBy_0 10 rfl rfl)
theorem dX5_companyBy_11 : decode bcX5_companyBy 11 = .ok (.invokevirtual 363, 3) := dk_182 1 107 (dk_at dksX5_companyBy_0 11 rfl rfl)
theorem dX5_companyBy_14 : decode bcX5_companyBy 14 = .ok (.istore_n 3, 1) := dk_62 (dk_at dksX5_companyBy_0 14 rfl rfl)
theorem dX5_companyBy_15 : decode bcX5_companyBy 15 = .ok (.iconst 0, 1) := dk_3 (dk_at dksX5_companyBy_0 15 rfl rfl)
theorem dX5_companyBy_16 : decode bcX5_companyBy 16 = .ok (.istore 4, 2) := dk_54 4 (dk_at dksX5_companyBy_0 16 rfl rfl)
theorem dX5_companyBy_18 : decode bcX5_companyBy 18 = .ok (.iconst 0, 1) := dk_3 (dk_at dksX5_companyBy_0 18 rfl rfl)
theorem dX5_companyBy_19 : decode bcX5_companyBy 19 = .ok (.istore 5, 2) := dk_54 5 (dk_at dksX5_companyBy_0 19 rfl rfl)
theorem dX5_companyBy_21 : decode bcX5_companyBy 21 = .ok (.iload 5, 2) := dk_21 5 (dk_at dksX5_companyBy_0 21 rfl rfl)
theorem dX5_companyBy_23 : decode bcX5_companyBy 23 = .ok (.aload_n 0, 1) := dk_42 (dk_at dksX5_companyBy_0 23 rfl rfl)
theorem dX5_companyBy_24 : decode bcX5_companyBy 24 = .ok (.invokevirtual 279, 3) := dk_182 1 23 (dk_at dksX5_companyBy_1 0 rfl rfl)
theorem dX5_companyBy_27 : decode bcX5_companyBy 27 = .ok (.if_icmp .ge 46, 3) := dk_162 0 46 (dk_at dksX5_companyBy_1 3 rfl rfl)
theorem dX5_companyBy_30 : decode bcX5_companyBy 30 = .ok (.iload 4, 2) := dk_21 4 (dk_at dksX5_companyBy_1 6 rfl rfl)
theorem dX5_companyBy_32 : decode bcX5_companyBy 32 = .ok (.iload 5, 2) := dk_21 5 (dk_at dksX5_companyBy_1 8 rfl rfl)
theorem dX5_companyBy_34 : decode bcX5_companyBy 34 = .ok (.iload_n 1, 1) := dk_27 (dk_at dksX5_companyBy_1 10 rfl rfl)
theorem dX5_companyBy_35 : decode bcX5_companyBy 35 = .ok (.if_icmp .eq 28, 3) := dk_159 0 28 (dk_at dksX5_companyBy_1 11 rfl rfl)
theorem dX5_companyBy_38 : decode bcX5_companyBy 38 = .ok (.iload_n 3, 1) := dk_29 (dk_at dksX5_companyBy_1 14 rfl rfl)
theorem dX5_companyBy_39 : decode bcX5_companyBy 39 = .ok (.aload_n 0, 1) := dk_42 (dk_at dksX5_companyBy_1 15 rfl rfl)
theorem dX5_companyBy_40 : decode bcX5_companyBy 40 = .ok (.getfield 113, 3) := dk_180 0 113 (dk_at dksX5_companyBy_1 16 rfl rfl)
theorem dX5_companyBy_43 : decode bcX5_companyBy 43 = .ok (.bipush 18, 2) := dk_16 18 (dk_at dksX5_companyBy_1 19 rfl rfl)
theorem dX5_companyBy_45 : decode bcX5_companyBy 45 = .ok (.iload 5, 2) := dk_21 5 (dk_at dksX5_companyBy_1 21 rfl rfl)
theorem dX5_companyBy_47 : decode bcX5_companyBy 47 = .ok (.iadd, 1) := dk_96 (dk_at dksX5_companyBy_1 23 rfl rfl)
theorem dX5_companyBy_48 : decode bcX5_companyBy 48 = .ok (.iaload, 1) := dk_46 (dk_at dksX5_companyBy_2 0 rfl rfl)
theorem dX5_companyBy_49 : decode bcX5_companyBy 49 = .ok (.ishr, 1) := dk_122 (dk_at dksX5_companyBy_2 1 rfl rfl)
theorem dX5_companyBy_50 : decode bcX5_companyBy 50 = .ok (.iconst 1, 1) := dk_4 (dk_at dksX5_companyBy_2 2 rfl rfl)
theorem dX5_companyBy_51 : decode bcX5_companyBy 51 = .ok (.iand, 1) := dk_126 (dk_at dksX5_companyBy_2 3 rfl rfl)
theorem dX5_companyBy_52 : decode bcX5_companyBy 52 = .ok (.iconst 1, 1) := dk_4 (dk_at dksX5_companyBy_2 4 rfl rfl)
theorem dX5_companyBy_53 : decode bcX5_companyBy 53 = .ok (.if_icmp .ne 10, 3) := dk_160 0 10 (dk_at dksX5_companyBy_2 5 rfl rfl)
theorem dX5_companyBy_56 : decode bcX5_companyBy 56 = .ok (.iconst 1, 1) := dk_4 (dk_at dksX5_companyBy_2 8 rfl rfl)
theorem dX5_companyBy_57 : decode bcX5_companyBy 57 = .ok (.iload 5, 2) := dk_21 5 (dk_at dksX5_companyBy_2 9 rfl rfl)
theorem dX5_companyBy_59 : decode bcX5_companyBy 59 = .ok (.ishl, 1) := dk_120 (dk_at dksX5_companyBy_2 11 rfl rfl)
theorem dX5_companyBy_60 : decode bcX5_companyBy 60 = .ok (.goto 4, 3) := dk_167 0 4 (dk_at dksX5_companyBy_2 12 rfl rfl)
theorem dX5_companyBy_63 : decode bcX5_companyBy 63 = .ok (.iconst 0, 1) := dk_3 (dk_at dksX5_companyBy_2 15 rfl rfl)
theorem dX5_companyBy_64 : decode bcX5_companyBy 64 = .ok (.ior, 1) := dk_128 (dk_at dksX5_companyBy_2 16 rfl rfl)
theorem dX5_companyBy_65 : decode bcX5_companyBy 65 = .ok (.istore 4, 2) := dk_54 4 (dk_at dksX5_companyBy_2 17 rfl rfl)
theorem dX5_companyBy_67 : decode bcX5_companyBy 67 = .ok (.iinc 5 1, 3) := dk_132 5 1 (dk_at dksX5_companyBy_2 19 rfl rfl)
theorem dX5_companyBy_70 : decode bcX5_companyBy 70 = .ok (.goto (-49), 3) := dk_167 255 207 (dk_at dksX5_companyBy_3 0 rfl rfl)
theorem dX5_companyBy_73 : decode bcX5_companyBy 73 = .ok (.iload 4, 2) := dk_21 4 (dk_at dksX5_companyBy_3 3 rfl rfl)
theorem dX5_companyBy_75 : decode bcX5_companyBy 75 = .ok (.ireturn, 1) := dk_172 (dk_at dksX5_companyBy_3 5 rfl rfl)
abbrev SX5_companyBy (pc : Nat) (i : xI) : Prop := Snd "SwollenHouseModel" "companyBy" prog_25_method_83_code 6 (Option.some Jvm.ClassFile.FieldType.int) [] pc i
theorem oX5_companyBy_0 : SX5_companyBy 0 (i_aload 0 1) := snd_aload_n dX5_companyBy_0 rfl
theorem oX5_companyBy_1 : SX5_companyBy 1 (i_aload 0 2) := snd_aload_n dX5_companyBy_1 rfl
theorem oX5_companyBy_2 : SX5_companyBy 2 (i_getf 4 24 5) := snd_getf dX5_companyBy_2 rfl (by decide) in_X5 (Or.inl q1722) (Or.inl rfl) (by decide)
theorem oX5_companyBy_5 : SX5_companyBy 5 (i_const (.int (nI 18)) 7) := snd_bipush dX5_companyBy_5 (by decide)
theorem oX5_companyBy_7 : SX5_companyBy 7 (i_iload 1 8) := snd_iload_n dX5_companyBy_7 rfl
theorem oX5_companyBy_8 : SX5_companyBy 8 (i_ii (fun x y => x + y) 9) := snd_iadd dX5_companyBy_8
theorem oX5_companyBy_9 : SX5_companyBy 9 (i_ai 0 10) := snd_ai0 dX5_companyBy_9
theorem oX5_companyBy_10 : SX5_companyBy 10 (i_iload 2 11) := snd_iload_n dX5_companyBy_10 rfl
theorem oX5_companyBy_11 : SX5_companyBy 11 (i_cv 4 322 2 14) := snd_cv rfl infX5_rangeBy (by decide) rfl (xVm_V dX5_companyBy_11 rfl q2068 q2070 qs112 q136 q2071 pdX5_rangeBy)
theorem oX5_companyBy_14 : SX5_companyBy 14 (i_istore 3 15) := snd_istore_n dX5_companyBy_14 rfl (by decide)
theorem oX5_companyBy_15 : SX5_companyBy 15 (i_const (.int (nI 0)) 16) := snd_iconst dX5_companyBy_15 (by decide)
theorem oX5_companyBy_16 : SX5_companyBy 16 (i_istore 4 18) := snd_istore dX5_companyBy_16 (by decide)
theorem oX5_companyBy_18 : SX5_companyBy 18 (i_const (.int (nI 0)) 19) := snd_iconst dX5_companyBy_18 (by decide)
theorem oX5_companyBy_19 : SX5_companyBy 19 (i_istore 5 21) := snd_istore dX5_companyBy_19 (by decide)
theorem oX5_companyBy_21 : SX5_companyBy 21 (i_iload 5 23) := snd_iload dX5_companyBy_21
theorem oX5_companyBy_23 : SX5_companyBy 23 (i_aload 0 24) := snd_aload_n dX5_companyBy_23 rfl
theorem oX5_companyBy_24 : SX5_companyBy 24 (i_cv 4 252 0 27) := snd_cv rfl infX5_persons (by decide) rfl (xVm_V dX5_companyBy_24 rfl q1694 q1696 qs62 q136 q1697 pdX5_persons)
theorem oX5_companyBy_27 : SX5_companyBy 27 (i_if2 (fun x y => y ≤ x) 73 30) := snd_icmp_ge dX5_companyBy_27 (by decide)
theorem oX5_companyBy_30 : SX5_companyBy 30 (i_iload 4 32) := snd_iload dX5_companyBy_30
theorem oX5_companyBy_32 : SX5_companyBy 32 (i_iload 5 34) := snd_iload dX5_companyBy_32
theorem oX5_companyBy_34 : SX5_companyBy 34 (i_iload 1 35) := snd_iload_n dX5_companyBy_34 rfl
theorem oX5_companyBy_35 : SX5_companyBy 35 (i_if2 (fun x y => x = y) 63 38) := snd_icmp_eq dX5_companyBy_35 (by decide)
theorem oX5_companyBy_38 : SX5_companyBy 38 (i_iload 3 39) := snd_iload_n dX5_companyBy_38 rfl
theorem oX5_companyBy_39 : SX5_companyBy 39 (i_aload 0 40) := snd_aload_n dX5_companyBy_39 rfl
theorem oX5_companyBy_40 : SX5_companyBy 40 (i_getf 4 24 43) := snd_getf dX5_companyBy_40 rfl (by decide) in_X5 (Or.inl q1722) (Or.inl rfl) (by decide)
theorem oX5_companyBy_43 : SX5_companyBy 43 (i_const (.int (nI 18)) 45) := snd_bipush dX5_companyBy_43 (by decide)
theorem oX5_companyBy_45 : SX5_companyBy 45 (i_iload 5 47) := snd_iload dX5_companyBy_45
theorem oX5_companyBy_47 : SX5_companyBy 47 (i_ii (fun x y => x + y) 48) := snd_iadd dX5_companyBy_47
theorem oX5_companyBy_48 : SX5_companyBy 48 (i_ai 0 49) := snd_ai0 dX5_companyBy_48
theorem oX5_companyBy_49 : SX5_companyBy 49 (i_ii (fun x y => x >>> (y &&& 31)) 50) := snd_ishr dX5_companyBy_49
theorem oX5_companyBy_50 : SX5_companyBy 50 (i_const (.int (nI 1)) 51) := snd_iconst dX5_companyBy_50 (by decide)
theorem oX5_companyBy_51 : SX5_companyBy 51 (i_ii (fun x y => x &&& y) 52) := snd_iand dX5_companyBy_51
theorem oX5_companyBy_52 : SX5_companyBy 52 (i_const (.int (nI 1)) 53) := snd_iconst dX5_companyBy_52 (by decide)
theorem oX5_companyBy_53 : SX5_companyBy 53 (i_if2 (fun x y => ¬ x = y) 63 56) := snd_icmp_ne dX5_companyBy_53 (by decide)
theorem oX5_companyBy_56 : SX5_companyBy 56 (i_const (.int (nI 1)) 57) := snd_iconst dX5_companyBy_56 (by decide)
theorem oX5_companyBy_57 : SX5_companyBy 57 (i_iload 5 59) := snd_iload dX5_companyBy_57
theorem oX5_companyBy_59 : SX5_companyBy 59 (i_ii (fun x y => x <<< (y &&& 31)) 60) := snd_ishl dX5_companyBy_59
theorem oX5_companyBy_60 : SX5_companyBy 60 (i_goto 64) := snd_goto dX5_companyBy_60 (by decide)
theorem oX5_companyBy_63 : SX5_companyBy 63 (i_const (.int (nI 0)) 64) := snd_iconst dX5_companyBy_63 (by decide)
theorem oX5_companyBy_64 : SX5_companyBy 64 (i_ii (fun x y => x ||| y) 65) := snd_ior dX5_companyBy_64
theorem oX5_companyBy_65 : SX5_companyBy 65 (i_istore 4 67) := snd_istore dX5_companyBy_65 (by decide)
theorem oX5_companyBy_67 : SX5_companyBy 67 (i_iinc 5 (nI 1) 70) := snd_iinc dX5_companyBy_67 (by decide) (by decide)
theorem oX5_companyBy_70 : SX5_companyBy 70 (i_goto 21) := snd_goto dX5_companyBy_70 (by decide)
theorem oX5_companyBy_73 : SX5_companyBy 73 (i_iload 4 75) := snd_iload dX5_companyBy_73
theorem oX5_companyBy_75 : SX5_companyBy 75 (i_iret) := snd_iret dX5_companyBy_75 rfl
theorem okX5_companyBy : ∀ q ∈ cX5_companyBy, SX5_companyBy q.1 q.2 := List.forall_mem_cons.mpr ⟨oX5_companyBy_0, List.forall_mem_cons.mpr ⟨oX5_companyBy_1, List.forall_mem_cons.mpr ⟨oX5_companyBy_2, List.forall_mem_cons.mpr ⟨oX5_companyBy_5, List.forall_mem_cons.mpr ⟨oX5_companyBy_7, List.forall_mem_cons.mpr ⟨oX5_companyBy_8, List.forall_mem_cons.mpr ⟨oX5_companyBy_9, List.forall_mem_cons.mpr ⟨oX5_companyBy_10, List.forall_mem_cons.mpr ⟨oX5_companyBy_11, List.forall_mem_cons.mpr ⟨oX5_companyBy_14, List.forall_mem_cons.mpr ⟨oX5_companyBy_15, List.forall_mem_cons.mpr ⟨oX5_companyBy_16, List.forall_mem_cons.mpr ⟨oX5_companyBy_18, List.forall_mem_cons.mpr ⟨oX5_companyBy_19, List.forall_mem_cons.mpr ⟨oX5_companyBy_21, List.forall_mem_cons.mpr ⟨oX5_companyBy_23, List.forall_mem_cons.mpr ⟨oX5_companyBy_24, List.forall_mem_cons.mpr ⟨oX5_companyBy_27, List.forall_mem_cons.mpr ⟨oX5_companyBy_30, List.forall_mem_cons.mpr ⟨oX5_companyBy_32, List.forall_mem_cons.mpr ⟨oX5_companyBy_34, List.forall_mem_cons.mpr ⟨oX5_companyBy_35, List.forall_mem_cons.mpr ⟨oX5_companyBy_38, List.forall_mem_cons.mpr ⟨oX5_companyBy_39, List.forall_mem_cons.mpr ⟨oX5_companyBy_40, List.forall_mem_cons.mpr ⟨oX5_companyBy_43, List.forall_mem_cons.mpr ⟨oX5_companyBy_45, List.forall_mem_cons.mpr ⟨oX5_companyBy_47, List.forall_mem_cons.mpr ⟨oX5_companyBy_48, List.forall_mem_cons.mpr ⟨oX5_companyBy_49, List.forall_mem_cons.mpr ⟨oX5_companyBy_50, List.forall_mem_cons.mpr ⟨oX5_companyBy_51, List.forall_mem_cons.mpr ⟨oX5_companyBy_52, List.forall_mem_cons.mpr ⟨oX5_companyBy_53, List.forall_mem_cons.mpr ⟨oX5_companyBy_56, List.forall_mem_cons.mpr ⟨oX5_companyBy_57, List.forall_mem_cons.mpr ⟨oX5_companyBy_59, List.forall_mem_cons.mpr ⟨oX5_companyBy_60, List.forall_mem_cons.mpr ⟨oX5_companyBy_63, List.forall_mem_cons.mpr ⟨oX5_companyBy_64, List.forall_mem_cons.mpr ⟨oX5_companyBy_65, List.forall_mem_cons.mpr ⟨oX5_companyBy_67, List.forall_mem_cons.mpr ⟨oX5_companyBy_70, List.forall_mem_cons.mpr ⟨oX5_companyBy_73, List.forall_mem_cons.mpr ⟨oX5_companyBy_75, fun _ h => absurd h List.not_mem_nil⟩⟩⟩⟩⟩⟩⟩⟩⟩⟩⟩⟩⟩⟩⟩⟩⟩⟩⟩⟩⟩⟩⟩⟩⟩⟩⟩⟩⟩⟩⟩⟩⟩⟩⟩⟩⟩⟩⟩⟩⟩⟩⟩⟩⟩
def dkwX5_alone_2 : List UInt8 := [27, 172]
abbrev dktX5_alone_2 : List UInt8 := dkwX5_alone_2 ++ []
def dkwX5_alone_1 : List UInt8 := [182, 1, 104, 182, 1, 110, 154, 0, 9, 4, 28, 120, 167, 0, 4, 3, 128, 60, 132, 2, 1, 167, 255, 222]
abbrev dktX5_alone_1 : List UInt8 := dkwX5_alone_1 ++ dktX5_alone_2
def dkwX5_alone_0 : List UInt8 := [42, 3, 181, 0, 1, 3, 60, 3, 61, 28, 42, 182, 1, 23, 162, 0, 32, 27, 42, 28, 42, 3]
abbrev dktX5_alone_0 : List UInt8 := dkwX5_alone_0 ++ dktX5_alone_1
theorem dksX5_alone_0 : bcX5_alone.data.toList.drop 0 = dktX5_alone_0 := by decide +kernel
theorem dksX5_alone_1 : bcX5_alone.data.toList.drop 22 = dktX5_alone_1 := dk_seg dksX5_alone_0 22 rfl rfl
theorem dksX5_alone_2 : bcX5_alone.data.toList.drop 46 = dktX5_alone_2 := dk_seg dksX5_alone_1 24 rfl rfl
theorem dX5_alone_0 : decode bcX5_alone 0 = .ok (.aload_n 0, 1) := dk_42 (dk_at dksX5_alone_0 0 rfl rfl)
theorem dX5_alone_1 : decode bcX5_alone 1 = .ok (.iconst 0, 1) := dk_3 (dk_at dksX5_alone_0 1 rfl rfl)
theorem dX5_alone_2 : decode bcX5_alone 2 = .ok (.putfield 1, 3) := dk_181 0 1 (dk_at dksX5_alone_0 2 rfl rfl)
theorem dX5_alone_5 : decode bcX5_alone 5 = .ok (.iconst 0, 1) := dk_3 (dk_at dksX5_alone_0 5 rfl rfl)
theorem dX5_alone_6 : decode bcX5_alone 6 = .ok (.istore_n 1, 1) := dk_60 (dk_at dksX5_alone_0 6 rfl rfl)
theorem dX5_alone_7 : decode bcX5_alone 7 = .ok (.iconst 0, 1) := dk_3 (dk_at dksX5_alone_0 7 rfl rfl)
theorem dX5_alone_8 : decode bcX5_alone 8 = .ok (.istore_n 2, 1) := dk_61 (dk_at dksX5_alone_0 8 rfl rfl)
theorem dX5_alone_9 : decode bcX5_alone 9 = .ok (.iload_n 2, 1) := dk_28 (dk_at dksX5_alone_0 9 rfl rfl)
theorem dX5_alone_10 : decode bcX5_alone 10 = .ok (.aload_n 0, 1) := dk_42 (dk_at dksX5_alone_0 10 rfl rfl)
theorem dX5_alone_11 : decode bcX5_alone 11 = .ok (.invokevirtual 279, 3) := dk_182 1 23 (dk_at dksX5_alone_0 11 rfl rfl)
theorem dX5_alone_14 : decode bcX5_alone 14 = .ok (.if_icmp .ge 32, 3) := dk_162 0 32 (dk_at dksX5_alone_0 14 rfl rfl)
theorem dX5_alone_17 : decode bcX5_alone 17 = .ok (.iload_n 1, 1) := dk_27 (dk_at dksX5_alone_0 17 rfl rfl)
theorem dX5_alone_18 : decode bcX5_alone 18 = .ok (.aload_n 0, 1) := dk_42 (dk_at dksX5_alone_0 18 rfl rfl)
theorem dX5_alone_19 : decode bcX5_alone 19 = .ok (.iload_n 2, 1) := dk_28 (dk_at dksX5_alone_0 19 rfl rfl)
theorem dX5_alone_20 : decode bcX5_alone 20 = .ok (.aload_n 0, 1) := dk_42 (dk_at dksX5_alone_0 20 rfl rfl)
theorem dX5_alone_21 : decode bcX5_alone 21 = .ok (.iconst 0, 1) := dk_3 (dk_at dksX5_alone_0 21 rfl rfl)
theorem dX5_alone_22 : decode bcX5_alone 22 = .ok (.invokevirtual 360, 3) := dk_182 1 104 (dk_at dksX5_alone_1 0 rfl rfl)
theorem dX5_alone_25 : decode bcX5_alone 25 = .ok (.invokevirtual 366, 3) := dk_182 1 110 (dk_at dksX5_alone_1 3 rfl rfl)
theorem dX5_alone_28 : decode bcX5_alone 28 = .ok (.ifCond .ne 9, 3) := dk_154 0 9 (dk_at dksX5_alone_1 6 rfl rfl)
theorem dX5_alone_31 : decode bcX5_alone 31 = .ok (.iconst 1, 1) := dk_4 (dk_at dksX5_alone_1 9 rfl rfl)
theorem dX5_alone_32 : decode bcX5_alone 32 = .ok (.iload_n 2, 1) := dk_28 (dk_at dksX5_alone_1 10 rfl rfl)
theorem dX5_alone_33 : decode bcX5_alone 33 = .ok (.ishl, 1) := dk_120 (dk_at dksX5_alone_1 11 rfl rfl)
theorem dX5_alone_34 : decode bcX5_alone 34 = .ok (.goto 4, 3) := dk_167 0 4 (dk_at dksX5_alone_1 12 rfl rfl)
theorem dX5_alone_37 : decode bcX5_alone 37 = .ok (.iconst 0, 1) := dk_3 (dk_at dksX5_alone_1 15 rfl rfl)
theorem dX5_alone_38 : decode bcX5_alone 38 = .ok (.ior, 1) := dk_128 (dk_at dksX5_alone_1 16 rfl rfl)
theorem dX5_alone_39 : decode bcX5_alone 39 = .ok (.istore_n 1, 1) := dk_60 (dk_at dksX5_alone_1 17 rfl rfl)
theorem dX5_alone_40 : decode bcX5_alone 40 = .ok (.iinc 2 1, 3) := dk_132 2 1 (dk_at dksX5_alone_1 18 rfl rfl)
theorem dX5_alone_43 : decode bcX5_alone 43 = .ok (.goto (-34), 3) := dk_167 255 222 (dk_at dksX5_alone_1 21 rfl rfl)
theorem dX5_alone_46 : decode bcX5_alone 46 = .ok (.iload_n 1, 1) := dk_27 (dk_at dksX5_alone_2 0 rfl rfl)
theorem dX5_alone_47 : decode bcX5_alone 47 = .ok (.ireturn, 1) := dk_172 (dk_at dksX5_alone_2 1 rfl rfl)
abbrev SX5_alone (pc : Nat) (i : xI) : Prop := Snd "SwollenHouseModel" "alone" prog_25_method_85_code 3 (Option.some Jvm.ClassFile.FieldType.int) [] pc i
theorem oX5_alone_0 : SX5_alone 0 (i_aload 0 1) := snd_aload_n dX5_alone_0 rfl
theorem oX5_alone_1 : SX5_alone 1 (i_const (.int (nI 0)) 2) := snd_iconst dX5_alone_1 (by decide)
theorem oX5_alone_2 : SX5_alone 2 (i_putfi 4 0 5) := snd_putfi dX5_alone_2 rfl (by decide) in_X5 tyX5 tyX5_ok nmX5 (Or.inl ⟨rfl, q1698⟩) (Or.inl rfl) rfl
theorem oX5_alone_5 : SX5_alone 5 (i_const (.int (nI 0)) 6) := snd_iconst dX5_alone_5 (by decide)
theorem oX5_alone_6 : SX5_alone 6 (i_istore 1 7) := snd_istore_n dX5_alone_6 rfl (by decide)
theorem oX5_alone_7 : SX5_alone 7 (i_const (.int (nI 0)) 8) := snd_iconst dX5_alone_7 (by decide)
theorem oX5_alone_8 : SX5_alone 8 (i_istore 2 9) := snd_istore_n dX5_alone_8 rfl (by decide)
theorem oX5_alone_9 : SX5_alone 9 (i_iload 2 10) := snd_iload_n dX5_alone_9 rfl
theorem oX5_alone_10 : SX5_alone 10 (i_aload 0 11) := snd_aload_n dX5_alone_10 rfl
theorem oX5_alone_11 : SX5_alone 11 (i_cv 4 252 0 14) := snd_cv rfl infX5_persons (by decide) rfl (xVm_V dX5_alone_11 rfl q1694 q1696 qs62 q136 q1697 pdX5_persons)
theorem oX5_alone_14 : SX5_alone 14 (i_if2 (fun x y => y ≤ x) 46 17) := snd_icmp_ge dX5_alone_14 (by decide)
theorem oX5_alone_17 : SX5_alone 17 (i_iload 1 18) := snd_iload_n dX5_alone_17 rfl
theorem oX5_alone_18 : SX5_alone 18 (i_aload 0 19) := snd_aload_n dX5_alone_18 rfl
theorem oX5_alone_19 : SX5_alone 19 (i_iload 2 20) := snd_iload_n dX5_alone_19 rfl
theorem oX5_alone_20 : SX5_alone 20 (i_aload 0 21) := snd_aload_n dX5_alone_20 rfl
theorem oX5_alone_21 : SX5_alone 21 (i_const (.int (nI 0)) 22) := snd_iconst dX5_alone_21 (by decide)
theorem oX5_alone_22 : SX5_alone 22 (i_cv 4 321 1 25) := snd_cv rfl infX5_openNow (by decide) rfl (xVm_V dX5_alone_22 rfl q2064 q2066 qs111 q136 q2067 pdX5_openNow)
theorem oX5_alone_25 : SX5_alone 25 (i_cv 4 325 2 28) := snd_cv rfl infX5_companyBy (by decide) rfl (xVm_V dX5_alone_25 rfl q2080 q2082 qs114 q136 q2083 pdX5_companyBy)
theorem oX5_alone_28 : SX5_alone 28 (i_if1 (fun x => ¬ x = 0) 37 31) := snd_if_ne dX5_alone_28 (by decide)
theorem oX5_alone_31 : SX5_alone 31 (i_const (.int (nI 1)) 32) := snd_iconst dX5_alone_31 (by decide)
theorem oX5_alone_32 : SX5_alone 32 (i_iload 2 33) := snd_iload_n dX5_alone_32 rfl
theorem oX5_alone_33 : SX5_alone 33 (i_ii (fun x y => x <<< (y &&& 31)) 34) := snd_ishl dX5_alone_33
theorem oX5_alone_34 : SX5_alone 34 (i_goto 38) := snd_goto dX5_alone_34 (by decide)
theorem oX5_alone_37 : SX5_alone 37 (i_const (.int (nI 0)) 38) := snd_iconst dX5_alone_37 (by decide)
theorem oX5_alone_38 : SX5_alone 38 (i_ii (fun x y => x ||| y) 39) := snd_ior dX5_alone_38
theorem oX5_alone_39 : SX5_alone 39 (i_istore 1 40) := snd_istore_n dX5_alone_39 rfl (by decide)
theorem oX5_alone_40 : SX5_alone 40 (i_iinc 2 (nI 1) 43) := snd_iinc dX5_alone_40 (by decide) (by decide)
theorem oX5_alone_43 : SX5_alone 43 (i_goto 9) := snd_goto dX5_alone_43 (by decide)
theorem oX5_alone_46 : SX5_alone 46 (i_iload 1 47) := snd_iload_n dX5_alone_46 rfl
theorem oX5_alone_47 : SX5_alone 47 (i_iret) := snd_iret dX5_alone_47 rfl
theorem okX5_alone : ∀ q ∈ cX5_alone, SX5_alone q.1 q.2 := List.forall_mem_cons.mpr ⟨oX5_alone_0, List.forall_mem_cons.mpr ⟨oX5_alone_1, List.forall_mem_cons.mpr ⟨oX5_alone_2, List.forall_mem_cons.mpr ⟨oX5_alone_5, List.forall_mem_cons.mpr ⟨oX5_alone_6, List.forall_mem_cons.mpr ⟨oX5_alone_7, List.forall_mem_cons.mpr ⟨oX5_alone_8, List.forall_mem_cons.mpr ⟨oX5_alone_9, List.forall_mem_cons.mpr ⟨oX5_alone_10, List.forall_mem_cons.mpr ⟨oX5_alone_11, List.forall_mem_cons.mpr ⟨oX5_alone_14, List.forall_mem_cons.mpr ⟨oX5_alone_17, List.forall_mem_cons.mpr ⟨oX5_alone_18, List.forall_mem_cons.mpr ⟨oX5_alone_19, List.forall_mem_cons.mpr ⟨oX5_alone_20, List.forall_mem_cons.mpr ⟨oX5_alone_21, List.forall_mem_cons.mpr ⟨oX5_alone_22, List.forall_mem_cons.mpr ⟨oX5_alone_25, List.forall_mem_cons.mpr ⟨oX5_alone_28, List.forall_mem_cons.mpr ⟨oX5_alone_31, List.forall_mem_cons.mpr ⟨oX5_alone_32, List.forall_mem_cons.mpr ⟨oX5_alone_33, List.forall_mem_cons.mpr ⟨oX5_alone_34, List.forall_mem_cons.mpr ⟨oX5_alone_37, List.forall_mem_cons.mpr ⟨oX5_alone_38, List.forall_mem_cons.mpr ⟨oX5_alone_39, List.forall_mem_cons.mpr ⟨oX5_alone_40, List.forall_mem_cons.mpr ⟨oX5_alone_43, List.forall_mem_cons.mpr ⟨oX5_alone_46, List.forall_mem_cons.mpr ⟨oX5_alone_47, fun _ h => absurd h List.not_mem_nil⟩⟩⟩⟩⟩⟩⟩⟩⟩⟩⟩⟩⟩⟩⟩⟩⟩⟩⟩⟩⟩⟩⟩⟩⟩⟩⟩⟩⟩⟩
def dkwX5_bride_3 : List UInt8 := [132, 3, 1, 167, 255, 197, 27, 172]
abbrev dktX5_bride_3 : List UInt8 := dkwX5_bride_3 ++ []
def dkwX5_bride_2 : List UInt8 := [162, 0, 7, 29, 167, 0, 4, 27, 60, 21, 4, 28, 162, 0, 8, 21, 4, 167, 0, 4, 28, 61]
abbrev dktX5_bride_2 : List UInt8 := dkwX5_bride_2 ++ dktX5_bride_3
def dkwX5_bride_1 : List UInt8 := [180, 0, 113, 16, 18, 29, 96, 46, 42, 3, 182, 1, 104, 182, 1, 107, 184, 1, 95, 54, 4, 21, 4, 28]
abbrev dktX5_bride_1 : List UInt8 := dkwX5_bride_1 ++ dktX5_bride_2
def dkwX5_bride_0 : List UInt8 := [42, 3, 181, 0, 1, 2, 60, 16, 8, 61, 3, 62, 29, 42, 182, 1, 23, 162, 0, 57, 42, 42]
abbrev dktX5_bride_0 : List UInt8 := dkwX5_bride_0 ++ dktX5_bride_1
theorem dksX5_bride_0 : bcX5_bride.data.toList.drop 0 = dktX5_bride_0 := by decide +kernel
theorem dksX5_bride_1 : bcX5_bride.data.toList.drop 22 = dktX5_bride_1 := dk_seg dksX5_bride_0 22 rfl rfl
theorem dksX5_bride_2 : bcX5_bride.data.toList.drop 46 = dktX5_bride_2 := dk_seg dksX5_bride_1 24 rfl rfl
theorem dksX5_bride_3 : bcX5_bride.data.toList.drop 68 = dktX5_bride_3 := dk_seg dksX5_bride_2 22 rfl rfl
theorem dX5_bride_0 : decode bcX5_bride 0 = .ok (.aload_n 0, 1) := dk_42 (dk_at dksX5_bride_0 0 rfl rfl)
theorem dX5_bride_1 : decode bcX5_bride 1 = .ok (.iconst 0, 1) := dk_3 (dk_at dksX5_bride_0 1 rfl rfl)
theorem dX5_bride_2 : decode bcX5_bride 2 = .ok (.putfield 1, 3) := dk_181 0 1 (dk_at dksX5_bride_0 2 rfl rfl)
theorem dX5_bride_5 : decode bcX5_bride 5 = .ok (.iconst (-1), 1) := dk_2 (dk_at dksX5_bride_0 5 rfl rfl)
theorem dX5_bride_6 : decode bcX5_bride 6 = .ok (.istore_n 1, 1) := dk_60 (dk_at dksX5_bride_0 6 rfl rfl)
theorem dX5_bride_7 : decode bcX5_bride 7 = .ok (.bipush 8, 2) := dk_16 8 (dk_at dksX5_bride_0 7 rfl rfl)
theorem dX5_bride_9 : decode bcX5_bride 9 = .ok (.istore_n 2, 1) := dk_61 (dk_at dksX5_bride_0 9 rfl rfl)
theorem dX5_bride_10 : decode bcX5_bride 10 = .ok (.iconst 0, 1) := dk_3 (dk_at dksX5_bride_0 10 rfl rfl)
theorem dX5_bride_11 : decode bcX5_bride 11 = .ok (.istore_n 3, 1) := dk_62 (dk_at dksX5_bride_0 11 rfl rfl)
theorem dX5_bride_12 : decode bcX5_bride 12 = .ok (.iload_n 3, 1) := dk_29 (dk_at dksX5_bride_0 12 rfl rfl)
theorem dX5_bride_13 : decode bcX5_bride 13 = .ok (.aload_n 0, 1) := dk_42 (dk_at dksX5_bride_0 13 rfl rfl)
theorem dX5_bride_14 : decode bcX5_bride 14 = .ok (.invokevirtual 279, 3) := dk_182 1 23 (dk_at dksX5_bride_0 14 rfl rfl)
theorem dX5_bride_17 : decode bcX5_bride 17 = .ok (.if_icmp .ge 57, 3) := dk_162 0 57 (dk_at dksX5_bride_0 17 rfl rfl)
theorem dX5_bride_20 : decode bcX5_bride 20 = .ok (.aload_n 0, 1) := dk_42 (dk_at dksX5_bride_0 20 rfl rfl)
theorem dX5_bride_21 : decode bcX5_bride 21 = .ok (.aload_n 0, 1) := dk_42 (dk_at dksX5_bride_0 21 rfl rfl)
theorem dX5_bride_22 : decode bcX5_bride 22 = .ok (.getfield 113, 3) := dk_180 0 113 (dk_at dksX5_bride_1 0 rfl rfl)
theorem dX5_bride_25 : decode bcX5_bride 25 = .ok (.bipush 18, 2) := dk_16 18 (dk_at dksX5_bride_1 3 rfl rfl)
theorem dX5_bride_27 : decode bcX5_bride 27 = .ok (.iload_n 3, 1) := dk_29 (dk_at dksX5_bride_1 5 rfl rfl)
theorem dX5_bride_28 : decode bcX5_bride 28 = .ok (.iadd, 1) := dk_96 (dk_at dksX5_bride_1 6 rfl rfl)
theorem dX5_bride_29 : decode bcX5_bride 29 = .ok (.iaload, 1) := dk_46 (dk_at dksX5_bride_1 7 rfl rfl)
theorem dX5_bride_30 : decode bcX5_bride 30 = .ok (.aload_n 0, 1) := dk_42 (dk_at dksX5_bride_1 8 rfl rfl)
theorem dX5_bride_31 : decode bcX5_bride 31 = .ok (.iconst 0, 1) := dk_3 (dk_at dksX5_bride_1 9 rfl rfl)
theorem dX5_bride_32 : decode bcX5_bride 32 = .ok (.invokevirtual 360, 3) := dk_182 1 104 (dk_at dksX5_bride_1 10 rfl rfl)
theorem dX5_bride_35 : decode bcX5_bride 35 = .ok (.invokevirtual 363, 3) := dk_182 1 107 (dk_at dksX5_bride_1 13 rfl rfl)
theorem dX5_bride_38 : decode bcX5_bride 38 = .ok (.invokestatic 351, 3) := dk_184 1 95 (dk_at dksX5_bride_1 16 rfl rfl)
theorem dX5_bride_41 : decode bcX5_bride 41 = .ok (.istore 4, 2) := dk_54 4 (dk_at dksX5_bride_1 19 rfl rfl)
theorem dX5_bride_43 : decode bcX5_bride 43 = .ok (.iload 4, 2) := dk_21 4 (dk_at dksX5_bride_1 21 rfl rfl)
theorem dX5_bride_45 : decode bcX5_bride 45 = .ok (.iload_n 2, 1) := dk_28 (dk_at dksX5_bride_1 23 rfl rfl)
theorem dX5_bride_46 : decode bcX5_bride 46 = .ok (.if_icmp .ge 7, 3) := dk_162 0 7 (dk_at dksX5_bride_2 0 rfl rfl)
theorem dX5_bride_49 : decode bcX5_bride 49 = .ok (.iload_n 3, 1) := dk_29 (dk_at dksX5_bride_2 3 rfl rfl)
theorem dX5_bride_50 : decode bcX5_bride 50 = .ok (.goto 4, 3) := dk_167 0 4 (dk_at dksX5_bride_2 4 rfl rfl)
theorem dX5_bride_53 : decode bcX5_bride 53 = .ok (.iload_n 1, 1) := dk_27 (dk_at dksX5_bride_2 7 rfl rfl)
theorem dX5_bride_54 : decode bcX5_bride 54 = .ok (.istore_n 1, 1) := dk_60 (dk_at dksX5_bride_2 8 rfl rfl)
theorem dX5_bride_55 : decode bcX5_bride 55 = .ok (.iload 4, 2) := dk_21 4 (dk_at dksX5_bride_2 9 rfl rfl)
theorem dX5_bride_57 : decode bcX5_bride 57 = .ok (.iload_n 2, 1) := dk_28 (dk_at dksX5_bride_2 11 rfl rfl)
theorem dX5_bride_58 : decode bcX5_bride 58 = .ok (.if_icmp .ge 8, 3) := dk_162 0 8 (dk_at dksX5_bride_2 12 rfl rfl)
theorem dX5_bride_61 : decode bcX5_bride 61 = .ok (.iload 4, 2) := dk_21 4 (dk_at dksX5_bride_2 15 rfl rfl)
theorem dX5_bride_63 : decode bcX5_bride 63 = .ok (.goto 4, 3) := dk_167 0 4 (dk_at dksX5_bride_2 17 rfl rfl)
theorem dX5_bride_66 : decode bcX5_bride 66 = .ok (.iload_n 2, 1) := dk_28 (dk_at dksX5_bride_2 20 rfl rfl)
theorem dX5_bride_67 : decode bcX5_bride 67 = .ok (.istore_n 2, 1) := dk_61 (dk_at dksX5_bride_2 21 rfl rfl)
theorem dX5_bride_68 : decode bcX5_bride 68 = .ok (.iinc 3 1, 3) := dk_132 3 1 (dk_at dksX5_bride_3 0 rfl rfl)
theorem dX5_bride_71 : decode bcX5_bride 71 = .ok (.goto (-59), 3) := dk_167 255 197 (dk_at dksX5_bride_3 3 rfl rfl)
theorem dX5_bride_74 : decode bcX5_bride 74 = .ok (.iload_n 1, 1) := dk_27 (dk_at dksX5_bride_3 6 rfl rfl)
theorem dX5_bride_75 : decode bcX5_bride 75 = .ok (.ireturn, 1) := dk_172 (dk_at dksX5_bride_3 7 rfl rfl)
abbrev SX5_bride (pc : Nat) (i : xI) : Prop := Snd "SwollenHouseModel" "bride" prog_25_method_86_code 5 (Option.some Jvm.ClassFile.FieldType.int) [] pc i
theorem oX5_bride_0 : SX5_bride 0 (i_aload 0 1) := snd_aload_n dX5_bride_0 rfl
theorem oX5_bride_1 : SX5_bride 1 (i_const (.int (nI 0)) 2) := snd_iconst dX5_bride_1 (by decide)
theorem oX5_bride_2 : SX5_bride 2 (i_putfi 4 0 5) := snd_putfi dX5_bride_2 rfl (by decide) in_X5 tyX5 tyX5_ok nmX5 (Or.inl ⟨rfl, q1698⟩) (Or.inl rfl) rfl
theorem oX5_bride_5 : SX5_bride 5 (i_const (.int (-1)) 6) := snd_iconst dX5_bride_5 (by decide)
theorem oX5_bride_6 : SX5_bride 6 (i_istore 1 7) := snd_istore_n dX5_bride_6 rfl (by decide)
theorem oX5_bride_7 : SX5_bride 7 (i_const (.int (nI 8)) 9) := snd_bipush dX5_bride_7 (by decide)
theorem oX5_bride_9 : SX5_bride 9 (i_istore 2 10) := snd_istore_n dX5_bride_9 rfl (by decide)
theorem oX5_bride_10 : SX5_bride 10 (i_const (.int (nI 0)) 11) := snd_iconst dX5_bride_10 (by decide)
theorem oX5_bride_11 : SX5_bride 11 (i_istore 3 12) := snd_istore_n dX5_bride_11 rfl (by decide)
theorem oX5_bride_12 : SX5_bride 12 (i_iload 3 13) := snd_iload_n dX5_bride_12 rfl
theorem oX5_bride_13 : SX5_bride 13 (i_aload 0 14) := snd_aload_n dX5_bride_13 rfl
theorem oX5_bride_14 : SX5_bride 14 (i_cv 4 252 0 17) := snd_cv rfl infX5_persons (by decide) rfl (xVm_V dX5_bride_14 rfl q1694 q1696 qs62 q136 q1697 pdX5_persons)
theorem oX5_bride_17 : SX5_bride 17 (i_if2 (fun x y => y ≤ x) 74 20) := snd_icmp_ge dX5_bride_17 (by decide)
theorem oX5_bride_20 : SX5_bride 20 (i_aload 0 21) := snd_aload_n dX5_bride_20 rfl
theorem oX5_bride_21 : SX5_bride 21 (i_aload 0 22) := snd_aload_n dX5_bride_21 rfl
theorem oX5_bride_22 : SX5_bride 22 (i_getf 4 24 25) := snd_getf dX5_bride_22 rfl (by decide) in_X5 (Or.inl q1722) (Or.inl rfl) (by decide)
theorem oX5_bride_25 : SX5_bride 25 (i_const (.int (nI 18)) 27) := snd_bipush dX5_bride_25 (by decide)
theorem oX5_bride_27 : SX5_bride 27 (i_iload 3 28) := snd_iload_n dX5_bride_27 rfl
theorem oX5_bride_28 : SX5_bride 28 (i_ii (fun x y => x + y) 29) := snd_iadd dX5_bride_28
theorem oX5_bride_29 : SX5_bride 29 (i_ai 0 30) := snd_ai0 dX5_bride_29
theorem oX5_bride_30 : SX5_bride 30 (i_aload 0 31) := snd_aload_n dX5_bride_30 rfl
theorem oX5_bride_31 : SX5_bride 31 (i_const (.int (nI 0)) 32) := snd_iconst dX5_bride_31 (by decide)
theorem oX5_bride_32 : SX5_bride 32 (i_cv 4 321 1 35) := snd_cv rfl infX5_openNow (by decide) rfl (xVm_V dX5_bride_32 rfl q2064 q2066 qs111 q136 q2067 pdX5_openNow)
theorem oX5_bride_35 : SX5_bride 35 (i_cv 4 322 2 38) := snd_cv rfl infX5_rangeBy (by decide) rfl (xVm_V dX5_bride_35 rfl q2068 q2070 qs112 q136 q2071 pdX5_rangeBy)
theorem oX5_bride_38 : SX5_bride 38 (i_cs 316 1 41) := snd_cs rfl infX5_bits (by decide) (xSm_S dX5_bride_38 q2045 q2046 q136 q2047 pdX5_bits)
theorem oX5_bride_41 : SX5_bride 41 (i_istore 4 43) := snd_istore dX5_bride_41 (by decide)
theorem oX5_bride_43 : SX5_bride 43 (i_iload 4 45) := snd_iload dX5_bride_43
theorem oX5_bride_45 : SX5_bride 45 (i_iload 2 46) := snd_iload_n dX5_bride_45 rfl
theorem oX5_bride_46 : SX5_bride 46 (i_if2 (fun x y => y ≤ x) 53 49) := snd_icmp_ge dX5_bride_46 (by decide)
theorem oX5_bride_49 : SX5_bride 49 (i_iload 3 50) := snd_iload_n dX5_bride_49 rfl
theorem oX5_bride_50 : SX5_bride 50 (i_goto 54) := snd_goto dX5_bride_50 (by decide)
theorem oX5_bride_53 : SX5_bride 53 (i_iload 1 54) := snd_iload_n dX5_bride_53 rfl
theorem oX5_bride_54 : SX5_bride 54 (i_istore 1 55) := snd_istore_n dX5_bride_54 rfl (by decide)
theorem oX5_bride_55 : SX5_bride 55 (i_iload 4 57) := snd_iload dX5_bride_55
theorem oX5_bride_57 : SX5_bride 57 (i_iload 2 58) := snd_iload_n dX5_bride_57 rfl
theorem oX5_bride_58 : SX5_bride 58 (i_if2 (fun x y => y ≤ x) 66 61) := snd_icmp_ge dX5_bride_58 (by decide)
theorem oX5_bride_61 : SX5_bride 61 (i_iload 4 63) := snd_iload dX5_bride_61
theorem oX5_bride_63 : SX5_bride 63 (i_goto 67) := snd_goto dX5_bride_63 (by decide)
theorem oX5_bride_66 : SX5_bride 66 (i_iload 2 67) := snd_iload_n dX5_bride_66 rfl
theorem oX5_bride_67 : SX5_bride 67 (i_istore 2 68) := snd_istore_n dX5_bride_67 rfl (by decide)
theorem oX5_bride_68 : SX5_bride 68 (i_iinc 3 (nI 1) 71) := snd_iinc dX5_bride_68 (by decide) (by decide)
theorem oX5_bride_71 : SX5_bride 71 (i_goto 12) := snd_goto dX5_bride_71 (by decide)
theorem oX5_bride_74 : SX5_bride 74 (i_iload 1 75) := snd_iload_n dX5_bride_74 rfl
theorem oX5_bride_75 : SX5_bride 75 (i_iret) := snd_iret dX5_bride_75 rfl
theorem okX5_bride : ∀ q ∈ cX5_bride, SX5_bride q.1 q.2 := List.forall_mem_cons.mpr ⟨oX5_bride_0, List.forall_mem_cons.mpr ⟨oX5_bride_1, List.forall_mem_cons.mpr ⟨oX5_bride_2, List.forall_mem_cons.mpr ⟨oX5_bride_5, List.forall_mem_cons.mpr ⟨oX5_bride_6, List.forall_mem_cons.mpr ⟨oX5_bride_7, List.forall_mem_cons.mpr ⟨oX5_bride_9, List.forall_mem_cons.mpr ⟨oX5_bride_10, List.forall_mem_cons.mpr ⟨oX5_bride_11, List.forall_mem_cons.mpr ⟨oX5_bride_12, List.forall_mem_cons.mpr ⟨oX5_bride_13, List.forall_mem_cons.mpr ⟨oX5_bride_14, List.forall_mem_cons.mpr ⟨oX5_bride_17, List.forall_mem_cons.mpr ⟨oX5_bride_20, List.forall_mem_cons.mpr ⟨oX5_bride_21, List.forall_mem_cons.mpr ⟨oX5_bride_22, List.forall_mem_cons.mpr ⟨oX5_bride_25, List.forall_mem_cons.mpr ⟨oX5_bride_27, List.forall_mem_cons.mpr ⟨oX5_bride_28, List.forall_mem_cons.mpr ⟨oX5_bride_29, List.forall_mem_cons.mpr ⟨oX5_bride_30, List.forall_mem_cons.mpr ⟨oX5_bride_31, List.forall_mem_cons.mpr ⟨oX5_bride_32, List.forall_mem_cons.mpr ⟨oX5_bride_35, List.forall_mem_cons.mpr ⟨oX5_bride_38, List.forall_mem_cons.mpr ⟨oX5_bride_41, List.forall_mem_cons.mpr ⟨oX5_bride_43, List.forall_mem_cons.mpr ⟨oX5_bride_45, List.forall_mem_cons.mpr ⟨oX5_bride_46, List.forall_mem_cons.mpr ⟨oX5_bride_49, List.forall_mem_cons.mpr ⟨oX5_bride_50, List.forall_mem_cons.mpr ⟨oX5_bride_53, List.forall_mem_cons.mpr ⟨oX5_bride_54, List.forall_mem_cons.mpr ⟨oX5_bride_55, List.forall_mem_cons.mpr ⟨oX5_bride_57, List.forall_mem_cons.mpr ⟨oX5_bride_58, List.forall_mem_cons.mpr ⟨oX5_bride_61, List.forall_mem_cons.mpr ⟨oX5_bride_63, List.forall_mem_cons.mpr ⟨oX5_bride_66, List.forall_mem_cons.mpr ⟨oX5_bride_67, List.forall_mem_cons.mpr ⟨oX5_bride_68, List.forall_mem_cons.mpr ⟨oX5_bride_71, List.forall_mem_cons.mpr ⟨oX5_bride_74, List.forall_mem_cons.mpr ⟨oX5_bride_75, fun _ h => absurd h List.not_mem_nil⟩⟩⟩⟩⟩⟩⟩⟩⟩⟩⟩⟩⟩⟩⟩⟩⟩⟩⟩⟩⟩⟩⟩⟩⟩⟩⟩⟩⟩⟩⟩⟩⟩⟩⟩⟩⟩⟩⟩⟩⟩⟩⟩⟩
def dkwX5_parts_2 : List UInt8 := [132, 2, 1, 167, 255, 218, 27, 172]
abbrev dktX5_parts_2 : List UInt8 := dkwX5_parts_2 ++ []
def dkwX5_parts_1 : List UInt8 := [182, 1, 104, 182, 1, 107, 4, 28, 120, 4, 100, 126, 154, 0, 7, 4, 167, 0, 4, 3, 96, 60]
abbrev dktX5_parts_1 : List UInt8 := dkwX5_parts_1 ++ dktX5_parts_2
def dkwX5_parts_0 : List UInt8 := [42, 3, 181, 0, 1, 3, 60, 3, 61, 28, 42, 182, 1, 35, 162, 0, 36, 27, 42, 28, 42, 3]
abbrev dktX5_parts_0 : List UInt8 := dkwX5_parts_0 ++ dktX5_parts_1
theorem dksX5_parts_0 : bcX5_parts.data.toList.drop 0 = dktX5_parts_0 := by decide +kernel
theorem dksX5_parts_1 : bcX5_parts.data.toList.drop 22 = dktX5_parts_1 := dk_seg dksX5_parts_0 22 rfl rfl
theorem dksX5_parts_2 : bcX5_parts.data.toList.drop 44 = dktX5_parts_2 := dk_seg dksX5_parts_1 22 rfl rfl
theorem dX5_parts_0 : decode bcX5_parts 0 = .ok (.aload_n 0, 1) := dk_42 (dk_at dksX5_parts_0 0 rfl rfl)
theorem dX5_parts_1 : decode bcX5_parts 1 = .ok (.iconst 0, 1) := dk_3 (dk_at dksX5_parts_0 1 rfl rfl)
theorem dX5_parts_2 : decode bcX5_parts 2 = .ok (.putfield 1, 3) := dk_181 0 1 (dk_at dksX5_parts_0 2 rfl rfl)
theorem dX5_parts_5 : decode bcX5_parts 5 = .ok (.iconst 0, 1) := dk_3 (dk_at dksX5_parts_0 5 rfl rfl)
theorem dX5_parts_6 : decode bcX5_parts 6 = .ok (.istore_n 1, 1) := dk_60 (dk_at dksX5_parts_0 6 rfl rfl)
theorem dX5_parts_7 : decode bcX5_parts 7 = .ok (.iconst 0, 1) := dk_3 (dk_at dksX5_parts_0 7 rfl rfl)
theorem dX5_parts_8 : decode bcX5_parts 8 = .ok (.istore_n 2, 1) := dk_61 (dk_at dksX5_parts_0 8 rfl rfl)
theorem dX5_parts_9 : decode bcX5_parts 9 = .ok (.iload_n 2, 1) := dk_28 (dk_at dksX5_parts_0 9 rfl rfl)
theorem dX5_parts_10 : decode bcX5_parts 10 = .ok (.aload_n 0, 1) := dk_42 (dk_at dksX5_parts_0 10 rfl rfl)
theorem dX5_parts_11 : decode bcX5_parts 11 = .ok (.invokevirtual 291, 3) := dk_182 1 35 (dk_at dksX5_parts_0 11 rfl rfl)
theorem dX5_parts_14 : decode bcX5_parts 14 = .ok (.if_icmp .ge 36, 3) := dk_162 0 36 (dk_at dksX5_parts_0 14 rfl rfl)
theorem dX5_parts_17 : decode bcX5_parts 17 = .ok (.iload_n 1, 1) := dk_27 (dk_at dksX5_parts_0 17 rfl rfl)
theorem dX5_parts_18 : decode bcX5_parts 18 = .ok (.aload_n 0, 1) := dk_42 (dk_at dksX5_parts_0 18 rfl rfl)
theorem dX5_parts_19 : decode bcX5_parts 19 = .ok (.iload_n 2, 1) := dk_28 (dk_at dksX5_parts_0 19 rfl rfl)
theorem dX5_parts_20 : decode bcX5_parts 20 = .ok (.aload_n 0, 1) := dk_42 (dk_at dksX5_parts_0 20 rfl rfl)
theorem dX5_parts_21 : decode bcX5_parts 21 = .ok (.iconst 0, 1) := dk_3 (dk_at dksX5_parts_0 21 rfl rfl)
theorem dX5_parts_22 : decode bcX5_parts 22 = .ok (.invokevirtual 360, 3) := dk_182 1 104 (dk_at dksX5_parts_1 0 rfl rfl)
theorem dX5_parts_25 : decode bcX5_parts 25 = .ok (.invokevirtual 363, 3) := dk_182 1 107 (dk_at dksX5_parts_1 3 rfl rfl)
theorem dX5_parts_28 : decode bcX5_parts 28 = .ok (.iconst 1, 1) := dk_4 (dk_at dksX5_parts_1 6 rfl rfl)
theorem dX5_parts_29 : decode bcX5_parts 29 = .ok (.iload_n 2, 1) := dk_28 (dk_at dksX5_parts_1 7 rfl rfl)
theorem dX5_parts_30 : decode bcX5_parts 30 = .ok (.ishl, 1) := dk_120 (dk_at dksX5_parts_1 8 rfl rfl)
theorem dX5_parts_31 : decode bcX5_parts 31 = .ok (.iconst 1, 1) := dk_4 (dk_at dksX5_parts_1 9 rfl rfl)
theorem dX5_parts_32 : decode bcX5_parts 32 = .ok (.isub, 1) := dk_100 (dk_at dksX5_parts_1 10 rfl rfl)
theorem dX5_parts_33 : decode bcX5_parts 33 = .ok (.iand, 1) := dk_126 (dk_at dksX5_parts_1 11 rfl rfl)
theorem dX5_parts_34 : decode bcX5_parts 34 = .ok (.ifCond .ne 7, 3) := dk_154 0 7 (dk_at dksX5_parts_1 12 rfl rfl)
theorem dX5_parts_37 : decode bcX5_parts 37 = .ok (.iconst 1, 1) := dk_4 (dk_at dksX5_parts_1 15 rfl rfl)
theorem dX5_parts_38 : decode bcX5_parts 38 = .ok (.goto 4, 3) := dk_167 0 4 (dk_at dksX5_parts_1 16 rfl rfl)
theorem dX5_parts_41 : decode bcX5_parts 41 = .ok (.iconst 0, 1) := dk_3 (dk_at dksX5_parts_1 19 rfl rfl)
theorem dX5_parts_42 : decode bcX5_parts 42 = .ok (.iadd, 1) := dk_96 (dk_at dksX5_parts_1 20 rfl rfl)
theorem dX5_parts_43 : decode bcX5_parts 43 = .ok (.istore_n 1, 1) := dk_60 (dk_at dksX5_parts_1 21 rfl rfl)
theorem dX5_parts_44 : decode bcX5_parts 44 = .ok (.iinc 2 1, 3) := dk_132 2 1 (dk_at dksX5_parts_2 0 rfl rfl)
theorem dX5_parts_47 : decode bcX5_parts 47 = .ok (.goto (-38), 3) := dk_167 255 218 (dk_at dksX5_parts_2 3 rfl rfl)
theorem dX5_parts_50 : decode bcX5_parts 50 = .ok (.iload_n 1, 1) := dk_27 (dk_at dksX5_parts_2 6 rfl rfl)
theorem dX5_parts_51 : decode bcX5_parts 51 = .ok (.ireturn, 1) := dk_172 (dk_at dksX5_parts_2 7 rfl rfl)
abbrev SX5_parts (pc : Nat) (i : xI) : Prop := Snd "SwollenHouseModel" "parts" prog_25_method_87_code 3 (Option.some Jvm.ClassFile.FieldType.int) [] pc i
theorem oX5_parts_0 : SX5_parts 0 (i_aload 0 1) := snd_aload_n dX5_parts_0 rfl
theorem oX5_parts_1 : SX5_parts 1 (i_const (.int (nI 0)) 2) := snd_iconst dX5_parts_1 (by decide)
theorem oX5_parts_2 : SX5_parts 2 (i_putfi 4 0 5) := snd_putfi dX5_parts_2 rfl (by decide) in_X5 tyX5 tyX5_ok nmX5 (Or.inl ⟨rfl, q1698⟩) (Or.inl rfl) rfl
theorem oX5_parts_5 : SX5_parts 5 (i_const (.int (nI 0)) 6) := snd_iconst dX5_parts_5 (by decide)
theorem oX5_parts_6 : SX5_parts 6 (i_istore 1 7) := snd_istore_n dX5_parts_6 rfl (by decide)
theorem oX5_parts_7 : SX5_parts 7 (i_const (.int (nI 0)) 8) := snd_iconst dX5_parts_7 (by decide)
theorem oX5_parts_8 : SX5_parts 8 (i_istore 2 9) := snd_istore_n dX5_parts_8 rfl (by decide)
theorem oX5_parts_9 : SX5_parts 9 (i_iload 2 10) := snd_iload_n dX5_parts_9 rfl
theorem oX5_parts_10 : SX5_parts 10 (i_aload 0 11) := snd_aload_n dX5_parts_10 rfl
theorem oX5_parts_11 : SX5_parts 11 (i_cv 4 320 0 14) := snd_cv rfl infX5_rooms (by decide) rfl (xVm_V dX5_parts_11 rfl q2060 q2062 qs110 q136 q2063 pdX5_rooms)
theorem oX5_parts_14 : SX5_parts 14 (i_if2 (fun x y => y ≤ x) 50 17) := snd_icmp_ge dX5_parts_14 (by decide)
theorem oX5_parts_17 : SX5_parts 17 (i_iload 1 18) := snd_iload_n dX5_parts_17 rfl
theorem oX5_parts_18 : SX5_parts 18 (i_aload 0 19) := snd_aload_n dX5_parts_18 rfl
theorem oX5_parts_19 : SX5_parts 19 (i_iload 2 20) := snd_iload_n dX5_parts_19 rfl
theorem oX5_parts_20 : SX5_parts 20 (i_aload 0 21) := snd_aload_n dX5_parts_20 rfl
theorem oX5_parts_21 : SX5_parts 21 (i_const (.int (nI 0)) 22) := snd_iconst dX5_parts_21 (by decide)
theorem oX5_parts_22 : SX5_parts 22 (i_cv 4 321 1 25) := snd_cv rfl infX5_openNow (by decide) rfl (xVm_V dX5_parts_22 rfl q2064 q2066 qs111 q136 q2067 pdX5_openNow)
theorem oX5_parts_25 : SX5_parts 25 (i_cv 4 322 2 28) := snd_cv rfl infX5_rangeBy (by decide) rfl (xVm_V dX5_parts_25 rfl q2068 q2070 qs112 q136 q2071 pdX5_rangeBy)
theorem oX5_parts_28 : SX5_parts 28 (i_const (.int (nI 1)) 29) := snd_iconst dX5_parts_28 (by decide)
theorem oX5_parts_29 : SX5_parts 29 (i_iload 2 30) := snd_iload_n dX5_parts_29 rfl
theorem oX5_parts_30 : SX5_parts 30 (i_ii (fun x y => x <<< (y &&& 31)) 31) := snd_ishl dX5_parts_30
theorem oX5_parts_31 : SX5_parts 31 (i_const (.int (nI 1)) 32) := snd_iconst dX5_parts_31 (by decide)
theorem oX5_parts_32 : SX5_parts 32 (i_ii (fun x y => x - y) 33) := snd_isub dX5_parts_32
theorem oX5_parts_33 : SX5_parts 33 (i_ii (fun x y => x &&& y) 34) := snd_iand dX5_parts_33
theorem oX5_parts_34 : SX5_parts 34 (i_if1 (fun x => ¬ x = 0) 41 37) := snd_if_ne dX5_parts_34 (by decide)
theorem oX5_parts_37 : SX5_parts 37 (i_const (.int (nI 1)) 38) := snd_iconst dX5_parts_37 (by decide)
theorem oX5_parts_38 : SX5_parts 38 (i_goto 42) := snd_goto dX5_parts_38 (by decide)
theorem oX5_parts_41 : SX5_parts 41 (i_const (.int (nI 0)) 42) := snd_iconst dX5_parts_41 (by decide)
theorem oX5_parts_42 : SX5_parts 42 (i_ii (fun x y => x + y) 43) := snd_iadd dX5_parts_42
theorem oX5_parts_43 : SX5_parts 43 (i_istore 1 44) := snd_istore_n dX5_parts_43 rfl (by decide)
theorem oX5_parts_44 : SX5_parts 44 (i_iinc 2 (nI 1) 47) := snd_iinc dX5_parts_44 (by decide) (by decide)
theorem oX5_parts_47 : SX5_parts 47 (i_goto 9) := snd_goto dX5_parts_47 (by decide)
theorem oX5_parts_50 : SX5_parts 50 (i_iload 1 51) := snd_iload_n dX5_parts_50 rfl
theorem oX5_parts_51 : SX5_parts 51 (i_iret) := snd_iret dX5_parts_51 rfl
theorem okX5_parts : ∀ q ∈ cX5_parts, SX5_parts q.1 q.2 := List.forall_mem_cons.mpr ⟨oX5_parts_0, List.forall_mem_cons.mpr ⟨oX5_parts_1, List.forall_mem_cons.mpr ⟨oX5_parts_2, List.forall_mem_cons.mpr ⟨oX5_parts_5, List.forall_mem_cons.mpr ⟨oX5_parts_6, List.forall_mem_cons.mpr ⟨oX5_parts_7, List.forall_mem_cons.mpr ⟨oX5_parts_8, List.forall_mem_cons.mpr ⟨oX5_parts_9, List.forall_mem_cons.mpr ⟨oX5_parts_10, List.forall_mem_cons.mpr ⟨oX5_parts_11, List.forall_mem_cons.mpr ⟨oX5_parts_14, List.forall_mem_cons.mpr ⟨oX5_parts_17, List.forall_mem_cons.mpr ⟨oX5_parts_18, List.forall_mem_cons.mpr ⟨oX5_parts_19, List.forall_mem_cons.mpr ⟨oX5_parts_20, List.forall_mem_cons.mpr ⟨oX5_parts_21, List.forall_mem_cons.mpr ⟨oX5_parts_22, List.forall_mem_cons.mpr ⟨oX5_parts_25, List.forall_mem_cons.mpr ⟨oX5_parts_28, List.forall_mem_cons.mpr ⟨oX5_parts_29, List.forall_mem_cons.mpr ⟨oX5_parts_30, List.forall_mem_cons.mpr ⟨oX5_parts_31, List.forall_mem_cons.mpr ⟨oX5_parts_32, List.forall_mem_cons.mpr ⟨oX5_parts_33, List.forall_mem_cons.mpr ⟨oX5_parts_34, List.forall_mem_cons.mpr ⟨oX5_parts_37, List.forall_mem_cons.mpr ⟨oX5_parts_38, List.forall_mem_cons.mpr ⟨oX5_parts_41, List.forall_mem_cons.mpr ⟨oX5_parts_42, List.forall_mem_cons.mpr ⟨oX5_parts_43, List.forall_mem_cons.mpr ⟨oX5_parts_44, List.forall_mem_cons.mpr ⟨oX5_parts_47, List.forall_mem_cons.mpr ⟨oX5_parts_50, List.forall_mem_cons.mpr ⟨oX5_parts_51, fun _ h => absurd h List.not_mem_nil⟩⟩⟩⟩⟩⟩⟩⟩⟩⟩⟩⟩⟩⟩⟩⟩⟩⟩⟩⟩⟩⟩⟩⟩⟩⟩⟩⟩⟩⟩⟩⟩⟩⟩
def dkwX5_deep_2 : List UInt8 := [132, 3, 1, 167, 255, 228, 29, 172]
abbrev dktX5_deep_2 : List UInt8 := dkwX5_deep_2 ++ []
def dkwX5_deep_1 : List UInt8 := [3, 182, 1, 104, 182, 1, 98, 28, 159, 0, 20, 42, 28, 42, 3, 182, 1, 104, 182, 1, 98, 61]
abbrev dktX5_deep_1 : List UInt8 := dkwX5_deep_1 ++ dktX5_deep_2
def dkwX5_deep_0 : List UInt8 := [42, 3, 181, 0, 1, 42, 27, 182, 1, 101, 154, 0, 5, 2, 172, 4, 27, 120, 61, 3, 62, 42, 28, 42]
abbrev dktX5_deep_0 : List UInt8 := dkwX5_deep_0 ++ dktX5_deep_1
theorem dksX5_deep_0 : bcX5_deep.data.toList.drop 0 = dktX5_deep_0 := by decide +kernel
theorem dksX5_deep_1 : bcX5_deep.data.toList.drop 24 = dktX5_deep_1 := dk_seg dksX5_deep_0 24 rfl rfl
theorem dksX5_deep_2 : bcX5_deep.data.toList.drop 46 = dktX5_deep_2 := dk_seg dksX5_deep_1 22 rfl rfl
theorem dX5_deep_0 : decode bcX5_deep 0 = .ok (.aload_n 0, 1) := dk_42 (dk_at dksX5_deep_0 0 rfl rfl)
theorem dX5_deep_1 : decode bcX5_deep 1 = .ok (.iconst 0, 1) := dk_3 (dk_at dksX5_deep_0 1 rfl rfl)
theorem dX5_deep_2 : decode bcX5_deep 2 = .ok (.putfield 1, 3) := dk_181 0 1 (dk_at dksX5_deep_0 2 rfl rfl)
theorem dX5_deep_5 : decode bcX5_deep 5 = .ok (.aload_n 0, 1) := dk_42 (dk_at dksX5_deep_0 5 rfl rfl)
theorem dX5_deep_6 : decode bcX5_deep 6 = .ok (.iload_n 1, 1) := dk_27 (dk_at dksX5_deep_0 6 rfl rfl)
theorem dX5_deep_7 : decode bcX5_deep 7 = .ok (.invokevirtual 357, 3) := dk_182 1 101 (dk_at dksX5_deep_0 7 rfl rfl)
theorem dX5_deep_10 : decode bcX5_deep 10 = .ok (.ifCond .ne 5, 3) := dk_154 0 5 (dk_at dksX5_deep_0 10 rfl rfl)
theorem dX5_deep_13 : decode bcX5_deep 13 = .ok (.iconst (-1), 1) := dk_2 (dk_at dksX5_deep_0 13 rfl rfl)
theorem dX5_deep_14 : decode bcX5_deep 14 = .ok (.ireturn, 1) := dk_172 (dk_at dksX5_deep_0 14 rfl rfl)
theorem dX5_deep_15 : decode bcX5_deep 15 = .ok (.iconst 1, 1) := dk_4 (dk_at dksX5_deep_0 15 rfl rfl)
theorem dX5_deep_16 : decode bcX5_deep 16 = .ok (.iload_n 1, 1) := dk_27 (dk_at dksX5_deep_0 16 rfl rfl)
theorem dX5_deep_17 : decode bcX5_deep 17 = .ok (.ishl, 1) := dk_120 (dk_at dksX5_deep_0 17 rfl rfl)
theorem dX5_deep_18 : decode bcX5_deep 18 = .ok (.istore_n 2, 1) := dk_61 (dk_at dksX5_deep_0 18 rfl rfl)
theorem dX5_deep_19 : decode bcX5_deep 19 = .ok (.iconst 0, 1) := dk_3 (dk_at dksX5_deep_0 19 rfl rfl)
theorem dX5_deep_20 : decode bcX5_deep 20 = .ok (.istore_n 3, 1) := dk_62 (dk_at dksX5_deep_0 20 rfl rfl)
theorem dX5_deep_21 : decode bcX5_deep 21 = .ok (.aload_n 0, 1) := dk_42 (dk_at dksX5_deep_0 21 rfl rfl)
theorem dX5_deep_22 : decode bcX5_deep 22 = .ok (.iload_n 2, 1) := dk_28 (dk_at dksX5_deep_0 22 rfl rfl)
theorem dX5_deep_23 : decode bcX5_deep 23 = .ok (.aload_n 0, 1) := dk_42 (dk_at dksX5_deep_0 23 rfl rfl)
theorem dX5_deep_24 : decode bcX5_deep 24 = .ok (.iconst 0, 1) := dk_3 (dk_at dksX5_deep_1 0 rfl rfl)
theorem dX5_deep_25 : decode bcX5_deep 25 = .ok (.invokevirtual 360, 3) := dk_182 1 104 (dk_at dksX5_deep_1 1 rfl rfl)
theorem dX5_deep_28 : decode bcX5_deep 28 = .ok (.invokevirtual 354, 3) := dk_182 1 98 (dk_at dksX5_deep_1 4 rfl rfl)
theorem dX5_deep_31 : decode bcX5_deep 31 = .ok (.iload_n 2, 1) := dk_28 (dk_at dksX5_deep_1 7 rfl rfl)
theorem dX5_deep_32 : decode bcX5_deep 32 = .ok (.if_icmp .eq 20, 3) := dk_159 0 20 (dk_at dksX5_deep_1 8 rfl rfl)
theorem dX5_deep_35 : decode bcX5_deep 35 = .ok (.aload_n 0, 1) := dk_42 (dk_at dksX5_deep_1 11 rfl rfl)
theorem dX5_deep_36 : decode bcX5_deep 36 = .ok (.iload_n 2, 1) := dk_28 (dk_at dksX5_deep_1 12 rfl rfl)
theorem dX5_deep_37 : decode bcX5_deep 37 = .ok (.aload_n 0, 1) := dk_42 (dk_at dksX5_deep_1 13 rfl rfl)
theorem dX5_deep_38 : decode bcX5_deep 38 = .ok (.iconst 0, 1) := dk_3 (dk_at dksX5_deep_1 14 rfl rfl)
theorem dX5_deep_39 : decode bcX5_deep 39 = .ok (.invokevirtual 360, 3) := dk_182 1 104 (dk_at dksX5_deep_1 15 rfl rfl)
theorem dX5_deep_42 : decode bcX5_deep 42 = .ok (.invokevirtual 354, 3) := dk_182 1 98 (dk_at dksX5_deep_1 18 rfl rfl)
theorem dX5_deep_45 : decode bcX5_deep 45 = .ok (.istore_n 2, 1) := dk_61 (dk_at dksX5_deep_1 21 rfl rfl)
theorem dX5_deep_46 : decode bcX5_deep 46 = .ok (.iinc 3 1, 3) := dk_132 3 1 (dk_at dksX5_deep_2 0 rfl rfl)
theorem dX5_deep_49 : decode bcX5_deep 49 = .ok (.goto (-28), 3) := dk_167 255 228 (dk_at dksX5_deep_2 3 rfl rfl)
theorem dX5_deep_52 : decode bcX5_deep 52 = .ok (.iload_n 3, 1) := dk_29 (dk_at dksX5_deep_2 6 rfl rfl)
theorem dX5_deep_53 : decode bcX5_deep 53 = .ok (.ireturn, 1) := dk_172 (dk_at dksX5_deep_2 7 rfl rfl)
abbrev SX5_deep (pc : Nat) (i : xI) : Prop := Snd "SwollenHouseModel" "deep" prog_25_method_88_code 4 (Option.some Jvm.ClassFile.FieldType.int) [] pc i
theorem oX5_deep_0 : SX5_deep 0 (i_aload 0 1) := snd_aload_n dX5_deep_0 rfl
theorem oX5_deep_1 : SX5_deep 1 (i_const (.int (nI 0)) 2) := snd_iconst dX5_deep_1 (by decide)
theorem oX5_deep_2 : SX5_deep 2 (i_putfi 4 0 5) := snd_putfi dX5_deep_2 rfl (by decide) in_X5 tyX5 tyX5_ok nmX5 (Or.inl ⟨rfl, q1698⟩) (Or.inl rfl) rfl
theorem oX5_deep_5 : SX5_deep 5 (i_aload 0 6) := snd_aload_n dX5_deep_5 rfl
theorem oX5_deep_6 : SX5_deep 6 (i_iload 1 7) := snd_iload_n dX5_deep_6 rfl
theorem oX5_deep_7 : SX5_deep 7 (i_cv 4 319 1 10) := snd_cv rfl infX5_isRoom (by decide) rfl (xVm_V dX5_deep_7 rfl q2056 q2058 qs109 q136 q2059 pdX5_isRoom)
theorem oX5_deep_10 : SX5_deep 10 (i_if1 (fun x => ¬ x = 0) 15 13) := snd_if_ne dX5_deep_10 (by decide)
theorem oX5_deep_13 : SX5_deep 13 (i_const (.int (-1)) 14) := snd_iconst dX5_deep_13 (by decide)
theorem oX5_deep_14 : SX5_deep 14 (i_iret) := snd_iret dX5_deep_14 rfl
theorem oX5_deep_15 : SX5_deep 15 (i_const (.int (nI 1)) 16) := snd_iconst dX5_deep_15 (by decide)
theorem oX5_deep_16 : SX5_deep 16 (i_iload 1 17) := snd_iload_n dX5_deep_16 rfl
theorem oX5_deep_17 : SX5_deep 17 (i_ii (fun x y => x <<< (y &&& 31)) 18) := snd_ishl dX5_deep_17
theorem oX5_deep_18 : SX5_deep 18 (i_istore 2 19) := snd_istore_n dX5_deep_18 rfl (by decide)
theorem oX5_deep_19 : SX5_deep 19 (i_const (.int (nI 0)) 20) := snd_iconst dX5_deep_19 (by decide)
theorem oX5_deep_20 : SX5_deep 20 (i_istore 3 21) := snd_istore_n dX5_deep_20 rfl (by decide)
theorem oX5_deep_21 : SX5_deep 21 (i_aload 0 22) := snd_aload_n dX5_deep_21 rfl
theorem oX5_deep_22 : SX5_deep 22 (i_iload 2 23) := snd_iload_n dX5_deep_22 rfl
theorem oX5_deep_23 : SX5_deep 23 (i_aload 0 24) := snd_aload_n dX5_deep_23 rfl
theorem oX5_deep_24 : SX5_deep 24 (i_const (.int (nI 0)) 25) := snd_iconst dX5_deep_24 (by decide)
theorem oX5_deep_25 : SX5_deep 25 (i_cv 4 321 1 28) := snd_cv rfl infX5_openNow (by decide) rfl (xVm_V dX5_deep_25 rfl q2064 q2066 qs111 q136 q2067 pdX5_openNow)
theorem oX5_deep_28 : SX5_deep 28 (i_cv 4 323 2 31) := snd_cv rfl infX5_onFrom (by decide) rfl (xVm_V dX5_deep_28 rfl q2072 q2074 qs113 q136 q2075 pdX5_onFrom)
theorem oX5_deep_31 : SX5_deep 31 (i_iload 2 32) := snd_iload_n dX5_deep_31 rfl
theorem oX5_deep_32 : SX5_deep 32 (i_if2 (fun x y => x = y) 52 35) := snd_icmp_eq dX5_deep_32 (by decide)
theorem oX5_deep_35 : SX5_deep 35 (i_aload 0 36) := snd_aload_n dX5_deep_35 rfl
theorem oX5_deep_36 : SX5_deep 36 (i_iload 2 37) := snd_iload_n dX5_deep_36 rfl
theorem oX5_deep_37 : SX5_deep 37 (i_aload 0 38) := snd_aload_n dX5_deep_37 rfl
theorem oX5_deep_38 : SX5_deep 38 (i_const (.int (nI 0)) 39) := snd_iconst dX5_deep_38 (by decide)
theorem oX5_deep_39 : SX5_deep 39 (i_cv 4 321 1 42) := snd_cv rfl infX5_openNow (by decide) rfl (xVm_V dX5_deep_39 rfl q2064 q2066 qs111 q136 q2067 pdX5_openNow)
theorem oX5_deep_42 : SX5_deep 42 (i_cv 4 323 2 45) := snd_cv rfl infX5_onFrom (by decide) rfl (xVm_V dX5_deep_42 rfl q2072 q2074 qs113 q136 q2075 pdX5_onFrom)
theorem oX5_deep_45 : SX5_deep 45 (i_istore 2 46) := snd_istore_n dX5_deep_45 rfl (by decide)
theorem oX5_deep_46 : SX5_deep 46 (i_iinc 3 (nI 1) 49) := snd_iinc dX5_deep_46 (by decide) (by decide)
theorem oX5_deep_49 : SX5_deep 49 (i_goto 21) := snd_goto dX5_deep_49 (by decide)
theorem oX5_deep_52 : SX5_deep 52 (i_iload 3 53) := snd_iload_n dX5_deep_52 rfl
theorem oX5_deep_53 : SX5_deep 53 (i_iret) := snd_iret dX5_deep_53 rfl
theorem okX5_deep : ∀ q ∈ cX5_deep, SX5_deep q.1 q.2 := List.forall_mem_cons.mpr ⟨oX5_deep_0, List.forall_mem_cons.mpr ⟨oX5_deep_1, List.forall_mem_cons.mpr ⟨oX5_deep_2, List.forall_mem_cons.mpr ⟨oX5_deep_5, List.forall_mem_cons.mpr ⟨oX5_deep_6, List.forall_mem_cons.mpr ⟨oX5_deep_7, List.forall_mem_cons.mpr ⟨oX5_deep_10, List.forall_mem_cons.mpr ⟨oX5_deep_13, List.forall_mem_cons.mpr ⟨oX5_deep_14, List.forall_mem_cons.mpr ⟨oX5_deep_15, List.forall_mem_cons.mpr ⟨oX5_deep_16, List.forall_mem_cons.mpr ⟨oX5_deep_17, List.forall_mem_cons.mpr ⟨oX5_deep_18, List.forall_mem_cons.mpr ⟨oX5_deep_19, List.forall_mem_cons.mpr ⟨oX5_deep_20, List.forall_mem_cons.mpr ⟨oX5_deep_21, List.forall_mem_cons.mpr ⟨oX5_deep_22, List.forall_mem_cons.mpr ⟨oX5_deep_23, List.forall_mem_cons.mpr ⟨oX5_deep_24, List.forall_mem_cons.mpr ⟨oX5_deep_25, List.forall_mem_cons.mpr ⟨oX5_deep_28, List.forall_mem_cons.mpr ⟨oX5_deep_31, List.forall_mem_cons.mpr ⟨oX5_deep_32, List.forall_mem_cons.mpr ⟨oX5_deep_35, List.forall_mem_cons.mpr ⟨oX5_deep_36, List.forall_mem_cons.mpr ⟨oX5_deep_37, List.forall_mem_cons.mpr ⟨oX5_deep_38, List.forall_mem_cons.mpr ⟨oX5_deep_39, List.forall_mem_cons.mpr ⟨oX5_deep_42, List.forall_mem_cons.mpr ⟨oX5_deep_45, List.forall_mem_cons.mpr ⟨oX5_deep_46, List.forall_mem_cons.mpr ⟨oX5_deep_49, List.forall_mem_cons.mpr ⟨oX5_deep_52, List.forall_mem_cons.mpr ⟨oX5_deep_53, fun _ h => absurd h List.not_mem_nil⟩⟩⟩⟩⟩⟩⟩⟩⟩⟩⟩⟩⟩⟩⟩⟩⟩⟩⟩⟩⟩⟩⟩⟩⟩⟩⟩⟩⟩⟩⟩⟩⟩⟩
def dkwX5_spared_4 : List UInt8 := [153, 0, 9, 4, 29, 120, 167, 0, 4, 3, 128, 61, 132, 3, 1, 167, 255, 161, 28, 172]
abbrev dktX5_spared_4 : List UInt8 := dkwX5_spared_4 ++ []
def dkwX5_spared_3 : List UInt8 := [126, 182, 1, 107, 160, 0, 7, 4, 167, 0, 4, 3, 54, 4, 132, 5, 1, 167, 255, 209, 28, 21, 4]
abbrev dktX5_spared_3 : List UInt8 := dkwX5_spared_3 ++ dktX5_spared_4
def dkwX5_spared_2 : List UInt8 := [162, 0, 44, 21, 4, 153, 0, 30, 42, 21, 5, 27, 182, 1, 107, 42, 21, 5, 27, 4, 29, 120, 2, 130]
abbrev dktX5_spared_2 : List UInt8 := dkwX5_spared_2 ++ dktX5_spared_3
def dkwX5_spared_1 : List UInt8 := [29, 122, 4, 126, 4, 160, 0, 7, 4, 167, 0, 4, 3, 54, 4, 3, 54, 5, 21, 5, 42, 182, 1, 35]
abbrev dktX5_spared_1 : List UInt8 := dkwX5_spared_1 ++ dktX5_spared_2
def dkwX5_spared_0 : List UInt8 := [42, 3, 181, 0, 1, 42, 3, 182, 1, 104, 60, 3, 61, 3, 62, 29, 42, 182, 1, 16, 162, 0, 93, 27]
abbrev dktX5_spared_0 : List UInt8 := dkwX5_spared_0 ++ dktX5_spared_1
theorem dksX5_spared_0 : bcX5_spared.data.toList.drop 0 = dktX5_spared_0 := by decide +kernel
theorem dksX5_spared_1 : bcX5_spared.data.toList.drop 24 = dktX5_spared_1 := dk_seg dksX5_spared_0 24 rfl rfl
theorem dksX5_spared_2 : bcX5_spared.data.toList.drop 48 = dktX5_spared_2 := dk_seg dksX5_spared_1 24 rfl rfl
theorem dksX5_spared_3 : bcX5_spared.data.toList.drop 72 = dktX5_spared_3 := dk_seg dksX5_spared_2 24 rfl rfl
theorem dksX5_spared_4 : bcX5_spared.data.toList.drop 95 = dktX5_spared_4 := dk_seg dksX5_spared_3 23 rfl rfl
theorem dX5_spared_0 : decode bcX5_spared 0 = .ok (.aload_n 0, 1) := dk_42 (dk_at dksX5_spared_0 0 rfl rfl)
theorem dX5_spared_1 : decode bcX5_spared 1 = .ok (.iconst 0, 1) := dk_3 (dk_at dksX5_spared_0 1 rfl rfl)
theorem dX5_spared_2 : decode bcX5_spared 2 = .ok (.putfield 1, 3) := dk_181 0 1 (dk_at dksX5_spared_0 2 rfl rfl)
theorem dX5_spared_5 : decode bcX5_spared 5 = .ok (.aload_n 0, 1) := dk_42 (dk_at dksX5_spared_0 5 rfl rfl)
theorem dX5_spared_6 : decode bcX5_spared 6 = .ok (.iconst 0, 1) := dk_3 (dk_at dksX5_spared_0 6 rfl rfl)
theorem dX5_spared_7 : decode bcX5_spared 7 = .ok (.invokevirtual 360, 3) := dk_182 1 104 (dk_at dksX5_spared_0 7 rfl rfl)
theorem dX5_spared_10 : decode bcX5_spared 10 = .ok (.istore_n 1, 1) := dk_60 (dk_at dksX5_spared_0 10 rfl rfl)
theorem dX5_spared_11 : decode bcX5_spared 11 = .ok (.iconst 0, 1) := dk_3 (dk_at dksX5_spared_0 11 rfl rfl)
theorem dX5_spared_12 : decode bcX5_spared 12 = .ok (.istore_n 2, 1) := dk_61 (dk_at dksX5_spared_0 12 rfl rfl)
theorem dX5_spared_13 : decode bcX5_spared 13 = .ok (.iconst 0, 1) := dk_3 (dk_at dksX5_spared_0 13 rfl rfl)
theorem dX5_spared_14 : decode bcX5_spared 14 = .ok (.istore_n 3, 1) := dk_62 (dk_at dksX5_spared_0 14 rfl rfl)
theorem dX5_spared_15 : decode bcX5_spared 15 = .ok (.iload_n 3, 1) := dk_29 (dk_at dksX5_spared_0 15 rfl rfl)
theorem dX5_spared_16 : decode bcX5_spared 16 = .ok (.aload_n 0, 1) := dk_42 (dk_at dksX5_spared_0 16 rfl rfl)
theorem dX5_spared_17 : decode bcX5_spared 17 = .ok (.invokevirtual 272, 3) := dk_182 1 16 (dk_at dksX5_spared_0 17 rfl rfl)
theorem dX5_spared_20 : decode bcX5_spared 20 = .ok (.if_icmp .ge 93, 3) := dk_162 0 93 (dk_at dksX5_spared_0 20 rfl rfl)
theorem dX5_spared_23 : decode bcX5_spared 23 = .ok (.iload_n 1, 1) := dk_27 (dk_at dksX5_spared_0 23 rfl rfl)
theorem dX5_spared_24 : decode bcX5_spared 24 = .ok (.iload_n 3, 1) := dk_29 (dk_at dksX5_spared_1 0 rfl rfl)
theorem dX5_spared_25 : decode bcX5_spared 25 = .ok (.ishr, 1) := dk_122 (dk_at dksX5_spared_1 1 rfl rfl)
theorem dX5_spared_26 : decode bcX5_spared 26 = .ok (.iconst 1, 1) := dk_4 (dk_at dksX5_spared_1 2 rfl rfl)
theorem dX5_spared_27 : decode bcX5_spared 27 = .ok (.iand, 1) := dk_126 (dk_at dksX5_spared_1 3 rfl rfl)
theorem dX5_spared_28 : decode bcX5_spared 28 = .ok (.iconst 1, 1) := dk_4 (dk_at dksX5_spared_1 4 rfl rfl)
theorem dX5_spared_29 : decode bcX5_spared 29 = .ok (.if_icmp .ne 7, 3) := dk_160 0 7 (dk_at dksX5_spared_1 5 rfl rfl)
theorem dX5_spared_32 : decode bcX5_spared 32 = .ok (.iconst 1, 1) := dk_4 (dk_at dksX5_spared_1 8 rfl rfl)
theorem dX5_spared_33 : decode bcX5_spared 33 = .ok (.goto 4, 3) := dk_167 0 4 (dk_at dksX5_spared_1 9 rfl rfl)
theorem dX5_spared_36 : decode bcX5_spared 36 = .ok (.iconst 0, 1) := dk_3 (dk_at dksX5_spared_1 12 rfl rfl)
theorem dX5_spared_37 : decode bcX5_spared 37 = .ok (.istore 4, 2) := dk_54 4 (dk_at dksX5_spared_1 13 rfl rfl)
theorem dX5_spared_39 : decode bcX5_spared 39 = .ok (.iconst 0, 1) := dk_3 (dk_at dksX5_spared_1 15 rfl rfl)
theorem dX5_spared_40 : decode bcX5_spared 40 = .ok (.istore 5, 2) := dk_54 5 (dk_at dksX5_spared_1 16 rfl rfl)
theorem dX5_spared_42 : decode bcX5_spared 42 = .ok (.iload 5, 2) := dk_21 5 (dk_at dksX5_spared_1 18 rfl rfl)
theorem dX5_spared_44 : decode bcX5_spared 44 = .ok (.aload_n 0, 1) := dk_42 (dk_at dksX5_spared_1 20 rfl rfl)
theorem dX5_spared_45 : decode bcX5_spared 45 = .ok (.invokevirtual 291, 3) := dk_182 1 35 (dk_at dksX5_spared_1 21 rfl rfl)
theorem dX5_spared_48 : decode bcX5_spared 48 = .ok (.if_icmp .ge 44, 3) := dk_162 0 44 (dk_at dksX5_spared_2 0 rfl rfl)
theorem dX5_spared_51 : decode bcX5_spared 51 = .ok (.iload 4, 2) := dk_21 4 (dk_at dksX5_spared_2 3 rfl rfl)
theorem dX5_spared_53 : decode bcX5_spared 53 = .ok (.ifCond .eq 30, 3) := dk_153 0 30 (dk_at dksX5_spared_2 5 rfl rfl)
theorem dX5_spared_56 : decode bcX5_spared 56 = .ok (.aload_n 0, 1) := dk_42 (dk_at dksX5_spared_2 8 rfl rfl)
theorem dX5_spared_57 : decode bcX5_spared 57 = .ok (.iload 5, 2) := dk_21 5 (dk_at dksX5_spared_2 9 rfl rfl)
theorem dX5_spared_59 : decode bcX5_spared 59 = .ok (.iload_n 1, 1) := dk_27 (dk_at dksX5_spared_2 11 rfl rfl)
theorem dX5_spared_60 : decode bcX5_spared 60 = .ok (.invokevirtual 363, 3) := dk_182 1 107 (dk_at dksX5_spared_2 12 rfl rfl)
theorem dX5_spared_63 : decode bcX5_spared 63 = .ok (.aload_n 0, 1) := dk_42 (dk_at dksX5_spared_2 15 rfl rfl)
theorem dX5_spared_64 : decode bcX5_spared 64 = .ok (.iload 5, 2) := dk_21 5 (dk_at dksX5_spared_2 16 rfl rfl)
theorem dX5_spared_66 : decode bcX5_spared 66 = .ok (.iload_n 1, 1) := dk_27 (dk_at dksX5_spared_2 18 rfl rfl)
theorem dX5_spared_67 : decode bcX5_spared 67 = .ok (.iconst 1, 1) := dk_4 (dk_at dksX5_spared_2 19 rfl rfl)
theorem dX5_spared_68 : decode bcX5_spared 68 = .ok (.iload_n 3, 1) := dk_29 (dk_at dksX5_spared_2 20 rfl rfl)
theorem dX5_spared_69 : decode bcX5_spared 69 = .ok (.ishl, 1) := dk_120 (dk_at dksX5_spared_2 21 rfl rfl)
theorem dX5_spared_70 : decode bcX5_spared 70 = .ok (.iconst (-1), 1) := dk_2 (dk_at dksX5_spared_2 22 rfl rfl)
theorem dX5_spared_71 : decode bcX5_spared 71 = .ok (.ixor, 1) := dk_130 (dk_at dksX5_spared_2 23 rfl rfl)
theorem dX5_spared_72 : decode bcX5_spared 72 = .ok (.iand, 1) := dk_126 (dk_at dksX5_spared_3 0 rfl rfl)
theorem dX5_spared_73 : decode bcX5_spared 73 = .ok (.invokevirtual 363, 3) := dk_182 1 107 (dk_at dksX5_spared_3 1 rfl rfl)
theorem dX5_spared_76 : decode bcX5_spared 76 = .ok (.if_icmp .ne 7, 3) := dk_160 0 7 (dk_at dksX5_spared_3 4 rfl rfl)
theorem dX5_spared_79 : decode bcX5_spared 79 = .ok (.iconst 1, 1) := dk_4 (dk_at dksX5_spared_3 7 rfl rfl)
theorem dX5_spared_80 : decode bcX5_spared 80 = .ok (.goto 4, 3) := dk_167 0 4 (dk_at dksX5_spared_3 8 rfl rfl)
theorem dX5_spared_83 : decode bcX5_spared 83 = .ok (.iconst 0, 1) := dk_3 (dk_at dksX5_spared_3 11 rfl rfl)
theorem dX5_spared_84 : decode bcX5_spared 84 = .ok (.istore 4, 2) := dk_54 4 (dk_at dksX5_spared_3 12 rfl rfl)
theorem dX5_spared_86 : decode bcX5_spared 86 = .ok (.iinc 5 1, 3) := dk_132 5 1 (dk_at dksX5_spared_3 14 rfl rfl)
theorem dX5_spared_89 : decode bcX5_spared 89 = .ok (.goto (-47), 3) := dk_167 255 209 (dk_at dksX5_spared_3 17 rfl rfl)
theorem dX5_spared_92 : decode bcX5_spared 92 = .ok (.iload_n 2, 1) := dk_28 (dk_at dksX5_spared_3 20 rfl rfl)
theorem dX5_spared_93 : decode bcX5_spared 93 = .ok (.iload 4, 2) := dk_21 4 (dk_at dksX5_spared_3 21 rfl rfl)
theorem dX5_spared_95 : decode bcX5_spared 95 = .ok (.ifCond .eq 9, 3) := dk_153 0 9 (dk_at dksX5_spared_4 0 rfl rfl)
theorem dX5_spared_98 : decode bcX5_spared 98 = .ok (.iconst 1, 1) := dk_4 (dk_at dksX5_spared_4 3 rfl rfl)
theorem dX5_spared_99 : decode bcX5_spared 99 = .ok (.iload_n 3, 1) := dk_29 (dk_at dksX5_spared_4 4 rfl rfl)
theorem dX5_spared_100 : decode bcX5_spared 100 = .ok (.ishl, 1) := dk_120 (dk_at dksX5_spared_4 5 rfl rfl)
theorem dX5_spared_101 : decode bcX5_spared 101 = .ok (.goto 4, 3) := dk_167 0 4 (dk_at dksX5_spared_4 6 rfl rfl)
theorem dX5_spared_104 : decode bcX5_spared 104 = .ok (.iconst 0, 1) := dk_3 (dk_at dksX5_spared_4 9 rfl rfl)
theorem dX5_spared_105 : decode bcX5_spared 105 = .ok (.ior, 1) := dk_128 (dk_at dksX5_spared_4 10 rfl rfl)
theorem dX5_spared_106 : decode bcX5_spared 106 = .ok (.istore_n 2, 1) := dk_61 (dk_at dksX5_spared_4 11 rfl rfl)
theorem dX5_spared_107 : decode bcX5_spared 107 = .ok (.iinc 3 1, 3) := dk_132 3 1 (dk_at dksX5_spared_4 12 rfl rfl)
theorem dX5_spared_110 : decode bcX5_spared 110 = .ok (.goto (-95), 3) := dk_167 255 161 (dk_at dksX5_spared_4 15 rfl rfl)
theorem dX5_spared_113 : decode bcX5_spared 113 = .ok (.iload_n 2, 1) := dk_28 (dk_at dksX5_spared_4 18 rfl rfl)
theorem dX5_spared_114 : decode bcX5_spared 114 = .ok (.ireturn, 1) := dk_172 (dk_at dksX5_spared_4 19 rfl rfl)
abbrev SX5_spared (pc : Nat) (i : xI) : Prop := Snd "SwollenHouseModel" "spared" prog_25_method_89_code 6 (Option.some Jvm.ClassFile.FieldType.int) [] pc i
theorem oX5_spared_0 : SX5_spared 0 (i_aload 0 1) := snd_aload_n dX5_spared_0 rfl
theorem oX5_spared_1 : SX5_spared 1 (i_const (.int (nI 0)) 2) := snd_iconst dX5_spared_1 (by decide)
theorem oX5_spared_2 : SX5_spared 2 (i_putfi 4 0 5) := snd_putfi dX5_spared_2 rfl (by decide) in_X5 tyX5 tyX5_ok nmX5 (Or.inl ⟨rfl, q1698⟩) (Or.inl rfl) rfl
theorem oX5_spared_5 : SX5_spared 5 (i_aload 0 6) := snd_aload_n dX5_spared_5 rfl
theorem oX5_spared_6 : SX5_spared 6 (i_const (.int (nI 0)) 7) := snd_iconst dX5_spared_6 (by decide)
theorem oX5_spared_7 : SX5_spared 7 (i_cv 4 321 1 10) := snd_cv rfl infX5_openNow (by decide) rfl (xVm_V dX5_spared_7 rfl q2064 q2066 qs111 q136 q2067 pdX5_openNow)
theorem oX5_spared_10 : SX5_spared 10 (i_istore 1 11) := snd_istore_n dX5_spared_10 rfl (by decide)
theorem oX5_spared_11 : SX5_spared 11 (i_const (.int (nI 0)) 12) := snd_iconst dX5_spared_11 (by decide)
theorem oX5_spared_12 : SX5_spared 12 (i_istore 2 13) := snd_istore_n dX5_spared_12 rfl (by decide)
theorem oX5_spared_13 : SX5_spared 13 (i_const (.int (nI 0)) 14) := snd_iconst dX5_spared_13 (by decide)
theorem oX5_spared_14 : SX5_spared 14 (i_istore 3 15) := snd_istore_n dX5_spared_14 rfl (by decide)
theorem oX5_spared_15 : SX5_spared 15 (i_iload 3 16) := snd_iload_n dX5_spared_15 rfl
theorem oX5_spared_16 : SX5_spared 16 (i_aload 0 17) := snd_aload_n dX5_spared_16 rfl
theorem oX5_spared_17 : SX5_spared 17 (i_cv 4 250 0 20) := snd_cv rfl infX5_doors (by decide) rfl (xVm_V dX5_spared_17 rfl q1686 q1688 qs60 q136 q1689 pdX5_doors)
theorem oX5_spared_20 : SX5_spared 20 (i_if2 (fun x y => y ≤ x) 113 23) := snd_icmp_ge dX5_spared_20 (by decide)
theorem oX5_spared_23 : SX5_spared 23 (i_iload 1 24) := snd_iload_n dX5_spared_23 rfl
theorem oX5_spared_24 : SX5_spared 24 (i_iload 3 25) := snd_iload_n dX5_spared_24 rfl
theorem oX5_spared_25 : SX5_spared 25 (i_ii (fun x y => x >>> (y &&& 31)) 26) := snd_ishr dX5_spared_25
theorem oX5_spared_26 : SX5_spared 26 (i_const (.int (nI 1)) 27) := snd_iconst dX5_spared_26 (by decide)
theorem oX5_spared_27 : SX5_spared 27 (i_ii (fun x y => x &&& y) 28) := snd_iand dX5_spared_27
theorem oX5_spared_28 : SX5_spared 28 (i_const (.int (nI 1)) 29) := snd_iconst dX5_spared_28 (by decide)
theorem oX5_spared_29 : SX5_spared 29 (i_if2 (fun x y => ¬ x = y) 36 32) := snd_icmp_ne dX5_spared_29 (by decide)
theorem oX5_spared_32 : SX5_spared 32 (i_const (.int (nI 1)) 33) := snd_iconst dX5_spared_32 (by decide)
theorem oX5_spared_33 : SX5_spared 33 (i_goto 37) := snd_goto dX5_spared_33 (by decide)
theorem oX5_spared_36 : SX5_spared 36 (i_const (.int (nI 0)) 37) := snd_iconst dX5_spared_36 (by decide)
theorem oX5_spared_37 : SX5_spared 37 (i_istore 4 39) := snd_istore dX5_spared_37 (by decide)
theorem oX5_spared_39 : SX5_spared 39 (i_const (.int (nI 0)) 40) := snd_iconst dX5_spared_39 (by decide)
theorem oX5_spared_40 : SX5_spared 40 (i_istore 5 42) := snd_istore dX5_spared_40 (by decide)
theorem oX5_spared_42 : SX5_spared 42 (i_iload 5 44) := snd_iload dX5_spared_42
theorem oX5_spared_44 : SX5_spared 44 (i_aload 0 45) := snd_aload_n dX5_spared_44 rfl
theorem oX5_spared_45 : SX5_spared 45 (i_cv 4 320 0 48) := snd_cv rfl infX5_rooms (by decide) rfl (xVm_V dX5_spared_45 rfl q2060 q2062 qs110 q136 q2063 pdX5_rooms)
theorem oX5_spared_48 : SX5_spared 48 (i_if2 (fun x y => y ≤ x) 92 51) := snd_icmp_ge dX5_spared_48 (by decide)
theorem oX5_spared_51 : SX5_spared 51 (i_iload 4 53) := snd_iload dX5_spared_51
theorem oX5_spared_53 : SX5_spared 53 (i_if1 (fun x => x = 0) 83 56) := snd_if_eq dX5_spared_53 (by decide)
theorem oX5_spared_56 : SX5_spared 56 (i_aload 0 57) := snd_aload_n dX5_spared_56 rfl
theorem oX5_spared_57 : SX5_spared 57 (i_iload 5 59) := snd_iload dX5_spared_57
theorem oX5_spared_59 : SX5_spared 59 (i_iload 1 60) := snd_iload_n dX5_spared_59 rfl
theorem oX5_spared_60 : SX5_spared 60 (i_cv 4 322 2 63) := snd_cv rfl infX5_rangeBy (by decide) rfl (xVm_V dX5_spared_60 rfl q2068 q2070 qs112 q136 q2071 pdX5_rangeBy)
theorem oX5_spared_63 : SX5_spared 63 (i_aload 0 64) := snd_aload_n dX5_spared_63 rfl
theorem oX5_spared_64 : SX5_spared 64 (i_iload 5 66) := snd_iload dX5_spared_64
theorem oX5_spared_66 : SX5_spared 66 (i_iload 1 67) := snd_iload_n dX5_spared_66 rfl
theorem oX5_spared_67 : SX5_spared 67 (i_const (.int (nI 1)) 68) := snd_iconst dX5_spared_67 (by decide)
theorem oX5_spared_68 : SX5_spared 68 (i_iload 3 69) := snd_iload_n dX5_spared_68 rfl
theorem oX5_spared_69 : SX5_spared 69 (i_ii (fun x y => x <<< (y &&& 31)) 70) := snd_ishl dX5_spared_69
theorem oX5_spared_70 : SX5_spared 70 (i_const (.int (-1)) 71) := snd_iconst dX5_spared_70 (by decide)
theorem oX5_spared_71 : SX5_spared 71 (i_ii (fun x y => x ^^^ y) 72) := snd_ixor dX5_spared_71
theorem oX5_spared_72 : SX5_spared 72 (i_ii (fun x y => x &&& y) 73) := snd_iand dX5_spared_72
theorem oX5_spared_73 : SX5_spared 73 (i_cv 4 322 2 76) := snd_cv rfl infX5_rangeBy (by decide) rfl (xVm_V dX5_spared_73 rfl q2068 q2070 qs112 q136 q2071 pdX5_rangeBy)
theorem oX5_spared_76 : SX5_spared 76 (i_if2 (fun x y => ¬ x = y) 83 79) := snd_icmp_ne dX5_spared_76 (by decide)
theorem oX5_spared_79 : SX5_spared 79 (i_const (.int (nI 1)) 80) := snd_iconst dX5_spared_79 (by decide)
theorem oX5_spared_80 : SX5_spared 80 (i_goto 84) := snd_goto dX5_spared_80 (by decide)
theorem oX5_spared_83 : SX5_spared 83 (i_const (.int (nI 0)) 84) := snd_iconst dX5_spared_83 (by decide)
theorem oX5_spared_84 : SX5_spared 84 (i_istore 4 86) := snd_istore dX5_spared_84 (by decide)
theorem oX5_spared_86 : SX5_spared 86 (i_iinc 5 (nI 1) 89) := snd_iinc dX5_spared_86 (by decide) (by decide)
theorem oX5_spared_89 : SX5_spared 89 (i_goto 42) := snd_goto dX5_spared_89 (by decide)
theorem oX5_spared_92 : SX5_spared 92 (i_iload 2 93) := snd_iload_n dX5_spared_92 rfl
theorem oX5_spared_93 : SX5_spared 93 (i_iload 4 95) := snd_iload dX5_spared_93
theorem oX5_spared_95 : SX5_spared 95 (i_if1 (fun x => x = 0) 104 98) := snd_if_eq dX5_spared_95 (by decide)
theorem oX5_spared_98 : SX5_spared 98 (i_const (.int (nI 1)) 99) := snd_iconst dX5_spared_98 (by decide)
theorem oX5_spared_99 : SX5_spared 99 (i_iload 3 100) := snd_iload_n dX5_spared_99 rfl
theorem oX5_spared_100 : SX5_spared 100 (i_ii (fun x y => x <<< (y &&& 31)) 101) := snd_ishl dX5_spared_100
theorem oX5_spared_101 : SX5_spared 101 (i_goto 105) := snd_goto dX5_spared_101 (by decide)
theorem oX5_spared_104 : SX5_spared 104 (i_const (.int (nI 0)) 105) := snd_iconst dX5_spared_104 (by decide)
theorem oX5_spared_105 : SX5_spared 105 (i_ii (fun x y => x ||| y) 106) := snd_ior dX5_spared_105
theorem oX5_spared_106 : SX5_spared 106 (i_istore 2 107) := snd_istore_n dX5_spared_106 rfl (by decide)
theorem oX5_spared_107 : SX5_spared 107 (i_iinc 3 (nI 1) 110) := snd_iinc dX5_spared_107 (by decide) (by decide)
theorem oX5_spared_110 : SX5_spared 110 (i_goto 15) := snd_goto dX5_spared_110 (by decide)
theorem oX5_spared_113 : SX5_spared 113 (i_iload 2 114) := snd_iload_n dX5_spared_113 rfl
theorem oX5_spared_114 : SX5_spared 114 (i_iret) := snd_iret dX5_spared_114 rfl
theorem okX5_spared : ∀ q ∈ cX5_spared, SX5_spared q.1 q.2 := List.forall_mem_cons.mpr ⟨oX5_spared_0, List.forall_mem_cons.mpr ⟨oX5_spared_1, List.forall_mem_cons.mpr ⟨oX5_spared_2, List.forall_mem_cons.mpr ⟨oX5_spared_5, List.forall_mem_cons.mpr ⟨oX5_spared_6, List.forall_mem_cons.mpr ⟨oX5_spared_7, List.forall_mem_cons.mpr ⟨oX5_spared_10, List.forall_mem_cons.mpr ⟨oX5_spared_11, List.forall_mem_cons.mpr ⟨oX5_spared_12, List.forall_mem_cons.mpr ⟨oX5_spared_13, List.forall_mem_cons.mpr ⟨oX5_spared_14, List.forall_mem_cons.mpr ⟨oX5_spared_15, List.forall_mem_cons.mpr ⟨oX5_spared_16, List.forall_mem_cons.mpr ⟨oX5_spared_17, List.forall_mem_cons.mpr ⟨oX5_spared_20, List.forall_mem_cons.mpr ⟨oX5_spared_23, List.forall_mem_cons.mpr ⟨oX5_spared_24, List.forall_mem_cons.mpr ⟨oX5_spared_25, List.forall_mem_cons.mpr ⟨oX5_spared_26, List.forall_mem_cons.mpr ⟨oX5_spared_27, List.forall_mem_cons.mpr ⟨oX5_spared_28, List.forall_mem_cons.mpr ⟨oX5_spared_29, List.forall_mem_cons.mpr ⟨oX5_spared_32, List.forall_mem_cons.mpr ⟨oX5_spared_33, List.forall_mem_cons.mpr ⟨oX5_spared_36, List.forall_mem_cons.mpr ⟨oX5_spared_37, List.forall_mem_cons.mpr ⟨oX5_spared_39, List.forall_mem_cons.mpr ⟨oX5_spared_40, List.forall_mem_cons.mpr ⟨oX5_spared_42, List.forall_mem_cons.mpr ⟨oX5_spared_44, List.forall_mem_cons.mpr ⟨oX5_spared_45, List.forall_mem_cons.mpr ⟨oX5_spared_48, List.forall_mem_cons.mpr ⟨oX5_spared_51, List.forall_mem_cons.mpr ⟨oX5_spared_53, List.forall_mem_cons.mpr ⟨oX5_spared_56, List.forall_mem_cons.mpr ⟨oX5_spared_57, List.forall_mem_cons.mpr ⟨oX5_spared_59, List.forall_mem_cons.mpr ⟨oX5_spared_60, List.forall_mem_cons.mpr ⟨oX5_spared_63, List.forall_mem_cons.mpr ⟨oX5_spared_64, List.forall_mem_cons.mpr ⟨oX5_spared_66, List.forall_mem_cons.mpr ⟨oX5_spared_67, List.forall_mem_cons.mpr ⟨oX5_spared_68, List.forall_mem_cons.mpr ⟨oX5_spared_69, List.forall_mem_cons.mpr ⟨oX5_spared_70, List.forall_mem_cons.mpr ⟨oX5_spared_71, List.forall_mem_cons.mpr ⟨oX5_spared_72, List.forall_mem_cons.mpr ⟨oX5_spared_73, List.forall_mem_cons.mpr ⟨oX5_spared_76, List.forall_mem_cons.mpr ⟨oX5_spared_79, List.forall_mem_cons.mpr ⟨oX5_spared_80, List.forall_mem_cons.mpr ⟨oX5_spared_83, List.forall_mem_cons.mpr ⟨oX5_spared_84, List.forall_mem_cons.mpr ⟨oX5_spared_86, List.forall_mem_cons.mpr ⟨oX5_spared_89, List.forall_mem_cons.mpr ⟨oX5_spared_92, List.forall_mem_cons.mpr ⟨oX5_spared_93, List.forall_mem_cons.mpr ⟨oX5_spared_95, List.forall_mem_cons.mpr ⟨oX5_spared_98, List.forall_mem_cons.mpr ⟨oX5_spared_99, List.forall_mem_cons.mpr ⟨oX5_spared_100, List.forall_mem_cons.mpr ⟨oX5_spared_101, List.forall_mem_cons.mpr ⟨oX5_spared_104, List.forall_mem_cons.mpr ⟨oX5_spared_105, List.forall_mem_cons.mpr ⟨oX5_spared_106, List.forall_mem_cons.mpr ⟨oX5_spared_107, List.forall_mem_cons.mpr ⟨oX5_spared_110, List.forall_mem_cons.mpr ⟨oX5_spared_113, List.forall_mem_cons.mpr ⟨oX5_spared_114, fun _ h => absurd h List.not_mem_nil⟩⟩⟩⟩⟩⟩⟩⟩⟩⟩⟩⟩⟩⟩⟩⟩⟩⟩⟩⟩⟩⟩⟩⟩⟩⟩⟩⟩⟩⟩⟩⟩⟩⟩⟩⟩⟩⟩⟩⟩⟩⟩⟩⟩⟩⟩⟩⟩⟩⟩⟩⟩⟩⟩⟩⟩⟩⟩⟩⟩⟩⟩⟩⟩⟩⟩⟩⟩⟩
def dkwX5_opened_3 : List UInt8 := [132, 4, 1, 167, 255, 206, 28, 172]
abbrev dktX5_opened_3 : List UInt8 := dkwX5_opened_3 ++ []
def dkwX5_opened_2 : List UInt8 := [164, 0, 8, 21, 4, 167, 0, 4, 28, 61, 21, 5, 29, 164, 0, 8, 21, 5, 167, 0, 4, 29, 62]
abbrev dktX5_opened_2 : List UInt8 := dkwX5_opened_2 ++ dktX5_opened_3
def dkwX5_opened_1 : List UInt8 := [42, 182, 1, 16, 162, 0, 47, 42, 27, 4, 21, 4, 120, 128, 182, 1, 113, 54, 5, 21, 5, 29]
abbrev dktX5_opened_1 : List UInt8 := dkwX5_opened_1 ++ dktX5_opened_2
def dkwX5_opened_0 : List UInt8 := [42, 3, 181, 0, 1, 42, 3, 182, 1, 104, 60, 2, 61, 42, 27, 182, 1, 113, 62, 3, 54, 4, 21, 4]
abbrev dktX5_opened_0 : List UInt8 := dkwX5_opened_0 ++ dktX5_opened_1
theorem dksX5_opened_0 : bcX5_opened.data.toList.drop 0 = dktX5_opened_0 := by decide +kernel
theorem dksX5_opened_1 : bcX5_opened.data.toList.drop 24 = dktX5_opened_1 := dk_seg dksX5_opened_0 24 rfl rfl
theorem dksX5_opened_2 : bcX5_opened.data.toList.drop 46 = dktX5_opened_2 := dk_seg dksX5_opened_1 22 rfl rfl
theorem dksX5_opened_3 : bcX5_opened.data.toList.drop 69 = dktX5_opened_3 := dk_seg dksX5_opened_2 23 rfl rfl
theorem dX5_opened_0 : decode bcX5_opened 0 = .ok (.aload_n 0, 1) := dk_42 (dk_at dksX5_opened_0 0 rfl rfl)
theorem dX5_opened_1 : decode bcX5_opened 1 = .ok (.iconst 0, 1) := dk_3 (dk_at dksX5_opened_0 1 rfl rfl)
theorem dX5_opened_2 : decode bcX5_opened 2 = .ok (.putfield 1, 3) := dk_181 0 1 (dk_at dksX5_opened_0 2 rfl rfl)
theorem dX5_opened_5 : decode bcX5_opened 5 = .ok (.aload_n 0, 1) := dk_42 (dk_at dksX5_opened_0 5 rfl rfl)
theorem dX5_opened_6 : decode bcX5_opened 6 = .ok (.iconst 0, 1) := dk_3 (dk_at dksX5_opened_0 6 rfl rfl)
theorem dX5_opened_7 : decode bcX5_opened 7 = .ok (.invokevirtual 360, 3) := dk_182 1 104 (dk_at dksX5_opened_0 7 rfl rfl)
theorem dX5_opened_10 : decode bcX5_opened 10 = .ok (.istore_n 1, 1) := dk_60 (dk_at dksX5_opened_0 10 rfl rfl)
theorem dX5_opened_11 : decode bcX5_opened 11 = .ok (.iconst (-1), 1) := dk_2 (dk_at dksX5_opened_0 11 rfl rfl)
theorem dX5_opened_12 : decode bcX5_opened 12 = .ok (.istore_n 2, 1) := dk_61 (dk_at dksX5_opened_0 12 rfl rfl)
theorem dX5_opened_13 : decode bcX5_opened 13 = .ok (.aload_n 0, 1) := dk_42 (dk_at dksX5_opened_0 13 rfl rfl)
theorem dX5_opened_14 : decode bcX5_opened 14 = .ok (.iload_n 1, 1) := dk_27 (dk_at dksX5_opened_0 14 rfl rfl)
theorem dX5_opened_15 : decode bcX5_opened 15 = .ok (.invokevirtual 369, 3) := dk_182 1 113 (dk_at dksX5_opened_0 15 rfl rfl)
theorem dX5_opened_18 : decode bcX5_opened 18 = .ok (.istore_n 3, 1) := dk_62 (dk_at dksX5_opened_0 18 rfl rfl)
theorem dX5_opened_19 : decode bcX5_opened 19 = .ok (.iconst 0, 1) := dk_3 (dk_at dksX5_opened_0 19 rfl rfl)
theorem dX5_opened_20 : decode bcX5_opened 20 = .ok (.istore 4, 2) := dk_54 4 (dk_at dksX5_opened_0 20 rfl rfl)
theorem dX5_opened_22 : decode bcX5_opened 22 = .ok (.iload 4, 2) := dk_21 4 (dk_at dksX5_opened_0 22 rfl rfl)
theorem dX5_opened_24 : decode bcX5_opened 24 = .ok (.aload_n 0, 1) := dk_42 (dk_at dksX5_opened_1 0 rfl rfl)
theorem dX5_opened_25 : decode bcX5_opened 25 = .ok (.invokevirtual 272, 3) := dk_182 1 16 (dk_at dksX5_opened_1 1 rfl rfl)
theorem dX5_opened_28 : decode bcX5_opened 28 = .ok (.if_icmp .ge 47, 3) := dk_162 0 47 (dk_at dksX5_opened_1 4 rfl rfl)
theorem dX5_opened_31 : decode bcX5_opened 31 = .ok (.aload_n 0, 1) := dk_42 (dk_at dksX5_opened_1 7 rfl rfl)
theorem dX5_opened_32 : decode bcX5_opened 32 = .ok (.iload_n 1, 1) := dk_27 (dk_at dksX5_opened_1 8 rfl rfl)
theorem dX5_opened_33 : decode bcX5_opened 33 = .ok (.iconst 1, 1) := dk_4 (dk_at dksX5_opened_1 9 rfl rfl)
theorem dX5_opened_34 : decode bcX5_opened 34 = .ok (.iload 4, 2) := dk_21 4 (dk_at dksX5_opened_1 10 rfl rfl)
theorem dX5_opened_36 : decode bcX5_opened 36 = .ok (.ishl, 1) := dk_120 (dk_at dksX5_opened_1 12 rfl rfl)
theorem dX5_opened_37 : decode bcX5_opened 37 = .ok (.ior, 1) := dk_128 (dk_at dksX5_opened_1 13 rfl rfl)
theorem dX5_opened_38 : decode bcX5_opened 38 = .ok (.invokevirtual 369, 3) := dk_182 1 113 (dk_at dksX5_opened_1 14 rfl rfl)
theorem dX5_opened_41 : decode bcX5_opened 41 = .ok (.istore 5, 2) := dk_54 5 (dk_at dksX5_opened_1 17 rfl rfl)
theorem dX5_opened_43 : decode bcX5_opened 43 = .ok (.iload 5, 2) := dk_21 5 (dk_at dksX5_opened_1 19 rfl rfl)
theorem dX5_opened_45 : decode bcX5_opened 45 = .ok (.iload_n 3, 1) := dk_29 (dk_at dksX5_opened_1 21 rfl rfl)
theorem dX5_opened_46 : decode bcX5_opened 46 = .ok (.if_icmp .le 8, 3) := dk_164 0 8 (dk_at dksX5_opened_2 0 rfl rfl)
theorem dX5_opened_49 : decode bcX5_opened 49 = .ok (.iload 4, 2) := dk_21 4 (dk_at dksX5_opened_2 3 rfl rfl)
theorem dX5_opened_51 : decode bcX5_opened 51 = .ok (.goto 4, 3) := dk_167 0 4 (dk_at dksX5_opened_2 5 rfl rfl)
theorem dX5_opened_54 : decode bcX5_opened 54 = .ok (.iload_n 2, 1) := dk_28 (dk_at dksX5_opened_2 8 rfl rfl)
theorem dX5_opened_55 : decode bcX5_opened 55 = .ok (.istore_n 2, 1) := dk_61 (dk_at dksX5_opened_2 9 rfl rfl)
theorem dX5_opened_56 : decode bcX5_opened 56 = .ok (.iload 5, 2) := dk_21 5 (dk_at dksX5_opened_2 10 rfl rfl)
theorem dX5_opened_58 : decode bcX5_opened 58 = .ok (.iload_n 3, 1) := dk_29 (dk_at dksX5_opened_2 12 rfl rfl)
theorem dX5_opened_59 : decode bcX5_opened 59 = .ok (.if_icmp .le 8, 3) := dk_164 0 8 (dk_at dksX5_opened_2 13 rfl rfl)
theorem dX5_opened_62 : decode bcX5_opened 62 = .ok (.iload 5, 2) := dk_21 5 (dk_at dksX5_opened_2 16 rfl rfl)
theorem dX5_opened_64 : decode bcX5_opened 64 = .ok (.goto 4, 3) := dk_167 0 4 (dk_at dksX5_opened_2 18 rfl rfl)
theorem dX5_opened_67 : decode bcX5_opened 67 = .ok (.iload_n 3, 1) := dk_29 (dk_at dksX5_opened_2 21 rfl rfl)
theorem dX5_opened_68 : decode bcX5_opened 68 = .ok (.istore_n 3, 1) := dk_62 (dk_at dksX5_opened_2 22 rfl rfl)
theorem dX5_opened_69 : decode bcX5_opened 69 = .ok (.iinc 4 1, 3) := dk_132 4 1 (dk_at dksX5_opened_3 0 rfl rfl)
theorem dX5_opened_72 : decode bcX5_opened 72 = .ok (.goto (-50), 3) := dk_167 255 206 (dk_at dksX5_opened_3 3 rfl rfl)
theorem dX5_opened_75 : decode bcX5_opened 75 = .ok (.iload_n 2, 1) := dk_28 (dk_at dksX5_opened_3 6 rfl rfl)
theorem dX5_opened_76 : decode bcX5_opened 76 = .ok (.ireturn, 1) := dk_172 (dk_at dksX5_opened_3 7 rfl rfl)
abbrev SX5_opened (pc : Nat) (i : xI) : Prop := Snd "SwollenHouseModel" "opened" prog_25_method_91_code 6 (Option.some Jvm.ClassFile.FieldType.int) [] pc i
theorem oX5_opened_0 : SX5_opened 0 (i_aload 0 1) := snd_aload_n dX5_opened_0 rfl
theorem oX5_opened_1 : SX5_opened 1 (i_const (.int (nI 0)) 2) := snd_iconst dX5_opened_1 (by decide)
theorem oX5_opened_2 : SX5_opened 2 (i_putfi 4 0 5) := snd_putfi dX5_opened_2 rfl (by decide) in_X5 tyX5 tyX5_ok nmX5 (Or.inl ⟨rfl, q1698⟩) (Or.inl rfl) rfl
theorem oX5_opened_5 : SX5_opened 5 (i_aload 0 6) := snd_aload_n dX5_opened_5 rfl
theorem oX5_opened_6 : SX5_opened 6 (i_const (.int (nI 0)) 7) := snd_iconst dX5_opened_6 (by decide)
theorem oX5_opened_7 : SX5_opened 7 (i_cv 4 321 1 10) := snd_cv rfl infX5_openNow (by decide) rfl (xVm_V dX5_opened_7 rfl q2064 q2066 qs111 q136 q2067 pdX5_openNow)
theorem oX5_opened_10 : SX5_opened 10 (i_istore 1 11) := snd_istore_n dX5_opened_10 rfl (by decide)
theorem oX5_opened_11 : SX5_opened 11 (i_const (.int (-1)) 12) := snd_iconst dX5_opened_11 (by decide)
theorem oX5_opened_12 : SX5_opened 12 (i_istore 2 13) := snd_istore_n dX5_opened_12 rfl (by decide)
theorem oX5_opened_13 : SX5_opened 13 (i_aload 0 14) := snd_aload_n dX5_opened_13 rfl
theorem oX5_opened_14 : SX5_opened 14 (i_iload 1 15) := snd_iload_n dX5_opened_14 rfl
theorem oX5_opened_15 : SX5_opened 15 (i_cv 4 332 1 18) := snd_cv rfl infX5_pairsBy (by decide) rfl (xVm_V dX5_opened_15 rfl q2108 q2110 qs115 q136 q2111 pdX5_pairsBy)
theorem oX5_opened_18 : SX5_opened 18 (i_istore 3 19) := snd_istore_n dX5_opened_18 rfl (by decide)
theorem oX5_opened_19 : SX5_opened 19 (i_const (.int (nI 0)) 20) := snd_iconst dX5_opened_19 (by decide)
theorem oX5_opened_20 : SX5_opened 20 (i_istore 4 22) := snd_istore dX5_opened_20 (by decide)
theorem oX5_opened_22 : SX5_opened 22 (i_iload 4 24) := snd_iload dX5_opened_22
theorem oX5_opened_24 : SX5_opened 24 (i_aload 0 25) := snd_aload_n dX5_opened_24 rfl
theorem oX5_opened_25 : SX5_opened 25 (i_cv 4 250 0 28) := snd_cv rfl infX5_doors (by decide) rfl (xVm_V dX5_opened_25 rfl q1686 q1688 qs60 q136 q1689 pdX5_doors)
theorem oX5_opened_28 : SX5_opened 28 (i_if2 (fun x y => y ≤ x) 75 31) := snd_icmp_ge dX5_opened_28 (by decide)
theorem oX5_opened_31 : SX5_opened 31 (i_aload 0 32) := snd_aload_n dX5_opened_31 rfl
theorem oX5_opened_32 : SX5_opened 32 (i_iload 1 33) := snd_iload_n dX5_opened_32 rfl
theorem oX5_opened_33 : SX5_opened 33 (i_const (.int (nI 1)) 34) := snd_iconst dX5_opened_33 (by decide)
theorem oX5_opened_34 : SX5_opened 34 (i_iload 4 36) := snd_iload dX5_opened_34
theorem oX5_opened_36 : SX5_opened 36 (i_ii (fun x y => x <<< (y &&& 31)) 37) := snd_ishl dX5_opened_36
theorem oX5_opened_37 : SX5_opened 37 (i_ii (fun x y => x ||| y) 38) := snd_ior dX5_opened_37
theorem oX5_opened_38 : SX5_opened 38 (i_cv 4 332 1 41) := snd_cv rfl infX5_pairsBy (by decide) rfl (xVm_V dX5_opened_38 rfl q2108 q2110 qs115 q136 q2111 pdX5_pairsBy)
theorem oX5_opened_41 : SX5_opened 41 (i_istore 5 43) := snd_istore dX5_opened_41 (by decide)
theorem oX5_opened_43 : SX5_opened 43 (i_iload 5 45) := snd_iload dX5_opened_43
theorem oX5_opened_45 : SX5_opened 45 (i_iload 3 46) := snd_iload_n dX5_opened_45 rfl
theorem oX5_opened_46 : SX5_opened 46 (i_if2 (fun x y => x ≤ y) 54 49) := snd_icmp_le dX5_opened_46 (by decide)
theorem oX5_opened_49 : SX5_opened 49 (i_iload 4 51) := snd_iload dX5_opened_49
theorem oX5_opened_51 : SX5_opened 51 (i_goto 55) := snd_goto dX5_opened_51 (by decide)
theorem oX5_opened_54 : SX5_opened 54 (i_iload 2 55) := snd_iload_n dX5_opened_54 rfl
theorem oX5_opened_55 : SX5_opened 55 (i_istore 2 56) := snd_istore_n dX5_opened_55 rfl (by decide)
theorem oX5_opened_56 : SX5_opened 56 (i_iload 5 58) := snd_iload dX5_opened_56
theorem oX5_opened_58 : SX5_opened 58 (i_iload 3 59) := snd_iload_n dX5_opened_58 rfl
theorem oX5_opened_59 : SX5_opened 59 (i_if2 (fun x y => x ≤ y) 67 62) := snd_icmp_le dX5_opened_59 (by decide)
theorem oX5_opened_62 : SX5_opened 62 (i_iload 5 64) := snd_iload dX5_opened_62
theorem oX5_opened_64 : SX5_opened 64 (i_goto 68) := snd_goto dX5_opened_64 (by decide)
theorem oX5_opened_67 : SX5_opened 67 (i_iload 3 68) := snd_iload_n dX5_opened_67 rfl
theorem oX5_opened_68 : SX5_opened 68 (i_istore 3 69) := snd_istore_n dX5_opened_68 rfl (by decide)
theorem oX5_opened_69 : SX5_opened 69 (i_iinc 4 (nI 1) 72) := snd_iinc dX5_opened_69 (by decide) (by decide)
theorem oX5_opened_72 : SX5_opened 72 (i_goto 22) := snd_goto dX5_opened_72 (by decide)
theorem oX5_opened_75 : SX5_opened 75 (i_iload 2 76) := snd_iload_n dX5_opened_75 rfl
theorem oX5_opened_76 : SX5_opened 76 (i_iret) := snd_iret dX5_opened_76 rfl
theorem okX5_opened : ∀ q ∈ cX5_opened, SX5_opened q.1 q.2 := List.forall_mem_cons.mpr ⟨oX5_opened_0, List.forall_mem_cons.mpr ⟨oX5_opened_1, List.forall_mem_cons.mpr ⟨oX5_opened_2, List.forall_mem_cons.mpr ⟨oX5_opened_5, List.forall_mem_cons.mpr ⟨oX5_opened_6, List.forall_mem_cons.mpr ⟨oX5_opened_7, List.forall_mem_cons.mpr ⟨oX5_opened_10, List.forall_mem_cons.mpr ⟨oX5_opened_11, List.forall_mem_cons.mpr ⟨oX5_opened_12, List.forall_mem_cons.mpr ⟨oX5_opened_13, List.forall_mem_cons.mpr ⟨oX5_opened_14, List.forall_mem_cons.mpr ⟨oX5_opened_15, List.forall_mem_cons.mpr ⟨oX5_opened_18, List.forall_mem_cons.mpr ⟨oX5_opened_19, List.forall_mem_cons.mpr ⟨oX5_opened_20, List.forall_mem_cons.mpr ⟨oX5_opened_22, List.forall_mem_cons.mpr ⟨oX5_opened_24, List.forall_mem_cons.mpr ⟨oX5_opened_25, List.forall_mem_cons.mpr ⟨oX5_opened_28, List.forall_mem_cons.mpr ⟨oX5_opened_31, List.forall_mem_cons.mpr ⟨oX5_opened_32, List.forall_mem_cons.mpr ⟨oX5_opened_33, List.forall_mem_cons.mpr ⟨oX5_opened_34, List.forall_mem_cons.mpr ⟨oX5_opened_36, List.forall_mem_cons.mpr ⟨oX5_opened_37, List.forall_mem_cons.mpr ⟨oX5_opened_38, List.forall_mem_cons.mpr ⟨oX5_opened_41, List.forall_mem_cons.mpr ⟨oX5_opened_43, List.forall_mem_cons.mpr ⟨oX5_opened_45, List.forall_mem_cons.mpr ⟨oX5_opened_46, List.forall_mem_cons.mpr ⟨oX5_opened_49, List.forall_mem_cons.mpr ⟨oX5_opened_51, List.forall_mem_cons.mpr ⟨oX5_opened_54, List.forall_mem_cons.mpr ⟨oX5_opened_55, List.forall_mem_cons.mpr ⟨oX5_opened_56, List.forall_mem_cons.mpr ⟨oX5_opened_58, List.forall_mem_cons.mpr ⟨oX5_opened_59, List.forall_mem_cons.mpr ⟨oX5_opened_62, List.forall_mem_cons.mpr ⟨oX5_opened_64, List.forall_mem_cons.mpr ⟨oX5_opened_67, List.forall_mem_cons.mpr ⟨oX5_opened_68, List.forall_mem_cons.mpr ⟨oX5_opened_69, List.forall_mem_cons.mpr ⟨oX5_opened_72, List.forall_mem_cons.mpr ⟨oX5_opened_75, List.forall_mem_cons.mpr ⟨oX5_opened_76, fun _ h => absurd h List.not_mem_nil⟩⟩⟩⟩⟩⟩⟩⟩⟩⟩⟩⟩⟩⟩⟩⟩⟩⟩⟩⟩⟩⟩⟩⟩⟩⟩⟩⟩⟩⟩⟩⟩⟩⟩⟩⟩⟩⟩⟩⟩⟩⟩⟩⟩⟩
def dkwX5_pairsBy_1 : List UInt8 := [132, 3, 1, 167, 255, 233, 28, 5, 108, 172]
abbrev dktX5_pairsBy_1 : List UInt8 := dkwX5_pairsBy_1 ++ []
def dkwX5_pairsBy_0 : List UInt8 := [3, 61, 3, 62, 29, 42, 182, 1, 23, 162, 0, 21, 28, 42, 29, 27, 182, 1, 110, 184, 1, 95, 96, 61]
abbrev dktX5_pairsBy_0 : List UInt8 := dkwX5_pairsBy_0 ++ dktX5_pairsBy_1
theorem dksX5_pairsBy_0 : bcX5_pairsBy.data.toList.drop 0 = dktX5_pairsBy_0 := by decide +kernel
theorem dksX5_pairsBy_1 : bcX5_pairsBy.data.toList.drop 24 = dktX5_pairsBy_1 := dk_seg dksX5_pairsBy_0 24 rfl rfl
theorem dX5_pairsBy_0 : decode bcX5_pairsBy 0 = .ok (.iconst 0, 1) := dk_3 (dk_at dksX5_pairsBy_0 0 rfl rfl)
theorem dX5_pairsBy_1 : decode bcX5_pairsBy 1 = .ok (.istore_n 2, 1) := dk_61 (dk_at dksX5_pairsBy_0 1 rfl rfl)
theorem dX5_pairsBy_2 : decode bcX5_pairsBy 2 = .ok (.iconst 0, 1) := dk_3 (dk_at dksX5_pairsBy_0 2 rfl rfl)
theorem dX5_pairsBy_3 : decode bcX5_pairsBy 3 = .ok (.istore_n 3, 1) := dk_62 (dk_at dksX5_pairsBy_0 3 rfl rfl)
theorem dX5_pairsBy_4 : decode bcX5_pairsBy 4 = .ok (.iload_n 3, 1) := dk_29 (dk_at dksX5_pairsBy_0 4 rfl rfl)
theorem dX5_pairsBy_5 : decode bcX5_pairsBy 5 = .ok (.aload_n 0, 1) := dk_42 (dk_at dksX5_pairsBy_0 5 rfl rfl)
theorem dX5_pairsBy_6 : decode bcX5_pairsBy 6 = .ok (.invokevirtual 279, 3) := dk_182 1 23 (dk_at dksX5_pairsBy_0 6 rfl rfl)
theorem dX5_pairsBy_9 : decode bcX5_pairsBy 9 = .ok (.if_icmp .ge 21, 3) := dk_162 0 21 (dk_at dksX5_pairsBy_0 9 rfl rfl)
theorem dX5_pairsBy_12 : decode bcX5_pairsBy 12 = .ok (.iload_n 2, 1) := dk_28 (dk_at dksX5_pairsBy_0 12 rfl rfl)
theorem dX5_pairsBy_13 : decode bcX5_pairsBy 13 = .ok (.aload_n 0, 1) := dk_42 (dk_at dksX5_pairsBy_0 13 rfl rfl)
theorem dX5_pairsBy_14 : decode bcX5_pairsBy 14 = .ok (.iload_n 3, 1) := dk_29 (dk_at dksX5_pairsBy_0 14 rfl rfl)
theorem dX5_pairsBy_15 : decode bcX5_pairsBy 15 = .ok (.iload_n 1, 1) := dk_27 (dk_at dksX5_pairsBy_0 15 rfl rfl)
theorem dX5_pairsBy_16 : decode bcX5_pairsBy 16 = .ok (.invokevirtual 366, 3) := dk_182 1 110 (dk_at dksX5_pairsBy_0 16 rfl rfl)
theorem dX5_pairsBy_19 : decode bcX5_pairsBy 19 = .ok (.invokestatic 351, 3) := dk_184 1 95 (dk_at dksX5_pairsBy_0 19 rfl rfl)
theorem dX5_pairsBy_22 : decode bcX5_pairsBy 22 = .ok (.iadd, 1) := dk_96 (dk_at dksX5_pairsBy_0 22 rfl rfl)
theorem dX5_pairsBy_23 : decode bcX5_pairsBy 23 = .ok (.istore_n 2, 1) := dk_61 (dk_at dksX5_pairsBy_0 23 rfl rfl)
theorem dX5_pairsBy_24 : decode bcX5_pairsBy 24 = .ok (.iinc 3 1, 3) := dk_132 3 1 (dk_at dksX5_pairsBy_1 0 rfl rfl)
theorem dX5_pairsBy_27 : decode bcX5_pairsBy 27 = .ok (.goto (-23), 3) := dk_167 255 233 (dk_at dksX5_pairsBy_1 3 rfl rfl)
theorem dX5_pairsBy_30 : decode bcX5_pairsBy 30 = .ok (.iload_n 2, 1) := dk_28 (dk_at dksX5_pairsBy_1 6 rfl rfl)
theorem dX5_pairsBy_31 : decode bcX5_pairsBy 31 = .ok (.iconst 2, 1) := dk_5 (dk_at dksX5_pairsBy_1 7 rfl rfl)
theorem dX5_pairsBy_32 : decode bcX5_pairsBy 32 = .ok (.idiv, 1) := dk_108 (dk_at dksX5_pairsBy_1 8 rfl rfl)
theorem dX5_pairsBy_33 : decode bcX5_pairsBy 33 = .ok (.ireturn, 1) := dk_172 (dk_at dksX5_pairsBy_1 9 rfl rfl)
abbrev SX5_pairsBy (pc : Nat) (i : xI) : Prop := Snd "SwollenHouseModel" "pairsBy" prog_25_method_90_code 4 (Option.some Jvm.ClassFile.FieldType.int) [] pc i
theorem oX5_pairsBy_0 : SX5_pairsBy 0 (i_const (.int (nI 0)) 1) := snd_iconst dX5_pairsBy_0 (by decide)
theorem oX5_pairsBy_1 : SX5_pairsBy 1 (i_istore 2 2) := snd_istore_n dX5_pairsBy_1 rfl (by decide)
theorem oX5_pairsBy_2 : SX5_pairsBy 2 (i_const (.int (nI 0)) 3) := snd_iconst dX5_pairsBy_2 (by decide)
theorem oX5_pairsBy_3 : SX5_pairsBy 3 (i_istore 3 4) := snd_istore_n dX5_pairsBy_3 rfl (by decide)
theorem oX5_pairsBy_4 : SX5_pairsBy 4 (i_iload 3 5) := snd_iload_n dX5_pairsBy_4 rfl
theorem oX5_pairsBy_5 : SX5_pairsBy 5 (i_aload 0 6) := snd_aload_n dX5_pairsBy_5 rfl
theorem oX5_pairsBy_6 : SX5_pairsBy 6 (i_cv 4 252 0 9) := snd_cv rfl infX5_persons (by decide) rfl (xVm_V dX5_pairsBy_6 rfl q1694 q1696 qs62 q136 q1697 pdX5_persons)
theorem oX5_pairsBy_9 : SX5_pairsBy 9 (i_if2 (fun x y => y ≤ x) 30 12) := snd_icmp_ge dX5_pairsBy_9 (by decide)
theorem oX5_pairsBy_12 : SX5_pairsBy 12 (i_iload 2 13) := snd_iload_n dX5_pairsBy_12 rfl
theorem oX5_pairsBy_13 : SX5_pairsBy 13 (i_aload 0 14) := snd_aload_n dX5_pairsBy_13 rfl
theorem oX5_pairsBy_14 : SX5_pairsBy 14 (i_iload 3 15) := snd_iload_n dX5_pairsBy_14 rfl
theorem oX5_pairsBy_15 : SX5_pairsBy 15 (i_iload 1 16) := snd_iload_n dX5_pairsBy_15 rfl
theorem oX5_pairsBy_16 : SX5_pairsBy 16 (i_cv 4 325 2 19) := snd_cv rfl infX5_companyBy (by decide) rfl (xVm_V dX5_pairsBy_16 rfl q2080 q2082 qs114 q136 q2083 pdX5_companyBy)
theorem oX5_pairsBy_19 : SX5_pairsBy 19 (i_cs 316 1 22) := snd_cs rfl infX5_bits (by decide) (xSm_S dX5_pairsBy_19 q2045 q2046 q136 q2047 pdX5_bits)
theorem oX5_pairsBy_22 : SX5_pairsBy 22 (i_ii (fun x y => x + y) 23) := snd_iadd dX5_pairsBy_22
theorem oX5_pairsBy_23 : SX5_pairsBy 23 (i_istore 2 24) := snd_istore_n dX5_pairsBy_23 rfl (by decide)
theorem oX5_pairsBy_24 : SX5_pairsBy 24 (i_iinc 3 (nI 1) 27) := snd_iinc dX5_pairsBy_24 (by decide) (by decide)
theorem oX5_pairsBy_27 : SX5_pairsBy 27 (i_goto 4) := snd_goto dX5_pairsBy_27 (by decide)
theorem oX5_pairsBy_30 : SX5_pairsBy 30 (i_iload 2 31) := snd_iload_n dX5_pairsBy_30 rfl
theorem oX5_pairsBy_31 : SX5_pairsBy 31 (i_const (.int (nI 2)) 32) := snd_iconst dX5_pairsBy_31 (by decide)
theorem oX5_pairsBy_32 : SX5_pairsBy 32 (i_iz (fun x y => x / y) 33) := snd_idiv dX5_pairsBy_32
theorem oX5_pairsBy_33 : SX5_pairsBy 33 (i_iret) := snd_iret dX5_pairsBy_33 rfl
theorem okX5_pairsBy : ∀ q ∈ cX5_pairsBy, SX5_pairsBy q.1 q.2 := List.forall_mem_cons.mpr ⟨oX5_pairsBy_0, List.forall_mem_cons.mpr ⟨oX5_pairsBy_1, List.forall_mem_cons.mpr ⟨oX5_pairsBy_2, List.forall_mem_cons.mpr ⟨oX5_pairsBy_3, List.forall_mem_cons.mpr ⟨oX5_pairsBy_4, List.forall_mem_cons.mpr ⟨oX5_pairsBy_5, List.forall_mem_cons.mpr ⟨oX5_pairsBy_6, List.forall_mem_cons.mpr ⟨oX5_pairsBy_9, List.forall_mem_cons.mpr ⟨oX5_pairsBy_12, List.forall_mem_cons.mpr ⟨oX5_pairsBy_13, List.forall_mem_cons.mpr ⟨oX5_pairsBy_14, List.forall_mem_cons.mpr ⟨oX5_pairsBy_15, List.forall_mem_cons.mpr ⟨oX5_pairsBy_16, List.forall_mem_cons.mpr ⟨oX5_pairsBy_19, List.forall_mem_cons.mpr ⟨oX5_pairsBy_22, List.forall_mem_cons.mpr ⟨oX5_pairsBy_23, List.forall_mem_cons.mpr ⟨oX5_pairsBy_24, List.forall_mem_cons.mpr ⟨oX5_pairsBy_27, List.forall_mem_cons.mpr ⟨oX5_pairsBy_30, List.forall_mem_cons.mpr ⟨oX5_pairsBy_31, List.forall_mem_cons.mpr ⟨oX5_pairsBy_32, List.forall_mem_cons.mpr ⟨oX5_pairsBy_33, fun _ h => absurd h List.not_mem_nil⟩⟩⟩⟩⟩⟩⟩⟩⟩⟩⟩⟩⟩⟩⟩⟩⟩⟩⟩⟩⟩⟩
def dkwX5_cut_5 : List UInt8 := [132, 5, 1, 167, 255, 176, 21, 4, 172]
abbrev dktX5_cut_5 : List UInt8 := dkwX5_cut_5 ++ []
def dkwX5_cut_4 : List UInt8 := [21, 5, 2, 130, 126, 182, 1, 107, 28, 122, 4, 126, 154, 0, 8, 21, 5, 167, 0, 5, 21, 4, 54, 4]
abbrev dktX5_cut_4 : List UInt8 := dkwX5_cut_4 ++ dktX5_cut_5
def dkwX5_cut_3 : List UInt8 := [21, 4, 184, 1, 95, 162, 0, 7, 4, 167, 0, 4, 3, 54, 6, 21, 6, 153, 0, 26, 42, 27, 29]
abbrev dktX5_cut_3 : List UInt8 := dkwX5_cut_3 ++ dktX5_cut_4
def dkwX5_cut_2 : List UInt8 := [120, 162, 0, 75, 21, 5, 29, 2, 130, 126, 154, 0, 25, 21, 4, 155, 0, 16, 21, 5, 184, 1, 95]
abbrev dktX5_cut_2 : List UInt8 := dkwX5_cut_2 ++ dktX5_cut_3
def dkwX5_cut_1 : List UInt8 := [160, 0, 5, 2, 172, 42, 3, 182, 1, 104, 62, 2, 54, 4, 3, 54, 5, 21, 5, 4, 42, 182, 1, 16]
abbrev dktX5_cut_1 : List UInt8 := dkwX5_cut_1 ++ dktX5_cut_2
def dkwX5_cut_0 : List UInt8 := [42, 3, 181, 0, 1, 42, 27, 182, 1, 101, 153, 0, 16, 42, 28, 182, 1, 101, 153, 0, 8, 27, 28]
abbrev dktX5_cut_0 : List UInt8 := dkwX5_cut_0 ++ dktX5_cut_1
theorem dksX5_cut_0 : bcX5_cut.data.toList.drop 0 = dktX5_cut_0 := by decide +kernel
theorem dksX5_cut_1 : bcX5_cut.data.toList.drop 23 = dktX5_cut_1 := dk_seg dksX5_cut_0 23 rfl rfl
theorem dksX5_cut_2 : bcX5_cut.data.toList.drop 47 = dktX5_cut_2 := dk_seg dksX5_cut_1 24 rfl rfl
theorem dksX5_cut_3 : bcX5_cut.data.toList.drop 70 = dktX5_cut_3 := dk_seg dksX5_cut_2 23 rfl rfl
theorem dksX5_cut_4 : bcX5_cut.data.toList.drop 93 = dktX5_cut_4 := dk_seg dksX5_cut_3 23 rfl rfl
theorem dksX5_cut_5 : bcX5_cut.data.toList.drop 117 = dktX5_cut_5 := dk_seg dksX5_cut_4 24 rfl rfl
theorem dX5_cut_0 : decode bcX5_cut 0 = .ok (.aload_n 0, 1) := dk_42 (dk_at dksX5_cut_0 0 rfl rfl)
theorem dX5_cut_1 : decode bcX5_cut 1 = .ok (.iconst 0, 1) := dk_3 (dk_at dksX5_cut_0 1 rfl rfl)
theorem dX5_cut_2 : decode bcX5_cut 2 = .ok (.putfield 1, 3) := dk_181 0 1 (dk_at dksX5_cut_0 2 rfl rfl)
theorem dX5_cut_5 : decode bcX5_cut 5 = .ok (.aload_n 0, 1) := dk_42 (dk_at dksX5_cut_0 5 rfl rfl)
theorem dX5_cut_6 : decode bcX5_cut 6 = .ok (.iload_n 1, 1) := dk_27 (dk_at dksX5_cut_0 6 rfl rfl)
theorem dX5_cut_7 : decode bcX5_cut 7 = .ok (.invokevirtual 357, 3) := dk_182 1 101 (dk_at dksX5_cut_0 7 rfl rfl)
theorem dX5_cut_10 : decode bcX5_cut 10 = .ok (.ifCond .eq 16, 3) := dk_153 0 16 (dk_at dksX5_cut_0 10 rfl rfl)
theorem dX5_cut_13 : decode bcX5_cut 13 = .ok (.aload_n 0, 1) := dk_42 (dk_at dksX5_cut_0 13 rfl rfl)
theorem dX5_cut_14 : decode bcX5_cut 14 = .ok (.iload_n 2, 1) := dk_28 (dk_at dksX5_cut_0 14 rfl rfl)
theorem dX5_cut_15 : decode bcX5_cut 15 = .ok (.invokevirtual 357, 3) := dk_182 1 101 (dk_at dksX5_cut_0 15 rfl rfl)
theorem dX5_cut_18 : decode bcX5_cut 18 = .ok (.ifCond .eq 8, 3) := dk_153 0 8 (dk_at dksX5_cut_0 18 rfl rfl)
theorem dX5_cut_21 : decode bcX5_cut 21 = .ok (.iload_n 1, 1) := dk_27 (dk_at dksX5_cut_0 21 rfl rfl)
theorem dX5_cut_22 : decode bcX5_cut 22 = .ok (.iload_n 2, 1) := dk_28 (dk_at dksX5_cut_0 22 rfl rfl)
theorem dX5_cut_23 : decode bcX5_cut 23 = .ok (.if_icmp .ne 5, 3) := dk_160 0 5 (dk_at dksX5_cut_1 0 rfl rfl)
theorem dX5_cut_26 : decode bcX5_cut 26 = .ok (.iconst (-1), 1) := dk_2 (dk_at dksX5_cut_1 3 rfl rfl)
theorem dX5_cut_27 : decode bcX5_cut 27 = .ok (.ireturn, 1) := dk_172 (dk_at dksX5_cut_1 4 rfl rfl)
theorem dX5_cut_28 : decode bcX5_cut 28 = .ok (.aload_n 0, 1) := dk_42 (dk_at dksX5_cut_1 5 rfl rfl)
theorem dX5_cut_29 : decode bcX5_cut 29 = .ok (.iconst 0, 1) := dk_3 (dk_at dksX5_cut_1 6 rfl rfl)
theorem dX5_cut_30 : decode bcX5_cut 30 = .ok (.invokevirtual 360, 3) := dk_182 1 104 (dk_at dksX5_cut_1 7 rfl rfl)
theorem dX5_cut_33 : decode bcX5_cut 33 = .ok (.istore_n 3, 1) := dk_62 (dk_at dksX5_cut_1 10 rfl rfl)
theorem dX5_cut_34 : decode bcX5_cut 34 = .ok (.iconst (-1), 1) := dk_2 (dk_at dksX5_cut_1 11 rfl rfl)
theorem dX5_cut_35 : decode bcX5_cut 35 = .ok (.istore 4, 2) := dk_54 4 (dk_at dksX5_cut_1 12 rfl rfl)
theorem dX5_cut_37 : decode bcX5_cut 37 = .ok (.iconst 0, 1) := dk_3 (dk_at dksX5_cut_1 14 rfl rfl)
theorem dX5_cut_38 : decode bcX5_cut 38 = .ok (.istore 5, 2) := dk_54 5 (dk_at dksX5_cut_1 15 rfl rfl)
theorem dX5_cut_40 : decode bcX5_cut 40 = .ok (.iload 5, 2) := dk_21 5 (dk_at dksX5_cut_1 17 rfl rfl)
theorem dX5_cut_42 : decode bcX5_cut 42 = .ok (.iconst 1, 1) := dk_4 (dk_at dksX5_cut_1 19 rfl rfl)
theorem dX5_cut_43 : decode bcX5_cut 43 = .ok (.aload_n 0, 1) := dk_42 (dk_at dksX5_cut_1 20 rfl rfl)
theorem dX5_cut_44 : decode bcX5_cut 44 = .ok (.invokevirtual 272, 3) := dk_182 1 16 (dk_at dksX5_cut_1 21 rfl rfl)
theorem dX5_cut_47 : decode bcX5_cut 47 = .ok (.ishl, 1) := dk_120 (dk_at dksX5_cut_2 0 rfl rfl)
theorem dX5_cut_48 : decode bcX5_cut 48 = .ok (.if_icmp .ge 75, 3) := dk_162 0 75 (dk_at dksX5_cut_2 1 rfl rfl)
theorem dX5_cut_51 : decode bcX5_cut 51 = .ok (.iload 5, 2) := dk_21 5 (dk_at dksX5_cut_2 4 rfl rfl)
theorem dX5_cut_53 : decode bcX5_cut 53 = .ok (.iload_n 3, 1) := dk_29 (dk_at dksX5_cut_2 6 rfl rfl)
theorem dX5_cut_54 : decode bcX5_cut 54 = .ok (.iconst (-1), 1) := dk_2 (dk_at dksX5_cut_2 7 rfl rfl)
theorem dX5_cut_55 : decode bcX5_cut 55 = .ok (.ixor, 1) := dk_130 (dk_at dksX5_cut_2 8 rfl rfl)
theorem dX5_cut_56 : decode bcX5_cut 56 = .ok (.iand, 1) := dk_126 (dk_at dksX5_cut_2 9 rfl rfl)
theorem dX5_cut_57 : decode bcX5_cut 57 = .ok (.ifCond .ne 25, 3) := dk_154 0 25 (dk_at dksX5_cut_2 10 rfl rfl)
theorem dX5_cut_60 : decode bcX5_cut 60 = .ok (.iload 4, 2) := dk_21 4 (dk_at dksX5_cut_2 13 rfl rfl)
theorem dX5_cut_62 : decode bcX5_cut 62 = .ok (.ifCond .lt 16, 3) := dk_155 0 16 (dk_at dksX5_cut_2 15 rfl rfl)
theorem dX5_cut_65 : decode bcX5_cut 65 = .ok (.iload 5, 2) := dk_21 5 (dk_at dksX5_cut_2 18 rfl rfl)
theorem dX5_cut_67 : decode bcX5_cut 67 = .ok (.invokestatic 351, 3) := dk_184 1 95 (dk_at dksX5_cut_2 20 rfl rfl)
theorem dX5_cut_70 : decode bcX5_cut 70 = .ok (.iload 4, 2) := dk_21 4 (dk_at dksX5_cut_3 0 rfl rfl)
theorem dX5_cut_72 : decode bcX5_cut 72 = .ok (.invokestatic 351, 3) := dk_184 1 95 (dk_at dksX5_cut_3 2 rfl rfl)
theorem dX5_cut_75 : decode bcX5_cut 75 = .ok (.if_icmp .ge 7, 3) := dk_162 0 7 (dk_at dksX5_cut_3 5 rfl rfl)
theorem dX5_cut_78 : decode bcX5_cut 78 = .ok (.iconst 1, 1) := dk_4 (dk_at dksX5_cut_3 8 rfl rfl)
theorem dX5_cut_79 : decode bcX5_cut 79 = .ok (.goto 4, 3) := dk_167 0 4 (dk_at dksX5_cut_3 9 rfl rfl)
theorem dX5_cut_82 : decode bcX5_cut 82 = .ok (.iconst 0, 1) := dk_3 (dk_at dksX5_cut_3 12 rfl rfl)
theorem dX5_cut_83 : decode bcX5_cut 83 = .ok (.istore 6, 2) := dk_54 6 (dk_at dksX5_cut_3 13 rfl rfl)
theorem dX5_cut_85 : decode bcX5_cut 85 = .ok (.iload 6, 2) := dk_21 6 (dk_at dksX5_cut_3 15 rfl rfl)
theorem dX5_cut_87 : decode bcX5_cut 87 = .ok (.ifCond .eq 26, 3) := dk_153 0 26 (dk_at dksX5_cut_3 17 rfl rfl)
theorem dX5_cut_90 : decode bcX5_cut 90 = .ok (.aload_n 0, 1) := dk_42 (dk_at dksX5_cut_3 20 rfl rfl)
theorem dX5_cut_91 : decode bcX5_cut 91 = .ok (.iload_n 1, 1) := dk_27 (dk_at dksX5_cut_3 21 rfl rfl)
theorem dX5_cut_92 : decode bcX5_cut 92 = .ok (.iload_n 3, 1) := dk_29 (dk_at dksX5_cut_3 22 rfl rfl)
theorem dX5_cut_93 : decode bcX5_cut 93 = .ok (.iload 5, 2) := dk_21 5 (dk_at dksX5_cut_4 0 rfl rfl)
theorem dX5_cut_95 : decode bcX5_cut 95 = .ok (.iconst (-1), 1) := dk_2 (dk_at dksX5_cut_4 2 rfl rfl)
theorem dX5_cut_96 : decode bcX5_cut 96 = .ok (.ixor, 1) := dk_130 (dk_at dksX5_cut_4 3 rfl rfl)
theorem dX5_cut_97 : decode bcX5_cut 97 = .ok (.iand, 1) := dk_126 (dk_at dksX5_cut_4 4 rfl rfl)
theorem dX5_cut_98 : decode bcX5_cut 98 = .ok (.invokevirtual 363, 3) := dk_182 1 107 (dk_at dksX5_cut_4 5 rfl rfl)
theorem dX5_cut_101 : decode bcX5_cut 101 = .ok (.iload_n 2, 1) := dk_28 (dk_at dksX5_cut_4 8 rfl rfl)
theorem dX5_cut_102 : decode bcX5_cut 102 = .ok (.ishr, 1) := dk_122 (dk_at dksX5_cut_4 9 rfl rfl)
theorem dX5_cut_103 : decode bcX5_cut 103 = .ok (.iconst 1, 1) := dk_4 (dk_at dksX5_cut_4 10 rfl rfl)
theorem dX5_cut_104 : decode bcX5_cut 104 = .ok (.iand, 1) := dk_126 (dk_at dksX5_cut_4 11 rfl rfl)
theorem dX5_cut_105 : decode bcX5_cut 105 = .ok (.ifCond .ne 8, 3) := dk_154 0 8 (dk_at dksX5_cut_4 12 rfl rfl)
theorem dX5_cut_108 : decode bcX5_cut 108 = .ok (.iload 5, 2) := dk_21 5 (dk_at dksX5_cut_4 15 rfl rfl)
theorem dX5_cut_110 : decode bcX5_cut 110 = .ok (.goto 5, 3) := dk_167 0 5 (dk_at dksX5_cut_4 17 rfl rfl)
theorem dX5_cut_113 : decode bcX5_cut 113 = .ok (.iload 4, 2) := dk_21 4 (dk_at dksX5_cut_4 20 rfl rfl)
theorem dX5_cut_115 : decode bcX5_cut 115 = .ok (.istore 4, 2) := dk_54 4 (dk_at dksX5_cut_4 22 rfl rfl)
theorem dX5_cut_117 : decode bcX5_cut 117 = .ok (.iinc 5 1, 3) := dk_132 5 1 (dk_at dksX5_cut_5 0 rfl rfl)
theorem dX5_cut_120 : decode bcX5_cut 120 = .ok (.goto (-80), 3) := dk_167 255 176 (dk_at dksX5_cut_5 3 rfl rfl)
theorem dX5_cut_123 : decode bcX5_cut 123 = .ok (.iload 4, 2) := dk_21 4 (dk_at dksX5_cut_5 6 rfl rfl)
theorem dX5_cut_125 : decode bcX5_cut 125 = .ok (.ireturn, 1) := dk_172 (dk_at dksX5_cut_5 8 rfl rfl)
abbrev SX5_cut (pc : Nat) (i : xI) : Prop := Snd "SwollenHouseModel" "cut" prog_25_method_92_code 7 (Option.some Jvm.ClassFile.FieldType.int) [] pc i
theorem oX5_cut_0 : SX5_cut 0 (i_aload 0 1) := snd_aload_n dX5_cut_0 rfl
theorem oX5_cut_1 : SX5_cut 1 (i_const (.int (nI 0)) 2) := snd_iconst dX5_cut_1 (by decide)
theorem oX5_cut_2 : SX5_cut 2 (i_putfi 4 0 5) := snd_putfi dX5_cut_2 rfl (by decide) in_X5 tyX5 tyX5_ok nmX5 (Or.inl ⟨rfl, q1698⟩) (Or.inl rfl) rfl
theorem oX5_cut_5 : SX5_cut 5 (i_aload 0 6) := snd_aload_n dX5_cut_5 rfl
theorem oX5_cut_6 : SX5_cut 6 (i_iload 1 7) := snd_iload_n dX5_cut_6 rfl
theorem oX5_cut_7 : SX5_cut 7 (i_cv 4 319 1 10) := snd_cv rfl infX5_isRoom (by decide) rfl (xVm_V dX5_cut_7 rfl q2056 q2058 qs109 q136 q2059 pdX5_isRoom)
theorem oX5_cut_10 : SX5_cut 10 (i_if1 (fun x => x = 0) 26 13) := snd_if_eq dX5_cut_10 (by decide)
theorem oX5_cut_13 : SX5_cut 13 (i_aload 0 14) := snd_aload_n dX5_cut_13 rfl
theorem oX5_cut_14 : SX5_cut 14 (i_iload 2 15) := snd_iload_n dX5_cut_14 rfl
theorem oX5_cut_15 : SX5_cut 15 (i_cv 4 319 1 18) := snd_cv rfl infX5_isRoom (by decide) rfl (xVm_V dX5_cut_15 rfl q2056 q2058 qs109 q136 q2059 pdX5_isRoom)
theorem oX5_cut_18 : SX5_cut 18 (i_if1 (fun x => x = 0) 26 21) := snd_if_eq dX5_cut_18 (by decide)
theorem oX5_cut_21 : SX5_cut 21 (i_iload 1 22) := snd_iload_n dX5_cut_21 rfl
theorem oX5_cut_22 : SX5_cut 22 (i_iload 2 23) := snd_iload_n dX5_cut_22 rfl
theorem oX5_cut_23 : SX5_cut 23 (i_if2 (fun x y => ¬ x = y) 28 26) := snd_icmp_ne dX5_cut_23 (by decide)
theorem oX5_cut_26 : SX5_cut 26 (i_const (.int (-1)) 27) := snd_iconst dX5_cut_26 (by decide)
theorem oX5_cut_27 : SX5_cut 27 (i_iret) := snd_iret dX5_cut_27 rfl
theorem oX5_cut_28 : SX5_cut 28 (i_aload 0 29) := snd_aload_n dX5_cut_28 rfl
theorem oX5_cut_29 : SX5_cut 29 (i_const (.int (nI 0)) 30) := snd_iconst dX5_cut_29 (by decide)
theorem oX5_cut_30 : SX5_cut 30 (i_cv 4 321 1 33) := snd_cv rfl infX5_openNow (by decide) rfl (xVm_V dX5_cut_30 rfl q2064 q2066 qs111 q136 q2067 pdX5_openNow)
theorem oX5_cut_33 : SX5_cut 33 (i_istore 3 34) := snd_istore_n dX5_cut_33 rfl (by decide)
theorem oX5_cut_34 : SX5_cut 34 (i_const (.int (-1)) 35) := snd_iconst dX5_cut_34 (by decide)
theorem oX5_cut_35 : SX5_cut 35 (i_istore 4 37) := snd_istore dX5_cut_35 (by decide)
theorem oX5_cut_37 : SX5_cut 37 (i_const (.int (nI 0)) 38) := snd_iconst dX5_cut_37 (by decide)
theorem oX5_cut_38 : SX5_cut 38 (i_istore 5 40) := snd_istore dX5_cut_38 (by decide)
theorem oX5_cut_40 : SX5_cut 40 (i_iload 5 42) := snd_iload dX5_cut_40
theorem oX5_cut_42 : SX5_cut 42 (i_const (.int (nI 1)) 43) := snd_iconst dX5_cut_42 (by decide)
theorem oX5_cut_43 : SX5_cut 43 (i_aload 0 44) := snd_aload_n dX5_cut_43 rfl
theorem oX5_cut_44 : SX5_cut 44 (i_cv 4 250 0 47) := snd_cv rfl infX5_doors (by decide) rfl (xVm_V dX5_cut_44 rfl q1686 q1688 qs60 q136 q1689 pdX5_doors)
theorem oX5_cut_47 : SX5_cut 47 (i_ii (fun x y => x <<< (y &&& 31)) 48) := snd_ishl dX5_cut_47
theorem oX5_cut_48 : SX5_cut 48 (i_if2 (fun x y => y ≤ x) 123 51) := snd_icmp_ge dX5_cut_48 (by decide)
theorem oX5_cut_51 : SX5_cut 51 (i_iload 5 53) := snd_iload dX5_cut_51
theorem oX5_cut_53 : SX5_cut 53 (i_iload 3 54) := snd_iload_n dX5_cut_53 rfl
theorem oX5_cut_54 : SX5_cut 54 (i_const (.int (-1)) 55) := snd_iconst dX5_cut_54 (by decide)
theorem oX5_cut_55 : SX5_cut 55 (i_ii (fun x y => x ^^^ y) 56) := snd_ixor dX5_cut_55
theorem oX5_cut_56 : SX5_cut 56 (i_ii (fun x y => x &&& y) 57) := snd_iand dX5_cut_56
theorem oX5_cut_57 : SX5_cut 57 (i_if1 (fun x => ¬ x = 0) 82 60) := snd_if_ne dX5_cut_57 (by decide)
theorem oX5_cut_60 : SX5_cut 60 (i_iload 4 62) := snd_iload dX5_cut_60
theorem oX5_cut_62 : SX5_cut 62 (i_if1 (fun x => x < 0) 78 65) := snd_if_lt dX5_cut_62 (by decide)
theorem oX5_cut_65 : SX5_cut 65 (i_iload 5 67) := snd_iload dX5_cut_65
theorem oX5_cut_67 : SX5_cut 67 (i_cs 316 1 70) := snd_cs rfl infX5_bits (by decide) (xSm_S dX5_cut_67 q2045 q2046 q136 q2047 pdX5_bits)
theorem oX5_cut_70 : SX5_cut 70 (i_iload 4 72) := snd_iload dX5_cut_70
theorem oX5_cut_72 : SX5_cut 72 (i_cs 316 1 75) := snd_cs rfl infX5_bits (by decide) (xSm_S dX5_cut_72 q2045 q2046 q136 q2047 pdX5_bits)
theorem oX5_cut_75 : SX5_cut 75 (i_if2 (fun x y => y ≤ x) 82 78) := snd_icmp_ge dX5_cut_75 (by decide)
theorem oX5_cut_78 : SX5_cut 78 (i_const (.int (nI 1)) 79) := snd_iconst dX5_cut_78 (by decide)
theorem oX5_cut_79 : SX5_cut 79 (i_goto 83) := snd_goto dX5_cut_79 (by decide)
theorem oX5_cut_82 : SX5_cut 82 (i_const (.int (nI 0)) 83) := snd_iconst dX5_cut_82 (by decide)
theorem oX5_cut_83 : SX5_cut 83 (i_istore 6 85) := snd_istore dX5_cut_83 (by decide)
theorem oX5_cut_85 : SX5_cut 85 (i_iload 6 87) := snd_iload dX5_cut_85
theorem oX5_cut_87 : SX5_cut 87 (i_if1 (fun x => x = 0) 113 90) := snd_if_eq dX5_cut_87 (by decide)
theorem oX5_cut_90 : SX5_cut 90 (i_aload 0 91) := snd_aload_n dX5_cut_90 rfl
theorem oX5_cut_91 : SX5_cut 91 (i_iload 1 92) := snd_iload_n dX5_cut_91 rfl
theorem oX5_cut_92 : SX5_cut 92 (i_iload 3 93) := snd_iload_n dX5_cut_92 rfl
theorem oX5_cut_93 : SX5_cut 93 (i_iload 5 95) := snd_iload dX5_cut_93
theorem oX5_cut_95 : SX5_cut 95 (i_const (.int (-1)) 96) := snd_iconst dX5_cut_95 (by decide)
theorem oX5_cut_96 : SX5_cut 96 (i_ii (fun x y => x ^^^ y) 97) := snd_ixor dX5_cut_96
theorem oX5_cut_97 : SX5_cut 97 (i_ii (fun x y => x &&& y) 98) := snd_iand dX5_cut_97
theorem oX5_cut_98 : SX5_cut 98 (i_cv 4 322 2 101) := snd_cv rfl infX5_rangeBy (by decide) rfl (xVm_V dX5_cut_98 rfl q2068 q2070 qs112 q136 q2071 pdX5_rangeBy)
theorem oX5_cut_101 : SX5_cut 101 (i_iload 2 102) := snd_iload_n dX5_cut_101 rfl
theorem oX5_cut_102 : SX5_cut 102 (i_ii (fun x y => x >>> (y &&& 31)) 103) := snd_ishr dX5_cut_102
theorem oX5_cut_103 : SX5_cut 103 (i_const (.int (nI 1)) 104) := snd_iconst dX5_cut_103 (by decide)
theorem oX5_cut_104 : SX5_cut 104 (i_ii (fun x y => x &&& y) 105) := snd_iand dX5_cut_104
theorem oX5_cut_105 : SX5_cut 105 (i_if1 (fun x => ¬ x = 0) 113 108) := snd_if_ne dX5_cut_105 (by decide)
theorem oX5_cut_108 : SX5_cut 108 (i_iload 5 110) := snd_iload dX5_cut_108
theorem oX5_cut_110 : SX5_cut 110 (i_goto 115) := snd_goto dX5_cut_110 (by decide)
theorem oX5_cut_113 : SX5_cut 113 (i_iload 4 115) := snd_iload dX5_cut_113
theorem oX5_cut_115 : SX5_cut 115 (i_istore 4 117) := snd_istore dX5_cut_115 (by decide)
theorem oX5_cut_117 : SX5_cut 117 (i_iinc 5 (nI 1) 120) := snd_iinc dX5_cut_117 (by decide) (by decide)
theorem oX5_cut_120 : SX5_cut 120 (i_goto 40) := snd_goto dX5_cut_120 (by decide)
theorem oX5_cut_123 : SX5_cut 123 (i_iload 4 125) := snd_iload dX5_cut_123
theorem oX5_cut_125 : SX5_cut 125 (i_iret) := snd_iret dX5_cut_125 rfl
theorem okX5_cut : ∀ q ∈ cX5_cut, SX5_cut q.1 q.2 := List.forall_mem_cons.mpr ⟨oX5_cut_0, List.forall_mem_cons.mpr ⟨oX5_cut_1, List.forall_mem_cons.mpr ⟨oX5_cut_2, List.forall_mem_cons.mpr ⟨oX5_cut_5, List.forall_mem_cons.mpr ⟨oX5_cut_6, List.forall_mem_cons.mpr ⟨oX5_cut_7, List.forall_mem_cons.mpr ⟨oX5_cut_10, List.forall_mem_cons.mpr ⟨oX5_cut_13, List.forall_mem_cons.mpr ⟨oX5_cut_14, List.forall_mem_cons.mpr ⟨oX5_cut_15, List.forall_mem_cons.mpr ⟨oX5_cut_18, List.forall_mem_cons.mpr ⟨oX5_cut_21, List.forall_mem_cons.mpr ⟨oX5_cut_22, List.forall_mem_cons.mpr ⟨oX5_cut_23, List.forall_mem_cons.mpr ⟨oX5_cut_26, List.forall_mem_cons.mpr ⟨oX5_cut_27, List.forall_mem_cons.mpr ⟨oX5_cut_28, List.forall_mem_cons.mpr ⟨oX5_cut_29, List.forall_mem_cons.mpr ⟨oX5_cut_30, List.forall_mem_cons.mpr ⟨oX5_cut_33, List.forall_mem_cons.mpr ⟨oX5_cut_34, List.forall_mem_cons.mpr ⟨oX5_cut_35, List.forall_mem_cons.mpr ⟨oX5_cut_37, List.forall_mem_cons.mpr ⟨oX5_cut_38, List.forall_mem_cons.mpr ⟨oX5_cut_40, List.forall_mem_cons.mpr ⟨oX5_cut_42, List.forall_mem_cons.mpr ⟨oX5_cut_43, List.forall_mem_cons.mpr ⟨oX5_cut_44, List.forall_mem_cons.mpr ⟨oX5_cut_47, List.forall_mem_cons.mpr ⟨oX5_cut_48, List.forall_mem_cons.mpr ⟨oX5_cut_51, List.forall_mem_cons.mpr ⟨oX5_cut_53, List.forall_mem_cons.mpr ⟨oX5_cut_54, List.forall_mem_cons.mpr ⟨oX5_cut_55, List.forall_mem_cons.mpr ⟨oX5_cut_56, List.forall_mem_cons.mpr ⟨oX5_cut_57, List.forall_mem_cons.mpr ⟨oX5_cut_60, List.forall_mem_cons.mpr ⟨oX5_cut_62, List.forall_mem_cons.mpr ⟨oX5_cut_65, List.forall_mem_cons.mpr ⟨oX5_cut_67, List.forall_mem_cons.mpr ⟨oX5_cut_70, List.forall_mem_cons.mpr ⟨oX5_cut_72, List.forall_mem_cons.mpr ⟨oX5_cut_75, List.forall_mem_cons.mpr ⟨oX5_cut_78, List.forall_mem_cons.mpr ⟨oX5_cut_79, List.forall_mem_cons.mpr ⟨oX5_cut_82, List.forall_mem_cons.mpr ⟨oX5_cut_83, List.forall_mem_cons.mpr ⟨oX5_cut_85, List.forall_mem_cons.mpr ⟨oX5_cut_87, List.forall_mem_cons.mpr ⟨oX5_cut_90, List.forall_mem_cons.mpr ⟨oX5_cut_91, List.forall_mem_cons.mpr ⟨oX5_cut_92, List.forall_mem_cons.mpr ⟨oX5_cut_93, List.forall_mem_cons.mpr ⟨oX5_cut_95, List.forall_mem_cons.mpr ⟨oX5_cut_96, List.forall_mem_cons.mpr ⟨oX5_cut_97, List.forall_mem_cons.mpr ⟨oX5_cut_98, List.forall_mem_cons.mpr ⟨oX5_cut_101, List.forall_mem_cons.mpr ⟨oX5_cut_102, List.forall_mem_cons.mpr ⟨oX5_cut_103, List.forall_mem_cons.mpr ⟨oX5_cut_104, List.forall_mem_cons.mpr ⟨oX5_cut_105, List.forall_mem_cons.mpr ⟨oX5_cut_108, List.forall_mem_cons.mpr ⟨oX5_cut_110, List.forall_mem_cons.mpr ⟨oX5_cut_113, List.forall_mem_cons.mpr ⟨oX5_cut_115, List.forall_mem_cons.mpr ⟨oX5_cut_117, List.forall_mem_cons.mpr ⟨oX5_cut_120, List.forall_mem_cons.mpr ⟨oX5_cut_123, List.forall_mem_cons.mpr ⟨oX5_cut_125, fun _ h => absurd h List.not_mem_nil⟩⟩⟩⟩⟩⟩⟩⟩⟩⟩⟩⟩⟩⟩⟩⟩⟩⟩⟩⟩⟩⟩⟩⟩⟩⟩⟩⟩⟩⟩⟩⟩⟩⟩⟩⟩⟩⟩⟩⟩⟩⟩⟩⟩⟩⟩⟩⟩⟩⟩⟩⟩⟩⟩⟩⟩⟩⟩⟩⟩⟩⟩⟩⟩⟩⟩⟩⟩⟩⟩
def dkwX5_rattles_1 : List UInt8 := [16, 250, 163, 0, 9, 4, 28, 120, 167, 0, 4, 3, 128, 60, 132, 2, 1, 167, 255, 224, 27, 172]
abbrev dktX5_rattles_1 : List UInt8 := dkwX5_rattles_1 ++ []
def dkwX5_rattles_0 : List UInt8 := [42, 3, 181, 0, 1, 3, 60, 3, 61, 28, 42, 182, 1, 16, 162, 0, 30, 27, 42, 3, 28, 182, 1, 38]
abbrev dktX5_rattles_0 : List UInt8 := dkwX5_rattles_0 ++ dktX5_rattles_1
theorem dksX5_rattles_0 : bcX5_rattles.data.toList.drop 0 = dktX5_rattles_0 := by decide +kernel
theorem dksX5_rattles_1 : bcX5_rattles.data.toList.drop 24 = dktX5_rattles_1 := dk_seg dksX5_rattles_0 24 rfl rfl
theorem dX5_rattles_0 : decode bcX5_rattles 0 = .ok (.aload_n 0, 1) := dk_42 (dk_at dksX5_rattles_0 0 rfl rfl)
theorem dX5_rattles_1 : decode bcX5_rattles 1 = .ok (.iconst 0, 1) := dk_3 (dk_at dksX5_rattles_0 1 rfl rfl)
theorem dX5_rattles_2 : decode bcX5_rattles 2 = .ok (.putfield 1, 3) := dk_181 0 1 (dk_at dksX5_rattles_0 2 rfl rfl)
theorem dX5_rattles_5 : decode bcX5_rattles 5 = .ok (.iconst 0, 1) := dk_3 (dk_at dksX5_rattles_0 5 rfl rfl)
theorem dX5_rattles_6 : decode bcX5_rattles 6 = .ok (.istore_n 1, 1) := dk_60 (dk_at dksX5_rattles_0 6 rfl rfl)
theorem dX5_rattles_7 : decode bcX5_rattles 7 = .ok (.iconst 0, 1) := dk_3 (dk_at dksX5_rattles_0 7 rfl rfl)
theorem dX5_rattles_8 : decode bcX5_rattles 8 = .ok (.istore_n 2, 1) := dk_61 (dk_at dksX5_rattles_0 8 rfl rfl)
theorem dX5_rattles_9 : decode bcX5_rattles 9 = .ok (.iload_n 2, 1) := dk_28 (dk_at dksX5_rattles_0 9 rfl rfl)
theorem dX5_rattles_10 : decode bcX5_rattles 10 = .ok (.aload_n 0, 1) := dk_42 (dk_at dksX5_rattles_0 10 rfl rfl)
theorem dX5_rattles_11 : decode bcX5_rattles 11 = .ok (.invokevirtual 272, 3) := dk_182 1 16 (dk_at dksX5_rattles_0 11 rfl rfl)
theorem dX5_rattles_14 : decode bcX5_rattles 14 = .ok (.if_icmp .ge 30, 3) := dk_162 0 30 (dk_at dksX5_rattles_0 14 rfl rfl)
theorem dX5_rattles_17 : decode bcX5_rattles 17 = .ok (.iload_n 1, 1) := dk_27 (dk_at dksX5_rattles_0 17 rfl rfl)
theorem dX5_rattles_18 : decode bcX5_rattles 18 = .ok (.aload_n 0, 1) := dk_42 (dk_at dksX5_rattles_0 18 rfl rfl)
theorem dX5_rattles_19 : decode bcX5_rattles 19 = .ok (.iconst 0, 1) := dk_3 (dk_at dksX5_rattles_0 19 rfl rfl)
theorem dX5_rattles_20 : decode bcX5_rattles 20 = .ok (.iload_n 2, 1) := dk_28 (dk_at dksX5_rattles_0 20 rfl rfl)
theorem dX5_rattles_21 : decode bcX5_rattles 21 = .ok (.invokevirtual 294, 3) := dk_182 1 38 (dk_at dksX5_rattles_0 21 rfl rfl)
theorem dX5_rattles_24 : decode bcX5_rattles 24 = .ok (.bipush (-6), 2) := dk_16 250 (dk_at dksX5_rattles_1 0 rfl rfl)
theorem dX5_rattles_26 : decode bcX5_rattles 26 = .ok (.if_icmp .gt 9, 3) := dk_163 0 9 (dk_at dksX5_rattles_1 2 rfl rfl)
theorem dX5_rattles_29 : decode bcX5_rattles 29 = .ok (.iconst 1, 1) := dk_4 (dk_at dksX5_rattles_1 5 rfl rfl)
theorem dX5_rattles_30 : decode bcX5_rattles 30 = .ok (.iload_n 2, 1) := dk_28 (dk_at dksX5_rattles_1 6 rfl rfl)
theorem dX5_rattles_31 : decode bcX5_rattles 31 = .ok (.ishl, 1) := dk_120 (dk_at dksX5_rattles_1 7 rfl rfl)
theorem dX5_rattles_32 : decode bcX5_rattles 32 = .ok (.goto 4, 3) := dk_167 0 4 (dk_at dksX5_rattles_1 8 rfl rfl)
theorem dX5_rattles_35 : decode bcX5_rattles 35 = .ok (.iconst 0, 1) := dk_3 (dk_at dksX5_rattles_1 11 rfl rfl)
theorem dX5_rattles_36 : decode bcX5_rattles 36 = .ok (.ior, 1) := dk_128 (dk_at dksX5_rattles_1 12 rfl rfl)
theorem dX5_rattles_37 : decode bcX5_rattles 37 = .ok (.istore_n 1, 1) := dk_60 (dk_at dksX5_rattles_1 13 rfl rfl)
theorem dX5_rattles_38 : decode bcX5_rattles 38 = .ok (.iinc 2 1, 3) := dk_132 2 1 (dk_at dksX5_rattles_1 14 rfl rfl)
theorem dX5_rattles_41 : decode bcX5_rattles 41 = .ok (.goto (-32), 3) := dk_167 255 224 (dk_at dksX5_rattles_1 17 rfl rfl)
theorem dX5_rattles_44 : decode bcX5_rattles 44 = .ok (.iload_n 1, 1) := dk_27 (dk_at dksX5_rattles_1 20 rfl rfl)
theorem dX5_rattles_45 : decode bcX5_rattles 45 = .ok (.ireturn, 1) := dk_172 (dk_at dksX5_rattles_1 21 rfl rfl)
abbrev SX5_rattles (pc : Nat) (i : xI) : Prop := Snd "SwollenHouseModel" "rattles" prog_25_method_93_code 3 (Option.some Jvm.ClassFile.FieldType.int) [] pc i
theorem oX5_rattles_0 : SX5_rattles 0 (i_aload 0 1) := snd_aload_n dX5_rattles_0 rfl
theorem oX5_rattles_1 : SX5_rattles 1 (i_const (.int (nI 0)) 2) := snd_iconst dX5_rattles_1 (by decide)
theorem oX5_rattles_2 : SX5_rattles 2 (i_putfi 4 0 5) := snd_putfi dX5_rattles_2 rfl (by decide) in_X5 tyX5 tyX5_ok nmX5 (Or.inl ⟨rfl, q1698⟩) (Or.inl rfl) rfl
theorem oX5_rattles_5 : SX5_rattles 5 (i_const (.int (nI 0)) 6) := snd_iconst dX5_rattles_5 (by decide)
theorem oX5_rattles_6 : SX5_rattles 6 (i_istore 1 7) := snd_istore_n dX5_rattles_6 rfl (by decide)
theorem oX5_rattles_7 : SX5_rattles 7 (i_const (.int (nI 0)) 8) := snd_iconst dX5_rattles_7 (by decide)
theorem oX5_rattles_8 : SX5_rattles 8 (i_istore 2 9) := snd_istore_n dX5_rattles_8 rfl (by decide)
theorem oX5_rattles_9 : SX5_rattles 9 (i_iload 2 10) := snd_iload_n dX5_rattles_9 rfl
theorem oX5_rattles_10 : SX5_rattles 10 (i_aload 0 11) := snd_aload_n dX5_rattles_10 rfl
theorem oX5_rattles_11 : SX5_rattles 11 (i_cv 4 250 0 14) := snd_cv rfl infX5_doors (by decide) rfl (xVm_V dX5_rattles_11 rfl q1686 q1688 qs60 q136 q1689 pdX5_doors)
theorem oX5_rattles_14 : SX5_rattles 14 (i_if2 (fun x y => y ≤ x) 44 17) := snd_icmp_ge dX5_rattles_14 (by decide)
theorem oX5_rattles_17 : SX5_rattles 17 (i_iload 1 18) := snd_iload_n dX5_rattles_17 rfl
theorem oX5_rattles_18 : SX5_rattles 18 (i_aload 0 19) := snd_aload_n dX5_rattles_18 rfl
theorem oX5_rattles_19 : SX5_rattles 19 (i_const (.int (nI 0)) 20) := snd_iconst dX5_rattles_19 (by decide)
theorem oX5_rattles_20 : SX5_rattles 20 (i_iload 2 21) := snd_iload_n dX5_rattles_20 rfl
theorem oX5_rattles_21 : SX5_rattles 21 (i_cv 4 290 2 24) := snd_cv rfl infX5_overOf (by decide) rfl (xVm_V dX5_rattles_21 rfl q1942 q1944 qs92 q136 q1945 pdX5_overOf)
theorem oX5_rattles_24 : SX5_rattles 24 (i_const (.int (-6)) 26) := snd_bipush dX5_rattles_24 (by decide)
theorem oX5_rattles_26 : SX5_rattles 26 (i_if2 (fun x y => y < x) 35 29) := snd_icmp_gt dX5_rattles_26 (by decide)
theorem oX5_rattles_29 : SX5_rattles 29 (i_const (.int (nI 1)) 30) := snd_iconst dX5_rattles_29 (by decide)
theorem oX5_rattles_30 : SX5_rattles 30 (i_iload 2 31) := snd_iload_n dX5_rattles_30 rfl
theorem oX5_rattles_31 : SX5_rattles 31 (i_ii (fun x y => x <<< (y &&& 31)) 32) := snd_ishl dX5_rattles_31
theorem oX5_rattles_32 : SX5_rattles 32 (i_goto 36) := snd_goto dX5_rattles_32 (by decide)
theorem oX5_rattles_35 : SX5_rattles 35 (i_const (.int (nI 0)) 36) := snd_iconst dX5_rattles_35 (by decide)
theorem oX5_rattles_36 : SX5_rattles 36 (i_ii (fun x y => x ||| y) 37) := snd_ior dX5_rattles_36
theorem oX5_rattles_37 : SX5_rattles 37 (i_istore 1 38) := snd_istore_n dX5_rattles_37 rfl (by decide)
theorem oX5_rattles_38 : SX5_rattles 38 (i_iinc 2 (nI 1) 41) := snd_iinc dX5_rattles_38 (by decide) (by decide)
theorem oX5_rattles_41 : SX5_rattles 41 (i_goto 9) := snd_goto dX5_rattles_41 (by decide)
theorem oX5_rattles_44 : SX5_rattles 44 (i_iload 1 45) := snd_iload_n dX5_rattles_44 rfl
theorem oX5_rattles_45 : SX5_rattles 45 (i_iret) := snd_iret dX5_rattles_45 rfl
theorem okX5_rattles : ∀ q ∈ cX5_rattles, SX5_rattles q.1 q.2 := List.forall_mem_cons.mpr ⟨oX5_rattles_0, List.forall_mem_cons.mpr ⟨oX5_rattles_1, List.forall_mem_cons.mpr ⟨oX5_rattles_2, List.forall_mem_cons.mpr ⟨oX5_rattles_5, List.forall_mem_cons.mpr ⟨oX5_rattles_6, List.forall_mem_cons.mpr ⟨oX5_rattles_7, List.forall_mem_cons.mpr ⟨oX5_rattles_8, List.forall_mem_cons.mpr ⟨oX5_rattles_9, List.forall_mem_cons.mpr ⟨oX5_rattles_10, List.forall_mem_cons.mpr ⟨oX5_rattles_11, List.forall_mem_cons.mpr ⟨oX5_rattles_14, List.forall_mem_cons.mpr ⟨oX5_rattles_17, List.forall_mem_cons.mpr ⟨oX5_rattles_18, List.forall_mem_cons.mpr ⟨oX5_rattles_19, List.forall_mem_cons.mpr ⟨oX5_rattles_20, List.forall_mem_cons.mpr ⟨oX5_rattles_21, List.forall_mem_cons.mpr ⟨oX5_rattles_24, List.forall_mem_cons.mpr ⟨oX5_rattles_26, List.forall_mem_cons.mpr ⟨oX5_rattles_29, List.forall_mem_cons.mpr ⟨oX5_rattles_30, List.forall_mem_cons.mpr ⟨oX5_rattles_31, List.forall_mem_cons.mpr ⟨oX5_rattles_32, List.forall_mem_cons.mpr ⟨oX5_rattles_35, List.forall_mem_cons.mpr ⟨oX5_rattles_36, List.forall_mem_cons.mpr ⟨oX5_rattles_37, List.forall_mem_cons.mpr ⟨oX5_rattles_38, List.forall_mem_cons.mpr ⟨oX5_rattles_41, List.forall_mem_cons.mpr ⟨oX5_rattles_44, List.forall_mem_cons.mpr ⟨oX5_rattles_45, fun _ h => absurd h List.not_mem_nil⟩⟩⟩⟩⟩⟩⟩⟩⟩⟩⟩⟩⟩⟩⟩⟩⟩⟩⟩⟩⟩⟩⟩⟩⟩⟩⟩⟩⟩
def dkwX5_worst_3 : List UInt8 := [167, 0, 4, 28, 61, 132, 3, 1, 167, 255, 192, 27, 172]
abbrev dktX5_worst_3 : List UInt8 := dkwX5_worst_3 ++ []
def dkwX5_worst_2 : List UInt8 := [21, 4, 153, 0, 7, 29, 167, 0, 4, 27, 60, 21, 4, 153, 0, 12, 42, 3, 29, 182, 1, 38]
abbrev dktX5_worst_2 : List UInt8 := dkwX5_worst_2 ++ dktX5_worst_3
def dkwX5_worst_1 : List UInt8 := [182, 1, 45, 153, 0, 17, 42, 3, 29, 182, 1, 38, 28, 164, 0, 7, 4, 167, 0, 4, 3, 54, 4]
abbrev dktX5_worst_1 : List UInt8 := dkwX5_worst_1 ++ dktX5_worst_2
def dkwX5_worst_0 : List UInt8 := [42, 3, 181, 0, 1, 2, 60, 3, 61, 3, 62, 29, 42, 182, 1, 16, 162, 0, 62, 42, 3, 29]
abbrev dktX5_worst_0 : List UInt8 := dkwX5_worst_0 ++ dktX5_worst_1
theorem dksX5_worst_0 : bcX5_worst.data.toList.drop 0 = dktX5_worst_0 := by decide +kernel
theorem dksX5_worst_1 : bcX5_worst.data.toList.drop 22 = dktX5_worst_1 := dk_seg dksX5_worst_0 22 rfl rfl
theorem dksX5_worst_2 : bcX5_worst.data.toList.drop 45 = dktX5_worst_2 := dk_seg dksX5_worst_1 23 rfl rfl
theorem dksX5_worst_3 : bcX5_worst.data.toList.drop 67 = dktX5_worst_3 := dk_seg dksX5_worst_2 22 rfl rfl
theorem dX5_worst_0 : decode bcX5_worst 0 = .ok (.aload_n 0, 1) := dk_42 (dk_at dksX5_worst_0 0 rfl rfl)
theorem dX5_worst_1 : decode bcX5_worst 1 = .ok (.iconst 0, 1) := dk_3 (dk_at dksX5_worst_0 1 rfl rfl)
theorem dX5_worst_2 : decode bcX5_worst 2 = .ok (.putfield 1, 3) := dk_181 0 1 (dk_at dksX5_worst_0 2 rfl rfl)
theorem dX5_worst_5 : decode bcX5_worst 5 = .ok (.iconst (-1), 1) := dk_2 (dk_at dksX5_worst_0 5 rfl rfl)
theorem dX5_worst_6 : decode bcX5_worst 6 = .ok (.istore_n 1, 1) := dk_60 (dk_at dksX5_worst_0 6 rfl rfl)
theorem dX5_worst_7 : decode bcX5_worst 7 = .ok (.iconst 0, 1) := dk_3 (dk_at dksX5_worst_0 7 rfl rfl)
theorem dX5_worst_8 : decode bcX5_worst 8 = .ok (.istore_n 2, 1) := dk_61 (dk_at dksX5_worst_0 8 rfl rfl)
theorem dX5_worst_9 : decode bcX5_worst 9 = .ok (.iconst 0, 1) := dk_3 (dk_at dksX5_worst_0 9 rfl rfl)
theorem dX5_worst_10 : decode bcX5_worst 10 = .ok (.istore_n 3, 1) := dk_62 (dk_at dksX5_worst_0 10 rfl rfl)
theorem dX5_worst_11 : decode bcX5_worst 11 = .ok (.iload_n 3, 1) := dk_29 (dk_at dksX5_worst_0 11 rfl rfl)
theorem dX5_worst_12 : decode bcX5_worst 12 = .ok (.aload_n 0, 1) := dk_42 (dk_at dksX5_worst_0 12 rfl rfl)
theorem dX5_worst_13 : decode bcX5_worst 13 = .ok (.invokevirtual 272, 3) := dk_182 1 16 (dk_at dksX5_worst_0 13 rfl rfl)
theorem dX5_worst_16 : decode bcX5_worst 16 = .ok (.if_icmp .ge 62, 3) := dk_162 0 62 (dk_at dksX5_worst_0 16 rfl rfl)
theorem dX5_worst_19 : decode bcX5_worst 19 = .ok (.aload_n 0, 1) := dk_42 (dk_at dksX5_worst_0 19 rfl rfl)
theorem dX5_worst_20 : decode bcX5_worst 20 = .ok (.iconst 0, 1) := dk_3 (dk_at dksX5_worst_0 20 rfl rfl)
theorem dX5_worst_21 : decode bcX5_worst 21 = .ok (.iload_n 3, 1) := dk_29 (dk_at dksX5_worst_0 21 rfl rfl)
theorem dX5_worst_22 : decode bcX5_worst 22 = .ok (.invokevirtual 301, 3) := dk_182 1 45 (dk_at dksX5_worst_1 0 rfl rfl)
theorem dX5_worst_25 : decode bcX5_worst 25 = .ok (.ifCond .eq 17, 3) := dk_153 0 17 (dk_at dksX5_worst_1 3 rfl rfl)
theorem dX5_worst_28 : decode bcX5_worst 28 = .ok (.aload_n 0, 1) := dk_42 (dk_at dksX5_worst_1 6 rfl rfl)
theorem dX5_worst_29 : decode bcX5_worst 29 = .ok (.iconst 0, 1) := dk_3 (dk_at dksX5_worst_1 7 rfl rfl)
theorem dX5_worst_30 : decode bcX5_worst 30 = .ok (.iload_n 3, 1) := dk_29 (dk_at dksX5_worst_1 8 rfl rfl)
theorem dX5_worst_31 : decode bcX5_worst 31 = .ok (.invokevirtual 294, 3) := dk_182 1 38 (dk_at dksX5_worst_1 9 rfl rfl)
theorem dX5_worst_34 : decode bcX5_worst 34 = .ok (.iload_n 2, 1) := dk_28 (dk_at dksX5_worst_1 12 rfl rfl)
theorem dX5_worst_35 : decode bcX5_worst 35 = .ok (.if_icmp .le 7, 3) := dk_164 0 7 (dk_at dksX5_worst_1 13 rfl rfl)
theorem dX5_worst_38 : decode bcX5_worst 38 = .ok (.iconst 1, 1) := dk_4 (dk_at dksX5_worst_1 16 rfl rfl)
theorem dX5_worst_39 : decode bcX5_worst 39 = .ok (.goto 4, 3) := dk_167 0 4 (dk_at dksX5_worst_1 17 rfl rfl)
theorem dX5_worst_42 : decode bcX5_worst 42 = .ok (.iconst 0, 1) := dk_3 (dk_at dksX5_worst_1 20 rfl rfl)
theorem dX5_worst_43 : decode bcX5_worst 43 = .ok (.istore 4, 2) := dk_54 4 (dk_at dksX5_worst_1 21 rfl rfl)
theorem dX5_worst_45 : decode bcX5_worst 45 = .ok (.iload 4, 2) := dk_21 4 (dk_at dksX5_worst_2 0 rfl rfl)
theorem dX5_worst_47 : decode bcX5_worst 47 = .ok (.ifCond .eq 7, 3) := dk_153 0 7 (dk_at dksX5_worst_2 2 rfl rfl)
theorem dX5_worst_50 : decode bcX5_worst 50 = .ok (.iload_n 3, 1) := dk_29 (dk_at dksX5_worst_2 5 rfl rfl)
theorem dX5_worst_51 : decode bcX5_worst 51 = .ok (.goto 4, 3) := dk_167 0 4 (dk_at dksX5_worst_2 6 rfl rfl)
theorem dX5_worst_54 : decode bcX5_worst 54 = .ok (.iload_n 1, 1) := dk_27 (dk_at dksX5_worst_2 9 rfl rfl)
theorem dX5_worst_55 : decode bcX5_worst 55 = .ok (.istore_n 1, 1) := dk_60 (dk_at dksX5_worst_2 10 rfl rfl)
theorem dX5_worst_56 : decode bcX5_worst 56 = .ok (.iload 4, 2) := dk_21 4 (dk_at dksX5_worst_2 11 rfl rfl)
theorem dX5_worst_58 : decode bcX5_worst 58 = .ok (.ifCond .eq 12, 3) := dk_153 0 12 (dk_at dksX5_worst_2 13 rfl rfl)
theorem dX5_worst_61 : decode bcX5_worst 61 = .ok (.aload_n 0, 1) := dk_42 (dk_at dksX5_worst_2 16 rfl rfl)
theorem dX5_worst_62 : decode bcX5_worst 62 = .ok (.iconst 0, 1) := dk_3 (dk_at dksX5_worst_2 17 rfl rfl)
theorem dX5_worst_63 : decode bcX5_worst 63 = .ok (.iload_n 3, 1) := dk_29 (dk_at dksX5_worst_2 18 rfl rfl)
theorem dX5_worst_64 : decode bcX5_worst 64 = .ok (.invokevirtual 294, 3) := dk_182 1 38 (dk_at dksX5_worst_2 19 rfl rfl)
theorem dX5_worst_67 : decode bcX5_worst 67 = .ok (.goto 4, 3) := dk_167 0 4 (dk_at dksX5_worst_3 0 rfl rfl)
theorem dX5_worst_70 : decode bcX5_worst 70 = .ok (.iload_n 2, 1) := dk_28 (dk_at dksX5_worst_3 3 rfl rfl)
theorem dX5_worst_71 : decode bcX5_worst 71 = .ok (.istore_n 2, 1) := dk_61 (dk_at dksX5_worst_3 4 rfl rfl)
theorem dX5_worst_72 : decode bcX5_worst 72 = .ok (.iinc 3 1, 3) := dk_132 3 1 (dk_at dksX5_worst_3 5 rfl rfl)
theorem dX5_worst_75 : decode bcX5_worst 75 = .ok (.goto (-64), 3) := dk_167 255 192 (dk_at dksX5_worst_3 8 rfl rfl)
theorem dX5_worst_78 : decode bcX5_worst 78 = .ok (.iload_n 1, 1) := dk_27 (dk_at dksX5_worst_3 11 rfl rfl)
theorem dX5_worst_79 : decode bcX5_worst 79 = .ok (.ireturn, 1) := dk_172 (dk_at dksX5_worst_3 12 rfl rfl)
abbrev SX5_worst (pc : Nat) (i : xI) : Prop := Snd "SwollenHouseModel" "worst" prog_25_method_94_code 5 (Option.some Jvm.ClassFile.FieldType.int) [] pc i
theorem oX5_worst_0 : SX5_worst 0 (i_aload 0 1) := snd_aload_n dX5_worst_0 rfl
theorem oX5_worst_1 : SX5_worst 1 (i_const (.int (nI 0)) 2) := snd_iconst dX5_worst_1 (by decide)
theorem oX5_worst_2 : SX5_worst 2 (i_putfi 4 0 5) := snd_putfi dX5_worst_2 rfl (by decide) in_X5 tyX5 tyX5_ok nmX5 (Or.inl ⟨rfl, q1698⟩) (Or.inl rfl) rfl
theorem oX5_worst_5 : SX5_worst 5 (i_const (.int (-1)) 6) := snd_iconst dX5_worst_5 (by decide)
theorem oX5_worst_6 : SX5_worst 6 (i_istore 1 7) := snd_istore_n dX5_worst_6 rfl (by decide)
theorem oX5_worst_7 : SX5_worst 7 (i_const (.int (nI 0)) 8) := snd_iconst dX5_worst_7 (by decide)
theorem oX5_worst_8 : SX5_worst 8 (i_istore 2 9) := snd_istore_n dX5_worst_8 rfl (by decide)
theorem oX5_worst_9 : SX5_worst 9 (i_const (.int (nI 0)) 10) := snd_iconst dX5_worst_9 (by decide)
theorem oX5_worst_10 : SX5_worst 10 (i_istore 3 11) := snd_istore_n dX5_worst_10 rfl (by decide)
theorem oX5_worst_11 : SX5_worst 11 (i_iload 3 12) := snd_iload_n dX5_worst_11 rfl
theorem oX5_worst_12 : SX5_worst 12 (i_aload 0 13) := snd_aload_n dX5_worst_12 rfl
theorem oX5_worst_13 : SX5_worst 13 (i_cv 4 250 0 16) := snd_cv rfl infX5_doors (by decide) rfl (xVm_V dX5_worst_13 rfl q1686 q1688 qs60 q136 q1689 pdX5_doors)
theorem oX5_worst_16 : SX5_worst 16 (i_if2 (fun x y => y ≤ x) 78 19) := snd_icmp_ge dX5_worst_16 (by decide)
theorem oX5_worst_19 : SX5_worst 19 (i_aload 0 20) := snd_aload_n dX5_worst_19 rfl
theorem oX5_worst_20 : SX5_worst 20 (i_const (.int (nI 0)) 21) := snd_iconst dX5_worst_20 (by decide)
theorem oX5_worst_21 : SX5_worst 21 (i_iload 3 22) := snd_iload_n dX5_worst_21 rfl
theorem oX5_worst_22 : SX5_worst 22 (i_cv 4 289 2 25) := snd_cv rfl infX5_doesStick (by decide) rfl (xVm_V dX5_worst_22 rfl q1938 q1940 qs91 q136 q1941 pdX5_doesStick)
theorem oX5_worst_25 : SX5_worst 25 (i_if1 (fun x => x = 0) 42 28) := snd_if_eq dX5_worst_25 (by decide)
theorem oX5_worst_28 : SX5_worst 28 (i_aload 0 29) := snd_aload_n dX5_worst_28 rfl
theorem oX5_worst_29 : SX5_worst 29 (i_const (.int (nI 0)) 30) := snd_iconst dX5_worst_29 (by decide)
theorem oX5_worst_30 : SX5_worst 30 (i_iload 3 31) := snd_iload_n dX5_worst_30 rfl
theorem oX5_worst_31 : SX5_worst 31 (i_cv 4 290 2 34) := snd_cv rfl infX5_overOf (by decide) rfl (xVm_V dX5_worst_31 rfl q1942 q1944 qs92 q136 q1945 pdX5_overOf)
theorem oX5_worst_34 : SX5_worst 34 (i_iload 2 35) := snd_iload_n dX5_worst_34 rfl
theorem oX5_worst_35 : SX5_worst 35 (i_if2 (fun x y => x ≤ y) 42 38) := snd_icmp_le dX5_worst_35 (by decide)
theorem oX5_worst_38 : SX5_worst 38 (i_const (.int (nI 1)) 39) := snd_iconst dX5_worst_38 (by decide)
theorem oX5_worst_39 : SX5_worst 39 (i_goto 43) := snd_goto dX5_worst_39 (by decide)
theorem oX5_worst_42 : SX5_worst 42 (i_const (.int (nI 0)) 43) := snd_iconst dX5_worst_42 (by decide)
theorem oX5_worst_43 : SX5_worst 43 (i_istore 4 45) := snd_istore dX5_worst_43 (by decide)
theorem oX5_worst_45 : SX5_worst 45 (i_iload 4 47) := snd_iload dX5_worst_45
theorem oX5_worst_47 : SX5_worst 47 (i_if1 (fun x => x = 0) 54 50) := snd_if_eq dX5_worst_47 (by decide)
theorem oX5_worst_50 : SX5_worst 50 (i_iload 3 51) := snd_iload_n dX5_worst_50 rfl
theorem oX5_worst_51 : SX5_worst 51 (i_goto 55) := snd_goto dX5_worst_51 (by decide)
theorem oX5_worst_54 : SX5_worst 54 (i_iload 1 55) := snd_iload_n dX5_worst_54 rfl
theorem oX5_worst_55 : SX5_worst 55 (i_istore 1 56) := snd_istore_n dX5_worst_55 rfl (by decide)
theorem oX5_worst_56 : SX5_worst 56 (i_iload 4 58) := snd_iload dX5_worst_56
theorem oX5_worst_58 : SX5_worst 58 (i_if1 (fun x => x = 0) 70 61) := snd_if_eq dX5_worst_58 (by decide)
theorem oX5_worst_61 : SX5_worst 61 (i_aload 0 62) := snd_aload_n dX5_worst_61 rfl
theorem oX5_worst_62 : SX5_worst 62 (i_const (.int (nI 0)) 63) := snd_iconst dX5_worst_62 (by decide)
theorem oX5_worst_63 : SX5_worst 63 (i_iload 3 64) := snd_iload_n dX5_worst_63 rfl
theorem oX5_worst_64 : SX5_worst 64 (i_cv 4 290 2 67) := snd_cv rfl infX5_overOf (by decide) rfl (xVm_V dX5_worst_64 rfl q1942 q1944 qs92 q136 q1945 pdX5_overOf)
theorem oX5_worst_67 : SX5_worst 67 (i_goto 71) := snd_goto dX5_worst_67 (by decide)
theorem oX5_worst_70 : SX5_worst 70 (i_iload 2 71) := snd_iload_n dX5_worst_70 rfl
theorem oX5_worst_71 : SX5_worst 71 (i_istore 2 72) := snd_istore_n dX5_worst_71 rfl (by decide)
theorem oX5_worst_72 : SX5_worst 72 (i_iinc 3 (nI 1) 75) := snd_iinc dX5_worst_72 (by decide) (by decide)
theorem oX5_worst_75 : SX5_worst 75 (i_goto 11) := snd_goto dX5_worst_75 (by decide)
theorem oX5_worst_78 : SX5_worst 78 (i_iload 1 79) := snd_iload_n dX5_worst_78 rfl
theorem oX5_worst_79 : SX5_worst 79 (i_iret) := snd_iret dX5_worst_79 rfl
theorem okX5_worst : ∀ q ∈ cX5_worst, SX5_worst q.1 q.2 := List.forall_mem_cons.mpr ⟨oX5_worst_0, List.forall_mem_cons.mpr ⟨oX5_worst_1, List.forall_mem_cons.mpr ⟨oX5_worst_2, List.forall_mem_cons.mpr ⟨oX5_worst_5, List.forall_mem_cons.mpr ⟨oX5_worst_6, List.forall_mem_cons.mpr ⟨oX5_worst_7, List.forall_mem_cons.mpr ⟨oX5_worst_8, List.forall_mem_cons.mpr ⟨oX5_worst_9, List.forall_mem_cons.mpr ⟨oX5_worst_10, List.forall_mem_cons.mpr ⟨oX5_worst_11, List.forall_mem_cons.mpr ⟨oX5_worst_12, List.forall_mem_cons.mpr ⟨oX5_worst_13, List.forall_mem_cons.mpr ⟨oX5_worst_16, List.forall_mem_cons.mpr ⟨oX5_worst_19, List.forall_mem_cons.mpr ⟨oX5_worst_20, List.forall_mem_cons.mpr ⟨oX5_worst_21, List.forall_mem_cons.mpr ⟨oX5_worst_22, List.forall_mem_cons.mpr ⟨oX5_worst_25, List.forall_mem_cons.mpr ⟨oX5_worst_28, List.forall_mem_cons.mpr ⟨oX5_worst_29, List.forall_mem_cons.mpr ⟨oX5_worst_30, List.forall_mem_cons.mpr ⟨oX5_worst_31, List.forall_mem_cons.mpr ⟨oX5_worst_34, List.forall_mem_cons.mpr ⟨oX5_worst_35, List.forall_mem_cons.mpr ⟨oX5_worst_38, List.forall_mem_cons.mpr ⟨oX5_worst_39, List.forall_mem_cons.mpr ⟨oX5_worst_42, List.forall_mem_cons.mpr ⟨oX5_worst_43, List.forall_mem_cons.mpr ⟨oX5_worst_45, List.forall_mem_cons.mpr ⟨oX5_worst_47, List.forall_mem_cons.mpr ⟨oX5_worst_50, List.forall_mem_cons.mpr ⟨oX5_worst_51, List.forall_mem_cons.mpr ⟨oX5_worst_54, List.forall_mem_cons.mpr ⟨oX5_worst_55, List.forall_mem_cons.mpr ⟨oX5_worst_56, List.forall_mem_cons.mpr ⟨oX5_worst_58, List.forall_mem_cons.mpr ⟨oX5_worst_61, List.forall_mem_cons.mpr ⟨oX5_worst_62, List.forall_mem_cons.mpr ⟨oX5_worst_63, List.forall_mem_cons.mpr ⟨oX5_worst_64, List.forall_mem_cons.mpr ⟨oX5_worst_67, List.forall_mem_cons.mpr ⟨oX5_worst_70, List.forall_mem_cons.mpr ⟨oX5_worst_71, List.forall_mem_cons.mpr ⟨oX5_worst_72, List.forall_mem_cons.mpr ⟨oX5_worst_75, List.forall_mem_cons.mpr ⟨oX5_worst_78, List.forall_mem_cons.mpr ⟨oX5_worst_79, fun _ h => absurd h List.not_mem_nil⟩⟩⟩⟩⟩⟩⟩⟩⟩⟩⟩⟩⟩⟩⟩⟩⟩⟩⟩⟩⟩⟩⟩⟩⟩⟩⟩⟩⟩⟩⟩⟩⟩⟩⟩⟩⟩⟩⟩⟩⟩⟩⟩⟩⟩⟩⟩
def dkwX5_later_2 : List UInt8 := [167, 255, 241, 42, 180, 0, 113, 17, 5, 95, 27, 96, 46, 172]
abbrev dktX5_later_2 : List UInt8 := dkwX5_later_2 ++ []
def dkwX5_later_1 : List UInt8 := [172, 42, 182, 1, 116, 3, 62, 29, 28, 162, 0, 16, 42, 17, 5, 85, 182, 1, 72, 132, 3, 1]
abbrev dktX5_later_1 : List UInt8 := dkwX5_later_1 ++ dktX5_later_2
def dkwX5_later_0 : List UInt8 := [42, 3, 181, 0, 1, 42, 27, 182, 1, 63, 153, 0, 13, 28, 3, 16, 60, 184, 0, 204, 154, 0, 5, 2]
abbrev dktX5_later_0 : List UInt8 := dkwX5_later_0 ++ dktX5_later_1
theorem dksX5_later_0 : bcX5_later.data.toList.drop 0 = dktX5_later_0 := by decide +kernel
theorem dksX5_later_1 : bcX5_later.data.toList.drop 24 = dktX5_later_1 := dk_seg dksX5_later_0 24 rfl rfl
theorem dksX5_later_2 : bcX5_later.data.toList.drop 46 = dktX5_later_2 := dk_seg dksX5_later_1 22 rfl rfl
theorem dX5_later_0 : decode bcX5_later 0 = .ok (.aload_n 0, 1) := dk_42 (dk_at dksX5_later_0 0 rfl rfl)
theorem dX5_later_1 : decode bcX5_later 1 = .ok (.iconst 0, 1) := dk_3 (dk_at dksX5_later_0 1 rfl rfl)
theorem dX5_later_2 : decode bcX5_later 2 = .ok (.putfield 1, 3) := dk_181 0 1 (dk_at dksX5_later_0 2 rfl rfl)
theorem dX5_later_5 : decode bcX5_later 5 = .ok (.aload_n 0, 1) := dk_42 (dk_at dksX5_later_0 5 rfl rfl)
theorem dX5_later_6 : decode bcX5_later 6 = .ok (.iload_n 1, 1) := dk_27 (dk_at dksX5_later_0 6 rfl rfl)
theorem dX5_later_7 : decode bcX5_later 7 = .ok (.invokevirtual 319, 3) := dk_182 1 63 (dk_at dksX5_later_0 7 rfl rfl)
theorem dX5_later_10 : decode bcX5_later 10 = .ok (.ifCond .eq 13, 3) := dk_153 0 13 (dk_at dksX5_later_0 10 rfl rfl)
theorem dX5_later_13 : decode bcX5_later 13 = .ok (.iload_n 2, 1) := dk_28 (dk_at dksX5_later_0 13 rfl rfl)
theorem dX5_later_14 : decode bcX5_later 14 = .ok (.iconst 0, 1) := dk_3 (dk_at dksX5_later_0 14 rfl rfl)
theorem dX5_later_15 : decode bcX5_later 15 = .ok (.bipush 60, 2) := dk_16 60 (dk_at dksX5_later_0 15 rfl rfl)
theorem dX5_later_17 : decode bcX5_later 17 = .ok (.invokestatic 204, 3) := dk_184 0 204 (dk_at dksX5_later_0 17 rfl rfl)
theorem dX5_later_20 : decode bcX5_later 20 = .ok (.ifCond .ne 5, 3) := dk_154 0 5 (dk_at dksX5_later_0 20 rfl rfl)
theorem dX5_later_23 : decode bcX5_later 23 = .ok (.iconst (-1), 1) := dk_2 (dk_at dksX5_later_0 23 rfl rfl)
theorem dX5_later_24 : decode bcX5_later 24 = .ok (.ireturn, 1) := dk_172 (dk_at dksX5_later_1 0 rfl rfl)
theorem dX5_later_25 : decode bcX5_later 25 = .ok (.aload_n 0, 1) := dk_42 (dk_at dksX5_later_1 1 rfl rfl)
theorem dX5_later_26 : decode bcX5_later 26 = .ok (.invokevirtual 372, 3) := dk_182 1 116 (dk_at dksX5_later_1 2 rfl rfl)
theorem dX5_later_29 : decode bcX5_later 29 = .ok (.iconst 0, 1) := dk_3 (dk_at dksX5_later_1 5 rfl rfl)
theorem dX5_later_30 : decode bcX5_later 30 = .ok (.istore_n 3, 1) := dk_62 (dk_at dksX5_later_1 6 rfl rfl)
theorem dX5_later_31 : decode bcX5_later 31 = .ok (.iload_n 3, 1) := dk_29 (dk_at dksX5_later_1 7 rfl rfl)
theorem dX5_later_32 : decode bcX5_later 32 = .ok (.iload_n 2, 1) := dk_28 (dk_at dksX5_later_1 8 rfl rfl)
theorem dX5_later_33 : decode bcX5_later 33 = .ok (.if_icmp .ge 16, 3) := dk_162 0 16 (dk_at dksX5_later_1 9 rfl rfl)
theorem dX5_later_36 : decode bcX5_later 36 = .ok (.aload_n 0, 1) := dk_42 (dk_at dksX5_later_1 12 rfl rfl)
theorem dX5_later_37 : decode bcX5_later 37 = .ok (.sipush 1365, 3) := dk_17 5 85 (dk_at dksX5_later_1 13 rfl rfl)
theorem dX5_later_40 : decode bcX5_later 40 = .ok (.invokevirtual 328, 3) := dk_182 1 72 (dk_at dksX5_later_1 16 rfl rfl)
theorem dX5_later_43 : decode bcX5_later 43 = .ok (.iinc 3 1, 3) := dk_132 3 1 (dk_at dksX5_later_1 19 rfl rfl)
theorem dX5_later_46 : decode bcX5_later 46 = .ok (.goto (-15), 3) := dk_167 255 241 (dk_at dksX5_later_2 0 rfl rfl)
theorem dX5_later_49 : decode bcX5_later 49 = .ok (.aload_n 0, 1) := dk_42 (dk_at dksX5_later_2 3 rfl rfl)
theorem dX5_later_50 : decode bcX5_later 50 = .ok (.getfield 113, 3) := dk_180 0 113 (dk_at dksX5_later_2 4 rfl rfl)
theorem dX5_later_53 : decode bcX5_later 53 = .ok (.sipush 1375, 3) := dk_17 5 95 (dk_at dksX5_later_2 7 rfl rfl)
theorem dX5_later_56 : decode bcX5_later 56 = .ok (.iload_n 1, 1) := dk_27 (dk_at dksX5_later_2 10 rfl rfl)
theorem dX5_later_57 : decode bcX5_later 57 = .ok (.iadd, 1) := dk_96 (dk_at dksX5_later_2 11 rfl rfl)
theorem dX5_later_58 : decode bcX5_later 58 = .ok (.iaload, 1) := dk_46 (dk_at dksX5_later_2 12 rfl rfl)
theorem dX5_later_59 : decode bcX5_later 59 = .ok (.ireturn, 1) := dk_172 (dk_at dksX5_later_2 13 rfl rfl)
abbrev SX5_later (pc : Nat) (i : xI) : Prop := Snd "SwollenHouseModel" "later" prog_25_method_96_code 4 (Option.some Jvm.ClassFile.FieldType.int) [] pc i
theorem oX5_later_0 : SX5_later 0 (i_aload 0 1) := snd_aload_n dX5_later_0 rfl
theorem oX5_later_1 : SX5_later 1 (i_const (.int (nI 0)) 2) := snd_iconst dX5_later_1 (by decide)
theorem oX5_later_2 : SX5_later 2 (i_putfi 4 0 5) := snd_putfi dX5_later_2 rfl (by decide) in_X5 tyX5 tyX5_ok nmX5 (Or.inl ⟨rfl, q1698⟩) (Or.inl rfl) rfl
theorem oX5_later_5 : SX5_later 5 (i_aload 0 6) := snd_aload_n dX5_later_5 rfl
theorem oX5_later_6 : SX5_later 6 (i_iload 1 7) := snd_iload_n dX5_later_6 rfl
theorem oX5_later_7 : SX5_later 7 (i_cv 4 287 1 10) := snd_cv rfl infX5_isDoor (by decide) rfl (xVm_V dX5_later_7 rfl q1930 q1932 qs89 q136 q1933 pdX5_isDoor)
theorem oX5_later_10 : SX5_later 10 (i_if1 (fun x => x = 0) 23 13) := snd_if_eq dX5_later_10 (by decide)
theorem oX5_later_13 : SX5_later 13 (i_iload 2 14) := snd_iload_n dX5_later_13 rfl
theorem oX5_later_14 : SX5_later 14 (i_const (.int (nI 0)) 15) := snd_iconst dX5_later_14 (by decide)
theorem oX5_later_15 : SX5_later 15 (i_const (.int (nI 60)) 17) := snd_bipush dX5_later_15 (by decide)
theorem oX5_later_17 : SX5_later 17 (i_cs 268 3 20) := snd_cs rfl infX5_within (by decide) (xSm_S dX5_later_17 q1855 q1856 q136 q1857 pdX5_within)
theorem oX5_later_20 : SX5_later 20 (i_if1 (fun x => ¬ x = 0) 25 23) := snd_if_ne dX5_later_20 (by decide)
theorem oX5_later_23 : SX5_later 23 (i_const (.int (-1)) 24) := snd_iconst dX5_later_23 (by decide)
theorem oX5_later_24 : SX5_later 24 (i_iret) := snd_iret dX5_later_24 rfl
theorem oX5_later_25 : SX5_later 25 (i_aload 0 26) := snd_aload_n dX5_later_25 rfl
theorem oX5_later_26 : SX5_later 26 (i_cvv 4 337 0 29) := snd_cvv rfl infX5_triesNow (by decide) rfl (xVm_V dX5_later_26 rfl q2128 q2130 qs116 q136 q2131 pdX5_triesNow)
theorem oX5_later_29 : SX5_later 29 (i_const (.int (nI 0)) 30) := snd_iconst dX5_later_29 (by decide)
theorem oX5_later_30 : SX5_later 30 (i_istore 3 31) := snd_istore_n dX5_later_30 rfl (by decide)
theorem oX5_later_31 : SX5_later 31 (i_iload 3 32) := snd_iload_n dX5_later_31 rfl
theorem oX5_later_32 : SX5_later 32 (i_iload 2 33) := snd_iload_n dX5_later_32 rfl
theorem oX5_later_33 : SX5_later 33 (i_if2 (fun x y => y ≤ x) 49 36) := snd_icmp_ge dX5_later_33 (by decide)
theorem oX5_later_36 : SX5_later 36 (i_aload 0 37) := snd_aload_n dX5_later_36 rfl
theorem oX5_later_37 : SX5_later 37 (i_const (.int (nI 1365)) 40) := snd_sipush dX5_later_37 (by decide)
theorem oX5_later_40 : SX5_later 40 (i_cvv 4 296 1 43) := snd_cvv rfl infX5_passes (by decide) rfl (xVm_V dX5_later_40 rfl q1966 q1968 qs96 q136 q1969 pdX5_passes)
theorem oX5_later_43 : SX5_later 43 (i_iinc 3 (nI 1) 46) := snd_iinc dX5_later_43 (by decide) (by decide)
theorem oX5_later_46 : SX5_later 46 (i_goto 31) := snd_goto dX5_later_46 (by decide)
theorem oX5_later_49 : SX5_later 49 (i_aload 0 50) := snd_aload_n dX5_later_49 rfl
theorem oX5_later_50 : SX5_later 50 (i_getf 4 24 53) := snd_getf dX5_later_50 rfl (by decide) in_X5 (Or.inl q1722) (Or.inl rfl) (by decide)
theorem oX5_later_53 : SX5_later 53 (i_const (.int (nI 1375)) 56) := snd_sipush dX5_later_53 (by decide)
theorem oX5_later_56 : SX5_later 56 (i_iload 1 57) := snd_iload_n dX5_later_56 rfl
theorem oX5_later_57 : SX5_later 57 (i_ii (fun x y => x + y) 58) := snd_iadd dX5_later_57
theorem oX5_later_58 : SX5_later 58 (i_ai 0 59) := snd_ai0 dX5_later_58
theorem oX5_later_59 : SX5_later 59 (i_iret) := snd_iret dX5_later_59 rfl
theorem okX5_later : ∀ q ∈ cX5_later, SX5_later q.1 q.2 := List.forall_mem_cons.mpr ⟨oX5_later_0, List.forall_mem_cons.mpr ⟨oX5_later_1, List.forall_mem_cons.mpr ⟨oX5_later_2, List.forall_mem_cons.mpr ⟨oX5_later_5, List.forall_mem_cons.mpr ⟨oX5_later_6, List.forall_mem_cons.mpr ⟨oX5_later_7, List.forall_mem_cons.mpr ⟨oX5_later_10, List.forall_mem_cons.mpr ⟨oX5_later_13, List.forall_mem_cons.mpr ⟨oX5_later_14, List.forall_mem_cons.mpr ⟨oX5_later_15, List.forall_mem_cons.mpr ⟨oX5_later_17, List.forall_mem_cons.mpr ⟨oX5_later_20, List.forall_mem_cons.mpr ⟨oX5_later_23, List.forall_mem_cons.mpr ⟨oX5_later_24, List.forall_mem_cons.mpr ⟨oX5_later_25, List.forall_mem_cons.mpr ⟨oX5_later_26, List.forall_mem_cons.mpr ⟨oX5_later_29, List.forall_mem_cons.mpr ⟨oX5_later_30, List.forall_mem_cons.mpr ⟨oX5_later_31, List.forall_mem_cons.mpr ⟨oX5_later_32, List.forall_mem_cons.mpr ⟨oX5_later_33, List.forall_mem_cons.mpr ⟨oX5_later_36, List.forall_mem_cons.mpr ⟨oX5_later_37, List.forall_mem_cons.mpr ⟨oX5_later_40, List.forall_mem_cons.mpr ⟨oX5_later_43, List.forall_mem_cons.mpr ⟨oX5_later_46, List.forall_mem_cons.mpr ⟨oX5_later_49, List.forall_mem_cons.mpr ⟨oX5_later_50, List.forall_mem_cons.mpr ⟨oX5_later_53, List.forall_mem_cons.mpr ⟨oX5_later_56, List.forall_mem_cons.mpr ⟨oX5_later_57, List.forall_mem_cons.mpr ⟨oX5_later_58, List.forall_mem_cons.mpr ⟨oX5_later_59, fun _ h => absurd h List.not_mem_nil⟩⟩⟩⟩⟩⟩⟩⟩⟩⟩⟩⟩⟩⟩⟩⟩⟩⟩⟩⟩⟩⟩⟩⟩⟩⟩⟩⟩⟩⟩⟩⟩⟩
def dkwX5_triesNow_0 : List UInt8 := [42, 3, 17, 5, 85, 16, 23, 182, 1, 32, 177]
abbrev dktX5_triesNow_0 : List UInt8 := dkwX5_triesNow_0 ++ []
theorem dksX5_triesNow_0 : bcX5_triesNow.data.toList.drop 0 = dktX5_triesNow_0 := by decide +kernel
theorem dX5_triesNow_0 : decode bcX5_triesNow 0 = .ok (.aload_n 0, 1) := dk_42 (dk_at dksX5_triesNow_0 0 rfl rfl)
theorem dX5_triesNow_1 : decode bcX5_triesNow 1 = .ok (.iconst 0, 1) := dk_3 (dk_at dksX5_triesNow_0 1 rfl rfl)
theorem dX5_triesNow_2 : decode bcX5_triesNow 2 = .ok (.sipush 1365, 3) := dk_17 5 85 (dk_at dksX5_triesNow_0 2 rfl rfl)
theorem dX5_triesNow_5 : decode bcX5_triesNow 5 = .ok (.bipush 23, 2) := dk_16 23 (dk_at dksX5_triesNow_0 5 rfl rfl)
theorem dX5_triesNow_7 : decode bcX5_triesNow 7 = .ok (.invokevirtual 288, 3) := dk_182 1 32 (dk_at dksX5_triesNow_0 7 rfl rfl)
theorem dX5_triesNow_10 : decode bcX5_triesNow 10 = .ok (.return_, 1) := dk_177 (dk_at dksX5_triesNow_0 10 rfl rfl)
abbrev SX5_triesNow (pc : Nat) (i : xI) : Prop := Snd "SwollenHouseModel" "triesNow" prog_25_method_95_code 1 (Option.none : Option Jvm.ClassFile.FieldType) [] pc i
theorem oX5_triesNow_0 : SX5_triesNow 0 (i_aload 0 1) := snd_aload_n dX5_triesNow_0 rfl
theorem oX5_triesNow_1 : SX5_triesNow 1 (i_const (.int (nI 0)) 2) := snd_iconst dX5_triesNow_1 (by decide)
theorem oX5_triesNow_2 : SX5_triesNow 2 (i_const (.int (nI 1365)) 5) := snd_sipush dX5_triesNow_2 (by decide)
theorem oX5_triesNow_5 : SX5_triesNow 5 (i_const (.int (nI 23)) 7) := snd_bipush dX5_triesNow_5 (by decide)
theorem oX5_triesNow_7 : SX5_triesNow 7 (i_cvv 4 295 3 10) := snd_cvv rfl infX5_copies (by decide) rfl (xVm_V dX5_triesNow_7 rfl q1962 q1964 qs95 q136 q1965 pdX5_copies)
theorem oX5_triesNow_10 : SX5_triesNow 10 (i_vret) := snd_vret dX5_triesNow_10 rfl
theorem okX5_triesNow : ∀ q ∈ cX5_triesNow, SX5_triesNow q.1 q.2 := List.forall_mem_cons.mpr ⟨oX5_triesNow_0, List.forall_mem_cons.mpr ⟨oX5_triesNow_1, List.forall_mem_cons.mpr ⟨oX5_triesNow_2, List.forall_mem_cons.mpr ⟨oX5_triesNow_5, List.forall_mem_cons.mpr ⟨oX5_triesNow_7, List.forall_mem_cons.mpr ⟨oX5_triesNow_10, fun _ h => absurd h List.not_mem_nil⟩⟩⟩⟩⟩⟩
def dkwX5_closes_1 : List UInt8 := [2, 172]
abbrev dktX5_closes_1 : List UInt8 := dkwX5_closes_1 ++ []
def dkwX5_closes_0 : List UInt8 := [42, 3, 181, 0, 1, 42, 27, 182, 1, 63, 153, 0, 14, 42, 4, 27, 120, 4, 182, 1, 119, 167, 0, 4]
abbrev dktX5_closes_0 : List UInt8 := dkwX5_closes_0 ++ dktX5_closes_1
theorem dksX5_closes_0 : bcX5_closes.data.toList.drop 0 = dktX5_closes_0 := by decide +kernel
theorem dksX5_closes_1 : bcX5_closes.data.toList.drop 24 = dktX5_closes_1 := dk_seg dksX5_closes_0 24 rfl rfl
theorem dX5_closes_0 : decode bcX5_closes 0 = .ok (.aload_n 0, 1) := dk_42 (dk_at dksX5_closes_0 0 rfl rfl)
theorem dX5_closes_1 : decode bcX5_closes 1 = .ok (.iconst 0, 1) := dk_3 (dk_at dksX5_closes_0 1 rfl rfl)
theorem dX5_closes_2 : decode bcX5_closes 2 = .ok (.putfield 1, 3) := dk_181 0 1 (dk_at dksX5_closes_0 2 rfl rfl)
theorem dX5_closes_5 : decode bcX5_closes 5 = .ok (.aload_n 0, 1) := dk_42 (dk_at dksX5_closes_0 5 rfl rfl)
theorem dX5_closes_6 : decode bcX5_closes 6 = .ok (.iload_n 1, 1) := dk_27 (dk_at dksX5_closes_0 6 rfl rfl)
theorem dX5_closes_7 : decode bcX5_closes 7 = .ok (.invokevirtual 319, 3) := dk_182 1 63 (dk_at dksX5_closes_0 7 rfl rfl)
theorem dX5_closes_10 : decode bcX5_closes 10 = .ok (.ifCond .eq 14, 3) := dk_153 0 14 (dk_at dksX5_closes_0 10 rfl rfl)
theorem dX5_closes_13 : decode bcX5_closes 13 = .ok (.aload_n 0, 1) := dk_42 (dk_at dksX5_closes_0 13 rfl rfl)
theorem dX5_closes_14 : decode bcX5_closes 14 = .ok (.iconst 1, 1) := dk_4 (dk_at dksX5_closes_0 14 rfl rfl)
theorem dX5_closes_15 : decode bcX5_closes 15 = .ok (.iload_n 1, 1) := dk_27 (dk_at dksX5_closes_0 15 rfl rfl)
theorem dX5_closes_16 : decode bcX5_closes 16 = .ok (.ishl, 1) := dk_120 (dk_at dksX5_closes_0 16 rfl rfl)
theorem dX5_closes_17 : decode bcX5_closes 17 = .ok (.iconst 1, 1) := dk_4 (dk_at dksX5_closes_0 17 rfl rfl)
theorem dX5_closes_18 : decode bcX5_closes 18 = .ok (.invokevirtual 375, 3) := dk_182 1 119 (dk_at dksX5_closes_0 18 rfl rfl)
theorem dX5_closes_21 : decode bcX5_closes 21 = .ok (.goto 4, 3) := dk_167 0 4 (dk_at dksX5_closes_0 21 rfl rfl)
theorem dX5_closes_24 : decode bcX5_closes 24 = .ok (.iconst (-1), 1) := dk_2 (dk_at dksX5_closes_1 0 rfl rfl)
theorem dX5_closes_25 : decode bcX5_closes 25 = .ok (.ireturn, 1) := dk_172 (dk_at dksX5_closes_1 1 rfl rfl)
abbrev SX5_closes (pc : Nat) (i : xI) : Prop := Snd "SwollenHouseModel" "closes" prog_25_method_98_code 2 (Option.some Jvm.ClassFile.FieldType.int) [] pc i
theorem oX5_closes_0 : SX5_closes 0 (i_aload 0 1) := snd_aload_n dX5_closes_0 rfl
theorem oX5_closes_1 : SX5_closes 1 (i_const (.int (nI 0)) 2) := snd_iconst dX5_closes_1 (by decide)
theorem oX5_closes_2 : SX5_closes 2 (i_putfi 4 0 5) := snd_putfi dX5_closes_2 rfl (by decide) in_X5 tyX5 tyX5_ok nmX5 (Or.inl ⟨rfl, q1698⟩) (Or.inl rfl) rfl
theorem oX5_closes_5 : SX5_closes 5 (i_aload 0 6) := snd_aload_n dX5_closes_5 rfl
theorem oX5_closes_6 : SX5_closes 6 (i_iload 1 7) := snd_iload_n dX5_closes_6 rfl
theorem oX5_closes_7 : SX5_closes 7 (i_cv 4 287 1 10) := snd_cv rfl infX5_isDoor (by decide) rfl (xVm_V dX5_closes_7 rfl q1930 q1932 qs89 q136 q1933 pdX5_isDoor)
theorem oX5_closes_10 : SX5_closes 10 (i_if1 (fun x => x = 0) 24 13) := snd_if_eq dX5_closes_10 (by decide)
theorem oX5_closes_13 : SX5_closes 13 (i_aload 0 14) := snd_aload_n dX5_closes_13 rfl
theorem oX5_closes_14 : SX5_closes 14 (i_const (.int (nI 1)) 15) := snd_iconst dX5_closes_14 (by decide)
theorem oX5_closes_15 : SX5_closes 15 (i_iload 1 16) := snd_iload_n dX5_closes_15 rfl
theorem oX5_closes_16 : SX5_closes 16 (i_ii (fun x y => x <<< (y &&& 31)) 17) := snd_ishl dX5_closes_16
theorem oX5_closes_17 : SX5_closes 17 (i_const (.int (nI 1)) 18) := snd_iconst dX5_closes_17 (by decide)
theorem oX5_closes_18 : SX5_closes 18 (i_cv 4 339 2 21) := snd_cv rfl infX5_behindHow (by decide) rfl (xVm_V dX5_closes_18 rfl q2136 q2138 qs117 q136 q2139 pdX5_behindHow)
theorem oX5_closes_21 : SX5_closes 21 (i_goto 25) := snd_goto dX5_closes_21 (by decide)
theorem oX5_closes_24 : SX5_closes 24 (i_const (.int (-1)) 25) := snd_iconst dX5_closes_24 (by decide)
theorem oX5_closes_25 : SX5_closes 25 (i_iret) := snd_iret dX5_closes_25 rfl
theorem okX5_closes : ∀ q ∈ cX5_closes, SX5_closes q.1 q.2 := List.forall_mem_cons.mpr ⟨oX5_closes_0, List.forall_mem_cons.mpr ⟨oX5_closes_1, List.forall_mem_cons.mpr ⟨oX5_closes_2, List.forall_mem_cons.mpr ⟨oX5_closes_5, List.forall_mem_cons.mpr ⟨oX5_closes_6, List.forall_mem_cons.mpr ⟨oX5_closes_7, List.forall_mem_cons.mpr ⟨oX5_closes_10, List.forall_mem_cons.mpr ⟨oX5_closes_13, List.forall_mem_cons.mpr ⟨oX5_closes_14, List.forall_mem_cons.mpr ⟨oX5_closes_15, List.forall_mem_cons.mpr ⟨oX5_closes_16, List.forall_mem_cons.mpr ⟨oX5_closes_17, List.forall_mem_cons.mpr ⟨oX5_closes_18, List.forall_mem_cons.mpr ⟨oX5_closes_21, List.forall_mem_cons.mpr ⟨oX5_closes_24, List.forall_mem_cons.mpr ⟨oX5_closes_25, fun _ h => absurd h List.not_mem_nil⟩⟩⟩⟩⟩⟩⟩⟩⟩⟩⟩⟩⟩⟩⟩⟩
def dkwX5_behindHow_2 : List UInt8 := [17, 5, 85, 182, 1, 72, 132, 3, 1, 167, 255, 209, 2, 172]
abbrev dktX5_behindHow_2 : List UInt8 := dkwX5_behindHow_2 ++ []
def dkwX5_behindHow_1 : List UInt8 := [153, 0, 12, 21, 4, 2, 130, 27, 126, 167, 0, 7, 21, 4, 27, 126, 154, 0, 5, 29, 172, 42]
abbrev dktX5_behindHow_1 : List UInt8 := dkwX5_behindHow_1 ++ dktX5_behindHow_2
def dkwX5_behindHow_0 : List UInt8 := [42, 182, 1, 116, 3, 62, 29, 16, 60, 163, 0, 47, 42, 17, 5, 85, 182, 1, 74, 54, 4, 28]
abbrev dktX5_behindHow_0 : List UInt8 := dkwX5_behindHow_0 ++ dktX5_behindHow_1
theorem dksX5_behindHow_0 : bcX5_behindHow.data.toList.drop 0 = dktX5_behindHow_0 := by decide +kernel
theorem dksX5_behindHow_1 : bcX5_behindHow.data.toList.drop 22 = dktX5_behindHow_1 := dk_seg dksX5_behindHow_0 22 rfl rfl
theorem dksX5_behindHow_2 : bcX5_behindHow.data.toList.drop 44 = dktX5_behindHow_2 := dk_seg dksX5_behindHow_1 22 rfl rfl
theorem dX5_behindHow_0 : decode bcX5_behindHow 0 = .ok (.aload_n 0, 1) := dk_42 (dk_at dksX5_behindHow_0 0 rfl rfl)
theorem dX5_behindHow_1 : decode bcX5_behindHow 1 = .ok (.invokevirtual 372, 3) := dk_182 1 116 (dk_at dksX5_behindHow_0 1 rfl rfl)
theorem dX5_behindHow_4 : decode bcX5_behindHow 4 = .ok (.iconst 0, 1) := dk_3 (dk_at dksX5_behindHow_0 4 rfl rfl)
theorem dX5_behindHow_5 : decode bcX5_behindHow 5 = .ok (.istore_n 3, 1) := dk_62 (dk_at dksX5_behindHow_0 5 rfl rfl)
theorem dX5_behindHow_6 : decode bcX5_behindHow 6 = .ok (.iload_n 3, 1) := dk_29 (dk_at dksX5_behindHow_0 6 rfl rfl)
theorem dX5_behindHow_7 : decode bcX5_behindHow 7 = .ok (.bipush 60, 2) := dk_16 60 (dk_at dksX5_behindHow_0 7 rfl rfl)
theorem dX5_behindHow_9 : decode bcX5_behindHow 9 = .ok (.if_icmp .gt 47, 3) := dk_163 0 47 (dk_at dksX5_behindHow_0 9 rfl rfl)
theorem dX5_behindHow_12 : decode bcX5_behindHow 12 = .ok (.aload_n 0, 1) := dk_42 (dk_at dksX5_behindHow_0 12 rfl rfl)
theorem dX5_behindHow_13 : decode bcX5_behindHow 13 = .ok (.sipush 1365, 3) := dk_17 5 85 (dk_at dksX5_behindHow_0 13 rfl rfl)
theorem dX5_behindHow_16 : decode bcX5_behindHow 16 = .ok (.invokevirtual 330, 3) := dk_182 1 74 (dk_at dksX5_behindHow_0 16 rfl rfl)
theorem dX5_behindHow_19 : decode bcX5_behindHow 19 = .ok (.istore 4, 2) := dk_54 4 (dk_at dksX5_behindHow_0 19 rfl rfl)
theorem dX5_behindHow_21 : decode bcX5_behindHow 21 = .ok (.iload_n 2, 1) := dk_28 (dk_at dksX5_behindHow_0 21 rfl rfl)
theorem dX5_behindHow_22 : decode bcX5_behindHow 22 = .ok (.ifCond .eq 12, 3) := dk_153 0 12 (dk_at dksX5_behindHow_1 0 rfl rfl)
theorem dX5_behindHow_25 : decode bcX5_behindHow 25 = .ok (.iload 4, 2) := dk_21 4 (dk_at dksX5_behindHow_1 3 rfl rfl)
theorem dX5_behindHow_27 : decode bcX5_behindHow 27 = .ok (.iconst (-1), 1) := dk_2 (dk_at dksX5_behindHow_1 5 rfl rfl)
theorem dX5_behindHow_28 : decode bcX5_behindHow 28 = .ok (.ixor, 1) := dk_130 (dk_at dksX5_behindHow_1 6 rfl rfl)
theorem dX5_behindHow_29 : decode bcX5_behindHow 29 = .ok (.iload_n 1, 1) := dk_27 (dk_at dksX5_behindHow_1 7 rfl rfl)
theorem dX5_behindHow_30 : decode bcX5_behindHow 30 = .ok (.iand, 1) := dk_126 (dk_at dksX5_behindHow_1 8 rfl rfl)
theorem dX5_behindHow_31 : decode bcX5_behindHow 31 = .ok (.goto 7, 3) := dk_167 0 7 (dk_at dksX5_behindHow_1 9 rfl rfl)
theorem dX5_behindHow_34 : decode bcX5_behindHow 34 = .ok (.iload 4, 2) := dk_21 4 (dk_at dksX5_behindHow_1 12 rfl rfl)
theorem dX5_behindHow_36 : decode bcX5_behindHow 36 = .ok (.iload_n 1, 1) := dk_27 (dk_at dksX5_behindHow_1 14 rfl rfl)
theorem dX5_behindHow_37 : decode bcX5_behindHow 37 = .ok (.iand, 1) := dk_126 (dk_at dksX5_behindHow_1 15 rfl rfl)
theorem dX5_behindHow_38 : decode bcX5_behindHow 38 = .ok (.ifCond .ne 5, 3) := dk_154 0 5 (dk_at dksX5_behindHow_1 16 rfl rfl)
theorem dX5_behindHow_41 : decode bcX5_behindHow 41 = .ok (.iload_n 3, 1) := dk_29 (dk_at dksX5_behindHow_1 19 rfl rfl)
theorem dX5_behindHow_42 : decode bcX5_behindHow 42 = .ok (.ireturn, 1) := dk_172 (dk_at dksX5_behindHow_1 20 rfl rfl)
theorem dX5_behindHow_43 : decode bcX5_behindHow 43 = .ok (.aload_n 0, 1) := dk_42 (dk_at dksX5_behindHow_1 21 rfl rfl)
theorem dX5_behindHow_44 : decode bcX5_behindHow 44 = .ok (.sipush 1365, 3) := dk_17 5 85 (dk_at dksX5_behindHow_2 0 rfl rfl)
theorem dX5_behindHow_47 : decode bcX5_behindHow 47 = .ok (.invokevirtual 328, 3) := dk_182 1 72 (dk_at dksX5_behindHow_2 3 rfl rfl)
theorem dX5_behindHow_50 : decode bcX5_behindHow 50 = .ok (.iinc 3 1, 3) := dk_132 3 1 (dk_at dksX5_behindHow_2 6 rfl rfl)
theorem dX5_behindHow_53 : decode bcX5_behindHow 53 = .ok (.goto (-47), 3) := dk_167 255 209 (dk_at dksX5_behindHow_2 9 rfl rfl)
theorem dX5_behindHow_56 : decode bcX5_behindHow 56 = .ok (.iconst (-1), 1) := dk_2 (dk_at dksX5_behindHow_2 12 rfl rfl)
theorem dX5_behindHow_57 : decode bcX5_behindHow 57 = .ok (.ireturn, 1) := dk_172 (dk_at dksX5_behindHow_2 13 rfl rfl)
abbrev SX5_behindHow (pc : Nat) (i : xI) : Prop := Snd "SwollenHouseModel" "behindHow" prog_25_method_97_code 5 (Option.some Jvm.ClassFile.FieldType.int) [] pc i
theorem oX5_behindHow_0 : SX5_behindHow 0 (i_aload 0 1) := snd_aload_n dX5_behindHow_0 rfl
theorem oX5_behindHow_1 : SX5_behindHow 1 (i_cvv 4 337 0 4) := snd_cvv rfl infX5_triesNow (by decide) rfl (xVm_V dX5_behindHow_1 rfl q2128 q2130 qs116 q136 q2131 pdX5_triesNow)
theorem oX5_behindHow_4 : SX5_behindHow 4 (i_const (.int (nI 0)) 5) := snd_iconst dX5_behindHow_4 (by decide)
theorem oX5_behindHow_5 : SX5_behindHow 5 (i_istore 3 6) := snd_istore_n dX5_behindHow_5 rfl (by decide)
theorem oX5_behindHow_6 : SX5_behindHow 6 (i_iload 3 7) := snd_iload_n dX5_behindHow_6 rfl
theorem oX5_behindHow_7 : SX5_behindHow 7 (i_const (.int (nI 60)) 9) := snd_bipush dX5_behindHow_7 (by decide)
theorem oX5_behindHow_9 : SX5_behindHow 9 (i_if2 (fun x y => y < x) 56 12) := snd_icmp_gt dX5_behindHow_9 (by decide)
theorem oX5_behindHow_12 : SX5_behindHow 12 (i_aload 0 13) := snd_aload_n dX5_behindHow_12 rfl
theorem oX5_behindHow_13 : SX5_behindHow 13 (i_const (.int (nI 1365)) 16) := snd_sipush dX5_behindHow_13 (by decide)
theorem oX5_behindHow_16 : SX5_behindHow 16 (i_cv 4 302 1 19) := snd_cv rfl infX5_sticking (by decide) rfl (xVm_V dX5_behindHow_16 rfl q1989 q1991 qs101 q136 q1992 pdX5_sticking)
theorem oX5_behindHow_19 : SX5_behindHow 19 (i_istore 4 21) := snd_istore dX5_behindHow_19 (by decide)
theorem oX5_behindHow_21 : SX5_behindHow 21 (i_iload 2 22) := snd_iload_n dX5_behindHow_21 rfl
theorem oX5_behindHow_22 : SX5_behindHow 22 (i_if1 (fun x => x = 0) 34 25) := snd_if_eq dX5_behindHow_22 (by decide)
theorem oX5_behindHow_25 : SX5_behindHow 25 (i_iload 4 27) := snd_iload dX5_behindHow_25
theorem oX5_behindHow_27 : SX5_behindHow 27 (i_const (.int (-1)) 28) := snd_iconst dX5_behindHow_27 (by decide)
theorem oX5_behindHow_28 : SX5_behindHow 28 (i_ii (fun x y => x ^^^ y) 29) := snd_ixor dX5_behindHow_28
theorem oX5_behindHow_29 : SX5_behindHow 29 (i_iload 1 30) := snd_iload_n dX5_behindHow_29 rfl
theorem oX5_behindHow_30 : SX5_behindHow 30 (i_ii (fun x y => x &&& y) 31) := snd_iand dX5_behindHow_30
theorem oX5_behindHow_31 : SX5_behindHow 31 (i_goto 38) := snd_goto dX5_behindHow_31 (by decide)
theorem oX5_behindHow_34 : SX5_behindHow 34 (i_iload 4 36) := snd_iload dX5_behindHow_34
theorem oX5_behindHow_36 : SX5_behindHow 36 (i_iload 1 37) := snd_iload_n dX5_behindHow_36 rfl
theorem oX5_behindHow_37 : SX5_behindHow 37 (i_ii (fun x y => x &&& y) 38) := snd_iand dX5_behindHow_37
theorem oX5_behindHow_38 : SX5_behindHow 38 (i_if1 (fun x => ¬ x = 0) 43 41) := snd_if_ne dX5_behindHow_38 (by decide)
theorem oX5_behindHow_41 : SX5_behindHow 41 (i_iload 3 42) := snd_iload_n dX5_behindHow_41 rfl
theorem oX5_behindHow_42 : SX5_behindHow 42 (i_iret) := snd_iret dX5_behindHow_42 rfl
theorem oX5_behindHow_43 : SX5_behindHow 43 (i_aload 0 44) := snd_aload_n dX5_behindHow_43 rfl
theorem oX5_behindHow_44 : SX5_behindHow 44 (i_const (.int (nI 1365)) 47) := snd_sipush dX5_behindHow_44 (by decide)
theorem oX5_behindHow_47 : SX5_behindHow 47 (i_cvv 4 296 1 50) := snd_cvv rfl infX5_passes (by decide) rfl (xVm_V dX5_behindHow_47 rfl q1966 q1968 qs96 q136 q1969 pdX5_passes)
theorem oX5_behindHow_50 : SX5_behindHow 50 (i_iinc 3 (nI 1) 53) := snd_iinc dX5_behindHow_50 (by decide) (by decide)
theorem oX5_behindHow_53 : SX5_behindHow 53 (i_goto 6) := snd_goto dX5_behindHow_53 (by decide)
theorem oX5_behindHow_56 : SX5_behindHow 56 (i_const (.int (-1)) 57) := snd_iconst dX5_behindHow_56 (by decide)
theorem oX5_behindHow_57 : SX5_behindHow 57 (i_iret) := snd_iret dX5_behindHow_57 rfl
theorem okX5_behindHow : ∀ q ∈ cX5_behindHow, SX5_behindHow q.1 q.2 := List.forall_mem_cons.mpr ⟨oX5_behindHow_0, List.forall_mem_cons.mpr ⟨oX5_behindHow_1, List.forall_mem_cons.mpr ⟨oX5_behindHow_4, List.forall_mem_cons.mpr ⟨oX5_behindHow_5, List.forall_mem_cons.mpr ⟨oX5_behindHow_6, List.forall_mem_cons.mpr ⟨oX5_behindHow_7, List.forall_mem_cons.mpr ⟨oX5_behindHow_9, List.forall_mem_cons.mpr ⟨oX5_behindHow_12, List.forall_mem_cons.mpr ⟨oX5_behindHow_13, List.forall_mem_cons.mpr ⟨oX5_behindHow_16, List.forall_mem_cons.mpr ⟨oX5_behindHow_19, List.forall_mem_cons.mpr ⟨oX5_behindHow_21, List.forall_mem_cons.mpr ⟨oX5_behindHow_22, List.forall_mem_cons.mpr ⟨oX5_behindHow_25, List.forall_mem_cons.mpr ⟨oX5_behindHow_27, List.forall_mem_cons.mpr ⟨oX5_behindHow_28, List.forall_mem_cons.mpr ⟨oX5_behindHow_29, List.forall_mem_cons.mpr ⟨oX5_behindHow_30, List.forall_mem_cons.mpr ⟨oX5_behindHow_31, List.forall_mem_cons.mpr ⟨oX5_behindHow_34, List.forall_mem_cons.mpr ⟨oX5_behindHow_36, List.forall_mem_cons.mpr ⟨oX5_behindHow_37, List.forall_mem_cons.mpr ⟨oX5_behindHow_38, List.forall_mem_cons.mpr ⟨oX5_behindHow_41, List.forall_mem_cons.mpr ⟨oX5_behindHow_42, List.forall_mem_cons.mpr ⟨oX5_behindHow_43, List.forall_mem_cons.mpr ⟨oX5_behindHow_44, List.forall_mem_cons.mpr ⟨oX5_behindHow_47, List.forall_mem_cons.mpr ⟨oX5_behindHow_50, List.forall_mem_cons.mpr ⟨oX5_behindHow_53, List.forall_mem_cons.mpr ⟨oX5_behindHow_56, List.forall_mem_cons.mpr ⟨oX5_behindHow_57, fun _ h => absurd h List.not_mem_nil⟩⟩⟩⟩⟩⟩⟩⟩⟩⟩⟩⟩⟩⟩⟩⟩⟩⟩⟩⟩⟩⟩⟩⟩⟩⟩⟩⟩⟩⟩⟩⟩
def dkwX5_gives_1 : List UInt8 := [2, 172]
abbrev dktX5_gives_1 : List UInt8 := dkwX5_gives_1 ++ []
def dkwX5_gives_0 : List UInt8 := [42, 3, 181, 0, 1, 42, 27, 182, 1, 63, 153, 0, 14, 42, 4, 27, 120, 3, 182, 1, 119, 167, 0, 4]
abbrev dktX5_gives_0 : List UInt8 := dkwX5_gives_0 ++ dktX5_gives_1
theorem dksX5_gives_0 : bcX5_gives.data.toList.drop 0 = dktX5_gives_0 := by decide +kernel
theorem dksX5_gives_1 : bcX5_gives.data.toList.drop 24 = dktX5_gives_1 := dk_seg dksX5_gives_0 24 rfl rfl
theorem dX5_gives_0 : decode bcX5_gives 0 = .ok (.aload_n 0, 1) := dk_42 (dk_at dksX5_gives_0 0 rfl rfl)
theorem dX5_gives_1 : decode bcX5_gives 1 = .ok (.iconst 0, 1) := dk_3 (dk_at dksX5_gives_0 1 rfl rfl)
theorem dX5_gives_2 : decode bcX5_gives 2 = .ok (.putfield 1, 3) := dk_181 0 1 (dk_at dksX5_gives_0 2 rfl rfl)
theorem dX5_gives_5 : decode bcX5_gives 5 = .ok (.aload_n 0, 1) := dk_42 (dk_at dksX5_gives_0 5 rfl rfl)
theorem dX5_gives_6 : decode bcX5_gives 6 = .ok (.iload_n 1, 1) := dk_27 (dk_at dksX5_gives_0 6 rfl rfl)
theorem dX5_gives_7 : decode bcX5_gives 7 = .ok (.invokevirtual 319, 3) := dk_182 1 63 (dk_at dksX5_gives_0 7 rfl rfl)
theorem dX5_gives_10 : decode bcX5_gives 10 = .ok (.ifCond .eq 14, 3) := dk_153 0 14 (dk_at dksX5_gives_0 10 rfl rfl)
theorem dX5_gives_13 : decode bcX5_gives 13 = .ok (.aload_n 0, 1) := dk_42 (dk_at dksX5_gives_0 13 rfl rfl)
theorem dX5_gives_14 : decode bcX5_gives 14 = .ok (.iconst 1, 1) := dk_4 (dk_at dksX5_gives_0 14 rfl rfl)
theorem dX5_gives_15 : decode bcX5_gives 15 = .ok (.iload_n 1, 1) := dk_27 (dk_at dksX5_gives_0 15 rfl rfl)
theorem dX5_gives_16 : decode bcX5_gives 16 = .ok (.ishl, 1) := dk_120 (dk_at dksX5_gives_0 16 rfl rfl)
theorem dX5_gives_17 : decode bcX5_gives 17 = .ok (.iconst 0, 1) := dk_3 (dk_at dksX5_gives_0 17 rfl rfl)
theorem dX5_gives_18 : decode bcX5_gives 18 = .ok (.invokevirtual 375, 3) := dk_182 1 119 (dk_at dksX5_gives_0 18 rfl rfl)
theorem dX5_gives_21 : decode bcX5_gives 21 = .ok (.goto 4, 3) := dk_167 0 4 (dk_at dksX5_gives_0 21 rfl rfl)
theorem dX5_gives_24 : decode bcX5_gives 24 = .ok (.iconst (-1), 1) := dk_2 (dk_at dksX5_gives_1 0 rfl rfl)
theorem dX5_gives_25 : decode bcX5_gives 25 = .ok (.ireturn, 1) := dk_172 (dk_at dksX5_gives_1 1 rfl rfl)
abbrev SX5_gives (pc : Nat) (i : xI) : Prop := Snd "SwollenHouseModel" "gives" prog_25_method_99_code 2 (Option.some Jvm.ClassFile.FieldType.int) [] pc i
theorem oX5_gives_0 : SX5_gives 0 (i_aload 0 1) := snd_aload_n dX5_gives_0 rfl
theorem oX5_gives_1 : SX5_gives 1 (i_const (.int (nI 0)) 2) := snd_iconst dX5_gives_1 (by decide)
theorem oX5_gives_2 : SX5_gives 2 (i_putfi 4 0 5) := snd_putfi dX5_gives_2 rfl (by decide) in_X5 tyX5 tyX5_ok nmX5 (Or.inl ⟨rfl, q1698⟩) (Or.inl rfl) rfl
theorem oX5_gives_5 : SX5_gives 5 (i_aload 0 6) := snd_aload_n dX5_gives_5 rfl
theorem oX5_gives_6 : SX5_gives 6 (i_iload 1 7) := snd_iload_n dX5_gives_6 rfl
theorem oX5_gives_7 : SX5_gives 7 (i_cv 4 287 1 10) := snd_cv rfl infX5_isDoor (by decide) rfl (xVm_V dX5_gives_7 rfl q1930 q1932 qs89 q136 q1933 pdX5_isDoor)
theorem oX5_gives_10 : SX5_gives 10 (i_if1 (fun x => x = 0) 24 13) := snd_if_eq dX5_gives_10 (by decide)
theorem oX5_gives_13 : SX5_gives 13 (i_aload 0 14) := snd_aload_n dX5_gives_13 rfl
theorem oX5_gives_14 : SX5_gives 14 (i_const (.int (nI 1)) 15) := snd_iconst dX5_gives_14 (by decide)
theorem oX5_gives_15 : SX5_gives 15 (i_iload 1 16) := snd_iload_n dX5_gives_15 rfl
theorem oX5_gives_16 : SX5_gives 16 (i_ii (fun x y => x <<< (y &&& 31)) 17) := snd_ishl dX5_gives_16
theorem oX5_gives_17 : SX5_gives 17 (i_const (.int (nI 0)) 18) := snd_iconst dX5_gives_17 (by decide)
theorem oX5_gives_18 : SX5_gives 18 (i_cv 4 339 2 21) := snd_cv rfl infX5_behindHow (by decide) rfl (xVm_V dX5_gives_18 rfl q2136 q2138 qs117 q136 q2139 pdX5_behindHow)
theorem oX5_gives_21 : SX5_gives 21 (i_goto 25) := snd_goto dX5_gives_21 (by decide)
theorem oX5_gives_24 : SX5_gives 24 (i_const (.int (-1)) 25) := snd_iconst dX5_gives_24 (by decide)
theorem oX5_gives_25 : SX5_gives 25 (i_iret) := snd_iret dX5_gives_25 rfl
theorem okX5_gives : ∀ q ∈ cX5_gives, SX5_gives q.1 q.2 := List.forall_mem_cons.mpr ⟨oX5_gives_0, List.forall_mem_cons.mpr ⟨oX5_gives_1, List.forall_mem_cons.mpr ⟨oX5_gives_2, List.forall_mem_cons.mpr ⟨oX5_gives_5, List.forall_mem_cons.mpr ⟨oX5_gives_6, List.forall_mem_cons.mpr ⟨oX5_gives_7, List.forall_mem_cons.mpr ⟨oX5_gives_10, List.forall_mem_cons.mpr ⟨oX5_gives_13, List.forall_mem_cons.mpr ⟨oX5_gives_14, List.forall_mem_cons.mpr ⟨oX5_gives_15, List.forall_mem_cons.mpr ⟨oX5_gives_16, List.forall_mem_cons.mpr ⟨oX5_gives_17, List.forall_mem_cons.mpr ⟨oX5_gives_18, List.forall_mem_cons.mpr ⟨oX5_gives_21, List.forall_mem_cons.mpr ⟨oX5_gives_24, List.forall_mem_cons.mpr ⟨oX5_gives_25, fun _ h => absurd h List.not_mem_nil⟩⟩⟩⟩⟩⟩⟩⟩⟩⟩⟩⟩⟩⟩⟩⟩
def dkwX5_calm_0 : List UInt8 := [42, 3, 181, 0, 1, 42, 17, 0, 255, 3, 182, 1, 119, 172]
abbrev dktX5_calm_0 : List UInt8 := dkwX5_calm_0 ++ []
theorem dksX5_calm_0 : bcX5_calm.data.toList.drop 0 = dktX5_calm_0 := by decide +kernel
theorem dX5_calm_0 : decode bcX5_calm 0 = .ok (.aload_n 0, 1) := dk_42 (dk_at dksX5_calm_0 0 rfl rfl)
theorem dX5_calm_1 : decode bcX5_calm 1 = .ok (.iconst 0, 1) := dk_3 (dk_at dksX5_calm_0 1 rfl rfl)
theorem dX5_calm_2 : decode bcX5_calm 2 = .ok (.putfield 1, 3) := dk_181 0 1 (dk_at dksX5_calm_0 2 rfl rfl)
theorem dX5_calm_5 : decode bcX5_calm 5 = .ok (.aload_n 0, 1) := dk_42 (dk_at dksX5_calm_0 5 rfl rfl)
theorem dX5_calm_6 : decode bcX5_calm 6 = .ok (.sipush 255, 3) := dk_17 0 255 (dk_at dksX5_calm_0 6 rfl rfl)
theorem dX5_calm_9 : decode bcX5_calm 9 = .ok (.iconst 0, 1) := dk_3 (dk_at dksX5_calm_0 9 rfl rfl)
theorem dX5_calm_10 : decode bcX5_calm 10 = .ok (.invokevirtual 375, 3) := dk_182 1 119 (dk_at dksX5_calm_0 10 rfl rfl)
theorem dX5_calm_13 : decode bcX5_calm 13 = .ok (.ireturn, 1) := dk_172 (dk_at dksX5_calm_0 13 rfl rfl)
abbrev SX5_calm (pc : Nat) (i : xI) : Prop := Snd "SwollenHouseModel" "calm" prog_25_method_100_code 1 (Option.some Jvm.ClassFile.FieldType.int) [] pc i
theorem oX5_calm_0 : SX5_calm 0 (i_aload 0 1) := snd_aload_n dX5_calm_0 rfl
theorem oX5_calm_1 : SX5_calm 1 (i_const (.int (nI 0)) 2) := snd_iconst dX5_calm_1 (by decide)
theorem oX5_calm_2 : SX5_calm 2 (i_putfi 4 0 5) := snd_putfi dX5_calm_2 rfl (by decide) in_X5 tyX5 tyX5_ok nmX5 (Or.inl ⟨rfl, q1698⟩) (Or.inl rfl) rfl
theorem oX5_calm_5 : SX5_calm 5 (i_aload 0 6) := snd_aload_n dX5_calm_5 rfl
theorem oX5_calm_6 : SX5_calm 6 (i_const (.int (nI 255)) 9) := snd_sipush dX5_calm_6 (by decide)
theorem oX5_calm_9 : SX5_calm 9 (i_const (.int (nI 0)) 10) := snd_iconst dX5_calm_9 (by decide)
theorem oX5_calm_10 : SX5_calm 10 (i_cv 4 339 2 13) := snd_cv rfl infX5_behindHow (by decide) rfl (xVm_V dX5_calm_10 rfl q2136 q2138 qs117 q136 q2139 pdX5_behindHow)
theorem oX5_calm_13 : SX5_calm 13 (i_iret) := snd_iret dX5_calm_13 rfl
theorem okX5_calm : ∀ q ∈ cX5_calm, SX5_calm q.1 q.2 := List.forall_mem_cons.mpr ⟨oX5_calm_0, List.forall_mem_cons.mpr ⟨oX5_calm_1, List.forall_mem_cons.mpr ⟨oX5_calm_2, List.forall_mem_cons.mpr ⟨oX5_calm_5, List.forall_mem_cons.mpr ⟨oX5_calm_6, List.forall_mem_cons.mpr ⟨oX5_calm_9, List.forall_mem_cons.mpr ⟨oX5_calm_10, List.forall_mem_cons.mpr ⟨oX5_calm_13, fun _ h => absurd h List.not_mem_nil⟩⟩⟩⟩⟩⟩⟩⟩
def dkwX5_hard_3 : List UInt8 := [167, 255, 203, 27, 172]
abbrev dktX5_hard_3 : List UInt8 := dkwX5_hard_3 ++ []
def dkwX5_hard_2 : List UInt8 := [21, 4, 28, 164, 0, 8, 21, 4, 167, 0, 4, 28, 61, 42, 17, 5, 85, 182, 1, 72, 132, 3, 1]
abbrev dktX5_hard_2 : List UInt8 := dkwX5_hard_2 ++ dktX5_hard_3
def dkwX5_hard_1 : List UInt8 := [17, 5, 85, 182, 1, 74, 184, 1, 95, 54, 4, 21, 4, 28, 164, 0, 7, 29, 167, 0, 4, 27, 60]
abbrev dktX5_hard_1 : List UInt8 := dkwX5_hard_1 ++ dktX5_hard_2
def dkwX5_hard_0 : List UInt8 := [42, 3, 181, 0, 1, 42, 182, 1, 116, 3, 60, 2, 61, 3, 62, 29, 16, 60, 163, 0, 53, 42]
abbrev dktX5_hard_0 : List UInt8 := dkwX5_hard_0 ++ dktX5_hard_1
theorem dksX5_hard_0 : bcX5_hard.data.toList.drop 0 = dktX5_hard_0 := by decide +kernel
theorem dksX5_hard_1 : bcX5_hard.data.toList.drop 22 = dktX5_hard_1 := dk_seg dksX5_hard_0 22 rfl rfl
theorem dksX5_hard_2 : bcX5_hard.data.toList.drop 45 = dktX5_hard_2 := dk_seg dksX5_hard_1 23 rfl rfl
theorem dksX5_hard_3 : bcX5_hard.data.toList.drop 68 = dktX5_hard_3 := dk_seg dksX5_hard_2 23 rfl rfl
theorem dX5_hard_0 : decode bcX5_hard 0 = .ok (.aload_n 0, 1) := dk_42 (dk_at dksX5_hard_0 0 rfl rfl)
theorem dX5_hard_1 : decode bcX5_hard 1 = .ok (.iconst 0, 1) := dk_3 (dk_at dksX5_hard_0 1 rfl rfl)
theorem dX5_hard_2 : decode bcX5_hard 2 = .ok (.putfield 1, 3) := dk_181 0 1 (dk_at dksX5_hard_0 2 rfl rfl)
theorem dX5_hard_5 : decode bcX5_hard 5 = .ok (.aload_n 0, 1) := dk_42 (dk_at dksX5_hard_0 5 rfl rfl)
theorem dX5_hard_6 : decode bcX5_hard 6 = .ok (.invokevirtual 372, 3) := dk_182 1 116 (dk_at dksX5_hard_0 6 rfl rfl)
theorem dX5_hard_9 : decode bcX5_hard 9 = .ok (.iconst 0, 1) := dk_3 (dk_at dksX5_hard_0 9 rfl rfl)
theorem dX5_hard_10 : decode bcX5_hard 10 = .ok (.istore_n 1, 1) := dk_60 (dk_at dksX5_hard_0 10 rfl rfl)
theorem dX5_hard_11 : decode bcX5_hard 11 = .ok (.iconst (-1), 1) := dk_2 (dk_at dksX5_hard_0 11 rfl rfl)
theorem dX5_hard_12 : decode bcX5_hard 12 = .ok (.istore_n 2, 1) := dk_61 (dk_at dksX5_hard_0 12 rfl rfl)
theorem dX5_hard_13 : decode bcX5_hard 13 = .ok (.iconst 0, 1) := dk_3 (dk_at dksX5_hard_0 13 rfl rfl)
theorem dX5_hard_14 : decode bcX5_hard 14 = .ok (.istore_n 3, 1) := dk_62 (dk_at dksX5_hard_0 14 rfl rfl)
theorem dX5_hard_15 : decode bcX5_hard 15 = .ok (.iload_n 3, 1) := dk_29 (dk_at dksX5_hard_0 15 rfl rfl)
theorem dX5_hard_16 : decode bcX5_hard 16 = .ok (.bipush 60, 2) := dk_16 60 (dk_at dksX5_hard_0 16 rfl rfl)
theorem dX5_hard_18 : decode bcX5_hard 18 = .ok (.if_icmp .gt 53, 3) := dk_163 0 53 (dk_at dksX5_hard_0 18 rfl rfl)
theorem dX5_hard_21 : decode bcX5_hard 21 = .ok (.aload_n 0, 1) := dk_42 (dk_at dksX5_hard_0 21 rfl rfl)
theorem dX5_hard_22 : decode bcX5_hard 22 = .ok (.sipush 1365, 3) := dk_17 5 85 (dk_at dksX5_hard_1 0 rfl rfl)
theorem dX5_hard_25 : decode bcX5_hard 25 = .ok (.invokevirtual 330, 3) := dk_182 1 74 (dk_at dksX5_hard_1 3 rfl rfl)
theorem dX5_hard_28 : decode bcX5_hard 28 = .ok (.invokestatic 351, 3) := dk_184 1 95 (dk_at dksX5_hard_1 6 rfl rfl)
theorem dX5_hard_31 : decode bcX5_hard 31 = .ok (.istore 4, 2) := dk_54 4 (dk_at dksX5_hard_1 9 rfl rfl)
theorem dX5_hard_33 : decode bcX5_hard 33 = .ok (.iload 4, 2) := dk_21 4 (dk_at dksX5_hard_1 11 rfl rfl)
theorem dX5_hard_35 : decode bcX5_hard 35 = .ok (.iload_n 2, 1) := dk_28 (dk_at dksX5_hard_1 13 rfl rfl)
theorem dX5_hard_36 : decode bcX5_hard 36 = .ok (.if_icmp .le 7, 3) := dk_164 0 7 (dk_at dksX5_hard_1 14 rfl rfl)
theorem dX5_hard_39 : decode bcX5_hard 39 = .ok (.iload_n 3, 1) := dk_29 (dk_at dksX5_hard_1 17 rfl rfl)
theorem dX5_hard_40 : decode bcX5_hard 40 = .ok (.goto 4, 3) := dk_167 0 4 (dk_at dksX5_hard_1 18 rfl rfl)
theorem dX5_hard_43 : decode bcX5_hard 43 = .ok (.iload_n 1, 1) := dk_27 (dk_at dksX5_hard_1 21 rfl rfl)
theorem dX5_hard_44 : decode bcX5_hard 44 = .ok (.istore_n 1, 1) := dk_60 (dk_at dksX5_hard_1 22 rfl rfl)
theorem dX5_hard_45 : decode bcX5_hard 45 = .ok (.iload 4, 2) := dk_21 4 (dk_at dksX5_hard_2 0 rfl rfl)
theorem dX5_hard_47 : decode bcX5_hard 47 = .ok (.iload_n 2, 1) := dk_28 (dk_at dksX5_hard_2 2 rfl rfl)
theorem dX5_hard_48 : decode bcX5_hard 48 = .ok (.if_icmp .le 8, 3) := dk_164 0 8 (dk_at dksX5_hard_2 3 rfl rfl)
theorem dX5_hard_51 : decode bcX5_hard 51 = .ok (.iload 4, 2) := dk_21 4 (dk_at dksX5_hard_2 6 rfl rfl)
theorem dX5_hard_53 : decode bcX5_hard 53 = .ok (.goto 4, 3) := dk_167 0 4 (dk_at dksX5_hard_2 8 rfl rfl)
theorem dX5_hard_56 : decode bcX5_hard 56 = .ok (.iload_n 2, 1) := dk_28 (dk_at dksX5_hard_2 11 rfl rfl)
theorem dX5_hard_57 : decode bcX5_hard 57 = .ok (.istore_n 2, 1) := dk_61 (dk_at dksX5_hard_2 12 rfl rfl)
theorem dX5_hard_58 : decode bcX5_hard 58 = .ok (.aload_n 0, 1) := dk_42 (dk_at dksX5_hard_2 13 rfl rfl)
theorem dX5_hard_59 : decode bcX5_hard 59 = .ok (.sipush 1365, 3) := dk_17 5 85 (dk_at dksX5_hard_2 14 rfl rfl)
theorem dX5_hard_62 : decode bcX5_hard 62 = .ok (.invokevirtual 328, 3) := dk_182 1 72 (dk_at dksX5_hard_2 17 rfl rfl)
theorem dX5_hard_65 : decode bcX5_hard 65 = .ok (.iinc 3 1, 3) := dk_132 3 1 (dk_at dksX5_hard_2 20 rfl rfl)
theorem dX5_hard_68 : decode bcX5_hard 68 = .ok (.goto (-53), 3) := dk_167 255 203 (dk_at dksX5_hard_3 0 rfl rfl)
theorem dX5_hard_71 : decode bcX5_hard 71 = .ok (.iload_n 1, 1) := dk_27 (dk_at dksX5_hard_3 3 rfl rfl)
theorem dX5_hard_72 : decode bcX5_hard 72 = .ok (.ireturn, 1) := dk_172 (dk_at dksX5_hard_3 4 rfl rfl)
abbrev SX5_hard (pc : Nat) (i : xI) : Prop := Snd "SwollenHouseModel" "hard" prog_25_method_101_code 5 (Option.some Jvm.ClassFile.FieldType.int) [] pc i
theorem oX5_hard_0 : SX5_hard 0 (i_aload 0 1) := snd_aload_n dX5_hard_0 rfl
theorem oX5_hard_1 : SX5_hard 1 (i_const (.int (nI 0)) 2) := snd_iconst dX5_hard_1 (by decide)
theorem oX5_hard_2 : SX5_hard 2 (i_putfi 4 0 5) := snd_putfi dX5_hard_2 rfl (by decide) in_X5 tyX5 tyX5_ok nmX5 (Or.inl ⟨rfl, q1698⟩) (Or.inl rfl) rfl
theorem oX5_hard_5 : SX5_hard 5 (i_aload 0 6) := snd_aload_n dX5_hard_5 rfl
theorem oX5_hard_6 : SX5_hard 6 (i_cvv 4 337 0 9) := snd_cvv rfl infX5_triesNow (by decide) rfl (xVm_V dX5_hard_6 rfl q2128 q2130 qs116 q136 q2131 pdX5_triesNow)
theorem oX5_hard_9 : SX5_hard 9 (i_const (.int (nI 0)) 10) := snd_iconst dX5_hard_9 (by decide)
theorem oX5_hard_10 : SX5_hard 10 (i_istore 1 11) := snd_istore_n dX5_hard_10 rfl (by decide)
theorem oX5_hard_11 : SX5_hard 11 (i_const (.int (-1)) 12) := snd_iconst dX5_hard_11 (by decide)
theorem oX5_hard_12 : SX5_hard 12 (i_istore 2 13) := snd_istore_n dX5_hard_12 rfl (by decide)
theorem oX5_hard_13 : SX5_hard 13 (i_const (.int (nI 0)) 14) := snd_iconst dX5_hard_13 (by decide)
theorem oX5_hard_14 : SX5_hard 14 (i_istore 3 15) := snd_istore_n dX5_hard_14 rfl (by decide)
theorem oX5_hard_15 : SX5_hard 15 (i_iload 3 16) := snd_iload_n dX5_hard_15 rfl
theorem oX5_hard_16 : SX5_hard 16 (i_const (.int (nI 60)) 18) := snd_bipush dX5_hard_16 (by decide)
theorem oX5_hard_18 : SX5_hard 18 (i_if2 (fun x y => y < x) 71 21) := snd_icmp_gt dX5_hard_18 (by decide)
theorem oX5_hard_21 : SX5_hard 21 (i_aload 0 22) := snd_aload_n dX5_hard_21 rfl
theorem oX5_hard_22 : SX5_hard 22 (i_const (.int (nI 1365)) 25) := snd_sipush dX5_hard_22 (by decide)
theorem oX5_hard_25 : SX5_hard 25 (i_cv 4 302 1 28) := snd_cv rfl infX5_sticking (by decide) rfl (xVm_V dX5_hard_25 rfl q1989 q1991 qs101 q136 q1992 pdX5_sticking)
theorem oX5_hard_28 : SX5_hard 28 (i_cs 316 1 31) := snd_cs rfl infX5_bits (by decide) (xSm_S dX5_hard_28 q2045 q2046 q136 q2047 pdX5_bits)
theorem oX5_hard_31 : SX5_hard 31 (i_istore 4 33) := snd_istore dX5_hard_31 (by decide)
theorem oX5_hard_33 : SX5_hard 33 (i_iload 4 35) := snd_iload dX5_hard_33
theorem oX5_hard_35 : SX5_hard 35 (i_iload 2 36) := snd_iload_n dX5_hard_35 rfl
theorem oX5_hard_36 : SX5_hard 36 (i_if2 (fun x y => x ≤ y) 43 39) := snd_icmp_le dX5_hard_36 (by decide)
theorem oX5_hard_39 : SX5_hard 39 (i_iload 3 40) := snd_iload_n dX5_hard_39 rfl
theorem oX5_hard_40 : SX5_hard 40 (i_goto 44) := snd_goto dX5_hard_40 (by decide)
theorem oX5_hard_43 : SX5_hard 43 (i_iload 1 44) := snd_iload_n dX5_hard_43 rfl
theorem oX5_hard_44 : SX5_hard 44 (i_istore 1 45) := snd_istore_n dX5_hard_44 rfl (by decide)
theorem oX5_hard_45 : SX5_hard 45 (i_iload 4 47) := snd_iload dX5_hard_45
theorem oX5_hard_47 : SX5_hard 47 (i_iload 2 48) := snd_iload_n dX5_hard_47 rfl
theorem oX5_hard_48 : SX5_hard 48 (i_if2 (fun x y => x ≤ y) 56 51) := snd_icmp_le dX5_hard_48 (by decide)
theorem oX5_hard_51 : SX5_hard 51 (i_iload 4 53) := snd_iload dX5_hard_51
theorem oX5_hard_53 : SX5_hard 53 (i_goto 57) := snd_goto dX5_hard_53 (by decide)
theorem oX5_hard_56 : SX5_hard 56 (i_iload 2 57) := snd_iload_n dX5_hard_56 rfl
theorem oX5_hard_57 : SX5_hard 57 (i_istore 2 58) := snd_istore_n dX5_hard_57 rfl (by decide)
theorem oX5_hard_58 : SX5_hard 58 (i_aload 0 59) := snd_aload_n dX5_hard_58 rfl
theorem oX5_hard_59 : SX5_hard 59 (i_const (.int (nI 1365)) 62) := snd_sipush dX5_hard_59 (by decide)
theorem oX5_hard_62 : SX5_hard 62 (i_cvv 4 296 1 65) := snd_cvv rfl infX5_passes (by decide) rfl (xVm_V dX5_hard_62 rfl q1966 q1968 qs96 q136 q1969 pdX5_passes)
theorem oX5_hard_65 : SX5_hard 65 (i_iinc 3 (nI 1) 68) := snd_iinc dX5_hard_65 (by decide) (by decide)
theorem oX5_hard_68 : SX5_hard 68 (i_goto 15) := snd_goto dX5_hard_68 (by decide)
theorem oX5_hard_71 : SX5_hard 71 (i_iload 1 72) := snd_iload_n dX5_hard_71 rfl
theorem oX5_hard_72 : SX5_hard 72 (i_iret) := snd_iret dX5_hard_72 rfl
theorem okX5_hard : ∀ q ∈ cX5_hard, SX5_hard q.1 q.2 := List.forall_mem_cons.mpr ⟨oX5_hard_0, List.forall_mem_cons.mpr ⟨oX5_hard_1, List.forall_mem_cons.mpr ⟨oX5_hard_2, List.forall_mem_cons.mpr ⟨oX5_hard_5, List.forall_mem_cons.mpr ⟨oX5_hard_6, List.forall_mem_cons.mpr ⟨oX5_hard_9, List.forall_mem_cons.mpr ⟨oX5_hard_10, List.forall_mem_cons.mpr ⟨oX5_hard_11, List.forall_mem_cons.mpr ⟨oX5_hard_12, List.forall_mem_cons.mpr ⟨oX5_hard_13, List.forall_mem_cons.mpr ⟨oX5_hard_14, List.forall_mem_cons.mpr ⟨oX5_hard_15, List.forall_mem_cons.mpr ⟨oX5_hard_16, List.forall_mem_cons.mpr ⟨oX5_hard_18, List.forall_mem_cons.mpr ⟨oX5_hard_21, List.forall_mem_cons.mpr ⟨oX5_hard_22, List.forall_mem_cons.mpr ⟨oX5_hard_25, List.forall_mem_cons.mpr ⟨oX5_hard_28, List.forall_mem_cons.mpr ⟨oX5_hard_31, List.forall_mem_cons.mpr ⟨oX5_hard_33, List.forall_mem_cons.mpr ⟨oX5_hard_35, List.forall_mem_cons.mpr ⟨oX5_hard_36, List.forall_mem_cons.mpr ⟨oX5_hard_39, List.forall_mem_cons.mpr ⟨oX5_hard_40, List.forall_mem_cons.mpr ⟨oX5_hard_43, List.forall_mem_cons.mpr ⟨oX5_hard_44, List.forall_mem_cons.mpr ⟨oX5_hard_45, List.forall_mem_cons.mpr ⟨oX5_hard_47, List.forall_mem_cons.mpr ⟨oX5_hard_48, List.forall_mem_cons.mpr ⟨oX5_hard_51, List.forall_mem_cons.mpr ⟨oX5_hard_53, List.forall_mem_cons.mpr ⟨oX5_hard_56, List.forall_mem_cons.mpr ⟨oX5_hard_57, List.forall_mem_cons.mpr ⟨oX5_hard_58, List.forall_mem_cons.mpr ⟨oX5_hard_59, List.forall_mem_cons.mpr ⟨oX5_hard_62, List.forall_mem_cons.mpr ⟨oX5_hard_65, List.forall_mem_cons.mpr ⟨oX5_hard_68, List.forall_mem_cons.mpr ⟨oX5_hard_71, List.forall_mem_cons.mpr ⟨oX5_hard_72, fun _ h => absurd h List.not_mem_nil⟩⟩⟩⟩⟩⟩⟩⟩⟩⟩⟩⟩⟩⟩⟩⟩⟩⟩⟩⟩⟩⟩⟩⟩⟩⟩⟩⟩⟩⟩⟩⟩⟩⟩⟩⟩⟩⟩⟩⟩
def dkwX5_arrives_1 : List UInt8 := [182, 1, 123, 42, 42, 180, 0, 113, 16, 18, 27, 96, 46, 28, 182, 1, 126, 172]
abbrev dktX5_arrives_1 : List UInt8 := dkwX5_arrives_1 ++ []
def dkwX5_arrives_0 : List UInt8 := [42, 3, 181, 0, 1, 42, 27, 182, 1, 66, 153, 0, 11, 42, 28, 182, 1, 101, 154, 0, 5, 2, 172, 42]
abbrev dktX5_arrives_0 : List UInt8 := dkwX5_arrives_0 ++ dktX5_arrives_1
theorem dksX5_arrives_0 : bcX5_arrives.data.toList.drop 0 = dktX5_arrives_0 := by decide +kernel
theorem dksX5_arrives_1 : bcX5_arrives.data.toList.drop 24 = dktX5_arrives_1 := dk_seg dksX5_arrives_0 24 rfl rfl
theorem dX5_arrives_0 : decode bcX5_arrives 0 = .ok (.aload_n 0, 1) := dk_42 (dk_at dksX5_arrives_0 0 rfl rfl)
theorem dX5_arrives_1 : decode bcX5_arrives 1 = .ok (.iconst 0, 1) := dk_3 (dk_at dksX5_arrives_0 1 rfl rfl)
theorem dX5_arrives_2 : decode bcX5_arrives 2 = .ok (.putfield 1, 3) := dk_181 0 1 (dk_at dksX5_arrives_0 2 rfl rfl)
theorem dX5_arrives_5 : decode bcX5_arrives 5 = .ok (.aload_n 0, 1) := dk_42 (dk_at dksX5_arrives_0 5 rfl rfl)
theorem dX5_arrives_6 : decode bcX5_arrives 6 = .ok (.iload_n 1, 1) := dk_27 (dk_at dksX5_arrives_0 6 rfl rfl)
theorem dX5_arrives_7 : decode bcX5_arrives 7 = .ok (.invokevirtual 322, 3) := dk_182 1 66 (dk_at dksX5_arrives_0 7 rfl rfl)
theorem dX5_arrives_10 : decode bcX5_arrives 10 = .ok (.ifCond .eq 11, 3) := dk_153 0 11 (dk_at dksX5_arrives_0 10 rfl rfl)
theorem dX5_arrives_13 : decode bcX5_arrives 13 = .ok (.aload_n 0, 1) := dk_42 (dk_at dksX5_arrives_0 13 rfl rfl)
theorem dX5_arrives_14 : decode bcX5_arrives 14 = .ok (.iload_n 2, 1) := dk_28 (dk_at dksX5_arrives_0 14 rfl rfl)
theorem dX5_arrives_15 : decode bcX5_arrives 15 = .ok (.invokevirtual 357, 3) := dk_182 1 101 (dk_at dksX5_arrives_0 15 rfl rfl)
theorem dX5_arrives_18 : decode bcX5_arrives 18 = .ok (.ifCond .ne 5, 3) := dk_154 0 5 (dk_at dksX5_arrives_0 18 rfl rfl)
theorem dX5_arrives_21 : decode bcX5_arrives 21 = .ok (.iconst (-1), 1) := dk_2 (dk_at dksX5_arrives_0 21 rfl rfl)
theorem dX5_arrives_22 : decode bcX5_arrives 22 = .ok (.ireturn, 1) := dk_172 (dk_at dksX5_arrives_0 22 rfl rfl)
theorem dX5_arrives_23 : decode bcX5_arrives 23 = .ok (.aload_n 0, 1) := dk_42 (dk_at dksX5_arrives_0 23 rfl rfl)
theorem dX5_arrives_24 : decode bcX5_arrives 24 = .ok (.invokevirtual 379, 3) := dk_182 1 123 (dk_at dksX5_arrives_1 0 rfl rfl)
theorem dX5_arrives_27 : decode bcX5_arrives 27 = .ok (.aload_n 0, 1) := dk_42 (dk_at dksX5_arrives_1 3 rfl rfl)
theorem dX5_arrives_28 : decode bcX5_arrives 28 = .ok (.aload_n 0, 1) := dk_42 (dk_at dksX5_arrives_1 4 rfl rfl)
theorem dX5_arrives_29 : decode bcX5_arrives 29 = .ok (.getfield 113, 3) := dk_180 0 113 (dk_at dksX5_arrives_1 5 rfl rfl)
theorem dX5_arrives_32 : decode bcX5_arrives 32 = .ok (.bipush 18, 2) := dk_16 18 (dk_at dksX5_arrives_1 8 rfl rfl)
theorem dX5_arrives_34 : decode bcX5_arrives 34 = .ok (.iload_n 1, 1) := dk_27 (dk_at dksX5_arrives_1 10 rfl rfl)
theorem dX5_arrives_35 : decode bcX5_arrives 35 = .ok (.iadd, 1) := dk_96 (dk_at dksX5_arrives_1 11 rfl rfl)
theorem dX5_arrives_36 : decode bcX5_arrives 36 = .ok (.iaload, 1) := dk_46 (dk_at dksX5_arrives_1 12 rfl rfl)
theorem dX5_arrives_37 : decode bcX5_arrives 37 = .ok (.iload_n 2, 1) := dk_28 (dk_at dksX5_arrives_1 13 rfl rfl)
theorem dX5_arrives_38 : decode bcX5_arrives 38 = .ok (.invokevirtual 382, 3) := dk_182 1 126 (dk_at dksX5_arrives_1 14 rfl rfl)
theorem dX5_arrives_41 : decode bcX5_arrives 41 = .ok (.ireturn, 1) := dk_172 (dk_at dksX5_arrives_1 17 rfl rfl)
abbrev SX5_arrives (pc : Nat) (i : xI) : Prop := Snd "SwollenHouseModel" "arrives" prog_25_method_104_code 3 (Option.some Jvm.ClassFile.FieldType.int) [] pc i
theorem oX5_arrives_0 : SX5_arrives 0 (i_aload 0 1) := snd_aload_n dX5_arrives_0 rfl
theorem oX5_arrives_1 : SX5_arrives 1 (i_const (.int (nI 0)) 2) := snd_iconst dX5_arrives_1 (by decide)
theorem oX5_arrives_2 : SX5_arrives 2 (i_putfi 4 0 5) := snd_putfi dX5_arrives_2 rfl (by decide) in_X5 tyX5 tyX5_ok nmX5 (Or.inl ⟨rfl, q1698⟩) (Or.inl rfl) rfl
theorem oX5_arrives_5 : SX5_arrives 5 (i_aload 0 6) := snd_aload_n dX5_arrives_5 rfl
theorem oX5_arrives_6 : SX5_arrives 6 (i_iload 1 7) := snd_iload_n dX5_arrives_6 rfl
theorem oX5_arrives_7 : SX5_arrives 7 (i_cv 4 292 1 10) := snd_cv rfl infX5_isPerson (by decide) rfl (xVm_V dX5_arrives_7 rfl q1950 q1952 qs93 q136 q1953 pdX5_isPerson)
theorem oX5_arrives_10 : SX5_arrives 10 (i_if1 (fun x => x = 0) 21 13) := snd_if_eq dX5_arrives_10 (by decide)
theorem oX5_arrives_13 : SX5_arrives 13 (i_aload 0 14) := snd_aload_n dX5_arrives_13 rfl
theorem oX5_arrives_14 : SX5_arrives 14 (i_iload 2 15) := snd_iload_n dX5_arrives_14 rfl
theorem oX5_arrives_15 : SX5_arrives 15 (i_cv 4 319 1 18) := snd_cv rfl infX5_isRoom (by decide) rfl (xVm_V dX5_arrives_15 rfl q2056 q2058 qs109 q136 q2059 pdX5_isRoom)
theorem oX5_arrives_18 : SX5_arrives 18 (i_if1 (fun x => ¬ x = 0) 23 21) := snd_if_ne dX5_arrives_18 (by decide)
theorem oX5_arrives_21 : SX5_arrives 21 (i_const (.int (-1)) 22) := snd_iconst dX5_arrives_21 (by decide)
theorem oX5_arrives_22 : SX5_arrives 22 (i_iret) := snd_iret dX5_arrives_22 rfl
theorem oX5_arrives_23 : SX5_arrives 23 (i_aload 0 24) := snd_aload_n dX5_arrives_23 rfl
theorem oX5_arrives_24 : SX5_arrives 24 (i_cvv 4 344 0 27) := snd_cvv rfl infX5_opensThen (by decide) rfl (xVm_V dX5_arrives_24 rfl q2156 q2158 qs118 q136 q2159 pdX5_opensThen)
theorem oX5_arrives_27 : SX5_arrives 27 (i_aload 0 28) := snd_aload_n dX5_arrives_27 rfl
theorem oX5_arrives_28 : SX5_arrives 28 (i_aload 0 29) := snd_aload_n dX5_arrives_28 rfl
theorem oX5_arrives_29 : SX5_arrives 29 (i_getf 4 24 32) := snd_getf dX5_arrives_29 rfl (by decide) in_X5 (Or.inl q1722) (Or.inl rfl) (by decide)
theorem oX5_arrives_32 : SX5_arrives 32 (i_const (.int (nI 18)) 34) := snd_bipush dX5_arrives_32 (by decide)
theorem oX5_arrives_34 : SX5_arrives 34 (i_iload 1 35) := snd_iload_n dX5_arrives_34 rfl
theorem oX5_arrives_35 : SX5_arrives 35 (i_ii (fun x y => x + y) 36) := snd_iadd dX5_arrives_35
theorem oX5_arrives_36 : SX5_arrives 36 (i_ai 0 37) := snd_ai0 dX5_arrives_36
theorem oX5_arrives_37 : SX5_arrives 37 (i_iload 2 38) := snd_iload_n dX5_arrives_37 rfl
theorem oX5_arrives_38 : SX5_arrives 38 (i_cv 4 345 2 41) := snd_cv rfl infX5_arrivesBy (by decide) rfl (xVm_V dX5_arrives_38 rfl q2160 q2162 qs119 q136 q2163 pdX5_arrivesBy)
theorem oX5_arrives_41 : SX5_arrives 41 (i_iret) := snd_iret dX5_arrives_41 rfl
theorem okX5_arrives : ∀ q ∈ cX5_arrives, SX5_arrives q.1 q.2 := List.forall_mem_cons.mpr ⟨oX5_arrives_0, List.forall_mem_cons.mpr ⟨oX5_arrives_1, List.forall_mem_cons.mpr ⟨oX5_arrives_2, List.forall_mem_cons.mpr ⟨oX5_arrives_5, List.forall_mem_cons.mpr ⟨oX5_arrives_6, List.forall_mem_cons.mpr ⟨oX5_arrives_7, List.forall_mem_cons.mpr ⟨oX5_arrives_10, List.forall_mem_cons.mpr ⟨oX5_arrives_13, List.forall_mem_cons.mpr ⟨oX5_arrives_14, List.forall_mem_cons.mpr ⟨oX5_arrives_15, List.forall_mem_cons.mpr ⟨oX5_arrives_18, List.forall_mem_cons.mpr ⟨oX5_arrives_21, List.forall_mem_cons.mpr ⟨oX5_arrives_22, List.forall_mem_cons.mpr ⟨oX5_arrives_23, List.forall_mem_cons.mpr ⟨oX5_arrives_24, List.forall_mem_cons.mpr ⟨oX5_arrives_27, List.forall_mem_cons.mpr ⟨oX5_arrives_28, List.forall_mem_cons.mpr ⟨oX5_arrives_29, List.forall_mem_cons.mpr ⟨oX5_arrives_32, List.forall_mem_cons.mpr ⟨oX5_arrives_34, List.forall_mem_cons.mpr ⟨oX5_arrives_35, List.forall_mem_cons.mpr ⟨oX5_arrives_36, List.forall_mem_cons.mpr ⟨oX5_arrives_37, List.forall_mem_cons.mpr ⟨oX5_arrives_38, List.forall_mem_cons.mpr ⟨oX5_arrives_41, fun _ h => absurd h List.not_mem_nil⟩⟩⟩⟩⟩⟩⟩⟩⟩⟩⟩⟩⟩⟩⟩⟩⟩⟩⟩⟩⟩⟩⟩⟩⟩
def dkwX5_opensThen_1 : List UInt8 := [79, 42, 17, 5, 85, 182, 1, 72, 132, 1, 1, 167, 255, 227, 177]
abbrev dktX5_opensThen_1 : List UInt8 := dkwX5_opensThen_1 ++ []
def dkwX5_opensThen_0 : List UInt8 := [42, 182, 1, 116, 3, 60, 27, 16, 40, 163, 0, 29, 42, 180, 0, 120, 27, 42, 17, 5, 85, 182, 1, 104]
abbrev dktX5_opensThen_0 : List UInt8 := dkwX5_opensThen_0 ++ dktX5_opensThen_1
theorem dksX5_opensThen_0 : bcX5_opensThen.data.toList.drop 0 = dktX5_opensThen_0 := by decide +kernel
theorem dksX5_opensThen_1 : bcX5_opensThen.data.toList.drop 24 = dktX5_opensThen_1 := dk_seg dksX5_opensThen_0 24 rfl rfl
theorem dX5_opensThen_0 : decode bcX5_opensThen 0 = .ok (.aload_n 0, 1) := dk_42 (dk_at dksX5_opensThen_0 0 rfl rfl)
theorem dX5_opensThen_1 : decode bcX5_opensThen 1 = .ok (.invokevirtual 372, 3) := dk_182 1 116 (dk_at dksX5_opensThen_0 1 rfl rfl)
theorem dX5_opensThen_4 : decode bcX5_opensThen 4 = .ok (.iconst 0, 1) := dk_3 (dk_at dksX5_opensThen_0 4 rfl rfl)
theorem dX5_opensThen_5 : decode bcX5_opensThen 5 = .ok (.istore_n 1, 1) := dk_60 (dk_at dksX5_opensThen_0 5 rfl rfl)
theorem dX5_opensThen_6 : decode bcX5_opensThen 6 = .ok (.iload_n 1, 1) := dk_27 (dk_at dksX5_opensThen_0 6 rfl rfl)
theorem dX5_opensThen_7 : decode bcX5_opensThen 7 = .ok (.bipush 40, 2) := dk_16 40 (dk_at dksX5_opensThen_0 7 rfl rfl)
theorem dX5_opensThen_9 : decode bcX5_opensThen 9 = .ok (.if_icmp .gt 29, 3) := dk_163 0 29 (dk_at dksX5_opensThen_0 9 rfl rfl)
theorem dX5_opensThen_12 : decode bcX5_opensThen 12 = .ok (.aload_n 0, 1) := dk_42 (dk_at dksX5_opensThen_0 12 rfl rfl)
theorem dX5_opensThen_13 : decode bcX5_opensThen 13 = .ok (.getfield 120, 3) := dk_180 0 120 (dk_at dksX5_opensThen_0 13 rfl rfl)
theorem dX5_opensThen_16 : decode bcX5_opensThen 16 = .ok (.iload_n 1, 1) := dk_27 (dk_at dksX5_opensThen_0 16 rfl rfl)
theorem dX5_opensThen_17 : decode bcX5_opensThen 17 = .ok (.aload_n 0, 1) := dk_42 (dk_at dksX5_opensThen_0 17 rfl rfl)
theorem dX5_opensThen_18 : decode bcX5_opensThen 18 = .ok (.sipush 1365, 3) := dk_17 5 85 (dk_at dksX5_opensThen_0 18 rfl rfl)
theorem dX5_opensThen_21 : decode bcX5_opensThen 21 = .ok (.invokevirtual 360, 3) := dk_182 1 104 (dk_at dksX5_opensThen_0 21 rfl rfl)
theorem dX5_opensThen_24 : decode bcX5_opensThen 24 = .ok (.iastore, 1) := dk_79 (dk_at dksX5_opensThen_1 0 rfl rfl)
theorem dX5_opensThen_25 : decode bcX5_opensThen 25 = .ok (.aload_n 0, 1) := dk_42 (dk_at dksX5_opensThen_1 1 rfl rfl)
theorem dX5_opensThen_26 : decode bcX5_opensThen 26 = .ok (.sipush 1365, 3) := dk_17 5 85 (dk_at dksX5_opensThen_1 2 rfl rfl)
theorem dX5_opensThen_29 : decode bcX5_opensThen 29 = .ok (.invokevirtual 328, 3) := dk_182 1 72 (dk_at dksX5_opensThen_1 5 rfl rfl)
theorem dX5_opensThen_32 : decode bcX5_opensThen 32 = .ok (.iinc 1 1, 3) := dk_132 1 1 (dk_at dksX5_opensThen_1 8 rfl rfl)
theorem dX5_opensThen_35 : decode bcX5_opensThen 35 = .ok (.goto (-29), 3) := dk_167 255 227 (dk_at dksX5_opensThen_1 11 rfl rfl)
theorem dX5_opensThen_38 : decode bcX5_opensThen 38 = .ok (.return_, 1) := dk_177 (dk_at dksX5_opensThen_1 14 rfl rfl)
abbrev SX5_opensThen (pc : Nat) (i : xI) : Prop := Snd "SwollenHouseModel" "opensThen" prog_25_method_102_code 2 (Option.none : Option Jvm.ClassFile.FieldType) [] pc i
theorem oX5_opensThen_0 : SX5_opensThen 0 (i_aload 0 1) := snd_aload_n dX5_opensThen_0 rfl
theorem oX5_opensThen_1 : SX5_opensThen 1 (i_cvv 4 337 0 4) := snd_cvv rfl infX5_triesNow (by decide) rfl (xVm_V dX5_opensThen_1 rfl q2128 q2130 qs116 q136 q2131 pdX5_triesNow)
theorem oX5_opensThen_4 : SX5_opensThen 4 (i_const (.int (nI 0)) 5) := snd_iconst dX5_opensThen_4 (by decide)
theorem oX5_opensThen_5 : SX5_opensThen 5 (i_istore 1 6) := snd_istore_n dX5_opensThen_5 rfl (by decide)
theorem oX5_opensThen_6 : SX5_opensThen 6 (i_iload 1 7) := snd_iload_n dX5_opensThen_6 rfl
theorem oX5_opensThen_7 : SX5_opensThen 7 (i_const (.int (nI 40)) 9) := snd_bipush dX5_opensThen_7 (by decide)
theorem oX5_opensThen_9 : SX5_opensThen 9 (i_if2 (fun x y => y < x) 38 12) := snd_icmp_gt dX5_opensThen_9 (by decide)
theorem oX5_opensThen_12 : SX5_opensThen 12 (i_aload 0 13) := snd_aload_n dX5_opensThen_12 rfl
theorem oX5_opensThen_13 : SX5_opensThen 13 (i_getf 4 27 16) := snd_getf dX5_opensThen_13 rfl (by decide) in_X5 (Or.inl q1725) (Or.inl rfl) (by decide)
theorem oX5_opensThen_16 : SX5_opensThen 16 (i_iload 1 17) := snd_iload_n dX5_opensThen_16 rfl
theorem oX5_opensThen_17 : SX5_opensThen 17 (i_aload 0 18) := snd_aload_n dX5_opensThen_17 rfl
theorem oX5_opensThen_18 : SX5_opensThen 18 (i_const (.int (nI 1365)) 21) := snd_sipush dX5_opensThen_18 (by decide)
theorem oX5_opensThen_21 : SX5_opensThen 21 (i_cv 4 321 1 24) := snd_cv rfl infX5_openNow (by decide) rfl (xVm_V dX5_opensThen_21 rfl q2064 q2066 qs111 q136 q2067 pdX5_openNow)
theorem oX5_opensThen_24 : SX5_opensThen 24 (i_si (fun v => v) 0 25) := snd_si0 dX5_opensThen_24
theorem oX5_opensThen_25 : SX5_opensThen 25 (i_aload 0 26) := snd_aload_n dX5_opensThen_25 rfl
theorem oX5_opensThen_26 : SX5_opensThen 26 (i_const (.int (nI 1365)) 29) := snd_sipush dX5_opensThen_26 (by decide)
theorem oX5_opensThen_29 : SX5_opensThen 29 (i_cvv 4 296 1 32) := snd_cvv rfl infX5_passes (by decide) rfl (xVm_V dX5_opensThen_29 rfl q1966 q1968 qs96 q136 q1969 pdX5_passes)
theorem oX5_opensThen_32 : SX5_opensThen 32 (i_iinc 1 (nI 1) 35) := snd_iinc dX5_opensThen_32 (by decide) (by decide)
theorem oX5_opensThen_35 : SX5_opensThen 35 (i_goto 6) := snd_goto dX5_opensThen_35 (by decide)
theorem oX5_opensThen_38 : SX5_opensThen 38 (i_vret) := snd_vret dX5_opensThen_38 rfl
theorem okX5_opensThen : ∀ q ∈ cX5_opensThen, SX5_opensThen q.1 q.2 := List.forall_mem_cons.mpr ⟨oX5_opensThen_0, List.forall_mem_cons.mpr ⟨oX5_opensThen_1, List.forall_mem_cons.mpr ⟨oX5_opensThen_4, List.forall_mem_cons.mpr ⟨oX5_opensThen_5, List.forall_mem_cons.mpr ⟨oX5_opensThen_6, List.forall_mem_cons.mpr ⟨oX5_opensThen_7, List.forall_mem_cons.mpr ⟨oX5_opensThen_9, List.forall_mem_cons.mpr ⟨oX5_opensThen_12, List.forall_mem_cons.mpr ⟨oX5_opensThen_13, List.forall_mem_cons.mpr ⟨oX5_opensThen_16, List.forall_mem_cons.mpr ⟨oX5_opensThen_17, List.forall_mem_cons.mpr ⟨oX5_opensThen_18, List.forall_mem_cons.mpr ⟨oX5_opensThen_21, List.forall_mem_cons.mpr ⟨oX5_opensThen_24, List.forall_mem_cons.mpr ⟨oX5_opensThen_25, List.forall_mem_cons.mpr ⟨oX5_opensThen_26, List.forall_mem_cons.mpr ⟨oX5_opensThen_29, List.forall_mem_cons.mpr ⟨oX5_opensThen_32, List.forall_mem_cons.mpr ⟨oX5_opensThen_35, List.forall_mem_cons.mpr ⟨oX5_opensThen_38, fun _ h => absurd h List.not_mem_nil⟩⟩⟩⟩⟩⟩⟩⟩⟩⟩⟩⟩⟩⟩⟩⟩⟩⟩⟩⟩
def dkwX5_arrivesBy_1 : List UInt8 := [21, 4, 172, 42, 29, 42, 180, 0, 120, 21, 4, 46, 182, 1, 98, 62, 132, 4, 1, 167, 255, 221, 2, 172]
abbrev dktX5_arrivesBy_1 : List UInt8 := dkwX5_arrivesBy_1 ++ []
def dkwX5_arrivesBy_0 : List UInt8 := [4, 27, 120, 62, 3, 54, 4, 21, 4, 16, 40, 163, 0, 34, 29, 28, 122, 4, 126, 4, 160, 0, 6]
abbrev dktX5_arrivesBy_0 : List UInt8 := dkwX5_arrivesBy_0 ++ dktX5_arrivesBy_1
theorem dksX5_arrivesBy_0 : bcX5_arrivesBy.data.toList.drop 0 = dktX5_arrivesBy_0 := by decide +kernel
theorem dksX5_arrivesBy_1 : bcX5_arrivesBy.data.toList.drop 23 = dktX5_arrivesBy_1 := dk_seg dksX5_arrivesBy_0 23 rfl rfl
theorem dX5_arrivesBy_0 : decode bcX5_arrivesBy 0 = .ok (.iconst 1, 1) := dk_4 (dk_at dksX5_arrivesBy_0 0 rfl rfl)
theorem dX5_arrivesBy_1 : decode bcX5_arrivesBy 1 = .ok (.iload_n 1, 1) := dk_27 (dk_at dksX5_arrivesBy_0 1 rfl rfl)
theorem dX5_arrivesBy_2 : decode bcX5_arrivesBy 2 = .ok (.ishl, 1) := dk_120 (dk_at dksX5_arrivesBy_0 2 rfl rfl)
theorem dX5_arrivesBy_3 : decode bcX5_arrivesBy 3 = .ok (.istore_n 3, 1) := dk_62 (dk_at dksX5_arrivesBy_0 3 rfl rfl)
theorem dX5_arrivesBy_4 : decode bcX5_arrivesBy 4 = .ok (.iconst 0, 1) := dk_3 (dk_at dksX5_arrivesBy_0 4 rfl rfl)
theorem dX5_arrivesBy_5 : decode bcX5_arrivesBy 5 = .ok (.istore 4, 2) := dk_54 4 (dk_at dksX5_arrivesBy_0 5 rfl rfl)
theorem dX5_arrivesBy_7 : decode bcX5_arrivesBy 7 = .ok (.iload 4, 2) := dk_21 4 (dk_at dksX5_arrivesBy_0 7 rfl rfl)
theorem dX5_arrivesBy_9 : decode bcX5_arrivesBy 9 = .ok (.bipush 40, 2) := dk_16 40 (dk_at dksX5_arrivesBy_0 9 rfl rfl)
theorem dX5_arrivesBy_11 : decode bcX5_arrivesBy 11 = .ok (.if_icmp .gt 34, 3) := dk_163 0 34 (dk_at dksX5_arrivesBy_0 11 rfl rfl)
theorem dX5_arrivesBy_14 : decode bcX5_arrivesBy 14 = .ok (.iload_n 3, 1) := dk_29 (dk_at dksX5_arrivesBy_0 14 rfl rfl)
theorem dX5_arrivesBy_15 : decode bcX5_arrivesBy 15 = .ok (.iload_n 2, 1) := dk_28 (dk_at dksX5_arrivesBy_0 15 rfl rfl)
theorem dX5_arrivesBy_16 : decode bcX5_arrivesBy 16 = .ok (.ishr, 1) := dk_122 (dk_at dksX5_arrivesBy_0 16 rfl rfl)
theorem dX5_arrivesBy_17 : decode bcX5_arrivesBy 17 = .ok (.iconst 1, 1) := dk_4 (dk_at dksX5_arrivesBy_0 17 rfl rfl)
theorem dX5_arrivesBy_18 : decode bcX5_arrivesBy 18 = .ok (.iand, 1) := dk_126 (dk_at dksX5_arrivesBy_0 18 rfl rfl)
theorem dX5_arrivesBy_19 : decode bcX5_arrivesBy 19 = .ok (.iconst 1, 1) := dk_4 (dk_at dksX5_arrivesBy_0 19 rfl rfl)
theorem dX5_arrivesBy_20 : decode bcX5_arrivesBy 20 = .ok (.if_icmp .ne 6, 3) := dk_160 0 6 (dk_at dksX5_arrivesBy_0 20 rfl rfl)
theorem dX5_arrivesBy_23 : decode bcX5_arrivesBy 23 = .ok (.iload 4, 2) := dk_21 4 (dk_at dksX5_arrivesBy_1 0 rfl rfl)
theorem dX5_arrivesBy_25 : decode bcX5_arrivesBy 25 = .ok (.ireturn, 1) := dk_172 (dk_at dksX5_arrivesBy_1 2 rfl rfl)
theorem dX5_arrivesBy_26 : decode bcX5_arrivesBy 26 = .ok (.aload_n 0, 1) := dk_42 (dk_at dksX5_arrivesBy_1 3 rfl rfl)
theorem dX5_arrivesBy_27 : decode bcX5_arrivesBy 27 = .ok (.iload_n 3, 1) := dk_29 (dk_at dksX5_arrivesBy_1 4 rfl rfl)
theorem dX5_arrivesBy_28 : decode bcX5_arrivesBy 28 = .ok (.aload_n 0, 1) := dk_42 (dk_at dksX5_arrivesBy_1 5 rfl rfl)
theorem dX5_arrivesBy_29 : decode bcX5_arrivesBy 29 = .ok (.getfield 120, 3) := dk_180 0 120 (dk_at dksX5_arrivesBy_1 6 rfl rfl)
theorem dX5_arrivesBy_32 : decode bcX5_arrivesBy 32 = .ok (.iload 4, 2) := dk_21 4 (dk_at dksX5_arrivesBy_1 9 rfl rfl)
theorem dX5_arrivesBy_34 : decode bcX5_arrivesBy 34 = .ok (.iaload, 1) := dk_46 (dk_at dksX5_arrivesBy_1 11 rfl rfl)
theorem dX5_arrivesBy_35 : decode bcX5_arrivesBy 35 = .ok (.invokevirtual 354, 3) := dk_182 1 98 (dk_at dksX5_arrivesBy_1 12 rfl rfl)
theorem dX5_arrivesBy_38 : decode bcX5_arrivesBy 38 = .ok (.istore_n 3, 1) := dk_62 (dk_at dksX5_arrivesBy_1 15 rfl rfl)
theorem dX5_arrivesBy_39 : decode bcX5_arrivesBy 39 = .ok (.iinc 4 1, 3) := dk_132 4 1 (dk_at dksX5_arrivesBy_1 16 rfl rfl)
theorem dX5_arrivesBy_42 : decode bcX5_arrivesBy 42 = .ok (.goto (-35), 3) := dk_167 255 221 (dk_at dksX5_arrivesBy_1 19 rfl rfl)
theorem dX5_arrivesBy_45 : decode bcX5_arrivesBy 45 = .ok (.iconst (-1), 1) := dk_2 (dk_at dksX5_arrivesBy_1 22 rfl rfl)
theorem dX5_arrivesBy_46 : decode bcX5_arrivesBy 46 = .ok (.ireturn, 1) := dk_172 (dk_at dksX5_arrivesBy_1 23 rfl rfl)
abbrev SX5_arrivesBy (pc : Nat) (i : xI) : Prop := Snd "SwollenHouseModel" "arrivesBy" prog_25_method_103_code 5 (Option.some Jvm.ClassFile.FieldType.int) [] pc i
theorem oX5_arrivesBy_0 : SX5_arrivesBy 0 (i_const (.int (nI 1)) 1) := snd_iconst dX5_arrivesBy_0 (by decide)
theorem oX5_arrivesBy_1 : SX5_arrivesBy 1 (i_iload 1 2) := snd_iload_n dX5_arrivesBy_1 rfl
theorem oX5_arrivesBy_2 : SX5_arrivesBy 2 (i_ii (fun x y => x <<< (y &&& 31)) 3) := snd_ishl dX5_arrivesBy_2
theorem oX5_arrivesBy_3 : SX5_arrivesBy 3 (i_istore 3 4) := snd_istore_n dX5_arrivesBy_3 rfl (by decide)
theorem oX5_arrivesBy_4 : SX5_arrivesBy 4 (i_const (.int (nI 0)) 5) := snd_iconst dX5_arrivesBy_4 (by decide)
theorem oX5_arrivesBy_5 : SX5_arrivesBy 5 (i_istore 4 7) := snd_istore dX5_arrivesBy_5 (by decide)
theorem oX5_arrivesBy_7 : SX5_arrivesBy 7 (i_iload 4 9) := snd_iload dX5_arrivesBy_7
theorem oX5_arrivesBy_9 : SX5_arrivesBy 9 (i_const (.int (nI 40)) 11) := snd_bipush dX5_arrivesBy_9 (by decide)
theorem oX5_arrivesBy_11 : SX5_arrivesBy 11 (i_if2 (fun x y => y < x) 45 14) := snd_icmp_gt dX5_arrivesBy_11 (by decide)
theorem oX5_arrivesBy_14 : SX5_arrivesBy 14 (i_iload 3 15) := snd_iload_n dX5_arrivesBy_14 rfl
theorem oX5_arrivesBy_15 : SX5_arrivesBy 15 (i_iload 2 16) := snd_iload_n dX5_arrivesBy_15 rfl
theorem oX5_arrivesBy_16 : SX5_arrivesBy 16 (i_ii (fun x y => x >>> (y &&& 31)) 17) := snd_ishr dX5_arrivesBy_16
theorem oX5_arrivesBy_17 : SX5_arrivesBy 17 (i_const (.int (nI 1)) 18) := snd_iconst dX5_arrivesBy_17 (by decide)
theorem oX5_arrivesBy_18 : SX5_arrivesBy 18 (i_ii (fun x y => x &&& y) 19) := snd_iand dX5_arrivesBy_18
theorem oX5_arrivesBy_19 : SX5_arrivesBy 19 (i_const (.int (nI 1)) 20) := snd_iconst dX5_arrivesBy_19 (by decide)
theorem oX5_arrivesBy_20 : SX5_arrivesBy 20 (i_if2 (fun x y => ¬ x = y) 26 23) := snd_icmp_ne dX5_arrivesBy_20 (by decide)
theorem oX5_arrivesBy_23 : SX5_arrivesBy 23 (i_iload 4 25) := snd_iload dX5_arrivesBy_23
theorem oX5_arrivesBy_25 : SX5_arrivesBy 25 (i_iret) := snd_iret dX5_arrivesBy_25 rfl
theorem oX5_arrivesBy_26 : SX5_arrivesBy 26 (i_aload 0 27) := snd_aload_n dX5_arrivesBy_26 rfl
theorem oX5_arrivesBy_27 : SX5_arrivesBy 27 (i_iload 3 28) := snd_iload_n dX5_arrivesBy_27 rfl
theorem oX5_arrivesBy_28 : SX5_arrivesBy 28 (i_aload 0 29) := snd_aload_n dX5_arrivesBy_28 rfl
theorem oX5_arrivesBy_29 : SX5_arrivesBy 29 (i_getf 4 27 32) := snd_getf dX5_arrivesBy_29 rfl (by decide) in_X5 (Or.inl q1725) (Or.inl rfl) (by decide)
theorem oX5_arrivesBy_32 : SX5_arrivesBy 32 (i_iload 4 34) := snd_iload dX5_arrivesBy_32
theorem oX5_arrivesBy_34 : SX5_arrivesBy 34 (i_ai 0 35) := snd_ai0 dX5_arrivesBy_34
theorem oX5_arrivesBy_35 : SX5_arrivesBy 35 (i_cv 4 323 2 38) := snd_cv rfl infX5_onFrom (by decide) rfl (xVm_V dX5_arrivesBy_35 rfl q2072 q2074 qs113 q136 q2075 pdX5_onFrom)
theorem oX5_arrivesBy_38 : SX5_arrivesBy 38 (i_istore 3 39) := snd_istore_n dX5_arrivesBy_38 rfl (by decide)
theorem oX5_arrivesBy_39 : SX5_arrivesBy 39 (i_iinc 4 (nI 1) 42) := snd_iinc dX5_arrivesBy_39 (by decide) (by decide)
theorem oX5_arrivesBy_42 : SX5_arrivesBy 42 (i_goto 7) := snd_goto dX5_arrivesBy_42 (by decide)
theorem oX5_arrivesBy_45 : SX5_arrivesBy 45 (i_const (.int (-1)) 46) := snd_iconst dX5_arrivesBy_45 (by decide)
theorem oX5_arrivesBy_46 : SX5_arrivesBy 46 (i_iret) := snd_iret dX5_arrivesBy_46 rfl
theorem okX5_arrivesBy : ∀ q ∈ cX5_arrivesBy, SX5_arrivesBy q.1 q.2 := List.forall_mem_cons.mpr ⟨oX5_arrivesBy_0, List.forall_mem_cons.mpr ⟨oX5_arrivesBy_1, List.forall_mem_cons.mpr ⟨oX5_arrivesBy_2, List.forall_mem_cons.mpr ⟨oX5_arrivesBy_3, List.forall_mem_cons.mpr ⟨oX5_arrivesBy_4, List.forall_mem_cons.mpr ⟨oX5_arrivesBy_5, List.forall_mem_cons.mpr ⟨oX5_arrivesBy_7, List.forall_mem_cons.mpr ⟨oX5_arrivesBy_9, List.forall_mem_cons.mpr ⟨oX5_arrivesBy_11, List.forall_mem_cons.mpr ⟨oX5_arrivesBy_14, List.forall_mem_cons.mpr ⟨oX5_arrivesBy_15, List.forall_mem_cons.mpr ⟨oX5_arrivesBy_16, List.forall_mem_cons.mpr ⟨oX5_arrivesBy_17, List.forall_mem_cons.mpr ⟨oX5_arrivesBy_18, List.forall_mem_cons.mpr ⟨oX5_arrivesBy_19, List.forall_mem_cons.mpr ⟨oX5_arrivesBy_20, List.forall_mem_cons.mpr ⟨oX5_arrivesBy_23, List.forall_mem_cons.mpr ⟨oX5_arrivesBy_25, List.forall_mem_cons.mpr ⟨oX5_arrivesBy_26, List.forall_mem_cons.mpr ⟨oX5_arrivesBy_27, List.forall_mem_cons.mpr ⟨oX5_arrivesBy_28, List.forall_mem_cons.mpr ⟨oX5_arrivesBy_29, List.forall_mem_cons.mpr ⟨oX5_arrivesBy_32, List.forall_mem_cons.mpr ⟨oX5_arrivesBy_34, List.forall_mem_cons.mpr ⟨oX5_arrivesBy_35, List.forall_mem_cons.mpr ⟨oX5_arrivesBy_38, List.forall_mem_cons.mpr ⟨oX5_arrivesBy_39, List.forall_mem_cons.mpr ⟨oX5_arrivesBy_42, List.forall_mem_cons.mpr ⟨oX5_arrivesBy_45, List.forall_mem_cons.mpr ⟨oX5_arrivesBy_46, fun _ h => absurd h List.not_mem_nil⟩⟩⟩⟩⟩⟩⟩⟩⟩⟩⟩⟩⟩⟩⟩⟩⟩⟩⟩⟩⟩⟩⟩⟩⟩⟩⟩⟩⟩⟩
def dkwX5_from_3 : List UInt8 := [3, 128, 62, 132, 4, 1, 167, 255, 213, 29, 172]
abbrev dktX5_from_3 : List UInt8 := dkwX5_from_3 ++ []
def dkwX5_from_2 : List UInt8 := [182, 1, 126, 54, 5, 29, 21, 5, 155, 0, 16, 21, 5, 28, 163, 0, 10, 4, 21, 4, 120, 167, 0, 4]
abbrev dktX5_from_2 : List UInt8 := dkwX5_from_2 ++ dktX5_from_3
def dkwX5_from_1 : List UInt8 := [172, 42, 182, 1, 123, 3, 62, 3, 54, 4, 21, 4, 42, 182, 1, 35, 162, 0, 40, 42, 21, 4, 27]
abbrev dktX5_from_1 : List UInt8 := dkwX5_from_1 ++ dktX5_from_2
def dkwX5_from_0 : List UInt8 := [42, 3, 181, 0, 1, 42, 27, 182, 1, 101, 153, 0, 13, 28, 3, 16, 40, 184, 0, 204, 154, 0, 5, 2]
abbrev dktX5_from_0 : List UInt8 := dkwX5_from_0 ++ dktX5_from_1
theorem dksX5_from_0 : bcX5_from.data.toList.drop 0 = dktX5_from_0 := by decide +kernel
theorem dksX5_from_1 : bcX5_from.data.toList.drop 24 = dktX5_from_1 := dk_seg dksX5_from_0 24 rfl rfl
theorem dksX5_from_2 : bcX5_from.data.toList.drop 47 = dktX5_from_2 := dk_seg dksX5_from_1 23 rfl rfl
theorem dksX5_from_3 : bcX5_from.data.toList.drop 71 = dktX5_from_3 := dk_seg dksX5_from_2 24 rfl rfl
theorem dX5_from_0 : decode bcX5_from 0 = .ok (.aload_n 0, 1) := dk_42 (dk_at dksX5_from_0 0 rfl rfl)
theorem dX5_from_1 : decode bcX5_from 1 = .ok (.iconst 0, 1) := dk_3 (dk_at dksX5_from_0 1 rfl rfl)
theorem dX5_from_2 : decode bcX5_from 2 = .ok (.putfield 1, 3) := dk_181 0 1 (dk_at dksX5_from_0 2 rfl rfl)
theorem dX5_from_5 : decode bcX5_from 5 = .ok (.aload_n 0, 1) := dk_42 (dk_at dksX5_from_0 5 rfl rfl)
theorem dX5_from_6 : decode bcX5_from 6 = .ok (.iload_n 1, 1) := dk_27 (dk_at dksX5_from_0 6 rfl rfl)
theorem dX5_from_7 : decode bcX5_from 7 = .ok (.invokevirtual 357, 3) := dk_182 1 101 (dk_at dksX5_from_0 7 rfl rfl)
theorem dX5_from_10 : decode bcX5_from 10 = .ok (.ifCond .eq 13, 3) := dk_153 0 13 (dk_at dksX5_from_0 10 rfl rfl)
theorem dX5_from_13 : decode bcX5_from 13 = .ok (.iload_n 2, 1) := dk_28 (dk_at dksX5_from_0 13 rfl rfl)
theorem dX5_from_14 : decode bcX5_from 14 = .ok (.iconst 0, 1) := dk_3 (dk_at dksX5_from_0 14 rfl rfl)
theorem dX5_from_15 : decode bcX5_from 15 = .ok (.bipush 40, 2) := dk_16 40 (dk_at dksX5_from_0 15 rfl rfl)
theorem dX5_from_17 : decode bcX5_from 17 = .ok (.invokestatic 204, 3) := dk_184 0 204 (dk_at dksX5_from_0 17 rfl rfl)
theorem dX5_from_20 : decode bcX5_from 20 = .ok (.ifCond .ne 5, 3) := dk_154 0 5 (dk_at dksX5_from_0 20 rfl rfl)
theorem dX5_from_23 : decode bcX5_from 23 = .ok (.iconst (-1), 1) := dk_2 (dk_at dksX5_from_0 23 rfl rfl)
theorem dX5_from_24 : decode bcX5_from 24 = .ok (.ireturn, 1) := dk_172 (dk_at dksX5_from_1 0 rfl rfl)
theorem dX5_from_25 : decode bcX5_from 25 = .ok (.aload_n 0, 1) := dk_42 (dk_at dksX5_from_1 1 rfl rfl)
theorem dX5_from_26 : decode bcX5_from 26 = .ok (.invokevirtual 379, 3) := dk_182 1 123 (dk_at dksX5_from_1 2 rfl rfl)
theorem dX5_from_29 : decode bcX5_from 29 = .ok (.iconst 0, 1) := dk_3 (dk_at dksX5_from_1 5 rfl rfl)
theorem dX5_from_30 : decode bcX5_from 30 = .ok (.istore_n 3, 1) := dk_62 (dk_at dksX5_from_1 6 rfl rfl)
theorem dX5_from_31 : decode bcX5_from 31 = .ok (.iconst 0, 1) := dk_3 (dk_at dksX5_from_1 7 rfl rfl)
theorem dX5_from_32 : decode bcX5_from 32 = .ok (.istore 4, 2) := dk_54 4 (dk_at dksX5_from_1 8 rfl rfl)
theorem dX5_from_34 : decode bcX5_from 34 = .ok (.iload 4, 2) := dk_21 4 (dk_at dksX5_from_1 10 rfl rfl)
theorem dX5_from_36 : decode bcX5_from 36 = .ok (.aload_n 0, 1) := dk_42 (dk_at dksX5_from_1 12 rfl rfl)
theorem dX5_from_37 : decode bcX5_from 37 = .ok (.invokevirtual 291, 3) := dk_182 1 35 (dk_at dksX5_from_1 13 rfl rfl)
theorem dX5_from_40 : decode bcX5_from 40 = .ok (.if_icmp .ge 40, 3) := dk_162 0 40 (dk_at dksX5_from_1 16 rfl rfl)
theorem dX5_from_43 : decode bcX5_from 43 = .ok (.aload_n 0, 1) := dk_42 (dk_at dksX5_from_1 19 rfl rfl)
theorem dX5_from_44 : decode bcX5_from 44 = .ok (.iload 4, 2) := dk_21 4 (dk_at dksX5_from_1 20 rfl rfl)
theorem dX5_from_46 : decode bcX5_from 46 = .ok (.iload_n 1, 1) := dk_27 (dk_at dksX5_from_1 22 rfl rfl)
theorem dX5_from_47 : decode bcX5_from 47 = .ok (.invokevirtual 382, 3) := dk_182 1 126 (dk_at dksX5_from_2 0 rfl rfl)
theorem dX5_from_50 : decode bcX5_from 50 = .ok (.istore 5, 2) := dk_54 5 (dk_at dksX5_from_2 3 rfl rfl)
theorem dX5_from_52 : decode bcX5_from 52 = .ok (.iload_n 3, 1) := dk_29 (dk_at dksX5_from_2 5 rfl rfl)
theorem dX5_from_53 : decode bcX5_from 53 = .ok (.iload 5, 2) := dk_21 5 (dk_at dksX5_from_2 6 rfl rfl)
theorem dX5_from_55 : decode bcX5_from 55 = .ok (.ifCond .lt 16, 3) := dk_155 0 16 (dk_at dksX5_from_2 8 rfl rfl)
theorem dX5_from_58 : decode bcX5_from 58 = .ok (.iload 5, 2) := dk_21 5 (dk_at dksX5_from_2 11 rfl rfl)
theorem dX5_from_60 : decode bcX5_from 60 = .ok (.iload_n 2, 1) := dk_28 (dk_at dksX5_from_2 13 rfl rfl)
theorem dX5_from_61 : decode bcX5_from 61 = .ok (.if_icmp .gt 10, 3) := dk_163 0 10 (dk_at dksX5_from_2 14 rfl rfl)
theorem dX5_from_64 : decode bcX5_from 64 = .ok (.iconst 1, 1) := dk_4 (dk_at dksX5_from_2 17 rfl rfl)
theorem dX5_from_65 : decode bcX5_from 65 = .ok (.iload 4, 2) := dk_21 4 (dk_at dksX5_from_2 18 rfl rfl)
theorem dX5_from_67 : decode bcX5_from 67 = .ok (.ishl, 1) := dk_120 (dk_at dksX5_from_2 20 rfl rfl)
theorem dX5_from_68 : decode bcX5_from 68 = .ok (.goto 4, 3) := dk_167 0 4 (dk_at dksX5_from_2 21 rfl rfl)
theorem dX5_from_71 : decode bcX5_from 71 = .ok (.iconst 0, 1) := dk_3 (dk_at dksX5_from_3 0 rfl rfl)
theorem dX5_from_72 : decode bcX5_from 72 = .ok (.ior, 1) := dk_128 (dk_at dksX5_from_3 1 rfl rfl)
theorem dX5_from_73 : decode bcX5_from 73 = .ok (.istore_n 3, 1) := dk_62 (dk_at dksX5_from_3 2 rfl rfl)
theorem dX5_from_74 : decode bcX5_from 74 = .ok (.iinc 4 1, 3) := dk_132 4 1 (dk_at dksX5_from_3 3 rfl rfl)
theorem dX5_from_77 : decode bcX5_from 77 = .ok (.goto (-43), 3) := dk_167 255 213 (dk_at dksX5_from_3 6 rfl rfl)
theorem dX5_from_80 : decode bcX5_from 80 = .ok (.iload_n 3, 1) := dk_29 (dk_at dksX5_from_3 9 rfl rfl)
theorem dX5_from_81 : decode bcX5_from 81 = .ok (.ireturn, 1) := dk_172 (dk_at dksX5_from_3 10 rfl rfl)
abbrev SX5_from (pc : Nat) (i : xI) : Prop := Snd "SwollenHouseModel" "from" prog_25_method_105_code 6 (Option.some Jvm.ClassFile.FieldType.int) [] pc i
theorem oX5_from_0 : SX5_from 0 (i_aload 0 1) := snd_aload_n dX5_from_0 rfl
theorem oX5_from_1 : SX5_from 1 (i_const (.int (nI 0)) 2) := snd_iconst dX5_from_1 (by decide)
theorem oX5_from_2 : SX5_from 2 (i_putfi 4 0 5) := snd_putfi dX5_from_2 rfl (by decide) in_X5 tyX5 tyX5_ok nmX5 (Or.inl ⟨rfl, q1698⟩) (Or.inl rfl) rfl
theorem oX5_from_5 : SX5_from 5 (i_aload 0 6) := snd_aload_n dX5_from_5 rfl
theorem oX5_from_6 : SX5_from 6 (i_iload 1 7) := snd_iload_n dX5_from_6 rfl
theorem oX5_from_7 : SX5_from 7 (i_cv 4 319 1 10) := snd_cv rfl infX5_isRoom (by decide) rfl (xVm_V dX5_from_7 rfl q2056 q2058 qs109 q136 q2059 pdX5_isRoom)
theorem oX5_from_10 : SX5_from 10 (i_if1 (fun x => x = 0) 23 13) := snd_if_eq dX5_from_10 (by decide)
theorem oX5_from_13 : SX5_from 13 (i_iload 2 14) := snd_iload_n dX5_from_13 rfl
theorem oX5_from_14 : SX5_from 14 (i_const (.int (nI 0)) 15) := snd_iconst dX5_from_14 (by decide)
theorem oX5_from_15 : SX5_from 15 (i_const (.int (nI 40)) 17) := snd_bipush dX5_from_15 (by decide)
theorem oX5_from_17 : SX5_from 17 (i_cs 268 3 20) := snd_cs rfl infX5_within (by decide) (xSm_S dX5_from_17 q1855 q1856 q136 q1857 pdX5_within)
theorem oX5_from_20 : SX5_from 20 (i_if1 (fun x => ¬ x = 0) 25 23) := snd_if_ne dX5_from_20 (by decide)
theorem oX5_from_23 : SX5_from 23 (i_const (.int (-1)) 24) := snd_iconst dX5_from_23 (by decide)
theorem oX5_from_24 : SX5_from 24 (i_iret) := snd_iret dX5_from_24 rfl
theorem oX5_from_25 : SX5_from 25 (i_aload 0 26) := snd_aload_n dX5_from_25 rfl
theorem oX5_from_26 : SX5_from 26 (i_cvv 4 344 0 29) := snd_cvv rfl infX5_opensThen (by decide) rfl (xVm_V dX5_from_26 rfl q2156 q2158 qs118 q136 q2159 pdX5_opensThen)
theorem oX5_from_29 : SX5_from 29 (i_const (.int (nI 0)) 30) := snd_iconst dX5_from_29 (by decide)
theorem oX5_from_30 : SX5_from 30 (i_istore 3 31) := snd_istore_n dX5_from_30 rfl (by decide)
theorem oX5_from_31 : SX5_from 31 (i_const (.int (nI 0)) 32) := snd_iconst dX5_from_31 (by decide)
theorem oX5_from_32 : SX5_from 32 (i_istore 4 34) := snd_istore dX5_from_32 (by decide)
theorem oX5_from_34 : SX5_from 34 (i_iload 4 36) := snd_iload dX5_from_34
theorem oX5_from_36 : SX5_from 36 (i_aload 0 37) := snd_aload_n dX5_from_36 rfl
theorem oX5_from_37 : SX5_from 37 (i_cv 4 320 0 40) := snd_cv rfl infX5_rooms (by decide) rfl (xVm_V dX5_from_37 rfl q2060 q2062 qs110 q136 q2063 pdX5_rooms)
theorem oX5_from_40 : SX5_from 40 (i_if2 (fun x y => y ≤ x) 80 43) := snd_icmp_ge dX5_from_40 (by decide)
theorem oX5_from_43 : SX5_from 43 (i_aload 0 44) := snd_aload_n dX5_from_43 rfl
theorem oX5_from_44 : SX5_from 44 (i_iload 4 46) := snd_iload dX5_from_44
theorem oX5_from_46 : SX5_from 46 (i_iload 1 47) := snd_iload_n dX5_from_46 rfl
theorem oX5_from_47 : SX5_from 47 (i_cv 4 345 2 50) := snd_cv rfl infX5_arrivesBy (by decide) rfl (xVm_V dX5_from_47 rfl q2160 q2162 qs119 q136 q2163 pdX5_arrivesBy)
theorem oX5_from_50 : SX5_from 50 (i_istore 5 52) := snd_istore dX5_from_50 (by decide)
theorem oX5_from_52 : SX5_from 52 (i_iload 3 53) := snd_iload_n dX5_from_52 rfl
theorem oX5_from_53 : SX5_from 53 (i_iload 5 55) := snd_iload dX5_from_53
theorem oX5_from_55 : SX5_from 55 (i_if1 (fun x => x < 0) 71 58) := snd_if_lt dX5_from_55 (by decide)
theorem oX5_from_58 : SX5_from 58 (i_iload 5 60) := snd_iload dX5_from_58
theorem oX5_from_60 : SX5_from 60 (i_iload 2 61) := snd_iload_n dX5_from_60 rfl
theorem oX5_from_61 : SX5_from 61 (i_if2 (fun x y => y < x) 71 64) := snd_icmp_gt dX5_from_61 (by decide)
theorem oX5_from_64 : SX5_from 64 (i_const (.int (nI 1)) 65) := snd_iconst dX5_from_64 (by decide)
theorem oX5_from_65 : SX5_from 65 (i_iload 4 67) := snd_iload dX5_from_65
theorem oX5_from_67 : SX5_from 67 (i_ii (fun x y => x <<< (y &&& 31)) 68) := snd_ishl dX5_from_67
theorem oX5_from_68 : SX5_from 68 (i_goto 72) := snd_goto dX5_from_68 (by decide)
theorem oX5_from_71 : SX5_from 71 (i_const (.int (nI 0)) 72) := snd_iconst dX5_from_71 (by decide)
theorem oX5_from_72 : SX5_from 72 (i_ii (fun x y => x ||| y) 73) := snd_ior dX5_from_72
theorem oX5_from_73 : SX5_from 73 (i_istore 3 74) := snd_istore_n dX5_from_73 rfl (by decide)
theorem oX5_from_74 : SX5_from 74 (i_iinc 4 (nI 1) 77) := snd_iinc dX5_from_74 (by decide) (by decide)
theorem oX5_from_77 : SX5_from 77 (i_goto 34) := snd_goto dX5_from_77 (by decide)
theorem oX5_from_80 : SX5_from 80 (i_iload 3 81) := snd_iload_n dX5_from_80 rfl
theorem oX5_from_81 : SX5_from 81 (i_iret) := snd_iret dX5_from_81 rfl
theorem okX5_from : ∀ q ∈ cX5_from, SX5_from q.1 q.2 := List.forall_mem_cons.mpr ⟨oX5_from_0, List.forall_mem_cons.mpr ⟨oX5_from_1, List.forall_mem_cons.mpr ⟨oX5_from_2, List.forall_mem_cons.mpr ⟨oX5_from_5, List.forall_mem_cons.mpr ⟨oX5_from_6, List.forall_mem_cons.mpr ⟨oX5_from_7, List.forall_mem_cons.mpr ⟨oX5_from_10, List.forall_mem_cons.mpr ⟨oX5_from_13, List.forall_mem_cons.mpr ⟨oX5_from_14, List.forall_mem_cons.mpr ⟨oX5_from_15, List.forall_mem_cons.mpr ⟨oX5_from_17, List.forall_mem_cons.mpr ⟨oX5_from_20, List.forall_mem_cons.mpr ⟨oX5_from_23, List.forall_mem_cons.mpr ⟨oX5_from_24, List.forall_mem_cons.mpr ⟨oX5_from_25, List.forall_mem_cons.mpr ⟨oX5_from_26, List.forall_mem_cons.mpr ⟨oX5_from_29, List.forall_mem_cons.mpr ⟨oX5_from_30, List.forall_mem_cons.mpr ⟨oX5_from_31, List.forall_mem_cons.mpr ⟨oX5_from_32, List.forall_mem_cons.mpr ⟨oX5_from_34, List.forall_mem_cons.mpr ⟨oX5_from_36, List.forall_mem_cons.mpr ⟨oX5_from_37, List.forall_mem_cons.mpr ⟨oX5_from_40, List.forall_mem_cons.mpr ⟨oX5_from_43, List.forall_mem_cons.mpr ⟨oX5_from_44, List.forall_mem_cons.mpr ⟨oX5_from_46, List.forall_mem_cons.mpr ⟨oX5_from_47, List.forall_mem_cons.mpr ⟨oX5_from_50, List.forall_mem_cons.mpr ⟨oX5_from_52, List.forall_mem_cons.mpr ⟨oX5_from_53, List.forall_mem_cons.mpr ⟨oX5_from_55, List.forall_mem_cons.mpr ⟨oX5_from_58, List.forall_mem_cons.mpr ⟨oX5_from_60, List.forall_mem_cons.mpr ⟨oX5_from_61, List.forall_mem_cons.mpr ⟨oX5_from_64, List.forall_mem_cons.mpr ⟨oX5_from_65, List.forall_mem_cons.mpr ⟨oX5_from_67, List.forall_mem_cons.mpr ⟨oX5_from_68, List.forall_mem_cons.mpr ⟨oX5_from_71, List.forall_mem_cons.mpr ⟨oX5_from_72, List.forall_mem_cons.mpr ⟨oX5_from_73, List.forall_mem_cons.mpr ⟨oX5_from_74, List.forall_mem_cons.mpr ⟨oX5_from_77, List.forall_mem_cons.mpr ⟨oX5_from_80, List.forall_mem_cons.mpr ⟨oX5_from_81, fun _ h => absurd h List.not_mem_nil⟩⟩⟩⟩⟩⟩⟩⟩⟩⟩⟩⟩⟩⟩⟩⟩⟩⟩⟩⟩⟩⟩⟩⟩⟩⟩⟩⟩⟩⟩⟩⟩⟩⟩⟩⟩⟩⟩⟩⟩⟩⟩⟩⟩⟩⟩
def dkwX5_both_2_4 : List UInt8 := [180, 0, 120, 21, 5, 46, 182, 1, 98, 54, 4, 132, 5, 1, 167, 255, 208, 2, 172]
abbrev dktX5_both_2_4 : List UInt8 := dkwX5_both_2_4 ++ []
def dkwX5_both_2_3 : List UInt8 := [126, 153, 0, 6, 21, 5, 172, 42, 29, 42, 180, 0, 120, 21, 5, 46, 182, 1, 98, 62, 42, 21, 4, 42]
abbrev dktX5_both_2_3 : List UInt8 := dkwX5_both_2_3 ++ dktX5_both_2_4
def dkwX5_both_2_2 : List UInt8 := [180, 0, 113, 16, 18, 28, 96, 46, 120, 54, 4, 3, 54, 5, 21, 5, 16, 40, 163, 0, 47, 29, 21, 4]
abbrev dktX5_both_2_2 : List UInt8 := dkwX5_both_2_2 ++ dktX5_both_2_3
def dkwX5_both_2_1 : List UInt8 := [160, 0, 5, 2, 172, 42, 182, 1, 123, 4, 42, 180, 0, 113, 16, 18, 27, 96, 46, 120, 62, 4, 42]
abbrev dktX5_both_2_1 : List UInt8 := dkwX5_both_2_1 ++ dktX5_both_2_2
def dkwX5_both_2_0 : List UInt8 := [42, 3, 181, 0, 1, 42, 27, 182, 1, 66, 153, 0, 16, 42, 28, 182, 1, 66, 153, 0, 8, 27, 28]
abbrev dktX5_both_2_0 : List UInt8 := dkwX5_both_2_0 ++ dktX5_both_2_1
theorem dksX5_both_2_0 : bcX5_both_2.data.toList.drop 0 = dktX5_both_2_0 := by decide +kernel
theorem dksX5_both_2_1 : bcX5_both_2.data.toList.drop 23 = dktX5_both_2_1 := dk_seg dksX5_both_2_0 23 rfl rfl
theorem dksX5_both_2_2 : bcX5_both_2.data.toList.drop 46 = dktX5_both_2_2 := dk_seg dksX5_both_2_1 23 rfl rfl
theorem dksX5_both_2_3 : bcX5_both_2.data.toList.drop 70 = dktX5_both_2_3 := dk_seg dksX5_both_2_2 24 rfl rfl
theorem dksX5_both_2_4 : bcX5_both_2.data.toList.drop 94 = dktX5_both_2_4 := dk_seg dksX5_both_2_3 24 rfl rfl
theorem dX5_both_2_0 : decode bcX5_both_2 0 = .ok (.aload_n 0, 1) := dk_42 (dk_at dksX5_both_2_0 0 rfl rfl)
theorem dX5_both_2_1 : decode bcX5_both_2 1 = .ok (.iconst 0, 1) := dk_3 (dk_at dksX5_both_2_0 1 rfl rfl)
theorem dX5_both_2_2 : decode bcX5_both_2 2 = .ok (.putfield 1, 3) := dk_181 0 1 (dk_at dksX5_both_2_0 2 rfl rfl)
theorem dX5_both_2_5 : decode bcX5_both_2 5 = .ok (.aload_n 0, 1) := dk_42 (dk_at dksX5_both_2_0 5 rfl rfl)
theorem dX5_both_2_6 : decode bcX5_both_2 6 = .ok (.iload_n 1, 1) := dk_27 (dk_at dksX5_both_2_0 6 rfl rfl)
theorem dX5_both_2_7 : decode bcX5_both_2 7 = .ok (.invokevirtual 322, 3) := dk_182 1 66 (dk_at dksX5_both_2_0 7 rfl rfl)
theorem dX5_both_2_10 : decode bcX5_both_2 10 = .ok (.ifCond .eq 16, 3) := dk_153 0 16 (dk_at dksX5_both_2_0 10 rfl rfl)
theorem dX5_both_2_13 : decode bcX5_both_2 13 = .ok (.aload_n 0, 1) := dk_42 (dk_at dksX5_both_2_0 13 rfl rfl)
theorem dX5_both_2_14 : decode bcX5_both_2 14 = .ok (.iload_n 2, 1) := dk_28 (dk_at dksX5_both_2_0 14 rfl rfl)
theorem dX5_both_2_15 : decode bcX5_both_2 15 = .ok (.invokevirtual 322, 3) := dk_182 1 66 (dk_at dksX5_both_2_0 15 rfl rfl)
theorem dX5_both_2_18 : decode bcX5_both_2 18 = .ok (.ifCond .eq 8, 3) := dk_153 0 8 (dk_at dksX5_both_2_0 18 rfl rfl)
theorem dX5_both_2_21 : decode bcX5_both_2 21 = .ok (.iload_n 1, 1) := dk_27 (dk_at dksX5_both_2_0 21 rfl rfl)
theorem dX5_both_2_22 : decode bcX5_both_2 22 = .ok (.iload_n 2, 1) := dk_28 (dk_at dksX5_both_2_0 22 rfl rfl)
theorem dX5_both_2_23 : decode bcX5_both_2 23 = .ok (.if_icmp .ne 5, 3) := dk_160 0 5 (dk_at dksX5_both_2_1 0 rfl rfl)
theorem dX5_both_2_26 : decode bcX5_both_2 26 = .ok (.iconst (-1), 1) := dk_2 (dk_at dksX5_both_2_1 3 rfl rfl)
theorem dX5_both_2_27 : decode bcX5_both_2 27 = .ok (.ireturn, 1) := dk_172 (dk_at dksX5_both_2_1 4 rfl rfl)
theorem dX5_both_2_28 : decode bcX5_both_2 28 = .ok (.aload_n 0, 1) := dk_42 (dk_at dksX5_both_2_1 5 rfl rfl)
theorem dX5_both_2_29 : decode bcX5_both_2 29 = .ok (.invokevirtual 379, 3) := dk_182 1 123 (dk_at dksX5_both_2_1 6 rfl rfl)
theorem dX5_both_2_32 : decode bcX5_both_2 32 = .ok (.iconst 1, 1) := dk_4 (dk_at dksX5_both_2_1 9 rfl rfl)
theorem dX5_both_2_33 : decode bcX5_both_2 33 = .ok (.aload_n 0, 1) := dk_42 (dk_at dksX5_both_2_1 10 rfl rfl)
theorem dX5_both_2_34 : decode bcX5_both_2 34 = .ok (.getfield 113, 3) := dk_180 0 113 (dk_at dksX5_both_2_1 11 rfl rfl)
theorem dX5_both_2_37 : decode bcX5_both_2 37 = .ok (.bipush 18, 2) := dk_16 18 (dk_at dksX5_both_2_1 14 rfl rfl)
theorem dX5_both_2_39 : decode bcX5_both_2 39 = .ok (.iload_n 1, 1) := dk_27 (dk_at dksX5_both_2_1 16 rfl rfl)
theorem dX5_both_2_40 : decode bcX5_both_2 40 = .ok (.iadd, 1) := dk_96 (dk_at dksX5_both_2_1 17 rfl rfl)
theorem dX5_both_2_41 : decode bcX5_both_2 41 = .ok (.iaload, 1) := dk_46 (dk_at dksX5_both_2_1 18 rfl rfl)
theorem dX5_both_2_42 : decode bcX5_both_2 42 = .ok (.ishl, 1) := dk_120 (dk_at dksX5_both_2_1 19 rfl rfl)
theorem dX5_both_2_43 : decode bcX5_both_2 43 = .ok (.istore_n 3, 1) := dk_62 (dk_at dksX5_both_2_1 20 rfl rfl)
theorem dX5_both_2_44 : decode bcX5_both_2 44 = .ok (.iconst 1, 1) := dk_4 (dk_at dksX5_both_2_1 21 rfl rfl)
theorem dX5_both_2_45 : decode bcX5_both_2 45 = .ok (.aload_n 0, 1) := dk_42 (dk_at dksX5_both_2_1 22 rfl rfl)
theorem dX5_both_2_46 : decode bcX5_both_2 46 = .ok (.getfield 113, 3) := dk_180 0 113 (dk_at dksX5_both_2_2 0 rfl rfl)
theorem dX5_both_2_49 : decode bcX5_both_2 49 = .ok (.bipush 18, 2) := dk_16 18 (dk_at dksX5_both_2_2 3 rfl rfl)
theorem dX5_both_2_51 : decode bcX5_both_2 51 = .ok (.iload_n 2, 1) := dk_28 (dk_at dksX5_both_2_2 5 rfl rfl)
theorem dX5_both_2_52 : decode bcX5_both_2 52 = .ok (.iadd, 1) := dk_96 (dk_at dksX5_both_2_2 6 rfl rfl)
theorem dX5_both_2_53 : decode bcX5_both_2 53 = .ok (.iaload, 1) := dk_46 (dk_at dksX5_both_2_2 7 rfl rfl)
theorem dX5_both_2_54 : decode bcX5_both_2 54 = .ok (.ishl, 1) := dk_120 (dk_at dksX5_both_2_2 8 rfl rfl)
theorem dX5_both_2_55 : decode bcX5_both_2 55 = .ok (.istore 4, 2) := dk_54 4 (dk_at dksX5_both_2_2 9 rfl rfl)
theorem dX5_both_2_57 : decode bcX5_both_2 57 = .ok (.iconst 0, 1) := dk_3 (dk_at dksX5_both_2_2 11 rfl rfl)
theorem dX5_both_2_58 : decode bcX5_both_2 58 = .ok (.istore 5, 2) := dk_54 5 (dk_at dksX5_both_2_2 12 rfl rfl)
theorem dX5_both_2_60 : decode bcX5_both_2 60 = .ok (.iload 5, 2) := dk_21 5 (dk_at dksX5_both_2_2 14 rfl rfl)
theorem dX5_both_2_62 : decode bcX5_both_2 62 = .ok (.bipush 40, 2) := dk_16 40 (dk_at dksX5_both_2_2 16 rfl rfl)
theorem dX5_both_2_64 : decode bcX5_both_2 64 = .ok (.if_icmp .gt 47, 3) := dk_163 0 47 (dk_at dksX5_both_2_2 18 rfl rfl)
theorem dX5_both_2_67 : decode bcX5_both_2 67 = .ok (.iload_n 3, 1) := dk_29 (dk_at dksX5_both_2_2 21 rfl rfl)
theorem dX5_both_2_68 : decode bcX5_both_2 68 = .ok (.iload 4, 2) := dk_21 4 (dk_at dksX5_both_2_2 22 rfl rfl)
theorem dX5_both_2_70 : decode bcX5_both_2 70 = .ok (.iand, 1) := dk_126 (dk_at dksX5_both_2_3 0 rfl rfl)
theorem dX5_both_2_71 : decode bcX5_both_2 71 = .ok (.ifCond .eq 6, 3) := dk_153 0 6 (dk_at dksX5_both_2_3 1 rfl rfl)
theorem dX5_both_2_74 : decode bcX5_both_2 74 = .ok (.iload 5, 2) := dk_21 5 (dk_at dksX5_both_2_3 4 rfl rfl)
theorem dX5_both_2_76 : decode bcX5_both_2 76 = .ok (.ireturn, 1) := dk_172 (dk_at dksX5_both_2_3 6 rfl rfl)
theorem dX5_both_2_77 : decode bcX5_both_2 77 = .ok (.aload_n 0, 1) := dk_42 (dk_at dksX5_both_2_3 7 rfl rfl)
theorem dX5_both_2_78 : decode bcX5_both_2 78 = .ok (.iload_n 3, 1) := dk_29 (dk_at dksX5_both_2_3 8 rfl rfl)
theorem dX5_both_2_79 : decode bcX5_both_2 79 = .ok (.aload_n 0, 1) := dk_42 (dk_at dksX5_both_2_3 9 rfl rfl)
theorem dX5_both_2_80 : decode bcX5_both_2 80 = .ok (.getfield 120, 3) := dk_180 0 120 (dk_at dksX5_both_2_3 10 rfl rfl)
theorem dX5_both_2_83 : decode bcX5_both_2 83 = .ok (.iload 5, 2) := dk_21 5 (dk_at dksX5_both_2_3 13 rfl rfl)
theorem dX5_both_2_85 : decode bcX5_both_2 85 = .ok (.iaload, 1) := dk_46 (dk_at dksX5_both_2_3 15 rfl rfl)
theorem dX5_both_2_86 : decode bcX5_both_2 86 = .ok (.invokevirtual 354, 3) := dk_182 1 98 (dk_at dksX5_both_2_3 16 rfl rfl)
theorem dX5_both_2_89 : decode bcX5_both_2 89 = .ok (.istore_n 3, 1) := dk_62 (dk_at dksX5_both_2_3 19 rfl rfl)
theorem dX5_both_2_90 : decode bcX5_both_2 90 = .ok (.aload_n 0, 1) := dk_42 (dk_at dksX5_both_2_3 20 rfl rfl)
theorem dX5_both_2_91 : decode bcX5_both_2 91 = .ok (.iload 4, 2) := dk_21 4 (dk_at dksX5_both_2_3 21 rfl rfl)
theorem dX5_both_2_93 : decode bcX5_both_2 93 = .ok (.aload_n 0, 1) := dk_42 (dk_at dksX5_both_2_3 23 rfl rfl)
theorem dX5_both_2_94 : decode bcX5_both_2 94 = .ok (.getfield 120, 3) := dk_180 0 120 (dk_at dksX5_both_2_4 0 rfl rfl)
theorem dX5_both_2_97 : decode bcX5_both_2 97 = .ok (.iload 5, 2) := dk_21 5 (dk_at dksX5_both_2_4 3 rfl rfl)
theorem dX5_both_2_99 : decode bcX5_both_2 99 = .ok (.iaload, 1) := dk_46 (dk_at dksX5_both_2_4 5 rfl rfl)
theorem dX5_both_2_100 : decode bcX5_both_2 100 = .ok (.invokevirtual 354, 3) := dk_182 1 98 (dk_at dksX5_both_2_4 6 rfl rfl)
theorem dX5_both_2_103 : decode bcX5_both_2 103 = .ok (.istore 4, 2) := dk_54 4 (dk_at dksX5_both_2_4 9 rfl rfl)
theorem dX5_both_2_105 : decode bcX5_both_2 105 = .ok (.iinc 5 1, 3) := dk_132 5 1 (dk_at dksX5_both_2_4 11 rfl rfl)
theorem dX5_both_2_108 : decode bcX5_both_2 108 = .ok (.goto (-48), 3) := dk_167 255 208 (dk_at dksX5_both_2_4 14 rfl rfl)
theorem dX5_both_2_111 : decode bcX5_both_2 111 = .ok (.iconst (-1), 1) := dk_2 (dk_at dksX5_both_2_4 17 rfl rfl)
theorem dX5_both_2_112 : decode bcX5_both_2 112 = .ok (.ireturn, 1) := dk_172 (dk_at dksX5_both_2_4 18 rfl rfl)
abbrev SX5_both_2 (pc : Nat) (i : xI) : Prop := Snd "SwollenHouseModel" "both" prog_25_method_106_code 6 (Option.some Jvm.ClassFile.FieldType.int) [] pc i
theorem oX5_both_2_0 : SX5_both_2 0 (i_aload 0 1) := snd_aload_n dX5_both_2_0 rfl
theorem oX5_both_2_1 : SX5_both_2 1 (i_const (.int (nI 0)) 2) := snd_iconst dX5_both_2_1 (by decide)
theorem oX5_both_2_2 : SX5_both_2 2 (i_putfi 4 0 5) := snd_putfi dX5_both_2_2 rfl (by decide) in_X5 tyX5 tyX5_ok nmX5 (Or.inl ⟨rfl, q1698⟩) (Or.inl rfl) rfl
theorem oX5_both_2_5 : SX5_both_2 5 (i_aload 0 6) := snd_aload_n dX5_both_2_5 rfl
theorem oX5_both_2_6 : SX5_both_2 6 (i_iload 1 7) := snd_iload_n dX5_both_2_6 rfl
theorem oX5_both_2_7 : SX5_both_2 7 (i_cv 4 292 1 10) := snd_cv rfl infX5_isPerson (by decide) rfl (xVm_V dX5_both_2_7 rfl q1950 q1952 qs93 q136 q1953 pdX5_isPerson)
theorem oX5_both_2_10 : SX5_both_2 10 (i_if1 (fun x => x = 0) 26 13) := snd_if_eq dX5_both_2_10 (by decide)
theorem oX5_both_2_13 : SX5_both_2 13 (i_aload 0 14) := snd_aload_n dX5_both_2_13 rfl
theorem oX5_both_2_14 : SX5_both_2 14 (i_iload 2 15) := snd_iload_n dX5_both_2_14 rfl
theorem oX5_both_2_15 : SX5_both_2 15 (i_cv 4 292 1 18) := snd_cv rfl infX5_isPerson (by decide) rfl (xVm_V dX5_both_2_15 rfl q1950 q1952 qs93 q136 q1953 pdX5_isPerson)
theorem oX5_both_2_18 : SX5_both_2 18 (i_if1 (fun x => x = 0) 26 21) := snd_if_eq dX5_both_2_18 (by decide)
theorem oX5_both_2_21 : SX5_both_2 21 (i_iload 1 22) := snd_iload_n dX5_both_2_21 rfl
theorem oX5_both_2_22 : SX5_both_2 22 (i_iload 2 23) := snd_iload_n dX5_both_2_22 rfl
theorem oX5_both_2_23 : SX5_both_2 23 (i_if2 (fun x y => ¬ x = y) 28 26) := snd_icmp_ne dX5_both_2_23 (by decide)
theorem oX5_both_2_26 : SX5_both_2 26 (i_const (.int (-1)) 27) := snd_iconst dX5_both_2_26 (by decide)
theorem oX5_both_2_27 : SX5_both_2 27 (i_iret) := snd_iret dX5_both_2_27 rfl
theorem oX5_both_2_28 : SX5_both_2 28 (i_aload 0 29) := snd_aload_n dX5_both_2_28 rfl
theorem oX5_both_2_29 : SX5_both_2 29 (i_cvv 4 344 0 32) := snd_cvv rfl infX5_opensThen (by decide) rfl (xVm_V dX5_both_2_29 rfl q2156 q2158 qs118 q136 q2159 pdX5_opensThen)
theorem oX5_both_2_32 : SX5_both_2 32 (i_const (.int (nI 1)) 33) := snd_iconst dX5_both_2_32 (by decide)
theorem oX5_both_2_33 : SX5_both_2 33 (i_aload 0 34) := snd_aload_n dX5_both_2_33 rfl
theorem oX5_both_2_34 : SX5_both_2 34 (i_getf 4 24 37) := snd_getf dX5_both_2_34 rfl (by decide) in_X5 (Or.inl q1722) (Or.inl rfl) (by decide)
theorem oX5_both_2_37 : SX5_both_2 37 (i_const (.int (nI 18)) 39) := snd_bipush dX5_both_2_37 (by decide)
theorem oX5_both_2_39 : SX5_both_2 39 (i_iload 1 40) := snd_iload_n dX5_both_2_39 rfl
theorem oX5_both_2_40 : SX5_both_2 40 (i_ii (fun x y => x + y) 41) := snd_iadd dX5_both_2_40
theorem oX5_both_2_41 : SX5_both_2 41 (i_ai 0 42) := snd_ai0 dX5_both_2_41
theorem oX5_both_2_42 : SX5_both_2 42 (i_ii (fun x y => x <<< (y &&& 31)) 43) := snd_ishl dX5_both_2_42
theorem oX5_both_2_43 : SX5_both_2 43 (i_istore 3 44) := snd_istore_n dX5_both_2_43 rfl (by decide)
theorem oX5_both_2_44 : SX5_both_2 44 (i_const (.int (nI 1)) 45) := snd_iconst dX5_both_2_44 (by decide)
theorem oX5_both_2_45 : SX5_both_2 45 (i_aload 0 46) := snd_aload_n dX5_both_2_45 rfl
theorem oX5_both_2_46 : SX5_both_2 46 (i_getf 4 24 49) := snd_getf dX5_both_2_46 rfl (by decide) in_X5 (Or.inl q1722) (Or.inl rfl) (by decide)
theorem oX5_both_2_49 : SX5_both_2 49 (i_const (.int (nI 18)) 51) := snd_bipush dX5_both_2_49 (by decide)
theorem oX5_both_2_51 : SX5_both_2 51 (i_iload 2 52) := snd_iload_n dX5_both_2_51 rfl
theorem oX5_both_2_52 : SX5_both_2 52 (i_ii (fun x y => x + y) 53) := snd_iadd dX5_both_2_52
theorem oX5_both_2_53 : SX5_both_2 53 (i_ai 0 54) := snd_ai0 dX5_both_2_53
theorem oX5_both_2_54 : SX5_both_2 54 (i_ii (fun x y => x <<< (y &&& 31)) 55) := snd_ishl dX5_both_2_54
theorem oX5_both_2_55 : SX5_both_2 55 (i_istore 4 57) := snd_istore dX5_both_2_55 (by decide)
theorem oX5_both_2_57 : SX5_both_2 57 (i_const (.int (nI 0)) 58) := snd_iconst dX5_both_2_57 (by decide)
theorem oX5_both_2_58 : SX5_both_2 58 (i_istore 5 60) := snd_istore dX5_both_2_58 (by decide)
theorem oX5_both_2_60 : SX5_both_2 60 (i_iload 5 62) := snd_iload dX5_both_2_60
theorem oX5_both_2_62 : SX5_both_2 62 (i_const (.int (nI 40)) 64) := snd_bipush dX5_both_2_62 (by decide)
theorem oX5_both_2_64 : SX5_both_2 64 (i_if2 (fun x y => y < x) 111 67) := snd_icmp_gt dX5_both_2_64 (by decide)
theorem oX5_both_2_67 : SX5_both_2 67 (i_iload 3 68) := snd_iload_n dX5_both_2_67 rfl
theorem oX5_both_2_68 : SX5_both_2 68 (i_iload 4 70) := snd_iload dX5_both_2_68
theorem oX5_both_2_70 : SX5_both_2 70 (i_ii (fun x y => x &&& y) 71) := snd_iand dX5_both_2_70
theorem oX5_both_2_71 : SX5_both_2 71 (i_if1 (fun x => x = 0) 77 74) := snd_if_eq dX5_both_2_71 (by decide)
theorem oX5_both_2_74 : SX5_both_2 74 (i_iload 5 76) := snd_iload dX5_both_2_74
theorem oX5_both_2_76 : SX5_both_2 76 (i_iret) := snd_iret dX5_both_2_76 rfl
theorem oX5_both_2_77 : SX5_both_2 77 (i_aload 0 78) := snd_aload_n dX5_both_2_77 rfl
theorem oX5_both_2_78 : SX5_both_2 78 (i_iload 3 79) := snd_iload_n dX5_both_2_78 rfl
theorem oX5_both_2_79 : SX5_both_2 79 (i_aload 0 80) := snd_aload_n dX5_both_2_79 rfl
theorem oX5_both_2_80 : SX5_both_2 80 (i_getf 4 27 83) := snd_getf dX5_both_2_80 rfl (by decide) in_X5 (Or.inl q1725) (Or.inl rfl) (by decide)
theorem oX5_both_2_83 : SX5_both_2 83 (i_iload 5 85) := snd_iload dX5_both_2_83
theorem oX5_both_2_85 : SX5_both_2 85 (i_ai 0 86) := snd_ai0 dX5_both_2_85
theorem oX5_both_2_86 : SX5_both_2 86 (i_cv 4 323 2 89) := snd_cv rfl infX5_onFrom (by decide) rfl (xVm_V dX5_both_2_86 rfl q2072 q2074 qs113 q136 q2075 pdX5_onFrom)
theorem oX5_both_2_89 : SX5_both_2 89 (i_istore 3 90) := snd_istore_n dX5_both_2_89 rfl (by decide)
theorem oX5_both_2_90 : SX5_both_2 90 (i_aload 0 91) := snd_aload_n dX5_both_2_90 rfl
theorem oX5_both_2_91 : SX5_both_2 91 (i_iload 4 93) := snd_iload dX5_both_2_91
theorem oX5_both_2_93 : SX5_both_2 93 (i_aload 0 94) := snd_aload_n dX5_both_2_93 rfl
theorem oX5_both_2_94 : SX5_both_2 94 (i_getf 4 27 97) := snd_getf dX5_both_2_94 rfl (by decide) in_X5 (Or.inl q1725) (Or.inl rfl) (by decide)
theorem oX5_both_2_97 : SX5_both_2 97 (i_iload 5 99) := snd_iload dX5_both_2_97
theorem oX5_both_2_99 : SX5_both_2 99 (i_ai 0 100) := snd_ai0 dX5_both_2_99
theorem oX5_both_2_100 : SX5_both_2 100 (i_cv 4 323 2 103) := snd_cv rfl infX5_onFrom (by decide) rfl (xVm_V dX5_both_2_100 rfl q2072 q2074 qs113 q136 q2075 pdX5_onFrom)
theorem oX5_both_2_103 : SX5_both_2 103 (i_istore 4 105) := snd_istore dX5_both_2_103 (by decide)
theorem oX5_both_2_105 : SX5_both_2 105 (i_iinc 5 (nI 1) 108) := snd_iinc dX5_both_2_105 (by decide) (by decide)
theorem oX5_both_2_108 : SX5_both_2 108 (i_goto 60) := snd_goto dX5_both_2_108 (by decide)
theorem oX5_both_2_111 : SX5_both_2 111 (i_const (.int (-1)) 112) := snd_iconst dX5_both_2_111 (by decide)
theorem oX5_both_2_112 : SX5_both_2 112 (i_iret) := snd_iret dX5_both_2_112 rfl
theorem okX5_both_2 : ∀ q ∈ cX5_both_2, SX5_both_2 q.1 q.2 := List.forall_mem_cons.mpr ⟨oX5_both_2_0, List.forall_mem_cons.mpr ⟨oX5_both_2_1, List.forall_mem_cons.mpr ⟨oX5_both_2_2, List.forall_mem_cons.mpr ⟨oX5_both_2_5, List.forall_mem_cons.mpr ⟨oX5_both_2_6, List.forall_mem_cons.mpr ⟨oX5_both_2_7, List.forall_mem_cons.mpr ⟨oX5_both_2_10, List.forall_mem_cons.mpr ⟨oX5_both_2_13, List.forall_mem_cons.mpr ⟨oX5_both_2_14, List.forall_mem_cons.mpr ⟨oX5_both_2_15, List.forall_mem_cons.mpr ⟨oX5_both_2_18, List.forall_mem_cons.mpr ⟨oX5_both_2_21, List.forall_mem_cons.mpr ⟨oX5_both_2_22, List.forall_mem_cons.mpr ⟨oX5_both_2_23, List.forall_mem_cons.mpr ⟨oX5_both_2_26, List.forall_mem_cons.mpr ⟨oX5_both_2_27, List.forall_mem_cons.mpr ⟨oX5_both_2_28, List.forall_mem_cons.mpr ⟨oX5_both_2_29, List.forall_mem_cons.mpr ⟨oX5_both_2_32, List.forall_mem_cons.mpr ⟨oX5_both_2_33, List.forall_mem_cons.mpr ⟨oX5_both_2_34, List.forall_mem_cons.mpr ⟨oX5_both_2_37, List.forall_mem_cons.mpr ⟨oX5_both_2_39, List.forall_mem_cons.mpr ⟨oX5_both_2_40, List.forall_mem_cons.mpr ⟨oX5_both_2_41, List.forall_mem_cons.mpr ⟨oX5_both_2_42, List.forall_mem_cons.mpr ⟨oX5_both_2_43, List.forall_mem_cons.mpr ⟨oX5_both_2_44, List.forall_mem_cons.mpr ⟨oX5_both_2_45, List.forall_mem_cons.mpr ⟨oX5_both_2_46, List.forall_mem_cons.mpr ⟨oX5_both_2_49, List.forall_mem_cons.mpr ⟨oX5_both_2_51, List.forall_mem_cons.mpr ⟨oX5_both_2_52, List.forall_mem_cons.mpr ⟨oX5_both_2_53, List.forall_mem_cons.mpr ⟨oX5_both_2_54, List.forall_mem_cons.mpr ⟨oX5_both_2_55, List.forall_mem_cons.mpr ⟨oX5_both_2_57, List.forall_mem_cons.mpr ⟨oX5_both_2_58, List.forall_mem_cons.mpr ⟨oX5_both_2_60, List.forall_mem_cons.mpr ⟨oX5_both_2_62, List.forall_mem_cons.mpr ⟨oX5_both_2_64, List.forall_mem_cons.mpr ⟨oX5_both_2_67, List.forall_mem_cons.mpr ⟨oX5_both_2_68, List.forall_mem_cons.mpr ⟨oX5_both_2_70, List.forall_mem_cons.mpr ⟨oX5_both_2_71, List.forall_mem_cons.mpr ⟨oX5_both_2_74, List.forall_mem_cons.mpr ⟨oX5_both_2_76, List.forall_mem_cons.mpr ⟨oX5_both_2_77, List.forall_mem_cons.mpr ⟨oX5_both_2_78, List.forall_mem_cons.mpr ⟨oX5_both_2_79, List.forall_mem_cons.mpr ⟨oX5_both_2_80, List.forall_mem_cons.mpr ⟨oX5_both_2_83, List.forall_mem_cons.mpr ⟨oX5_both_2_85, List.forall_mem_cons.mpr ⟨oX5_both_2_86, List.forall_mem_cons.mpr ⟨oX5_both_2_89, List.forall_mem_cons.mpr ⟨oX5_both_2_90, List.forall_mem_cons.mpr ⟨oX5_both_2_91, List.forall_mem_cons.mpr ⟨oX5_both_2_93, List.forall_mem_cons.mpr ⟨oX5_both_2_94, List.forall_mem_cons.mpr ⟨oX5_both_2_97, List.forall_mem_cons.mpr ⟨oX5_both_2_99, List.forall_mem_cons.mpr ⟨oX5_both_2_100, List.forall_mem_cons.mpr ⟨oX5_both_2_103, List.forall_mem_cons.mpr ⟨oX5_both_2_105, List.forall_mem_cons.mpr ⟨oX5_both_2_108, List.forall_mem_cons.mpr ⟨oX5_both_2_111, List.forall_mem_cons.mpr ⟨oX5_both_2_112, fun _ h => absurd h List.not_mem_nil⟩⟩⟩⟩⟩⟩⟩⟩⟩⟩⟩⟩⟩⟩⟩⟩⟩⟩⟩⟩⟩⟩⟩⟩⟩⟩⟩⟩⟩⟩⟩⟩⟩⟩⟩⟩⟩⟩⟩⟩⟩⟩⟩⟩⟩⟩⟩⟩⟩⟩⟩⟩⟩⟩⟩⟩⟩⟩⟩⟩⟩⟩⟩⟩⟩⟩⟩
def dkwX5_planed_4 : List UInt8 := [167, 0, 5, 16, 254, 172, 132, 3, 1, 167, 255, 211, 16, 254, 172]
abbrev dktX5_planed_4 : List UInt8 := dkwX5_planed_4 ++ []
def dkwX5_planed_3 : List UInt8 := [153, 0, 29, 28, 2, 160, 0, 7, 29, 167, 0, 19, 28, 29, 162, 0, 12, 42, 180, 0, 123, 28, 46]
abbrev dktX5_planed_3 : List UInt8 := dkwX5_planed_3 ++ dktX5_planed_4
def dkwX5_planed_2 : List UInt8 := [96, 46, 79, 132, 3, 1, 167, 255, 231, 3, 62, 29, 6, 163, 0, 46, 42, 3, 29, 3, 27, 182, 1, 132]
abbrev dktX5_planed_2 : List UInt8 := dkwX5_planed_2 ++ dktX5_planed_3
def dkwX5_planed_1 : List UInt8 := [16, 254, 172, 3, 62, 29, 42, 182, 1, 16, 162, 0, 23, 42, 180, 0, 126, 29, 42, 180, 0, 113, 5, 29]
abbrev dktX5_planed_1 : List UInt8 := dkwX5_planed_1 ++ dktX5_planed_2
def dkwX5_planed_0 : List UInt8 := [42, 3, 181, 0, 1, 27, 3, 16, 30, 184, 0, 204, 153, 0, 12, 28, 2, 5, 184, 0, 204, 154, 0, 6]
abbrev dktX5_planed_0 : List UInt8 := dkwX5_planed_0 ++ dktX5_planed_1
theorem dksX5_planed_0 : bcX5_planed.data.toList.drop 0 = dktX5_planed_0 := by decide +kernel
theorem dksX5_planed_1 : bcX5_planed.data.toList.drop 24 = dktX5_planed_1 := dk_seg dksX5_planed_0 24 rfl rfl
theorem dksX5_planed_2 : bcX5_planed.data.toList.drop 48 = dktX5_planed_2 := dk_seg dksX5_planed_1 24 rfl rfl
theorem dksX5_planed_3 : bcX5_planed.data.toList.drop 72 = dktX5_planed_3 := dk_seg dksX5_planed_2 24 rfl rfl
theorem dksX5_planed_4 : bcX5_planed.data.toList.drop 95 = dktX5_planed_4 := dk_seg dksX5_planed_3 23 rfl rfl
theorem dX5_planed_0 : decode bcX5_planed 0 = .ok (.aload_n 0, 1) := dk_42 (dk_at dksX5_planed_0 0 rfl rfl)
theorem dX5_planed_1 : decode bcX5_planed 1 = .ok (.iconst 0, 1) := dk_3 (dk_at dksX5_planed_0 1 rfl rfl)
theorem dX5_planed_2 : decode bcX5_planed 2 = .ok (.putfield 1, 3) := dk_181 0 1 (dk_at dksX5_planed_0 2 rfl rfl)
theorem dX5_planed_5 : decode bcX5_planed 5 = .ok (.iload_n 1, 1) := dk_27 (dk_at dksX5_planed_0 5 rfl rfl)
theorem dX5_planed_6 : decode bcX5_planed 6 = .ok (.iconst 0, 1) := dk_3 (dk_at dksX5_planed_0 6 rfl rfl)
theorem dX5_planed_7 : decode bcX5_planed 7 = .ok (.bipush 30, 2) := dk_16 30 (dk_at dksX5_planed_0 7 rfl rfl)
theorem dX5_planed_9 : decode bcX5_planed 9 = .ok (.invokestatic 204, 3) := dk_184 0 204 (dk_at dksX5_planed_0 9 rfl rfl)
theorem dX5_planed_12 : decode bcX5_planed 12 = .ok (.ifCond .eq 12, 3) := dk_153 0 12 (dk_at dksX5_planed_0 12 rfl rfl)
theorem dX5_planed_15 : decode bcX5_planed 15 = .ok (.iload_n 2, 1) := dk_28 (dk_at dksX5_planed_0 15 rfl rfl)
theorem dX5_planed_16 : decode bcX5_planed 16 = .ok (.iconst (-1), 1) := dk_2 (dk_at dksX5_planed_0 16 rfl rfl)
theorem dX5_planed_17 : decode bcX5_planed 17 = .ok (.iconst 2, 1) := dk_5 (dk_at dksX5_planed_0 17 rfl rfl)
theorem dX5_planed_18 : decode bcX5_planed 18 = .ok (.invokestatic 204, 3) := dk_184 0 204 (dk_at dksX5_planed_0 18 rfl rfl)
theorem dX5_planed_21 : decode bcX5_planed 21 = .ok (.ifCond .ne 6, 3) := dk_154 0 6 (dk_at dksX5_planed_0 21 rfl rfl)
theorem dX5_planed_24 : decode bcX5_planed 24 = .ok (.bipush (-2), 2) := dk_16 254 (dk_at dksX5_planed_1 0 rfl rfl)
theorem dX5_planed_26 : decode bcX5_planed 26 = .ok (.ireturn, 1) := dk_172 (dk_at dksX5_planed_1 2 rfl rfl)
theorem dX5_planed_27 : decode bcX5_planed 27 = .ok (.iconst 0, 1) := dk_3 (dk_at dksX5_planed_1 3 rfl rfl)
theorem dX5_planed_28 : decode bcX5_planed 28 = .ok (.istore_n 3, 1) := dk_62 (dk_at dksX5_planed_1 4 rfl rfl)
theorem dX5_planed_29 : decode bcX5_planed 29 = .ok (.iload_n 3, 1) := dk_29 (dk_at dksX5_planed_1 5 rfl rfl)
theorem dX5_planed_30 : decode bcX5_planed 30 = .ok (.aload_n 0, 1) := dk_42 (dk_at dksX5_planed_1 6 rfl rfl)
theorem dX5_planed_31 : decode bcX5_planed 31 = .ok (.invokevirtual 272, 3) := dk_182 1 16 (dk_at dksX5_planed_1 7 rfl rfl)
theorem dX5_planed_34 : decode bcX5_planed 34 = .ok (.if_icmp .ge 23, 3) := dk_162 0 23 (dk_at dksX5_planed_1 10 rfl rfl)
theorem dX5_planed_37 : decode bcX5_planed 37 = .ok (.aload_n 0, 1) := dk_42 (dk_at dksX5_planed_1 13 rfl rfl)
theorem dX5_planed_38 : decode bcX5_planed 38 = .ok (.getfield 126, 3) := dk_180 0 126 (dk_at dksX5_planed_1 14 rfl rfl)
theorem dX5_planed_41 : decode bcX5_planed 41 = .ok (.iload_n 3, 1) := dk_29 (dk_at dksX5_planed_1 17 rfl rfl)
theorem dX5_planed_42 : decode bcX5_planed 42 = .ok (.aload_n 0, 1) := dk_42 (dk_at dksX5_planed_1 18 rfl rfl)
theorem dX5_planed_43 : decode bcX5_planed 43 = .ok (.getfield 113, 3) := dk_180 0 113 (dk_at dksX5_planed_1 19 rfl rfl)
theorem dX5_planed_46 : decode bcX5_planed 46 = .ok (.iconst 2, 1) := dk_5 (dk_at dksX5_planed_1 22 rfl rfl)
theorem dX5_planed_47 : decode bcX5_planed 47 = .ok (.iload_n 3, 1) := dk_29 (dk_at dksX5_planed_1 23 rfl rfl)
theorem dX5_planed_48 : decode bcX5_planed 48 = .ok (.iadd, 1) := dk_96 (dk_at dksX5_planed_2 0 rfl rfl)
theorem dX5_planed_49 : decode bcX5_planed 49 = .ok (.iaload, 1) := dk_46 (dk_at dksX5_planed_2 1 rfl rfl)
theorem dX5_planed_50 : decode bcX5_planed 50 = .ok (.iastore, 1) := dk_79 (dk_at dksX5_planed_2 2 rfl rfl)
theorem dX5_planed_51 : decode bcX5_planed 51 = .ok (.iinc 3 1, 3) := dk_132 3 1 (dk_at dksX5_planed_2 3 rfl rfl)
theorem dX5_planed_54 : decode bcX5_planed 54 = .ok (.goto (-25), 3) := dk_167 255 231 (dk_at dksX5_planed_2 6 rfl rfl)
theorem dX5_planed_57 : decode bcX5_planed 57 = .ok (.iconst 0, 1) := dk_3 (dk_at dksX5_planed_2 9 rfl rfl)
theorem dX5_planed_58 : decode bcX5_planed 58 = .ok (.istore_n 3, 1) := dk_62 (dk_at dksX5_planed_2 10 rfl rfl)
theorem dX5_planed_59 : decode bcX5_planed 59 = .ok (.iload_n 3, 1) := dk_29 (dk_at dksX5_planed_2 11 rfl rfl)
theorem dX5_planed_60 : decode bcX5_planed 60 = .ok (.iconst 3, 1) := dk_6 (dk_at dksX5_planed_2 12 rfl rfl)
theorem dX5_planed_61 : decode bcX5_planed 61 = .ok (.if_icmp .gt 46, 3) := dk_163 0 46 (dk_at dksX5_planed_2 13 rfl rfl)
theorem dX5_planed_64 : decode bcX5_planed 64 = .ok (.aload_n 0, 1) := dk_42 (dk_at dksX5_planed_2 16 rfl rfl)
theorem dX5_planed_65 : decode bcX5_planed 65 = .ok (.iconst 0, 1) := dk_3 (dk_at dksX5_planed_2 17 rfl rfl)
theorem dX5_planed_66 : decode bcX5_planed 66 = .ok (.iload_n 3, 1) := dk_29 (dk_at dksX5_planed_2 18 rfl rfl)
theorem dX5_planed_67 : decode bcX5_planed 67 = .ok (.iconst 0, 1) := dk_3 (dk_at dksX5_planed_2 19 rfl rfl)
theorem dX5_planed_68 : decode bcX5_planed 68 = .ok (.iload_n 1, 1) := dk_27 (dk_at dksX5_planed_2 20 rfl rfl)
theorem dX5_planed_69 : decode bcX5_planed 69 = .ok (.invokevirtual 388, 3) := dk_182 1 132 (dk_at dksX5_planed_2 21 rfl rfl)
theorem dX5_planed_72 : decode bcX5_planed 72 = .ok (.ifCond .eq 29, 3) := dk_153 0 29 (dk_at dksX5_planed_3 0 rfl rfl)
theorem dX5_planed_75 : decode bcX5_planed 75 = .ok (.iload_n 2, 1) := dk_28 (dk_at dksX5_planed_3 3 rfl rfl)
theorem dX5_planed_76 : decode bcX5_planed 76 = .ok (.iconst (-1), 1) := dk_2 (dk_at dksX5_planed_3 4 rfl rfl)
theorem dX5_planed_77 : decode bcX5_planed 77 = .ok (.if_icmp .ne 7, 3) := dk_160 0 7 (dk_at dksX5_planed_3 5 rfl rfl)
theorem dX5_planed_80 : decode bcX5_planed 80 = .ok (.iload_n 3, 1) := dk_29 (dk_at dksX5_planed_3 8 rfl rfl)
theorem dX5_planed_81 : decode bcX5_planed 81 = .ok (.goto 19, 3) := dk_167 0 19 (dk_at dksX5_planed_3 9 rfl rfl)
theorem dX5_planed_84 : decode bcX5_planed 84 = .ok (.iload_n 2, 1) := dk_28 (dk_at dksX5_planed_3 12 rfl rfl)
theorem dX5_planed_85 : decode bcX5_planed 85 = .ok (.iload_n 3, 1) := dk_29 (dk_at dksX5_planed_3 13 rfl rfl)
theorem dX5_planed_86 : decode bcX5_planed 86 = .ok (.if_icmp .ge 12, 3) := dk_162 0 12 (dk_at dksX5_planed_3 14 rfl rfl)
theorem dX5_planed_89 : decode bcX5_planed 89 = .ok (.aload_n 0, 1) := dk_42 (dk_at dksX5_planed_3 17 rfl rfl)
theorem dX5_planed_90 : decode bcX5_planed 90 = .ok (.getfield 123, 3) := dk_180 0 123 (dk_at dksX5_planed_3 18 rfl rfl)
theorem dX5_planed_93 : decode bcX5_planed 93 = .ok (.iload_n 2, 1) := dk_28 (dk_at dksX5_planed_3 21 rfl rfl)
theorem dX5_planed_94 : decode bcX5_planed 94 = .ok (.iaload, 1) := dk_46 (dk_at dksX5_planed_3 22 rfl rfl)
theorem dX5_planed_95 : decode bcX5_planed 95 = .ok (.goto 5, 3) := dk_167 0 5 (dk_at dksX5_planed_4 0 rfl rfl)
theorem dX5_planed_98 : decode bcX5_planed 98 = .ok (.bipush (-2), 2) := dk_16 254 (dk_at dksX5_planed_4 3 rfl rfl)
theorem dX5_planed_100 : decode bcX5_planed 100 = .ok (.ireturn, 1) := dk_172 (dk_at dksX5_planed_4 5 rfl rfl)
theorem dX5_planed_101 : decode bcX5_planed 101 = .ok (.iinc 3 1, 3) := dk_132 3 1 (dk_at dksX5_planed_4 6 rfl rfl)
theorem dX5_planed_104 : decode bcX5_planed 104 = .ok (.goto (-45), 3) := dk_167 255 211 (dk_at dksX5_planed_4 9 rfl rfl)
theorem dX5_planed_107 : decode bcX5_planed 107 = .ok (.bipush (-2), 2) := dk_16 254 (dk_at dksX5_planed_4 12 rfl rfl)
theorem dX5_planed_109 : decode bcX5_planed 109 = .ok (.ireturn, 1) := dk_172 (dk_at dksX5_planed_4 14 rfl rfl)
abbrev SX5_planed (pc : Nat) (i : xI) : Prop := Snd "SwollenHouseModel" "planed" prog_25_method_109_code 4 (Option.some Jvm.ClassFile.FieldType.int) [] pc i
theorem oX5_planed_0 : SX5_planed 0 (i_aload 0 1) := snd_aload_n dX5_planed_0 rfl
theorem oX5_planed_1 : SX5_planed 1 (i_const (.int (nI 0)) 2) := snd_iconst dX5_planed_1 (by decide)
theorem oX5_planed_2 : SX5_planed 2 (i_putfi 4 0 5) := snd_putfi dX5_planed_2 rfl (by decide) in_X5 tyX5 tyX5_ok nmX5 (Or.inl ⟨rfl, q1698⟩) (Or.inl rfl) rfl
theorem oX5_planed_5 : SX5_planed 5 (i_iload 1 6) := snd_iload_n dX5_planed_5 rfl
theorem oX5_planed_6 : SX5_planed 6 (i_const (.int (nI 0)) 7) := snd_iconst dX5_planed_6 (by decide)
theorem oX5_planed_7 : SX5_planed 7 (i_const (.int (nI 30)) 9) := snd_bipush dX5_planed_7 (by decide)
theorem oX5_planed_9 : SX5_planed 9 (i_cs 268 3 12) := snd_cs rfl infX5_within (by decide) (xSm_S dX5_planed_9 q1855 q1856 q136 q1857 pdX5_within)
theorem oX5_planed_12 : SX5_planed 12 (i_if1 (fun x => x = 0) 24 15) := snd_if_eq dX5_planed_12 (by decide)
theorem oX5_planed_15 : SX5_planed 15 (i_iload 2 16) := snd_iload_n dX5_planed_15 rfl
theorem oX5_planed_16 : SX5_planed 16 (i_const (.int (-1)) 17) := snd_iconst dX5_planed_16 (by decide)
theorem oX5_planed_17 : SX5_planed 17 (i_const (.int (nI 2)) 18) := snd_iconst dX5_planed_17 (by decide)
theorem oX5_planed_18 : SX5_planed 18 (i_cs 268 3 21) := snd_cs rfl infX5_within (by decide) (xSm_S dX5_planed_18 q1855 q1856 q136 q1857 pdX5_within)
theorem oX5_planed_21 : SX5_planed 21 (i_if1 (fun x => ¬ x = 0) 27 24) := snd_if_ne dX5_planed_21 (by decide)
theorem oX5_planed_24 : SX5_planed 24 (i_const (.int (-2)) 26) := snd_bipush dX5_planed_24 (by decide)
theorem oX5_planed_26 : SX5_planed 26 (i_iret) := snd_iret dX5_planed_26 rfl
theorem oX5_planed_27 : SX5_planed 27 (i_const (.int (nI 0)) 28) := snd_iconst dX5_planed_27 (by decide)
theorem oX5_planed_28 : SX5_planed 28 (i_istore 3 29) := snd_istore_n dX5_planed_28 rfl (by decide)
theorem oX5_planed_29 : SX5_planed 29 (i_iload 3 30) := snd_iload_n dX5_planed_29 rfl
theorem oX5_planed_30 : SX5_planed 30 (i_aload 0 31) := snd_aload_n dX5_planed_30 rfl
theorem oX5_planed_31 : SX5_planed 31 (i_cv 4 250 0 34) := snd_cv rfl infX5_doors (by decide) rfl (xVm_V dX5_planed_31 rfl q1686 q1688 qs60 q136 q1689 pdX5_doors)
theorem oX5_planed_34 : SX5_planed 34 (i_if2 (fun x y => y ≤ x) 57 37) := snd_icmp_ge dX5_planed_34 (by decide)
theorem oX5_planed_37 : SX5_planed 37 (i_aload 0 38) := snd_aload_n dX5_planed_37 rfl
theorem oX5_planed_38 : SX5_planed 38 (i_getf 4 29 41) := snd_getf dX5_planed_38 rfl (by decide) in_X5 (Or.inl q1727) (Or.inl rfl) (by decide)
theorem oX5_planed_41 : SX5_planed 41 (i_iload 3 42) := snd_iload_n dX5_planed_41 rfl
theorem oX5_planed_42 : SX5_planed 42 (i_aload 0 43) := snd_aload_n dX5_planed_42 rfl
theorem oX5_planed_43 : SX5_planed 43 (i_getf 4 24 46) := snd_getf dX5_planed_43 rfl (by decide) in_X5 (Or.inl q1722) (Or.inl rfl) (by decide)
theorem oX5_planed_46 : SX5_planed 46 (i_const (.int (nI 2)) 47) := snd_iconst dX5_planed_46 (by decide)
theorem oX5_planed_47 : SX5_planed 47 (i_iload 3 48) := snd_iload_n dX5_planed_47 rfl
theorem oX5_planed_48 : SX5_planed 48 (i_ii (fun x y => x + y) 49) := snd_iadd dX5_planed_48
theorem oX5_planed_49 : SX5_planed 49 (i_ai 0 50) := snd_ai0 dX5_planed_49
theorem oX5_planed_50 : SX5_planed 50 (i_si (fun v => v) 0 51) := snd_si0 dX5_planed_50
theorem oX5_planed_51 : SX5_planed 51 (i_iinc 3 (nI 1) 54) := snd_iinc dX5_planed_51 (by decide) (by decide)
theorem oX5_planed_54 : SX5_planed 54 (i_goto 29) := snd_goto dX5_planed_54 (by decide)
theorem oX5_planed_57 : SX5_planed 57 (i_const (.int (nI 0)) 58) := snd_iconst dX5_planed_57 (by decide)
theorem oX5_planed_58 : SX5_planed 58 (i_istore 3 59) := snd_istore_n dX5_planed_58 rfl (by decide)
theorem oX5_planed_59 : SX5_planed 59 (i_iload 3 60) := snd_iload_n dX5_planed_59 rfl
theorem oX5_planed_60 : SX5_planed 60 (i_const (.int (nI 3)) 61) := snd_iconst dX5_planed_60 (by decide)
theorem oX5_planed_61 : SX5_planed 61 (i_if2 (fun x y => y < x) 107 64) := snd_icmp_gt dX5_planed_61 (by decide)
theorem oX5_planed_64 : SX5_planed 64 (i_aload 0 65) := snd_aload_n dX5_planed_64 rfl
theorem oX5_planed_65 : SX5_planed 65 (i_const (.int (nI 0)) 66) := snd_iconst dX5_planed_65 (by decide)
theorem oX5_planed_66 : SX5_planed 66 (i_iload 3 67) := snd_iload_n dX5_planed_66 rfl
theorem oX5_planed_67 : SX5_planed 67 (i_const (.int (nI 0)) 68) := snd_iconst dX5_planed_67 (by decide)
theorem oX5_planed_68 : SX5_planed 68 (i_iload 1 69) := snd_iload_n dX5_planed_68 rfl
theorem oX5_planed_69 : SX5_planed 69 (i_cv 4 349 4 72) := snd_cv rfl infX5_doesPlane (by decide) rfl (xVm_V dX5_planed_69 rfl q2176 q2178 qs120 q136 q2179 pdX5_doesPlane)
theorem oX5_planed_72 : SX5_planed 72 (i_if1 (fun x => x = 0) 101 75) := snd_if_eq dX5_planed_72 (by decide)
theorem oX5_planed_75 : SX5_planed 75 (i_iload 2 76) := snd_iload_n dX5_planed_75 rfl
theorem oX5_planed_76 : SX5_planed 76 (i_const (.int (-1)) 77) := snd_iconst dX5_planed_76 (by decide)
theorem oX5_planed_77 : SX5_planed 77 (i_if2 (fun x y => ¬ x = y) 84 80) := snd_icmp_ne dX5_planed_77 (by decide)
theorem oX5_planed_80 : SX5_planed 80 (i_iload 3 81) := snd_iload_n dX5_planed_80 rfl
theorem oX5_planed_81 : SX5_planed 81 (i_goto 100) := snd_goto dX5_planed_81 (by decide)
theorem oX5_planed_84 : SX5_planed 84 (i_iload 2 85) := snd_iload_n dX5_planed_84 rfl
theorem oX5_planed_85 : SX5_planed 85 (i_iload 3 86) := snd_iload_n dX5_planed_85 rfl
theorem oX5_planed_86 : SX5_planed 86 (i_if2 (fun x y => y ≤ x) 98 89) := snd_icmp_ge dX5_planed_86 (by decide)
theorem oX5_planed_89 : SX5_planed 89 (i_aload 0 90) := snd_aload_n dX5_planed_89 rfl
theorem oX5_planed_90 : SX5_planed 90 (i_getf 4 28 93) := snd_getf dX5_planed_90 rfl (by decide) in_X5 (Or.inl q1726) (Or.inl rfl) (by decide)
theorem oX5_planed_93 : SX5_planed 93 (i_iload 2 94) := snd_iload_n dX5_planed_93 rfl
theorem oX5_planed_94 : SX5_planed 94 (i_ai 0 95) := snd_ai0 dX5_planed_94
theorem oX5_planed_95 : SX5_planed 95 (i_goto 100) := snd_goto dX5_planed_95 (by decide)
theorem oX5_planed_98 : SX5_planed 98 (i_const (.int (-2)) 100) := snd_bipush dX5_planed_98 (by decide)
theorem oX5_planed_100 : SX5_planed 100 (i_iret) := snd_iret dX5_planed_100 rfl
theorem oX5_planed_101 : SX5_planed 101 (i_iinc 3 (nI 1) 104) := snd_iinc dX5_planed_101 (by decide) (by decide)
theorem oX5_planed_104 : SX5_planed 104 (i_goto 59) := snd_goto dX5_planed_104 (by decide)
theorem oX5_planed_107 : SX5_planed 107 (i_const (.int (-2)) 109) := snd_bipush dX5_planed_107 (by decide)
theorem oX5_planed_109 : SX5_planed 109 (i_iret) := snd_iret dX5_planed_109 rfl
theorem okX5_planed : ∀ q ∈ cX5_planed, SX5_planed q.1 q.2 := List.forall_mem_cons.mpr ⟨oX5_planed_0, List.forall_mem_cons.mpr ⟨oX5_planed_1, List.forall_mem_cons.mpr ⟨oX5_planed_2, List.forall_mem_cons.mpr ⟨oX5_planed_5, List.forall_mem_cons.mpr ⟨oX5_planed_6, List.forall_mem_cons.mpr ⟨oX5_planed_7, List.forall_mem_cons.mpr ⟨oX5_planed_9, List.forall_mem_cons.mpr ⟨oX5_planed_12, List.forall_mem_cons.mpr ⟨oX5_planed_15, List.forall_mem_cons.mpr ⟨oX5_planed_16, List.forall_mem_cons.mpr ⟨oX5_planed_17, List.forall_mem_cons.mpr ⟨oX5_planed_18, List.forall_mem_cons.mpr ⟨oX5_planed_21, List.forall_mem_cons.mpr ⟨oX5_planed_24, List.forall_mem_cons.mpr ⟨oX5_planed_26, List.forall_mem_cons.mpr ⟨oX5_planed_27, List.forall_mem_cons.mpr ⟨oX5_planed_28, List.forall_mem_cons.mpr ⟨oX5_planed_29, List.forall_mem_cons.mpr ⟨oX5_planed_30, List.forall_mem_cons.mpr ⟨oX5_planed_31, List.forall_mem_cons.mpr ⟨oX5_planed_34, List.forall_mem_cons.mpr ⟨oX5_planed_37, List.forall_mem_cons.mpr ⟨oX5_planed_38, List.forall_mem_cons.mpr ⟨oX5_planed_41, List.forall_mem_cons.mpr ⟨oX5_planed_42, List.forall_mem_cons.mpr ⟨oX5_planed_43, List.forall_mem_cons.mpr ⟨oX5_planed_46, List.forall_mem_cons.mpr ⟨oX5_planed_47, List.forall_mem_cons.mpr ⟨oX5_planed_48, List.forall_mem_cons.mpr ⟨oX5_planed_49, List.forall_mem_cons.mpr ⟨oX5_planed_50, List.forall_mem_cons.mpr ⟨oX5_planed_51, List.forall_mem_cons.mpr ⟨oX5_planed_54, List.forall_mem_cons.mpr ⟨oX5_planed_57, List.forall_mem_cons.mpr ⟨oX5_planed_58, List.forall_mem_cons.mpr ⟨oX5_planed_59, List.forall_mem_cons.mpr ⟨oX5_planed_60, List.forall_mem_cons.mpr ⟨oX5_planed_61, List.forall_mem_cons.mpr ⟨oX5_planed_64, List.forall_mem_cons.mpr ⟨oX5_planed_65, List.forall_mem_cons.mpr ⟨oX5_planed_66, List.forall_mem_cons.mpr ⟨oX5_planed_67, List.forall_mem_cons.mpr ⟨oX5_planed_68, List.forall_mem_cons.mpr ⟨oX5_planed_69, List.forall_mem_cons.mpr ⟨oX5_planed_72, List.forall_mem_cons.mpr ⟨oX5_planed_75, List.forall_mem_cons.mpr ⟨oX5_planed_76, List.forall_mem_cons.mpr ⟨oX5_planed_77, List.forall_mem_cons.mpr ⟨oX5_planed_80, List.forall_mem_cons.mpr ⟨oX5_planed_81, List.forall_mem_cons.mpr ⟨oX5_planed_84, List.forall_mem_cons.mpr ⟨oX5_planed_85, List.forall_mem_cons.mpr ⟨oX5_planed_86, List.forall_mem_cons.mpr ⟨oX5_planed_89, List.forall_mem_cons.mpr ⟨oX5_planed_90, List.forall_mem_cons.mpr ⟨oX5_planed_93, List.forall_mem_cons.mpr ⟨oX5_planed_94, List.forall_mem_cons.mpr ⟨oX5_planed_95, List.forall_mem_cons.mpr ⟨oX5_planed_98, List.forall_mem_cons.mpr ⟨oX5_planed_100, List.forall_mem_cons.mpr ⟨oX5_planed_101, List.forall_mem_cons.mpr ⟨oX5_planed_104, List.forall_mem_cons.mpr ⟨oX5_planed_107, List.forall_mem_cons.mpr ⟨oX5_planed_109, fun _ h => absurd h List.not_mem_nil⟩⟩⟩⟩⟩⟩⟩⟩⟩⟩⟩⟩⟩⟩⟩⟩⟩⟩⟩⟩⟩⟩⟩⟩⟩⟩⟩⟩⟩⟩⟩⟩⟩⟩⟩⟩⟩⟩⟩⟩⟩⟩⟩⟩⟩⟩⟩⟩⟩⟩⟩⟩⟩⟩⟩⟩⟩⟩⟩⟩⟩⟩⟩⟩
