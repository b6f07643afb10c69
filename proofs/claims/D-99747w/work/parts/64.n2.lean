set_option maxRecDepth 100000
def dkwX1_need_0 : List UInt8 := [26, 154, 0, 11, 187, 0, 10, 89, 183, 0, 12, 191, 177]
abbrev dktX1_need_0 : List UInt8 := dkwX1_need_0 ++ []
theorem dksX1_need_0 : bcX1_need.data.toList.drop 0 = dktX1_need_0 := by decide +kernel
theorem dX1_need_0 : decode bcX1_need 0 = .ok (.iload_n 0, 1) := dk_26 (dk_at dksX1_need_0 0 rfl rfl)
theorem dX1_need_1 : decode bcX1_need 1 = .ok (.ifCond .ne 11, 3) := dk_154 0 11 (dk_at dksX1_need_0 1 rfl rfl)
theorem dX1_need_4 : decode bcX1_need 4 = .ok (.new 10, 3) := dk_187 0 10 (dk_at dksX1_need_0 4 rfl rfl)
theorem dX1_need_7 : decode bcX1_need 7 = .ok (.dup, 1) := dk_89 (dk_at dksX1_need_0 7 rfl rfl)
theorem dX1_need_8 : decode bcX1_need 8 = .ok (.invokespecial 12, 3) := dk_183 0 12 (dk_at dksX1_need_0 8 rfl rfl)
theorem dX1_need_11 : decode bcX1_need 11 = .ok (.athrow, 1) := dk_191 (dk_at dksX1_need_0 11 rfl rfl)
theorem dX1_need_12 : decode bcX1_need 12 = .ok (.return_, 1) := dk_177 (dk_at dksX1_need_0 12 rfl rfl)
abbrev SX1_need (pc : Nat) (i : xI) : Prop := Snd "SwollenHouse" "need" prog_1_method_4_code 1 (Option.none : Option Jvm.ClassFile.FieldType) [] pc i
theorem oX1_need_0 : SX1_need 0 (i_iload 0 1) := snd_iload_n dX1_need_0 rfl
theorem oX1_need_1 : SX1_need 1 (i_if1 (fun x => ¬ x = 0) 12 4) := snd_if_ne dX1_need_1 (by decide)
theorem oX1_need_4 : SX1_need 4 (i_mk0 11) := snd_mk0 rfl dX1_need_4 dX1_need_7 dX1_need_8
theorem oX1_need_7 : SX1_need 7 (i_dup 8) := snd_dup dX1_need_7
theorem oX1_need_8 : SX1_need 8 (i_no) := snd_no
theorem oX1_need_11 : SX1_need 11 (i_throw [24]) := snd_throw dX1_need_11 rfl okth_24
theorem oX1_need_12 : SX1_need 12 (i_vret) := snd_vret dX1_need_12 rfl
theorem okX1_need : ∀ q ∈ cX1_need, SX1_need q.1 q.2 := List.forall_mem_cons.mpr ⟨oX1_need_0, List.forall_mem_cons.mpr ⟨oX1_need_1, List.forall_mem_cons.mpr ⟨oX1_need_4, List.forall_mem_cons.mpr ⟨oX1_need_7, List.forall_mem_cons.mpr ⟨oX1_need_8, List.forall_mem_cons.mpr ⟨oX1_need_11, List.forall_mem_cons.mpr ⟨oX1_need_12, fun _ h => absurd h List.not_mem_nil⟩⟩⟩⟩⟩⟩⟩
def dkwX1_gets_1 : List UInt8 := [160, 0, 7, 28, 167, 0, 4, 3, 172]
abbrev dktX1_gets_1 : List UInt8 := dkwX1_gets_1 ++ []
def dkwX1_gets_0 : List UInt8 := [29, 4, 160, 0, 18, 21, 4, 4, 160, 0, 8, 26, 116, 167, 0, 18, 27, 167, 0, 14, 21, 4, 4]
abbrev dktX1_gets_0 : List UInt8 := dkwX1_gets_0 ++ dktX1_gets_1
theorem dksX1_gets_0 : bcX1_gets.data.toList.drop 0 = dktX1_gets_0 := by decide +kernel
theorem dksX1_gets_1 : bcX1_gets.data.toList.drop 23 = dktX1_gets_1 := dk_seg dksX1_gets_0 23 rfl rfl
theorem dX1_gets_0 : decode bcX1_gets 0 = .ok (.iload_n 3, 1) := dk_29 (dk_at dksX1_gets_0 0 rfl rfl)
theorem dX1_gets_1 : decode bcX1_gets 1 = .ok (.iconst 1, 1) := dk_4 (dk_at dksX1_gets_0 1 rfl rfl)
theorem dX1_gets_2 : decode bcX1_gets 2 = .ok (.if_icmp .ne 18, 3) := dk_160 0 18 (dk_at dksX1_gets_0 2 rfl rfl)
theorem dX1_gets_5 : decode bcX1_gets 5 = .ok (.iload 4, 2) := dk_21 4 (dk_at dksX1_gets_0 5 rfl rfl)
theorem dX1_gets_7 : decode bcX1_gets 7 = .ok (.iconst 1, 1) := dk_4 (dk_at dksX1_gets_0 7 rfl rfl)
theorem dX1_gets_8 : decode bcX1_gets 8 = .ok (.if_icmp .ne 8, 3) := dk_160 0 8 (dk_at dksX1_gets_0 8 rfl rfl)
theorem dX1_gets_11 : decode bcX1_gets 11 = .ok (.iload_n 0, 1) := dk_26 (dk_at dksX1_gets_0 11 rfl rfl)
theorem dX1_gets_12 : decode bcX1_gets 12 = .ok (.ineg, 1) := dk_116 (dk_at dksX1_gets_0 12 rfl rfl)
theorem dX1_gets_13 : decode bcX1_gets 13 = .ok (.goto 18, 3) := dk_167 0 18 (dk_at dksX1_gets_0 13 rfl rfl)
theorem dX1_gets_16 : decode bcX1_gets 16 = .ok (.iload_n 1, 1) := dk_27 (dk_at dksX1_gets_0 16 rfl rfl)
theorem dX1_gets_17 : decode bcX1_gets 17 = .ok (.goto 14, 3) := dk_167 0 14 (dk_at dksX1_gets_0 17 rfl rfl)
theorem dX1_gets_20 : decode bcX1_gets 20 = .ok (.iload 4, 2) := dk_21 4 (dk_at dksX1_gets_0 20 rfl rfl)
theorem dX1_gets_22 : decode bcX1_gets 22 = .ok (.iconst 1, 1) := dk_4 (dk_at dksX1_gets_0 22 rfl rfl)
theorem dX1_gets_23 : decode bcX1_gets 23 = .ok (.if_icmp .ne 7, 3) := dk_160 0 7 (dk_at dksX1_gets_1 0 rfl rfl)
theorem dX1_gets_26 : decode bcX1_gets 26 = .ok (.iload_n 2, 1) := dk_28 (dk_at dksX1_gets_1 3 rfl rfl)
theorem dX1_gets_27 : decode bcX1_gets 27 = .ok (.goto 4, 3) := dk_167 0 4 (dk_at dksX1_gets_1 4 rfl rfl)
theorem dX1_gets_30 : decode bcX1_gets 30 = .ok (.iconst 0, 1) := dk_3 (dk_at dksX1_gets_1 7 rfl rfl)
theorem dX1_gets_31 : decode bcX1_gets 31 = .ok (.ireturn, 1) := dk_172 (dk_at dksX1_gets_1 8 rfl rfl)
abbrev SX1_gets (pc : Nat) (i : xI) : Prop := Snd "SwollenHouse" "gets" prog_1_method_73_code 5 (Option.some Jvm.ClassFile.FieldType.int) [] pc i
theorem oX1_gets_0 : SX1_gets 0 (i_iload 3 1) := snd_iload_n dX1_gets_0 rfl
theorem oX1_gets_1 : SX1_gets 1 (i_const (.int (nI 1)) 2) := snd_iconst dX1_gets_1 (by decide)
theorem oX1_gets_2 : SX1_gets 2 (i_if2 (fun x y => ¬ x = y) 20 5) := snd_icmp_ne dX1_gets_2 (by decide)
theorem oX1_gets_5 : SX1_gets 5 (i_iload 4 7) := snd_iload dX1_gets_5
theorem oX1_gets_7 : SX1_gets 7 (i_const (.int (nI 1)) 8) := snd_iconst dX1_gets_7 (by decide)
theorem oX1_gets_8 : SX1_gets 8 (i_if2 (fun x y => ¬ x = y) 16 11) := snd_icmp_ne dX1_gets_8 (by decide)
theorem oX1_gets_11 : SX1_gets 11 (i_iload 0 12) := snd_iload_n dX1_gets_11 rfl
theorem oX1_gets_12 : SX1_gets 12 (i_i1 (fun x => -x) 13) := snd_ineg dX1_gets_12
theorem oX1_gets_13 : SX1_gets 13 (i_goto 31) := snd_goto dX1_gets_13 (by decide)
theorem oX1_gets_16 : SX1_gets 16 (i_iload 1 17) := snd_iload_n dX1_gets_16 rfl
theorem oX1_gets_17 : SX1_gets 17 (i_goto 31) := snd_goto dX1_gets_17 (by decide)
theorem oX1_gets_20 : SX1_gets 20 (i_iload 4 22) := snd_iload dX1_gets_20
theorem oX1_gets_22 : SX1_gets 22 (i_const (.int (nI 1)) 23) := snd_iconst dX1_gets_22 (by decide)
theorem oX1_gets_23 : SX1_gets 23 (i_if2 (fun x y => ¬ x = y) 30 26) := snd_icmp_ne dX1_gets_23 (by decide)
theorem oX1_gets_26 : SX1_gets 26 (i_iload 2 27) := snd_iload_n dX1_gets_26 rfl
theorem oX1_gets_27 : SX1_gets 27 (i_goto 31) := snd_goto dX1_gets_27 (by decide)
theorem oX1_gets_30 : SX1_gets 30 (i_const (.int (nI 0)) 31) := snd_iconst dX1_gets_30 (by decide)
theorem oX1_gets_31 : SX1_gets 31 (i_iret) := snd_iret dX1_gets_31 rfl
theorem okX1_gets : ∀ q ∈ cX1_gets, SX1_gets q.1 q.2 := List.forall_mem_cons.mpr ⟨oX1_gets_0, List.forall_mem_cons.mpr ⟨oX1_gets_1, List.forall_mem_cons.mpr ⟨oX1_gets_2, List.forall_mem_cons.mpr ⟨oX1_gets_5, List.forall_mem_cons.mpr ⟨oX1_gets_7, List.forall_mem_cons.mpr ⟨oX1_gets_8, List.forall_mem_cons.mpr ⟨oX1_gets_11, List.forall_mem_cons.mpr ⟨oX1_gets_12, List.forall_mem_cons.mpr ⟨oX1_gets_13, List.forall_mem_cons.mpr ⟨oX1_gets_16, List.forall_mem_cons.mpr ⟨oX1_gets_17, List.forall_mem_cons.mpr ⟨oX1_gets_20, List.forall_mem_cons.mpr ⟨oX1_gets_22, List.forall_mem_cons.mpr ⟨oX1_gets_23, List.forall_mem_cons.mpr ⟨oX1_gets_26, List.forall_mem_cons.mpr ⟨oX1_gets_27, List.forall_mem_cons.mpr ⟨oX1_gets_30, List.forall_mem_cons.mpr ⟨oX1_gets_31, fun _ h => absurd h List.not_mem_nil⟩⟩⟩⟩⟩⟩⟩⟩⟩⟩⟩⟩⟩⟩⟩⟩⟩⟩
