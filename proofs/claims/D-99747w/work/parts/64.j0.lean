set_option maxRecDepth 100000
theorem dJ0_init_0 : decode bcJ0_init 0 = .ok (.aload_n 0, 1) := by decide +kernel
theorem dJ0_init_1 : decode bcJ0_init 1 = .ok (.invokespecial 1, 3) := by decide +kernel
theorem dJ0_init_4 : decode bcJ0_init 4 = .ok (.return_, 1) := by decide +kernel
abbrev SJ0_init (pc : Nat) (i : xI) : Prop := Snd "java/util/AbstractCollection" "<init>" prog_46_method_1_code 1 (Option.none : Option Jvm.ClassFile.FieldType) [] pc i
theorem oJ0_init_0 : SJ0_init 0 (i_aload 0 1) := snd_aload_n dJ0_init_0 rfl
theorem oJ0_init_1 : SJ0_init 1 (i_oi 4) := snd_oi dJ0_init_1 q228 q177 q_oicode
theorem oJ0_init_4 : SJ0_init 4 (i_vret) := snd_vret dJ0_init_4 rfl
theorem okJ0_init : ∀ q ∈ cJ0_init, SJ0_init q.1 q.2 := List.forall_mem_cons.mpr ⟨oJ0_init_0, List.forall_mem_cons.mpr ⟨oJ0_init_1, List.forall_mem_cons.mpr ⟨oJ0_init_4, fun _ h => absurd h List.not_mem_nil⟩⟩⟩
def dkwJ1_init_0 : List UInt8 := [42, 183, 0, 1, 42, 3, 181, 0, 7, 177]
abbrev dktJ1_init_0 : List UInt8 := dkwJ1_init_0 ++ []
theorem dksJ1_init_0 : bcJ1_init.data.toList.drop 0 = dktJ1_init_0 := by decide +kernel
theorem dJ1_init_0 : decode bcJ1_init 0 = .ok (.aload_n 0, 1) := dk_42 (dk_at dksJ1_init_0 0 rfl rfl)
theorem dJ1_init_1 : decode bcJ1_init 1 = .ok (.invokespecial 1, 3) := dk_183 0 1 (dk_at dksJ1_init_0 1 rfl rfl)
theorem dJ1_init_4 : decode bcJ1_init 4 = .ok (.aload_n 0, 1) := dk_42 (dk_at dksJ1_init_0 4 rfl rfl)
theorem dJ1_init_5 : decode bcJ1_init 5 = .ok (.iconst 0, 1) := dk_3 (dk_at dksJ1_init_0 5 rfl rfl)
theorem dJ1_init_6 : decode bcJ1_init 6 = .ok (.putfield 7, 3) := dk_181 0 7 (dk_at dksJ1_init_0 6 rfl rfl)
theorem dJ1_init_9 : decode bcJ1_init 9 = .ok (.return_, 1) := dk_177 (dk_at dksJ1_init_0 9 rfl rfl)
abbrev SJ1_init (pc : Nat) (i : xI) : Prop := Snd "java/util/AbstractList" "<init>" prog_47_method_1_code 1 (Option.none : Option Jvm.ClassFile.FieldType) [] pc i
theorem oJ1_init_0 : SJ1_init 0 (i_aload 0 1) := snd_aload_n dJ1_init_0 rfl
theorem oJ1_init_1 : SJ1_init 1 (i_ci [21] 0 0 4) := snd_ci rfl infJ0_init (by decide) (xcls_ok _ (by decide)) (xIm_I dJ1_init_1 rfl q225 q226 q130 q227 pdJ0_init)
theorem oJ1_init_4 : SJ1_init 4 (i_aload 0 5) := snd_aload_n dJ1_init_4 rfl
theorem oJ1_init_5 : SJ1_init 5 (i_const (.int (nI 0)) 6) := snd_iconst dJ1_init_5 (by decide)
theorem oJ1_init_6 : SJ1_init 6 (i_putfi 21 0 9) := snd_putfi dJ1_init_6 rfl (by decide) in_J2 tyJ2 tyJ2_ok nmJ2 (Or.inl ⟨rfl, q235⟩) (Or.inl rfl) rfl
theorem oJ1_init_9 : SJ1_init 9 (i_vret) := snd_vret dJ1_init_9 rfl
theorem okJ1_init : ∀ q ∈ cJ1_init, SJ1_init q.1 q.2 := List.forall_mem_cons.mpr ⟨oJ1_init_0, List.forall_mem_cons.mpr ⟨oJ1_init_1, List.forall_mem_cons.mpr ⟨oJ1_init_4, List.forall_mem_cons.mpr ⟨oJ1_init_5, List.forall_mem_cons.mpr ⟨oJ1_init_6, List.forall_mem_cons.mpr ⟨oJ1_init_9, fun _ h => absurd h List.not_mem_nil⟩⟩⟩⟩⟩⟩
def dkwJ10_init_2_2 : List UInt8 := [44, 181, 0, 7, 29, 154, 0, 8, 42, 1, 181, 0, 24, 177]
abbrev dktJ10_init_2_2 : List UInt8 := dkwJ10_init_2_2 ++ []
def dkwJ10_init_2_1 : List UInt8 := [21, 4, 153, 0, 11, 42, 182, 0, 27, 87, 167, 0, 8, 42, 1, 181, 0, 17, 42, 43, 181, 0, 31, 42]
abbrev dktJ10_init_2_1 : List UInt8 := dkwJ10_init_2_1 ++ dktJ10_init_2_2
def dkwJ10_init_2_0 : List UInt8 := [42, 183, 0, 1, 42, 42, 181, 0, 7, 42, 178, 0, 13, 181, 0, 17, 42, 178, 0, 20, 181, 0, 24]
abbrev dktJ10_init_2_0 : List UInt8 := dkwJ10_init_2_0 ++ dktJ10_init_2_1
theorem dksJ10_init_2_0 : bcJ10_init_2.data.toList.drop 0 = dktJ10_init_2_0 := by decide +kernel
theorem dksJ10_init_2_1 : bcJ10_init_2.data.toList.drop 23 = dktJ10_init_2_1 := dk_seg dksJ10_init_2_0 23 rfl rfl
theorem dksJ10_init_2_2 : bcJ10_init_2.data.toList.drop 47 = dktJ10_init_2_2 := dk_seg dksJ10_init_2_1 24 rfl rfl
theorem dJ10_init_2_0 : decode bcJ10_init_2 0 = .ok (.aload_n 0, 1) := dk_42 (dk_at dksJ10_init_2_0 0 rfl rfl)
theorem dJ10_init_2_1 : decode bcJ10_init_2 1 = .ok (.invokespecial 1, 3) := dk_183 0 1 (dk_at dksJ10_init_2_0 1 rfl rfl)
theorem dJ10_init_2_4 : decode bcJ10_init_2 4 = .ok (.aload_n 0, 1) := dk_42 (dk_at dksJ10_init_2_0 4 rfl rfl)
theorem dJ10_init_2_5 : decode bcJ10_init_2 5 = .ok (.aload_n 0, 1) := dk_42 (dk_at dksJ10_init_2_0 5 rfl rfl)
theorem dJ10_init_2_6 : decode bcJ10_init_2 6 = .ok (.putfield 7, 3) := dk_181 0 7 (dk_at dksJ10_init_2_0 6 rfl rfl)
theorem dJ10_init_2_9 : decode bcJ10_init_2 9 = .ok (.aload_n 0, 1) := dk_42 (dk_at dksJ10_init_2_0 9 rfl rfl)
theorem dJ10_init_2_10 : decode bcJ10_init_2 10 = .ok (.getstatic 13, 3) := dk_178 0 13 (dk_at dksJ10_init_2_0 10 rfl rfl)
theorem dJ10_init_2_13 : decode bcJ10_init_2 13 = .ok (.putfield 17, 3) := dk_181 0 17 (dk_at dksJ10_init_2_0 13 rfl rfl)
theorem dJ10_init_2_16 : decode bcJ10_init_2 16 = .ok (.aload_n 0, 1) := dk_42 (dk_at dksJ10_init_2_0 16 rfl rfl)
theorem dJ10_init_2_17 : decode bcJ10_init_2 17 = .ok (.getstatic 20, 3) := dk_178 0 20 (dk_at dksJ10_init_2_0 17 rfl rfl)
theorem dJ10_init_2_20 : decode bcJ10_init_2 20 = .ok (.putfield 24, 3) := dk_181 0 24 (dk_at dksJ10_init_2_0 20 rfl rfl)
theorem dJ10_init_2_23 : decode bcJ10_init_2 23 = .ok (.iload 4, 2) := dk_21 4 (dk_at dksJ10_init_2_1 0 rfl rfl)
theorem dJ10_init_2_25 : decode bcJ10_init_2 25 = .ok (.ifCond .eq 11, 3) := dk_153 0 11 (dk_at dksJ10_init_2_1 2 rfl rfl)
theorem dJ10_init_2_28 : decode bcJ10_init_2 28 = .ok (.aload_n 0, 1) := dk_42 (dk_at dksJ10_init_2_1 5 rfl rfl)
theorem dJ10_init_2_29 : decode bcJ10_init_2 29 = .ok (.invokevirtual 27, 3) := dk_182 0 27 (dk_at dksJ10_init_2_1 6 rfl rfl)
theorem dJ10_init_2_32 : decode bcJ10_init_2 32 = .ok (.pop, 1) := dk_87 (dk_at dksJ10_init_2_1 9 rfl rfl)
theorem dJ10_init_2_33 : decode bcJ10_init_2 33 = .ok (.goto 8, 3) := dk_167 0 8 (dk_at dksJ10_init_2_1 10 rfl rfl)
theorem dJ10_init_2_36 : decode bcJ10_init_2 36 = .ok (.aload_n 0, 1) := dk_42 (dk_at dksJ10_init_2_1 13 rfl rfl)
theorem dJ10_init_2_37 : decode bcJ10_init_2 37 = .ok (.aconst_null, 1) := dk_1 (dk_at dksJ10_init_2_1 14 rfl rfl)
theorem dJ10_init_2_38 : decode bcJ10_init_2 38 = .ok (.putfield 17, 3) := dk_181 0 17 (dk_at dksJ10_init_2_1 15 rfl rfl)
theorem dJ10_init_2_41 : decode bcJ10_init_2 41 = .ok (.aload_n 0, 1) := dk_42 (dk_at dksJ10_init_2_1 18 rfl rfl)
theorem dJ10_init_2_42 : decode bcJ10_init_2 42 = .ok (.aload_n 1, 1) := dk_43 (dk_at dksJ10_init_2_1 19 rfl rfl)
theorem dJ10_init_2_43 : decode bcJ10_init_2 43 = .ok (.putfield 31, 3) := dk_181 0 31 (dk_at dksJ10_init_2_1 20 rfl rfl)
theorem dJ10_init_2_46 : decode bcJ10_init_2 46 = .ok (.aload_n 0, 1) := dk_42 (dk_at dksJ10_init_2_1 23 rfl rfl)
theorem dJ10_init_2_47 : decode bcJ10_init_2 47 = .ok (.aload_n 2, 1) := dk_44 (dk_at dksJ10_init_2_2 0 rfl rfl)
theorem dJ10_init_2_48 : decode bcJ10_init_2 48 = .ok (.putfield 7, 3) := dk_181 0 7 (dk_at dksJ10_init_2_2 1 rfl rfl)
theorem dJ10_init_2_51 : decode bcJ10_init_2 51 = .ok (.iload_n 3, 1) := dk_29 (dk_at dksJ10_init_2_2 4 rfl rfl)
theorem dJ10_init_2_52 : decode bcJ10_init_2 52 = .ok (.ifCond .ne 8, 3) := dk_154 0 8 (dk_at dksJ10_init_2_2 5 rfl rfl)
theorem dJ10_init_2_55 : decode bcJ10_init_2 55 = .ok (.aload_n 0, 1) := dk_42 (dk_at dksJ10_init_2_2 8 rfl rfl)
theorem dJ10_init_2_56 : decode bcJ10_init_2 56 = .ok (.aconst_null, 1) := dk_1 (dk_at dksJ10_init_2_2 9 rfl rfl)
theorem dJ10_init_2_57 : decode bcJ10_init_2 57 = .ok (.putfield 24, 3) := dk_181 0 24 (dk_at dksJ10_init_2_2 10 rfl rfl)
theorem dJ10_init_2_60 : decode bcJ10_init_2 60 = .ok (.return_, 1) := dk_177 (dk_at dksJ10_init_2_2 13 rfl rfl)
abbrev SJ10_init_2 (pc : Nat) (i : xI) : Prop := Snd "java/lang/Throwable" "<init>" prog_43_method_5_code 5 (Option.none : Option Jvm.ClassFile.FieldType) [] pc i
theorem oJ10_init_2_0 : SJ10_init_2 0 (i_aload 0 1) := snd_aload_n dJ10_init_2_0 rfl
theorem oJ10_init_2_1 : SJ10_init_2 1 (i_oi 4) := snd_oi dJ10_init_2_1 q592 q177 q_oicode
theorem oJ10_init_2_4 : SJ10_init_2 4 (i_aload 0 5) := snd_aload_n dJ10_init_2_4 rfl
theorem oJ10_init_2_5 : SJ10_init_2 5 (i_aload 0 6) := snd_aload_n dJ10_init_2_5 rfl
theorem oJ10_init_2_6 : SJ10_init_2 6 (i_putfr 5 0 9) := snd_putfr dJ10_init_2_6 rfl (by decide) in_X6 tyX6 tyX6_ok nmX6 (Or.inl ⟨rfl, q623⟩) (Or.inl rfl) (Or.inl ⟨_, rfl⟩)
theorem oJ10_init_2_9 : SJ10_init_2 9 (i_aload 0 10) := snd_aload_n dJ10_init_2_9 rfl
theorem oJ10_init_2_10 : SJ10_init_2 10 (i_const (.ref 33) 13) := snd_gets dJ10_init_2_10 xst_UNASSIGNED_STACK q593
theorem oJ10_init_2_13 : SJ10_init_2 13 (i_putfr 5 1 16) := snd_putfr dJ10_init_2_13 rfl (by decide) in_X6 tyX6 tyX6_ok nmX6 (Or.inl ⟨rfl, q624⟩) (Or.inl rfl) (Or.inr ⟨_, rfl⟩)
theorem oJ10_init_2_16 : SJ10_init_2 16 (i_aload 0 17) := snd_aload_n dJ10_init_2_16 rfl
theorem oJ10_init_2_17 : SJ10_init_2 17 (i_const (.ref 34) 20) := snd_gets dJ10_init_2_17 xst_SUPPRESSED_SENTINEL q595
theorem oJ10_init_2_20 : SJ10_init_2 20 (i_putfr 5 2 23) := snd_putfr dJ10_init_2_20 rfl (by decide) in_X6 tyX6 tyX6_ok nmX6 (Or.inl ⟨rfl, q625⟩) (Or.inl rfl) (Or.inl ⟨_, rfl⟩)
theorem oJ10_init_2_23 : SJ10_init_2 23 (i_iload 4 25) := snd_iload dJ10_init_2_23
theorem oJ10_init_2_25 : SJ10_init_2 25 (i_if1 (fun x => x = 0) 36 28) := snd_if_eq dJ10_init_2_25 (by decide)
theorem oJ10_init_2_28 : SJ10_init_2 28 (i_aload 0 29) := snd_aload_n dJ10_init_2_28 rfl
theorem oJ10_init_2_29 : SJ10_init_2 29 (i_no) := snd_no
theorem oJ10_init_2_32 : SJ10_init_2 32 (i_pop 33) := snd_pop dJ10_init_2_32
theorem oJ10_init_2_33 : SJ10_init_2 33 (i_goto 41) := snd_goto dJ10_init_2_33 (by decide)
theorem oJ10_init_2_36 : SJ10_init_2 36 (i_aload 0 37) := snd_aload_n dJ10_init_2_36 rfl
theorem oJ10_init_2_37 : SJ10_init_2 37 (i_const .null 38) := snd_null dJ10_init_2_37
theorem oJ10_init_2_38 : SJ10_init_2 38 (i_putfr 5 1 41) := snd_putfr dJ10_init_2_38 rfl (by decide) in_X6 tyX6 tyX6_ok nmX6 (Or.inl ⟨rfl, q624⟩) (Or.inl rfl) (Or.inr ⟨_, rfl⟩)
theorem oJ10_init_2_41 : SJ10_init_2 41 (i_aload 0 42) := snd_aload_n dJ10_init_2_41 rfl
theorem oJ10_init_2_42 : SJ10_init_2 42 (i_aload 1 43) := snd_aload_n dJ10_init_2_42 rfl
theorem oJ10_init_2_43 : SJ10_init_2 43 (i_putfr 5 3 46) := snd_putfr dJ10_init_2_43 rfl (by decide) in_X6 tyX6 tyX6_ok nmX6 (Or.inl ⟨rfl, q622⟩) (Or.inl rfl) (Or.inl ⟨_, rfl⟩)
theorem oJ10_init_2_46 : SJ10_init_2 46 (i_aload 0 47) := snd_aload_n dJ10_init_2_46 rfl
theorem oJ10_init_2_47 : SJ10_init_2 47 (i_aload 2 48) := snd_aload_n dJ10_init_2_47 rfl
theorem oJ10_init_2_48 : SJ10_init_2 48 (i_putfr 5 0 51) := snd_putfr dJ10_init_2_48 rfl (by decide) in_X6 tyX6 tyX6_ok nmX6 (Or.inl ⟨rfl, q623⟩) (Or.inl rfl) (Or.inl ⟨_, rfl⟩)
theorem oJ10_init_2_51 : SJ10_init_2 51 (i_iload 3 52) := snd_iload_n dJ10_init_2_51 rfl
theorem oJ10_init_2_52 : SJ10_init_2 52 (i_if1 (fun x => ¬ x = 0) 60 55) := snd_if_ne dJ10_init_2_52 (by decide)
theorem oJ10_init_2_55 : SJ10_init_2 55 (i_aload 0 56) := snd_aload_n dJ10_init_2_55 rfl
theorem oJ10_init_2_56 : SJ10_init_2 56 (i_const .null 57) := snd_null dJ10_init_2_56
theorem oJ10_init_2_57 : SJ10_init_2 57 (i_putfr 5 2 60) := snd_putfr dJ10_init_2_57 rfl (by decide) in_X6 tyX6 tyX6_ok nmX6 (Or.inl ⟨rfl, q625⟩) (Or.inl rfl) (Or.inl ⟨_, rfl⟩)
theorem oJ10_init_2_60 : SJ10_init_2 60 (i_vret) := snd_vret dJ10_init_2_60 rfl
theorem okJ10_init_2 : ∀ q ∈ cJ10_init_2, SJ10_init_2 q.1 q.2 := List.forall_mem_cons.mpr ⟨oJ10_init_2_0, List.forall_mem_cons.mpr ⟨oJ10_init_2_1, List.forall_mem_cons.mpr ⟨oJ10_init_2_4, List.forall_mem_cons.mpr ⟨oJ10_init_2_5, List.forall_mem_cons.mpr ⟨oJ10_init_2_6, List.forall_mem_cons.mpr ⟨oJ10_init_2_9, List.forall_mem_cons.mpr ⟨oJ10_init_2_10, List.forall_mem_cons.mpr ⟨oJ10_init_2_13, List.forall_mem_cons.mpr ⟨oJ10_init_2_16, List.forall_mem_cons.mpr ⟨oJ10_init_2_17, List.forall_mem_cons.mpr ⟨oJ10_init_2_20, List.forall_mem_cons.mpr ⟨oJ10_init_2_23, List.forall_mem_cons.mpr ⟨oJ10_init_2_25, List.forall_mem_cons.mpr ⟨oJ10_init_2_28, List.forall_mem_cons.mpr ⟨oJ10_init_2_29, List.forall_mem_cons.mpr ⟨oJ10_init_2_32, List.forall_mem_cons.mpr ⟨oJ10_init_2_33, List.forall_mem_cons.mpr ⟨oJ10_init_2_36, List.forall_mem_cons.mpr ⟨oJ10_init_2_37, List.forall_mem_cons.mpr ⟨oJ10_init_2_38, List.forall_mem_cons.mpr ⟨oJ10_init_2_41, List.forall_mem_cons.mpr ⟨oJ10_init_2_42, List.forall_mem_cons.mpr ⟨oJ10_init_2_43, List.forall_mem_cons.mpr ⟨oJ10_init_2_46, List.forall_mem_cons.mpr ⟨oJ10_init_2_47, List.forall_mem_cons.mpr ⟨oJ10_init_2_48, List.forall_mem_cons.mpr ⟨oJ10_init_2_51, List.forall_mem_cons.mpr ⟨oJ10_init_2_52, List.forall_mem_cons.mpr ⟨oJ10_init_2_55, List.forall_mem_cons.mpr ⟨oJ10_init_2_56, List.forall_mem_cons.mpr ⟨oJ10_init_2_57, List.forall_mem_cons.mpr ⟨oJ10_init_2_60, fun _ h => absurd h List.not_mem_nil⟩⟩⟩⟩⟩⟩⟩⟩⟩⟩⟩⟩⟩⟩⟩⟩⟩⟩⟩⟩⟩⟩⟩⟩⟩⟩⟩⟩⟩⟩⟩⟩
def dkwJ11_init_0 : List UInt8 := [42, 43, 44, 29, 21, 4, 183, 0, 16, 177]
abbrev dktJ11_init_0 : List UInt8 := dkwJ11_init_0 ++ []
theorem dksJ11_init_0 : bcJ11_init.data.toList.drop 0 = dktJ11_init_0 := by decide +kernel
theorem dJ11_init_0 : decode bcJ11_init 0 = .ok (.aload_n 0, 1) := dk_42 (dk_at dksJ11_init_0 0 rfl rfl)
theorem dJ11_init_1 : decode bcJ11_init 1 = .ok (.aload_n 1, 1) := dk_43 (dk_at dksJ11_init_0 1 rfl rfl)
theorem dJ11_init_2 : decode bcJ11_init 2 = .ok (.aload_n 2, 1) := dk_44 (dk_at dksJ11_init_0 2 rfl rfl)
theorem dJ11_init_3 : decode bcJ11_init 3 = .ok (.iload_n 3, 1) := dk_29 (dk_at dksJ11_init_0 3 rfl rfl)
theorem dJ11_init_4 : decode bcJ11_init 4 = .ok (.iload 4, 2) := dk_21 4 (dk_at dksJ11_init_0 4 rfl rfl)
theorem dJ11_init_6 : decode bcJ11_init 6 = .ok (.invokespecial 16, 3) := dk_183 0 16 (dk_at dksJ11_init_0 6 rfl rfl)
theorem dJ11_init_9 : decode bcJ11_init 9 = .ok (.return_, 1) := dk_177 (dk_at dksJ11_init_0 9 rfl rfl)
abbrev SJ11_init (pc : Nat) (i : xI) : Prop := Snd "java/lang/Exception" "<init>" prog_33_method_5_code 5 (Option.none : Option Jvm.ClassFile.FieldType) [] pc i
theorem oJ11_init_0 : SJ11_init 0 (i_aload 0 1) := snd_aload_n dJ11_init_0 rfl
theorem oJ11_init_1 : SJ11_init 1 (i_aload 1 2) := snd_aload_n dJ11_init_1 rfl
theorem oJ11_init_2 : SJ11_init 2 (i_aload 2 3) := snd_aload_n dJ11_init_2 rfl
theorem oJ11_init_3 : SJ11_init 3 (i_iload 3 4) := snd_iload_n dJ11_init_3 rfl
theorem oJ11_init_4 : SJ11_init 4 (i_iload 4 6) := snd_iload dJ11_init_4
theorem oJ11_init_6 : SJ11_init 6 (i_ci [5] 3 4 9) := snd_ci rfl infJ10_init_2 (by decide) (xcls_ok _ (by decide)) (xIm_I dJ11_init_6 rfl q616 q617 q142 q618 pdJ10_init_2)
theorem oJ11_init_9 : SJ11_init 9 (i_vret) := snd_vret dJ11_init_9 rfl
theorem okJ11_init : ∀ q ∈ cJ11_init, SJ11_init q.1 q.2 := List.forall_mem_cons.mpr ⟨oJ11_init_0, List.forall_mem_cons.mpr ⟨oJ11_init_1, List.forall_mem_cons.mpr ⟨oJ11_init_2, List.forall_mem_cons.mpr ⟨oJ11_init_3, List.forall_mem_cons.mpr ⟨oJ11_init_4, List.forall_mem_cons.mpr ⟨oJ11_init_6, List.forall_mem_cons.mpr ⟨oJ11_init_9, fun _ h => absurd h List.not_mem_nil⟩⟩⟩⟩⟩⟩⟩
def dkwJ12_init_0 : List UInt8 := [42, 43, 44, 29, 21, 4, 183, 0, 16, 177]
abbrev dktJ12_init_0 : List UInt8 := dkwJ12_init_0 ++ []
theorem dksJ12_init_0 : bcJ12_init.data.toList.drop 0 = dktJ12_init_0 := by decide +kernel
theorem dJ12_init_0 : decode bcJ12_init 0 = .ok (.aload_n 0, 1) := dk_42 (dk_at dksJ12_init_0 0 rfl rfl)
theorem dJ12_init_1 : decode bcJ12_init 1 = .ok (.aload_n 1, 1) := dk_43 (dk_at dksJ12_init_0 1 rfl rfl)
theorem dJ12_init_2 : decode bcJ12_init 2 = .ok (.aload_n 2, 1) := dk_44 (dk_at dksJ12_init_0 2 rfl rfl)
theorem dJ12_init_3 : decode bcJ12_init 3 = .ok (.iload_n 3, 1) := dk_29 (dk_at dksJ12_init_0 3 rfl rfl)
theorem dJ12_init_4 : decode bcJ12_init 4 = .ok (.iload 4, 2) := dk_21 4 (dk_at dksJ12_init_0 4 rfl rfl)
theorem dJ12_init_6 : decode bcJ12_init 6 = .ok (.invokespecial 16, 3) := dk_183 0 16 (dk_at dksJ12_init_0 6 rfl rfl)
theorem dJ12_init_9 : decode bcJ12_init 9 = .ok (.return_, 1) := dk_177 (dk_at dksJ12_init_0 9 rfl rfl)
abbrev SJ12_init (pc : Nat) (i : xI) : Prop := Snd "java/lang/RuntimeException" "<init>" prog_37_method_5_code 5 (Option.none : Option Jvm.ClassFile.FieldType) [] pc i
theorem oJ12_init_0 : SJ12_init 0 (i_aload 0 1) := snd_aload_n dJ12_init_0 rfl
theorem oJ12_init_1 : SJ12_init 1 (i_aload 1 2) := snd_aload_n dJ12_init_1 rfl
theorem oJ12_init_2 : SJ12_init 2 (i_aload 2 3) := snd_aload_n dJ12_init_2 rfl
theorem oJ12_init_3 : SJ12_init 3 (i_iload 3 4) := snd_iload_n dJ12_init_3 rfl
theorem oJ12_init_4 : SJ12_init 4 (i_iload 4 6) := snd_iload dJ12_init_4
theorem oJ12_init_6 : SJ12_init 6 (i_ci [5] 4 4 9) := snd_ci rfl infJ11_init (by decide) (xcls_ok _ (by decide)) (xIm_I dJ12_init_6 rfl q613 q614 q143 q615 pdJ11_init)
theorem oJ12_init_9 : SJ12_init 9 (i_vret) := snd_vret dJ12_init_9 rfl
theorem okJ12_init : ∀ q ∈ cJ12_init, SJ12_init q.1 q.2 := List.forall_mem_cons.mpr ⟨oJ12_init_0, List.forall_mem_cons.mpr ⟨oJ12_init_1, List.forall_mem_cons.mpr ⟨oJ12_init_2, List.forall_mem_cons.mpr ⟨oJ12_init_3, List.forall_mem_cons.mpr ⟨oJ12_init_4, List.forall_mem_cons.mpr ⟨oJ12_init_6, List.forall_mem_cons.mpr ⟨oJ12_init_9, fun _ h => absurd h List.not_mem_nil⟩⟩⟩⟩⟩⟩⟩
def dkwJ13_init_1 : List UInt8 := [167, 0, 16, 42, 27, 184, 0, 26, 181, 0, 15, 42, 4, 181, 0, 22, 177]
abbrev dktJ13_init_1 : List UInt8 := dkwJ13_init_1 ++ []
def dkwJ13_init_0 : List UInt8 := [42, 183, 0, 3, 178, 0, 18, 153, 0, 18, 42, 27, 188, 8, 181, 0, 15, 42, 3, 181, 0, 22]
abbrev dktJ13_init_0 : List UInt8 := dkwJ13_init_0 ++ dktJ13_init_1
theorem dksJ13_init_0 : bcJ13_init.data.toList.drop 0 = dktJ13_init_0 := by decide +kernel
theorem dksJ13_init_1 : bcJ13_init.data.toList.drop 22 = dktJ13_init_1 := dk_seg dksJ13_init_0 22 rfl rfl
theorem dJ13_init_0 : decode bcJ13_init 0 = .ok (.aload_n 0, 1) := dk_42 (dk_at dksJ13_init_0 0 rfl rfl)
theorem dJ13_init_1 : decode bcJ13_init 1 = .ok (.invokespecial 3, 3) := dk_183 0 3 (dk_at dksJ13_init_0 1 rfl rfl)
theorem dJ13_init_4 : decode bcJ13_init 4 = .ok (.getstatic 18, 3) := dk_178 0 18 (dk_at dksJ13_init_0 4 rfl rfl)
theorem dJ13_init_7 : decode bcJ13_init 7 = .ok (.ifCond .eq 18, 3) := dk_153 0 18 (dk_at dksJ13_init_0 7 rfl rfl)
theorem dJ13_init_10 : decode bcJ13_init 10 = .ok (.aload_n 0, 1) := dk_42 (dk_at dksJ13_init_0 10 rfl rfl)
theorem dJ13_init_11 : decode bcJ13_init 11 = .ok (.iload_n 1, 1) := dk_27 (dk_at dksJ13_init_0 11 rfl rfl)
theorem dJ13_init_12 : decode bcJ13_init 12 = .ok (.newarray .byte, 2) := dk_188_8 (dk_at dksJ13_init_0 12 rfl rfl)
theorem dJ13_init_14 : decode bcJ13_init 14 = .ok (.putfield 15, 3) := dk_181 0 15 (dk_at dksJ13_init_0 14 rfl rfl)
theorem dJ13_init_17 : decode bcJ13_init 17 = .ok (.aload_n 0, 1) := dk_42 (dk_at dksJ13_init_0 17 rfl rfl)
theorem dJ13_init_18 : decode bcJ13_init 18 = .ok (.iconst 0, 1) := dk_3 (dk_at dksJ13_init_0 18 rfl rfl)
theorem dJ13_init_19 : decode bcJ13_init 19 = .ok (.putfield 22, 3) := dk_181 0 22 (dk_at dksJ13_init_0 19 rfl rfl)
theorem dJ13_init_22 : decode bcJ13_init 22 = .ok (.goto 16, 3) := dk_167 0 16 (dk_at dksJ13_init_1 0 rfl rfl)
theorem dJ13_init_25 : decode bcJ13_init 25 = .ok (.aload_n 0, 1) := dk_42 (dk_at dksJ13_init_1 3 rfl rfl)
theorem dJ13_init_26 : decode bcJ13_init 26 = .ok (.iload_n 1, 1) := dk_27 (dk_at dksJ13_init_1 4 rfl rfl)
theorem dJ13_init_27 : decode bcJ13_init 27 = .ok (.invokestatic 26, 3) := dk_184 0 26 (dk_at dksJ13_init_1 5 rfl rfl)
theorem dJ13_init_30 : decode bcJ13_init 30 = .ok (.putfield 15, 3) := dk_181 0 15 (dk_at dksJ13_init_1 8 rfl rfl)
theorem dJ13_init_33 : decode bcJ13_init 33 = .ok (.aload_n 0, 1) := dk_42 (dk_at dksJ13_init_1 11 rfl rfl)
theorem dJ13_init_34 : decode bcJ13_init 34 = .ok (.iconst 1, 1) := dk_4 (dk_at dksJ13_init_1 12 rfl rfl)
theorem dJ13_init_35 : decode bcJ13_init 35 = .ok (.putfield 22, 3) := dk_181 0 22 (dk_at dksJ13_init_1 13 rfl rfl)
theorem dJ13_init_38 : decode bcJ13_init 38 = .ok (.return_, 1) := dk_177 (dk_at dksJ13_init_1 16 rfl rfl)
abbrev SJ13_init (pc : Nat) (i : xI) : Prop := Snd "java/lang/AbstractStringBuilder" "<init>" prog_27_method_2_code 2 (Option.none : Option Jvm.ClassFile.FieldType) [] pc i
theorem oJ13_init_0 : SJ13_init 0 (i_aload 0 1) := snd_aload_n dJ13_init_0 rfl
theorem oJ13_init_1 : SJ13_init 1 (i_oi 4) := snd_oi dJ13_init_1 q662 q177 q_oicode
theorem oJ13_init_4 : SJ13_init 4 (i_const (.int (nI 1)) 7) := snd_gets dJ13_init_4 xst_COMPACT_STRINGS q663
theorem oJ13_init_7 : SJ13_init 7 (i_if1 (fun x => x = 0) 25 10) := snd_if_eq dJ13_init_7 (by decide)
theorem oJ13_init_10 : SJ13_init 10 (i_aload 0 11) := snd_aload_n dJ13_init_10 rfl
theorem oJ13_init_11 : SJ13_init 11 (i_iload 1 12) := snd_iload_n dJ13_init_11 rfl
theorem oJ13_init_12 : SJ13_init 12 (i_newa 1 (.inl (fun _ => 0)) 14) := snd_na1 dJ13_init_12
theorem oJ13_init_14 : SJ13_init 14 (i_putfr 23 0 17) := snd_putfr dJ13_init_14 rfl (by decide) in_J14 tyJ14 tyJ14_ok nmJ14 (Or.inl ⟨rfl, q671⟩) (Or.inl rfl) (Or.inr ⟨_, rfl⟩)
theorem oJ13_init_17 : SJ13_init 17 (i_aload 0 18) := snd_aload_n dJ13_init_17 rfl
theorem oJ13_init_18 : SJ13_init 18 (i_const (.int (nI 0)) 19) := snd_iconst dJ13_init_18 (by decide)
theorem oJ13_init_19 : SJ13_init 19 (i_putfn .byte 23 1 22) := snd_putfn (k := 1) dJ13_init_19 rfl (by decide) in_J14 tyJ14 tyJ14_ok nmJ14 (Or.inl ⟨rfl, q672⟩) (Or.inl rfl) rfl
theorem oJ13_init_22 : SJ13_init 22 (i_goto 38) := snd_goto dJ13_init_22 (by decide)
theorem oJ13_init_25 : SJ13_init 25 (i_aload 0 26) := snd_aload_n dJ13_init_25 rfl
theorem oJ13_init_26 : SJ13_init 26 (i_iload 1 27) := snd_iload_n dJ13_init_26 rfl
theorem oJ13_init_27 : SJ13_init 27 (i_no) := snd_no
theorem oJ13_init_30 : SJ13_init 30 (i_putfr 23 0 33) := snd_putfr dJ13_init_30 rfl (by decide) in_J14 tyJ14 tyJ14_ok nmJ14 (Or.inl ⟨rfl, q671⟩) (Or.inl rfl) (Or.inr ⟨_, rfl⟩)
theorem oJ13_init_33 : SJ13_init 33 (i_aload 0 34) := snd_aload_n dJ13_init_33 rfl
theorem oJ13_init_34 : SJ13_init 34 (i_const (.int (nI 1)) 35) := snd_iconst dJ13_init_34 (by decide)
theorem oJ13_init_35 : SJ13_init 35 (i_putfn .byte 23 1 38) := snd_putfn (k := 1) dJ13_init_35 rfl (by decide) in_J14 tyJ14 tyJ14_ok nmJ14 (Or.inl ⟨rfl, q672⟩) (Or.inl rfl) rfl
theorem oJ13_init_38 : SJ13_init 38 (i_vret) := snd_vret dJ13_init_38 rfl
theorem okJ13_init : ∀ q ∈ cJ13_init, SJ13_init q.1 q.2 := List.forall_mem_cons.mpr ⟨oJ13_init_0, List.forall_mem_cons.mpr ⟨oJ13_init_1, List.forall_mem_cons.mpr ⟨oJ13_init_4, List.forall_mem_cons.mpr ⟨oJ13_init_7, List.forall_mem_cons.mpr ⟨oJ13_init_10, List.forall_mem_cons.mpr ⟨oJ13_init_11, List.forall_mem_cons.mpr ⟨oJ13_init_12, List.forall_mem_cons.mpr ⟨oJ13_init_14, List.forall_mem_cons.mpr ⟨oJ13_init_17, List.forall_mem_cons.mpr ⟨oJ13_init_18, List.forall_mem_cons.mpr ⟨oJ13_init_19, List.forall_mem_cons.mpr ⟨oJ13_init_22, List.forall_mem_cons.mpr ⟨oJ13_init_25, List.forall_mem_cons.mpr ⟨oJ13_init_26, List.forall_mem_cons.mpr ⟨oJ13_init_27, List.forall_mem_cons.mpr ⟨oJ13_init_30, List.forall_mem_cons.mpr ⟨oJ13_init_33, List.forall_mem_cons.mpr ⟨oJ13_init_34, List.forall_mem_cons.mpr ⟨oJ13_init_35, List.forall_mem_cons.mpr ⟨oJ13_init_38, fun _ h => absurd h List.not_mem_nil⟩⟩⟩⟩⟩⟩⟩⟩⟩⟩⟩⟩⟩⟩⟩⟩⟩⟩⟩⟩
def dkwJ13_append_3 : List UInt8 := [181, 0, 79, 27, 184, 0, 197, 42, 176]
abbrev dktJ13_append_3 : List UInt8 := dkwJ13_append_3 ++ []
def dkwJ13_append_2 : List UInt8 := [182, 0, 83, 153, 0, 7, 42, 182, 0, 195, 42, 180, 0, 15, 42, 89, 180, 0, 79, 90, 4, 96]
abbrev dktJ13_append_2 : List UInt8 := dkwJ13_append_2 ++ dktJ13_append_3
def dkwJ13_append_1 : List UInt8 := [42, 180, 0, 15, 42, 89, 180, 0, 79, 90, 4, 96, 181, 0, 79, 27, 145, 84, 167, 0, 33, 42]
abbrev dktJ13_append_1 : List UInt8 := dkwJ13_append_1 ++ dktJ13_append_2
def dkwJ13_append_0 : List UInt8 := [42, 42, 180, 0, 79, 4, 96, 182, 0, 100, 42, 182, 0, 83, 153, 0, 31, 27, 184, 0, 191, 153, 0, 24]
abbrev dktJ13_append_0 : List UInt8 := dkwJ13_append_0 ++ dktJ13_append_1
theorem dksJ13_append_0 : bcJ13_append.data.toList.drop 0 = dktJ13_append_0 := by decide +kernel
theorem dksJ13_append_1 : bcJ13_append.data.toList.drop 24 = dktJ13_append_1 := dk_seg dksJ13_append_0 24 rfl rfl
theorem dksJ13_append_2 : bcJ13_append.data.toList.drop 46 = dktJ13_append_2 := dk_seg dksJ13_append_1 22 rfl rfl
theorem dksJ13_append_3 : bcJ13_append.data.toList.drop 68 = dktJ13_append_3 := dk_seg dksJ13_append_2 22 rfl rfl
theorem dJ13_append_0 : decode bcJ13_append 0 = .ok (.aload_n 0, 1) := dk_42 (dk_at dksJ13_append_0 0 rfl rfl)
theorem dJ13_append_1 : decode bcJ13_append 1 = .ok (.aload_n 0, 1) := dk_42 (dk_at dksJ13_append_0 1 rfl rfl)
theorem dJ13_append_2 : decode bcJ13_append 2 = .ok (.getfield 79, 3) := dk_180 0 79 (dk_at dksJ13_append_0 2 rfl rfl)
theorem dJ13_append_5 : decode bcJ13_append 5 = .ok (.iconst 1, 1) := dk_4 (dk_at dksJ13_append_0 5 rfl rfl)
theorem dJ13_append_6 : decode bcJ13_append 6 = .ok (.iadd, 1) := dk_96 (dk_at dksJ13_append_0 6 rfl rfl)
theorem dJ13_append_7 : decode bcJ13_append 7 = .ok (.invokevirtual 100, 3) := dk_182 0 100 (dk_at dksJ13_append_0 7 rfl rfl)
theorem dJ13_append_10 : decode bcJ13_append 10 = .ok (.aload_n 0, 1) := dk_42 (dk_at dksJ13_append_0 10 rfl rfl)
theorem dJ13_append_11 : decode bcJ13_append 11 = .ok (.invokevirtual 83, 3) := dk_182 0 83 (dk_at dksJ13_append_0 11 rfl rfl)
theorem dJ13_append_14 : decode bcJ13_append 14 = .ok (.ifCond .eq 31, 3) := dk_153 0 31 (dk_at dksJ13_append_0 14 rfl rfl)
theorem dJ13_append_17 : decode bcJ13_append 17 = .ok (.iload_n 1, 1) := dk_27 (dk_at dksJ13_append_0 17 rfl rfl)
theorem dJ13_append_18 : decode bcJ13_append 18 = .ok (.invokestatic 191, 3) := dk_184 0 191 (dk_at dksJ13_append_0 18 rfl rfl)
theorem dJ13_append_21 : decode bcJ13_append 21 = .ok (.ifCond .eq 24, 3) := dk_153 0 24 (dk_at dksJ13_append_0 21 rfl rfl)
theorem dJ13_append_24 : decode bcJ13_append 24 = .ok (.aload_n 0, 1) := dk_42 (dk_at dksJ13_append_1 0 rfl rfl)
theorem dJ13_append_25 : decode bcJ13_append 25 = .ok (.getfield 15, 3) := dk_180 0 15 (dk_at dksJ13_append_1 1 rfl rfl)
theorem dJ13_append_28 : decode bcJ13_append 28 = .ok (.aload_n 0, 1) := dk_42 (dk_at dksJ13_append_1 4 rfl rfl)
theorem dJ13_append_29 : decode bcJ13_append 29 = .ok (.dup, 1) := dk_89 (dk_at dksJ13_append_1 5 rfl rfl)
theorem dJ13_append_30 : decode bcJ13_append 30 = .ok (.getfield 79, 3) := dk_180 0 79 (dk_at dksJ13_append_1 6 rfl rfl)
theorem dJ13_append_33 : decode bcJ13_append 33 = .ok (.dup_x1, 1) := dk_90 (dk_at dksJ13_append_1 9 rfl rfl)
theorem dJ13_append_34 : decode bcJ13_append 34 = .ok (.iconst 1, 1) := dk_4 (dk_at dksJ13_append_1 10 rfl rfl)
theorem dJ13_append_35 : decode bcJ13_append 35 = .ok (.iadd, 1) := dk_96 (dk_at dksJ13_append_1 11 rfl rfl)
theorem dJ13_append_36 : decode bcJ13_append 36 = .ok (.putfield 79, 3) := dk_181 0 79 (dk_at dksJ13_append_1 12 rfl rfl)
theorem dJ13_append_39 : decode bcJ13_append 39 = .ok (.iload_n 1, 1) := dk_27 (dk_at dksJ13_append_1 15 rfl rfl)
theorem dJ13_append_40 : decode bcJ13_append 40 = .ok (.i2b, 1) := dk_145 (dk_at dksJ13_append_1 16 rfl rfl)
theorem dJ13_append_41 : decode bcJ13_append 41 = .ok (.bastore, 1) := dk_84 (dk_at dksJ13_append_1 17 rfl rfl)
theorem dJ13_append_42 : decode bcJ13_append 42 = .ok (.goto 33, 3) := dk_167 0 33 (dk_at dksJ13_append_1 18 rfl rfl)
theorem dJ13_append_45 : decode bcJ13_append 45 = .ok (.aload_n 0, 1) := dk_42 (dk_at dksJ13_append_1 21 rfl rfl)
theorem dJ13_append_46 : decode bcJ13_append 46 = .ok (.invokevirtual 83, 3) := dk_182 0 83 (dk_at dksJ13_append_2 0 rfl rfl)
theorem dJ13_append_49 : decode bcJ13_append 49 = .ok (.ifCond .eq 7, 3) := dk_153 0 7 (dk_at dksJ13_append_2 3 rfl rfl)
theorem dJ13_append_52 : decode bcJ13_append 52 = .ok (.aload_n 0, 1) := dk_42 (dk_at dksJ13_append_2 6 rfl rfl)
theorem dJ13_append_53 : decode bcJ13_append 53 = .ok (.invokevirtual 195, 3) := dk_182 0 195 (dk_at dksJ13_append_2 7 rfl rfl)
theorem dJ13_append_56 : decode bcJ13_append 56 = .ok (.aload_n 0, 1) := dk_42 (dk_at dksJ13_append_2 10 rfl rfl)
theorem dJ13_append_57 : decode bcJ13_append 57 = .ok (.getfield 15, 3) := dk_180 0 15 (dk_at dksJ13_append_2 11 rfl rfl)
theorem dJ13_append_60 : decode bcJ13_append 60 = .ok (.aload_n 0, 1) := dk_42 (dk_at dksJ13_append_2 14 rfl rfl)
theorem dJ13_append_61 : decode bcJ13_append 61 = .ok (.dup, 1) := dk_89 (dk_at dksJ13_append_2 15 rfl rfl)
theorem dJ13_append_62 : decode bcJ13_append 62 = .ok (.getfield 79, 3) := dk_180 0 79 (dk_at dksJ13_append_2 16 rfl rfl)
theorem dJ13_append_65 : decode bcJ13_append 65 = .ok (.dup_x1, 1) := dk_90 (dk_at dksJ13_append_2 19 rfl rfl)
theorem dJ13_append_66 : decode bcJ13_append 66 = .ok (.iconst 1, 1) := dk_4 (dk_at dksJ13_append_2 20 rfl rfl)
theorem dJ13_append_67 : decode bcJ13_append 67 = .ok (.iadd, 1) := dk_96 (dk_at dksJ13_append_2 21 rfl rfl)
theorem dJ13_append_68 : decode bcJ13_append 68 = .ok (.putfield 79, 3) := dk_181 0 79 (dk_at dksJ13_append_3 0 rfl rfl)
theorem dJ13_append_71 : decode bcJ13_append 71 = .ok (.iload_n 1, 1) := dk_27 (dk_at dksJ13_append_3 3 rfl rfl)
theorem dJ13_append_72 : decode bcJ13_append 72 = .ok (.invokestatic 197, 3) := dk_184 0 197 (dk_at dksJ13_append_3 4 rfl rfl)
theorem dJ13_append_75 : decode bcJ13_append 75 = .ok (.aload_n 0, 1) := dk_42 (dk_at dksJ13_append_3 7 rfl rfl)
theorem dJ13_append_76 : decode bcJ13_append 76 = .ok (.areturn, 1) := dk_176 (dk_at dksJ13_append_3 8 rfl rfl)
abbrev SJ13_append (pc : Nat) (i : xI) : Prop := Snd "java/lang/AbstractStringBuilder" "append" prog_27_method_31_code 2 (Option.some (Jvm.ClassFile.FieldType.object "java/lang/AbstractStringBuilder")) [] pc i
theorem oJ13_append_0 : SJ13_append 0 (i_aload 0 1) := snd_aload_n dJ13_append_0 rfl
theorem oJ13_append_1 : SJ13_append 1 (i_aload 0 2) := snd_aload_n dJ13_append_1 rfl
theorem oJ13_append_2 : SJ13_append 2 (i_getf 23 3 5) := snd_getf dJ13_append_2 rfl (by decide) in_J14 (Or.inl q674) (Or.inl rfl) (by decide)
theorem oJ13_append_5 : SJ13_append 5 (i_const (.int (nI 1)) 6) := snd_iconst dJ13_append_5 (by decide)
theorem oJ13_append_6 : SJ13_append 6 (i_ii (fun x y => x + y) 7) := snd_iadd dJ13_append_6
theorem oJ13_append_7 : SJ13_append 7 (i_cvv 23 10 1 10) := snd_cvv rfl infJ13_ensureCapacityInternal (by decide) rfl (xVm_P dJ13_append_7 q691 q2251 rfl q693 q146 q694 pdJ13_ensureCapacityInternal)
theorem oJ13_append_10 : SJ13_append 10 (i_aload 0 11) := snd_aload_n dJ13_append_10 rfl
theorem oJ13_append_11 : SJ13_append 11 (i_cv 23 12 0 14) := snd_cv rfl infJ13_isLatin1 (by decide) rfl (xVm_U dJ13_append_11 q722 q724 q725 q723 q146 q726 pdJ13_isLatin1)
theorem oJ13_append_14 : SJ13_append 14 (i_if1 (fun x => x = 0) 45 17) := snd_if_eq dJ13_append_14 (by decide)
theorem oJ13_append_17 : SJ13_append 17 (i_iload 1 18) := snd_iload_n dJ13_append_17 rfl
theorem oJ13_append_18 : SJ13_append 18 (i_cs 59 1 21) := snd_cs rfl infJ6_canEncode_2 (by decide) (xSm_S dJ13_append_18 q727 q728 q138 q729 pdJ6_canEncode_2)
theorem oJ13_append_21 : SJ13_append 21 (i_if1 (fun x => x = 0) 45 24) := snd_if_eq dJ13_append_21 (by decide)
theorem oJ13_append_24 : SJ13_append 24 (i_aload 0 25) := snd_aload_n dJ13_append_24 rfl
theorem oJ13_append_25 : SJ13_append 25 (i_getf 23 0 28) := snd_getf dJ13_append_25 rfl (by decide) in_J14 (Or.inl q671) (Or.inl rfl) (by decide)
theorem oJ13_append_28 : SJ13_append 28 (i_aload 0 29) := snd_aload_n dJ13_append_28 rfl
theorem oJ13_append_29 : SJ13_append 29 (i_dup 30) := snd_dup dJ13_append_29
theorem oJ13_append_30 : SJ13_append 30 (i_getf 23 3 33) := snd_getf dJ13_append_30 rfl (by decide) in_J14 (Or.inl q674) (Or.inl rfl) (by decide)
theorem oJ13_append_33 : SJ13_append 33 (i_dup_x1 34) := snd_dup_x1 dJ13_append_33
theorem oJ13_append_34 : SJ13_append 34 (i_const (.int (nI 1)) 35) := snd_iconst dJ13_append_34 (by decide)
theorem oJ13_append_35 : SJ13_append 35 (i_ii (fun x y => x + y) 36) := snd_iadd dJ13_append_35
theorem oJ13_append_36 : SJ13_append 36 (i_putfi 23 3 39) := snd_putfi dJ13_append_36 rfl (by decide) in_J14 tyJ14 tyJ14_ok nmJ14 (Or.inl ⟨rfl, q674⟩) (Or.inl rfl) rfl
theorem oJ13_append_39 : SJ13_append 39 (i_iload 1 40) := snd_iload_n dJ13_append_39 rfl
theorem oJ13_append_40 : SJ13_append 40 (i_i1 (fun x => x.toInt8.toInt32) 41) := snd_i2b dJ13_append_40
theorem oJ13_append_41 : SJ13_append 41 (i_si (fun v => vp_nar .byte v) 1 42) := snd_si1 dJ13_append_41
theorem oJ13_append_42 : SJ13_append 42 (i_goto 75) := snd_goto dJ13_append_42 (by decide)
theorem oJ13_append_45 : SJ13_append 45 (i_aload 0 46) := snd_aload_n dJ13_append_45 rfl
theorem oJ13_append_46 : SJ13_append 46 (i_cv 23 12 0 49) := snd_cv rfl infJ13_isLatin1 (by decide) rfl (xVm_U dJ13_append_46 q722 q724 q725 q723 q146 q726 pdJ13_isLatin1)
theorem oJ13_append_49 : SJ13_append 49 (i_if1 (fun x => x = 0) 56 52) := snd_if_eq dJ13_append_49 (by decide)
theorem oJ13_append_52 : SJ13_append 52 (i_aload 0 53) := snd_aload_n dJ13_append_52 rfl
theorem oJ13_append_53 : SJ13_append 53 (i_no) := snd_no
theorem oJ13_append_56 : SJ13_append 56 (i_aload 0 57) := snd_aload_n dJ13_append_56 rfl
theorem oJ13_append_57 : SJ13_append 57 (i_getf 23 0 60) := snd_getf dJ13_append_57 rfl (by decide) in_J14 (Or.inl q671) (Or.inl rfl) (by decide)
theorem oJ13_append_60 : SJ13_append 60 (i_aload 0 61) := snd_aload_n dJ13_append_60 rfl
theorem oJ13_append_61 : SJ13_append 61 (i_dup 62) := snd_dup dJ13_append_61
theorem oJ13_append_62 : SJ13_append 62 (i_getf 23 3 65) := snd_getf dJ13_append_62 rfl (by decide) in_J14 (Or.inl q674) (Or.inl rfl) (by decide)
theorem oJ13_append_65 : SJ13_append 65 (i_dup_x1 66) := snd_dup_x1 dJ13_append_65
theorem oJ13_append_66 : SJ13_append 66 (i_const (.int (nI 1)) 67) := snd_iconst dJ13_append_66 (by decide)
theorem oJ13_append_67 : SJ13_append 67 (i_ii (fun x y => x + y) 68) := snd_iadd dJ13_append_67
theorem oJ13_append_68 : SJ13_append 68 (i_putfi 23 3 71) := snd_putfi dJ13_append_68 rfl (by decide) in_J14 tyJ14 tyJ14_ok nmJ14 (Or.inl ⟨rfl, q674⟩) (Or.inl rfl) rfl
theorem oJ13_append_71 : SJ13_append 71 (i_iload 1 72) := snd_iload_n dJ13_append_71 rfl
theorem oJ13_append_72 : SJ13_append 72 (i_no) := snd_no
theorem oJ13_append_75 : SJ13_append 75 (i_aload 0 76) := snd_aload_n dJ13_append_75 rfl
theorem oJ13_append_76 : SJ13_append 76 (i_aret) := snd_aret dJ13_append_76 rfl (Or.inl ⟨_, rfl⟩)
theorem okJ13_append : ∀ q ∈ cJ13_append, SJ13_append q.1 q.2 := List.forall_mem_cons.mpr ⟨oJ13_append_0, List.forall_mem_cons.mpr ⟨oJ13_append_1, List.forall_mem_cons.mpr ⟨oJ13_append_2, List.forall_mem_cons.mpr ⟨oJ13_append_5, List.forall_mem_cons.mpr ⟨oJ13_append_6, List.forall_mem_cons.mpr ⟨oJ13_append_7, List.forall_mem_cons.mpr ⟨oJ13_append_10, List.forall_mem_cons.mpr ⟨oJ13_append_11, List.forall_mem_cons.mpr ⟨oJ13_append_14, List.forall_mem_cons.mpr ⟨oJ13_append_17, List.forall_mem_cons.mpr ⟨oJ13_append_18, List.forall_mem_cons.mpr ⟨oJ13_append_21, List.forall_mem_cons.mpr ⟨oJ13_append_24, List.forall_mem_cons.mpr ⟨oJ13_append_25, List.forall_mem_cons.mpr ⟨oJ13_append_28, List.forall_mem_cons.mpr ⟨oJ13_append_29, List.forall_mem_cons.mpr ⟨oJ13_append_30, List.forall_mem_cons.mpr ⟨oJ13_append_33, List.forall_mem_cons.mpr ⟨oJ13_append_34, List.forall_mem_cons.mpr ⟨oJ13_append_35, List.forall_mem_cons.mpr ⟨oJ13_append_36, List.forall_mem_cons.mpr ⟨oJ13_append_39, List.forall_mem_cons.mpr ⟨oJ13_append_40, List.forall_mem_cons.mpr ⟨oJ13_append_41, List.forall_mem_cons.mpr ⟨oJ13_append_42, List.forall_mem_cons.mpr ⟨oJ13_append_45, List.forall_mem_cons.mpr ⟨oJ13_append_46, List.forall_mem_cons.mpr ⟨oJ13_append_49, List.forall_mem_cons.mpr ⟨oJ13_append_52, List.forall_mem_cons.mpr ⟨oJ13_append_53, List.forall_mem_cons.mpr ⟨oJ13_append_56, List.forall_mem_cons.mpr ⟨oJ13_append_57, List.forall_mem_cons.mpr ⟨oJ13_append_60, List.forall_mem_cons.mpr ⟨oJ13_append_61, List.forall_mem_cons.mpr ⟨oJ13_append_62, List.forall_mem_cons.mpr ⟨oJ13_append_65, List.forall_mem_cons.mpr ⟨oJ13_append_66, List.forall_mem_cons.mpr ⟨oJ13_append_67, List.forall_mem_cons.mpr ⟨oJ13_append_68, List.forall_mem_cons.mpr ⟨oJ13_append_71, List.forall_mem_cons.mpr ⟨oJ13_append_72, List.forall_mem_cons.mpr ⟨oJ13_append_75, List.forall_mem_cons.mpr ⟨oJ13_append_76, fun _ h => absurd h List.not_mem_nil⟩⟩⟩⟩⟩⟩⟩⟩⟩⟩⟩⟩⟩⟩⟩⟩⟩⟩⟩⟩⟩⟩⟩⟩⟩⟩⟩⟩⟩⟩⟩⟩⟩⟩⟩⟩⟩⟩⟩⟩⟩⟩⟩
def dkwJ13_ensureCapacityInternal_1 : List UInt8 := [182, 0, 104, 42, 180, 0, 22, 120, 184, 0, 108, 181, 0, 15, 177]
abbrev dktJ13_ensureCapacityInternal_1 : List UInt8 := dkwJ13_ensureCapacityInternal_1 ++ []
def dkwJ13_ensureCapacityInternal_0 : List UInt8 := [42, 180, 0, 15, 190, 42, 180, 0, 22, 122, 61, 27, 28, 100, 158, 0, 24, 42, 42, 180, 0, 15, 42, 27]
abbrev dktJ13_ensureCapacityInternal_0 : List UInt8 := dkwJ13_ensureCapacityInternal_0 ++ dktJ13_ensureCapacityInternal_1
theorem dksJ13_ensureCapacityInternal_0 : bcJ13_ensureCapacityInternal.data.toList.drop 0 = dktJ13_ensureCapacityInternal_0 := by decide +kernel
theorem dksJ13_ensureCapacityInternal_1 : bcJ13_ensureCapacityInternal.data.toList.drop 24 = dktJ13_ensureCapacityInternal_1 := dk_seg dksJ13_ensureCapacityInternal_0 24 rfl rfl
theorem dJ13_ensureCapacityInternal_0 : decode bcJ13_ensureCapacityInternal 0 = .ok (.aload_n 0, 1) := dk_42 (dk_at dksJ13_ensureCapacityInternal_0 0 rfl rfl)
theorem dJ13_ensureCapacityInternal_1 : decode bcJ13_ensureCapacityInternal 1 = .ok (.getfield 15, 3) := dk_180 0 15 (dk_at dksJ13_ensureCapacityInternal_0 1 rfl rfl)
theorem dJ13_ensureCapacityInternal_4 : decode bcJ13_ensureCapacityInternal 4 = .ok (.arraylength, 1) := dk_190 (dk_at dksJ13_ensureCapacityInternal_0 4 rfl rfl)
theorem dJ13_ensureCapacityInternal_5 : decode bcJ13_ensureCapacityInternal 5 = .ok (.aload_n 0, 1) := dk_42 (dk_at dksJ13_ensureCapacityInternal_0 5 rfl rfl)
theorem dJ13_ensureCapacityInternal_6 : decode bcJ13_ensureCapacityInternal 6 = .ok (.getfield 22, 3) := dk_180 0 22 (dk_at dksJ13_ensureCapacityInternal_0 6 rfl rfl)
theorem dJ13_ensureCapacityInternal_9 : decode bcJ13_ensureCapacityInternal 9 = .ok (.ishr, 1) := dk_122 (dk_at dksJ13_ensureCapacityInternal_0 9 rfl rfl)
theorem dJ13_ensureCapacityInternal_10 : decode bcJ13_ensureCapacityInternal 10 = .ok (.istore_n 2, 1) := dk_61 (dk_at dksJ13_ensureCapacityInternal_0 10 rfl rfl)
theorem dJ13_ensureCapacityInternal_11 : decode bcJ13_ensureCapacityInternal 11 = .ok (.iload_n 1, 1) := dk_27 (dk_at dksJ13_ensureCapacityInternal_0 11 rfl rfl)
theorem dJ13_ensureCapacityInternal_12 : decode bcJ13_ensureCapacityInternal 12 = .ok (.iload_n 2, 1) := dk_28 (dk_at dksJ13_ensureCapacityInternal_0 12 rfl rfl)
theorem dJ13_ensureCapacityInternal_13 : decode bcJ13_ensureCapacityInternal 13 = .ok (.isub, 1) := dk_100 (dk_at dksJ13_ensureCapacityInternal_0 13 rfl rfl)
theorem dJ13_ensureCapacityInternal_14 : decode bcJ13_ensureCapacityInternal 14 = .ok (.ifCond .le 24, 3) := dk_158 0 24 (dk_at dksJ13_ensureCapacityInternal_0 14 rfl rfl)
theorem dJ13_ensureCapacityInternal_17 : decode bcJ13_ensureCapacityInternal 17 = .ok (.aload_n 0, 1) := dk_42 (dk_at dksJ13_ensureCapacityInternal_0 17 rfl rfl)
theorem dJ13_ensureCapacityInternal_18 : decode bcJ13_ensureCapacityInternal 18 = .ok (.aload_n 0, 1) := dk_42 (dk_at dksJ13_ensureCapacityInternal_0 18 rfl rfl)
theorem dJ13_ensureCapacityInternal_19 : decode bcJ13_ensureCapacityInternal 19 = .ok (.getfield 15, 3) := dk_180 0 15 (dk_at dksJ13_ensureCapacityInternal_0 19 rfl rfl)
theorem dJ13_ensureCapacityInternal_22 : decode bcJ13_ensureCapacityInternal 22 = .ok (.aload_n 0, 1) := dk_42 (dk_at dksJ13_ensureCapacityInternal_0 22 rfl rfl)
theorem dJ13_ensureCapacityInternal_23 : decode bcJ13_ensureCapacityInternal 23 = .ok (.iload_n 1, 1) := dk_27 (dk_at dksJ13_ensureCapacityInternal_0 23 rfl rfl)
theorem dJ13_ensureCapacityInternal_24 : decode bcJ13_ensureCapacityInternal 24 = .ok (.invokevirtual 104, 3) := dk_182 0 104 (dk_at dksJ13_ensureCapacityInternal_1 0 rfl rfl)
theorem dJ13_ensureCapacityInternal_27 : decode bcJ13_ensureCapacityInternal 27 = .ok (.aload_n 0, 1) := dk_42 (dk_at dksJ13_ensureCapacityInternal_1 3 rfl rfl)
theorem dJ13_ensureCapacityInternal_28 : decode bcJ13_ensureCapacityInternal 28 = .ok (.getfield 22, 3) := dk_180 0 22 (dk_at dksJ13_ensureCapacityInternal_1 4 rfl rfl)
theorem dJ13_ensureCapacityInternal_31 : decode bcJ13_ensureCapacityInternal 31 = .ok (.ishl, 1) := dk_120 (dk_at dksJ13_ensureCapacityInternal_1 7 rfl rfl)
theorem dJ13_ensureCapacityInternal_32 : decode bcJ13_ensureCapacityInternal 32 = .ok (.invokestatic 108, 3) := dk_184 0 108 (dk_at dksJ13_ensureCapacityInternal_1 8 rfl rfl)
theorem dJ13_ensureCapacityInternal_35 : decode bcJ13_ensureCapacityInternal 35 = .ok (.putfield 15, 3) := dk_181 0 15 (dk_at dksJ13_ensureCapacityInternal_1 11 rfl rfl)
theorem dJ13_ensureCapacityInternal_38 : decode bcJ13_ensureCapacityInternal 38 = .ok (.return_, 1) := dk_177 (dk_at dksJ13_ensureCapacityInternal_1 14 rfl rfl)
abbrev SJ13_ensureCapacityInternal (pc : Nat) (i : xI) : Prop := Snd "java/lang/AbstractStringBuilder" "ensureCapacityInternal" prog_27_method_9_code 3 (Option.none : Option Jvm.ClassFile.FieldType) [] pc i
theorem oJ13_ensureCapacityInternal_0 : SJ13_ensureCapacityInternal 0 (i_aload 0 1) := snd_aload_n dJ13_ensureCapacityInternal_0 rfl
theorem oJ13_ensureCapacityInternal_1 : SJ13_ensureCapacityInternal 1 (i_getf 23 0 4) := snd_getf dJ13_ensureCapacityInternal_1 rfl (by decide) in_J14 (Or.inl q671) (Or.inl rfl) (by decide)
theorem oJ13_ensureCapacityInternal_4 : SJ13_ensureCapacityInternal 4 (i_len 5) := snd_len dJ13_ensureCapacityInternal_4
theorem oJ13_ensureCapacityInternal_5 : SJ13_ensureCapacityInternal 5 (i_aload 0 6) := snd_aload_n dJ13_ensureCapacityInternal_5 rfl
theorem oJ13_ensureCapacityInternal_6 : SJ13_ensureCapacityInternal 6 (i_getf 23 1 9) := snd_getf dJ13_ensureCapacityInternal_6 rfl (by decide) in_J14 (Or.inl q672) (Or.inl rfl) (by decide)
theorem oJ13_ensureCapacityInternal_9 : SJ13_ensureCapacityInternal 9 (i_ii (fun x y => x >>> (y &&& 31)) 10) := snd_ishr dJ13_ensureCapacityInternal_9
theorem oJ13_ensureCapacityInternal_10 : SJ13_ensureCapacityInternal 10 (i_istore 2 11) := snd_istore_n dJ13_ensureCapacityInternal_10 rfl (by decide)
theorem oJ13_ensureCapacityInternal_11 : SJ13_ensureCapacityInternal 11 (i_iload 1 12) := snd_iload_n dJ13_ensureCapacityInternal_11 rfl
theorem oJ13_ensureCapacityInternal_12 : SJ13_ensureCapacityInternal 12 (i_iload 2 13) := snd_iload_n dJ13_ensureCapacityInternal_12 rfl
theorem oJ13_ensureCapacityInternal_13 : SJ13_ensureCapacityInternal 13 (i_ii (fun x y => x - y) 14) := snd_isub dJ13_ensureCapacityInternal_13
theorem oJ13_ensureCapacityInternal_14 : SJ13_ensureCapacityInternal 14 (i_if1 (fun x => x ≤ 0) 38 17) := snd_if_le dJ13_ensureCapacityInternal_14 (by decide)
theorem oJ13_ensureCapacityInternal_17 : SJ13_ensureCapacityInternal 17 (i_aload 0 18) := snd_aload_n dJ13_ensureCapacityInternal_17 rfl
theorem oJ13_ensureCapacityInternal_18 : SJ13_ensureCapacityInternal 18 (i_aload 0 19) := snd_aload_n dJ13_ensureCapacityInternal_18 rfl
theorem oJ13_ensureCapacityInternal_19 : SJ13_ensureCapacityInternal 19 (i_getf 23 0 22) := snd_getf dJ13_ensureCapacityInternal_19 rfl (by decide) in_J14 (Or.inl q671) (Or.inl rfl) (by decide)
theorem oJ13_ensureCapacityInternal_22 : SJ13_ensureCapacityInternal 22 (i_aload 0 23) := snd_aload_n dJ13_ensureCapacityInternal_22 rfl
theorem oJ13_ensureCapacityInternal_23 : SJ13_ensureCapacityInternal 23 (i_iload 1 24) := snd_iload_n dJ13_ensureCapacityInternal_23 rfl
theorem oJ13_ensureCapacityInternal_24 : SJ13_ensureCapacityInternal 24 (i_no) := snd_no
theorem oJ13_ensureCapacityInternal_27 : SJ13_ensureCapacityInternal 27 (i_aload 0 28) := snd_aload_n dJ13_ensureCapacityInternal_27 rfl
theorem oJ13_ensureCapacityInternal_28 : SJ13_ensureCapacityInternal 28 (i_getf 23 1 31) := snd_getf dJ13_ensureCapacityInternal_28 rfl (by decide) in_J14 (Or.inl q672) (Or.inl rfl) (by decide)
theorem oJ13_ensureCapacityInternal_31 : SJ13_ensureCapacityInternal 31 (i_ii (fun x y => x <<< (y &&& 31)) 32) := snd_ishl dJ13_ensureCapacityInternal_31
theorem oJ13_ensureCapacityInternal_32 : SJ13_ensureCapacityInternal 32 (i_no) := snd_no
theorem oJ13_ensureCapacityInternal_35 : SJ13_ensureCapacityInternal 35 (i_putfr 23 0 38) := snd_putfr dJ13_ensureCapacityInternal_35 rfl (by decide) in_J14 tyJ14 tyJ14_ok nmJ14 (Or.inl ⟨rfl, q671⟩) (Or.inl rfl) (Or.inr ⟨_, rfl⟩)
theorem oJ13_ensureCapacityInternal_38 : SJ13_ensureCapacityInternal 38 (i_vret) := snd_vret dJ13_ensureCapacityInternal_38 rfl
theorem okJ13_ensureCapacityInternal : ∀ q ∈ cJ13_ensureCapacityInternal, SJ13_ensureCapacityInternal q.1 q.2 := List.forall_mem_cons.mpr ⟨oJ13_ensureCapacityInternal_0, List.forall_mem_cons.mpr ⟨oJ13_ensureCapacityInternal_1, List.forall_mem_cons.mpr ⟨oJ13_ensureCapacityInternal_4, List.forall_mem_cons.mpr ⟨oJ13_ensureCapacityInternal_5, List.forall_mem_cons.mpr ⟨oJ13_ensureCapacityInternal_6, List.forall_mem_cons.mpr ⟨oJ13_ensureCapacityInternal_9, List.forall_mem_cons.mpr ⟨oJ13_ensureCapacityInternal_10, List.forall_mem_cons.mpr ⟨oJ13_ensureCapacityInternal_11, List.forall_mem_cons.mpr ⟨oJ13_ensureCapacityInternal_12, List.forall_mem_cons.mpr ⟨oJ13_ensureCapacityInternal_13, List.forall_mem_cons.mpr ⟨oJ13_ensureCapacityInternal_14, List.forall_mem_cons.mpr ⟨oJ13_ensureCapacityInternal_17, List.forall_mem_cons.mpr ⟨oJ13_ensureCapacityInternal_18, List.forall_mem_cons.mpr ⟨oJ13_ensureCapacityInternal_19, List.forall_mem_cons.mpr ⟨oJ13_ensureCapacityInternal_22, List.forall_mem_cons.mpr ⟨oJ13_ensureCapacityInternal_23, List.forall_mem_cons.mpr ⟨oJ13_ensureCapacityInternal_24, List.forall_mem_cons.mpr ⟨oJ13_ensureCapacityInternal_27, List.forall_mem_cons.mpr ⟨oJ13_ensureCapacityInternal_28, List.forall_mem_cons.mpr ⟨oJ13_ensureCapacityInternal_31, List.forall_mem_cons.mpr ⟨oJ13_ensureCapacityInternal_32, List.forall_mem_cons.mpr ⟨oJ13_ensureCapacityInternal_35, List.forall_mem_cons.mpr ⟨oJ13_ensureCapacityInternal_38, fun _ h => absurd h List.not_mem_nil⟩⟩⟩⟩⟩⟩⟩⟩⟩⟩⟩⟩⟩⟩⟩⟩⟩⟩⟩⟩⟩⟩⟩
def dkwJ13_isLatin1_0 : List UInt8 := [178, 0, 18, 153, 0, 14, 42, 180, 0, 22, 154, 0, 7, 4, 167, 0, 4, 3, 172]
abbrev dktJ13_isLatin1_0 : List UInt8 := dkwJ13_isLatin1_0 ++ []
theorem dksJ13_isLatin1_0 : bcJ13_isLatin1.data.toList.drop 0 = dktJ13_isLatin1_0 := by decide +kernel
theorem dJ13_isLatin1_0 : decode bcJ13_isLatin1 0 = .ok (.getstatic 18, 3) := dk_178 0 18 (dk_at dksJ13_isLatin1_0 0 rfl rfl)
theorem dJ13_isLatin1_3 : decode bcJ13_isLatin1 3 = .ok (.ifCond .eq 14, 3) := dk_153 0 14 (dk_at dksJ13_isLatin1_0 3 rfl rfl)
theorem dJ13_isLatin1_6 : decode bcJ13_isLatin1 6 = .ok (.aload_n 0, 1) := dk_42 (dk_at dksJ13_isLatin1_0 6 rfl rfl)
theorem dJ13_isLatin1_7 : decode bcJ13_isLatin1 7 = .ok (.getfield 22, 3) := dk_180 0 22 (dk_at dksJ13_isLatin1_0 7 rfl rfl)
theorem dJ13_isLatin1_10 : decode bcJ13_isLatin1 10 = .ok (.ifCond .ne 7, 3) := dk_154 0 7 (dk_at dksJ13_isLatin1_0 10 rfl rfl)
theorem dJ13_isLatin1_13 : decode bcJ13_isLatin1 13 = .ok (.iconst 1, 1) := dk_4 (dk_at dksJ13_isLatin1_0 13 rfl rfl)
theorem dJ13_isLatin1_14 : decode bcJ13_isLatin1 14 = .ok (.goto 4, 3) := dk_167 0 4 (dk_at dksJ13_isLatin1_0 14 rfl rfl)
theorem dJ13_isLatin1_17 : decode bcJ13_isLatin1 17 = .ok (.iconst 0, 1) := dk_3 (dk_at dksJ13_isLatin1_0 17 rfl rfl)
theorem dJ13_isLatin1_18 : decode bcJ13_isLatin1 18 = .ok (.ireturn, 1) := dk_172 (dk_at dksJ13_isLatin1_0 18 rfl rfl)
abbrev SJ13_isLatin1 (pc : Nat) (i : xI) : Prop := Snd "java/lang/AbstractStringBuilder" "isLatin1" prog_27_method_68_code 1 (Option.some Jvm.ClassFile.FieldType.boolean) [] pc i
theorem oJ13_isLatin1_0 : SJ13_isLatin1 0 (i_const (.int (nI 1)) 3) := snd_gets dJ13_isLatin1_0 xst_COMPACT_STRINGS q663
theorem oJ13_isLatin1_3 : SJ13_isLatin1 3 (i_if1 (fun x => x = 0) 17 6) := snd_if_eq dJ13_isLatin1_3 (by decide)
theorem oJ13_isLatin1_6 : SJ13_isLatin1 6 (i_aload 0 7) := snd_aload_n dJ13_isLatin1_6 rfl
theorem oJ13_isLatin1_7 : SJ13_isLatin1 7 (i_getf 23 1 10) := snd_getf dJ13_isLatin1_7 rfl (by decide) in_J14 (Or.inl q672) (Or.inl rfl) (by decide)
theorem oJ13_isLatin1_10 : SJ13_isLatin1 10 (i_if1 (fun x => ¬ x = 0) 17 13) := snd_if_ne dJ13_isLatin1_10 (by decide)
theorem oJ13_isLatin1_13 : SJ13_isLatin1 13 (i_const (.int (nI 1)) 14) := snd_iconst dJ13_isLatin1_13 (by decide)
theorem oJ13_isLatin1_14 : SJ13_isLatin1 14 (i_goto 18) := snd_goto dJ13_isLatin1_14 (by decide)
theorem oJ13_isLatin1_17 : SJ13_isLatin1 17 (i_const (.int (nI 0)) 18) := snd_iconst dJ13_isLatin1_17 (by decide)
theorem oJ13_isLatin1_18 : SJ13_isLatin1 18 (i_zret) := snd_zret dJ13_isLatin1_18 rfl
theorem okJ13_isLatin1 : ∀ q ∈ cJ13_isLatin1, SJ13_isLatin1 q.1 q.2 := List.forall_mem_cons.mpr ⟨oJ13_isLatin1_0, List.forall_mem_cons.mpr ⟨oJ13_isLatin1_3, List.forall_mem_cons.mpr ⟨oJ13_isLatin1_6, List.forall_mem_cons.mpr ⟨oJ13_isLatin1_7, List.forall_mem_cons.mpr ⟨oJ13_isLatin1_10, List.forall_mem_cons.mpr ⟨oJ13_isLatin1_13, List.forall_mem_cons.mpr ⟨oJ13_isLatin1_14, List.forall_mem_cons.mpr ⟨oJ13_isLatin1_17, List.forall_mem_cons.mpr ⟨oJ13_isLatin1_18, fun _ h => absurd h List.not_mem_nil⟩⟩⟩⟩⟩⟩⟩⟩⟩
theorem dJ13_getValue_0 : decode bcJ13_getValue 0 = .ok (.aload_n 0, 1) := by decide +kernel
theorem dJ13_getValue_1 : decode bcJ13_getValue 1 = .ok (.getfield 15, 3) := by decide +kernel
theorem dJ13_getValue_4 : decode bcJ13_getValue 4 = .ok (.areturn, 1) := by decide +kernel
abbrev SJ13_getValue (pc : Nat) (i : xI) : Prop := Snd "java/lang/AbstractStringBuilder" "getValue" prog_27_method_64_code 1 (Option.some (Jvm.ClassFile.FieldType.array Jvm.ClassFile.FieldType.byte)) [] pc i
theorem oJ13_getValue_0 : SJ13_getValue 0 (i_aload 0 1) := snd_aload_n dJ13_getValue_0 rfl
theorem oJ13_getValue_1 : SJ13_getValue 1 (i_getf 23 0 4) := snd_getf dJ13_getValue_1 rfl (by decide) in_J14 (Or.inl q671) (Or.inl rfl) (by decide)
theorem oJ13_getValue_4 : SJ13_getValue 4 (i_aret) := snd_aret dJ13_getValue_4 rfl (Or.inr ⟨_, rfl⟩)
theorem okJ13_getValue : ∀ q ∈ cJ13_getValue, SJ13_getValue q.1 q.2 := List.forall_mem_cons.mpr ⟨oJ13_getValue_0, List.forall_mem_cons.mpr ⟨oJ13_getValue_1, List.forall_mem_cons.mpr ⟨oJ13_getValue_4, fun _ h => absurd h List.not_mem_nil⟩⟩⟩
theorem dJ13_length_0 : decode bcJ13_length 0 = .ok (.aload_n 0, 1) := by decide +kernel
theorem dJ13_length_1 : decode bcJ13_length 1 = .ok (.getfield 79, 3) := by decide +kernel
theorem dJ13_length_4 : decode bcJ13_length 4 = .ok (.ireturn, 1) := by decide +kernel
abbrev SJ13_length (pc : Nat) (i : xI) : Prop := Snd "java/lang/AbstractStringBuilder" "length" prog_27_method_6_code 1 (Option.some Jvm.ClassFile.FieldType.int) [] pc i
theorem oJ13_length_0 : SJ13_length 0 (i_aload 0 1) := snd_aload_n dJ13_length_0 rfl
theorem oJ13_length_1 : SJ13_length 1 (i_getf 23 3 4) := snd_getf dJ13_length_1 rfl (by decide) in_J14 (Or.inl q674) (Or.inl rfl) (by decide)
theorem oJ13_length_4 : SJ13_length 4 (i_iret) := snd_iret dJ13_length_4 rfl
theorem okJ13_length : ∀ q ∈ cJ13_length, SJ13_length q.1 q.2 := List.forall_mem_cons.mpr ⟨oJ13_length_0, List.forall_mem_cons.mpr ⟨oJ13_length_1, List.forall_mem_cons.mpr ⟨oJ13_length_4, fun _ h => absurd h List.not_mem_nil⟩⟩⟩
def dkwJ14_init_0 : List UInt8 := [42, 27, 183, 0, 1, 177]
abbrev dktJ14_init_0 : List UInt8 := dkwJ14_init_0 ++ []
theorem dksJ14_init_0 : bcJ14_init.data.toList.drop 0 = dktJ14_init_0 := by decide +kernel
theorem dJ14_init_0 : decode bcJ14_init 0 = .ok (.aload_n 0, 1) := dk_42 (dk_at dksJ14_init_0 0 rfl rfl)
theorem dJ14_init_1 : decode bcJ14_init 1 = .ok (.iload_n 1, 1) := dk_27 (dk_at dksJ14_init_0 1 rfl rfl)
theorem dJ14_init_2 : decode bcJ14_init 2 = .ok (.invokespecial 1, 3) := dk_183 0 1 (dk_at dksJ14_init_0 2 rfl rfl)
theorem dJ14_init_5 : decode bcJ14_init 5 = .ok (.return_, 1) := dk_177 (dk_at dksJ14_init_0 5 rfl rfl)
abbrev SJ14_init (pc : Nat) (i : xI) : Prop := Snd "java/lang/StringBuilder" "<init>" prog_39_method_2_code 2 (Option.none : Option Jvm.ClassFile.FieldType) [] pc i
theorem oJ14_init_0 : SJ14_init 0 (i_aload 0 1) := snd_aload_n dJ14_init_0 rfl
theorem oJ14_init_1 : SJ14_init 1 (i_iload 1 2) := snd_iload_n dJ14_init_1 rfl
theorem oJ14_init_2 : SJ14_init 2 (i_ci [23] 8 1 5) := snd_ci rfl infJ13_init (by decide) (xcls_ok _ (by decide)) (xIm_I dJ14_init_2 rfl q659 q660 q146 q661 pdJ13_init)
theorem oJ14_init_5 : SJ14_init 5 (i_vret) := snd_vret dJ14_init_5 rfl
theorem okJ14_init : ∀ q ∈ cJ14_init, SJ14_init q.1 q.2 := List.forall_mem_cons.mpr ⟨oJ14_init_0, List.forall_mem_cons.mpr ⟨oJ14_init_1, List.forall_mem_cons.mpr ⟨oJ14_init_2, List.forall_mem_cons.mpr ⟨oJ14_init_5, fun _ h => absurd h List.not_mem_nil⟩⟩⟩⟩
def dkwJ14_append_0 : List UInt8 := [42, 27, 183, 0, 50, 87, 42, 176]
abbrev dktJ14_append_0 : List UInt8 := dkwJ14_append_0 ++ []
theorem dksJ14_append_0 : bcJ14_append.data.toList.drop 0 = dktJ14_append_0 := by decide +kernel
theorem dJ14_append_0 : decode bcJ14_append 0 = .ok (.aload_n 0, 1) := dk_42 (dk_at dksJ14_append_0 0 rfl rfl)
theorem dJ14_append_1 : decode bcJ14_append 1 = .ok (.iload_n 1, 1) := dk_27 (dk_at dksJ14_append_0 1 rfl rfl)
theorem dJ14_append_2 : decode bcJ14_append 2 = .ok (.invokespecial 50, 3) := dk_183 0 50 (dk_at dksJ14_append_0 2 rfl rfl)
theorem dJ14_append_5 : decode bcJ14_append 5 = .ok (.pop, 1) := dk_87 (dk_at dksJ14_append_0 5 rfl rfl)
theorem dJ14_append_6 : decode bcJ14_append 6 = .ok (.aload_n 0, 1) := dk_42 (dk_at dksJ14_append_0 6 rfl rfl)
theorem dJ14_append_7 : decode bcJ14_append 7 = .ok (.areturn, 1) := dk_176 (dk_at dksJ14_append_0 7 rfl rfl)
abbrev SJ14_append (pc : Nat) (i : xI) : Prop := Snd "java/lang/StringBuilder" "append" prog_39_method_14_code 2 (Option.some (Jvm.ClassFile.FieldType.object "java/lang/StringBuilder")) [] pc i
theorem oJ14_append_0 : SJ14_append 0 (i_aload 0 1) := snd_aload_n dJ14_append_0 rfl
theorem oJ14_append_1 : SJ14_append 1 (i_iload 1 2) := snd_iload_n dJ14_append_1 rfl
theorem oJ14_append_2 : SJ14_append 2 (i_cir [23] 9 1 5) := snd_cir rfl infJ13_append (by decide) (ok1 ⟨_, rfl, xVm_SU dJ14_append_2 q688 q2250 q683 q689 q146 q690 ⟨by decide, pdJ13_append.2.2⟩⟩)
theorem oJ14_append_5 : SJ14_append 5 (i_pop 6) := snd_pop dJ14_append_5
theorem oJ14_append_6 : SJ14_append 6 (i_aload 0 7) := snd_aload_n dJ14_append_6 rfl
theorem oJ14_append_7 : SJ14_append 7 (i_aret) := snd_aret dJ14_append_7 rfl (Or.inl ⟨_, rfl⟩)
theorem okJ14_append : ∀ q ∈ cJ14_append, SJ14_append q.1 q.2 := List.forall_mem_cons.mpr ⟨oJ14_append_0, List.forall_mem_cons.mpr ⟨oJ14_append_1, List.forall_mem_cons.mpr ⟨oJ14_append_2, List.forall_mem_cons.mpr ⟨oJ14_append_5, List.forall_mem_cons.mpr ⟨oJ14_append_6, List.forall_mem_cons.mpr ⟨oJ14_append_7, fun _ h => absurd h List.not_mem_nil⟩⟩⟩⟩⟩⟩
def dkwJ14_toString_0 : List UInt8 := [187, 0, 18, 89, 42, 183, 0, 137, 176]
abbrev dktJ14_toString_0 : List UInt8 := dkwJ14_toString_0 ++ []
theorem dksJ14_toString_0 : bcJ14_toString.data.toList.drop 0 = dktJ14_toString_0 := by decide +kernel
theorem dJ14_toString_0 : decode bcJ14_toString 0 = .ok (.new 18, 3) := dk_187 0 18 (dk_at dksJ14_toString_0 0 rfl rfl)
theorem dJ14_toString_3 : decode bcJ14_toString 3 = .ok (.dup, 1) := dk_89 (dk_at dksJ14_toString_0 3 rfl rfl)
theorem dJ14_toString_4 : decode bcJ14_toString 4 = .ok (.aload_n 0, 1) := dk_42 (dk_at dksJ14_toString_0 4 rfl rfl)
theorem dJ14_toString_5 : decode bcJ14_toString 5 = .ok (.invokespecial 137, 3) := dk_183 0 137 (dk_at dksJ14_toString_0 5 rfl rfl)
theorem dJ14_toString_8 : decode bcJ14_toString 8 = .ok (.areturn, 1) := dk_176 (dk_at dksJ14_toString_0 8 rfl rfl)
abbrev SJ14_toString (pc : Nat) (i : xI) : Prop := Snd "java/lang/StringBuilder" "toString" prog_39_method_42_code 1 (Option.some (Jvm.ClassFile.FieldType.object "java/lang/String")) [] pc i
theorem oJ14_toString_0 : SJ14_toString 0 (i_new 22 4 zJ5 3) := snd_new dJ14_toString_0 rfl in_J5 tyJ5 tyJ5_ok (by decide) q759 q760 q137
theorem oJ14_toString_3 : SJ14_toString 3 (i_dup 4) := snd_dup dJ14_toString_3
theorem oJ14_toString_4 : SJ14_toString 4 (i_aload 0 5) := snd_aload_n dJ14_toString_4 rfl
theorem oJ14_toString_5 : SJ14_toString 5 (i_ci [22] 52 1 8) := snd_ci rfl infJ5_init (by decide) (xcls_ok _ (by decide)) (xIm_I dJ14_toString_5 rfl q761 q762 q137 q763 pdJ5_init)
theorem oJ14_toString_8 : SJ14_toString 8 (i_aret) := snd_aret dJ14_toString_8 rfl (Or.inl ⟨_, rfl⟩)
theorem okJ14_toString : ∀ q ∈ cJ14_toString, SJ14_toString q.1 q.2 := List.forall_mem_cons.mpr ⟨oJ14_toString_0, List.forall_mem_cons.mpr ⟨oJ14_toString_3, List.forall_mem_cons.mpr ⟨oJ14_toString_4, List.forall_mem_cons.mpr ⟨oJ14_toString_5, List.forall_mem_cons.mpr ⟨oJ14_toString_8, fun _ h => absurd h List.not_mem_nil⟩⟩⟩⟩⟩
theorem dJ14_length_0 : decode bcJ14_length 0 = .ok (.aload_n 0, 1) := by decide +kernel
theorem dJ14_length_1 : decode bcJ14_length 1 = .ok (.invokespecial 343, 3) := by decide +kernel
theorem dJ14_length_4 : decode bcJ14_length 4 = .ok (.ireturn, 1) := by decide +kernel
abbrev SJ14_length (pc : Nat) (i : xI) : Prop := Snd "java/lang/StringBuilder" "length" prog_39_method_93_code 1 (Option.some Jvm.ClassFile.FieldType.int) [] pc i
theorem oJ14_length_0 : SJ14_length 0 (i_aload 0 1) := snd_aload_n dJ14_length_0 rfl
theorem oJ14_length_1 : SJ14_length 1 (i_cir [23] 15 0 4) := snd_cir rfl infJ13_length (by decide) (ok1 ⟨_, rfl, xVm_SU dJ14_length_1 q779 q775 q683 q774 q146 q780 ⟨by decide, pdJ13_length.2.2⟩⟩)
theorem oJ14_length_4 : SJ14_length 4 (i_iret) := snd_iret dJ14_length_4 rfl
theorem okJ14_length : ∀ q ∈ cJ14_length, SJ14_length q.1 q.2 := List.forall_mem_cons.mpr ⟨oJ14_length_0, List.forall_mem_cons.mpr ⟨oJ14_length_1, List.forall_mem_cons.mpr ⟨oJ14_length_4, fun _ h => absurd h List.not_mem_nil⟩⟩⟩
def dkwJ15_newLength_1 : List UInt8 := [184, 0, 201, 172]
abbrev dktJ15_newLength_1 : List UInt8 := dkwJ15_newLength_1 ++ []
def dkwJ15_newLength_0 : List UInt8 := [26, 27, 28, 184, 0, 194, 96, 62, 3, 29, 162, 0, 11, 29, 18, 200, 163, 0, 5, 29, 172, 26, 27]
abbrev dktJ15_newLength_0 : List UInt8 := dkwJ15_newLength_0 ++ dktJ15_newLength_1
theorem dksJ15_newLength_0 : bcJ15_newLength.data.toList.drop 0 = dktJ15_newLength_0 := by decide +kernel
theorem dksJ15_newLength_1 : bcJ15_newLength.data.toList.drop 23 = dktJ15_newLength_1 := dk_seg dksJ15_newLength_0 23 rfl rfl
theorem dJ15_newLength_0 : decode bcJ15_newLength 0 = .ok (.iload_n 0, 1) := dk_26 (dk_at dksJ15_newLength_0 0 rfl rfl)
theorem dJ15_newLength_1 : decode bcJ15_newLength 1 = .ok (.iload_n 1, 1) := dk_27 (dk_at dksJ15_newLength_0 1 rfl rfl)
theorem dJ15_newLength_2 : decode bcJ15_newLength 2 = .ok (.iload_n 2, 1) := dk_28 (dk_at dksJ15_newLength_0 2 rfl rfl)
theorem dJ15_newLength_3 : decode bcJ15_newLength 3 = .ok (.invokestatic 194, 3) := dk_184 0 194 (dk_at dksJ15_newLength_0 3 rfl rfl)
theorem dJ15_newLength_6 : decode bcJ15_newLength 6 = .ok (.iadd, 1) := dk_96 (dk_at dksJ15_newLength_0 6 rfl rfl)
theorem dJ15_newLength_7 : decode bcJ15_newLength 7 = .ok (.istore_n 3, 1) := dk_62 (dk_at dksJ15_newLength_0 7 rfl rfl)
theorem dJ15_newLength_8 : decode bcJ15_newLength 8 = .ok (.iconst 0, 1) := dk_3 (dk_at dksJ15_newLength_0 8 rfl rfl)
theorem dJ15_newLength_9 : decode bcJ15_newLength 9 = .ok (.iload_n 3, 1) := dk_29 (dk_at dksJ15_newLength_0 9 rfl rfl)
theorem dJ15_newLength_10 : decode bcJ15_newLength 10 = .ok (.if_icmp .ge 11, 3) := dk_162 0 11 (dk_at dksJ15_newLength_0 10 rfl rfl)
theorem dJ15_newLength_13 : decode bcJ15_newLength 13 = .ok (.iload_n 3, 1) := dk_29 (dk_at dksJ15_newLength_0 13 rfl rfl)
theorem dJ15_newLength_14 : decode bcJ15_newLength 14 = .ok (.ldc 200, 2) := dk_18 200 (dk_at dksJ15_newLength_0 14 rfl rfl)
theorem dJ15_newLength_16 : decode bcJ15_newLength 16 = .ok (.if_icmp .gt 5, 3) := dk_163 0 5 (dk_at dksJ15_newLength_0 16 rfl rfl)
theorem dJ15_newLength_19 : decode bcJ15_newLength 19 = .ok (.iload_n 3, 1) := dk_29 (dk_at dksJ15_newLength_0 19 rfl rfl)
theorem dJ15_newLength_20 : decode bcJ15_newLength 20 = .ok (.ireturn, 1) := dk_172 (dk_at dksJ15_newLength_0 20 rfl rfl)
theorem dJ15_newLength_21 : decode bcJ15_newLength 21 = .ok (.iload_n 0, 1) := dk_26 (dk_at dksJ15_newLength_0 21 rfl rfl)
theorem dJ15_newLength_22 : decode bcJ15_newLength 22 = .ok (.iload_n 1, 1) := dk_27 (dk_at dksJ15_newLength_0 22 rfl rfl)
theorem dJ15_newLength_23 : decode bcJ15_newLength 23 = .ok (.invokestatic 201, 3) := dk_184 0 201 (dk_at dksJ15_newLength_1 0 rfl rfl)
theorem dJ15_newLength_26 : decode bcJ15_newLength 26 = .ok (.ireturn, 1) := dk_172 (dk_at dksJ15_newLength_1 3 rfl rfl)
abbrev SJ15_newLength (pc : Nat) (i : xI) : Prop := Snd "jdk/internal/util/ArraysSupport" "newLength" prog_56_method_27_code 4 (Option.some Jvm.ClassFile.FieldType.int) [] pc i
theorem oJ15_newLength_0 : SJ15_newLength 0 (i_iload 0 1) := snd_iload_n dJ15_newLength_0 rfl
theorem oJ15_newLength_1 : SJ15_newLength 1 (i_iload 1 2) := snd_iload_n dJ15_newLength_1 rfl
theorem oJ15_newLength_2 : SJ15_newLength 2 (i_iload 2 3) := snd_iload_n dJ15_newLength_2 rfl
theorem oJ15_newLength_3 : SJ15_newLength 3 (i_cs 62 2 6) := snd_cs rfl infJ7_max (by decide) (xSm_S dJ15_newLength_3 q702 q475 q139 q476 pdJ7_max)
theorem oJ15_newLength_6 : SJ15_newLength 6 (i_ii (fun x y => x + y) 7) := snd_iadd dJ15_newLength_6
theorem oJ15_newLength_7 : SJ15_newLength 7 (i_istore 3 8) := snd_istore_n dJ15_newLength_7 rfl (by decide)
theorem oJ15_newLength_8 : SJ15_newLength 8 (i_const (.int (nI 0)) 9) := snd_iconst dJ15_newLength_8 (by decide)
theorem oJ15_newLength_9 : SJ15_newLength 9 (i_iload 3 10) := snd_iload_n dJ15_newLength_9 rfl
theorem oJ15_newLength_10 : SJ15_newLength 10 (i_if2 (fun x y => y ≤ x) 21 13) := snd_icmp_ge dJ15_newLength_10 (by decide)
theorem oJ15_newLength_13 : SJ15_newLength 13 (i_iload 3 14) := snd_iload_n dJ15_newLength_13 rfl
theorem oJ15_newLength_14 : SJ15_newLength 14 (i_const (.int (nI 2147483639)) 16) := snd_ldc dJ15_newLength_14 q703
theorem oJ15_newLength_16 : SJ15_newLength 16 (i_if2 (fun x y => y < x) 21 19) := snd_icmp_gt dJ15_newLength_16 (by decide)
theorem oJ15_newLength_19 : SJ15_newLength 19 (i_iload 3 20) := snd_iload_n dJ15_newLength_19 rfl
theorem oJ15_newLength_20 : SJ15_newLength 20 (i_iret) := snd_iret dJ15_newLength_20 rfl
theorem oJ15_newLength_21 : SJ15_newLength 21 (i_iload 0 22) := snd_iload_n dJ15_newLength_21 rfl
theorem oJ15_newLength_22 : SJ15_newLength 22 (i_iload 1 23) := snd_iload_n dJ15_newLength_22 rfl
theorem oJ15_newLength_23 : SJ15_newLength 23 (i_no) := snd_no
theorem oJ15_newLength_26 : SJ15_newLength 26 (i_iret) := snd_iret dJ15_newLength_26 rfl
theorem okJ15_newLength : ∀ q ∈ cJ15_newLength, SJ15_newLength q.1 q.2 := List.forall_mem_cons.mpr ⟨oJ15_newLength_0, List.forall_mem_cons.mpr ⟨oJ15_newLength_1, List.forall_mem_cons.mpr ⟨oJ15_newLength_2, List.forall_mem_cons.mpr ⟨oJ15_newLength_3, List.forall_mem_cons.mpr ⟨oJ15_newLength_6, List.forall_mem_cons.mpr ⟨oJ15_newLength_7, List.forall_mem_cons.mpr ⟨oJ15_newLength_8, List.forall_mem_cons.mpr ⟨oJ15_newLength_9, List.forall_mem_cons.mpr ⟨oJ15_newLength_10, List.forall_mem_cons.mpr ⟨oJ15_newLength_13, List.forall_mem_cons.mpr ⟨oJ15_newLength_14, List.forall_mem_cons.mpr ⟨oJ15_newLength_16, List.forall_mem_cons.mpr ⟨oJ15_newLength_19, List.forall_mem_cons.mpr ⟨oJ15_newLength_20, List.forall_mem_cons.mpr ⟨oJ15_newLength_21, List.forall_mem_cons.mpr ⟨oJ15_newLength_22, List.forall_mem_cons.mpr ⟨oJ15_newLength_23, List.forall_mem_cons.mpr ⟨oJ15_newLength_26, fun _ h => absurd h List.not_mem_nil⟩⟩⟩⟩⟩⟩⟩⟩⟩⟩⟩⟩⟩⟩⟩⟩⟩⟩
def dkwJ16_copyOfRange_1 : List UInt8 := [176]
abbrev dktJ16_copyOfRange_1 : List UInt8 := dkwJ16_copyOfRange_1 ++ []
def dkwJ16_copyOfRange_0 : List UInt8 := [27, 154, 0, 9, 28, 42, 190, 159, 0, 10, 42, 27, 28, 184, 1, 83, 176, 42, 182, 1, 54, 192, 1, 55]
abbrev dktJ16_copyOfRange_0 : List UInt8 := dkwJ16_copyOfRange_0 ++ dktJ16_copyOfRange_1
theorem dksJ16_copyOfRange_0 : bcJ16_copyOfRange.data.toList.drop 0 = dktJ16_copyOfRange_0 := by decide +kernel
theorem dksJ16_copyOfRange_1 : bcJ16_copyOfRange.data.toList.drop 24 = dktJ16_copyOfRange_1 := dk_seg dksJ16_copyOfRange_0 24 rfl rfl
theorem dJ16_copyOfRange_0 : decode bcJ16_copyOfRange 0 = .ok (.iload_n 1, 1) := dk_27 (dk_at dksJ16_copyOfRange_0 0 rfl rfl)
theorem dJ16_copyOfRange_1 : decode bcJ16_copyOfRange 1 = .ok (.ifCond .ne 9, 3) := dk_154 0 9 (dk_at dksJ16_copyOfRange_0 1 rfl rfl)
theorem dJ16_copyOfRange_4 : decode bcJ16_copyOfRange 4 = .ok (.iload_n 2, 1) := dk_28 (dk_at dksJ16_copyOfRange_0 4 rfl rfl)
theorem dJ16_copyOfRange_5 : decode bcJ16_copyOfRange 5 = .ok (.aload_n 0, 1) := dk_42 (dk_at dksJ16_copyOfRange_0 5 rfl rfl)
theorem dJ16_copyOfRange_6 : decode bcJ16_copyOfRange 6 = .ok (.arraylength, 1) := dk_190 (dk_at dksJ16_copyOfRange_0 6 rfl rfl)
theorem dJ16_copyOfRange_7 : decode bcJ16_copyOfRange 7 = .ok (.if_icmp .eq 10, 3) := dk_159 0 10 (dk_at dksJ16_copyOfRange_0 7 rfl rfl)
theorem dJ16_copyOfRange_10 : decode bcJ16_copyOfRange 10 = .ok (.aload_n 0, 1) := dk_42 (dk_at dksJ16_copyOfRange_0 10 rfl rfl)
theorem dJ16_copyOfRange_11 : decode bcJ16_copyOfRange 11 = .ok (.iload_n 1, 1) := dk_27 (dk_at dksJ16_copyOfRange_0 11 rfl rfl)
theorem dJ16_copyOfRange_12 : decode bcJ16_copyOfRange 12 = .ok (.iload_n 2, 1) := dk_28 (dk_at dksJ16_copyOfRange_0 12 rfl rfl)
theorem dJ16_copyOfRange_13 : decode bcJ16_copyOfRange 13 = .ok (.invokestatic 339, 3) := dk_184 1 83 (dk_at dksJ16_copyOfRange_0 13 rfl rfl)
theorem dJ16_copyOfRange_16 : decode bcJ16_copyOfRange 16 = .ok (.areturn, 1) := dk_176 (dk_at dksJ16_copyOfRange_0 16 rfl rfl)
theorem dJ16_copyOfRange_17 : decode bcJ16_copyOfRange 17 = .ok (.aload_n 0, 1) := dk_42 (dk_at dksJ16_copyOfRange_0 17 rfl rfl)
theorem dJ16_copyOfRange_18 : decode bcJ16_copyOfRange 18 = .ok (.invokevirtual 310, 3) := dk_182 1 54 (dk_at dksJ16_copyOfRange_0 18 rfl rfl)
theorem dJ16_copyOfRange_21 : decode bcJ16_copyOfRange 21 = .ok (.checkcast 311, 3) := dk_192 1 55 (dk_at dksJ16_copyOfRange_0 21 rfl rfl)
theorem dJ16_copyOfRange_24 : decode bcJ16_copyOfRange 24 = .ok (.areturn, 1) := dk_176 (dk_at dksJ16_copyOfRange_1 0 rfl rfl)
abbrev SJ16_copyOfRange (pc : Nat) (i : xI) : Prop := Snd "java/util/Arrays" "copyOfRange" prog_49_method_132_code 3 (Option.some (Jvm.ClassFile.FieldType.array Jvm.ClassFile.FieldType.byte)) [] pc i
theorem oJ16_copyOfRange_0 : SJ16_copyOfRange 0 (i_iload 1 1) := snd_iload_n dJ16_copyOfRange_0 rfl
theorem oJ16_copyOfRange_1 : SJ16_copyOfRange 1 (i_if1 (fun x => ¬ x = 0) 10 4) := snd_if_ne dJ16_copyOfRange_1 (by decide)
theorem oJ16_copyOfRange_4 : SJ16_copyOfRange 4 (i_iload 2 5) := snd_iload_n dJ16_copyOfRange_4 rfl
theorem oJ16_copyOfRange_5 : SJ16_copyOfRange 5 (i_aload 0 6) := snd_aload_n dJ16_copyOfRange_5 rfl
theorem oJ16_copyOfRange_6 : SJ16_copyOfRange 6 (i_len 7) := snd_len dJ16_copyOfRange_6
theorem oJ16_copyOfRange_7 : SJ16_copyOfRange 7 (i_if2 (fun x y => x = y) 17 10) := snd_icmp_eq dJ16_copyOfRange_7 (by decide)
theorem oJ16_copyOfRange_10 : SJ16_copyOfRange 10 (i_aload 0 11) := snd_aload_n dJ16_copyOfRange_10 rfl
theorem oJ16_copyOfRange_11 : SJ16_copyOfRange 11 (i_iload 1 12) := snd_iload_n dJ16_copyOfRange_11 rfl
theorem oJ16_copyOfRange_12 : SJ16_copyOfRange 12 (i_iload 2 13) := snd_iload_n dJ16_copyOfRange_12 rfl
theorem oJ16_copyOfRange_13 : SJ16_copyOfRange 13 (i_cs 24 3 16) := snd_cs rfl infJ16_copyOfRangeByte (by decide) (xSm_S dJ16_copyOfRange_13 q785 q786 q149 q787 pdJ16_copyOfRangeByte)
theorem oJ16_copyOfRange_16 : SJ16_copyOfRange 16 (i_aret) := snd_aret dJ16_copyOfRange_16 rfl (Or.inr ⟨_, rfl⟩)
theorem oJ16_copyOfRange_17 : SJ16_copyOfRange 17 (i_aload 0 18) := snd_aload_n dJ16_copyOfRange_17 rfl
theorem oJ16_copyOfRange_18 : SJ16_copyOfRange 18 (i_clone 21) := snd_clone dJ16_copyOfRange_18 q711
theorem oJ16_copyOfRange_21 : SJ16_copyOfRange 21 (i_castB 24) := snd_castB dJ16_copyOfRange_21 q717
theorem oJ16_copyOfRange_24 : SJ16_copyOfRange 24 (i_aret) := snd_aret dJ16_copyOfRange_24 rfl (Or.inr ⟨_, rfl⟩)
theorem okJ16_copyOfRange : ∀ q ∈ cJ16_copyOfRange, SJ16_copyOfRange q.1 q.2 := List.forall_mem_cons.mpr ⟨oJ16_copyOfRange_0, List.forall_mem_cons.mpr ⟨oJ16_copyOfRange_1, List.forall_mem_cons.mpr ⟨oJ16_copyOfRange_4, List.forall_mem_cons.mpr ⟨oJ16_copyOfRange_5, List.forall_mem_cons.mpr ⟨oJ16_copyOfRange_6, List.forall_mem_cons.mpr ⟨oJ16_copyOfRange_7, List.forall_mem_cons.mpr ⟨oJ16_copyOfRange_10, List.forall_mem_cons.mpr ⟨oJ16_copyOfRange_11, List.forall_mem_cons.mpr ⟨oJ16_copyOfRange_12, List.forall_mem_cons.mpr ⟨oJ16_copyOfRange_13, List.forall_mem_cons.mpr ⟨oJ16_copyOfRange_16, List.forall_mem_cons.mpr ⟨oJ16_copyOfRange_17, List.forall_mem_cons.mpr ⟨oJ16_copyOfRange_18, List.forall_mem_cons.mpr ⟨oJ16_copyOfRange_21, List.forall_mem_cons.mpr ⟨oJ16_copyOfRange_24, fun _ h => absurd h List.not_mem_nil⟩⟩⟩⟩⟩⟩⟩⟩⟩⟩⟩⟩⟩⟩⟩
def dkwJ16_copyOfRangeByte_1 : List UInt8 := [184, 1, 48, 184, 0, 150, 25, 4, 176]
abbrev dktJ16_copyOfRangeByte_1 : List UInt8 := dkwJ16_copyOfRangeByte_1 ++ []
def dkwJ16_copyOfRangeByte_0 : List UInt8 := [27, 28, 184, 1, 87, 28, 27, 100, 62, 29, 188, 8, 58, 4, 42, 27, 25, 4, 3, 42, 190, 27, 100, 29]
abbrev dktJ16_copyOfRangeByte_0 : List UInt8 := dkwJ16_copyOfRangeByte_0 ++ dktJ16_copyOfRangeByte_1
theorem dksJ16_copyOfRangeByte_0 : bcJ16_copyOfRangeByte.data.toList.drop 0 = dktJ16_copyOfRangeByte_0 := by decide +kernel
theorem dksJ16_copyOfRangeByte_1 : bcJ16_copyOfRangeByte.data.toList.drop 24 = dktJ16_copyOfRangeByte_1 := dk_seg dksJ16_copyOfRangeByte_0 24 rfl rfl
theorem dJ16_copyOfRangeByte_0 : decode bcJ16_copyOfRangeByte 0 = .ok (.iload_n 1, 1) := dk_27 (dk_at dksJ16_copyOfRangeByte_0 0 rfl rfl)
theorem dJ16_copyOfRangeByte_1 : decode bcJ16_copyOfRangeByte 1 = .ok (.iload_n 2, 1) := dk_28 (dk_at dksJ16_copyOfRangeByte_0 1 rfl rfl)
theorem dJ16_copyOfRangeByte_2 : decode bcJ16_copyOfRangeByte 2 = .ok (.invokestatic 343, 3) := dk_184 1 87 (dk_at dksJ16_copyOfRangeByte_0 2 rfl rfl)
theorem dJ16_copyOfRangeByte_5 : decode bcJ16_copyOfRangeByte 5 = .ok (.iload_n 2, 1) := dk_28 (dk_at dksJ16_copyOfRangeByte_0 5 rfl rfl)
theorem dJ16_copyOfRangeByte_6 : decode bcJ16_copyOfRangeByte 6 = .ok (.iload_n 1, 1) := dk_27 (dk_at dksJ16_copyOfRangeByte_0 6 rfl rfl)
theorem dJ16_copyOfRangeByte_7 : decode bcJ16_copyOfRangeByte 7 = .ok (.isub, 1) := dk_100 (dk_at dksJ16_copyOfRangeByte_0 7 rfl rfl)
theorem dJ16_copyOfRangeByte_8 : decode bcJ16_copyOfRangeByte 8 = .ok (.istore_n 3, 1) := dk_62 (dk_at dksJ16_copyOfRangeByte_0 8 rfl rfl)
theorem dJ16_copyOfRangeByte_9 : decode bcJ16_copyOfRangeByte 9 = .ok (.iload_n 3, 1) := dk_29 (dk_at dksJ16_copyOfRangeByte_0 9 rfl rfl)
theorem dJ16_copyOfRangeByte_10 : decode bcJ16_copyOfRangeByte 10 = .ok (.newarray .byte, 2) := dk_188_8 (dk_at dksJ16_copyOfRangeByte_0 10 rfl rfl)
theorem dJ16_copyOfRangeByte_12 : decode bcJ16_copyOfRangeByte 12 = .ok (.astore 4, 2) := dk_58 4 (dk_at dksJ16_copyOfRangeByte_0 12 rfl rfl)
theorem dJ16_copyOfRangeByte_14 : decode bcJ16_copyOfRangeByte 14 = .ok (.aload_n 0, 1) := dk_42 (dk_at dksJ16_copyOfRangeByte_0 14 rfl rfl)
theorem dJ16_copyOfRangeByte_15 : decode bcJ16_copyOfRangeByte 15 = .ok (.iload_n 1, 1) := dk_27 (dk_at dksJ16_copyOfRangeByte_0 15 rfl rfl)
theorem dJ16_copyOfRangeByte_16 : decode bcJ16_copyOfRangeByte 16 = .ok (.aload 4, 2) := dk_25 4 (dk_at dksJ16_copyOfRangeByte_0 16 rfl rfl)
theorem dJ16_copyOfRangeByte_18 : decode bcJ16_copyOfRangeByte 18 = .ok (.iconst 0, 1) := dk_3 (dk_at dksJ16_copyOfRangeByte_0 18 rfl rfl)
theorem dJ16_copyOfRangeByte_19 : decode bcJ16_copyOfRangeByte 19 = .ok (.aload_n 0, 1) := dk_42 (dk_at dksJ16_copyOfRangeByte_0 19 rfl rfl)
theorem dJ16_copyOfRangeByte_20 : decode bcJ16_copyOfRangeByte 20 = .ok (.arraylength, 1) := dk_190 (dk_at dksJ16_copyOfRangeByte_0 20 rfl rfl)
theorem dJ16_copyOfRangeByte_21 : decode bcJ16_copyOfRangeByte 21 = .ok (.iload_n 1, 1) := dk_27 (dk_at dksJ16_copyOfRangeByte_0 21 rfl rfl)
theorem dJ16_copyOfRangeByte_22 : decode bcJ16_copyOfRangeByte 22 = .ok (.isub, 1) := dk_100 (dk_at dksJ16_copyOfRangeByte_0 22 rfl rfl)
theorem dJ16_copyOfRangeByte_23 : decode bcJ16_copyOfRangeByte 23 = .ok (.iload_n 3, 1) := dk_29 (dk_at dksJ16_copyOfRangeByte_0 23 rfl rfl)
theorem dJ16_copyOfRangeByte_24 : decode bcJ16_copyOfRangeByte 24 = .ok (.invokestatic 304, 3) := dk_184 1 48 (dk_at dksJ16_copyOfRangeByte_1 0 rfl rfl)
theorem dJ16_copyOfRangeByte_27 : decode bcJ16_copyOfRangeByte 27 = .ok (.invokestatic 150, 3) := dk_184 0 150 (dk_at dksJ16_copyOfRangeByte_1 3 rfl rfl)
theorem dJ16_copyOfRangeByte_30 : decode bcJ16_copyOfRangeByte 30 = .ok (.aload 4, 2) := dk_25 4 (dk_at dksJ16_copyOfRangeByte_1 6 rfl rfl)
theorem dJ16_copyOfRangeByte_32 : decode bcJ16_copyOfRangeByte 32 = .ok (.areturn, 1) := dk_176 (dk_at dksJ16_copyOfRangeByte_1 8 rfl rfl)
abbrev SJ16_copyOfRangeByte (pc : Nat) (i : xI) : Prop := Snd "java/util/Arrays" "copyOfRangeByte" prog_49_method_133_code 5 (Option.some (Jvm.ClassFile.FieldType.array Jvm.ClassFile.FieldType.byte)) [] pc i
theorem oJ16_copyOfRangeByte_0 : SJ16_copyOfRangeByte 0 (i_iload 1 1) := snd_iload_n dJ16_copyOfRangeByte_0 rfl
theorem oJ16_copyOfRangeByte_1 : SJ16_copyOfRangeByte 1 (i_iload 2 2) := snd_iload_n dJ16_copyOfRangeByte_1 rfl
theorem oJ16_copyOfRangeByte_2 : SJ16_copyOfRangeByte 2 (i_csv 25 2 5) := snd_csv rfl infJ16_checkLength (by decide) (xSm_S dJ16_copyOfRangeByte_2 q788 q789 q149 q790 pdJ16_checkLength)
theorem oJ16_copyOfRangeByte_5 : SJ16_copyOfRangeByte 5 (i_iload 2 6) := snd_iload_n dJ16_copyOfRangeByte_5 rfl
theorem oJ16_copyOfRangeByte_6 : SJ16_copyOfRangeByte 6 (i_iload 1 7) := snd_iload_n dJ16_copyOfRangeByte_6 rfl
theorem oJ16_copyOfRangeByte_7 : SJ16_copyOfRangeByte 7 (i_ii (fun x y => x - y) 8) := snd_isub dJ16_copyOfRangeByte_7
theorem oJ16_copyOfRangeByte_8 : SJ16_copyOfRangeByte 8 (i_istore 3 9) := snd_istore_n dJ16_copyOfRangeByte_8 rfl (by decide)
theorem oJ16_copyOfRangeByte_9 : SJ16_copyOfRangeByte 9 (i_iload 3 10) := snd_iload_n dJ16_copyOfRangeByte_9 rfl
theorem oJ16_copyOfRangeByte_10 : SJ16_copyOfRangeByte 10 (i_newa 1 (.inl (fun _ => 0)) 12) := snd_na1 dJ16_copyOfRangeByte_10
theorem oJ16_copyOfRangeByte_12 : SJ16_copyOfRangeByte 12 (i_astore 4 14) := snd_astore dJ16_copyOfRangeByte_12 (by decide)
theorem oJ16_copyOfRangeByte_14 : SJ16_copyOfRangeByte 14 (i_aload 0 15) := snd_aload_n dJ16_copyOfRangeByte_14 rfl
theorem oJ16_copyOfRangeByte_15 : SJ16_copyOfRangeByte 15 (i_iload 1 16) := snd_iload_n dJ16_copyOfRangeByte_15 rfl
theorem oJ16_copyOfRangeByte_16 : SJ16_copyOfRangeByte 16 (i_aload 4 18) := snd_aload dJ16_copyOfRangeByte_16
theorem oJ16_copyOfRangeByte_18 : SJ16_copyOfRangeByte 18 (i_const (.int (nI 0)) 19) := snd_iconst dJ16_copyOfRangeByte_18 (by decide)
theorem oJ16_copyOfRangeByte_19 : SJ16_copyOfRangeByte 19 (i_aload 0 20) := snd_aload_n dJ16_copyOfRangeByte_19 rfl
theorem oJ16_copyOfRangeByte_20 : SJ16_copyOfRangeByte 20 (i_len 21) := snd_len dJ16_copyOfRangeByte_20
theorem oJ16_copyOfRangeByte_21 : SJ16_copyOfRangeByte 21 (i_iload 1 22) := snd_iload_n dJ16_copyOfRangeByte_21 rfl
theorem oJ16_copyOfRangeByte_22 : SJ16_copyOfRangeByte 22 (i_ii (fun x y => x - y) 23) := snd_isub dJ16_copyOfRangeByte_22
theorem oJ16_copyOfRangeByte_23 : SJ16_copyOfRangeByte 23 (i_iload 3 24) := snd_iload_n dJ16_copyOfRangeByte_23 rfl
theorem oJ16_copyOfRangeByte_24 : SJ16_copyOfRangeByte 24 (i_cs 63 2 27) := snd_cs rfl infJ7_min (by decide) (xSm_S dJ16_copyOfRangeByte_24 q718 q478 q139 q479 pdJ7_min)
theorem oJ16_copyOfRangeByte_27 : SJ16_copyOfRangeByte 27 (i_cpb 30) := snd_cpb dJ16_copyOfRangeByte_27 q719 q721 q720 q150
theorem oJ16_copyOfRangeByte_30 : SJ16_copyOfRangeByte 30 (i_aload 4 32) := snd_aload dJ16_copyOfRangeByte_30
theorem oJ16_copyOfRangeByte_32 : SJ16_copyOfRangeByte 32 (i_aret) := snd_aret dJ16_copyOfRangeByte_32 rfl (Or.inr ⟨_, rfl⟩)
theorem okJ16_copyOfRangeByte : ∀ q ∈ cJ16_copyOfRangeByte, SJ16_copyOfRangeByte q.1 q.2 := List.forall_mem_cons.mpr ⟨oJ16_copyOfRangeByte_0, List.forall_mem_cons.mpr ⟨oJ16_copyOfRangeByte_1, List.forall_mem_cons.mpr ⟨oJ16_copyOfRangeByte_2, List.forall_mem_cons.mpr ⟨oJ16_copyOfRangeByte_5, List.forall_mem_cons.mpr ⟨oJ16_copyOfRangeByte_6, List.forall_mem_cons.mpr ⟨oJ16_copyOfRangeByte_7, List.forall_mem_cons.mpr ⟨oJ16_copyOfRangeByte_8, List.forall_mem_cons.mpr ⟨oJ16_copyOfRangeByte_9, List.forall_mem_cons.mpr ⟨oJ16_copyOfRangeByte_10, List.forall_mem_cons.mpr ⟨oJ16_copyOfRangeByte_12, List.forall_mem_cons.mpr ⟨oJ16_copyOfRangeByte_14, List.forall_mem_cons.mpr ⟨oJ16_copyOfRangeByte_15, List.forall_mem_cons.mpr ⟨oJ16_copyOfRangeByte_16, List.forall_mem_cons.mpr ⟨oJ16_copyOfRangeByte_18, List.forall_mem_cons.mpr ⟨oJ16_copyOfRangeByte_19, List.forall_mem_cons.mpr ⟨oJ16_copyOfRangeByte_20, List.forall_mem_cons.mpr ⟨oJ16_copyOfRangeByte_21, List.forall_mem_cons.mpr ⟨oJ16_copyOfRangeByte_22, List.forall_mem_cons.mpr ⟨oJ16_copyOfRangeByte_23, List.forall_mem_cons.mpr ⟨oJ16_copyOfRangeByte_24, List.forall_mem_cons.mpr ⟨oJ16_copyOfRangeByte_27, List.forall_mem_cons.mpr ⟨oJ16_copyOfRangeByte_30, List.forall_mem_cons.mpr ⟨oJ16_copyOfRangeByte_32, fun _ h => absurd h List.not_mem_nil⟩⟩⟩⟩⟩⟩⟩⟩⟩⟩⟩⟩⟩⟩⟩⟩⟩⟩⟩⟩⟩⟩⟩
def dkwJ16_checkLength_1 : List UInt8 := [182, 0, 50, 27, 182, 0, 54, 182, 0, 61, 183, 0, 65, 191, 177]
abbrev dktJ16_checkLength_1 : List UInt8 := dkwJ16_checkLength_1 ++ []
def dkwJ16_checkLength_0 : List UInt8 := [27, 26, 162, 0, 35, 187, 0, 43, 89, 187, 0, 45, 89, 183, 0, 47, 26, 182, 0, 54, 19, 1, 81]
abbrev dktJ16_checkLength_0 : List UInt8 := dkwJ16_checkLength_0 ++ dktJ16_checkLength_1
theorem dksJ16_checkLength_0 : bcJ16_checkLength.data.toList.drop 0 = dktJ16_checkLength_0 := by decide +kernel
theorem dksJ16_checkLength_1 : bcJ16_checkLength.data.toList.drop 23 = dktJ16_checkLength_1 := dk_seg dksJ16_checkLength_0 23 rfl rfl
theorem dJ16_checkLength_0 : decode bcJ16_checkLength 0 = .ok (.iload_n 1, 1) := dk_27 (dk_at dksJ16_checkLength_0 0 rfl rfl)
theorem dJ16_checkLength_1 : decode bcJ16_checkLength 1 = .ok (.iload_n 0, 1) := dk_26 (dk_at dksJ16_checkLength_0 1 rfl rfl)
theorem dJ16_checkLength_2 : decode bcJ16_checkLength 2 = .ok (.if_icmp .ge 35, 3) := dk_162 0 35 (dk_at dksJ16_checkLength_0 2 rfl rfl)
theorem dJ16_checkLength_5 : decode bcJ16_checkLength 5 = .ok (.new 43, 3) := dk_187 0 43 (dk_at dksJ16_checkLength_0 5 rfl rfl)
theorem dJ16_checkLength_8 : decode bcJ16_checkLength 8 = .ok (.dup, 1) := dk_89 (dk_at dksJ16_checkLength_0 8 rfl rfl)
theorem dJ16_checkLength_9 : decode bcJ16_checkLength 9 = .ok (.new 45, 3) := dk_187 0 45 (dk_at dksJ16_checkLength_0 9 rfl rfl)
theorem dJ16_checkLength_12 : decode bcJ16_checkLength 12 = .ok (.dup, 1) := dk_89 (dk_at dksJ16_checkLength_0 12 rfl rfl)
theorem dJ16_checkLength_13 : decode bcJ16_checkLength 13 = .ok (.invokespecial 47, 3) := dk_183 0 47 (dk_at dksJ16_checkLength_0 13 rfl rfl)
theorem dJ16_checkLength_16 : decode bcJ16_checkLength 16 = .ok (.iload_n 0, 1) := dk_26 (dk_at dksJ16_checkLength_0 16 rfl rfl)
theorem dJ16_checkLength_17 : decode bcJ16_checkLength 17 = .ok (.invokevirtual 54, 3) := dk_182 0 54 (dk_at dksJ16_checkLength_0 17 rfl rfl)
theorem dJ16_checkLength_20 : decode bcJ16_checkLength 20 = .ok (.ldc_w 337, 3) := dk_19 1 81 (dk_at dksJ16_checkLength_0 20 rfl rfl)
theorem dJ16_checkLength_23 : decode bcJ16_checkLength 23 = .ok (.invokevirtual 50, 3) := dk_182 0 50 (dk_at dksJ16_checkLength_1 0 rfl rfl)
theorem dJ16_checkLength_26 : decode bcJ16_checkLength 26 = .ok (.iload_n 1, 1) := dk_27 (dk_at dksJ16_checkLength_1 3 rfl rfl)
theorem dJ16_checkLength_27 : decode bcJ16_checkLength 27 = .ok (.invokevirtual 54, 3) := dk_182 0 54 (dk_at dksJ16_checkLength_1 4 rfl rfl)
theorem dJ16_checkLength_30 : decode bcJ16_checkLength 30 = .ok (.invokevirtual 61, 3) := dk_182 0 61 (dk_at dksJ16_checkLength_1 7 rfl rfl)
theorem dJ16_checkLength_33 : decode bcJ16_checkLength 33 = .ok (.invokespecial 65, 3) := dk_183 0 65 (dk_at dksJ16_checkLength_1 10 rfl rfl)
theorem dJ16_checkLength_36 : decode bcJ16_checkLength 36 = .ok (.athrow, 1) := dk_191 (dk_at dksJ16_checkLength_1 13 rfl rfl)
theorem dJ16_checkLength_37 : decode bcJ16_checkLength 37 = .ok (.return_, 1) := dk_177 (dk_at dksJ16_checkLength_1 14 rfl rfl)
abbrev SJ16_checkLength (pc : Nat) (i : xI) : Prop := Snd "java/util/Arrays" "checkLength" prog_49_method_131_code 2 (Option.none : Option Jvm.ClassFile.FieldType) [] pc i
theorem oJ16_checkLength_0 : SJ16_checkLength 0 (i_iload 1 1) := snd_iload_n dJ16_checkLength_0 rfl
theorem oJ16_checkLength_1 : SJ16_checkLength 1 (i_iload 0 2) := snd_iload_n dJ16_checkLength_1 rfl
theorem oJ16_checkLength_2 : SJ16_checkLength 2 (i_if2 (fun x y => y ≤ x) 37 5) := snd_icmp_ge dJ16_checkLength_2 (by decide)
theorem oJ16_checkLength_5 : SJ16_checkLength 5 (i_no) := snd_no
theorem oJ16_checkLength_8 : SJ16_checkLength 8 (i_dup 9) := snd_dup dJ16_checkLength_8
theorem oJ16_checkLength_9 : SJ16_checkLength 9 (i_no) := snd_no
theorem oJ16_checkLength_12 : SJ16_checkLength 12 (i_dup 13) := snd_dup dJ16_checkLength_12
theorem oJ16_checkLength_13 : SJ16_checkLength 13 (i_no) := snd_no
theorem oJ16_checkLength_16 : SJ16_checkLength 16 (i_no) := snd_no
theorem oJ16_checkLength_17 : SJ16_checkLength 17 (i_no) := snd_no
theorem oJ16_checkLength_20 : SJ16_checkLength 20 (i_no) := snd_no
theorem oJ16_checkLength_23 : SJ16_checkLength 23 (i_no) := snd_no
theorem oJ16_checkLength_26 : SJ16_checkLength 26 (i_no) := snd_no
theorem oJ16_checkLength_27 : SJ16_checkLength 27 (i_no) := snd_no
theorem oJ16_checkLength_30 : SJ16_checkLength 30 (i_no) := snd_no
theorem oJ16_checkLength_33 : SJ16_checkLength 33 (i_no) := snd_no
theorem oJ16_checkLength_36 : SJ16_checkLength 36 (i_no) := snd_no
theorem oJ16_checkLength_37 : SJ16_checkLength 37 (i_vret) := snd_vret dJ16_checkLength_37 rfl
theorem okJ16_checkLength : ∀ q ∈ cJ16_checkLength, SJ16_checkLength q.1 q.2 := List.forall_mem_cons.mpr ⟨oJ16_checkLength_0, List.forall_mem_cons.mpr ⟨oJ16_checkLength_1, List.forall_mem_cons.mpr ⟨oJ16_checkLength_2, List.forall_mem_cons.mpr ⟨oJ16_checkLength_5, List.forall_mem_cons.mpr ⟨oJ16_checkLength_8, List.forall_mem_cons.mpr ⟨oJ16_checkLength_9, List.forall_mem_cons.mpr ⟨oJ16_checkLength_12, List.forall_mem_cons.mpr ⟨oJ16_checkLength_13, List.forall_mem_cons.mpr ⟨oJ16_checkLength_16, List.forall_mem_cons.mpr ⟨oJ16_checkLength_17, List.forall_mem_cons.mpr ⟨oJ16_checkLength_20, List.forall_mem_cons.mpr ⟨oJ16_checkLength_23, List.forall_mem_cons.mpr ⟨oJ16_checkLength_26, List.forall_mem_cons.mpr ⟨oJ16_checkLength_27, List.forall_mem_cons.mpr ⟨oJ16_checkLength_30, List.forall_mem_cons.mpr ⟨oJ16_checkLength_33, List.forall_mem_cons.mpr ⟨oJ16_checkLength_36, List.forall_mem_cons.mpr ⟨oJ16_checkLength_37, fun _ h => absurd h List.not_mem_nil⟩⟩⟩⟩⟩⟩⟩⟩⟩⟩⟩⟩⟩⟩⟩⟩⟩⟩
def dkwJ16_copyOf_2_0 : List UInt8 := [42, 27, 42, 182, 0, 86, 184, 1, 44, 176]
abbrev dktJ16_copyOf_2_0 : List UInt8 := dkwJ16_copyOf_2_0 ++ []
theorem dksJ16_copyOf_2_0 : bcJ16_copyOf_2.data.toList.drop 0 = dktJ16_copyOf_2_0 := by decide +kernel
theorem dJ16_copyOf_2_0 : decode bcJ16_copyOf_2 0 = .ok (.aload_n 0, 1) := dk_42 (dk_at dksJ16_copyOf_2_0 0 rfl rfl)
theorem dJ16_copyOf_2_1 : decode bcJ16_copyOf_2 1 = .ok (.iload_n 1, 1) := dk_27 (dk_at dksJ16_copyOf_2_0 1 rfl rfl)
theorem dJ16_copyOf_2_2 : decode bcJ16_copyOf_2 2 = .ok (.aload_n 0, 1) := dk_42 (dk_at dksJ16_copyOf_2_0 2 rfl rfl)
theorem dJ16_copyOf_2_3 : decode bcJ16_copyOf_2 3 = .ok (.invokevirtual 86, 3) := dk_182 0 86 (dk_at dksJ16_copyOf_2_0 3 rfl rfl)
theorem dJ16_copyOf_2_6 : decode bcJ16_copyOf_2 6 = .ok (.invokestatic 300, 3) := dk_184 1 44 (dk_at dksJ16_copyOf_2_0 6 rfl rfl)
theorem dJ16_copyOf_2_9 : decode bcJ16_copyOf_2 9 = .ok (.areturn, 1) := dk_176 (dk_at dksJ16_copyOf_2_0 9 rfl rfl)
abbrev SJ16_copyOf_2 (pc : Nat) (i : xI) : Prop := Snd "java/util/Arrays" "copyOf" prog_49_method_119_code 2 (Option.some (Jvm.ClassFile.FieldType.array (Jvm.ClassFile.FieldType.object "java/lang/Object"))) [] pc i
theorem oJ16_copyOf_2_0 : SJ16_copyOf_2 0 (i_aload 0 1) := snd_aload_n dJ16_copyOf_2_0 rfl
theorem oJ16_copyOf_2_1 : SJ16_copyOf_2 1 (i_iload 1 2) := snd_iload_n dJ16_copyOf_2_1 rfl
theorem oJ16_copyOf_2_2 : SJ16_copyOf_2 2 (i_aload 0 3) := snd_aload_n dJ16_copyOf_2_2 rfl
theorem oJ16_copyOf_2_3 : SJ16_copyOf_2 3 (i_getC 6) := snd_getC dJ16_copyOf_2_3 q848 q2288 q2287 q849 q876
theorem oJ16_copyOf_2_6 : SJ16_copyOf_2 6 (i_cs 27 3 9) := snd_cs rfl infJ16_copyOf_3 (by decide) (xSm_S dJ16_copyOf_2_6 q877 q878 q149 q879 pdJ16_copyOf_3)
theorem oJ16_copyOf_2_9 : SJ16_copyOf_2 9 (i_aret) := snd_aret dJ16_copyOf_2_9 rfl (Or.inr ⟨_, rfl⟩)
theorem okJ16_copyOf_2 : ∀ q ∈ cJ16_copyOf_2, SJ16_copyOf_2 q.1 q.2 := List.forall_mem_cons.mpr ⟨oJ16_copyOf_2_0, List.forall_mem_cons.mpr ⟨oJ16_copyOf_2_1, List.forall_mem_cons.mpr ⟨oJ16_copyOf_2_2, List.forall_mem_cons.mpr ⟨oJ16_copyOf_2_3, List.forall_mem_cons.mpr ⟨oJ16_copyOf_2_6, List.forall_mem_cons.mpr ⟨oJ16_copyOf_2_9, fun _ h => absurd h List.not_mem_nil⟩⟩⟩⟩⟩⟩
def dkwJ16_copyOf_3_1 : List UInt8 := [78, 42, 3, 45, 3, 42, 190, 27, 184, 1, 48, 184, 0, 150, 45, 176]
abbrev dktJ16_copyOf_3_1 : List UInt8 := dkwJ16_copyOf_3_1 ++ []
def dkwJ16_copyOf_3_0 : List UInt8 := [44, 18, 110, 166, 0, 10, 27, 189, 0, 2, 167, 0, 14, 44, 182, 0, 90, 27, 184, 0, 95, 192, 0, 110]
abbrev dktJ16_copyOf_3_0 : List UInt8 := dkwJ16_copyOf_3_0 ++ dktJ16_copyOf_3_1
theorem dksJ16_copyOf_3_0 : bcJ16_copyOf_3.data.toList.drop 0 = dktJ16_copyOf_3_0 := by decide +kernel
theorem dksJ16_copyOf_3_1 : bcJ16_copyOf_3.data.toList.drop 24 = dktJ16_copyOf_3_1 := dk_seg dksJ16_copyOf_3_0 24 rfl rfl
theorem dJ16_copyOf_3_0 : decode bcJ16_copyOf_3 0 = .ok (.aload_n 2, 1) := dk_44 (dk_at dksJ16_copyOf_3_0 0 rfl rfl)
theorem dJ16_copyOf_3_1 : decode bcJ16_copyOf_3 1 = .ok (.ldc 110, 2) := dk_18 110 (dk_at dksJ16_copyOf_3_0 1 rfl rfl)
theorem dJ16_copyOf_3_3 : decode bcJ16_copyOf_3 3 = .ok (.if_acmp .ne 10, 3) := dk_166 0 10 (dk_at dksJ16_copyOf_3_0 3 rfl rfl)
theorem dJ16_copyOf_3_6 : decode bcJ16_copyOf_3 6 = .ok (.iload_n 1, 1) := dk_27 (dk_at dksJ16_copyOf_3_0 6 rfl rfl)
theorem dJ16_copyOf_3_7 : decode bcJ16_copyOf_3 7 = .ok (.anewarray 2, 3) := dk_189 0 2 (dk_at dksJ16_copyOf_3_0 7 rfl rfl)
theorem dJ16_copyOf_3_10 : decode bcJ16_copyOf_3 10 = .ok (.goto 14, 3) := dk_167 0 14 (dk_at dksJ16_copyOf_3_0 10 rfl rfl)
theorem dJ16_copyOf_3_13 : decode bcJ16_copyOf_3 13 = .ok (.aload_n 2, 1) := dk_44 (dk_at dksJ16_copyOf_3_0 13 rfl rfl)
theorem dJ16_copyOf_3_14 : decode bcJ16_copyOf_3 14 = .ok (.invokevirtual 90, 3) := dk_182 0 90 (dk_at dksJ16_copyOf_3_0 14 rfl rfl)
theorem dJ16_copyOf_3_17 : decode bcJ16_copyOf_3 17 = .ok (.iload_n 1, 1) := dk_27 (dk_at dksJ16_copyOf_3_0 17 rfl rfl)
theorem dJ16_copyOf_3_18 : decode bcJ16_copyOf_3 18 = .ok (.invokestatic 95, 3) := dk_184 0 95 (dk_at dksJ16_copyOf_3_0 18 rfl rfl)
theorem dJ16_copyOf_3_21 : decode bcJ16_copyOf_3 21 = .ok (.checkcast 110, 3) := dk_192 0 110 (dk_at dksJ16_copyOf_3_0 21 rfl rfl)
theorem dJ16_copyOf_3_24 : decode bcJ16_copyOf_3 24 = .ok (.astore_n 3, 1) := dk_78 (dk_at dksJ16_copyOf_3_1 0 rfl rfl)
theorem dJ16_copyOf_3_25 : decode bcJ16_copyOf_3 25 = .ok (.aload_n 0, 1) := dk_42 (dk_at dksJ16_copyOf_3_1 1 rfl rfl)
theorem dJ16_copyOf_3_26 : decode bcJ16_copyOf_3 26 = .ok (.iconst 0, 1) := dk_3 (dk_at dksJ16_copyOf_3_1 2 rfl rfl)
theorem dJ16_copyOf_3_27 : decode bcJ16_copyOf_3 27 = .ok (.aload_n 3, 1) := dk_45 (dk_at dksJ16_copyOf_3_1 3 rfl rfl)
theorem dJ16_copyOf_3_28 : decode bcJ16_copyOf_3 28 = .ok (.iconst 0, 1) := dk_3 (dk_at dksJ16_copyOf_3_1 4 rfl rfl)
theorem dJ16_copyOf_3_29 : decode bcJ16_copyOf_3 29 = .ok (.aload_n 0, 1) := dk_42 (dk_at dksJ16_copyOf_3_1 5 rfl rfl)
theorem dJ16_copyOf_3_30 : decode bcJ16_copyOf_3 30 = .ok (.arraylength, 1) := dk_190 (dk_at dksJ16_copyOf_3_1 6 rfl rfl)
theorem dJ16_copyOf_3_31 : decode bcJ16_copyOf_3 31 = .ok (.iload_n 1, 1) := dk_27 (dk_at dksJ16_copyOf_3_1 7 rfl rfl)
theorem dJ16_copyOf_3_32 : decode bcJ16_copyOf_3 32 = .ok (.invokestatic 304, 3) := dk_184 1 48 (dk_at dksJ16_copyOf_3_1 8 rfl rfl)
theorem dJ16_copyOf_3_35 : decode bcJ16_copyOf_3 35 = .ok (.invokestatic 150, 3) := dk_184 0 150 (dk_at dksJ16_copyOf_3_1 11 rfl rfl)
theorem dJ16_copyOf_3_38 : decode bcJ16_copyOf_3 38 = .ok (.aload_n 3, 1) := dk_45 (dk_at dksJ16_copyOf_3_1 14 rfl rfl)
theorem dJ16_copyOf_3_39 : decode bcJ16_copyOf_3 39 = .ok (.areturn, 1) := dk_176 (dk_at dksJ16_copyOf_3_1 15 rfl rfl)
abbrev SJ16_copyOf_3 (pc : Nat) (i : xI) : Prop := Snd "java/util/Arrays" "copyOf" prog_49_method_120_code 4 (Option.some (Jvm.ClassFile.FieldType.array (Jvm.ClassFile.FieldType.object "java/lang/Object"))) [] pc i
theorem oJ16_copyOf_3_0 : SJ16_copyOf_3 0 (i_aload 2 1) := snd_aload_n dJ16_copyOf_3_0 rfl
theorem oJ16_copyOf_3_1 : SJ16_copyOf_3 1 (i_const (.ref 23) 3) := snd_mirror dJ16_copyOf_3_1 q880
theorem oJ16_copyOf_3_3 : SJ16_copyOf_3 3 (i_acmp false 13 6) := snd_acmp_ne dJ16_copyOf_3_3 (by decide)
theorem oJ16_copyOf_3_6 : SJ16_copyOf_3 6 (i_iload 1 7) := snd_iload_n dJ16_copyOf_3_6 rfl
theorem oJ16_copyOf_3_7 : SJ16_copyOf_3 7 (i_newa 4 (.inr (.inr (fun _ => none))) 10) := snd_anewa dJ16_copyOf_3_7 (by decide) rfl q881 (fun _ _ _ h => h.2.2.1.1)
theorem oJ16_copyOf_3_10 : SJ16_copyOf_3 10 (i_goto 24) := snd_goto dJ16_copyOf_3_10 (by decide)
theorem oJ16_copyOf_3_13 : SJ16_copyOf_3 13 (i_aload 2 14) := snd_aload_n dJ16_copyOf_3_13 rfl
theorem oJ16_copyOf_3_14 : SJ16_copyOf_3 14 (i_no) := snd_no
theorem oJ16_copyOf_3_17 : SJ16_copyOf_3 17 (i_no) := snd_no
theorem oJ16_copyOf_3_18 : SJ16_copyOf_3 18 (i_no) := snd_no
theorem oJ16_copyOf_3_21 : SJ16_copyOf_3 21 (i_no) := snd_no
theorem oJ16_copyOf_3_24 : SJ16_copyOf_3 24 (i_astore 3 25) := snd_astore_n dJ16_copyOf_3_24 rfl (by decide)
theorem oJ16_copyOf_3_25 : SJ16_copyOf_3 25 (i_aload 0 26) := snd_aload_n dJ16_copyOf_3_25 rfl
theorem oJ16_copyOf_3_26 : SJ16_copyOf_3 26 (i_const (.int (nI 0)) 27) := snd_iconst dJ16_copyOf_3_26 (by decide)
theorem oJ16_copyOf_3_27 : SJ16_copyOf_3 27 (i_aload 3 28) := snd_aload_n dJ16_copyOf_3_27 rfl
theorem oJ16_copyOf_3_28 : SJ16_copyOf_3 28 (i_const (.int (nI 0)) 29) := snd_iconst dJ16_copyOf_3_28 (by decide)
theorem oJ16_copyOf_3_29 : SJ16_copyOf_3 29 (i_aload 0 30) := snd_aload_n dJ16_copyOf_3_29 rfl
theorem oJ16_copyOf_3_30 : SJ16_copyOf_3 30 (i_len 31) := snd_len dJ16_copyOf_3_30
theorem oJ16_copyOf_3_31 : SJ16_copyOf_3 31 (i_iload 1 32) := snd_iload_n dJ16_copyOf_3_31 rfl
theorem oJ16_copyOf_3_32 : SJ16_copyOf_3 32 (i_cs 63 2 35) := snd_cs rfl infJ7_min (by decide) (xSm_S dJ16_copyOf_3_32 q718 q478 q139 q479 pdJ7_min)
theorem oJ16_copyOf_3_35 : SJ16_copyOf_3 35 (i_cpq [22, 6, 15, 16, 17, 18, 19] 38) := snd_cpq dJ16_copyOf_3_35 q719 q721 q720 q150 okca
theorem oJ16_copyOf_3_38 : SJ16_copyOf_3 38 (i_aload 3 39) := snd_aload_n dJ16_copyOf_3_38 rfl
theorem oJ16_copyOf_3_39 : SJ16_copyOf_3 39 (i_aret) := snd_aret dJ16_copyOf_3_39 rfl (Or.inr ⟨_, rfl⟩)
theorem okJ16_copyOf_3 : ∀ q ∈ cJ16_copyOf_3, SJ16_copyOf_3 q.1 q.2 := List.forall_mem_cons.mpr ⟨oJ16_copyOf_3_0, List.forall_mem_cons.mpr ⟨oJ16_copyOf_3_1, List.forall_mem_cons.mpr ⟨oJ16_copyOf_3_3, List.forall_mem_cons.mpr ⟨oJ16_copyOf_3_6, List.forall_mem_cons.mpr ⟨oJ16_copyOf_3_7, List.forall_mem_cons.mpr ⟨oJ16_copyOf_3_10, List.forall_mem_cons.mpr ⟨oJ16_copyOf_3_13, List.forall_mem_cons.mpr ⟨oJ16_copyOf_3_14, List.forall_mem_cons.mpr ⟨oJ16_copyOf_3_17, List.forall_mem_cons.mpr ⟨oJ16_copyOf_3_18, List.forall_mem_cons.mpr ⟨oJ16_copyOf_3_21, List.forall_mem_cons.mpr ⟨oJ16_copyOf_3_24, List.forall_mem_cons.mpr ⟨oJ16_copyOf_3_25, List.forall_mem_cons.mpr ⟨oJ16_copyOf_3_26, List.forall_mem_cons.mpr ⟨oJ16_copyOf_3_27, List.forall_mem_cons.mpr ⟨oJ16_copyOf_3_28, List.forall_mem_cons.mpr ⟨oJ16_copyOf_3_29, List.forall_mem_cons.mpr ⟨oJ16_copyOf_3_30, List.forall_mem_cons.mpr ⟨oJ16_copyOf_3_31, List.forall_mem_cons.mpr ⟨oJ16_copyOf_3_32, List.forall_mem_cons.mpr ⟨oJ16_copyOf_3_35, List.forall_mem_cons.mpr ⟨oJ16_copyOf_3_38, List.forall_mem_cons.mpr ⟨oJ16_copyOf_3_39, fun _ h => absurd h List.not_mem_nil⟩⟩⟩⟩⟩⟩⟩⟩⟩⟩⟩⟩⟩⟩⟩⟩⟩⟩⟩⟩⟩⟩⟩
def dkwJ17_bitCount_2 : List UInt8 := [26, 16, 63, 126, 172]
abbrev dktJ17_bitCount_2 : List UInt8 := dkwJ17_bitCount_2 ++ []
def dkwJ17_bitCount_1 : List UInt8 := [26, 26, 7, 124, 96, 19, 1, 11, 126, 59, 26, 26, 16, 8, 124, 96, 59, 26, 26, 16, 16, 124, 96, 59]
abbrev dktJ17_bitCount_1 : List UInt8 := dkwJ17_bitCount_1 ++ dktJ17_bitCount_2
def dkwJ17_bitCount_0 : List UInt8 := [26, 26, 4, 124, 19, 1, 9, 126, 100, 59, 26, 19, 1, 10, 126, 26, 5, 124, 19, 1, 10, 126, 96, 59]
abbrev dktJ17_bitCount_0 : List UInt8 := dkwJ17_bitCount_0 ++ dktJ17_bitCount_1
theorem dksJ17_bitCount_0 : bcJ17_bitCount.data.toList.drop 0 = dktJ17_bitCount_0 := by decide +kernel
theorem dksJ17_bitCount_1 : bcJ17_bitCount.data.toList.drop 24 = dktJ17_bitCount_1 := dk_seg dksJ17_bitCount_0 24 rfl rfl
theorem dksJ17_bitCount_2 : bcJ17_bitCount.data.toList.drop 48 = dktJ17_bitCount_2 := dk_seg dksJ17_bitCount_1 24 rfl rfl
theorem dJ17_bitCount_0 : decode bcJ17_bitCount 0 = .ok (.iload_n 0, 1) := dk_26 (dk_at dksJ17_bitCount_0 0 rfl rfl)
theorem dJ17_bitCount_1 : decode bcJ17_bitCount 1 = .ok (.iload_n 0, 1) := dk_26 (dk_at dksJ17_bitCount_0 1 rfl rfl)
theorem dJ17_bitCount_2 : decode bcJ17_bitCount 2 = .ok (.iconst 1, 1) := dk_4 (dk_at dksJ17_bitCount_0 2 rfl rfl)
theorem dJ17_bitCount_3 : decode bcJ17_bitCount 3 = .ok (.iushr, 1) := dk_124 (dk_at dksJ17_bitCount_0 3 rfl rfl)
theorem dJ17_bitCount_4 : decode bcJ17_bitCount 4 = .ok (.ldc_w 265, 3) := dk_19 1 9 (dk_at dksJ17_bitCount_0 4 rfl rfl)
theorem dJ17_bitCount_7 : decode bcJ17_bitCount 7 = .ok (.iand, 1) := dk_126 (dk_at dksJ17_bitCount_0 7 rfl rfl)
theorem dJ17_bitCount_8 : decode bcJ17_bitCount 8 = .ok (.isub, 1) := dk_100 (dk_at dksJ17_bitCount_0 8 rfl rfl)
theorem dJ17_bitCount_9 : decode bcJ17_bitCount 9 = .ok (.istore_n 0, 1) := dk_59 (dk_at dksJ17_bitCount_0 9 rfl rfl)
theorem dJ17_bitCount_10 : decode bcJ17_bitCount 10 = .ok (.iload_n 0, 1) := dk_26 (dk_at dksJ17_bitCount_0 10 rfl rfl)
theorem dJ17_bitCount_11 : decode bcJ17_bitCount 11 = .ok (.ldc_w 266, 3) := dk_19 1 10 (dk_at dksJ17_bitCount_0 11 rfl rfl)
theorem dJ17_bitCount_14 : decode bcJ17_bitCount 14 = .ok (.iand, 1) := dk_126 (dk_at dksJ17_bitCount_0 14 rfl rfl)
theorem dJ17_bitCount_15 : decode bcJ17_bitCount 15 = .ok (.iload_n 0, 1) := dk_26 (dk_at dksJ17_bitCount_0 15 rfl rfl)
theorem dJ17_bitCount_16 : decode bcJ17_bitCount 16 = .ok (.iconst 2, 1) := dk_5 (dk_at dksJ17_bitCount_0 16 rfl rfl)
theorem dJ17_bitCount_17 : decode bcJ17_bitCount 17 = .ok (.iushr, 1) := dk_124 (dk_at dksJ17_bitCount_0 17 rfl rfl)
theorem dJ17_bitCount_18 : decode bcJ17_bitCount 18 = .ok (.ldc_w 266, 3) := dk_19 1 10 (dk_at dksJ17_bitCount_0 18 rfl rfl)
theorem dJ17_bitCount_21 : decode bcJ17_bitCount 21 = .ok (.iand, 1) := dk_126 (dk_at dksJ17_bitCount_0 21 rfl rfl)
theorem dJ17_bitCount_22 : decode bcJ17_bitCount 22 = .ok (.iadd, 1) := dk_96 (dk_at dksJ17_bitCount_0 22 rfl rfl)
theorem dJ17_bitCount_23 : decode bcJ17_bitCount 23 = .ok (.istore_n 0, 1) := dk_59 (dk_at dksJ17_bitCount_0 23 rfl rfl)
theorem dJ17_bitCount_24 : decode bcJ17_bitCount 24 = .ok (.iload_n 0, 1) := dk_26 (dk_at dksJ17_bitCount_1 0 rfl rfl)
theorem dJ17_bitCount_25 : decode bcJ17_bitCount 25 = .ok (.iload_n 0, 1) := dk_26 (dk_at dksJ17_bitCount_1 1 rfl rfl)
theorem dJ17_bitCount_26 : decode bcJ17_bitCount 26 = .ok (.iconst 4, 1) := dk_7 (dk_at dksJ17_bitCount_1 2 rfl rfl)
theorem dJ17_bitCount_27 : decode bcJ17_bitCount 27 = .ok (.iushr, 1) := dk_124 (dk_at dksJ17_bitCount_1 3 rfl rfl)
theorem dJ17_bitCount_28 : decode bcJ17_bitCount 28 = .ok (.iadd, 1) := dk_96 (dk_at dksJ17_bitCount_1 4 rfl rfl)
theorem dJ17_bitCount_29 : decode bcJ17_bitCount 29 = .ok (.ldc_w 267, 3) := dk_19 1 11 (dk_at dksJ17_bitCount_1 5 rfl rfl)
theorem dJ17_bitCount_32 : decode bcJ17_bitCount 32 = .ok (.iand, 1) := dk_126 (dk_at dksJ17_bitCount_1 8 rfl rfl)
theorem dJ17_bitCount_33 : decode bcJ17_bitCount 33 = .ok (.istore_n 0, 1) := dk_59 (dk_at dksJ17_bitCount_1 9 rfl rfl)
theorem dJ17_bitCount_34 : decode bcJ17_bitCount 34 = .ok (.iload_n 0, 1) := dk_26 (dk_at dksJ17_bitCount_1 10 rfl rfl)
theorem dJ17_bitCount_35 : decode bcJ17_bitCount 35 = .ok (.iload_n 0, 1) := dk_26 (dk_at dksJ17_bitCount_1 11 rfl rfl)
theorem dJ17_bitCount_36 : decode bcJ17_bitCount 36 = .ok (.bipush 8, 2) := dk_16 8 (dk_at dksJ17_bitCount_1 12 rfl rfl)
theorem dJ17_bitCount_38 : decode bcJ17_bitCount 38 = .ok (.iushr, 1) := dk_124 (dk_at dksJ17_bitCount_1 14 rfl rfl)
theorem dJ17_bitCount_39 : decode bcJ17_bitCount 39 = .ok (.iadd, 1) := dk_96 (dk_at dksJ17_bitCount_1 15 rfl rfl)
theorem dJ17_bitCount_40 : decode bcJ17_bitCount 40 = .ok (.istore_n 0, 1) := dk_59 (dk_at dksJ17_bitCount_1 16 rfl rfl)
theorem dJ17_bitCount_41 : decode bcJ17_bitCount 41 = .ok (.iload_n 0, 1) := dk_26 (dk_at dksJ17_bitCount_1 17 rfl rfl)
theorem dJ17_bitCount_42 : decode bcJ17_bitCount 42 = .ok (.iload_n 0, 1) := dk_26 (dk_at dksJ17_bitCount_1 18 rfl rfl)
theorem dJ17_bitCount_43 : decode bcJ17_bitCount 43 = .ok (.bipush 16, 2) := dk_16 16 (dk_at dksJ17_bitCount_1 19 rfl rfl)
theorem dJ17_bitCount_45 : decode bcJ17_bitCount 45 = .ok (.iushr, 1) := dk_124 (dk_at dksJ17_bitCount_1 21 rfl rfl)
theorem dJ17_bitCount_46 : decode bcJ17_bitCount 46 = .ok (.iadd, 1) := dk_96 (dk_at dksJ17_bitCount_1 22 rfl rfl)
theorem dJ17_bitCount_47 : decode bcJ17_bitCount 47 = .ok (.istore_n 0, 1) := dk_59 (dk_at dksJ17_bitCount_1 23 rfl rfl)
theorem dJ17_bitCount_48 : decode bcJ17_bitCount 48 = .ok (.iload_n 0, 1) := dk_26 (dk_at dksJ17_bitCount_2 0 rfl rfl)
theorem dJ17_bitCount_49 : decode bcJ17_bitCount 49 = .ok (.bipush 63, 2) := dk_16 63 (dk_at dksJ17_bitCount_2 1 rfl rfl)
theorem dJ17_bitCount_51 : decode bcJ17_bitCount 51 = .ok (.iand, 1) := dk_126 (dk_at dksJ17_bitCount_2 3 rfl rfl)
theorem dJ17_bitCount_52 : decode bcJ17_bitCount 52 = .ok (.ireturn, 1) := dk_172 (dk_at dksJ17_bitCount_2 4 rfl rfl)
abbrev SJ17_bitCount (pc : Nat) (i : xI) : Prop := Snd "java/lang/Integer" "bitCount" prog_34_method_49_code 1 (Option.some Jvm.ClassFile.FieldType.int) [] pc i
theorem oJ17_bitCount_0 : SJ17_bitCount 0 (i_iload 0 1) := snd_iload_n dJ17_bitCount_0 rfl
theorem oJ17_bitCount_1 : SJ17_bitCount 1 (i_iload 0 2) := snd_iload_n dJ17_bitCount_1 rfl
theorem oJ17_bitCount_2 : SJ17_bitCount 2 (i_const (.int (nI 1)) 3) := snd_iconst dJ17_bitCount_2 (by decide)
theorem oJ17_bitCount_3 : SJ17_bitCount 3 (i_ii (fun x y => (x.toUInt32 >>> (y.toUInt32 &&& Int32.toUInt32 31)).toInt32) 4) := snd_iushr dJ17_bitCount_3
theorem oJ17_bitCount_4 : SJ17_bitCount 4 (i_const (.int (nI 1431655765)) 7) := snd_ldc_w dJ17_bitCount_4 q1366
theorem oJ17_bitCount_7 : SJ17_bitCount 7 (i_ii (fun x y => x &&& y) 8) := snd_iand dJ17_bitCount_7
theorem oJ17_bitCount_8 : SJ17_bitCount 8 (i_ii (fun x y => x - y) 9) := snd_isub dJ17_bitCount_8
theorem oJ17_bitCount_9 : SJ17_bitCount 9 (i_istore 0 10) := snd_istore_n dJ17_bitCount_9 rfl (by decide)
theorem oJ17_bitCount_10 : SJ17_bitCount 10 (i_iload 0 11) := snd_iload_n dJ17_bitCount_10 rfl
theorem oJ17_bitCount_11 : SJ17_bitCount 11 (i_const (.int (nI 858993459)) 14) := snd_ldc_w dJ17_bitCount_11 q1367
theorem oJ17_bitCount_14 : SJ17_bitCount 14 (i_ii (fun x y => x &&& y) 15) := snd_iand dJ17_bitCount_14
theorem oJ17_bitCount_15 : SJ17_bitCount 15 (i_iload 0 16) := snd_iload_n dJ17_bitCount_15 rfl
theorem oJ17_bitCount_16 : SJ17_bitCount 16 (i_const (.int (nI 2)) 17) := snd_iconst dJ17_bitCount_16 (by decide)
theorem oJ17_bitCount_17 : SJ17_bitCount 17 (i_ii (fun x y => (x.toUInt32 >>> (y.toUInt32 &&& Int32.toUInt32 31)).toInt32) 18) := snd_iushr dJ17_bitCount_17
theorem oJ17_bitCount_18 : SJ17_bitCount 18 (i_const (.int (nI 858993459)) 21) := snd_ldc_w dJ17_bitCount_18 q1367
theorem oJ17_bitCount_21 : SJ17_bitCount 21 (i_ii (fun x y => x &&& y) 22) := snd_iand dJ17_bitCount_21
theorem oJ17_bitCount_22 : SJ17_bitCount 22 (i_ii (fun x y => x + y) 23) := snd_iadd dJ17_bitCount_22
theorem oJ17_bitCount_23 : SJ17_bitCount 23 (i_istore 0 24) := snd_istore_n dJ17_bitCount_23 rfl (by decide)
theorem oJ17_bitCount_24 : SJ17_bitCount 24 (i_iload 0 25) := snd_iload_n dJ17_bitCount_24 rfl
theorem oJ17_bitCount_25 : SJ17_bitCount 25 (i_iload 0 26) := snd_iload_n dJ17_bitCount_25 rfl
theorem oJ17_bitCount_26 : SJ17_bitCount 26 (i_const (.int (nI 4)) 27) := snd_iconst dJ17_bitCount_26 (by decide)
theorem oJ17_bitCount_27 : SJ17_bitCount 27 (i_ii (fun x y => (x.toUInt32 >>> (y.toUInt32 &&& Int32.toUInt32 31)).toInt32) 28) := snd_iushr dJ17_bitCount_27
theorem oJ17_bitCount_28 : SJ17_bitCount 28 (i_ii (fun x y => x + y) 29) := snd_iadd dJ17_bitCount_28
theorem oJ17_bitCount_29 : SJ17_bitCount 29 (i_const (.int (nI 252645135)) 32) := snd_ldc_w dJ17_bitCount_29 q1368
theorem oJ17_bitCount_32 : SJ17_bitCount 32 (i_ii (fun x y => x &&& y) 33) := snd_iand dJ17_bitCount_32
theorem oJ17_bitCount_33 : SJ17_bitCount 33 (i_istore 0 34) := snd_istore_n dJ17_bitCount_33 rfl (by decide)
theorem oJ17_bitCount_34 : SJ17_bitCount 34 (i_iload 0 35) := snd_iload_n dJ17_bitCount_34 rfl
theorem oJ17_bitCount_35 : SJ17_bitCount 35 (i_iload 0 36) := snd_iload_n dJ17_bitCount_35 rfl
theorem oJ17_bitCount_36 : SJ17_bitCount 36 (i_const (.int (nI 8)) 38) := snd_bipush dJ17_bitCount_36 (by decide)
theorem oJ17_bitCount_38 : SJ17_bitCount 38 (i_ii (fun x y => (x.toUInt32 >>> (y.toUInt32 &&& Int32.toUInt32 31)).toInt32) 39) := snd_iushr dJ17_bitCount_38
theorem oJ17_bitCount_39 : SJ17_bitCount 39 (i_ii (fun x y => x + y) 40) := snd_iadd dJ17_bitCount_39
theorem oJ17_bitCount_40 : SJ17_bitCount 40 (i_istore 0 41) := snd_istore_n dJ17_bitCount_40 rfl (by decide)
theorem oJ17_bitCount_41 : SJ17_bitCount 41 (i_iload 0 42) := snd_iload_n dJ17_bitCount_41 rfl
theorem oJ17_bitCount_42 : SJ17_bitCount 42 (i_iload 0 43) := snd_iload_n dJ17_bitCount_42 rfl
theorem oJ17_bitCount_43 : SJ17_bitCount 43 (i_const (.int (nI 16)) 45) := snd_bipush dJ17_bitCount_43 (by decide)
theorem oJ17_bitCount_45 : SJ17_bitCount 45 (i_ii (fun x y => (x.toUInt32 >>> (y.toUInt32 &&& Int32.toUInt32 31)).toInt32) 46) := snd_iushr dJ17_bitCount_45
theorem oJ17_bitCount_46 : SJ17_bitCount 46 (i_ii (fun x y => x + y) 47) := snd_iadd dJ17_bitCount_46
theorem oJ17_bitCount_47 : SJ17_bitCount 47 (i_istore 0 48) := snd_istore_n dJ17_bitCount_47 rfl (by decide)
theorem oJ17_bitCount_48 : SJ17_bitCount 48 (i_iload 0 49) := snd_iload_n dJ17_bitCount_48 rfl
theorem oJ17_bitCount_49 : SJ17_bitCount 49 (i_const (.int (nI 63)) 51) := snd_bipush dJ17_bitCount_49 (by decide)
theorem oJ17_bitCount_51 : SJ17_bitCount 51 (i_ii (fun x y => x &&& y) 52) := snd_iand dJ17_bitCount_51
theorem oJ17_bitCount_52 : SJ17_bitCount 52 (i_iret) := snd_iret dJ17_bitCount_52 rfl
theorem okJ17_bitCount : ∀ q ∈ cJ17_bitCount, SJ17_bitCount q.1 q.2 := List.forall_mem_cons.mpr ⟨oJ17_bitCount_0, List.forall_mem_cons.mpr ⟨oJ17_bitCount_1, List.forall_mem_cons.mpr ⟨oJ17_bitCount_2, List.forall_mem_cons.mpr ⟨oJ17_bitCount_3, List.forall_mem_cons.mpr ⟨oJ17_bitCount_4, List.forall_mem_cons.mpr ⟨oJ17_bitCount_7, List.forall_mem_cons.mpr ⟨oJ17_bitCount_8, List.forall_mem_cons.mpr ⟨oJ17_bitCount_9, List.forall_mem_cons.mpr ⟨oJ17_bitCount_10, List.forall_mem_cons.mpr ⟨oJ17_bitCount_11, List.forall_mem_cons.mpr ⟨oJ17_bitCount_14, List.forall_mem_cons.mpr ⟨oJ17_bitCount_15, List.forall_mem_cons.mpr ⟨oJ17_bitCount_16, List.forall_mem_cons.mpr ⟨oJ17_bitCount_17, List.forall_mem_cons.mpr ⟨oJ17_bitCount_18, List.forall_mem_cons.mpr ⟨oJ17_bitCount_21, List.forall_mem_cons.mpr ⟨oJ17_bitCount_22, List.forall_mem_cons.mpr ⟨oJ17_bitCount_23, List.forall_mem_cons.mpr ⟨oJ17_bitCount_24, List.forall_mem_cons.mpr ⟨oJ17_bitCount_25, List.forall_mem_cons.mpr ⟨oJ17_bitCount_26, List.forall_mem_cons.mpr ⟨oJ17_bitCount_27, List.forall_mem_cons.mpr ⟨oJ17_bitCount_28, List.forall_mem_cons.mpr ⟨oJ17_bitCount_29, List.forall_mem_cons.mpr ⟨oJ17_bitCount_32, List.forall_mem_cons.mpr ⟨oJ17_bitCount_33, List.forall_mem_cons.mpr ⟨oJ17_bitCount_34, List.forall_mem_cons.mpr ⟨oJ17_bitCount_35, List.forall_mem_cons.mpr ⟨oJ17_bitCount_36, List.forall_mem_cons.mpr ⟨oJ17_bitCount_38, List.forall_mem_cons.mpr ⟨oJ17_bitCount_39, List.forall_mem_cons.mpr ⟨oJ17_bitCount_40, List.forall_mem_cons.mpr ⟨oJ17_bitCount_41, List.forall_mem_cons.mpr ⟨oJ17_bitCount_42, List.forall_mem_cons.mpr ⟨oJ17_bitCount_43, List.forall_mem_cons.mpr ⟨oJ17_bitCount_45, List.forall_mem_cons.mpr ⟨oJ17_bitCount_46, List.forall_mem_cons.mpr ⟨oJ17_bitCount_47, List.forall_mem_cons.mpr ⟨oJ17_bitCount_48, List.forall_mem_cons.mpr ⟨oJ17_bitCount_49, List.forall_mem_cons.mpr ⟨oJ17_bitCount_51, List.forall_mem_cons.mpr ⟨oJ17_bitCount_52, fun _ h => absurd h List.not_mem_nil⟩⟩⟩⟩⟩⟩⟩⟩⟩⟩⟩⟩⟩⟩⟩⟩⟩⟩⟩⟩⟩⟩⟩⟩⟩⟩⟩⟩⟩⟩⟩⟩⟩⟩⟩⟩⟩⟩⟩⟩⟩⟩
def dkwJ2_init_2 : List UInt8 := [182, 0, 25, 27, 182, 0, 29, 182, 0, 32, 183, 0, 36, 191, 177]
abbrev dktJ2_init_2 : List UInt8 := dkwJ2_init_2 ++ []
def dkwJ2_init_1 : List UInt8 := [178, 0, 15, 181, 0, 9, 167, 0, 30, 187, 0, 18, 89, 187, 0, 20, 89, 183, 0, 22, 18, 23]
abbrev dktJ2_init_1 : List UInt8 := dkwJ2_init_1 ++ dktJ2_init_2
def dkwJ2_init_0 : List UInt8 := [42, 183, 0, 1, 27, 158, 0, 14, 42, 27, 189, 0, 7, 181, 0, 9, 167, 0, 44, 27, 154, 0, 13, 42]
abbrev dktJ2_init_0 : List UInt8 := dkwJ2_init_0 ++ dktJ2_init_1
theorem dksJ2_init_0 : bcJ2_init.data.toList.drop 0 = dktJ2_init_0 := by decide +kernel
theorem dksJ2_init_1 : bcJ2_init.data.toList.drop 24 = dktJ2_init_1 := dk_seg dksJ2_init_0 24 rfl rfl
theorem dksJ2_init_2 : bcJ2_init.data.toList.drop 46 = dktJ2_init_2 := dk_seg dksJ2_init_1 22 rfl rfl
theorem dJ2_init_0 : decode bcJ2_init 0 = .ok (.aload_n 0, 1) := dk_42 (dk_at dksJ2_init_0 0 rfl rfl)
theorem dJ2_init_1 : decode bcJ2_init 1 = .ok (.invokespecial 1, 3) := dk_183 0 1 (dk_at dksJ2_init_0 1 rfl rfl)
theorem dJ2_init_4 : decode bcJ2_init 4 = .ok (.iload_n 1, 1) := dk_27 (dk_at dksJ2_init_0 4 rfl rfl)
theorem dJ2_init_5 : decode bcJ2_init 5 = .ok (.ifCond .le 14, 3) := dk_158 0 14 (dk_at dksJ2_init_0 5 rfl rfl)
theorem dJ2_init_8 : decode bcJ2_init 8 = .ok (.aload_n 0, 1) := dk_42 (dk_at dksJ2_init_0 8 rfl rfl)
theorem dJ2_init_9 : decode bcJ2_init 9 = .ok (.iload_n 1, 1) := dk_27 (dk_at dksJ2_init_0 9 rfl rfl)
theorem dJ2_init_10 : decode bcJ2_init 10 = .ok (.anewarray 7, 3) := dk_189 0 7 (dk_at dksJ2_init_0 10 rfl rfl)
theorem dJ2_init_13 : decode bcJ2_init 13 = .ok (.putfield 9, 3) := dk_181 0 9 (dk_at dksJ2_init_0 13 rfl rfl)
theorem dJ2_init_16 : decode bcJ2_init 16 = .ok (.goto 44, 3) := dk_167 0 44 (dk_at dksJ2_init_0 16 rfl rfl)
theorem dJ2_init_19 : decode bcJ2_init 19 = .ok (.iload_n 1, 1) := dk_27 (dk_at dksJ2_init_0 19 rfl rfl)
theorem dJ2_init_20 : decode bcJ2_init 20 = .ok (.ifCond .ne 13, 3) := dk_154 0 13 (dk_at dksJ2_init_0 20 rfl rfl)
theorem dJ2_init_23 : decode bcJ2_init 23 = .ok (.aload_n 0, 1) := dk_42 (dk_at dksJ2_init_0 23 rfl rfl)
theorem dJ2_init_24 : decode bcJ2_init 24 = .ok (.getstatic 15, 3) := dk_178 0 15 (dk_at dksJ2_init_1 0 rfl rfl)
theorem dJ2_init_27 : decode bcJ2_init 27 = .ok (.putfield 9, 3) := dk_181 0 9 (dk_at dksJ2_init_1 3 rfl rfl)
theorem dJ2_init_30 : decode bcJ2_init 30 = .ok (.goto 30, 3) := dk_167 0 30 (dk_at dksJ2_init_1 6 rfl rfl)
theorem dJ2_init_33 : decode bcJ2_init 33 = .ok (.new 18, 3) := dk_187 0 18 (dk_at dksJ2_init_1 9 rfl rfl)
theorem dJ2_init_36 : decode bcJ2_init 36 = .ok (.dup, 1) := dk_89 (dk_at dksJ2_init_1 12 rfl rfl)
theorem dJ2_init_37 : decode bcJ2_init 37 = .ok (.new 20, 3) := dk_187 0 20 (dk_at dksJ2_init_1 13 rfl rfl)
theorem dJ2_init_40 : decode bcJ2_init 40 = .ok (.dup, 1) := dk_89 (dk_at dksJ2_init_1 16 rfl rfl)
theorem dJ2_init_41 : decode bcJ2_init 41 = .ok (.invokespecial 22, 3) := dk_183 0 22 (dk_at dksJ2_init_1 17 rfl rfl)
theorem dJ2_init_44 : decode bcJ2_init 44 = .ok (.ldc 23, 2) := dk_18 23 (dk_at dksJ2_init_1 20 rfl rfl)
theorem dJ2_init_46 : decode bcJ2_init 46 = .ok (.invokevirtual 25, 3) := dk_182 0 25 (dk_at dksJ2_init_2 0 rfl rfl)
theorem dJ2_init_49 : decode bcJ2_init 49 = .ok (.iload_n 1, 1) := dk_27 (dk_at dksJ2_init_2 3 rfl rfl)
theorem dJ2_init_50 : decode bcJ2_init 50 = .ok (.invokevirtual 29, 3) := dk_182 0 29 (dk_at dksJ2_init_2 4 rfl rfl)
theorem dJ2_init_53 : decode bcJ2_init 53 = .ok (.invokevirtual 32, 3) := dk_182 0 32 (dk_at dksJ2_init_2 7 rfl rfl)
theorem dJ2_init_56 : decode bcJ2_init 56 = .ok (.invokespecial 36, 3) := dk_183 0 36 (dk_at dksJ2_init_2 10 rfl rfl)
theorem dJ2_init_59 : decode bcJ2_init 59 = .ok (.athrow, 1) := dk_191 (dk_at dksJ2_init_2 13 rfl rfl)
theorem dJ2_init_60 : decode bcJ2_init 60 = .ok (.return_, 1) := dk_177 (dk_at dksJ2_init_2 14 rfl rfl)
abbrev SJ2_init (pc : Nat) (i : xI) : Prop := Snd "java/util/ArrayList" "<init>" prog_48_method_1_code 2 (Option.none : Option Jvm.ClassFile.FieldType) [] pc i
theorem oJ2_init_0 : SJ2_init 0 (i_aload 0 1) := snd_aload_n dJ2_init_0 rfl
theorem oJ2_init_1 : SJ2_init 1 (i_ci [21] 1 0 4) := snd_ci rfl infJ1_init (by decide) (xcls_ok _ (by decide)) (xIm_I dJ2_init_1 rfl q222 q223 q131 q224 pdJ1_init)
theorem oJ2_init_4 : SJ2_init 4 (i_iload 1 5) := snd_iload_n dJ2_init_4 rfl
theorem oJ2_init_5 : SJ2_init 5 (i_if1 (fun x => x ≤ 0) 19 8) := snd_if_le dJ2_init_5 (by decide)
theorem oJ2_init_8 : SJ2_init 8 (i_aload 0 9) := snd_aload_n dJ2_init_8 rfl
theorem oJ2_init_9 : SJ2_init 9 (i_iload 1 10) := snd_iload_n dJ2_init_9 rfl
theorem oJ2_init_10 : SJ2_init 10 (i_newa 4 (.inr (.inr (fun _ => none))) 13) := snd_anewa dJ2_init_10 (by decide) rfl q229 (fun _ _ _ h => h.2.2.1.1)
theorem oJ2_init_13 : SJ2_init 13 (i_putfr 21 1 16) := snd_putfr dJ2_init_13 rfl (by decide) in_J2 tyJ2 tyJ2_ok nmJ2 (Or.inl ⟨rfl, q233⟩) (Or.inl rfl) (Or.inr ⟨_, rfl⟩)
theorem oJ2_init_16 : SJ2_init 16 (i_goto 60) := snd_goto dJ2_init_16 (by decide)
theorem oJ2_init_19 : SJ2_init 19 (i_iload 1 20) := snd_iload_n dJ2_init_19 rfl
theorem oJ2_init_20 : SJ2_init 20 (i_if1 (fun x => ¬ x = 0) 33 23) := snd_if_ne dJ2_init_20 (by decide)
theorem oJ2_init_23 : SJ2_init 23 (i_aload 0 24) := snd_aload_n dJ2_init_23 rfl
theorem oJ2_init_24 : SJ2_init 24 (i_const (.ref 1) 27) := snd_gets dJ2_init_24 xst_EMPTY_ELEMENTDATA q231
theorem oJ2_init_27 : SJ2_init 27 (i_putfr 21 1 30) := snd_putfr dJ2_init_27 rfl (by decide) in_J2 tyJ2 tyJ2_ok nmJ2 (Or.inl ⟨rfl, q233⟩) (Or.inl rfl) (Or.inr ⟨_, rfl⟩)
theorem oJ2_init_30 : SJ2_init 30 (i_goto 60) := snd_goto dJ2_init_30 (by decide)
theorem oJ2_init_33 : SJ2_init 33 (i_no) := snd_no
theorem oJ2_init_36 : SJ2_init 36 (i_dup 37) := snd_dup dJ2_init_36
theorem oJ2_init_37 : SJ2_init 37 (i_no) := snd_no
theorem oJ2_init_40 : SJ2_init 40 (i_dup 41) := snd_dup dJ2_init_40
theorem oJ2_init_41 : SJ2_init 41 (i_no) := snd_no
theorem oJ2_init_44 : SJ2_init 44 (i_no) := snd_no
theorem oJ2_init_46 : SJ2_init 46 (i_no) := snd_no
theorem oJ2_init_49 : SJ2_init 49 (i_no) := snd_no
theorem oJ2_init_50 : SJ2_init 50 (i_no) := snd_no
theorem oJ2_init_53 : SJ2_init 53 (i_no) := snd_no
theorem oJ2_init_56 : SJ2_init 56 (i_no) := snd_no
theorem oJ2_init_59 : SJ2_init 59 (i_no) := snd_no
theorem oJ2_init_60 : SJ2_init 60 (i_vret) := snd_vret dJ2_init_60 rfl
theorem okJ2_init : ∀ q ∈ cJ2_init, SJ2_init q.1 q.2 := List.forall_mem_cons.mpr ⟨oJ2_init_0, List.forall_mem_cons.mpr ⟨oJ2_init_1, List.forall_mem_cons.mpr ⟨oJ2_init_4, List.forall_mem_cons.mpr ⟨oJ2_init_5, List.forall_mem_cons.mpr ⟨oJ2_init_8, List.forall_mem_cons.mpr ⟨oJ2_init_9, List.forall_mem_cons.mpr ⟨oJ2_init_10, List.forall_mem_cons.mpr ⟨oJ2_init_13, List.forall_mem_cons.mpr ⟨oJ2_init_16, List.forall_mem_cons.mpr ⟨oJ2_init_19, List.forall_mem_cons.mpr ⟨oJ2_init_20, List.forall_mem_cons.mpr ⟨oJ2_init_23, List.forall_mem_cons.mpr ⟨oJ2_init_24, List.forall_mem_cons.mpr ⟨oJ2_init_27, List.forall_mem_cons.mpr ⟨oJ2_init_30, List.forall_mem_cons.mpr ⟨oJ2_init_33, List.forall_mem_cons.mpr ⟨oJ2_init_36, List.forall_mem_cons.mpr ⟨oJ2_init_37, List.forall_mem_cons.mpr ⟨oJ2_init_40, List.forall_mem_cons.mpr ⟨oJ2_init_41, List.forall_mem_cons.mpr ⟨oJ2_init_44, List.forall_mem_cons.mpr ⟨oJ2_init_46, List.forall_mem_cons.mpr ⟨oJ2_init_49, List.forall_mem_cons.mpr ⟨oJ2_init_50, List.forall_mem_cons.mpr ⟨oJ2_init_53, List.forall_mem_cons.mpr ⟨oJ2_init_56, List.forall_mem_cons.mpr ⟨oJ2_init_59, List.forall_mem_cons.mpr ⟨oJ2_init_60, fun _ h => absurd h List.not_mem_nil⟩⟩⟩⟩⟩⟩⟩⟩⟩⟩⟩⟩⟩⟩⟩⟩⟩⟩⟩⟩⟩⟩⟩⟩⟩⟩⟩⟩
theorem dJ2_size_0 : decode bcJ2_size 0 = .ok (.aload_n 0, 1) := by decide +kernel
theorem dJ2_size_1 : decode bcJ2_size 1 = .ok (.getfield 48, 3) := by decide +kernel
theorem dJ2_size_4 : decode bcJ2_size 4 = .ok (.ireturn, 1) := by decide +kernel
abbrev SJ2_size (pc : Nat) (i : xI) : Prop := Snd "java/util/ArrayList" "size" prog_48_method_8_code 1 (Option.some Jvm.ClassFile.FieldType.int) [] pc i
theorem oJ2_size_0 : SJ2_size 0 (i_aload 0 1) := snd_aload_n dJ2_size_0 rfl
theorem oJ2_size_1 : SJ2_size 1 (i_getf 21 2 4) := snd_getf dJ2_size_1 rfl (by decide) in_J2 (Or.inl q234) (Or.inl rfl) (by decide)
theorem oJ2_size_4 : SJ2_size 4 (i_iret) := snd_iret dJ2_size_4 rfl
theorem okJ2_size : ∀ q ∈ cJ2_size, SJ2_size q.1 q.2 := List.forall_mem_cons.mpr ⟨oJ2_size_0, List.forall_mem_cons.mpr ⟨oJ2_size_1, List.forall_mem_cons.mpr ⟨oJ2_size_4, fun _ h => absurd h List.not_mem_nil⟩⟩⟩
def dkwJ2_get_0 : List UInt8 := [27, 42, 180, 0, 48, 184, 0, 118, 87, 42, 27, 182, 0, 123, 176]
abbrev dktJ2_get_0 : List UInt8 := dkwJ2_get_0 ++ []
theorem dksJ2_get_0 : bcJ2_get.data.toList.drop 0 = dktJ2_get_0 := by decide +kernel
theorem dJ2_get_0 : decode bcJ2_get 0 = .ok (.iload_n 1, 1) := dk_27 (dk_at dksJ2_get_0 0 rfl rfl)
theorem dJ2_get_1 : decode bcJ2_get 1 = .ok (.aload_n 0, 1) := dk_42 (dk_at dksJ2_get_0 1 rfl rfl)
theorem dJ2_get_2 : decode bcJ2_get 2 = .ok (.getfield 48, 3) := dk_180 0 48 (dk_at dksJ2_get_0 2 rfl rfl)
theorem dJ2_get_5 : decode bcJ2_get 5 = .ok (.invokestatic 118, 3) := dk_184 0 118 (dk_at dksJ2_get_0 5 rfl rfl)
theorem dJ2_get_8 : decode bcJ2_get 8 = .ok (.pop, 1) := dk_87 (dk_at dksJ2_get_0 8 rfl rfl)
theorem dJ2_get_9 : decode bcJ2_get 9 = .ok (.aload_n 0, 1) := dk_42 (dk_at dksJ2_get_0 9 rfl rfl)
theorem dJ2_get_10 : decode bcJ2_get 10 = .ok (.iload_n 1, 1) := dk_27 (dk_at dksJ2_get_0 10 rfl rfl)
theorem dJ2_get_11 : decode bcJ2_get 11 = .ok (.invokevirtual 123, 3) := dk_182 0 123 (dk_at dksJ2_get_0 11 rfl rfl)
theorem dJ2_get_14 : decode bcJ2_get 14 = .ok (.areturn, 1) := dk_176 (dk_at dksJ2_get_0 14 rfl rfl)
abbrev SJ2_get (pc : Nat) (i : xI) : Prop := Snd "java/util/ArrayList" "get" prog_48_method_20_code 2 (Option.some (Jvm.ClassFile.FieldType.object "java/lang/Object")) [] pc i
theorem oJ2_get_0 : SJ2_get 0 (i_iload 1 1) := snd_iload_n dJ2_get_0 rfl
theorem oJ2_get_1 : SJ2_get 1 (i_aload 0 2) := snd_aload_n dJ2_get_1 rfl
theorem oJ2_get_2 : SJ2_get 2 (i_getf 21 2 5) := snd_getf dJ2_get_2 rfl (by decide) in_J2 (Or.inl q234) (Or.inl rfl) (by decide)
theorem oJ2_get_5 : SJ2_get 5 (i_cs 39 2 8) := snd_cs rfl infJ3_checkIndex (by decide) (xSm_S dJ2_get_5 q331 q332 q134 q333 pdJ3_checkIndex)
theorem oJ2_get_8 : SJ2_get 8 (i_pop 9) := snd_pop dJ2_get_8
theorem oJ2_get_9 : SJ2_get 9 (i_aload 0 10) := snd_aload_n dJ2_get_9 rfl
theorem oJ2_get_10 : SJ2_get 10 (i_iload 1 11) := snd_iload_n dJ2_get_10 rfl
theorem oJ2_get_11 : SJ2_get 11 (i_cv 21 34 1 14) := snd_cv rfl infJ2_elementData (by decide) rfl (xVm_V dJ2_get_11 rfl q337 q338 q339 q132 q340 pdJ2_elementData)
theorem oJ2_get_14 : SJ2_get 14 (i_aret) := snd_aret dJ2_get_14 rfl (Or.inl ⟨_, rfl⟩)
theorem okJ2_get : ∀ q ∈ cJ2_get, SJ2_get q.1 q.2 := List.forall_mem_cons.mpr ⟨oJ2_get_0, List.forall_mem_cons.mpr ⟨oJ2_get_1, List.forall_mem_cons.mpr ⟨oJ2_get_2, List.forall_mem_cons.mpr ⟨oJ2_get_5, List.forall_mem_cons.mpr ⟨oJ2_get_8, List.forall_mem_cons.mpr ⟨oJ2_get_9, List.forall_mem_cons.mpr ⟨oJ2_get_10, List.forall_mem_cons.mpr ⟨oJ2_get_11, List.forall_mem_cons.mpr ⟨oJ2_get_14, fun _ h => absurd h List.not_mem_nil⟩⟩⟩⟩⟩⟩⟩⟩⟩
def dkwJ2_elementData_0 : List UInt8 := [42, 180, 0, 9, 27, 50, 176]
abbrev dktJ2_elementData_0 : List UInt8 := dkwJ2_elementData_0 ++ []
theorem dksJ2_elementData_0 : bcJ2_elementData.data.toList.drop 0 = dktJ2_elementData_0 := by decide +kernel
theorem dJ2_elementData_0 : decode bcJ2_elementData 0 = .ok (.aload_n 0, 1) := dk_42 (dk_at dksJ2_elementData_0 0 rfl rfl)
theorem dJ2_elementData_1 : decode bcJ2_elementData 1 = .ok (.getfield 9, 3) := dk_180 0 9 (dk_at dksJ2_elementData_0 1 rfl rfl)
theorem dJ2_elementData_4 : decode bcJ2_elementData 4 = .ok (.iload_n 1, 1) := dk_27 (dk_at dksJ2_elementData_0 4 rfl rfl)
theorem dJ2_elementData_5 : decode bcJ2_elementData 5 = .ok (.aaload, 1) := dk_50 (dk_at dksJ2_elementData_0 5 rfl rfl)
theorem dJ2_elementData_6 : decode bcJ2_elementData 6 = .ok (.areturn, 1) := dk_176 (dk_at dksJ2_elementData_0 6 rfl rfl)
abbrev SJ2_elementData (pc : Nat) (i : xI) : Prop := Snd "java/util/ArrayList" "elementData" prog_48_method_18_code 2 (Option.some (Jvm.ClassFile.FieldType.object "java/lang/Object")) [] pc i
theorem oJ2_elementData_0 : SJ2_elementData 0 (i_aload 0 1) := snd_aload_n dJ2_elementData_0 rfl
theorem oJ2_elementData_1 : SJ2_elementData 1 (i_getf 21 1 4) := snd_getf dJ2_elementData_1 rfl (by decide) in_J2 (Or.inl q233) (Or.inl rfl) (by decide)
theorem oJ2_elementData_4 : SJ2_elementData 4 (i_iload 1 5) := snd_iload_n dJ2_elementData_4 rfl
theorem oJ2_elementData_5 : SJ2_elementData 5 (i_aq 4 6) := snd_aq dJ2_elementData_5 (fun _ => rfl) rfl
theorem oJ2_elementData_6 : SJ2_elementData 6 (i_aret) := snd_aret dJ2_elementData_6 rfl (Or.inl ⟨_, rfl⟩)
theorem okJ2_elementData : ∀ q ∈ cJ2_elementData, SJ2_elementData q.1 q.2 := List.forall_mem_cons.mpr ⟨oJ2_elementData_0, List.forall_mem_cons.mpr ⟨oJ2_elementData_1, List.forall_mem_cons.mpr ⟨oJ2_elementData_4, List.forall_mem_cons.mpr ⟨oJ2_elementData_5, List.forall_mem_cons.mpr ⟨oJ2_elementData_6, fun _ h => absurd h List.not_mem_nil⟩⟩⟩⟩⟩
def dkwJ2_add_1 : List UInt8 := [172]
abbrev dktJ2_add_1 : List UInt8 := dkwJ2_add_1 ++ []
def dkwJ2_add_0 : List UInt8 := [42, 89, 180, 0, 63, 4, 96, 181, 0, 63, 42, 43, 42, 180, 0, 9, 42, 180, 0, 48, 182, 0, 131, 4]
abbrev dktJ2_add_0 : List UInt8 := dkwJ2_add_0 ++ dktJ2_add_1
theorem dksJ2_add_0 : bcJ2_add.data.toList.drop 0 = dktJ2_add_0 := by decide +kernel
theorem dksJ2_add_1 : bcJ2_add.data.toList.drop 24 = dktJ2_add_1 := dk_seg dksJ2_add_0 24 rfl rfl
theorem dJ2_add_0 : decode bcJ2_add 0 = .ok (.aload_n 0, 1) := dk_42 (dk_at dksJ2_add_0 0 rfl rfl)
theorem dJ2_add_1 : decode bcJ2_add 1 = .ok (.dup, 1) := dk_89 (dk_at dksJ2_add_0 1 rfl rfl)
theorem dJ2_add_2 : decode bcJ2_add 2 = .ok (.getfield 63, 3) := dk_180 0 63 (dk_at dksJ2_add_0 2 rfl rfl)
theorem dJ2_add_5 : decode bcJ2_add 5 = .ok (.iconst 1, 1) := dk_4 (dk_at dksJ2_add_0 5 rfl rfl)
theorem dJ2_add_6 : decode bcJ2_add 6 = .ok (.iadd, 1) := dk_96 (dk_at dksJ2_add_0 6 rfl rfl)
theorem dJ2_add_7 : decode bcJ2_add 7 = .ok (.putfield 63, 3) := dk_181 0 63 (dk_at dksJ2_add_0 7 rfl rfl)
theorem dJ2_add_10 : decode bcJ2_add 10 = .ok (.aload_n 0, 1) := dk_42 (dk_at dksJ2_add_0 10 rfl rfl)
theorem dJ2_add_11 : decode bcJ2_add 11 = .ok (.aload_n 1, 1) := dk_43 (dk_at dksJ2_add_0 11 rfl rfl)
theorem dJ2_add_12 : decode bcJ2_add 12 = .ok (.aload_n 0, 1) := dk_42 (dk_at dksJ2_add_0 12 rfl rfl)
theorem dJ2_add_13 : decode bcJ2_add 13 = .ok (.getfield 9, 3) := dk_180 0 9 (dk_at dksJ2_add_0 13 rfl rfl)
theorem dJ2_add_16 : decode bcJ2_add 16 = .ok (.aload_n 0, 1) := dk_42 (dk_at dksJ2_add_0 16 rfl rfl)
theorem dJ2_add_17 : decode bcJ2_add 17 = .ok (.getfield 48, 3) := dk_180 0 48 (dk_at dksJ2_add_0 17 rfl rfl)
theorem dJ2_add_20 : decode bcJ2_add 20 = .ok (.invokevirtual 131, 3) := dk_182 0 131 (dk_at dksJ2_add_0 20 rfl rfl)
theorem dJ2_add_23 : decode bcJ2_add 23 = .ok (.iconst 1, 1) := dk_4 (dk_at dksJ2_add_0 23 rfl rfl)
theorem dJ2_add_24 : decode bcJ2_add 24 = .ok (.ireturn, 1) := dk_172 (dk_at dksJ2_add_1 0 rfl rfl)
abbrev SJ2_add (pc : Nat) (i : xI) : Prop := Snd "java/util/ArrayList" "add" prog_48_method_25_code 2 (Option.some Jvm.ClassFile.FieldType.boolean) [] pc i
theorem oJ2_add_0 : SJ2_add 0 (i_aload 0 1) := snd_aload_n dJ2_add_0 rfl
theorem oJ2_add_1 : SJ2_add 1 (i_dup 2) := snd_dup dJ2_add_1
theorem oJ2_add_2 : SJ2_add 2 (i_getf 21 0 5) := snd_getf dJ2_add_2 rfl (by decide) in_J2 (Or.inl q236) (Or.inr q237) (by decide)
theorem oJ2_add_5 : SJ2_add 5 (i_const (.int (nI 1)) 6) := snd_iconst dJ2_add_5 (by decide)
theorem oJ2_add_6 : SJ2_add 6 (i_ii (fun x y => x + y) 7) := snd_iadd dJ2_add_6
theorem oJ2_add_7 : SJ2_add 7 (i_putfi 21 0 10) := snd_putfi dJ2_add_7 rfl (by decide) in_J2 tyJ2 tyJ2_ok nmJ2 (Or.inl ⟨rfl, q236⟩) (Or.inr q237) rfl
theorem oJ2_add_10 : SJ2_add 10 (i_aload 0 11) := snd_aload_n dJ2_add_10 rfl
theorem oJ2_add_11 : SJ2_add 11 (i_aload 1 12) := snd_aload_n dJ2_add_11 rfl
theorem oJ2_add_12 : SJ2_add 12 (i_aload 0 13) := snd_aload_n dJ2_add_12 rfl
theorem oJ2_add_13 : SJ2_add 13 (i_getf 21 1 16) := snd_getf dJ2_add_13 rfl (by decide) in_J2 (Or.inl q233) (Or.inl rfl) (by decide)
theorem oJ2_add_16 : SJ2_add 16 (i_aload 0 17) := snd_aload_n dJ2_add_16 rfl
theorem oJ2_add_17 : SJ2_add 17 (i_getf 21 2 20) := snd_getf dJ2_add_17 rfl (by decide) in_J2 (Or.inl q234) (Or.inl rfl) (by decide)
theorem oJ2_add_20 : SJ2_add 20 (i_cvv 21 36 3 23) := snd_cvv rfl infJ2_add_2 (by decide) rfl (xVm_V dJ2_add_20 rfl q830 q832 qs10 q132 q833 pdJ2_add_2)
theorem oJ2_add_23 : SJ2_add 23 (i_const (.int (nI 1)) 24) := snd_iconst dJ2_add_23 (by decide)
theorem oJ2_add_24 : SJ2_add 24 (i_zret) := snd_zret dJ2_add_24 rfl
theorem okJ2_add : ∀ q ∈ cJ2_add, SJ2_add q.1 q.2 := List.forall_mem_cons.mpr ⟨oJ2_add_0, List.forall_mem_cons.mpr ⟨oJ2_add_1, List.forall_mem_cons.mpr ⟨oJ2_add_2, List.forall_mem_cons.mpr ⟨oJ2_add_5, List.forall_mem_cons.mpr ⟨oJ2_add_6, List.forall_mem_cons.mpr ⟨oJ2_add_7, List.forall_mem_cons.mpr ⟨oJ2_add_10, List.forall_mem_cons.mpr ⟨oJ2_add_11, List.forall_mem_cons.mpr ⟨oJ2_add_12, List.forall_mem_cons.mpr ⟨oJ2_add_13, List.forall_mem_cons.mpr ⟨oJ2_add_16, List.forall_mem_cons.mpr ⟨oJ2_add_17, List.forall_mem_cons.mpr ⟨oJ2_add_20, List.forall_mem_cons.mpr ⟨oJ2_add_23, List.forall_mem_cons.mpr ⟨oJ2_add_24, fun _ h => absurd h List.not_mem_nil⟩⟩⟩⟩⟩⟩⟩⟩⟩⟩⟩⟩⟩⟩⟩
def dkwJ2_add_2_0 : List UInt8 := [29, 44, 190, 160, 0, 8, 42, 182, 0, 129, 77, 44, 29, 43, 83, 42, 29, 4, 96, 181, 0, 48, 177]
abbrev dktJ2_add_2_0 : List UInt8 := dkwJ2_add_2_0 ++ []
theorem dksJ2_add_2_0 : bcJ2_add_2.data.toList.drop 0 = dktJ2_add_2_0 := by decide +kernel
theorem dJ2_add_2_0 : decode bcJ2_add_2 0 = .ok (.iload_n 3, 1) := dk_29 (dk_at dksJ2_add_2_0 0 rfl rfl)
theorem dJ2_add_2_1 : decode bcJ2_add_2 1 = .ok (.aload_n 2, 1) := dk_44 (dk_at dksJ2_add_2_0 1 rfl rfl)
theorem dJ2_add_2_2 : decode bcJ2_add_2 2 = .ok (.arraylength, 1) := dk_190 (dk_at dksJ2_add_2_0 2 rfl rfl)
theorem dJ2_add_2_3 : decode bcJ2_add_2 3 = .ok (.if_icmp .ne 8, 3) := dk_160 0 8 (dk_at dksJ2_add_2_0 3 rfl rfl)
theorem dJ2_add_2_6 : decode bcJ2_add_2 6 = .ok (.aload_n 0, 1) := dk_42 (dk_at dksJ2_add_2_0 6 rfl rfl)
theorem dJ2_add_2_7 : decode bcJ2_add_2 7 = .ok (.invokevirtual 129, 3) := dk_182 0 129 (dk_at dksJ2_add_2_0 7 rfl rfl)
theorem dJ2_add_2_10 : decode bcJ2_add_2 10 = .ok (.astore_n 2, 1) := dk_77 (dk_at dksJ2_add_2_0 10 rfl rfl)
theorem dJ2_add_2_11 : decode bcJ2_add_2 11 = .ok (.aload_n 2, 1) := dk_44 (dk_at dksJ2_add_2_0 11 rfl rfl)
theorem dJ2_add_2_12 : decode bcJ2_add_2 12 = .ok (.iload_n 3, 1) := dk_29 (dk_at dksJ2_add_2_0 12 rfl rfl)
theorem dJ2_add_2_13 : decode bcJ2_add_2 13 = .ok (.aload_n 1, 1) := dk_43 (dk_at dksJ2_add_2_0 13 rfl rfl)
theorem dJ2_add_2_14 : decode bcJ2_add_2 14 = .ok (.aastore, 1) := dk_83 (dk_at dksJ2_add_2_0 14 rfl rfl)
theorem dJ2_add_2_15 : decode bcJ2_add_2 15 = .ok (.aload_n 0, 1) := dk_42 (dk_at dksJ2_add_2_0 15 rfl rfl)
theorem dJ2_add_2_16 : decode bcJ2_add_2 16 = .ok (.iload_n 3, 1) := dk_29 (dk_at dksJ2_add_2_0 16 rfl rfl)
theorem dJ2_add_2_17 : decode bcJ2_add_2 17 = .ok (.iconst 1, 1) := dk_4 (dk_at dksJ2_add_2_0 17 rfl rfl)
theorem dJ2_add_2_18 : decode bcJ2_add_2 18 = .ok (.iadd, 1) := dk_96 (dk_at dksJ2_add_2_0 18 rfl rfl)
theorem dJ2_add_2_19 : decode bcJ2_add_2 19 = .ok (.putfield 48, 3) := dk_181 0 48 (dk_at dksJ2_add_2_0 19 rfl rfl)
theorem dJ2_add_2_22 : decode bcJ2_add_2 22 = .ok (.return_, 1) := dk_177 (dk_at dksJ2_add_2_0 22 rfl rfl)
abbrev SJ2_add_2 (pc : Nat) (i : xI) : Prop := Snd "java/util/ArrayList" "add" prog_48_method_24_code 4 (Option.none : Option Jvm.ClassFile.FieldType) [] pc i
theorem oJ2_add_2_0 : SJ2_add_2 0 (i_iload 3 1) := snd_iload_n dJ2_add_2_0 rfl
theorem oJ2_add_2_1 : SJ2_add_2 1 (i_aload 2 2) := snd_aload_n dJ2_add_2_1 rfl
theorem oJ2_add_2_2 : SJ2_add_2 2 (i_len 3) := snd_len dJ2_add_2_2
theorem oJ2_add_2_3 : SJ2_add_2 3 (i_if2 (fun x y => ¬ x = y) 11 6) := snd_icmp_ne dJ2_add_2_3 (by decide)
theorem oJ2_add_2_6 : SJ2_add_2 6 (i_aload 0 7) := snd_aload_n dJ2_add_2_6 rfl
theorem oJ2_add_2_7 : SJ2_add_2 7 (i_cv 21 37 0 10) := snd_cv rfl infJ2_grow (by decide) rfl (xVm_V dJ2_add_2_7 rfl q834 q836 qs11 q132 q837 pdJ2_grow)
theorem oJ2_add_2_10 : SJ2_add_2 10 (i_astore 2 11) := snd_astore_n dJ2_add_2_10 rfl (by decide)
theorem oJ2_add_2_11 : SJ2_add_2 11 (i_aload 2 12) := snd_aload_n dJ2_add_2_11 rfl
theorem oJ2_add_2_12 : SJ2_add_2 12 (i_iload 3 13) := snd_iload_n dJ2_add_2_12 rfl
theorem oJ2_add_2_13 : SJ2_add_2 13 (i_aload 1 14) := snd_aload_n dJ2_add_2_13 rfl
theorem oJ2_add_2_14 : SJ2_add_2 14 (i_sq [22, 6, 15, 16, 17, 18, 19] 4 15) := snd_sq dJ2_add_2_14 (by decide) rfl okcs_4
theorem oJ2_add_2_15 : SJ2_add_2 15 (i_aload 0 16) := snd_aload_n dJ2_add_2_15 rfl
theorem oJ2_add_2_16 : SJ2_add_2 16 (i_iload 3 17) := snd_iload_n dJ2_add_2_16 rfl
theorem oJ2_add_2_17 : SJ2_add_2 17 (i_const (.int (nI 1)) 18) := snd_iconst dJ2_add_2_17 (by decide)
theorem oJ2_add_2_18 : SJ2_add_2 18 (i_ii (fun x y => x + y) 19) := snd_iadd dJ2_add_2_18
theorem oJ2_add_2_19 : SJ2_add_2 19 (i_putfi 21 2 22) := snd_putfi dJ2_add_2_19 rfl (by decide) in_J2 tyJ2 tyJ2_ok nmJ2 (Or.inl ⟨rfl, q234⟩) (Or.inl rfl) rfl
theorem oJ2_add_2_22 : SJ2_add_2 22 (i_vret) := snd_vret dJ2_add_2_22 rfl
theorem okJ2_add_2 : ∀ q ∈ cJ2_add_2, SJ2_add_2 q.1 q.2 := List.forall_mem_cons.mpr ⟨oJ2_add_2_0, List.forall_mem_cons.mpr ⟨oJ2_add_2_1, List.forall_mem_cons.mpr ⟨oJ2_add_2_2, List.forall_mem_cons.mpr ⟨oJ2_add_2_3, List.forall_mem_cons.mpr ⟨oJ2_add_2_6, List.forall_mem_cons.mpr ⟨oJ2_add_2_7, List.forall_mem_cons.mpr ⟨oJ2_add_2_10, List.forall_mem_cons.mpr ⟨oJ2_add_2_11, List.forall_mem_cons.mpr ⟨oJ2_add_2_12, List.forall_mem_cons.mpr ⟨oJ2_add_2_13, List.forall_mem_cons.mpr ⟨oJ2_add_2_14, List.forall_mem_cons.mpr ⟨oJ2_add_2_15, List.forall_mem_cons.mpr ⟨oJ2_add_2_16, List.forall_mem_cons.mpr ⟨oJ2_add_2_17, List.forall_mem_cons.mpr ⟨oJ2_add_2_18, List.forall_mem_cons.mpr ⟨oJ2_add_2_19, List.forall_mem_cons.mpr ⟨oJ2_add_2_22, fun _ h => absurd h List.not_mem_nil⟩⟩⟩⟩⟩⟩⟩⟩⟩⟩⟩⟩⟩⟩⟩⟩⟩
def dkwJ2_grow_0 : List UInt8 := [42, 42, 180, 0, 48, 4, 96, 182, 0, 69, 176]
abbrev dktJ2_grow_0 : List UInt8 := dkwJ2_grow_0 ++ []
theorem dksJ2_grow_0 : bcJ2_grow.data.toList.drop 0 = dktJ2_grow_0 := by decide +kernel
theorem dJ2_grow_0 : decode bcJ2_grow 0 = .ok (.aload_n 0, 1) := dk_42 (dk_at dksJ2_grow_0 0 rfl rfl)
theorem dJ2_grow_1 : decode bcJ2_grow 1 = .ok (.aload_n 0, 1) := dk_42 (dk_at dksJ2_grow_0 1 rfl rfl)
theorem dJ2_grow_2 : decode bcJ2_grow 2 = .ok (.getfield 48, 3) := dk_180 0 48 (dk_at dksJ2_grow_0 2 rfl rfl)
theorem dJ2_grow_5 : decode bcJ2_grow 5 = .ok (.iconst 1, 1) := dk_4 (dk_at dksJ2_grow_0 5 rfl rfl)
theorem dJ2_grow_6 : decode bcJ2_grow 6 = .ok (.iadd, 1) := dk_96 (dk_at dksJ2_grow_0 6 rfl rfl)
theorem dJ2_grow_7 : decode bcJ2_grow 7 = .ok (.invokevirtual 69, 3) := dk_182 0 69 (dk_at dksJ2_grow_0 7 rfl rfl)
theorem dJ2_grow_10 : decode bcJ2_grow 10 = .ok (.areturn, 1) := dk_176 (dk_at dksJ2_grow_0 10 rfl rfl)
abbrev SJ2_grow (pc : Nat) (i : xI) : Prop := Snd "java/util/ArrayList" "grow" prog_48_method_7_code 1 (Option.some (Jvm.ClassFile.FieldType.array (Jvm.ClassFile.FieldType.object "java/lang/Object"))) [] pc i
theorem oJ2_grow_0 : SJ2_grow 0 (i_aload 0 1) := snd_aload_n dJ2_grow_0 rfl
theorem oJ2_grow_1 : SJ2_grow 1 (i_aload 0 2) := snd_aload_n dJ2_grow_1 rfl
theorem oJ2_grow_2 : SJ2_grow 2 (i_getf 21 2 5) := snd_getf dJ2_grow_2 rfl (by decide) in_J2 (Or.inl q234) (Or.inl rfl) (by decide)
theorem oJ2_grow_5 : SJ2_grow 5 (i_const (.int (nI 1)) 6) := snd_iconst dJ2_grow_5 (by decide)
theorem oJ2_grow_6 : SJ2_grow 6 (i_ii (fun x y => x + y) 7) := snd_iadd dJ2_grow_6
theorem oJ2_grow_7 : SJ2_grow 7 (i_cv 21 38 1 10) := snd_cv rfl infJ2_grow_2 (by decide) rfl (xVm_V dJ2_grow_7 rfl q838 q840 qs12 q132 q841 pdJ2_grow_2)
theorem oJ2_grow_10 : SJ2_grow 10 (i_aret) := snd_aret dJ2_grow_10 rfl (Or.inr ⟨_, rfl⟩)
theorem okJ2_grow : ∀ q ∈ cJ2_grow, SJ2_grow q.1 q.2 := List.forall_mem_cons.mpr ⟨oJ2_grow_0, List.forall_mem_cons.mpr ⟨oJ2_grow_1, List.forall_mem_cons.mpr ⟨oJ2_grow_2, List.forall_mem_cons.mpr ⟨oJ2_grow_5, List.forall_mem_cons.mpr ⟨oJ2_grow_6, List.forall_mem_cons.mpr ⟨oJ2_grow_7, List.forall_mem_cons.mpr ⟨oJ2_grow_10, fun _ h => absurd h List.not_mem_nil⟩⟩⟩⟩⟩⟩⟩
def dkwJ2_grow_2_2 : List UInt8 := [27, 184, 0, 79, 189, 0, 7, 90, 181, 0, 9, 176]
abbrev dktJ2_grow_2_2 : List UInt8 := dkwJ2_grow_2_2 ++ []
def dkwJ2_grow_2_1 : List UInt8 := [28, 4, 122, 184, 0, 73, 62, 42, 42, 180, 0, 9, 29, 184, 0, 66, 90, 181, 0, 9, 176, 42, 16, 10]
abbrev dktJ2_grow_2_1 : List UInt8 := dkwJ2_grow_2_1 ++ dktJ2_grow_2_2
def dkwJ2_grow_2_0 : List UInt8 := [42, 180, 0, 9, 190, 61, 28, 157, 0, 13, 42, 180, 0, 9, 178, 0, 39, 165, 0, 28, 28, 27, 28, 100]
abbrev dktJ2_grow_2_0 : List UInt8 := dkwJ2_grow_2_0 ++ dktJ2_grow_2_1
theorem dksJ2_grow_2_0 : bcJ2_grow_2.data.toList.drop 0 = dktJ2_grow_2_0 := by decide +kernel
theorem dksJ2_grow_2_1 : bcJ2_grow_2.data.toList.drop 24 = dktJ2_grow_2_1 := dk_seg dksJ2_grow_2_0 24 rfl rfl
theorem dksJ2_grow_2_2 : bcJ2_grow_2.data.toList.drop 48 = dktJ2_grow_2_2 := dk_seg dksJ2_grow_2_1 24 rfl rfl
theorem dJ2_grow_2_0 : decode bcJ2_grow_2 0 = .ok (.aload_n 0, 1) := dk_42 (dk_at dksJ2_grow_2_0 0 rfl rfl)
theorem dJ2_grow_2_1 : decode bcJ2_grow_2 1 = .ok (.getfield 9, 3) := dk_180 0 9 (dk_at dksJ2_grow_2_0 1 rfl rfl)
theorem dJ2_grow_2_4 : decode bcJ2_grow_2 4 = .ok (.arraylength, 1) := dk_190 (dk_at dksJ2_grow_2_0 4 rfl rfl)
theorem dJ2_grow_2_5 : decode bcJ2_grow_2 5 = .ok (.istore_n 2, 1) := dk_61 (dk_at dksJ2_grow_2_0 5 rfl rfl)
theorem dJ2_grow_2_6 : decode bcJ2_grow_2 6 = .ok (.iload_n 2, 1) := dk_28 (dk_at dksJ2_grow_2_0 6 rfl rfl)
theorem dJ2_grow_2_7 : decode bcJ2_grow_2 7 = .ok (.ifCond .gt 13, 3) := dk_157 0 13 (dk_at dksJ2_grow_2_0 7 rfl rfl)
theorem dJ2_grow_2_10 : decode bcJ2_grow_2 10 = .ok (.aload_n 0, 1) := dk_42 (dk_at dksJ2_grow_2_0 10 rfl rfl)
theorem dJ2_grow_2_11 : decode bcJ2_grow_2 11 = .ok (.getfield 9, 3) := dk_180 0 9 (dk_at dksJ2_grow_2_0 11 rfl rfl)
theorem dJ2_grow_2_14 : decode bcJ2_grow_2 14 = .ok (.getstatic 39, 3) := dk_178 0 39 (dk_at dksJ2_grow_2_0 14 rfl rfl)
theorem dJ2_grow_2_17 : decode bcJ2_grow_2 17 = .ok (.if_acmp .eq 28, 3) := dk_165 0 28 (dk_at dksJ2_grow_2_0 17 rfl rfl)
theorem dJ2_grow_2_20 : decode bcJ2_grow_2 20 = .ok (.iload_n 2, 1) := dk_28 (dk_at dksJ2_grow_2_0 20 rfl rfl)
theorem dJ2_grow_2_21 : decode bcJ2_grow_2 21 = .ok (.iload_n 1, 1) := dk_27 (dk_at dksJ2_grow_2_0 21 rfl rfl)
theorem dJ2_grow_2_22 : decode bcJ2_grow_2 22 = .ok (.iload_n 2, 1) := dk_28 (dk_at dksJ2_grow_2_0 22 rfl rfl)
theorem dJ2_grow_2_23 : decode bcJ2_grow_2 23 = .ok (.isub, 1) := dk_100 (dk_at dksJ2_grow_2_0 23 rfl rfl)
theorem dJ2_grow_2_24 : decode bcJ2_grow_2 24 = .ok (.iload_n 2, 1) := dk_28 (dk_at dksJ2_grow_2_1 0 rfl rfl)
theorem dJ2_grow_2_25 : decode bcJ2_grow_2 25 = .ok (.iconst 1, 1) := dk_4 (dk_at dksJ2_grow_2_1 1 rfl rfl)
theorem dJ2_grow_2_26 : decode bcJ2_grow_2 26 = .ok (.ishr, 1) := dk_122 (dk_at dksJ2_grow_2_1 2 rfl rfl)
theorem dJ2_grow_2_27 : decode bcJ2_grow_2 27 = .ok (.invokestatic 73, 3) := dk_184 0 73 (dk_at dksJ2_grow_2_1 3 rfl rfl)
theorem dJ2_grow_2_30 : decode bcJ2_grow_2 30 = .ok (.istore_n 3, 1) := dk_62 (dk_at dksJ2_grow_2_1 6 rfl rfl)
theorem dJ2_grow_2_31 : decode bcJ2_grow_2 31 = .ok (.aload_n 0, 1) := dk_42 (dk_at dksJ2_grow_2_1 7 rfl rfl)
theorem dJ2_grow_2_32 : decode bcJ2_grow_2 32 = .ok (.aload_n 0, 1) := dk_42 (dk_at dksJ2_grow_2_1 8 rfl rfl)
theorem dJ2_grow_2_33 : decode bcJ2_grow_2 33 = .ok (.getfield 9, 3) := dk_180 0 9 (dk_at dksJ2_grow_2_1 9 rfl rfl)
theorem dJ2_grow_2_36 : decode bcJ2_grow_2 36 = .ok (.iload_n 3, 1) := dk_29 (dk_at dksJ2_grow_2_1 12 rfl rfl)
theorem dJ2_grow_2_37 : decode bcJ2_grow_2 37 = .ok (.invokestatic 66, 3) := dk_184 0 66 (dk_at dksJ2_grow_2_1 13 rfl rfl)
theorem dJ2_grow_2_40 : decode bcJ2_grow_2 40 = .ok (.dup_x1, 1) := dk_90 (dk_at dksJ2_grow_2_1 16 rfl rfl)
theorem dJ2_grow_2_41 : decode bcJ2_grow_2 41 = .ok (.putfield 9, 3) := dk_181 0 9 (dk_at dksJ2_grow_2_1 17 rfl rfl)
theorem dJ2_grow_2_44 : decode bcJ2_grow_2 44 = .ok (.areturn, 1) := dk_176 (dk_at dksJ2_grow_2_1 20 rfl rfl)
theorem dJ2_grow_2_45 : decode bcJ2_grow_2 45 = .ok (.aload_n 0, 1) := dk_42 (dk_at dksJ2_grow_2_1 21 rfl rfl)
theorem dJ2_grow_2_46 : decode bcJ2_grow_2 46 = .ok (.bipush 10, 2) := dk_16 10 (dk_at dksJ2_grow_2_1 22 rfl rfl)
theorem dJ2_grow_2_48 : decode bcJ2_grow_2 48 = .ok (.iload_n 1, 1) := dk_27 (dk_at dksJ2_grow_2_2 0 rfl rfl)
theorem dJ2_grow_2_49 : decode bcJ2_grow_2 49 = .ok (.invokestatic 79, 3) := dk_184 0 79 (dk_at dksJ2_grow_2_2 1 rfl rfl)
theorem dJ2_grow_2_52 : decode bcJ2_grow_2 52 = .ok (.anewarray 7, 3) := dk_189 0 7 (dk_at dksJ2_grow_2_2 4 rfl rfl)
theorem dJ2_grow_2_55 : decode bcJ2_grow_2 55 = .ok (.dup_x1, 1) := dk_90 (dk_at dksJ2_grow_2_2 7 rfl rfl)
theorem dJ2_grow_2_56 : decode bcJ2_grow_2 56 = .ok (.putfield 9, 3) := dk_181 0 9 (dk_at dksJ2_grow_2_2 8 rfl rfl)
theorem dJ2_grow_2_59 : decode bcJ2_grow_2 59 = .ok (.areturn, 1) := dk_176 (dk_at dksJ2_grow_2_2 11 rfl rfl)
abbrev SJ2_grow_2 (pc : Nat) (i : xI) : Prop := Snd "java/util/ArrayList" "grow" prog_48_method_6_code 4 (Option.some (Jvm.ClassFile.FieldType.array (Jvm.ClassFile.FieldType.object "java/lang/Object"))) [] pc i
theorem oJ2_grow_2_0 : SJ2_grow_2 0 (i_aload 0 1) := snd_aload_n dJ2_grow_2_0 rfl
theorem oJ2_grow_2_1 : SJ2_grow_2 1 (i_getf 21 1 4) := snd_getf dJ2_grow_2_1 rfl (by decide) in_J2 (Or.inl q233) (Or.inl rfl) (by decide)
theorem oJ2_grow_2_4 : SJ2_grow_2 4 (i_len 5) := snd_len dJ2_grow_2_4
theorem oJ2_grow_2_5 : SJ2_grow_2 5 (i_istore 2 6) := snd_istore_n dJ2_grow_2_5 rfl (by decide)
theorem oJ2_grow_2_6 : SJ2_grow_2 6 (i_iload 2 7) := snd_iload_n dJ2_grow_2_6 rfl
theorem oJ2_grow_2_7 : SJ2_grow_2 7 (i_if1 (fun x => 0 < x) 20 10) := snd_if_gt dJ2_grow_2_7 (by decide)
theorem oJ2_grow_2_10 : SJ2_grow_2 10 (i_aload 0 11) := snd_aload_n dJ2_grow_2_10 rfl
theorem oJ2_grow_2_11 : SJ2_grow_2 11 (i_getf 21 1 14) := snd_getf dJ2_grow_2_11 rfl (by decide) in_J2 (Or.inl q233) (Or.inl rfl) (by decide)
theorem oJ2_grow_2_14 : SJ2_grow_2 14 (i_const (.ref 22) 17) := snd_gets dJ2_grow_2_14 xst_DEFAULTCAPACITY_EMPTY_ELEMENTDATA q842
theorem oJ2_grow_2_17 : SJ2_grow_2 17 (i_acmp true 45 20) := snd_acmp_eq dJ2_grow_2_17 (by decide)
theorem oJ2_grow_2_20 : SJ2_grow_2 20 (i_iload 2 21) := snd_iload_n dJ2_grow_2_20 rfl
theorem oJ2_grow_2_21 : SJ2_grow_2 21 (i_iload 1 22) := snd_iload_n dJ2_grow_2_21 rfl
theorem oJ2_grow_2_22 : SJ2_grow_2 22 (i_iload 2 23) := snd_iload_n dJ2_grow_2_22 rfl
theorem oJ2_grow_2_23 : SJ2_grow_2 23 (i_ii (fun x y => x - y) 24) := snd_isub dJ2_grow_2_23
theorem oJ2_grow_2_24 : SJ2_grow_2 24 (i_iload 2 25) := snd_iload_n dJ2_grow_2_24 rfl
theorem oJ2_grow_2_25 : SJ2_grow_2 25 (i_const (.int (nI 1)) 26) := snd_iconst dJ2_grow_2_25 (by decide)
theorem oJ2_grow_2_26 : SJ2_grow_2 26 (i_ii (fun x y => x >>> (y &&& 31)) 27) := snd_ishr dJ2_grow_2_26
theorem oJ2_grow_2_27 : SJ2_grow_2 27 (i_cs 20 3 30) := snd_cs rfl infJ15_newLength (by decide) (xSm_S dJ2_grow_2_27 q844 q700 q148 q701 pdJ15_newLength)
theorem oJ2_grow_2_30 : SJ2_grow_2 30 (i_istore 3 31) := snd_istore_n dJ2_grow_2_30 rfl (by decide)
theorem oJ2_grow_2_31 : SJ2_grow_2 31 (i_aload 0 32) := snd_aload_n dJ2_grow_2_31 rfl
theorem oJ2_grow_2_32 : SJ2_grow_2 32 (i_aload 0 33) := snd_aload_n dJ2_grow_2_32 rfl
theorem oJ2_grow_2_33 : SJ2_grow_2 33 (i_getf 21 1 36) := snd_getf dJ2_grow_2_33 rfl (by decide) in_J2 (Or.inl q233) (Or.inl rfl) (by decide)
theorem oJ2_grow_2_36 : SJ2_grow_2 36 (i_iload 3 37) := snd_iload_n dJ2_grow_2_36 rfl
theorem oJ2_grow_2_37 : SJ2_grow_2 37 (i_cs 26 2 40) := snd_cs rfl infJ16_copyOf_2 (by decide) (xSm_S dJ2_grow_2_37 q845 q846 q149 q847 pdJ16_copyOf_2)
theorem oJ2_grow_2_40 : SJ2_grow_2 40 (i_dup_x1 41) := snd_dup_x1 dJ2_grow_2_40
theorem oJ2_grow_2_41 : SJ2_grow_2 41 (i_putfr 21 1 44) := snd_putfr dJ2_grow_2_41 rfl (by decide) in_J2 tyJ2 tyJ2_ok nmJ2 (Or.inl ⟨rfl, q233⟩) (Or.inl rfl) (Or.inr ⟨_, rfl⟩)
theorem oJ2_grow_2_44 : SJ2_grow_2 44 (i_aret) := snd_aret dJ2_grow_2_44 rfl (Or.inr ⟨_, rfl⟩)
theorem oJ2_grow_2_45 : SJ2_grow_2 45 (i_aload 0 46) := snd_aload_n dJ2_grow_2_45 rfl
theorem oJ2_grow_2_46 : SJ2_grow_2 46 (i_const (.int (nI 10)) 48) := snd_bipush dJ2_grow_2_46 (by decide)
theorem oJ2_grow_2_48 : SJ2_grow_2 48 (i_iload 1 49) := snd_iload_n dJ2_grow_2_48 rfl
theorem oJ2_grow_2_49 : SJ2_grow_2 49 (i_cs 62 2 52) := snd_cs rfl infJ7_max (by decide) (xSm_S dJ2_grow_2_49 q882 q475 q139 q476 pdJ7_max)
theorem oJ2_grow_2_52 : SJ2_grow_2 52 (i_newa 4 (.inr (.inr (fun _ => none))) 55) := snd_anewa dJ2_grow_2_52 (by decide) rfl q229 (fun _ _ _ h => h.2.2.1.1)
theorem oJ2_grow_2_55 : SJ2_grow_2 55 (i_dup_x1 56) := snd_dup_x1 dJ2_grow_2_55
theorem oJ2_grow_2_56 : SJ2_grow_2 56 (i_putfr 21 1 59) := snd_putfr dJ2_grow_2_56 rfl (by decide) in_J2 tyJ2 tyJ2_ok nmJ2 (Or.inl ⟨rfl, q233⟩) (Or.inl rfl) (Or.inr ⟨_, rfl⟩)
theorem oJ2_grow_2_59 : SJ2_grow_2 59 (i_aret) := snd_aret dJ2_grow_2_59 rfl (Or.inr ⟨_, rfl⟩)
theorem okJ2_grow_2 : ∀ q ∈ cJ2_grow_2, SJ2_grow_2 q.1 q.2 := List.forall_mem_cons.mpr ⟨oJ2_grow_2_0, List.forall_mem_cons.mpr ⟨oJ2_grow_2_1, List.forall_mem_cons.mpr ⟨oJ2_grow_2_4, List.forall_mem_cons.mpr ⟨oJ2_grow_2_5, List.forall_mem_cons.mpr ⟨oJ2_grow_2_6, List.forall_mem_cons.mpr ⟨oJ2_grow_2_7, List.forall_mem_cons.mpr ⟨oJ2_grow_2_10, List.forall_mem_cons.mpr ⟨oJ2_grow_2_11, List.forall_mem_cons.mpr ⟨oJ2_grow_2_14, List.forall_mem_cons.mpr ⟨oJ2_grow_2_17, List.forall_mem_cons.mpr ⟨oJ2_grow_2_20, List.forall_mem_cons.mpr ⟨oJ2_grow_2_21, List.forall_mem_cons.mpr ⟨oJ2_grow_2_22, List.forall_mem_cons.mpr ⟨oJ2_grow_2_23, List.forall_mem_cons.mpr ⟨oJ2_grow_2_24, List.forall_mem_cons.mpr ⟨oJ2_grow_2_25, List.forall_mem_cons.mpr ⟨oJ2_grow_2_26, List.forall_mem_cons.mpr ⟨oJ2_grow_2_27, List.forall_mem_cons.mpr ⟨oJ2_grow_2_30, List.forall_mem_cons.mpr ⟨oJ2_grow_2_31, List.forall_mem_cons.mpr ⟨oJ2_grow_2_32, List.forall_mem_cons.mpr ⟨oJ2_grow_2_33, List.forall_mem_cons.mpr ⟨oJ2_grow_2_36, List.forall_mem_cons.mpr ⟨oJ2_grow_2_37, List.forall_mem_cons.mpr ⟨oJ2_grow_2_40, List.forall_mem_cons.mpr ⟨oJ2_grow_2_41, List.forall_mem_cons.mpr ⟨oJ2_grow_2_44, List.forall_mem_cons.mpr ⟨oJ2_grow_2_45, List.forall_mem_cons.mpr ⟨oJ2_grow_2_46, List.forall_mem_cons.mpr ⟨oJ2_grow_2_48, List.forall_mem_cons.mpr ⟨oJ2_grow_2_49, List.forall_mem_cons.mpr ⟨oJ2_grow_2_52, List.forall_mem_cons.mpr ⟨oJ2_grow_2_55, List.forall_mem_cons.mpr ⟨oJ2_grow_2_56, List.forall_mem_cons.mpr ⟨oJ2_grow_2_59, fun _ h => absurd h List.not_mem_nil⟩⟩⟩⟩⟩⟩⟩⟩⟩⟩⟩⟩⟩⟩⟩⟩⟩⟩⟩⟩⟩⟩⟩⟩⟩⟩⟩⟩⟩⟩⟩⟩⟩⟩⟩
def dkwJ3_checkIndex_0 : List UInt8 := [26, 27, 1, 184, 0, 105, 172]
abbrev dktJ3_checkIndex_0 : List UInt8 := dkwJ3_checkIndex_0 ++ []
theorem dksJ3_checkIndex_0 : bcJ3_checkIndex.data.toList.drop 0 = dktJ3_checkIndex_0 := by decide +kernel
theorem dJ3_checkIndex_0 : decode bcJ3_checkIndex 0 = .ok (.iload_n 0, 1) := dk_26 (dk_at dksJ3_checkIndex_0 0 rfl rfl)
theorem dJ3_checkIndex_1 : decode bcJ3_checkIndex 1 = .ok (.iload_n 1, 1) := dk_27 (dk_at dksJ3_checkIndex_0 1 rfl rfl)
theorem dJ3_checkIndex_2 : decode bcJ3_checkIndex 2 = .ok (.aconst_null, 1) := dk_1 (dk_at dksJ3_checkIndex_0 2 rfl rfl)
theorem dJ3_checkIndex_3 : decode bcJ3_checkIndex 3 = .ok (.invokestatic 105, 3) := dk_184 0 105 (dk_at dksJ3_checkIndex_0 3 rfl rfl)
theorem dJ3_checkIndex_6 : decode bcJ3_checkIndex 6 = .ok (.ireturn, 1) := dk_172 (dk_at dksJ3_checkIndex_0 6 rfl rfl)
abbrev SJ3_checkIndex (pc : Nat) (i : xI) : Prop := Snd "java/util/Objects" "checkIndex" prog_53_method_17_code 2 (Option.some Jvm.ClassFile.FieldType.int) [] pc i
theorem oJ3_checkIndex_0 : SJ3_checkIndex 0 (i_iload 0 1) := snd_iload_n dJ3_checkIndex_0 rfl
theorem oJ3_checkIndex_1 : SJ3_checkIndex 1 (i_iload 1 2) := snd_iload_n dJ3_checkIndex_1 rfl
theorem oJ3_checkIndex_2 : SJ3_checkIndex 2 (i_const .null 3) := snd_null dJ3_checkIndex_2
theorem oJ3_checkIndex_3 : SJ3_checkIndex 3 (i_cs 40 3 6) := snd_cs rfl infJ4_checkIndex (by decide) (xSm_S dJ3_checkIndex_3 q334 q335 q135 q336 pdJ4_checkIndex)
theorem oJ3_checkIndex_6 : SJ3_checkIndex 6 (i_iret) := snd_iret dJ3_checkIndex_6 rfl
theorem okJ3_checkIndex : ∀ q ∈ cJ3_checkIndex, SJ3_checkIndex q.1 q.2 := List.forall_mem_cons.mpr ⟨oJ3_checkIndex_0, List.forall_mem_cons.mpr ⟨oJ3_checkIndex_1, List.forall_mem_cons.mpr ⟨oJ3_checkIndex_2, List.forall_mem_cons.mpr ⟨oJ3_checkIndex_3, List.forall_mem_cons.mpr ⟨oJ3_checkIndex_6, fun _ h => absurd h List.not_mem_nil⟩⟩⟩⟩⟩
def dkwJ4_checkIndex_0 : List UInt8 := [26, 155, 0, 8, 26, 27, 161, 0, 10, 44, 26, 27, 184, 0, 95, 191, 26, 172]
abbrev dktJ4_checkIndex_0 : List UInt8 := dkwJ4_checkIndex_0 ++ []
theorem dksJ4_checkIndex_0 : bcJ4_checkIndex.data.toList.drop 0 = dktJ4_checkIndex_0 := by decide +kernel
theorem dJ4_checkIndex_0 : decode bcJ4_checkIndex 0 = .ok (.iload_n 0, 1) := dk_26 (dk_at dksJ4_checkIndex_0 0 rfl rfl)
theorem dJ4_checkIndex_1 : decode bcJ4_checkIndex 1 = .ok (.ifCond .lt 8, 3) := dk_155 0 8 (dk_at dksJ4_checkIndex_0 1 rfl rfl)
theorem dJ4_checkIndex_4 : decode bcJ4_checkIndex 4 = .ok (.iload_n 0, 1) := dk_26 (dk_at dksJ4_checkIndex_0 4 rfl rfl)
theorem dJ4_checkIndex_5 : decode bcJ4_checkIndex 5 = .ok (.iload_n 1, 1) := dk_27 (dk_at dksJ4_checkIndex_0 5 rfl rfl)
theorem dJ4_checkIndex_6 : decode bcJ4_checkIndex 6 = .ok (.if_icmp .lt 10, 3) := dk_161 0 10 (dk_at dksJ4_checkIndex_0 6 rfl rfl)
theorem dJ4_checkIndex_9 : decode bcJ4_checkIndex 9 = .ok (.aload_n 2, 1) := dk_44 (dk_at dksJ4_checkIndex_0 9 rfl rfl)
theorem dJ4_checkIndex_10 : decode bcJ4_checkIndex 10 = .ok (.iload_n 0, 1) := dk_26 (dk_at dksJ4_checkIndex_0 10 rfl rfl)
theorem dJ4_checkIndex_11 : decode bcJ4_checkIndex 11 = .ok (.iload_n 1, 1) := dk_27 (dk_at dksJ4_checkIndex_0 11 rfl rfl)
theorem dJ4_checkIndex_12 : decode bcJ4_checkIndex 12 = .ok (.invokestatic 95, 3) := dk_184 0 95 (dk_at dksJ4_checkIndex_0 12 rfl rfl)
theorem dJ4_checkIndex_15 : decode bcJ4_checkIndex 15 = .ok (.athrow, 1) := dk_191 (dk_at dksJ4_checkIndex_0 15 rfl rfl)
theorem dJ4_checkIndex_16 : decode bcJ4_checkIndex 16 = .ok (.iload_n 0, 1) := dk_26 (dk_at dksJ4_checkIndex_0 16 rfl rfl)
theorem dJ4_checkIndex_17 : decode bcJ4_checkIndex 17 = .ok (.ireturn, 1) := dk_172 (dk_at dksJ4_checkIndex_0 17 rfl rfl)
abbrev SJ4_checkIndex (pc : Nat) (i : xI) : Prop := Snd "jdk/internal/util/Preconditions" "checkIndex" prog_57_method_11_code 3 (Option.some Jvm.ClassFile.FieldType.int) [] pc i
theorem oJ4_checkIndex_0 : SJ4_checkIndex 0 (i_iload 0 1) := snd_iload_n dJ4_checkIndex_0 rfl
theorem oJ4_checkIndex_1 : SJ4_checkIndex 1 (i_if1 (fun x => x < 0) 9 4) := snd_if_lt dJ4_checkIndex_1 (by decide)
theorem oJ4_checkIndex_4 : SJ4_checkIndex 4 (i_iload 0 5) := snd_iload_n dJ4_checkIndex_4 rfl
theorem oJ4_checkIndex_5 : SJ4_checkIndex 5 (i_iload 1 6) := snd_iload_n dJ4_checkIndex_5 rfl
theorem oJ4_checkIndex_6 : SJ4_checkIndex 6 (i_if2 (fun x y => x < y) 16 9) := snd_icmp_lt dJ4_checkIndex_6 (by decide)
theorem oJ4_checkIndex_9 : SJ4_checkIndex 9 (i_aload 2 10) := snd_aload_n dJ4_checkIndex_9 rfl
theorem oJ4_checkIndex_10 : SJ4_checkIndex 10 (i_iload 0 11) := snd_iload_n dJ4_checkIndex_10 rfl
theorem oJ4_checkIndex_11 : SJ4_checkIndex 11 (i_iload 1 12) := snd_iload_n dJ4_checkIndex_11 rfl
theorem oJ4_checkIndex_12 : SJ4_checkIndex 12 (i_no) := snd_no
theorem oJ4_checkIndex_15 : SJ4_checkIndex 15 (i_no) := snd_no
theorem oJ4_checkIndex_16 : SJ4_checkIndex 16 (i_iload 0 17) := snd_iload_n dJ4_checkIndex_16 rfl
theorem oJ4_checkIndex_17 : SJ4_checkIndex 17 (i_iret) := snd_iret dJ4_checkIndex_17 rfl
theorem okJ4_checkIndex : ∀ q ∈ cJ4_checkIndex, SJ4_checkIndex q.1 q.2 := List.forall_mem_cons.mpr ⟨oJ4_checkIndex_0, List.forall_mem_cons.mpr ⟨oJ4_checkIndex_1, List.forall_mem_cons.mpr ⟨oJ4_checkIndex_4, List.forall_mem_cons.mpr ⟨oJ4_checkIndex_5, List.forall_mem_cons.mpr ⟨oJ4_checkIndex_6, List.forall_mem_cons.mpr ⟨oJ4_checkIndex_9, List.forall_mem_cons.mpr ⟨oJ4_checkIndex_10, List.forall_mem_cons.mpr ⟨oJ4_checkIndex_11, List.forall_mem_cons.mpr ⟨oJ4_checkIndex_12, List.forall_mem_cons.mpr ⟨oJ4_checkIndex_15, List.forall_mem_cons.mpr ⟨oJ4_checkIndex_16, List.forall_mem_cons.mpr ⟨oJ4_checkIndex_17, fun _ h => absurd h List.not_mem_nil⟩⟩⟩⟩⟩⟩⟩⟩⟩⟩⟩⟩
def dkwJ5_indexOf_0 : List UInt8 := [42, 27, 3, 182, 2, 121, 172]
abbrev dktJ5_indexOf_0 : List UInt8 := dkwJ5_indexOf_0 ++ []
theorem dksJ5_indexOf_0 : bcJ5_indexOf.data.toList.drop 0 = dktJ5_indexOf_0 := by decide +kernel
theorem dJ5_indexOf_0 : decode bcJ5_indexOf 0 = .ok (.aload_n 0, 1) := dk_42 (dk_at dksJ5_indexOf_0 0 rfl rfl)
theorem dJ5_indexOf_1 : decode bcJ5_indexOf 1 = .ok (.iload_n 1, 1) := dk_27 (dk_at dksJ5_indexOf_0 1 rfl rfl)
theorem dJ5_indexOf_2 : decode bcJ5_indexOf 2 = .ok (.iconst 0, 1) := dk_3 (dk_at dksJ5_indexOf_0 2 rfl rfl)
theorem dJ5_indexOf_3 : decode bcJ5_indexOf 3 = .ok (.invokevirtual 633, 3) := dk_182 2 121 (dk_at dksJ5_indexOf_0 3 rfl rfl)
theorem dJ5_indexOf_6 : decode bcJ5_indexOf 6 = .ok (.ireturn, 1) := dk_172 (dk_at dksJ5_indexOf_0 6 rfl rfl)
abbrev SJ5_indexOf (pc : Nat) (i : xI) : Prop := Snd "java/lang/String" "indexOf" prog_38_method_79_code 2 (Option.some Jvm.ClassFile.FieldType.int) [] pc i
theorem oJ5_indexOf_0 : SJ5_indexOf 0 (i_aload 0 1) := snd_aload_n dJ5_indexOf_0 rfl
theorem oJ5_indexOf_1 : SJ5_indexOf 1 (i_iload 1 2) := snd_iload_n dJ5_indexOf_1 rfl
theorem oJ5_indexOf_2 : SJ5_indexOf 2 (i_const (.int (nI 0)) 3) := snd_iconst dJ5_indexOf_2 (by decide)
theorem oJ5_indexOf_3 : SJ5_indexOf 3 (i_cv 22 44 2 6) := snd_cv rfl infJ5_indexOf_2 (by decide) rfl (xVm_V dJ5_indexOf_3 rfl q450 q451 q452 q137 q453 pdJ5_indexOf_2)
theorem oJ5_indexOf_6 : SJ5_indexOf 6 (i_iret) := snd_iret dJ5_indexOf_6 rfl
theorem okJ5_indexOf : ∀ q ∈ cJ5_indexOf, SJ5_indexOf q.1 q.2 := List.forall_mem_cons.mpr ⟨oJ5_indexOf_0, List.forall_mem_cons.mpr ⟨oJ5_indexOf_1, List.forall_mem_cons.mpr ⟨oJ5_indexOf_2, List.forall_mem_cons.mpr ⟨oJ5_indexOf_3, List.forall_mem_cons.mpr ⟨oJ5_indexOf_6, fun _ h => absurd h List.not_mem_nil⟩⟩⟩⟩⟩
def dkwJ5_indexOf_2_1 : List UInt8 := [180, 0, 9, 27, 28, 42, 182, 1, 249, 184, 2, 128, 172]
abbrev dktJ5_indexOf_2_1 : List UInt8 := dkwJ5_indexOf_2_1 ++ []
def dkwJ5_indexOf_2_0 : List UInt8 := [42, 182, 1, 236, 153, 0, 19, 42, 180, 0, 9, 27, 28, 42, 182, 1, 249, 184, 2, 125, 167, 0, 16, 42]
abbrev dktJ5_indexOf_2_0 : List UInt8 := dkwJ5_indexOf_2_0 ++ dktJ5_indexOf_2_1
theorem dksJ5_indexOf_2_0 : bcJ5_indexOf_2.data.toList.drop 0 = dktJ5_indexOf_2_0 := by decide +kernel
theorem dksJ5_indexOf_2_1 : bcJ5_indexOf_2.data.toList.drop 24 = dktJ5_indexOf_2_1 := dk_seg dksJ5_indexOf_2_0 24 rfl rfl
theorem dJ5_indexOf_2_0 : decode bcJ5_indexOf_2 0 = .ok (.aload_n 0, 1) := dk_42 (dk_at dksJ5_indexOf_2_0 0 rfl rfl)
theorem dJ5_indexOf_2_1 : decode bcJ5_indexOf_2 1 = .ok (.invokevirtual 492, 3) := dk_182 1 236 (dk_at dksJ5_indexOf_2_0 1 rfl rfl)
theorem dJ5_indexOf_2_4 : decode bcJ5_indexOf_2 4 = .ok (.ifCond .eq 19, 3) := dk_153 0 19 (dk_at dksJ5_indexOf_2_0 4 rfl rfl)
theorem dJ5_indexOf_2_7 : decode bcJ5_indexOf_2 7 = .ok (.aload_n 0, 1) := dk_42 (dk_at dksJ5_indexOf_2_0 7 rfl rfl)
theorem dJ5_indexOf_2_8 : decode bcJ5_indexOf_2 8 = .ok (.getfield 9, 3) := dk_180 0 9 (dk_at dksJ5_indexOf_2_0 8 rfl rfl)
theorem dJ5_indexOf_2_11 : decode bcJ5_indexOf_2 11 = .ok (.iload_n 1, 1) := dk_27 (dk_at dksJ5_indexOf_2_0 11 rfl rfl)
theorem dJ5_indexOf_2_12 : decode bcJ5_indexOf_2 12 = .ok (.iload_n 2, 1) := dk_28 (dk_at dksJ5_indexOf_2_0 12 rfl rfl)
theorem dJ5_indexOf_2_13 : decode bcJ5_indexOf_2 13 = .ok (.aload_n 0, 1) := dk_42 (dk_at dksJ5_indexOf_2_0 13 rfl rfl)
theorem dJ5_indexOf_2_14 : decode bcJ5_indexOf_2 14 = .ok (.invokevirtual 505, 3) := dk_182 1 249 (dk_at dksJ5_indexOf_2_0 14 rfl rfl)
theorem dJ5_indexOf_2_17 : decode bcJ5_indexOf_2 17 = .ok (.invokestatic 637, 3) := dk_184 2 125 (dk_at dksJ5_indexOf_2_0 17 rfl rfl)
theorem dJ5_indexOf_2_20 : decode bcJ5_indexOf_2 20 = .ok (.goto 16, 3) := dk_167 0 16 (dk_at dksJ5_indexOf_2_0 20 rfl rfl)
theorem dJ5_indexOf_2_23 : decode bcJ5_indexOf_2 23 = .ok (.aload_n 0, 1) := dk_42 (dk_at dksJ5_indexOf_2_0 23 rfl rfl)
theorem dJ5_indexOf_2_24 : decode bcJ5_indexOf_2 24 = .ok (.getfield 9, 3) := dk_180 0 9 (dk_at dksJ5_indexOf_2_1 0 rfl rfl)
theorem dJ5_indexOf_2_27 : decode bcJ5_indexOf_2 27 = .ok (.iload_n 1, 1) := dk_27 (dk_at dksJ5_indexOf_2_1 3 rfl rfl)
theorem dJ5_indexOf_2_28 : decode bcJ5_indexOf_2 28 = .ok (.iload_n 2, 1) := dk_28 (dk_at dksJ5_indexOf_2_1 4 rfl rfl)
theorem dJ5_indexOf_2_29 : decode bcJ5_indexOf_2 29 = .ok (.aload_n 0, 1) := dk_42 (dk_at dksJ5_indexOf_2_1 5 rfl rfl)
theorem dJ5_indexOf_2_30 : decode bcJ5_indexOf_2 30 = .ok (.invokevirtual 505, 3) := dk_182 1 249 (dk_at dksJ5_indexOf_2_1 6 rfl rfl)
theorem dJ5_indexOf_2_33 : decode bcJ5_indexOf_2 33 = .ok (.invokestatic 640, 3) := dk_184 2 128 (dk_at dksJ5_indexOf_2_1 9 rfl rfl)
theorem dJ5_indexOf_2_36 : decode bcJ5_indexOf_2 36 = .ok (.ireturn, 1) := dk_172 (dk_at dksJ5_indexOf_2_1 12 rfl rfl)
abbrev SJ5_indexOf_2 (pc : Nat) (i : xI) : Prop := Snd "java/lang/String" "indexOf" prog_38_method_80_code 3 (Option.some Jvm.ClassFile.FieldType.int) [] pc i
theorem oJ5_indexOf_2_0 : SJ5_indexOf_2 0 (i_aload 0 1) := snd_aload_n dJ5_indexOf_2_0 rfl
theorem oJ5_indexOf_2_1 : SJ5_indexOf_2 1 (i_cv 22 45 0 4) := snd_cv rfl infJ5_isLatin1 (by decide) rfl (xVm_V dJ5_indexOf_2_1 rfl q454 q455 q456 q137 q457 pdJ5_isLatin1)
theorem oJ5_indexOf_2_4 : SJ5_indexOf_2 4 (i_if1 (fun x => x = 0) 23 7) := snd_if_eq dJ5_indexOf_2_4 (by decide)
theorem oJ5_indexOf_2_7 : SJ5_indexOf_2 7 (i_aload 0 8) := snd_aload_n dJ5_indexOf_2_7 rfl
theorem oJ5_indexOf_2_8 : SJ5_indexOf_2 8 (i_getf 22 0 11) := snd_getfS dJ5_indexOf_2_8 (by decide) q801
theorem oJ5_indexOf_2_11 : SJ5_indexOf_2 11 (i_iload 1 12) := snd_iload_n dJ5_indexOf_2_11 rfl
theorem oJ5_indexOf_2_12 : SJ5_indexOf_2 12 (i_iload 2 13) := snd_iload_n dJ5_indexOf_2_12 rfl
theorem oJ5_indexOf_2_13 : SJ5_indexOf_2 13 (i_aload 0 14) := snd_aload_n dJ5_indexOf_2_13 rfl
theorem oJ5_indexOf_2_14 : SJ5_indexOf_2 14 (i_cv 22 46 0 17) := snd_cv rfl infJ5_length (by decide) rfl (xVm_V dJ5_indexOf_2_14 rfl q460 q461 q462 q137 q463 pdJ5_length)
theorem oJ5_indexOf_2_17 : SJ5_indexOf_2 17 (i_cs 55 4 20) := snd_cs rfl infJ6_indexOf (by decide) (xSm_S dJ5_indexOf_2_17 q468 q469 q138 q470 pdJ6_indexOf)
theorem oJ5_indexOf_2_20 : SJ5_indexOf_2 20 (i_goto 36) := snd_goto dJ5_indexOf_2_20 (by decide)
theorem oJ5_indexOf_2_23 : SJ5_indexOf_2 23 (i_aload 0 24) := snd_aload_n dJ5_indexOf_2_23 rfl
theorem oJ5_indexOf_2_24 : SJ5_indexOf_2 24 (i_getf 22 0 27) := snd_getfS dJ5_indexOf_2_24 (by decide) q801
theorem oJ5_indexOf_2_27 : SJ5_indexOf_2 27 (i_iload 1 28) := snd_iload_n dJ5_indexOf_2_27 rfl
theorem oJ5_indexOf_2_28 : SJ5_indexOf_2 28 (i_iload 2 29) := snd_iload_n dJ5_indexOf_2_28 rfl
theorem oJ5_indexOf_2_29 : SJ5_indexOf_2 29 (i_aload 0 30) := snd_aload_n dJ5_indexOf_2_29 rfl
theorem oJ5_indexOf_2_30 : SJ5_indexOf_2 30 (i_cv 22 46 0 33) := snd_cv rfl infJ5_length (by decide) rfl (xVm_V dJ5_indexOf_2_30 rfl q460 q461 q462 q137 q463 pdJ5_length)
theorem oJ5_indexOf_2_33 : SJ5_indexOf_2 33 (i_no) := snd_no
theorem oJ5_indexOf_2_36 : SJ5_indexOf_2 36 (i_iret) := snd_iret dJ5_indexOf_2_36 rfl
theorem okJ5_indexOf_2 : ∀ q ∈ cJ5_indexOf_2, SJ5_indexOf_2 q.1 q.2 := List.forall_mem_cons.mpr ⟨oJ5_indexOf_2_0, List.forall_mem_cons.mpr ⟨oJ5_indexOf_2_1, List.forall_mem_cons.mpr ⟨oJ5_indexOf_2_4, List.forall_mem_cons.mpr ⟨oJ5_indexOf_2_7, List.forall_mem_cons.mpr ⟨oJ5_indexOf_2_8, List.forall_mem_cons.mpr ⟨oJ5_indexOf_2_11, List.forall_mem_cons.mpr ⟨oJ5_indexOf_2_12, List.forall_mem_cons.mpr ⟨oJ5_indexOf_2_13, List.forall_mem_cons.mpr ⟨oJ5_indexOf_2_14, List.forall_mem_cons.mpr ⟨oJ5_indexOf_2_17, List.forall_mem_cons.mpr ⟨oJ5_indexOf_2_20, List.forall_mem_cons.mpr ⟨oJ5_indexOf_2_23, List.forall_mem_cons.mpr ⟨oJ5_indexOf_2_24, List.forall_mem_cons.mpr ⟨oJ5_indexOf_2_27, List.forall_mem_cons.mpr ⟨oJ5_indexOf_2_28, List.forall_mem_cons.mpr ⟨oJ5_indexOf_2_29, List.forall_mem_cons.mpr ⟨oJ5_indexOf_2_30, List.forall_mem_cons.mpr ⟨oJ5_indexOf_2_33, List.forall_mem_cons.mpr ⟨oJ5_indexOf_2_36, fun _ h => absurd h List.not_mem_nil⟩⟩⟩⟩⟩⟩⟩⟩⟩⟩⟩⟩⟩⟩⟩⟩⟩⟩⟩
def dkwJ5_isLatin1_0 : List UInt8 := [178, 0, 38, 153, 0, 14, 42, 180, 0, 15, 154, 0, 7, 4, 167, 0, 4, 3, 172]
abbrev dktJ5_isLatin1_0 : List UInt8 := dkwJ5_isLatin1_0 ++ []
theorem dksJ5_isLatin1_0 : bcJ5_isLatin1.data.toList.drop 0 = dktJ5_isLatin1_0 := by decide +kernel
theorem dJ5_isLatin1_0 : decode bcJ5_isLatin1 0 = .ok (.getstatic 38, 3) := dk_178 0 38 (dk_at dksJ5_isLatin1_0 0 rfl rfl)
theorem dJ5_isLatin1_3 : decode bcJ5_isLatin1 3 = .ok (.ifCond .eq 14, 3) := dk_153 0 14 (dk_at dksJ5_isLatin1_0 3 rfl rfl)
theorem dJ5_isLatin1_6 : decode bcJ5_isLatin1 6 = .ok (.aload_n 0, 1) := dk_42 (dk_at dksJ5_isLatin1_0 6 rfl rfl)
theorem dJ5_isLatin1_7 : decode bcJ5_isLatin1 7 = .ok (.getfield 15, 3) := dk_180 0 15 (dk_at dksJ5_isLatin1_0 7 rfl rfl)
theorem dJ5_isLatin1_10 : decode bcJ5_isLatin1 10 = .ok (.ifCond .ne 7, 3) := dk_154 0 7 (dk_at dksJ5_isLatin1_0 10 rfl rfl)
theorem dJ5_isLatin1_13 : decode bcJ5_isLatin1 13 = .ok (.iconst 1, 1) := dk_4 (dk_at dksJ5_isLatin1_0 13 rfl rfl)
theorem dJ5_isLatin1_14 : decode bcJ5_isLatin1 14 = .ok (.goto 4, 3) := dk_167 0 4 (dk_at dksJ5_isLatin1_0 14 rfl rfl)
theorem dJ5_isLatin1_17 : decode bcJ5_isLatin1 17 = .ok (.iconst 0, 1) := dk_3 (dk_at dksJ5_isLatin1_0 17 rfl rfl)
theorem dJ5_isLatin1_18 : decode bcJ5_isLatin1 18 = .ok (.ireturn, 1) := dk_172 (dk_at dksJ5_isLatin1_0 18 rfl rfl)
abbrev SJ5_isLatin1 (pc : Nat) (i : xI) : Prop := Snd "java/lang/String" "isLatin1" prog_38_method_154_code 1 (Option.some Jvm.ClassFile.FieldType.boolean) [] pc i
theorem oJ5_isLatin1_0 : SJ5_isLatin1 0 (i_const (.int (nI 1)) 3) := snd_gets dJ5_isLatin1_0 xst_COMPACT_STRINGS q458
theorem oJ5_isLatin1_3 : SJ5_isLatin1 3 (i_if1 (fun x => x = 0) 17 6) := snd_if_eq dJ5_isLatin1_3 (by decide)
theorem oJ5_isLatin1_6 : SJ5_isLatin1 6 (i_aload 0 7) := snd_aload_n dJ5_isLatin1_6 rfl
theorem oJ5_isLatin1_7 : SJ5_isLatin1 7 (i_getf 22 1 10) := snd_getfS dJ5_isLatin1_7 (by decide) q802
theorem oJ5_isLatin1_10 : SJ5_isLatin1 10 (i_if1 (fun x => ¬ x = 0) 17 13) := snd_if_ne dJ5_isLatin1_10 (by decide)
theorem oJ5_isLatin1_13 : SJ5_isLatin1 13 (i_const (.int (nI 1)) 14) := snd_iconst dJ5_isLatin1_13 (by decide)
theorem oJ5_isLatin1_14 : SJ5_isLatin1 14 (i_goto 18) := snd_goto dJ5_isLatin1_14 (by decide)
theorem oJ5_isLatin1_17 : SJ5_isLatin1 17 (i_const (.int (nI 0)) 18) := snd_iconst dJ5_isLatin1_17 (by decide)
theorem oJ5_isLatin1_18 : SJ5_isLatin1 18 (i_zret) := snd_zret dJ5_isLatin1_18 rfl
theorem okJ5_isLatin1 : ∀ q ∈ cJ5_isLatin1, SJ5_isLatin1 q.1 q.2 := List.forall_mem_cons.mpr ⟨oJ5_isLatin1_0, List.forall_mem_cons.mpr ⟨oJ5_isLatin1_3, List.forall_mem_cons.mpr ⟨oJ5_isLatin1_6, List.forall_mem_cons.mpr ⟨oJ5_isLatin1_7, List.forall_mem_cons.mpr ⟨oJ5_isLatin1_10, List.forall_mem_cons.mpr ⟨oJ5_isLatin1_13, List.forall_mem_cons.mpr ⟨oJ5_isLatin1_14, List.forall_mem_cons.mpr ⟨oJ5_isLatin1_17, List.forall_mem_cons.mpr ⟨oJ5_isLatin1_18, fun _ h => absurd h List.not_mem_nil⟩⟩⟩⟩⟩⟩⟩⟩⟩
def dkwJ5_length_0 : List UInt8 := [42, 180, 0, 9, 190, 42, 182, 1, 79, 122, 172]
abbrev dktJ5_length_0 : List UInt8 := dkwJ5_length_0 ++ []
theorem dksJ5_length_0 : bcJ5_length.data.toList.drop 0 = dktJ5_length_0 := by decide +kernel
theorem dJ5_length_0 : decode bcJ5_length 0 = .ok (.aload_n 0, 1) := dk_42 (dk_at dksJ5_length_0 0 rfl rfl)
theorem dJ5_length_1 : decode bcJ5_length 1 = .ok (.getfield 9, 3) := dk_180 0 9 (dk_at dksJ5_length_0 1 rfl rfl)
theorem dJ5_length_4 : decode bcJ5_length 4 = .ok (.arraylength, 1) := dk_190 (dk_at dksJ5_length_0 4 rfl rfl)
theorem dJ5_length_5 : decode bcJ5_length 5 = .ok (.aload_n 0, 1) := dk_42 (dk_at dksJ5_length_0 5 rfl rfl)
theorem dJ5_length_6 : decode bcJ5_length 6 = .ok (.invokevirtual 335, 3) := dk_182 1 79 (dk_at dksJ5_length_0 6 rfl rfl)
theorem dJ5_length_9 : decode bcJ5_length 9 = .ok (.ishr, 1) := dk_122 (dk_at dksJ5_length_0 9 rfl rfl)
theorem dJ5_length_10 : decode bcJ5_length 10 = .ok (.ireturn, 1) := dk_172 (dk_at dksJ5_length_0 10 rfl rfl)
abbrev SJ5_length (pc : Nat) (i : xI) : Prop := Snd "java/lang/String" "length" prog_38_method_54_code 1 (Option.some Jvm.ClassFile.FieldType.int) [] pc i
theorem oJ5_length_0 : SJ5_length 0 (i_aload 0 1) := snd_aload_n dJ5_length_0 rfl
theorem oJ5_length_1 : SJ5_length 1 (i_getf 22 0 4) := snd_getfS dJ5_length_1 (by decide) q801
theorem oJ5_length_4 : SJ5_length 4 (i_len 5) := snd_len dJ5_length_4
theorem oJ5_length_5 : SJ5_length 5 (i_aload 0 6) := snd_aload_n dJ5_length_5 rfl
theorem oJ5_length_6 : SJ5_length 6 (i_cv 22 47 0 9) := snd_cv rfl infJ5_coder (by decide) rfl (xVm_V dJ5_length_6 rfl q464 q465 q466 q137 q467 pdJ5_coder)
theorem oJ5_length_9 : SJ5_length 9 (i_ii (fun x y => x >>> (y &&& 31)) 10) := snd_ishr dJ5_length_9
theorem oJ5_length_10 : SJ5_length 10 (i_iret) := snd_iret dJ5_length_10 rfl
theorem okJ5_length : ∀ q ∈ cJ5_length, SJ5_length q.1 q.2 := List.forall_mem_cons.mpr ⟨oJ5_length_0, List.forall_mem_cons.mpr ⟨oJ5_length_1, List.forall_mem_cons.mpr ⟨oJ5_length_4, List.forall_mem_cons.mpr ⟨oJ5_length_5, List.forall_mem_cons.mpr ⟨oJ5_length_6, List.forall_mem_cons.mpr ⟨oJ5_length_9, List.forall_mem_cons.mpr ⟨oJ5_length_10, fun _ h => absurd h List.not_mem_nil⟩⟩⟩⟩⟩⟩⟩
def dkwJ5_coder_0 : List UInt8 := [178, 0, 38, 153, 0, 10, 42, 180, 0, 15, 167, 0, 4, 4, 172]
abbrev dktJ5_coder_0 : List UInt8 := dkwJ5_coder_0 ++ []
theorem dksJ5_coder_0 : bcJ5_coder.data.toList.drop 0 = dktJ5_coder_0 := by decide +kernel
theorem dJ5_coder_0 : decode bcJ5_coder 0 = .ok (.getstatic 38, 3) := dk_178 0 38 (dk_at dksJ5_coder_0 0 rfl rfl)
theorem dJ5_coder_3 : decode bcJ5_coder 3 = .ok (.ifCond .eq 10, 3) := dk_153 0 10 (dk_at dksJ5_coder_0 3 rfl rfl)
theorem dJ5_coder_6 : decode bcJ5_coder 6 = .ok (.aload_n 0, 1) := dk_42 (dk_at dksJ5_coder_0 6 rfl rfl)
theorem dJ5_coder_7 : decode bcJ5_coder 7 = .ok (.getfield 15, 3) := dk_180 0 15 (dk_at dksJ5_coder_0 7 rfl rfl)
theorem dJ5_coder_10 : decode bcJ5_coder 10 = .ok (.goto 4, 3) := dk_167 0 4 (dk_at dksJ5_coder_0 10 rfl rfl)
theorem dJ5_coder_13 : decode bcJ5_coder 13 = .ok (.iconst 1, 1) := dk_4 (dk_at dksJ5_coder_0 13 rfl rfl)
theorem dJ5_coder_14 : decode bcJ5_coder 14 = .ok (.ireturn, 1) := dk_172 (dk_at dksJ5_coder_0 14 rfl rfl)
abbrev SJ5_coder (pc : Nat) (i : xI) : Prop := Snd "java/lang/String" "coder" prog_38_method_152_code 1 (Option.some Jvm.ClassFile.FieldType.byte) [] pc i
theorem oJ5_coder_0 : SJ5_coder 0 (i_const (.int (nI 1)) 3) := snd_gets dJ5_coder_0 xst_COMPACT_STRINGS q458
theorem oJ5_coder_3 : SJ5_coder 3 (i_if1 (fun x => x = 0) 13 6) := snd_if_eq dJ5_coder_3 (by decide)
theorem oJ5_coder_6 : SJ5_coder 6 (i_aload 0 7) := snd_aload_n dJ5_coder_6 rfl
theorem oJ5_coder_7 : SJ5_coder 7 (i_getf 22 1 10) := snd_getfS dJ5_coder_7 (by decide) q802
theorem oJ5_coder_10 : SJ5_coder 10 (i_goto 14) := snd_goto dJ5_coder_10 (by decide)
theorem oJ5_coder_13 : SJ5_coder 13 (i_const (.int (nI 1)) 14) := snd_iconst dJ5_coder_13 (by decide)
theorem oJ5_coder_14 : SJ5_coder 14 (i_nret .byte) := snd_nret dJ5_coder_14 rfl
theorem okJ5_coder : ∀ q ∈ cJ5_coder, SJ5_coder q.1 q.2 := List.forall_mem_cons.mpr ⟨oJ5_coder_0, List.forall_mem_cons.mpr ⟨oJ5_coder_3, List.forall_mem_cons.mpr ⟨oJ5_coder_6, List.forall_mem_cons.mpr ⟨oJ5_coder_7, List.forall_mem_cons.mpr ⟨oJ5_coder_10, List.forall_mem_cons.mpr ⟨oJ5_coder_13, List.forall_mem_cons.mpr ⟨oJ5_coder_14, fun _ h => absurd h List.not_mem_nil⟩⟩⟩⟩⟩⟩⟩
def dkwJ5_charAt_1 : List UInt8 := [172]
abbrev dktJ5_charAt_1 : List UInt8 := dkwJ5_charAt_1 ++ []
def dkwJ5_charAt_0 : List UInt8 := [42, 182, 1, 236, 153, 0, 12, 42, 180, 0, 9, 27, 184, 1, 239, 172, 42, 180, 0, 9, 27, 184, 1, 242]
abbrev dktJ5_charAt_0 : List UInt8 := dkwJ5_charAt_0 ++ dktJ5_charAt_1
theorem dksJ5_charAt_0 : bcJ5_charAt.data.toList.drop 0 = dktJ5_charAt_0 := by decide +kernel
theorem dksJ5_charAt_1 : bcJ5_charAt.data.toList.drop 24 = dktJ5_charAt_1 := dk_seg dksJ5_charAt_0 24 rfl rfl
theorem dJ5_charAt_0 : decode bcJ5_charAt 0 = .ok (.aload_n 0, 1) := dk_42 (dk_at dksJ5_charAt_0 0 rfl rfl)
theorem dJ5_charAt_1 : decode bcJ5_charAt 1 = .ok (.invokevirtual 492, 3) := dk_182 1 236 (dk_at dksJ5_charAt_0 1 rfl rfl)
theorem dJ5_charAt_4 : decode bcJ5_charAt 4 = .ok (.ifCond .eq 12, 3) := dk_153 0 12 (dk_at dksJ5_charAt_0 4 rfl rfl)
theorem dJ5_charAt_7 : decode bcJ5_charAt 7 = .ok (.aload_n 0, 1) := dk_42 (dk_at dksJ5_charAt_0 7 rfl rfl)
theorem dJ5_charAt_8 : decode bcJ5_charAt 8 = .ok (.getfield 9, 3) := dk_180 0 9 (dk_at dksJ5_charAt_0 8 rfl rfl)
theorem dJ5_charAt_11 : decode bcJ5_charAt 11 = .ok (.iload_n 1, 1) := dk_27 (dk_at dksJ5_charAt_0 11 rfl rfl)
theorem dJ5_charAt_12 : decode bcJ5_charAt 12 = .ok (.invokestatic 495, 3) := dk_184 1 239 (dk_at dksJ5_charAt_0 12 rfl rfl)
theorem dJ5_charAt_15 : decode bcJ5_charAt 15 = .ok (.ireturn, 1) := dk_172 (dk_at dksJ5_charAt_0 15 rfl rfl)
theorem dJ5_charAt_16 : decode bcJ5_charAt 16 = .ok (.aload_n 0, 1) := dk_42 (dk_at dksJ5_charAt_0 16 rfl rfl)
theorem dJ5_charAt_17 : decode bcJ5_charAt 17 = .ok (.getfield 9, 3) := dk_180 0 9 (dk_at dksJ5_charAt_0 17 rfl rfl)
theorem dJ5_charAt_20 : decode bcJ5_charAt 20 = .ok (.iload_n 1, 1) := dk_27 (dk_at dksJ5_charAt_0 20 rfl rfl)
theorem dJ5_charAt_21 : decode bcJ5_charAt 21 = .ok (.invokestatic 498, 3) := dk_184 1 242 (dk_at dksJ5_charAt_0 21 rfl rfl)
theorem dJ5_charAt_24 : decode bcJ5_charAt 24 = .ok (.ireturn, 1) := dk_172 (dk_at dksJ5_charAt_1 0 rfl rfl)
abbrev SJ5_charAt (pc : Nat) (i : xI) : Prop := Snd "java/lang/String" "charAt" prog_38_method_56_code 2 (Option.some Jvm.ClassFile.FieldType.char) [] pc i
theorem oJ5_charAt_0 : SJ5_charAt 0 (i_aload 0 1) := snd_aload_n dJ5_charAt_0 rfl
theorem oJ5_charAt_1 : SJ5_charAt 1 (i_cv 22 45 0 4) := snd_cv rfl infJ5_isLatin1 (by decide) rfl (xVm_V dJ5_charAt_1 rfl q454 q455 q456 q137 q457 pdJ5_isLatin1)
theorem oJ5_charAt_4 : SJ5_charAt 4 (i_if1 (fun x => x = 0) 16 7) := snd_if_eq dJ5_charAt_4 (by decide)
theorem oJ5_charAt_7 : SJ5_charAt 7 (i_aload 0 8) := snd_aload_n dJ5_charAt_7 rfl
theorem oJ5_charAt_8 : SJ5_charAt 8 (i_getf 22 0 11) := snd_getfS dJ5_charAt_8 (by decide) q801
theorem oJ5_charAt_11 : SJ5_charAt 11 (i_iload 1 12) := snd_iload_n dJ5_charAt_11 rfl
theorem oJ5_charAt_12 : SJ5_charAt 12 (i_cs 58 2 15) := snd_cs rfl infJ6_charAt (by decide) (xSm_S dJ5_charAt_12 q549 q550 q138 q551 pdJ6_charAt)
theorem oJ5_charAt_15 : SJ5_charAt 15 (i_nret .char) := snd_nret dJ5_charAt_15 rfl
theorem oJ5_charAt_16 : SJ5_charAt 16 (i_aload 0 17) := snd_aload_n dJ5_charAt_16 rfl
theorem oJ5_charAt_17 : SJ5_charAt 17 (i_getf 22 0 20) := snd_getfS dJ5_charAt_17 (by decide) q801
theorem oJ5_charAt_20 : SJ5_charAt 20 (i_iload 1 21) := snd_iload_n dJ5_charAt_20 rfl
theorem oJ5_charAt_21 : SJ5_charAt 21 (i_no) := snd_no
theorem oJ5_charAt_24 : SJ5_charAt 24 (i_nret .char) := snd_nret dJ5_charAt_24 rfl
theorem okJ5_charAt : ∀ q ∈ cJ5_charAt, SJ5_charAt q.1 q.2 := List.forall_mem_cons.mpr ⟨oJ5_charAt_0, List.forall_mem_cons.mpr ⟨oJ5_charAt_1, List.forall_mem_cons.mpr ⟨oJ5_charAt_4, List.forall_mem_cons.mpr ⟨oJ5_charAt_7, List.forall_mem_cons.mpr ⟨oJ5_charAt_8, List.forall_mem_cons.mpr ⟨oJ5_charAt_11, List.forall_mem_cons.mpr ⟨oJ5_charAt_12, List.forall_mem_cons.mpr ⟨oJ5_charAt_15, List.forall_mem_cons.mpr ⟨oJ5_charAt_16, List.forall_mem_cons.mpr ⟨oJ5_charAt_17, List.forall_mem_cons.mpr ⟨oJ5_charAt_20, List.forall_mem_cons.mpr ⟨oJ5_charAt_21, List.forall_mem_cons.mpr ⟨oJ5_charAt_24, fun _ h => absurd h List.not_mem_nil⟩⟩⟩⟩⟩⟩⟩⟩⟩⟩⟩⟩⟩
def dkwJ5_checkIndex_0 : List UInt8 := [26, 27, 178, 4, 29, 184, 4, 35, 87, 177]
abbrev dktJ5_checkIndex_0 : List UInt8 := dkwJ5_checkIndex_0 ++ []
theorem dksJ5_checkIndex_0 : bcJ5_checkIndex.data.toList.drop 0 = dktJ5_checkIndex_0 := by decide +kernel
theorem dJ5_checkIndex_0 : decode bcJ5_checkIndex 0 = .ok (.iload_n 0, 1) := dk_26 (dk_at dksJ5_checkIndex_0 0 rfl rfl)
theorem dJ5_checkIndex_1 : decode bcJ5_checkIndex 1 = .ok (.iload_n 1, 1) := dk_27 (dk_at dksJ5_checkIndex_0 1 rfl rfl)
theorem dJ5_checkIndex_2 : decode bcJ5_checkIndex 2 = .ok (.getstatic 1053, 3) := dk_178 4 29 (dk_at dksJ5_checkIndex_0 2 rfl rfl)
theorem dJ5_checkIndex_5 : decode bcJ5_checkIndex 5 = .ok (.invokestatic 1059, 3) := dk_184 4 35 (dk_at dksJ5_checkIndex_0 5 rfl rfl)
theorem dJ5_checkIndex_8 : decode bcJ5_checkIndex 8 = .ok (.pop, 1) := dk_87 (dk_at dksJ5_checkIndex_0 8 rfl rfl)
theorem dJ5_checkIndex_9 : decode bcJ5_checkIndex 9 = .ok (.return_, 1) := dk_177 (dk_at dksJ5_checkIndex_0 9 rfl rfl)
abbrev SJ5_checkIndex (pc : Nat) (i : xI) : Prop := Snd "java/lang/String" "checkIndex" prog_38_method_155_code 2 (Option.none : Option Jvm.ClassFile.FieldType) [] pc i
theorem oJ5_checkIndex_0 : SJ5_checkIndex 0 (i_iload 0 1) := snd_iload_n dJ5_checkIndex_0 rfl
theorem oJ5_checkIndex_1 : SJ5_checkIndex 1 (i_iload 1 2) := snd_iload_n dJ5_checkIndex_1 rfl
theorem oJ5_checkIndex_2 : SJ5_checkIndex 2 (i_const (.ref 35) 5) := snd_gets dJ5_checkIndex_2 xst_SIOOBE_FORMATTER q501
theorem oJ5_checkIndex_5 : SJ5_checkIndex 5 (i_cs 40 3 8) := snd_cs rfl infJ4_checkIndex (by decide) (xSm_S dJ5_checkIndex_5 q555 q335 q135 q336 pdJ4_checkIndex)
theorem oJ5_checkIndex_8 : SJ5_checkIndex 8 (i_pop 9) := snd_pop dJ5_checkIndex_8
theorem oJ5_checkIndex_9 : SJ5_checkIndex 9 (i_vret) := snd_vret dJ5_checkIndex_9 rfl
theorem okJ5_checkIndex : ∀ q ∈ cJ5_checkIndex, SJ5_checkIndex q.1 q.2 := List.forall_mem_cons.mpr ⟨oJ5_checkIndex_0, List.forall_mem_cons.mpr ⟨oJ5_checkIndex_1, List.forall_mem_cons.mpr ⟨oJ5_checkIndex_2, List.forall_mem_cons.mpr ⟨oJ5_checkIndex_5, List.forall_mem_cons.mpr ⟨oJ5_checkIndex_8, List.forall_mem_cons.mpr ⟨oJ5_checkIndex_9, fun _ h => absurd h List.not_mem_nil⟩⟩⟩⟩⟩⟩
def dkwJ5_init_0 : List UInt8 := [42, 43, 1, 183, 1, 233, 177]
abbrev dktJ5_init_0 : List UInt8 := dkwJ5_init_0 ++ []
theorem dksJ5_init_0 : bcJ5_init.data.toList.drop 0 = dktJ5_init_0 := by decide +kernel
theorem dJ5_init_0 : decode bcJ5_init 0 = .ok (.aload_n 0, 1) := dk_42 (dk_at dksJ5_init_0 0 rfl rfl)
theorem dJ5_init_1 : decode bcJ5_init 1 = .ok (.aload_n 1, 1) := dk_43 (dk_at dksJ5_init_0 1 rfl rfl)
theorem dJ5_init_2 : decode bcJ5_init 2 = .ok (.aconst_null, 1) := dk_1 (dk_at dksJ5_init_0 2 rfl rfl)
theorem dJ5_init_3 : decode bcJ5_init 3 = .ok (.invokespecial 489, 3) := dk_183 1 233 (dk_at dksJ5_init_0 3 rfl rfl)
theorem dJ5_init_6 : decode bcJ5_init 6 = .ok (.return_, 1) := dk_177 (dk_at dksJ5_init_0 6 rfl rfl)
abbrev SJ5_init (pc : Nat) (i : xI) : Prop := Snd "java/lang/String" "<init>" prog_38_method_53_code 2 (Option.none : Option Jvm.ClassFile.FieldType) [] pc i
theorem oJ5_init_0 : SJ5_init 0 (i_aload 0 1) := snd_aload_n dJ5_init_0 rfl
theorem oJ5_init_1 : SJ5_init 1 (i_aload 1 2) := snd_aload_n dJ5_init_1 rfl
theorem oJ5_init_2 : SJ5_init 2 (i_const .null 3) := snd_null dJ5_init_2
theorem oJ5_init_3 : SJ5_init 3 (i_ci [22] 53 2 6) := snd_ci rfl infJ5_init_2 (by decide) (xcls_ok _ (by decide)) (xIm_I dJ5_init_3 rfl q764 q765 q137 q766 pdJ5_init_2)
theorem oJ5_init_6 : SJ5_init 6 (i_vret) := snd_vret dJ5_init_6 rfl
theorem okJ5_init : ∀ q ∈ cJ5_init, SJ5_init q.1 q.2 := List.forall_mem_cons.mpr ⟨oJ5_init_0, List.forall_mem_cons.mpr ⟨oJ5_init_1, List.forall_mem_cons.mpr ⟨oJ5_init_2, List.forall_mem_cons.mpr ⟨oJ5_init_3, List.forall_mem_cons.mpr ⟨oJ5_init_6, fun _ h => absurd h List.not_mem_nil⟩⟩⟩⟩⟩
def dkwJ5_init_2_4 : List UInt8 := [181, 0, 9, 177]
abbrev dktJ5_init_2_4 : List UInt8 := dkwJ5_init_2_4 ++ []
def dkwJ5_init_2_3 : List UInt8 := [184, 0, 47, 181, 0, 15, 177, 42, 4, 181, 0, 15, 42, 45, 3, 21, 4, 4, 120, 184, 0, 54]
abbrev dktJ5_init_2_3 : List UInt8 := dkwJ5_init_2_3 ++ dktJ5_init_2_4
def dkwJ5_init_2_2 : List UInt8 := [180, 4, 24, 153, 0, 28, 42, 45, 3, 21, 4, 184, 4, 27, 181, 0, 9, 42, 42, 180, 0, 9, 21, 4]
abbrev dktJ5_init_2_2 : List UInt8 := dkwJ5_init_2_2 ++ dktJ5_init_2_3
def dkwJ5_init_2_1 : List UInt8 := [181, 0, 15, 42, 45, 3, 21, 4, 184, 0, 54, 181, 0, 9, 167, 0, 59, 178, 0, 38, 153, 0, 35, 43]
abbrev dktJ5_init_2_1 : List UInt8 := dkwJ5_init_2_1 ++ dktJ5_init_2_2
def dkwJ5_init_2_0 : List UInt8 := [42, 183, 0, 1, 43, 182, 2, 40, 78, 43, 182, 2, 37, 54, 4, 43, 182, 4, 23, 153, 0, 22, 42, 3]
abbrev dktJ5_init_2_0 : List UInt8 := dkwJ5_init_2_0 ++ dktJ5_init_2_1
theorem dksJ5_init_2_0 : bcJ5_init_2.data.toList.drop 0 = dktJ5_init_2_0 := by decide +kernel
theorem dksJ5_init_2_1 : bcJ5_init_2.data.toList.drop 24 = dktJ5_init_2_1 := dk_seg dksJ5_init_2_0 24 rfl rfl
theorem dksJ5_init_2_2 : bcJ5_init_2.data.toList.drop 48 = dktJ5_init_2_2 := dk_seg dksJ5_init_2_1 24 rfl rfl
theorem dksJ5_init_2_3 : bcJ5_init_2.data.toList.drop 72 = dktJ5_init_2_3 := dk_seg dksJ5_init_2_2 24 rfl rfl
theorem dksJ5_init_2_4 : bcJ5_init_2.data.toList.drop 94 = dktJ5_init_2_4 := dk_seg dksJ5_init_2_3 22 rfl rfl
theorem dJ5_init_2_0 : decode bcJ5_init_2 0 = .ok (.aload_n 0, 1) := dk_42 (dk_at dksJ5_init_2_0 0 rfl rfl)
theorem dJ5_init_2_1 : decode bcJ5_init_2 1 = .ok (.invokespecial 1, 3) := dk_183 0 1 (dk_at dksJ5_init_2_0 1 rfl rfl)
theorem dJ5_init_2_4 : decode bcJ5_init_2 4 = .ok (.aload_n 1, 1) := dk_43 (dk_at dksJ5_init_2_0 4 rfl rfl)
theorem dJ5_init_2_5 : decode bcJ5_init_2 5 = .ok (.invokevirtual 552, 3) := dk_182 2 40 (dk_at dksJ5_init_2_0 5 rfl rfl)
theorem dJ5_init_2_8 : decode bcJ5_init_2 8 = .ok (.astore_n 3, 1) := dk_78 (dk_at dksJ5_init_2_0 8 rfl rfl)
theorem dJ5_init_2_9 : decode bcJ5_init_2 9 = .ok (.aload_n 1, 1) := dk_43 (dk_at dksJ5_init_2_0 9 rfl rfl)
theorem dJ5_init_2_10 : decode bcJ5_init_2 10 = .ok (.invokevirtual 549, 3) := dk_182 2 37 (dk_at dksJ5_init_2_0 10 rfl rfl)
theorem dJ5_init_2_13 : decode bcJ5_init_2 13 = .ok (.istore 4, 2) := dk_54 4 (dk_at dksJ5_init_2_0 13 rfl rfl)
theorem dJ5_init_2_15 : decode bcJ5_init_2 15 = .ok (.aload_n 1, 1) := dk_43 (dk_at dksJ5_init_2_0 15 rfl rfl)
theorem dJ5_init_2_16 : decode bcJ5_init_2 16 = .ok (.invokevirtual 1047, 3) := dk_182 4 23 (dk_at dksJ5_init_2_0 16 rfl rfl)
theorem dJ5_init_2_19 : decode bcJ5_init_2 19 = .ok (.ifCond .eq 22, 3) := dk_153 0 22 (dk_at dksJ5_init_2_0 19 rfl rfl)
theorem dJ5_init_2_22 : decode bcJ5_init_2 22 = .ok (.aload_n 0, 1) := dk_42 (dk_at dksJ5_init_2_0 22 rfl rfl)
theorem dJ5_init_2_23 : decode bcJ5_init_2 23 = .ok (.iconst 0, 1) := dk_3 (dk_at dksJ5_init_2_0 23 rfl rfl)
theorem dJ5_init_2_24 : decode bcJ5_init_2 24 = .ok (.putfield 15, 3) := dk_181 0 15 (dk_at dksJ5_init_2_1 0 rfl rfl)
theorem dJ5_init_2_27 : decode bcJ5_init_2 27 = .ok (.aload_n 0, 1) := dk_42 (dk_at dksJ5_init_2_1 3 rfl rfl)
theorem dJ5_init_2_28 : decode bcJ5_init_2 28 = .ok (.aload_n 3, 1) := dk_45 (dk_at dksJ5_init_2_1 4 rfl rfl)
theorem dJ5_init_2_29 : decode bcJ5_init_2 29 = .ok (.iconst 0, 1) := dk_3 (dk_at dksJ5_init_2_1 5 rfl rfl)
theorem dJ5_init_2_30 : decode bcJ5_init_2 30 = .ok (.iload 4, 2) := dk_21 4 (dk_at dksJ5_init_2_1 6 rfl rfl)
theorem dJ5_init_2_32 : decode bcJ5_init_2 32 = .ok (.invokestatic 54, 3) := dk_184 0 54 (dk_at dksJ5_init_2_1 8 rfl rfl)
theorem dJ5_init_2_35 : decode bcJ5_init_2 35 = .ok (.putfield 9, 3) := dk_181 0 9 (dk_at dksJ5_init_2_1 11 rfl rfl)
theorem dJ5_init_2_38 : decode bcJ5_init_2 38 = .ok (.goto 59, 3) := dk_167 0 59 (dk_at dksJ5_init_2_1 14 rfl rfl)
theorem dJ5_init_2_41 : decode bcJ5_init_2 41 = .ok (.getstatic 38, 3) := dk_178 0 38 (dk_at dksJ5_init_2_1 17 rfl rfl)
theorem dJ5_init_2_44 : decode bcJ5_init_2 44 = .ok (.ifCond .eq 35, 3) := dk_153 0 35 (dk_at dksJ5_init_2_1 20 rfl rfl)
theorem dJ5_init_2_47 : decode bcJ5_init_2 47 = .ok (.aload_n 1, 1) := dk_43 (dk_at dksJ5_init_2_1 23 rfl rfl)
theorem dJ5_init_2_48 : decode bcJ5_init_2 48 = .ok (.getfield 1048, 3) := dk_180 4 24 (dk_at dksJ5_init_2_2 0 rfl rfl)
theorem dJ5_init_2_51 : decode bcJ5_init_2 51 = .ok (.ifCond .eq 28, 3) := dk_153 0 28 (dk_at dksJ5_init_2_2 3 rfl rfl)
theorem dJ5_init_2_54 : decode bcJ5_init_2 54 = .ok (.aload_n 0, 1) := dk_42 (dk_at dksJ5_init_2_2 6 rfl rfl)
theorem dJ5_init_2_55 : decode bcJ5_init_2 55 = .ok (.aload_n 3, 1) := dk_45 (dk_at dksJ5_init_2_2 7 rfl rfl)
theorem dJ5_init_2_56 : decode bcJ5_init_2 56 = .ok (.iconst 0, 1) := dk_3 (dk_at dksJ5_init_2_2 8 rfl rfl)
theorem dJ5_init_2_57 : decode bcJ5_init_2 57 = .ok (.iload 4, 2) := dk_21 4 (dk_at dksJ5_init_2_2 9 rfl rfl)
theorem dJ5_init_2_59 : decode bcJ5_init_2 59 = .ok (.invokestatic 1051, 3) := dk_184 4 27 (dk_at dksJ5_init_2_2 11 rfl rfl)
theorem dJ5_init_2_62 : decode bcJ5_init_2 62 = .ok (.putfield 9, 3) := dk_181 0 9 (dk_at dksJ5_init_2_2 14 rfl rfl)
theorem dJ5_init_2_65 : decode bcJ5_init_2 65 = .ok (.aload_n 0, 1) := dk_42 (dk_at dksJ5_init_2_2 17 rfl rfl)
theorem dJ5_init_2_66 : decode bcJ5_init_2 66 = .ok (.aload_n 0, 1) := dk_42 (dk_at dksJ5_init_2_2 18 rfl rfl)
theorem dJ5_init_2_67 : decode bcJ5_init_2 67 = .ok (.getfield 9, 3) := dk_180 0 9 (dk_at dksJ5_init_2_2 19 rfl rfl)
theorem dJ5_init_2_70 : decode bcJ5_init_2 70 = .ok (.iload 4, 2) := dk_21 4 (dk_at dksJ5_init_2_2 22 rfl rfl)
theorem dJ5_init_2_72 : decode bcJ5_init_2 72 = .ok (.invokestatic 47, 3) := dk_184 0 47 (dk_at dksJ5_init_2_3 0 rfl rfl)
theorem dJ5_init_2_75 : decode bcJ5_init_2 75 = .ok (.putfield 15, 3) := dk_181 0 15 (dk_at dksJ5_init_2_3 3 rfl rfl)
theorem dJ5_init_2_78 : decode bcJ5_init_2 78 = .ok (.return_, 1) := dk_177 (dk_at dksJ5_init_2_3 6 rfl rfl)
theorem dJ5_init_2_79 : decode bcJ5_init_2 79 = .ok (.aload_n 0, 1) := dk_42 (dk_at dksJ5_init_2_3 7 rfl rfl)
theorem dJ5_init_2_80 : decode bcJ5_init_2 80 = .ok (.iconst 1, 1) := dk_4 (dk_at dksJ5_init_2_3 8 rfl rfl)
theorem dJ5_init_2_81 : decode bcJ5_init_2 81 = .ok (.putfield 15, 3) := dk_181 0 15 (dk_at dksJ5_init_2_3 9 rfl rfl)
theorem dJ5_init_2_84 : decode bcJ5_init_2 84 = .ok (.aload_n 0, 1) := dk_42 (dk_at dksJ5_init_2_3 12 rfl rfl)
theorem dJ5_init_2_85 : decode bcJ5_init_2 85 = .ok (.aload_n 3, 1) := dk_45 (dk_at dksJ5_init_2_3 13 rfl rfl)
theorem dJ5_init_2_86 : decode bcJ5_init_2 86 = .ok (.iconst 0, 1) := dk_3 (dk_at dksJ5_init_2_3 14 rfl rfl)
theorem dJ5_init_2_87 : decode bcJ5_init_2 87 = .ok (.iload 4, 2) := dk_21 4 (dk_at dksJ5_init_2_3 15 rfl rfl)
theorem dJ5_init_2_89 : decode bcJ5_init_2 89 = .ok (.iconst 1, 1) := dk_4 (dk_at dksJ5_init_2_3 17 rfl rfl)
theorem dJ5_init_2_90 : decode bcJ5_init_2 90 = .ok (.ishl, 1) := dk_120 (dk_at dksJ5_init_2_3 18 rfl rfl)
theorem dJ5_init_2_91 : decode bcJ5_init_2 91 = .ok (.invokestatic 54, 3) := dk_184 0 54 (dk_at dksJ5_init_2_3 19 rfl rfl)
theorem dJ5_init_2_94 : decode bcJ5_init_2 94 = .ok (.putfield 9, 3) := dk_181 0 9 (dk_at dksJ5_init_2_4 0 rfl rfl)
theorem dJ5_init_2_97 : decode bcJ5_init_2 97 = .ok (.return_, 1) := dk_177 (dk_at dksJ5_init_2_4 3 rfl rfl)
abbrev SJ5_init_2 (pc : Nat) (i : xI) : Prop := Snd "java/lang/String" "<init>" prog_38_method_150_code 5 (Option.none : Option Jvm.ClassFile.FieldType) [] pc i
theorem oJ5_init_2_0 : SJ5_init_2 0 (i_aload 0 1) := snd_aload_n dJ5_init_2_0 rfl
theorem oJ5_init_2_1 : SJ5_init_2 1 (i_oi 4) := snd_oi dJ5_init_2_1 q767 q177 q_oicode
theorem oJ5_init_2_4 : SJ5_init_2 4 (i_aload 1 5) := snd_aload_n dJ5_init_2_4 rfl
theorem oJ5_init_2_5 : SJ5_init_2 5 (i_cv 23 14 0 8) := snd_cv rfl infJ13_getValue (by decide) rfl (xVm_U dJ5_init_2_5 q768 q770 q771 q769 q146 q772 pdJ13_getValue)
theorem oJ5_init_2_8 : SJ5_init_2 8 (i_astore 3 9) := snd_astore_n dJ5_init_2_8 rfl (by decide)
theorem oJ5_init_2_9 : SJ5_init_2 9 (i_aload 1 10) := snd_aload_n dJ5_init_2_9 rfl
theorem oJ5_init_2_10 : SJ5_init_2 10 (i_cv 23 19 0 13) := snd_cv rfl infJ14_length (by decide) rfl (xVm_O dJ5_init_2_10 q773 q775 q776 q777 q774 q147 q778 q780 pdJ13_length)
theorem oJ5_init_2_13 : SJ5_init_2 13 (i_istore 4 15) := snd_istore dJ5_init_2_13 (by decide)
theorem oJ5_init_2_15 : SJ5_init_2 15 (i_aload 1 16) := snd_aload_n dJ5_init_2_15 rfl
theorem oJ5_init_2_16 : SJ5_init_2 16 (i_cv 23 12 0 19) := snd_cv rfl infJ13_isLatin1 (by decide) rfl (xVm_U dJ5_init_2_16 q781 q724 q725 q723 q146 q726 pdJ13_isLatin1)
theorem oJ5_init_2_19 : SJ5_init_2 19 (i_if1 (fun x => x = 0) 41 22) := snd_if_eq dJ5_init_2_19 (by decide)
theorem oJ5_init_2_22 : SJ5_init_2 22 (i_aload 0 23) := snd_aload_n dJ5_init_2_22 rfl
theorem oJ5_init_2_23 : SJ5_init_2 23 (i_const (.int (nI 0)) 24) := snd_iconst dJ5_init_2_23 (by decide)
theorem oJ5_init_2_24 : SJ5_init_2 24 (i_putfn .byte 22 1 27) := snd_putfn (k := 1) dJ5_init_2_24 rfl (by decide) in_J5 tyJ5 tyJ5_ok nmJ5 (Or.inr (Or.inl ⟨rfl, rfl, rfl, q802⟩)) (Or.inl rfl) rfl
theorem oJ5_init_2_27 : SJ5_init_2 27 (i_aload 0 28) := snd_aload_n dJ5_init_2_27 rfl
theorem oJ5_init_2_28 : SJ5_init_2 28 (i_aload 3 29) := snd_aload_n dJ5_init_2_28 rfl
theorem oJ5_init_2_29 : SJ5_init_2 29 (i_const (.int (nI 0)) 30) := snd_iconst dJ5_init_2_29 (by decide)
theorem oJ5_init_2_30 : SJ5_init_2 30 (i_iload 4 32) := snd_iload dJ5_init_2_30
theorem oJ5_init_2_32 : SJ5_init_2 32 (i_cs 23 3 35) := snd_cs rfl infJ16_copyOfRange (by decide) (xSm_S dJ5_init_2_32 q782 q783 q149 q784 pdJ16_copyOfRange)
theorem oJ5_init_2_35 : SJ5_init_2 35 (i_putfr 22 0 38) := snd_putfr dJ5_init_2_35 rfl (by decide) in_J5 tyJ5 tyJ5_ok nmJ5 (Or.inr (Or.inl ⟨rfl, rfl, rfl, q801⟩)) (Or.inl rfl) (Or.inr ⟨_, rfl⟩)
theorem oJ5_init_2_38 : SJ5_init_2 38 (i_goto 97) := snd_goto dJ5_init_2_38 (by decide)
theorem oJ5_init_2_41 : SJ5_init_2 41 (i_const (.int (nI 1)) 44) := snd_gets dJ5_init_2_41 xst_COMPACT_STRINGS q458
theorem oJ5_init_2_44 : SJ5_init_2 44 (i_if1 (fun x => x = 0) 79 47) := snd_if_eq dJ5_init_2_44 (by decide)
theorem oJ5_init_2_47 : SJ5_init_2 47 (i_aload 1 48) := snd_aload_n dJ5_init_2_47 rfl
theorem oJ5_init_2_48 : SJ5_init_2 48 (i_getf 23 2 51) := snd_getf dJ5_init_2_48 rfl (by decide) in_J14 (Or.inl q673) (Or.inl rfl) (by decide)
theorem oJ5_init_2_51 : SJ5_init_2 51 (i_if1 (fun x => x = 0) 79 54) := snd_if_eq dJ5_init_2_51 (by decide)
theorem oJ5_init_2_54 : SJ5_init_2 54 (i_aload 0 55) := snd_aload_n dJ5_init_2_54 rfl
theorem oJ5_init_2_55 : SJ5_init_2 55 (i_aload 3 56) := snd_aload_n dJ5_init_2_55 rfl
theorem oJ5_init_2_56 : SJ5_init_2 56 (i_const (.int (nI 0)) 57) := snd_iconst dJ5_init_2_56 (by decide)
theorem oJ5_init_2_57 : SJ5_init_2 57 (i_iload 4 59) := snd_iload dJ5_init_2_57
theorem oJ5_init_2_59 : SJ5_init_2 59 (i_no) := snd_no
theorem oJ5_init_2_62 : SJ5_init_2 62 (i_putfr 22 0 65) := snd_putfr dJ5_init_2_62 rfl (by decide) in_J5 tyJ5 tyJ5_ok nmJ5 (Or.inr (Or.inl ⟨rfl, rfl, rfl, q801⟩)) (Or.inl rfl) (Or.inr ⟨_, rfl⟩)
theorem oJ5_init_2_65 : SJ5_init_2 65 (i_aload 0 66) := snd_aload_n dJ5_init_2_65 rfl
theorem oJ5_init_2_66 : SJ5_init_2 66 (i_aload 0 67) := snd_aload_n dJ5_init_2_66 rfl
theorem oJ5_init_2_67 : SJ5_init_2 67 (i_getf 22 0 70) := snd_getfS dJ5_init_2_67 (by decide) q801
theorem oJ5_init_2_70 : SJ5_init_2 70 (i_iload 4 72) := snd_iload dJ5_init_2_70
theorem oJ5_init_2_72 : SJ5_init_2 72 (i_no) := snd_no
theorem oJ5_init_2_75 : SJ5_init_2 75 (i_putfn .byte 22 1 78) := snd_putfn (k := 1) dJ5_init_2_75 rfl (by decide) in_J5 tyJ5 tyJ5_ok nmJ5 (Or.inr (Or.inl ⟨rfl, rfl, rfl, q802⟩)) (Or.inl rfl) rfl
theorem oJ5_init_2_78 : SJ5_init_2 78 (i_vret) := snd_vret dJ5_init_2_78 rfl
theorem oJ5_init_2_79 : SJ5_init_2 79 (i_aload 0 80) := snd_aload_n dJ5_init_2_79 rfl
theorem oJ5_init_2_80 : SJ5_init_2 80 (i_const (.int (nI 1)) 81) := snd_iconst dJ5_init_2_80 (by decide)
theorem oJ5_init_2_81 : SJ5_init_2 81 (i_putfn .byte 22 1 84) := snd_putfn (k := 1) dJ5_init_2_81 rfl (by decide) in_J5 tyJ5 tyJ5_ok nmJ5 (Or.inr (Or.inl ⟨rfl, rfl, rfl, q802⟩)) (Or.inl rfl) rfl
theorem oJ5_init_2_84 : SJ5_init_2 84 (i_aload 0 85) := snd_aload_n dJ5_init_2_84 rfl
theorem oJ5_init_2_85 : SJ5_init_2 85 (i_aload 3 86) := snd_aload_n dJ5_init_2_85 rfl
theorem oJ5_init_2_86 : SJ5_init_2 86 (i_const (.int (nI 0)) 87) := snd_iconst dJ5_init_2_86 (by decide)
theorem oJ5_init_2_87 : SJ5_init_2 87 (i_iload 4 89) := snd_iload dJ5_init_2_87
theorem oJ5_init_2_89 : SJ5_init_2 89 (i_const (.int (nI 1)) 90) := snd_iconst dJ5_init_2_89 (by decide)
theorem oJ5_init_2_90 : SJ5_init_2 90 (i_ii (fun x y => x <<< (y &&& 31)) 91) := snd_ishl dJ5_init_2_90
theorem oJ5_init_2_91 : SJ5_init_2 91 (i_cs 23 3 94) := snd_cs rfl infJ16_copyOfRange (by decide) (xSm_S dJ5_init_2_91 q782 q783 q149 q784 pdJ16_copyOfRange)
theorem oJ5_init_2_94 : SJ5_init_2 94 (i_putfr 22 0 97) := snd_putfr dJ5_init_2_94 rfl (by decide) in_J5 tyJ5 tyJ5_ok nmJ5 (Or.inr (Or.inl ⟨rfl, rfl, rfl, q801⟩)) (Or.inl rfl) (Or.inr ⟨_, rfl⟩)
theorem oJ5_init_2_97 : SJ5_init_2 97 (i_vret) := snd_vret dJ5_init_2_97 rfl
theorem okJ5_init_2 : ∀ q ∈ cJ5_init_2, SJ5_init_2 q.1 q.2 := List.forall_mem_cons.mpr ⟨oJ5_init_2_0, List.forall_mem_cons.mpr ⟨oJ5_init_2_1, List.forall_mem_cons.mpr ⟨oJ5_init_2_4, List.forall_mem_cons.mpr ⟨oJ5_init_2_5, List.forall_mem_cons.mpr ⟨oJ5_init_2_8, List.forall_mem_cons.mpr ⟨oJ5_init_2_9, List.forall_mem_cons.mpr ⟨oJ5_init_2_10, List.forall_mem_cons.mpr ⟨oJ5_init_2_13, List.forall_mem_cons.mpr ⟨oJ5_init_2_15, List.forall_mem_cons.mpr ⟨oJ5_init_2_16, List.forall_mem_cons.mpr ⟨oJ5_init_2_19, List.forall_mem_cons.mpr ⟨oJ5_init_2_22, List.forall_mem_cons.mpr ⟨oJ5_init_2_23, List.forall_mem_cons.mpr ⟨oJ5_init_2_24, List.forall_mem_cons.mpr ⟨oJ5_init_2_27, List.forall_mem_cons.mpr ⟨oJ5_init_2_28, List.forall_mem_cons.mpr ⟨oJ5_init_2_29, List.forall_mem_cons.mpr ⟨oJ5_init_2_30, List.forall_mem_cons.mpr ⟨oJ5_init_2_32, List.forall_mem_cons.mpr ⟨oJ5_init_2_35, List.forall_mem_cons.mpr ⟨oJ5_init_2_38, List.forall_mem_cons.mpr ⟨oJ5_init_2_41, List.forall_mem_cons.mpr ⟨oJ5_init_2_44, List.forall_mem_cons.mpr ⟨oJ5_init_2_47, List.forall_mem_cons.mpr ⟨oJ5_init_2_48, List.forall_mem_cons.mpr ⟨oJ5_init_2_51, List.forall_mem_cons.mpr ⟨oJ5_init_2_54, List.forall_mem_cons.mpr ⟨oJ5_init_2_55, List.forall_mem_cons.mpr ⟨oJ5_init_2_56, List.forall_mem_cons.mpr ⟨oJ5_init_2_57, List.forall_mem_cons.mpr ⟨oJ5_init_2_59, List.forall_mem_cons.mpr ⟨oJ5_init_2_62, List.forall_mem_cons.mpr ⟨oJ5_init_2_65, List.forall_mem_cons.mpr ⟨oJ5_init_2_66, List.forall_mem_cons.mpr ⟨oJ5_init_2_67, List.forall_mem_cons.mpr ⟨oJ5_init_2_70, List.forall_mem_cons.mpr ⟨oJ5_init_2_72, List.forall_mem_cons.mpr ⟨oJ5_init_2_75, List.forall_mem_cons.mpr ⟨oJ5_init_2_78, List.forall_mem_cons.mpr ⟨oJ5_init_2_79, List.forall_mem_cons.mpr ⟨oJ5_init_2_80, List.forall_mem_cons.mpr ⟨oJ5_init_2_81, List.forall_mem_cons.mpr ⟨oJ5_init_2_84, List.forall_mem_cons.mpr ⟨oJ5_init_2_85, List.forall_mem_cons.mpr ⟨oJ5_init_2_86, List.forall_mem_cons.mpr ⟨oJ5_init_2_87, List.forall_mem_cons.mpr ⟨oJ5_init_2_89, List.forall_mem_cons.mpr ⟨oJ5_init_2_90, List.forall_mem_cons.mpr ⟨oJ5_init_2_91, List.forall_mem_cons.mpr ⟨oJ5_init_2_94, List.forall_mem_cons.mpr ⟨oJ5_init_2_97, fun _ h => absurd h List.not_mem_nil⟩⟩⟩⟩⟩⟩⟩⟩⟩⟩⟩⟩⟩⟩⟩⟩⟩⟩⟩⟩⟩⟩⟩⟩⟩⟩⟩⟩⟩⟩⟩⟩⟩⟩⟩⟩⟩⟩⟩⟩⟩⟩⟩⟩⟩⟩⟩⟩⟩⟩⟩
def dkwJ5_equals_2 : List UInt8 := [184, 2, 29, 153, 0, 7, 4, 167, 0, 4, 3, 172]
abbrev dktJ5_equals_2 : List UInt8 := dkwJ5_equals_2 ++ []
def dkwJ5_equals_1 : List UInt8 := [153, 0, 14, 42, 180, 0, 15, 44, 180, 0, 15, 160, 0, 21, 42, 180, 0, 9, 44, 180, 0, 9]
abbrev dktJ5_equals_1 : List UInt8 := dkwJ5_equals_1 ++ dktJ5_equals_2
def dkwJ5_equals_0 : List UInt8 := [42, 43, 166, 0, 5, 4, 172, 43, 193, 0, 10, 153, 0, 43, 43, 192, 0, 10, 77, 178, 0, 38]
abbrev dktJ5_equals_0 : List UInt8 := dkwJ5_equals_0 ++ dktJ5_equals_1
theorem dksJ5_equals_0 : bcJ5_equals.data.toList.drop 0 = dktJ5_equals_0 := by decide +kernel
theorem dksJ5_equals_1 : bcJ5_equals.data.toList.drop 22 = dktJ5_equals_1 := dk_seg dksJ5_equals_0 22 rfl rfl
theorem dksJ5_equals_2 : bcJ5_equals.data.toList.drop 44 = dktJ5_equals_2 := dk_seg dksJ5_equals_1 22 rfl rfl
theorem dJ5_equals_0 : decode bcJ5_equals 0 = .ok (.aload_n 0, 1) := dk_42 (dk_at dksJ5_equals_0 0 rfl rfl)
theorem dJ5_equals_1 : decode bcJ5_equals 1 = .ok (.aload_n 1, 1) := dk_43 (dk_at dksJ5_equals_0 1 rfl rfl)
theorem dJ5_equals_2 : decode bcJ5_equals 2 = .ok (.if_acmp .ne 5, 3) := dk_166 0 5 (dk_at dksJ5_equals_0 2 rfl rfl)
theorem dJ5_equals_5 : decode bcJ5_equals 5 = .ok (.iconst 1, 1) := dk_4 (dk_at dksJ5_equals_0 5 rfl rfl)
theorem dJ5_equals_6 : decode bcJ5_equals 6 = .ok (.ireturn, 1) := dk_172 (dk_at dksJ5_equals_0 6 rfl rfl)
theorem dJ5_equals_7 : decode bcJ5_equals 7 = .ok (.aload_n 1, 1) := dk_43 (dk_at dksJ5_equals_0 7 rfl rfl)
theorem dJ5_equals_8 : decode bcJ5_equals 8 = .ok (.instanceof 10, 3) := dk_193 0 10 (dk_at dksJ5_equals_0 8 rfl rfl)
theorem dJ5_equals_11 : decode bcJ5_equals 11 = .ok (.ifCond .eq 43, 3) := dk_153 0 43 (dk_at dksJ5_equals_0 11 rfl rfl)
theorem dJ5_equals_14 : decode bcJ5_equals 14 = .ok (.aload_n 1, 1) := dk_43 (dk_at dksJ5_equals_0 14 rfl rfl)
theorem dJ5_equals_15 : decode bcJ5_equals 15 = .ok (.checkcast 10, 3) := dk_192 0 10 (dk_at dksJ5_equals_0 15 rfl rfl)
theorem dJ5_equals_18 : decode bcJ5_equals 18 = .ok (.astore_n 2, 1) := dk_77 (dk_at dksJ5_equals_0 18 rfl rfl)
theorem dJ5_equals_19 : decode bcJ5_equals 19 = .ok (.getstatic 38, 3) := dk_178 0 38 (dk_at dksJ5_equals_0 19 rfl rfl)
theorem dJ5_equals_22 : decode bcJ5_equals 22 = .ok (.ifCond .eq 14, 3) := dk_153 0 14 (dk_at dksJ5_equals_1 0 rfl rfl)
theorem dJ5_equals_25 : decode bcJ5_equals 25 = .ok (.aload_n 0, 1) := dk_42 (dk_at dksJ5_equals_1 3 rfl rfl)
theorem dJ5_equals_26 : decode bcJ5_equals 26 = .ok (.getfield 15, 3) := dk_180 0 15 (dk_at dksJ5_equals_1 4 rfl rfl)
theorem dJ5_equals_29 : decode bcJ5_equals 29 = .ok (.aload_n 2, 1) := dk_44 (dk_at dksJ5_equals_1 7 rfl rfl)
theorem dJ5_equals_30 : decode bcJ5_equals 30 = .ok (.getfield 15, 3) := dk_180 0 15 (dk_at dksJ5_equals_1 8 rfl rfl)
theorem dJ5_equals_33 : decode bcJ5_equals 33 = .ok (.if_icmp .ne 21, 3) := dk_160 0 21 (dk_at dksJ5_equals_1 11 rfl rfl)
theorem dJ5_equals_36 : decode bcJ5_equals 36 = .ok (.aload_n 0, 1) := dk_42 (dk_at dksJ5_equals_1 14 rfl rfl)
theorem dJ5_equals_37 : decode bcJ5_equals 37 = .ok (.getfield 9, 3) := dk_180 0 9 (dk_at dksJ5_equals_1 15 rfl rfl)
theorem dJ5_equals_40 : decode bcJ5_equals 40 = .ok (.aload_n 2, 1) := dk_44 (dk_at dksJ5_equals_1 18 rfl rfl)
theorem dJ5_equals_41 : decode bcJ5_equals 41 = .ok (.getfield 9, 3) := dk_180 0 9 (dk_at dksJ5_equals_1 19 rfl rfl)
theorem dJ5_equals_44 : decode bcJ5_equals 44 = .ok (.invokestatic 541, 3) := dk_184 2 29 (dk_at dksJ5_equals_2 0 rfl rfl)
theorem dJ5_equals_47 : decode bcJ5_equals 47 = .ok (.ifCond .eq 7, 3) := dk_153 0 7 (dk_at dksJ5_equals_2 3 rfl rfl)
theorem dJ5_equals_50 : decode bcJ5_equals 50 = .ok (.iconst 1, 1) := dk_4 (dk_at dksJ5_equals_2 6 rfl rfl)
theorem dJ5_equals_51 : decode bcJ5_equals 51 = .ok (.goto 4, 3) := dk_167 0 4 (dk_at dksJ5_equals_2 7 rfl rfl)
theorem dJ5_equals_54 : decode bcJ5_equals 54 = .ok (.iconst 0, 1) := dk_3 (dk_at dksJ5_equals_2 10 rfl rfl)
theorem dJ5_equals_55 : decode bcJ5_equals 55 = .ok (.ireturn, 1) := dk_172 (dk_at dksJ5_equals_2 11 rfl rfl)
abbrev SJ5_equals (pc : Nat) (i : xI) : Prop := Snd "java/lang/String" "equals" prog_38_method_66_code 3 (Option.some Jvm.ClassFile.FieldType.boolean) [] pc i
theorem oJ5_equals_0 : SJ5_equals 0 (i_aload 0 1) := snd_aload_n dJ5_equals_0 rfl
theorem oJ5_equals_1 : SJ5_equals 1 (i_aload 1 2) := snd_aload_n dJ5_equals_1 rfl
theorem oJ5_equals_2 : SJ5_equals 2 (i_acmp false 7 5) := snd_acmp_ne dJ5_equals_2 (by decide)
theorem oJ5_equals_5 : SJ5_equals 5 (i_const (.int (nI 1)) 6) := snd_iconst dJ5_equals_5 (by decide)
theorem oJ5_equals_6 : SJ5_equals 6 (i_zret) := snd_zret dJ5_equals_6 rfl
theorem oJ5_equals_7 : SJ5_equals 7 (i_aload 1 8) := snd_aload_n dJ5_equals_7 rfl
theorem oJ5_equals_8 : SJ5_equals 8 (i_inst [22] 11) := snd_inst dJ5_equals_8 q822 okct_J5
theorem oJ5_equals_11 : SJ5_equals 11 (i_if1 (fun x => x = 0) 54 14) := snd_if_eq dJ5_equals_11 (by decide)
theorem oJ5_equals_14 : SJ5_equals 14 (i_aload 1 15) := snd_aload_n dJ5_equals_14 rfl
theorem oJ5_equals_15 : SJ5_equals 15 (i_cast [22] 18) := snd_cast dJ5_equals_15 q822 okct_J5
theorem oJ5_equals_18 : SJ5_equals 18 (i_astore 2 19) := snd_astore_n dJ5_equals_18 rfl (by decide)
theorem oJ5_equals_19 : SJ5_equals 19 (i_const (.int (nI 1)) 22) := snd_gets dJ5_equals_19 xst_COMPACT_STRINGS q458
theorem oJ5_equals_22 : SJ5_equals 22 (i_if1 (fun x => x = 0) 36 25) := snd_if_eq dJ5_equals_22 (by decide)
theorem oJ5_equals_25 : SJ5_equals 25 (i_aload 0 26) := snd_aload_n dJ5_equals_25 rfl
theorem oJ5_equals_26 : SJ5_equals 26 (i_getf 22 1 29) := snd_getfS dJ5_equals_26 (by decide) q802
theorem oJ5_equals_29 : SJ5_equals 29 (i_aload 2 30) := snd_aload_n dJ5_equals_29 rfl
theorem oJ5_equals_30 : SJ5_equals 30 (i_getf 22 1 33) := snd_getfS dJ5_equals_30 (by decide) q802
theorem oJ5_equals_33 : SJ5_equals 33 (i_if2 (fun x y => ¬ x = y) 54 36) := snd_icmp_ne dJ5_equals_33 (by decide)
theorem oJ5_equals_36 : SJ5_equals 36 (i_aload 0 37) := snd_aload_n dJ5_equals_36 rfl
theorem oJ5_equals_37 : SJ5_equals 37 (i_getf 22 0 40) := snd_getfS dJ5_equals_37 (by decide) q801
theorem oJ5_equals_40 : SJ5_equals 40 (i_aload 2 41) := snd_aload_n dJ5_equals_40 rfl
theorem oJ5_equals_41 : SJ5_equals 41 (i_getf 22 0 44) := snd_getfS dJ5_equals_41 (by decide) q801
theorem oJ5_equals_44 : SJ5_equals 44 (i_cs 61 2 47) := snd_cs rfl infJ6_equals (by decide) (xSm_S dJ5_equals_44 q823 q824 q138 q825 pdJ6_equals)
theorem oJ5_equals_47 : SJ5_equals 47 (i_if1 (fun x => x = 0) 54 50) := snd_if_eq dJ5_equals_47 (by decide)
theorem oJ5_equals_50 : SJ5_equals 50 (i_const (.int (nI 1)) 51) := snd_iconst dJ5_equals_50 (by decide)
theorem oJ5_equals_51 : SJ5_equals 51 (i_goto 55) := snd_goto dJ5_equals_51 (by decide)
theorem oJ5_equals_54 : SJ5_equals 54 (i_const (.int (nI 0)) 55) := snd_iconst dJ5_equals_54 (by decide)
theorem oJ5_equals_55 : SJ5_equals 55 (i_zret) := snd_zret dJ5_equals_55 rfl
theorem okJ5_equals : ∀ q ∈ cJ5_equals, SJ5_equals q.1 q.2 := List.forall_mem_cons.mpr ⟨oJ5_equals_0, List.forall_mem_cons.mpr ⟨oJ5_equals_1, List.forall_mem_cons.mpr ⟨oJ5_equals_2, List.forall_mem_cons.mpr ⟨oJ5_equals_5, List.forall_mem_cons.mpr ⟨oJ5_equals_6, List.forall_mem_cons.mpr ⟨oJ5_equals_7, List.forall_mem_cons.mpr ⟨oJ5_equals_8, List.forall_mem_cons.mpr ⟨oJ5_equals_11, List.forall_mem_cons.mpr ⟨oJ5_equals_14, List.forall_mem_cons.mpr ⟨oJ5_equals_15, List.forall_mem_cons.mpr ⟨oJ5_equals_18, List.forall_mem_cons.mpr ⟨oJ5_equals_19, List.forall_mem_cons.mpr ⟨oJ5_equals_22, List.forall_mem_cons.mpr ⟨oJ5_equals_25, List.forall_mem_cons.mpr ⟨oJ5_equals_26, List.forall_mem_cons.mpr ⟨oJ5_equals_29, List.forall_mem_cons.mpr ⟨oJ5_equals_30, List.forall_mem_cons.mpr ⟨oJ5_equals_33, List.forall_mem_cons.mpr ⟨oJ5_equals_36, List.forall_mem_cons.mpr ⟨oJ5_equals_37, List.forall_mem_cons.mpr ⟨oJ5_equals_40, List.forall_mem_cons.mpr ⟨oJ5_equals_41, List.forall_mem_cons.mpr ⟨oJ5_equals_44, List.forall_mem_cons.mpr ⟨oJ5_equals_47, List.forall_mem_cons.mpr ⟨oJ5_equals_50, List.forall_mem_cons.mpr ⟨oJ5_equals_51, List.forall_mem_cons.mpr ⟨oJ5_equals_54, List.forall_mem_cons.mpr ⟨oJ5_equals_55, fun _ h => absurd h List.not_mem_nil⟩⟩⟩⟩⟩⟩⟩⟩⟩⟩⟩⟩⟩⟩⟩⟩⟩⟩⟩⟩⟩⟩⟩⟩⟩⟩⟩⟩
def dkwJ6_indexOf_1 : List UInt8 := [161, 0, 5, 2, 172, 42, 27, 28, 29, 184, 0, 95, 172]
abbrev dktJ6_indexOf_1 : List UInt8 := dkwJ6_indexOf_1 ++ []
def dkwJ6_indexOf_0 : List UInt8 := [27, 184, 0, 88, 154, 0, 5, 2, 172, 28, 3, 184, 0, 92, 61, 29, 42, 190, 184, 0, 38, 62, 28, 29]
abbrev dktJ6_indexOf_0 : List UInt8 := dkwJ6_indexOf_0 ++ dktJ6_indexOf_1
theorem dksJ6_indexOf_0 : bcJ6_indexOf.data.toList.drop 0 = dktJ6_indexOf_0 := by decide +kernel
theorem dksJ6_indexOf_1 : bcJ6_indexOf.data.toList.drop 24 = dktJ6_indexOf_1 := dk_seg dksJ6_indexOf_0 24 rfl rfl
theorem dJ6_indexOf_0 : decode bcJ6_indexOf 0 = .ok (.iload_n 1, 1) := dk_27 (dk_at dksJ6_indexOf_0 0 rfl rfl)
theorem dJ6_indexOf_1 : decode bcJ6_indexOf 1 = .ok (.invokestatic 88, 3) := dk_184 0 88 (dk_at dksJ6_indexOf_0 1 rfl rfl)
theorem dJ6_indexOf_4 : decode bcJ6_indexOf 4 = .ok (.ifCond .ne 5, 3) := dk_154 0 5 (dk_at dksJ6_indexOf_0 4 rfl rfl)
theorem dJ6_indexOf_7 : decode bcJ6_indexOf 7 = .ok (.iconst (-1), 1) := dk_2 (dk_at dksJ6_indexOf_0 7 rfl rfl)
theorem dJ6_indexOf_8 : decode bcJ6_indexOf 8 = .ok (.ireturn, 1) := dk_172 (dk_at dksJ6_indexOf_0 8 rfl rfl)
theorem dJ6_indexOf_9 : decode bcJ6_indexOf 9 = .ok (.iload_n 2, 1) := dk_28 (dk_at dksJ6_indexOf_0 9 rfl rfl)
theorem dJ6_indexOf_10 : decode bcJ6_indexOf 10 = .ok (.iconst 0, 1) := dk_3 (dk_at dksJ6_indexOf_0 10 rfl rfl)
theorem dJ6_indexOf_11 : decode bcJ6_indexOf 11 = .ok (.invokestatic 92, 3) := dk_184 0 92 (dk_at dksJ6_indexOf_0 11 rfl rfl)
theorem dJ6_indexOf_14 : decode bcJ6_indexOf 14 = .ok (.istore_n 2, 1) := dk_61 (dk_at dksJ6_indexOf_0 14 rfl rfl)
theorem dJ6_indexOf_15 : decode bcJ6_indexOf 15 = .ok (.iload_n 3, 1) := dk_29 (dk_at dksJ6_indexOf_0 15 rfl rfl)
theorem dJ6_indexOf_16 : decode bcJ6_indexOf 16 = .ok (.aload_n 0, 1) := dk_42 (dk_at dksJ6_indexOf_0 16 rfl rfl)
theorem dJ6_indexOf_17 : decode bcJ6_indexOf 17 = .ok (.arraylength, 1) := dk_190 (dk_at dksJ6_indexOf_0 17 rfl rfl)
theorem dJ6_indexOf_18 : decode bcJ6_indexOf 18 = .ok (.invokestatic 38, 3) := dk_184 0 38 (dk_at dksJ6_indexOf_0 18 rfl rfl)
theorem dJ6_indexOf_21 : decode bcJ6_indexOf 21 = .ok (.istore_n 3, 1) := dk_62 (dk_at dksJ6_indexOf_0 21 rfl rfl)
theorem dJ6_indexOf_22 : decode bcJ6_indexOf 22 = .ok (.iload_n 2, 1) := dk_28 (dk_at dksJ6_indexOf_0 22 rfl rfl)
theorem dJ6_indexOf_23 : decode bcJ6_indexOf 23 = .ok (.iload_n 3, 1) := dk_29 (dk_at dksJ6_indexOf_0 23 rfl rfl)
theorem dJ6_indexOf_24 : decode bcJ6_indexOf 24 = .ok (.if_icmp .lt 5, 3) := dk_161 0 5 (dk_at dksJ6_indexOf_1 0 rfl rfl)
theorem dJ6_indexOf_27 : decode bcJ6_indexOf 27 = .ok (.iconst (-1), 1) := dk_2 (dk_at dksJ6_indexOf_1 3 rfl rfl)
theorem dJ6_indexOf_28 : decode bcJ6_indexOf 28 = .ok (.ireturn, 1) := dk_172 (dk_at dksJ6_indexOf_1 4 rfl rfl)
theorem dJ6_indexOf_29 : decode bcJ6_indexOf 29 = .ok (.aload_n 0, 1) := dk_42 (dk_at dksJ6_indexOf_1 5 rfl rfl)
theorem dJ6_indexOf_30 : decode bcJ6_indexOf 30 = .ok (.iload_n 1, 1) := dk_27 (dk_at dksJ6_indexOf_1 6 rfl rfl)
theorem dJ6_indexOf_31 : decode bcJ6_indexOf 31 = .ok (.iload_n 2, 1) := dk_28 (dk_at dksJ6_indexOf_1 7 rfl rfl)
theorem dJ6_indexOf_32 : decode bcJ6_indexOf 32 = .ok (.iload_n 3, 1) := dk_29 (dk_at dksJ6_indexOf_1 8 rfl rfl)
theorem dJ6_indexOf_33 : decode bcJ6_indexOf 33 = .ok (.invokestatic 95, 3) := dk_184 0 95 (dk_at dksJ6_indexOf_1 9 rfl rfl)
theorem dJ6_indexOf_36 : decode bcJ6_indexOf 36 = .ok (.ireturn, 1) := dk_172 (dk_at dksJ6_indexOf_1 12 rfl rfl)
abbrev SJ6_indexOf (pc : Nat) (i : xI) : Prop := Snd "java/lang/StringLatin1" "indexOf" prog_40_method_22_code 4 (Option.some Jvm.ClassFile.FieldType.int) [] pc i
theorem oJ6_indexOf_0 : SJ6_indexOf 0 (i_iload 1 1) := snd_iload_n dJ6_indexOf_0 rfl
theorem oJ6_indexOf_1 : SJ6_indexOf 1 (i_cs 56 1 4) := snd_cs rfl infJ6_canEncode (by decide) (xSm_S dJ6_indexOf_1 q471 q472 q138 q473 pdJ6_canEncode)
theorem oJ6_indexOf_4 : SJ6_indexOf 4 (i_if1 (fun x => ¬ x = 0) 9 7) := snd_if_ne dJ6_indexOf_4 (by decide)
theorem oJ6_indexOf_7 : SJ6_indexOf 7 (i_const (.int (-1)) 8) := snd_iconst dJ6_indexOf_7 (by decide)
theorem oJ6_indexOf_8 : SJ6_indexOf 8 (i_iret) := snd_iret dJ6_indexOf_8 rfl
theorem oJ6_indexOf_9 : SJ6_indexOf 9 (i_iload 2 10) := snd_iload_n dJ6_indexOf_9 rfl
theorem oJ6_indexOf_10 : SJ6_indexOf 10 (i_const (.int (nI 0)) 11) := snd_iconst dJ6_indexOf_10 (by decide)
theorem oJ6_indexOf_11 : SJ6_indexOf 11 (i_cs 62 2 14) := snd_cs rfl infJ7_max (by decide) (xSm_S dJ6_indexOf_11 q474 q475 q139 q476 pdJ7_max)
theorem oJ6_indexOf_14 : SJ6_indexOf 14 (i_istore 2 15) := snd_istore_n dJ6_indexOf_14 rfl (by decide)
theorem oJ6_indexOf_15 : SJ6_indexOf 15 (i_iload 3 16) := snd_iload_n dJ6_indexOf_15 rfl
theorem oJ6_indexOf_16 : SJ6_indexOf 16 (i_aload 0 17) := snd_aload_n dJ6_indexOf_16 rfl
theorem oJ6_indexOf_17 : SJ6_indexOf 17 (i_len 18) := snd_len dJ6_indexOf_17
theorem oJ6_indexOf_18 : SJ6_indexOf 18 (i_cs 63 2 21) := snd_cs rfl infJ7_min (by decide) (xSm_S dJ6_indexOf_18 q477 q478 q139 q479 pdJ7_min)
theorem oJ6_indexOf_21 : SJ6_indexOf 21 (i_istore 3 22) := snd_istore_n dJ6_indexOf_21 rfl (by decide)
theorem oJ6_indexOf_22 : SJ6_indexOf 22 (i_iload 2 23) := snd_iload_n dJ6_indexOf_22 rfl
theorem oJ6_indexOf_23 : SJ6_indexOf 23 (i_iload 3 24) := snd_iload_n dJ6_indexOf_23 rfl
theorem oJ6_indexOf_24 : SJ6_indexOf 24 (i_if2 (fun x y => x < y) 29 27) := snd_icmp_lt dJ6_indexOf_24 (by decide)
theorem oJ6_indexOf_27 : SJ6_indexOf 27 (i_const (.int (-1)) 28) := snd_iconst dJ6_indexOf_27 (by decide)
theorem oJ6_indexOf_28 : SJ6_indexOf 28 (i_iret) := snd_iret dJ6_indexOf_28 rfl
theorem oJ6_indexOf_29 : SJ6_indexOf 29 (i_aload 0 30) := snd_aload_n dJ6_indexOf_29 rfl
theorem oJ6_indexOf_30 : SJ6_indexOf 30 (i_iload 1 31) := snd_iload_n dJ6_indexOf_30 rfl
theorem oJ6_indexOf_31 : SJ6_indexOf 31 (i_iload 2 32) := snd_iload_n dJ6_indexOf_31 rfl
theorem oJ6_indexOf_32 : SJ6_indexOf 32 (i_iload 3 33) := snd_iload_n dJ6_indexOf_32 rfl
theorem oJ6_indexOf_33 : SJ6_indexOf 33 (i_cs 57 4 36) := snd_cs rfl infJ6_indexOfChar (by decide) (xSm_S dJ6_indexOf_33 q480 q481 q138 q482 pdJ6_indexOfChar)
theorem oJ6_indexOf_36 : SJ6_indexOf 36 (i_iret) := snd_iret dJ6_indexOf_36 rfl
theorem okJ6_indexOf : ∀ q ∈ cJ6_indexOf, SJ6_indexOf q.1 q.2 := List.forall_mem_cons.mpr ⟨oJ6_indexOf_0, List.forall_mem_cons.mpr ⟨oJ6_indexOf_1, List.forall_mem_cons.mpr ⟨oJ6_indexOf_4, List.forall_mem_cons.mpr ⟨oJ6_indexOf_7, List.forall_mem_cons.mpr ⟨oJ6_indexOf_8, List.forall_mem_cons.mpr ⟨oJ6_indexOf_9, List.forall_mem_cons.mpr ⟨oJ6_indexOf_10, List.forall_mem_cons.mpr ⟨oJ6_indexOf_11, List.forall_mem_cons.mpr ⟨oJ6_indexOf_14, List.forall_mem_cons.mpr ⟨oJ6_indexOf_15, List.forall_mem_cons.mpr ⟨oJ6_indexOf_16, List.forall_mem_cons.mpr ⟨oJ6_indexOf_17, List.forall_mem_cons.mpr ⟨oJ6_indexOf_18, List.forall_mem_cons.mpr ⟨oJ6_indexOf_21, List.forall_mem_cons.mpr ⟨oJ6_indexOf_22, List.forall_mem_cons.mpr ⟨oJ6_indexOf_23, List.forall_mem_cons.mpr ⟨oJ6_indexOf_24, List.forall_mem_cons.mpr ⟨oJ6_indexOf_27, List.forall_mem_cons.mpr ⟨oJ6_indexOf_28, List.forall_mem_cons.mpr ⟨oJ6_indexOf_29, List.forall_mem_cons.mpr ⟨oJ6_indexOf_30, List.forall_mem_cons.mpr ⟨oJ6_indexOf_31, List.forall_mem_cons.mpr ⟨oJ6_indexOf_32, List.forall_mem_cons.mpr ⟨oJ6_indexOf_33, List.forall_mem_cons.mpr ⟨oJ6_indexOf_36, fun _ h => absurd h List.not_mem_nil⟩⟩⟩⟩⟩⟩⟩⟩⟩⟩⟩⟩⟩⟩⟩⟩⟩⟩⟩⟩⟩⟩⟩⟩⟩
def dkwJ6_canEncode_0 : List UInt8 := [26, 155, 0, 14, 26, 17, 0, 255, 163, 0, 7, 4, 167, 0, 4, 3, 172]
abbrev dktJ6_canEncode_0 : List UInt8 := dkwJ6_canEncode_0 ++ []
theorem dksJ6_canEncode_0 : bcJ6_canEncode.data.toList.drop 0 = dktJ6_canEncode_0 := by decide +kernel
theorem dJ6_canEncode_0 : decode bcJ6_canEncode 0 = .ok (.iload_n 0, 1) := dk_26 (dk_at dksJ6_canEncode_0 0 rfl rfl)
theorem dJ6_canEncode_1 : decode bcJ6_canEncode 1 = .ok (.ifCond .lt 14, 3) := dk_155 0 14 (dk_at dksJ6_canEncode_0 1 rfl rfl)
theorem dJ6_canEncode_4 : decode bcJ6_canEncode 4 = .ok (.iload_n 0, 1) := dk_26 (dk_at dksJ6_canEncode_0 4 rfl rfl)
theorem dJ6_canEncode_5 : decode bcJ6_canEncode 5 = .ok (.sipush 255, 3) := dk_17 0 255 (dk_at dksJ6_canEncode_0 5 rfl rfl)
theorem dJ6_canEncode_8 : decode bcJ6_canEncode 8 = .ok (.if_icmp .gt 7, 3) := dk_163 0 7 (dk_at dksJ6_canEncode_0 8 rfl rfl)
theorem dJ6_canEncode_11 : decode bcJ6_canEncode 11 = .ok (.iconst 1, 1) := dk_4 (dk_at dksJ6_canEncode_0 11 rfl rfl)
theorem dJ6_canEncode_12 : decode bcJ6_canEncode 12 = .ok (.goto 4, 3) := dk_167 0 4 (dk_at dksJ6_canEncode_0 12 rfl rfl)
theorem dJ6_canEncode_15 : decode bcJ6_canEncode 15 = .ok (.iconst 0, 1) := dk_3 (dk_at dksJ6_canEncode_0 15 rfl rfl)
theorem dJ6_canEncode_16 : decode bcJ6_canEncode 16 = .ok (.ireturn, 1) := dk_172 (dk_at dksJ6_canEncode_0 16 rfl rfl)
abbrev SJ6_canEncode (pc : Nat) (i : xI) : Prop := Snd "java/lang/StringLatin1" "canEncode" prog_40_method_4_code 1 (Option.some Jvm.ClassFile.FieldType.boolean) [] pc i
theorem oJ6_canEncode_0 : SJ6_canEncode 0 (i_iload 0 1) := snd_iload_n dJ6_canEncode_0 rfl
theorem oJ6_canEncode_1 : SJ6_canEncode 1 (i_if1 (fun x => x < 0) 15 4) := snd_if_lt dJ6_canEncode_1 (by decide)
theorem oJ6_canEncode_4 : SJ6_canEncode 4 (i_iload 0 5) := snd_iload_n dJ6_canEncode_4 rfl
theorem oJ6_canEncode_5 : SJ6_canEncode 5 (i_const (.int (nI 255)) 8) := snd_sipush dJ6_canEncode_5 (by decide)
theorem oJ6_canEncode_8 : SJ6_canEncode 8 (i_if2 (fun x y => y < x) 15 11) := snd_icmp_gt dJ6_canEncode_8 (by decide)
theorem oJ6_canEncode_11 : SJ6_canEncode 11 (i_const (.int (nI 1)) 12) := snd_iconst dJ6_canEncode_11 (by decide)
theorem oJ6_canEncode_12 : SJ6_canEncode 12 (i_goto 16) := snd_goto dJ6_canEncode_12 (by decide)
theorem oJ6_canEncode_15 : SJ6_canEncode 15 (i_const (.int (nI 0)) 16) := snd_iconst dJ6_canEncode_15 (by decide)
theorem oJ6_canEncode_16 : SJ6_canEncode 16 (i_zret) := snd_zret dJ6_canEncode_16 rfl
theorem okJ6_canEncode : ∀ q ∈ cJ6_canEncode, SJ6_canEncode q.1 q.2 := List.forall_mem_cons.mpr ⟨oJ6_canEncode_0, List.forall_mem_cons.mpr ⟨oJ6_canEncode_1, List.forall_mem_cons.mpr ⟨oJ6_canEncode_4, List.forall_mem_cons.mpr ⟨oJ6_canEncode_5, List.forall_mem_cons.mpr ⟨oJ6_canEncode_8, List.forall_mem_cons.mpr ⟨oJ6_canEncode_11, List.forall_mem_cons.mpr ⟨oJ6_canEncode_12, List.forall_mem_cons.mpr ⟨oJ6_canEncode_15, List.forall_mem_cons.mpr ⟨oJ6_canEncode_16, fun _ h => absurd h List.not_mem_nil⟩⟩⟩⟩⟩⟩⟩⟩⟩
def dkwJ6_indexOfChar_1 : List UInt8 := [172, 132, 5, 1, 167, 255, 235, 2, 172]
abbrev dktJ6_indexOfChar_1 : List UInt8 := dkwJ6_indexOfChar_1 ++ []
def dkwJ6_indexOfChar_0 : List UInt8 := [27, 145, 54, 4, 28, 54, 5, 21, 5, 29, 162, 0, 21, 42, 21, 5, 51, 21, 4, 160, 0, 6, 21, 5]
abbrev dktJ6_indexOfChar_0 : List UInt8 := dkwJ6_indexOfChar_0 ++ dktJ6_indexOfChar_1
theorem dksJ6_indexOfChar_0 : bcJ6_indexOfChar.data.toList.drop 0 = dktJ6_indexOfChar_0 := by decide +kernel
theorem dksJ6_indexOfChar_1 : bcJ6_indexOfChar.data.toList.drop 24 = dktJ6_indexOfChar_1 := dk_seg dksJ6_indexOfChar_0 24 rfl rfl
theorem dJ6_indexOfChar_0 : decode bcJ6_indexOfChar 0 = .ok (.iload_n 1, 1) := dk_27 (dk_at dksJ6_indexOfChar_0 0 rfl rfl)
theorem dJ6_indexOfChar_1 : decode bcJ6_indexOfChar 1 = .ok (.i2b, 1) := dk_145 (dk_at dksJ6_indexOfChar_0 1 rfl rfl)
theorem dJ6_indexOfChar_2 : decode bcJ6_indexOfChar 2 = .ok (.istore 4, 2) := dk_54 4 (dk_at dksJ6_indexOfChar_0 2 rfl rfl)
theorem dJ6_indexOfChar_4 : decode bcJ6_indexOfChar 4 = .ok (.iload_n 2, 1) := dk_28 (dk_at dksJ6_indexOfChar_0 4 rfl rfl)
theorem dJ6_indexOfChar_5 : decode bcJ6_indexOfChar 5 = .ok (.istore 5, 2) := dk_54 5 (dk_at dksJ6_indexOfChar_0 5 rfl rfl)
theorem dJ6_indexOfChar_7 : decode bcJ6_indexOfChar 7 = .ok (.iload 5, 2) := dk_21 5 (dk_at dksJ6_indexOfChar_0 7 rfl rfl)
theorem dJ6_indexOfChar_9 : decode bcJ6_indexOfChar 9 = .ok (.iload_n 3, 1) := dk_29 (dk_at dksJ6_indexOfChar_0 9 rfl rfl)
theorem dJ6_indexOfChar_10 : decode bcJ6_indexOfChar 10 = .ok (.if_icmp .ge 21, 3) := dk_162 0 21 (dk_at dksJ6_indexOfChar_0 10 rfl rfl)
theorem dJ6_indexOfChar_13 : decode bcJ6_indexOfChar 13 = .ok (.aload_n 0, 1) := dk_42 (dk_at dksJ6_indexOfChar_0 13 rfl rfl)
theorem dJ6_indexOfChar_14 : decode bcJ6_indexOfChar 14 = .ok (.iload 5, 2) := dk_21 5 (dk_at dksJ6_indexOfChar_0 14 rfl rfl)
theorem dJ6_indexOfChar_16 : decode bcJ6_indexOfChar 16 = .ok (.baload, 1) := dk_51 (dk_at dksJ6_indexOfChar_0 16 rfl rfl)
theorem dJ6_indexOfChar_17 : decode bcJ6_indexOfChar 17 = .ok (.iload 4, 2) := dk_21 4 (dk_at dksJ6_indexOfChar_0 17 rfl rfl)
theorem dJ6_indexOfChar_19 : decode bcJ6_indexOfChar 19 = .ok (.if_icmp .ne 6, 3) := dk_160 0 6 (dk_at dksJ6_indexOfChar_0 19 rfl rfl)
theorem dJ6_indexOfChar_22 : decode bcJ6_indexOfChar 22 = .ok (.iload 5, 2) := dk_21 5 (dk_at dksJ6_indexOfChar_0 22 rfl rfl)
theorem dJ6_indexOfChar_24 : decode bcJ6_indexOfChar 24 = .ok (.ireturn, 1) := dk_172 (dk_at dksJ6_indexOfChar_1 0 rfl rfl)
theorem dJ6_indexOfChar_25 : decode bcJ6_indexOfChar 25 = .ok (.iinc 5 1, 3) := dk_132 5 1 (dk_at dksJ6_indexOfChar_1 1 rfl rfl)
theorem dJ6_indexOfChar_28 : decode bcJ6_indexOfChar 28 = .ok (.goto (-21), 3) := dk_167 255 235 (dk_at dksJ6_indexOfChar_1 4 rfl rfl)
theorem dJ6_indexOfChar_31 : decode bcJ6_indexOfChar 31 = .ok (.iconst (-1), 1) := dk_2 (dk_at dksJ6_indexOfChar_1 7 rfl rfl)
theorem dJ6_indexOfChar_32 : decode bcJ6_indexOfChar 32 = .ok (.ireturn, 1) := dk_172 (dk_at dksJ6_indexOfChar_1 8 rfl rfl)
abbrev SJ6_indexOfChar (pc : Nat) (i : xI) : Prop := Snd "java/lang/StringLatin1" "indexOfChar" prog_40_method_23_code 6 (Option.some Jvm.ClassFile.FieldType.int) [] pc i
theorem oJ6_indexOfChar_0 : SJ6_indexOfChar 0 (i_iload 1 1) := snd_iload_n dJ6_indexOfChar_0 rfl
theorem oJ6_indexOfChar_1 : SJ6_indexOfChar 1 (i_i1 (fun x => x.toInt8.toInt32) 2) := snd_i2b dJ6_indexOfChar_1
theorem oJ6_indexOfChar_2 : SJ6_indexOfChar 2 (i_istore 4 4) := snd_istore dJ6_indexOfChar_2 (by decide)
theorem oJ6_indexOfChar_4 : SJ6_indexOfChar 4 (i_iload 2 5) := snd_iload_n dJ6_indexOfChar_4 rfl
theorem oJ6_indexOfChar_5 : SJ6_indexOfChar 5 (i_istore 5 7) := snd_istore dJ6_indexOfChar_5 (by decide)
theorem oJ6_indexOfChar_7 : SJ6_indexOfChar 7 (i_iload 5 9) := snd_iload dJ6_indexOfChar_7
theorem oJ6_indexOfChar_9 : SJ6_indexOfChar 9 (i_iload 3 10) := snd_iload_n dJ6_indexOfChar_9 rfl
theorem oJ6_indexOfChar_10 : SJ6_indexOfChar 10 (i_if2 (fun x y => y ≤ x) 31 13) := snd_icmp_ge dJ6_indexOfChar_10 (by decide)
theorem oJ6_indexOfChar_13 : SJ6_indexOfChar 13 (i_aload 0 14) := snd_aload_n dJ6_indexOfChar_13 rfl
theorem oJ6_indexOfChar_14 : SJ6_indexOfChar 14 (i_iload 5 16) := snd_iload dJ6_indexOfChar_14
theorem oJ6_indexOfChar_16 : SJ6_indexOfChar 16 (i_ai 1 17) := snd_ai1 dJ6_indexOfChar_16
theorem oJ6_indexOfChar_17 : SJ6_indexOfChar 17 (i_iload 4 19) := snd_iload dJ6_indexOfChar_17
theorem oJ6_indexOfChar_19 : SJ6_indexOfChar 19 (i_if2 (fun x y => ¬ x = y) 25 22) := snd_icmp_ne dJ6_indexOfChar_19 (by decide)
theorem oJ6_indexOfChar_22 : SJ6_indexOfChar 22 (i_iload 5 24) := snd_iload dJ6_indexOfChar_22
theorem oJ6_indexOfChar_24 : SJ6_indexOfChar 24 (i_iret) := snd_iret dJ6_indexOfChar_24 rfl
theorem oJ6_indexOfChar_25 : SJ6_indexOfChar 25 (i_iinc 5 (nI 1) 28) := snd_iinc dJ6_indexOfChar_25 (by decide) (by decide)
theorem oJ6_indexOfChar_28 : SJ6_indexOfChar 28 (i_goto 7) := snd_goto dJ6_indexOfChar_28 (by decide)
theorem oJ6_indexOfChar_31 : SJ6_indexOfChar 31 (i_const (.int (-1)) 32) := snd_iconst dJ6_indexOfChar_31 (by decide)
theorem oJ6_indexOfChar_32 : SJ6_indexOfChar 32 (i_iret) := snd_iret dJ6_indexOfChar_32 rfl
theorem okJ6_indexOfChar : ∀ q ∈ cJ6_indexOfChar, SJ6_indexOfChar q.1 q.2 := List.forall_mem_cons.mpr ⟨oJ6_indexOfChar_0, List.forall_mem_cons.mpr ⟨oJ6_indexOfChar_1, List.forall_mem_cons.mpr ⟨oJ6_indexOfChar_2, List.forall_mem_cons.mpr ⟨oJ6_indexOfChar_4, List.forall_mem_cons.mpr ⟨oJ6_indexOfChar_5, List.forall_mem_cons.mpr ⟨oJ6_indexOfChar_7, List.forall_mem_cons.mpr ⟨oJ6_indexOfChar_9, List.forall_mem_cons.mpr ⟨oJ6_indexOfChar_10, List.forall_mem_cons.mpr ⟨oJ6_indexOfChar_13, List.forall_mem_cons.mpr ⟨oJ6_indexOfChar_14, List.forall_mem_cons.mpr ⟨oJ6_indexOfChar_16, List.forall_mem_cons.mpr ⟨oJ6_indexOfChar_17, List.forall_mem_cons.mpr ⟨oJ6_indexOfChar_19, List.forall_mem_cons.mpr ⟨oJ6_indexOfChar_22, List.forall_mem_cons.mpr ⟨oJ6_indexOfChar_24, List.forall_mem_cons.mpr ⟨oJ6_indexOfChar_25, List.forall_mem_cons.mpr ⟨oJ6_indexOfChar_28, List.forall_mem_cons.mpr ⟨oJ6_indexOfChar_31, List.forall_mem_cons.mpr ⟨oJ6_indexOfChar_32, fun _ h => absurd h List.not_mem_nil⟩⟩⟩⟩⟩⟩⟩⟩⟩⟩⟩⟩⟩⟩⟩⟩⟩⟩⟩
def dkwJ6_charAt_0 : List UInt8 := [27, 42, 190, 184, 0, 9, 42, 27, 51, 17, 0, 255, 126, 146, 172]
abbrev dktJ6_charAt_0 : List UInt8 := dkwJ6_charAt_0 ++ []
theorem dksJ6_charAt_0 : bcJ6_charAt.data.toList.drop 0 = dktJ6_charAt_0 := by decide +kernel
theorem dJ6_charAt_0 : decode bcJ6_charAt 0 = .ok (.iload_n 1, 1) := dk_27 (dk_at dksJ6_charAt_0 0 rfl rfl)
theorem dJ6_charAt_1 : decode bcJ6_charAt 1 = .ok (.aload_n 0, 1) := dk_42 (dk_at dksJ6_charAt_0 1 rfl rfl)
theorem dJ6_charAt_2 : decode bcJ6_charAt 2 = .ok (.arraylength, 1) := dk_190 (dk_at dksJ6_charAt_0 2 rfl rfl)
theorem dJ6_charAt_3 : decode bcJ6_charAt 3 = .ok (.invokestatic 9, 3) := dk_184 0 9 (dk_at dksJ6_charAt_0 3 rfl rfl)
theorem dJ6_charAt_6 : decode bcJ6_charAt 6 = .ok (.aload_n 0, 1) := dk_42 (dk_at dksJ6_charAt_0 6 rfl rfl)
theorem dJ6_charAt_7 : decode bcJ6_charAt 7 = .ok (.iload_n 1, 1) := dk_27 (dk_at dksJ6_charAt_0 7 rfl rfl)
theorem dJ6_charAt_8 : decode bcJ6_charAt 8 = .ok (.baload, 1) := dk_51 (dk_at dksJ6_charAt_0 8 rfl rfl)
theorem dJ6_charAt_9 : decode bcJ6_charAt 9 = .ok (.sipush 255, 3) := dk_17 0 255 (dk_at dksJ6_charAt_0 9 rfl rfl)
theorem dJ6_charAt_12 : decode bcJ6_charAt 12 = .ok (.iand, 1) := dk_126 (dk_at dksJ6_charAt_0 12 rfl rfl)
theorem dJ6_charAt_13 : decode bcJ6_charAt 13 = .ok (.i2c, 1) := dk_146 (dk_at dksJ6_charAt_0 13 rfl rfl)
theorem dJ6_charAt_14 : decode bcJ6_charAt 14 = .ok (.ireturn, 1) := dk_172 (dk_at dksJ6_charAt_0 14 rfl rfl)
abbrev SJ6_charAt (pc : Nat) (i : xI) : Prop := Snd "java/lang/StringLatin1" "charAt" prog_40_method_2_code 2 (Option.some Jvm.ClassFile.FieldType.char) [] pc i
theorem oJ6_charAt_0 : SJ6_charAt 0 (i_iload 1 1) := snd_iload_n dJ6_charAt_0 rfl
theorem oJ6_charAt_1 : SJ6_charAt 1 (i_aload 0 2) := snd_aload_n dJ6_charAt_1 rfl
theorem oJ6_charAt_2 : SJ6_charAt 2 (i_len 3) := snd_len dJ6_charAt_2
theorem oJ6_charAt_3 : SJ6_charAt 3 (i_csv 50 2 6) := snd_csv rfl infJ5_checkIndex (by decide) (xSm_S dJ6_charAt_3 q552 q553 q137 q554 pdJ5_checkIndex)
theorem oJ6_charAt_6 : SJ6_charAt 6 (i_aload 0 7) := snd_aload_n dJ6_charAt_6 rfl
theorem oJ6_charAt_7 : SJ6_charAt 7 (i_iload 1 8) := snd_iload_n dJ6_charAt_7 rfl
theorem oJ6_charAt_8 : SJ6_charAt 8 (i_ai 1 9) := snd_ai1 dJ6_charAt_8
theorem oJ6_charAt_9 : SJ6_charAt 9 (i_const (.int (nI 255)) 12) := snd_sipush dJ6_charAt_9 (by decide)
theorem oJ6_charAt_12 : SJ6_charAt 12 (i_ii (fun x y => x &&& y) 13) := snd_iand dJ6_charAt_12
theorem oJ6_charAt_13 : SJ6_charAt 13 (i_i1 (fun x => (x.toUInt32 % 65536).toInt32) 14) := snd_i2c dJ6_charAt_13
theorem oJ6_charAt_14 : SJ6_charAt 14 (i_nret .char) := snd_nret dJ6_charAt_14 rfl
theorem okJ6_charAt : ∀ q ∈ cJ6_charAt, SJ6_charAt q.1 q.2 := List.forall_mem_cons.mpr ⟨oJ6_charAt_0, List.forall_mem_cons.mpr ⟨oJ6_charAt_1, List.forall_mem_cons.mpr ⟨oJ6_charAt_2, List.forall_mem_cons.mpr ⟨oJ6_charAt_3, List.forall_mem_cons.mpr ⟨oJ6_charAt_6, List.forall_mem_cons.mpr ⟨oJ6_charAt_7, List.forall_mem_cons.mpr ⟨oJ6_charAt_8, List.forall_mem_cons.mpr ⟨oJ6_charAt_9, List.forall_mem_cons.mpr ⟨oJ6_charAt_12, List.forall_mem_cons.mpr ⟨oJ6_charAt_13, List.forall_mem_cons.mpr ⟨oJ6_charAt_14, fun _ h => absurd h List.not_mem_nil⟩⟩⟩⟩⟩⟩⟩⟩⟩⟩⟩
def dkwJ6_canEncode_2_0 : List UInt8 := [26, 17, 0, 255, 163, 0, 7, 4, 167, 0, 4, 3, 172]
abbrev dktJ6_canEncode_2_0 : List UInt8 := dkwJ6_canEncode_2_0 ++ []
theorem dksJ6_canEncode_2_0 : bcJ6_canEncode_2.data.toList.drop 0 = dktJ6_canEncode_2_0 := by decide +kernel
theorem dJ6_canEncode_2_0 : decode bcJ6_canEncode_2 0 = .ok (.iload_n 0, 1) := dk_26 (dk_at dksJ6_canEncode_2_0 0 rfl rfl)
theorem dJ6_canEncode_2_1 : decode bcJ6_canEncode_2 1 = .ok (.sipush 255, 3) := dk_17 0 255 (dk_at dksJ6_canEncode_2_0 1 rfl rfl)
theorem dJ6_canEncode_2_4 : decode bcJ6_canEncode_2 4 = .ok (.if_icmp .gt 7, 3) := dk_163 0 7 (dk_at dksJ6_canEncode_2_0 4 rfl rfl)
theorem dJ6_canEncode_2_7 : decode bcJ6_canEncode_2 7 = .ok (.iconst 1, 1) := dk_4 (dk_at dksJ6_canEncode_2_0 7 rfl rfl)
theorem dJ6_canEncode_2_8 : decode bcJ6_canEncode_2 8 = .ok (.goto 4, 3) := dk_167 0 4 (dk_at dksJ6_canEncode_2_0 8 rfl rfl)
theorem dJ6_canEncode_2_11 : decode bcJ6_canEncode_2 11 = .ok (.iconst 0, 1) := dk_3 (dk_at dksJ6_canEncode_2_0 11 rfl rfl)
theorem dJ6_canEncode_2_12 : decode bcJ6_canEncode_2 12 = .ok (.ireturn, 1) := dk_172 (dk_at dksJ6_canEncode_2_0 12 rfl rfl)
abbrev SJ6_canEncode_2 (pc : Nat) (i : xI) : Prop := Snd "java/lang/StringLatin1" "canEncode" prog_40_method_3_code 1 (Option.some Jvm.ClassFile.FieldType.boolean) [] pc i
theorem oJ6_canEncode_2_0 : SJ6_canEncode_2 0 (i_iload 0 1) := snd_iload_n dJ6_canEncode_2_0 rfl
theorem oJ6_canEncode_2_1 : SJ6_canEncode_2 1 (i_const (.int (nI 255)) 4) := snd_sipush dJ6_canEncode_2_1 (by decide)
theorem oJ6_canEncode_2_4 : SJ6_canEncode_2 4 (i_if2 (fun x y => y < x) 11 7) := snd_icmp_gt dJ6_canEncode_2_4 (by decide)
theorem oJ6_canEncode_2_7 : SJ6_canEncode_2 7 (i_const (.int (nI 1)) 8) := snd_iconst dJ6_canEncode_2_7 (by decide)
theorem oJ6_canEncode_2_8 : SJ6_canEncode_2 8 (i_goto 12) := snd_goto dJ6_canEncode_2_8 (by decide)
theorem oJ6_canEncode_2_11 : SJ6_canEncode_2 11 (i_const (.int (nI 0)) 12) := snd_iconst dJ6_canEncode_2_11 (by decide)
theorem oJ6_canEncode_2_12 : SJ6_canEncode_2 12 (i_zret) := snd_zret dJ6_canEncode_2_12 rfl
theorem okJ6_canEncode_2 : ∀ q ∈ cJ6_canEncode_2, SJ6_canEncode_2 q.1 q.2 := List.forall_mem_cons.mpr ⟨oJ6_canEncode_2_0, List.forall_mem_cons.mpr ⟨oJ6_canEncode_2_1, List.forall_mem_cons.mpr ⟨oJ6_canEncode_2_4, List.forall_mem_cons.mpr ⟨oJ6_canEncode_2_7, List.forall_mem_cons.mpr ⟨oJ6_canEncode_2_8, List.forall_mem_cons.mpr ⟨oJ6_canEncode_2_11, List.forall_mem_cons.mpr ⟨oJ6_canEncode_2_12, fun _ h => absurd h List.not_mem_nil⟩⟩⟩⟩⟩⟩⟩
def dkwJ6_equals_1 : List UInt8 := [3, 172, 132, 2, 1, 167, 255, 236, 4, 172, 3, 172]
abbrev dktJ6_equals_1 : List UInt8 := dkwJ6_equals_1 ++ []
def dkwJ6_equals_0 : List UInt8 := [42, 190, 43, 190, 160, 0, 30, 3, 61, 28, 42, 190, 162, 0, 20, 42, 28, 51, 43, 28, 51, 159, 0, 5]
abbrev dktJ6_equals_0 : List UInt8 := dkwJ6_equals_0 ++ dktJ6_equals_1
theorem dksJ6_equals_0 : bcJ6_equals.data.toList.drop 0 = dktJ6_equals_0 := by decide +kernel
theorem dksJ6_equals_1 : bcJ6_equals.data.toList.drop 24 = dktJ6_equals_1 := dk_seg dksJ6_equals_0 24 rfl rfl
theorem dJ6_equals_0 : decode bcJ6_equals 0 = .ok (.aload_n 0, 1) := dk_42 (dk_at dksJ6_equals_0 0 rfl rfl)
theorem dJ6_equals_1 : decode bcJ6_equals 1 = .ok (.arraylength, 1) := dk_190 (dk_at dksJ6_equals_0 1 rfl rfl)
theorem dJ6_equals_2 : decode bcJ6_equals 2 = .ok (.aload_n 1, 1) := dk_43 (dk_at dksJ6_equals_0 2 rfl rfl)
theorem dJ6_equals_3 : decode bcJ6_equals 3 = .ok (.arraylength, 1) := dk_190 (dk_at dksJ6_equals_0 3 rfl rfl)
theorem dJ6_equals_4 : decode bcJ6_equals 4 = .ok (.if_icmp .ne 30, 3) := dk_160 0 30 (dk_at dksJ6_equals_0 4 rfl rfl)
theorem dJ6_equals_7 : decode bcJ6_equals 7 = .ok (.iconst 0, 1) := dk_3 (dk_at dksJ6_equals_0 7 rfl rfl)
theorem dJ6_equals_8 : decode bcJ6_equals 8 = .ok (.istore_n 2, 1) := dk_61 (dk_at dksJ6_equals_0 8 rfl rfl)
theorem dJ6_equals_9 : decode bcJ6_equals 9 = .ok (.iload_n 2, 1) := dk_28 (dk_at dksJ6_equals_0 9 rfl rfl)
theorem dJ6_equals_10 : decode bcJ6_equals 10 = .ok (.aload_n 0, 1) := dk_42 (dk_at dksJ6_equals_0 10 rfl rfl)
theorem dJ6_equals_11 : decode bcJ6_equals 11 = .ok (.arraylength, 1) := dk_190 (dk_at dksJ6_equals_0 11 rfl rfl)
theorem dJ6_equals_12 : decode bcJ6_equals 12 = .ok (.if_icmp .ge 20, 3) := dk_162 0 20 (dk_at dksJ6_equals_0 12 rfl rfl)
theorem dJ6_equals_15 : decode bcJ6_equals 15 = .ok (.aload_n 0, 1) := dk_42 (dk_at dksJ6_equals_0 15 rfl rfl)
theorem dJ6_equals_16 : decode bcJ6_equals 16 = .ok (.iload_n 2, 1) := dk_28 (dk_at dksJ6_equals_0 16 rfl rfl)
theorem dJ6_equals_17 : decode bcJ6_equals 17 = .ok (.baload, 1) := dk_51 (dk_at dksJ6_equals_0 17 rfl rfl)
theorem dJ6_equals_18 : decode bcJ6_equals 18 = .ok (.aload_n 1, 1) := dk_43 (dk_at dksJ6_equals_0 18 rfl rfl)
theorem dJ6_equals_19 : decode bcJ6_equals 19 = .ok (.iload_n 2, 1) := dk_28 (dk_at dksJ6_equals_0 19 rfl rfl)
theorem dJ6_equals_20 : decode bcJ6_equals 20 = .ok (.baload, 1) := dk_51 (dk_at dksJ6_equals_0 20 rfl rfl)
theorem dJ6_equals_21 : decode bcJ6_equals 21 = .ok (.if_icmp .eq 5, 3) := dk_159 0 5 (dk_at dksJ6_equals_0 21 rfl rfl)
theorem dJ6_equals_24 : decode bcJ6_equals 24 = .ok (.iconst 0, 1) := dk_3 (dk_at dksJ6_equals_1 0 rfl rfl)
theorem dJ6_equals_25 : decode bcJ6_equals 25 = .ok (.ireturn, 1) := dk_172 (dk_at dksJ6_equals_1 1 rfl rfl)
theorem dJ6_equals_26 : decode bcJ6_equals 26 = .ok (.iinc 2 1, 3) := dk_132 2 1 (dk_at dksJ6_equals_1 2 rfl rfl)
theorem dJ6_equals_29 : decode bcJ6_equals 29 = .ok (.goto (-20), 3) := dk_167 255 236 (dk_at dksJ6_equals_1 5 rfl rfl)
theorem dJ6_equals_32 : decode bcJ6_equals 32 = .ok (.iconst 1, 1) := dk_4 (dk_at dksJ6_equals_1 8 rfl rfl)
theorem dJ6_equals_33 : decode bcJ6_equals 33 = .ok (.ireturn, 1) := dk_172 (dk_at dksJ6_equals_1 9 rfl rfl)
theorem dJ6_equals_34 : decode bcJ6_equals 34 = .ok (.iconst 0, 1) := dk_3 (dk_at dksJ6_equals_1 10 rfl rfl)
theorem dJ6_equals_35 : decode bcJ6_equals 35 = .ok (.ireturn, 1) := dk_172 (dk_at dksJ6_equals_1 11 rfl rfl)
abbrev SJ6_equals (pc : Nat) (i : xI) : Prop := Snd "java/lang/StringLatin1" "equals" prog_40_method_13_code 3 (Option.some Jvm.ClassFile.FieldType.boolean) [] pc i
theorem oJ6_equals_0 : SJ6_equals 0 (i_aload 0 1) := snd_aload_n dJ6_equals_0 rfl
theorem oJ6_equals_1 : SJ6_equals 1 (i_len 2) := snd_len dJ6_equals_1
theorem oJ6_equals_2 : SJ6_equals 2 (i_aload 1 3) := snd_aload_n dJ6_equals_2 rfl
theorem oJ6_equals_3 : SJ6_equals 3 (i_len 4) := snd_len dJ6_equals_3
theorem oJ6_equals_4 : SJ6_equals 4 (i_if2 (fun x y => ¬ x = y) 34 7) := snd_icmp_ne dJ6_equals_4 (by decide)
theorem oJ6_equals_7 : SJ6_equals 7 (i_const (.int (nI 0)) 8) := snd_iconst dJ6_equals_7 (by decide)
theorem oJ6_equals_8 : SJ6_equals 8 (i_istore 2 9) := snd_istore_n dJ6_equals_8 rfl (by decide)
theorem oJ6_equals_9 : SJ6_equals 9 (i_iload 2 10) := snd_iload_n dJ6_equals_9 rfl
theorem oJ6_equals_10 : SJ6_equals 10 (i_aload 0 11) := snd_aload_n dJ6_equals_10 rfl
theorem oJ6_equals_11 : SJ6_equals 11 (i_len 12) := snd_len dJ6_equals_11
theorem oJ6_equals_12 : SJ6_equals 12 (i_if2 (fun x y => y ≤ x) 32 15) := snd_icmp_ge dJ6_equals_12 (by decide)
theorem oJ6_equals_15 : SJ6_equals 15 (i_aload 0 16) := snd_aload_n dJ6_equals_15 rfl
theorem oJ6_equals_16 : SJ6_equals 16 (i_iload 2 17) := snd_iload_n dJ6_equals_16 rfl
theorem oJ6_equals_17 : SJ6_equals 17 (i_ai 1 18) := snd_ai1 dJ6_equals_17
theorem oJ6_equals_18 : SJ6_equals 18 (i_aload 1 19) := snd_aload_n dJ6_equals_18 rfl
theorem oJ6_equals_19 : SJ6_equals 19 (i_iload 2 20) := snd_iload_n dJ6_equals_19 rfl
theorem oJ6_equals_20 : SJ6_equals 20 (i_ai 1 21) := snd_ai1 dJ6_equals_20
theorem oJ6_equals_21 : SJ6_equals 21 (i_if2 (fun x y => x = y) 26 24) := snd_icmp_eq dJ6_equals_21 (by decide)
theorem oJ6_equals_24 : SJ6_equals 24 (i_const (.int (nI 0)) 25) := snd_iconst dJ6_equals_24 (by decide)
theorem oJ6_equals_25 : SJ6_equals 25 (i_zret) := snd_zret dJ6_equals_25 rfl
theorem oJ6_equals_26 : SJ6_equals 26 (i_iinc 2 (nI 1) 29) := snd_iinc dJ6_equals_26 (by decide) (by decide)
theorem oJ6_equals_29 : SJ6_equals 29 (i_goto 9) := snd_goto dJ6_equals_29 (by decide)
theorem oJ6_equals_32 : SJ6_equals 32 (i_const (.int (nI 1)) 33) := snd_iconst dJ6_equals_32 (by decide)
theorem oJ6_equals_33 : SJ6_equals 33 (i_zret) := snd_zret dJ6_equals_33 rfl
theorem oJ6_equals_34 : SJ6_equals 34 (i_const (.int (nI 0)) 35) := snd_iconst dJ6_equals_34 (by decide)
theorem oJ6_equals_35 : SJ6_equals 35 (i_zret) := snd_zret dJ6_equals_35 rfl
theorem okJ6_equals : ∀ q ∈ cJ6_equals, SJ6_equals q.1 q.2 := List.forall_mem_cons.mpr ⟨oJ6_equals_0, List.forall_mem_cons.mpr ⟨oJ6_equals_1, List.forall_mem_cons.mpr ⟨oJ6_equals_2, List.forall_mem_cons.mpr ⟨oJ6_equals_3, List.forall_mem_cons.mpr ⟨oJ6_equals_4, List.forall_mem_cons.mpr ⟨oJ6_equals_7, List.forall_mem_cons.mpr ⟨oJ6_equals_8, List.forall_mem_cons.mpr ⟨oJ6_equals_9, List.forall_mem_cons.mpr ⟨oJ6_equals_10, List.forall_mem_cons.mpr ⟨oJ6_equals_11, List.forall_mem_cons.mpr ⟨oJ6_equals_12, List.forall_mem_cons.mpr ⟨oJ6_equals_15, List.forall_mem_cons.mpr ⟨oJ6_equals_16, List.forall_mem_cons.mpr ⟨oJ6_equals_17, List.forall_mem_cons.mpr ⟨oJ6_equals_18, List.forall_mem_cons.mpr ⟨oJ6_equals_19, List.forall_mem_cons.mpr ⟨oJ6_equals_20, List.forall_mem_cons.mpr ⟨oJ6_equals_21, List.forall_mem_cons.mpr ⟨oJ6_equals_24, List.forall_mem_cons.mpr ⟨oJ6_equals_25, List.forall_mem_cons.mpr ⟨oJ6_equals_26, List.forall_mem_cons.mpr ⟨oJ6_equals_29, List.forall_mem_cons.mpr ⟨oJ6_equals_32, List.forall_mem_cons.mpr ⟨oJ6_equals_33, List.forall_mem_cons.mpr ⟨oJ6_equals_34, List.forall_mem_cons.mpr ⟨oJ6_equals_35, fun _ h => absurd h List.not_mem_nil⟩⟩⟩⟩⟩⟩⟩⟩⟩⟩⟩⟩⟩⟩⟩⟩⟩⟩⟩⟩⟩⟩⟩⟩⟩⟩
def dkwJ7_max_0 : List UInt8 := [26, 27, 161, 0, 7, 26, 167, 0, 4, 27, 172]
abbrev dktJ7_max_0 : List UInt8 := dkwJ7_max_0 ++ []
theorem dksJ7_max_0 : bcJ7_max.data.toList.drop 0 = dktJ7_max_0 := by decide +kernel
theorem dJ7_max_0 : decode bcJ7_max 0 = .ok (.iload_n 0, 1) := dk_26 (dk_at dksJ7_max_0 0 rfl rfl)
theorem dJ7_max_1 : decode bcJ7_max 1 = .ok (.iload_n 1, 1) := dk_27 (dk_at dksJ7_max_0 1 rfl rfl)
theorem dJ7_max_2 : decode bcJ7_max 2 = .ok (.if_icmp .lt 7, 3) := dk_161 0 7 (dk_at dksJ7_max_0 2 rfl rfl)
theorem dJ7_max_5 : decode bcJ7_max 5 = .ok (.iload_n 0, 1) := dk_26 (dk_at dksJ7_max_0 5 rfl rfl)
theorem dJ7_max_6 : decode bcJ7_max 6 = .ok (.goto 4, 3) := dk_167 0 4 (dk_at dksJ7_max_0 6 rfl rfl)
theorem dJ7_max_9 : decode bcJ7_max 9 = .ok (.iload_n 1, 1) := dk_27 (dk_at dksJ7_max_0 9 rfl rfl)
theorem dJ7_max_10 : decode bcJ7_max 10 = .ok (.ireturn, 1) := dk_172 (dk_at dksJ7_max_0 10 rfl rfl)
abbrev SJ7_max (pc : Nat) (i : xI) : Prop := Snd "java/lang/Math" "max" prog_36_method_65_code 2 (Option.some Jvm.ClassFile.FieldType.int) [] pc i
theorem oJ7_max_0 : SJ7_max 0 (i_iload 0 1) := snd_iload_n dJ7_max_0 rfl
theorem oJ7_max_1 : SJ7_max 1 (i_iload 1 2) := snd_iload_n dJ7_max_1 rfl
theorem oJ7_max_2 : SJ7_max 2 (i_if2 (fun x y => x < y) 9 5) := snd_icmp_lt dJ7_max_2 (by decide)
theorem oJ7_max_5 : SJ7_max 5 (i_iload 0 6) := snd_iload_n dJ7_max_5 rfl
theorem oJ7_max_6 : SJ7_max 6 (i_goto 10) := snd_goto dJ7_max_6 (by decide)
theorem oJ7_max_9 : SJ7_max 9 (i_iload 1 10) := snd_iload_n dJ7_max_9 rfl
theorem oJ7_max_10 : SJ7_max 10 (i_iret) := snd_iret dJ7_max_10 rfl
theorem okJ7_max : ∀ q ∈ cJ7_max, SJ7_max q.1 q.2 := List.forall_mem_cons.mpr ⟨oJ7_max_0, List.forall_mem_cons.mpr ⟨oJ7_max_1, List.forall_mem_cons.mpr ⟨oJ7_max_2, List.forall_mem_cons.mpr ⟨oJ7_max_5, List.forall_mem_cons.mpr ⟨oJ7_max_6, List.forall_mem_cons.mpr ⟨oJ7_max_9, List.forall_mem_cons.mpr ⟨oJ7_max_10, fun _ h => absurd h List.not_mem_nil⟩⟩⟩⟩⟩⟩⟩
def dkwJ7_min_0 : List UInt8 := [26, 27, 163, 0, 7, 26, 167, 0, 4, 27, 172]
abbrev dktJ7_min_0 : List UInt8 := dkwJ7_min_0 ++ []
theorem dksJ7_min_0 : bcJ7_min.data.toList.drop 0 = dktJ7_min_0 := by decide +kernel
theorem dJ7_min_0 : decode bcJ7_min 0 = .ok (.iload_n 0, 1) := dk_26 (dk_at dksJ7_min_0 0 rfl rfl)
theorem dJ7_min_1 : decode bcJ7_min 1 = .ok (.iload_n 1, 1) := dk_27 (dk_at dksJ7_min_0 1 rfl rfl)
theorem dJ7_min_2 : decode bcJ7_min 2 = .ok (.if_icmp .gt 7, 3) := dk_163 0 7 (dk_at dksJ7_min_0 2 rfl rfl)
theorem dJ7_min_5 : decode bcJ7_min 5 = .ok (.iload_n 0, 1) := dk_26 (dk_at dksJ7_min_0 5 rfl rfl)
theorem dJ7_min_6 : decode bcJ7_min 6 = .ok (.goto 4, 3) := dk_167 0 4 (dk_at dksJ7_min_0 6 rfl rfl)
theorem dJ7_min_9 : decode bcJ7_min 9 = .ok (.iload_n 1, 1) := dk_27 (dk_at dksJ7_min_0 9 rfl rfl)
theorem dJ7_min_10 : decode bcJ7_min 10 = .ok (.ireturn, 1) := dk_172 (dk_at dksJ7_min_0 10 rfl rfl)
abbrev SJ7_min (pc : Nat) (i : xI) : Prop := Snd "java/lang/Math" "min" prog_36_method_69_code 2 (Option.some Jvm.ClassFile.FieldType.int) [] pc i
theorem oJ7_min_0 : SJ7_min 0 (i_iload 0 1) := snd_iload_n dJ7_min_0 rfl
theorem oJ7_min_1 : SJ7_min 1 (i_iload 1 2) := snd_iload_n dJ7_min_1 rfl
theorem oJ7_min_2 : SJ7_min 2 (i_if2 (fun x y => y < x) 9 5) := snd_icmp_gt dJ7_min_2 (by decide)
theorem oJ7_min_5 : SJ7_min 5 (i_iload 0 6) := snd_iload_n dJ7_min_5 rfl
theorem oJ7_min_6 : SJ7_min 6 (i_goto 10) := snd_goto dJ7_min_6 (by decide)
theorem oJ7_min_9 : SJ7_min 9 (i_iload 1 10) := snd_iload_n dJ7_min_9 rfl
theorem oJ7_min_10 : SJ7_min 10 (i_iret) := snd_iret dJ7_min_10 rfl
theorem okJ7_min : ∀ q ∈ cJ7_min, SJ7_min q.1 q.2 := List.forall_mem_cons.mpr ⟨oJ7_min_0, List.forall_mem_cons.mpr ⟨oJ7_min_1, List.forall_mem_cons.mpr ⟨oJ7_min_2, List.forall_mem_cons.mpr ⟨oJ7_min_5, List.forall_mem_cons.mpr ⟨oJ7_min_6, List.forall_mem_cons.mpr ⟨oJ7_min_9, List.forall_mem_cons.mpr ⟨oJ7_min_10, fun _ h => absurd h List.not_mem_nil⟩⟩⟩⟩⟩⟩⟩
def dkwX0_rests_0 : List UInt8 := [25, 5, 3, 42, 27, 28, 29, 21, 4, 182, 0, 7, 133, 80, 167, 0, 7, 58, 6, 4, 172, 3, 172]
abbrev dktX0_rests_0 : List UInt8 := dkwX0_rests_0 ++ []
theorem dksX0_rests_0 : bcX0_rests.data.toList.drop 0 = dktX0_rests_0 := by decide +kernel
theorem dX0_rests_0 : decode bcX0_rests 0 = .ok (.aload 5, 2) := dk_25 5 (dk_at dksX0_rests_0 0 rfl rfl)
theorem dX0_rests_2 : decode bcX0_rests 2 = .ok (.iconst 0, 1) := dk_3 (dk_at dksX0_rests_0 2 rfl rfl)
theorem dX0_rests_3 : decode bcX0_rests 3 = .ok (.aload_n 0, 1) := dk_42 (dk_at dksX0_rests_0 3 rfl rfl)
theorem dX0_rests_4 : decode bcX0_rests 4 = .ok (.iload_n 1, 1) := dk_27 (dk_at dksX0_rests_0 4 rfl rfl)
theorem dX0_rests_5 : decode bcX0_rests 5 = .ok (.iload_n 2, 1) := dk_28 (dk_at dksX0_rests_0 5 rfl rfl)
theorem dX0_rests_6 : decode bcX0_rests 6 = .ok (.iload_n 3, 1) := dk_29 (dk_at dksX0_rests_0 6 rfl rfl)
theorem dX0_rests_7 : decode bcX0_rests 7 = .ok (.iload 4, 2) := dk_21 4 (dk_at dksX0_rests_0 7 rfl rfl)
theorem dX0_rests_9 : decode bcX0_rests 9 = .ok (.invokevirtual 7, 3) := dk_182 0 7 (dk_at dksX0_rests_0 9 rfl rfl)
theorem dX0_rests_12 : decode bcX0_rests 12 = .ok (.i2l, 1) := dk_133 (dk_at dksX0_rests_0 12 rfl rfl)
theorem dX0_rests_13 : decode bcX0_rests 13 = .ok (.lastore, 1) := dk_80 (dk_at dksX0_rests_0 13 rfl rfl)
theorem dX0_rests_14 : decode bcX0_rests 14 = .ok (.goto 7, 3) := dk_167 0 7 (dk_at dksX0_rests_0 14 rfl rfl)
theorem dX0_rests_17 : decode bcX0_rests 17 = .ok (.astore 6, 2) := dk_58 6 (dk_at dksX0_rests_0 17 rfl rfl)
theorem dX0_rests_19 : decode bcX0_rests 19 = .ok (.iconst 1, 1) := dk_4 (dk_at dksX0_rests_0 19 rfl rfl)
theorem dX0_rests_20 : decode bcX0_rests 20 = .ok (.ireturn, 1) := dk_172 (dk_at dksX0_rests_0 20 rfl rfl)
theorem dX0_rests_21 : decode bcX0_rests 21 = .ok (.iconst 0, 1) := dk_3 (dk_at dksX0_rests_0 21 rfl rfl)
theorem dX0_rests_22 : decode bcX0_rests 22 = .ok (.ireturn, 1) := dk_172 (dk_at dksX0_rests_0 22 rfl rfl)
abbrev SX0_rests (pc : Nat) (i : xI) : Prop := Snd "SwollenHouseLaw" "rests" method_3_code 7 (Option.some Jvm.ClassFile.FieldType.int) [((0 : Nat), (14 : Nat), (17 : Nat), (13 : Nat))] pc i
theorem oX0_rests_0 : SX0_rests 0 (i_aload 5 2) := snd_aload dX0_rests_0
theorem oX0_rests_2 : SX0_rests 2 (i_const (.int (nI 0)) 3) := snd_iconst dX0_rests_2 (by decide)
theorem oX0_rests_3 : SX0_rests 3 (i_aload 0 4) := snd_aload_n dX0_rests_3 rfl
theorem oX0_rests_4 : SX0_rests 4 (i_iload 1 5) := snd_iload_n dX0_rests_4 rfl
theorem oX0_rests_5 : SX0_rests 5 (i_iload 2 6) := snd_iload_n dX0_rests_5 rfl
theorem oX0_rests_6 : SX0_rests 6 (i_iload 3 7) := snd_iload_n dX0_rests_6 rfl
theorem oX0_rests_7 : SX0_rests 7 (i_iload 4 9) := snd_iload dX0_rests_7
theorem oX0_rests_9 : SX0_rests 9 (i_cvh [24] 17 0 163 4 12) := snd_cvh rfl rfl (by decide) rfl q1601 okch_24 infX1_rests (by decide) rfl (xVm_V dX0_rests_9 rfl q1602 q1603 q1604 q127 q1605 pdX1_rests)
theorem oX0_rests_12 : SX0_rests 12 (i_i2l 13) := snd_i2l dX0_rests_12
theorem oX0_rests_13 : SX0_rests 13 (i_sl 3 14) := snd_sl3 dX0_rests_13
theorem oX0_rests_14 : SX0_rests 14 (i_goto 21) := snd_goto dX0_rests_14 (by decide)
theorem oX0_rests_17 : SX0_rests 17 (i_astore 6 19) := snd_astore dX0_rests_17 (by decide)
theorem oX0_rests_19 : SX0_rests 19 (i_const (.int (nI 1)) 20) := snd_iconst dX0_rests_19 (by decide)
theorem oX0_rests_20 : SX0_rests 20 (i_iret) := snd_iret dX0_rests_20 rfl
theorem oX0_rests_21 : SX0_rests 21 (i_const (.int (nI 0)) 22) := snd_iconst dX0_rests_21 (by decide)
theorem oX0_rests_22 : SX0_rests 22 (i_iret) := snd_iret dX0_rests_22 rfl
theorem okX0_rests : ∀ q ∈ cX0_rests, SX0_rests q.1 q.2 := List.forall_mem_cons.mpr ⟨oX0_rests_0, List.forall_mem_cons.mpr ⟨oX0_rests_2, List.forall_mem_cons.mpr ⟨oX0_rests_3, List.forall_mem_cons.mpr ⟨oX0_rests_4, List.forall_mem_cons.mpr ⟨oX0_rests_5, List.forall_mem_cons.mpr ⟨oX0_rests_6, List.forall_mem_cons.mpr ⟨oX0_rests_7, List.forall_mem_cons.mpr ⟨oX0_rests_9, List.forall_mem_cons.mpr ⟨oX0_rests_12, List.forall_mem_cons.mpr ⟨oX0_rests_13, List.forall_mem_cons.mpr ⟨oX0_rests_14, List.forall_mem_cons.mpr ⟨oX0_rests_17, List.forall_mem_cons.mpr ⟨oX0_rests_19, List.forall_mem_cons.mpr ⟨oX0_rests_20, List.forall_mem_cons.mpr ⟨oX0_rests_21, List.forall_mem_cons.mpr ⟨oX0_rests_22, fun _ h => absurd h List.not_mem_nil⟩⟩⟩⟩⟩⟩⟩⟩⟩⟩⟩⟩⟩⟩⟩⟩
theorem dX10_init_0 : decode bcX10_init 0 = .ok (.aload_n 0, 1) := by decide +kernel
theorem dX10_init_1 : decode bcX10_init 1 = .ok (.invokespecial 1, 3) := by decide +kernel
theorem dX10_init_4 : decode bcX10_init 4 = .ok (.return_, 1) := by decide +kernel
abbrev SX10_init (pc : Nat) (i : xI) : Prop := Snd "SwollenHouse$Pine" "<init>" prog_15_method_1_code 1 (Option.none : Option Jvm.ClassFile.FieldType) [] pc i
theorem oX10_init_0 : SX10_init 0 (i_aload 0 1) := snd_aload_n dX10_init_0 rfl
theorem oX10_init_1 : SX10_init 1 (i_ci [7, 8, 9, 10] 370 0 4) := snd_ci rfl infX8_init (by decide) (xcls_ok _ (by decide)) (xIm_N dX10_init_1 rfl q947 q938 q152 q939 pdX8_init)
theorem oX10_init_4 : SX10_init 4 (i_vret) := snd_vret dX10_init_4 rfl
theorem okX10_init : ∀ q ∈ cX10_init, SX10_init q.1 q.2 := List.forall_mem_cons.mpr ⟨oX10_init_0, List.forall_mem_cons.mpr ⟨oX10_init_1, List.forall_mem_cons.mpr ⟨oX10_init_4, fun _ h => absurd h List.not_mem_nil⟩⟩⟩
theorem dX10_kind_0 : decode bcX10_kind 0 = .ok (.iconst 1, 1) := by decide +kernel
theorem dX10_kind_1 : decode bcX10_kind 1 = .ok (.ireturn, 1) := by decide +kernel
abbrev SX10_kind (pc : Nat) (i : xI) : Prop := Snd "SwollenHouse$Pine" "kind" prog_15_method_2_code 1 (Option.some Jvm.ClassFile.FieldType.int) [] pc i
theorem oX10_kind_0 : SX10_kind 0 (i_const (.int (nI 1)) 1) := snd_iconst dX10_kind_0 (by decide)
theorem oX10_kind_1 : SX10_kind 1 (i_iret) := snd_iret dX10_kind_1 rfl
theorem okX10_kind : ∀ q ∈ cX10_kind, SX10_kind q.1 q.2 := List.forall_mem_cons.mpr ⟨oX10_kind_0, List.forall_mem_cons.mpr ⟨oX10_kind_1, fun _ h => absurd h List.not_mem_nil⟩⟩
theorem dX10_upper_0 : decode bcX10_upper 0 = .ok (.iconst 4, 1) := by decide +kernel
theorem dX10_upper_1 : decode bcX10_upper 1 = .ok (.ireturn, 1) := by decide +kernel
abbrev SX10_upper (pc : Nat) (i : xI) : Prop := Snd "SwollenHouse$Pine" "upper" prog_15_method_3_code 1 (Option.some Jvm.ClassFile.FieldType.int) [] pc i
theorem oX10_upper_0 : SX10_upper 0 (i_const (.int (nI 4)) 1) := snd_iconst dX10_upper_0 (by decide)
theorem oX10_upper_1 : SX10_upper 1 (i_iret) := snd_iret dX10_upper_1 rfl
theorem okX10_upper : ∀ q ∈ cX10_upper, SX10_upper q.1 q.2 := List.forall_mem_cons.mpr ⟨oX10_upper_0, List.forall_mem_cons.mpr ⟨oX10_upper_1, fun _ h => absurd h List.not_mem_nil⟩⟩
theorem dX10_lower_0 : decode bcX10_lower 0 = .ok (.iconst 4, 1) := by decide +kernel
theorem dX10_lower_1 : decode bcX10_lower 1 = .ok (.ireturn, 1) := by decide +kernel
abbrev SX10_lower (pc : Nat) (i : xI) : Prop := Snd "SwollenHouse$Pine" "lower" prog_15_method_4_code 1 (Option.some Jvm.ClassFile.FieldType.int) [] pc i
theorem oX10_lower_0 : SX10_lower 0 (i_const (.int (nI 4)) 1) := snd_iconst dX10_lower_0 (by decide)
theorem oX10_lower_1 : SX10_lower 1 (i_iret) := snd_iret dX10_lower_1 rfl
theorem okX10_lower : ∀ q ∈ cX10_lower, SX10_lower q.1 q.2 := List.forall_mem_cons.mpr ⟨oX10_lower_0, List.forall_mem_cons.mpr ⟨oX10_lower_1, fun _ h => absurd h List.not_mem_nil⟩⟩
theorem dX10_shrinks_0 : decode bcX10_shrinks 0 = .ok (.iconst 2, 1) := by decide +kernel
theorem dX10_shrinks_1 : decode bcX10_shrinks 1 = .ok (.ireturn, 1) := by decide +kernel
abbrev SX10_shrinks (pc : Nat) (i : xI) : Prop := Snd "SwollenHouse$Pine" "shrinks" prog_15_method_5_code 1 (Option.some Jvm.ClassFile.FieldType.int) [] pc i
theorem oX10_shrinks_0 : SX10_shrinks 0 (i_const (.int (nI 2)) 1) := snd_iconst dX10_shrinks_0 (by decide)
theorem oX10_shrinks_1 : SX10_shrinks 1 (i_iret) := snd_iret dX10_shrinks_1 rfl
theorem okX10_shrinks : ∀ q ∈ cX10_shrinks, SX10_shrinks q.1 q.2 := List.forall_mem_cons.mpr ⟨oX10_shrinks_0, List.forall_mem_cons.mpr ⟨oX10_shrinks_1, fun _ h => absurd h List.not_mem_nil⟩⟩
theorem dX11_init_0 : decode bcX11_init 0 = .ok (.aload_n 0, 1) := by decide +kernel
theorem dX11_init_1 : decode bcX11_init 1 = .ok (.invokespecial 1, 3) := by decide +kernel
theorem dX11_init_4 : decode bcX11_init 4 = .ok (.return_, 1) := by decide +kernel
abbrev SX11_init (pc : Nat) (i : xI) : Prop := Snd "SwollenHouse$Elm" "<init>" prog_3_method_1_code 1 (Option.none : Option Jvm.ClassFile.FieldType) [] pc i
theorem oX11_init_0 : SX11_init 0 (i_aload 0 1) := snd_aload_n dX11_init_0 rfl
theorem oX11_init_1 : SX11_init 1 (i_ci [7, 8, 9, 10] 370 0 4) := snd_ci rfl infX8_init (by decide) (xcls_ok _ (by decide)) (xIm_N dX11_init_1 rfl q954 q938 q152 q939 pdX8_init)
theorem oX11_init_4 : SX11_init 4 (i_vret) := snd_vret dX11_init_4 rfl
theorem okX11_init : ∀ q ∈ cX11_init, SX11_init q.1 q.2 := List.forall_mem_cons.mpr ⟨oX11_init_0, List.forall_mem_cons.mpr ⟨oX11_init_1, List.forall_mem_cons.mpr ⟨oX11_init_4, fun _ h => absurd h List.not_mem_nil⟩⟩⟩
theorem dX11_kind_0 : decode bcX11_kind 0 = .ok (.iconst 2, 1) := by decide +kernel
theorem dX11_kind_1 : decode bcX11_kind 1 = .ok (.ireturn, 1) := by decide +kernel
abbrev SX11_kind (pc : Nat) (i : xI) : Prop := Snd "SwollenHouse$Elm" "kind" prog_3_method_2_code 1 (Option.some Jvm.ClassFile.FieldType.int) [] pc i
theorem oX11_kind_0 : SX11_kind 0 (i_const (.int (nI 2)) 1) := snd_iconst dX11_kind_0 (by decide)
theorem oX11_kind_1 : SX11_kind 1 (i_iret) := snd_iret dX11_kind_1 rfl
theorem okX11_kind : ∀ q ∈ cX11_kind, SX11_kind q.1 q.2 := List.forall_mem_cons.mpr ⟨oX11_kind_0, List.forall_mem_cons.mpr ⟨oX11_kind_1, fun _ h => absurd h List.not_mem_nil⟩⟩
theorem dX11_upper_0 : decode bcX11_upper 0 = .ok (.iconst 5, 1) := by decide +kernel
theorem dX11_upper_1 : decode bcX11_upper 1 = .ok (.ireturn, 1) := by decide +kernel
abbrev SX11_upper (pc : Nat) (i : xI) : Prop := Snd "SwollenHouse$Elm" "upper" prog_3_method_3_code 1 (Option.some Jvm.ClassFile.FieldType.int) [] pc i
theorem oX11_upper_0 : SX11_upper 0 (i_const (.int (nI 5)) 1) := snd_iconst dX11_upper_0 (by decide)
theorem oX11_upper_1 : SX11_upper 1 (i_iret) := snd_iret dX11_upper_1 rfl
theorem okX11_upper : ∀ q ∈ cX11_upper, SX11_upper q.1 q.2 := List.forall_mem_cons.mpr ⟨oX11_upper_0, List.forall_mem_cons.mpr ⟨oX11_upper_1, fun _ h => absurd h List.not_mem_nil⟩⟩
theorem dX11_lower_0 : decode bcX11_lower 0 = .ok (.iconst 1, 1) := by decide +kernel
theorem dX11_lower_1 : decode bcX11_lower 1 = .ok (.ireturn, 1) := by decide +kernel
abbrev SX11_lower (pc : Nat) (i : xI) : Prop := Snd "SwollenHouse$Elm" "lower" prog_3_method_4_code 1 (Option.some Jvm.ClassFile.FieldType.int) [] pc i
theorem oX11_lower_0 : SX11_lower 0 (i_const (.int (nI 1)) 1) := snd_iconst dX11_lower_0 (by decide)
theorem oX11_lower_1 : SX11_lower 1 (i_iret) := snd_iret dX11_lower_1 rfl
theorem okX11_lower : ∀ q ∈ cX11_lower, SX11_lower q.1 q.2 := List.forall_mem_cons.mpr ⟨oX11_lower_0, List.forall_mem_cons.mpr ⟨oX11_lower_1, fun _ h => absurd h List.not_mem_nil⟩⟩
theorem dX11_shrinks_0 : decode bcX11_shrinks 0 = .ok (.iconst 3, 1) := by decide +kernel
theorem dX11_shrinks_1 : decode bcX11_shrinks 1 = .ok (.ireturn, 1) := by decide +kernel
abbrev SX11_shrinks (pc : Nat) (i : xI) : Prop := Snd "SwollenHouse$Elm" "shrinks" prog_3_method_5_code 1 (Option.some Jvm.ClassFile.FieldType.int) [] pc i
theorem oX11_shrinks_0 : SX11_shrinks 0 (i_const (.int (nI 3)) 1) := snd_iconst dX11_shrinks_0 (by decide)
theorem oX11_shrinks_1 : SX11_shrinks 1 (i_iret) := snd_iret dX11_shrinks_1 rfl
theorem okX11_shrinks : ∀ q ∈ cX11_shrinks, SX11_shrinks q.1 q.2 := List.forall_mem_cons.mpr ⟨oX11_shrinks_0, List.forall_mem_cons.mpr ⟨oX11_shrinks_1, fun _ h => absurd h List.not_mem_nil⟩⟩
theorem dX12_init_0 : decode bcX12_init 0 = .ok (.aload_n 0, 1) := by decide +kernel
theorem dX12_init_1 : decode bcX12_init 1 = .ok (.invokespecial 1, 3) := by decide +kernel
theorem dX12_init_4 : decode bcX12_init 4 = .ok (.return_, 1) := by decide +kernel
abbrev SX12_init (pc : Nat) (i : xI) : Prop := Snd "SwollenHouse$Lime" "<init>" prog_9_method_1_code 1 (Option.none : Option Jvm.ClassFile.FieldType) [] pc i
theorem oX12_init_0 : SX12_init 0 (i_aload 0 1) := snd_aload_n dX12_init_0 rfl
theorem oX12_init_1 : SX12_init 1 (i_ci [7, 8, 9, 10] 370 0 4) := snd_ci rfl infX8_init (by decide) (xcls_ok _ (by decide)) (xIm_N dX12_init_1 rfl q961 q938 q152 q939 pdX8_init)
theorem oX12_init_4 : SX12_init 4 (i_vret) := snd_vret dX12_init_4 rfl
theorem okX12_init : ∀ q ∈ cX12_init, SX12_init q.1 q.2 := List.forall_mem_cons.mpr ⟨oX12_init_0, List.forall_mem_cons.mpr ⟨oX12_init_1, List.forall_mem_cons.mpr ⟨oX12_init_4, fun _ h => absurd h List.not_mem_nil⟩⟩⟩
theorem dX12_kind_0 : decode bcX12_kind 0 = .ok (.iconst 3, 1) := by decide +kernel
theorem dX12_kind_1 : decode bcX12_kind 1 = .ok (.ireturn, 1) := by decide +kernel
abbrev SX12_kind (pc : Nat) (i : xI) : Prop := Snd "SwollenHouse$Lime" "kind" prog_9_method_2_code 1 (Option.some Jvm.ClassFile.FieldType.int) [] pc i
theorem oX12_kind_0 : SX12_kind 0 (i_const (.int (nI 3)) 1) := snd_iconst dX12_kind_0 (by decide)
theorem oX12_kind_1 : SX12_kind 1 (i_iret) := snd_iret dX12_kind_1 rfl
theorem okX12_kind : ∀ q ∈ cX12_kind, SX12_kind q.1 q.2 := List.forall_mem_cons.mpr ⟨oX12_kind_0, List.forall_mem_cons.mpr ⟨oX12_kind_1, fun _ h => absurd h List.not_mem_nil⟩⟩
theorem dX12_upper_0 : decode bcX12_upper 0 = .ok (.iconst 3, 1) := by decide +kernel
theorem dX12_upper_1 : decode bcX12_upper 1 = .ok (.ireturn, 1) := by decide +kernel
abbrev SX12_upper (pc : Nat) (i : xI) : Prop := Snd "SwollenHouse$Lime" "upper" prog_9_method_3_code 1 (Option.some Jvm.ClassFile.FieldType.int) [] pc i
theorem oX12_upper_0 : SX12_upper 0 (i_const (.int (nI 3)) 1) := snd_iconst dX12_upper_0 (by decide)
theorem oX12_upper_1 : SX12_upper 1 (i_iret) := snd_iret dX12_upper_1 rfl
theorem okX12_upper : ∀ q ∈ cX12_upper, SX12_upper q.1 q.2 := List.forall_mem_cons.mpr ⟨oX12_upper_0, List.forall_mem_cons.mpr ⟨oX12_upper_1, fun _ h => absurd h List.not_mem_nil⟩⟩
theorem dX12_lower_0 : decode bcX12_lower 0 = .ok (.iconst 3, 1) := by decide +kernel
theorem dX12_lower_1 : decode bcX12_lower 1 = .ok (.ireturn, 1) := by decide +kernel
abbrev SX12_lower (pc : Nat) (i : xI) : Prop := Snd "SwollenHouse$Lime" "lower" prog_9_method_4_code 1 (Option.some Jvm.ClassFile.FieldType.int) [] pc i
theorem oX12_lower_0 : SX12_lower 0 (i_const (.int (nI 3)) 1) := snd_iconst dX12_lower_0 (by decide)
theorem oX12_lower_1 : SX12_lower 1 (i_iret) := snd_iret dX12_lower_1 rfl
theorem okX12_lower : ∀ q ∈ cX12_lower, SX12_lower q.1 q.2 := List.forall_mem_cons.mpr ⟨oX12_lower_0, List.forall_mem_cons.mpr ⟨oX12_lower_1, fun _ h => absurd h List.not_mem_nil⟩⟩
theorem dX12_shrinks_0 : decode bcX12_shrinks 0 = .ok (.iconst 1, 1) := by decide +kernel
theorem dX12_shrinks_1 : decode bcX12_shrinks 1 = .ok (.ireturn, 1) := by decide +kernel
abbrev SX12_shrinks (pc : Nat) (i : xI) : Prop := Snd "SwollenHouse$Lime" "shrinks" prog_9_method_5_code 1 (Option.some Jvm.ClassFile.FieldType.int) [] pc i
theorem oX12_shrinks_0 : SX12_shrinks 0 (i_const (.int (nI 1)) 1) := snd_iconst dX12_shrinks_0 (by decide)
theorem oX12_shrinks_1 : SX12_shrinks 1 (i_iret) := snd_iret dX12_shrinks_1 rfl
theorem okX12_shrinks : ∀ q ∈ cX12_shrinks, SX12_shrinks q.1 q.2 := List.forall_mem_cons.mpr ⟨oX12_shrinks_0, List.forall_mem_cons.mpr ⟨oX12_shrinks_1, fun _ h => absurd h List.not_mem_nil⟩⟩
theorem dX13_init_0 : decode bcX13_init 0 = .ok (.aload_n 0, 1) := by decide +kernel
theorem dX13_init_1 : decode bcX13_init 1 = .ok (.invokespecial 1, 3) := by decide +kernel
theorem dX13_init_4 : decode bcX13_init 4 = .ok (.return_, 1) := by decide +kernel
abbrev SX13_init (pc : Nat) (i : xI) : Prop := Snd "SwollenHouse$Expression" "<init>" prog_4_method_1_code 1 (Option.none : Option Jvm.ClassFile.FieldType) [] pc i
theorem oX13_init_0 : SX13_init 0 (i_aload 0 1) := snd_aload_n dX13_init_0 rfl
theorem oX13_init_1 : SX13_init 1 (i_oi 4) := snd_oi dX13_init_1 q1018 q177 q_oicode
theorem oX13_init_4 : SX13_init 4 (i_vret) := snd_vret dX13_init_4 rfl
theorem okX13_init : ∀ q ∈ cX13_init, SX13_init q.1 q.2 := List.forall_mem_cons.mpr ⟨oX13_init_0, List.forall_mem_cons.mpr ⟨oX13_init_1, List.forall_mem_cons.mpr ⟨oX13_init_4, fun _ h => absurd h List.not_mem_nil⟩⟩⟩
def dkwX14_init_0 : List UInt8 := [42, 183, 0, 1, 42, 27, 181, 0, 7, 177]
abbrev dktX14_init_0 : List UInt8 := dkwX14_init_0 ++ []
theorem dksX14_init_0 : bcX14_init.data.toList.drop 0 = dktX14_init_0 := by decide +kernel
theorem dX14_init_0 : decode bcX14_init 0 = .ok (.aload_n 0, 1) := dk_42 (dk_at dksX14_init_0 0 rfl rfl)
theorem dX14_init_1 : decode bcX14_init 1 = .ok (.invokespecial 1, 3) := dk_183 0 1 (dk_at dksX14_init_0 1 rfl rfl)
theorem dX14_init_4 : decode bcX14_init 4 = .ok (.aload_n 0, 1) := dk_42 (dk_at dksX14_init_0 4 rfl rfl)
theorem dX14_init_5 : decode bcX14_init 5 = .ok (.iload_n 1, 1) := dk_27 (dk_at dksX14_init_0 5 rfl rfl)
theorem dX14_init_6 : decode bcX14_init 6 = .ok (.putfield 7, 3) := dk_181 0 7 (dk_at dksX14_init_0 6 rfl rfl)
theorem dX14_init_9 : decode bcX14_init 9 = .ok (.return_, 1) := dk_177 (dk_at dksX14_init_0 9 rfl rfl)
abbrev SX14_init (pc : Nat) (i : xI) : Prop := Snd "SwollenHouse$Given" "<init>" prog_7_method_1_code 2 (Option.none : Option Jvm.ClassFile.FieldType) [] pc i
theorem oX14_init_0 : SX14_init 0 (i_aload 0 1) := snd_aload_n dX14_init_0 rfl
theorem oX14_init_1 : SX14_init 1 (i_ci [11, 12, 13, 14] 181 0 4) := snd_ci rfl infX13_init (by decide) (xcls_ok _ (by decide)) (xIm_N dX14_init_1 rfl q1015 q1016 q157 q1017 pdX13_init)
theorem oX14_init_4 : SX14_init 4 (i_aload 0 5) := snd_aload_n dX14_init_4 rfl
theorem oX14_init_5 : SX14_init 5 (i_iload 1 6) := snd_iload_n dX14_init_5 rfl
theorem oX14_init_6 : SX14_init 6 (i_putfi 11 0 9) := snd_putfi dX14_init_6 rfl (by decide) in_X14 tyX14 tyX14_ok nmX14 (Or.inr (Or.inl ⟨rfl, rfl, rfl, q1019⟩)) (Or.inl rfl) rfl
theorem oX14_init_9 : SX14_init 9 (i_vret) := snd_vret dX14_init_9 rfl
theorem okX14_init : ∀ q ∈ cX14_init, SX14_init q.1 q.2 := List.forall_mem_cons.mpr ⟨oX14_init_0, List.forall_mem_cons.mpr ⟨oX14_init_1, List.forall_mem_cons.mpr ⟨oX14_init_4, List.forall_mem_cons.mpr ⟨oX14_init_5, List.forall_mem_cons.mpr ⟨oX14_init_6, List.forall_mem_cons.mpr ⟨oX14_init_9, fun _ h => absurd h List.not_mem_nil⟩⟩⟩⟩⟩⟩
theorem dX14_worked_0 : decode bcX14_worked 0 = .ok (.aload_n 0, 1) := by decide +kernel
theorem dX14_worked_1 : decode bcX14_worked 1 = .ok (.getfield 7, 3) := by decide +kernel
theorem dX14_worked_4 : decode bcX14_worked 4 = .ok (.ireturn, 1) := by decide +kernel
abbrev SX14_worked (pc : Nat) (i : xI) : Prop := Snd "SwollenHouse$Given" "worked" prog_7_method_2_code 2 (Option.some Jvm.ClassFile.FieldType.int) [] pc i
theorem oX14_worked_0 : SX14_worked 0 (i_aload 0 1) := snd_aload_n dX14_worked_0 rfl
theorem oX14_worked_1 : SX14_worked 1 (i_getf 11 0 4) := snd_getf dX14_worked_1 rfl (by decide) in_X14 (Or.inl q1019) (Or.inl rfl) (by decide)
theorem oX14_worked_4 : SX14_worked 4 (i_iret) := snd_iret dX14_worked_4 rfl
theorem okX14_worked : ∀ q ∈ cX14_worked, SX14_worked q.1 q.2 := List.forall_mem_cons.mpr ⟨oX14_worked_0, List.forall_mem_cons.mpr ⟨oX14_worked_1, List.forall_mem_cons.mpr ⟨oX14_worked_4, fun _ h => absurd h List.not_mem_nil⟩⟩⟩
def dkwX15_init_0 : List UInt8 := [42, 183, 0, 1, 42, 27, 181, 0, 7, 177]
abbrev dktX15_init_0 : List UInt8 := dkwX15_init_0 ++ []
theorem dksX15_init_0 : bcX15_init.data.toList.drop 0 = dktX15_init_0 := by decide +kernel
theorem dX15_init_0 : decode bcX15_init 0 = .ok (.aload_n 0, 1) := dk_42 (dk_at dksX15_init_0 0 rfl rfl)
theorem dX15_init_1 : decode bcX15_init 1 = .ok (.invokespecial 1, 3) := dk_183 0 1 (dk_at dksX15_init_0 1 rfl rfl)
theorem dX15_init_4 : decode bcX15_init 4 = .ok (.aload_n 0, 1) := dk_42 (dk_at dksX15_init_0 4 rfl rfl)
theorem dX15_init_5 : decode bcX15_init 5 = .ok (.iload_n 1, 1) := dk_27 (dk_at dksX15_init_0 5 rfl rfl)
theorem dX15_init_6 : decode bcX15_init 6 = .ok (.putfield 7, 3) := dk_181 0 7 (dk_at dksX15_init_0 6 rfl rfl)
theorem dX15_init_9 : decode bcX15_init 9 = .ok (.return_, 1) := dk_177 (dk_at dksX15_init_0 9 rfl rfl)
abbrev SX15_init (pc : Nat) (i : xI) : Prop := Snd "SwollenHouse$Fact" "<init>" prog_5_method_1_code 2 (Option.none : Option Jvm.ClassFile.FieldType) [] pc i
theorem oX15_init_0 : SX15_init 0 (i_aload 0 1) := snd_aload_n dX15_init_0 rfl
theorem oX15_init_1 : SX15_init 1 (i_ci [11, 12, 13, 14] 181 0 4) := snd_ci rfl infX13_init (by decide) (xcls_ok _ (by decide)) (xIm_N dX15_init_1 rfl q1028 q1016 q157 q1017 pdX13_init)
theorem oX15_init_4 : SX15_init 4 (i_aload 0 5) := snd_aload_n dX15_init_4 rfl
theorem oX15_init_5 : SX15_init 5 (i_iload 1 6) := snd_iload_n dX15_init_5 rfl
theorem oX15_init_6 : SX15_init 6 (i_putfi 12 0 9) := snd_putfi dX15_init_6 rfl (by decide) in_X15 tyX15 tyX15_ok nmX15 (Or.inr (Or.inl ⟨rfl, rfl, rfl, q1029⟩)) (Or.inl rfl) rfl
theorem oX15_init_9 : SX15_init 9 (i_vret) := snd_vret dX15_init_9 rfl
theorem okX15_init : ∀ q ∈ cX15_init, SX15_init q.1 q.2 := List.forall_mem_cons.mpr ⟨oX15_init_0, List.forall_mem_cons.mpr ⟨oX15_init_1, List.forall_mem_cons.mpr ⟨oX15_init_4, List.forall_mem_cons.mpr ⟨oX15_init_5, List.forall_mem_cons.mpr ⟨oX15_init_6, List.forall_mem_cons.mpr ⟨oX15_init_9, fun _ h => absurd h List.not_mem_nil⟩⟩⟩⟩⟩⟩
def dkwX15_worked_0 : List UInt8 := [43, 42, 180, 0, 7, 46, 172]
abbrev dktX15_worked_0 : List UInt8 := dkwX15_worked_0 ++ []
theorem dksX15_worked_0 : bcX15_worked.data.toList.drop 0 = dktX15_worked_0 := by decide +kernel
theorem dX15_worked_0 : decode bcX15_worked 0 = .ok (.aload_n 1, 1) := dk_43 (dk_at dksX15_worked_0 0 rfl rfl)
theorem dX15_worked_1 : decode bcX15_worked 1 = .ok (.aload_n 0, 1) := dk_42 (dk_at dksX15_worked_0 1 rfl rfl)
theorem dX15_worked_2 : decode bcX15_worked 2 = .ok (.getfield 7, 3) := dk_180 0 7 (dk_at dksX15_worked_0 2 rfl rfl)
theorem dX15_worked_5 : decode bcX15_worked 5 = .ok (.iaload, 1) := dk_46 (dk_at dksX15_worked_0 5 rfl rfl)
theorem dX15_worked_6 : decode bcX15_worked 6 = .ok (.ireturn, 1) := dk_172 (dk_at dksX15_worked_0 6 rfl rfl)
abbrev SX15_worked (pc : Nat) (i : xI) : Prop := Snd "SwollenHouse$Fact" "worked" prog_5_method_2_code 2 (Option.some Jvm.ClassFile.FieldType.int) [] pc i
theorem oX15_worked_0 : SX15_worked 0 (i_aload 1 1) := snd_aload_n dX15_worked_0 rfl
theorem oX15_worked_1 : SX15_worked 1 (i_aload 0 2) := snd_aload_n dX15_worked_1 rfl
theorem oX15_worked_2 : SX15_worked 2 (i_getf 12 0 5) := snd_getf dX15_worked_2 rfl (by decide) in_X15 (Or.inl q1029) (Or.inl rfl) (by decide)
theorem oX15_worked_5 : SX15_worked 5 (i_ai 0 6) := snd_ai0 dX15_worked_5
theorem oX15_worked_6 : SX15_worked 6 (i_iret) := snd_iret dX15_worked_6 rfl
theorem okX15_worked : ∀ q ∈ cX15_worked, SX15_worked q.1 q.2 := List.forall_mem_cons.mpr ⟨oX15_worked_0, List.forall_mem_cons.mpr ⟨oX15_worked_1, List.forall_mem_cons.mpr ⟨oX15_worked_2, List.forall_mem_cons.mpr ⟨oX15_worked_5, List.forall_mem_cons.mpr ⟨oX15_worked_6, fun _ h => absurd h List.not_mem_nil⟩⟩⟩⟩⟩
def dkwX16_init_0 : List UInt8 := [42, 183, 0, 1, 42, 43, 181, 0, 7, 177]
abbrev dktX16_init_0 : List UInt8 := dkwX16_init_0 ++ []
theorem dksX16_init_0 : bcX16_init.data.toList.drop 0 = dktX16_init_0 := by decide +kernel
theorem dX16_init_0 : decode bcX16_init 0 = .ok (.aload_n 0, 1) := dk_42 (dk_at dksX16_init_0 0 rfl rfl)
theorem dX16_init_1 : decode bcX16_init 1 = .ok (.invokespecial 1, 3) := dk_183 0 1 (dk_at dksX16_init_0 1 rfl rfl)
theorem dX16_init_4 : decode bcX16_init 4 = .ok (.aload_n 0, 1) := dk_42 (dk_at dksX16_init_0 4 rfl rfl)
theorem dX16_init_5 : decode bcX16_init 5 = .ok (.aload_n 1, 1) := dk_43 (dk_at dksX16_init_0 5 rfl rfl)
theorem dX16_init_6 : decode bcX16_init 6 = .ok (.putfield 7, 3) := dk_181 0 7 (dk_at dksX16_init_0 6 rfl rfl)
theorem dX16_init_9 : decode bcX16_init 9 = .ok (.return_, 1) := dk_177 (dk_at dksX16_init_0 9 rfl rfl)
abbrev SX16_init (pc : Nat) (i : xI) : Prop := Snd "SwollenHouse$Not" "<init>" prog_12_method_1_code 2 (Option.none : Option Jvm.ClassFile.FieldType) [] pc i
theorem oX16_init_0 : SX16_init 0 (i_aload 0 1) := snd_aload_n dX16_init_0 rfl
theorem oX16_init_1 : SX16_init 1 (i_ci [11, 12, 13, 14] 181 0 4) := snd_ci rfl infX13_init (by decide) (xcls_ok _ (by decide)) (xIm_N dX16_init_1 rfl q1038 q1016 q157 q1017 pdX13_init)
theorem oX16_init_4 : SX16_init 4 (i_aload 0 5) := snd_aload_n dX16_init_4 rfl
theorem oX16_init_5 : SX16_init 5 (i_aload 1 6) := snd_aload_n dX16_init_5 rfl
theorem oX16_init_6 : SX16_init 6 (i_putfr 13 0 9) := snd_putfr dX16_init_6 rfl (by decide) in_X16 tyX16 tyX16_ok nmX16 (Or.inr (Or.inl ⟨rfl, rfl, rfl, q1039⟩)) (Or.inl rfl) (Or.inl ⟨_, rfl⟩)
theorem oX16_init_9 : SX16_init 9 (i_vret) := snd_vret dX16_init_9 rfl
theorem okX16_init : ∀ q ∈ cX16_init, SX16_init q.1 q.2 := List.forall_mem_cons.mpr ⟨oX16_init_0, List.forall_mem_cons.mpr ⟨oX16_init_1, List.forall_mem_cons.mpr ⟨oX16_init_4, List.forall_mem_cons.mpr ⟨oX16_init_5, List.forall_mem_cons.mpr ⟨oX16_init_6, List.forall_mem_cons.mpr ⟨oX16_init_9, fun _ h => absurd h List.not_mem_nil⟩⟩⟩⟩⟩⟩
def dkwX16_worked_0 : List UInt8 := [42, 180, 0, 7, 43, 182, 0, 13, 154, 0, 7, 4, 167, 0, 4, 3, 172]
abbrev dktX16_worked_0 : List UInt8 := dkwX16_worked_0 ++ []
theorem dksX16_worked_0 : bcX16_worked.data.toList.drop 0 = dktX16_worked_0 := by decide +kernel
theorem dX16_worked_0 : decode bcX16_worked 0 = .ok (.aload_n 0, 1) := dk_42 (dk_at dksX16_worked_0 0 rfl rfl)
theorem dX16_worked_1 : decode bcX16_worked 1 = .ok (.getfield 7, 3) := dk_180 0 7 (dk_at dksX16_worked_0 1 rfl rfl)
theorem dX16_worked_4 : decode bcX16_worked 4 = .ok (.aload_n 1, 1) := dk_43 (dk_at dksX16_worked_0 4 rfl rfl)
theorem dX16_worked_5 : decode bcX16_worked 5 = .ok (.invokevirtual 13, 3) := dk_182 0 13 (dk_at dksX16_worked_0 5 rfl rfl)
theorem dX16_worked_8 : decode bcX16_worked 8 = .ok (.ifCond .ne 7, 3) := dk_154 0 7 (dk_at dksX16_worked_0 8 rfl rfl)
theorem dX16_worked_11 : decode bcX16_worked 11 = .ok (.iconst 1, 1) := dk_4 (dk_at dksX16_worked_0 11 rfl rfl)
theorem dX16_worked_12 : decode bcX16_worked 12 = .ok (.goto 4, 3) := dk_167 0 4 (dk_at dksX16_worked_0 12 rfl rfl)
theorem dX16_worked_15 : decode bcX16_worked 15 = .ok (.iconst 0, 1) := dk_3 (dk_at dksX16_worked_0 15 rfl rfl)
theorem dX16_worked_16 : decode bcX16_worked 16 = .ok (.ireturn, 1) := dk_172 (dk_at dksX16_worked_0 16 rfl rfl)
abbrev SX16_worked (pc : Nat) (i : xI) : Prop := Snd "SwollenHouse$Not" "worked" prog_12_method_2_code 2 (Option.some Jvm.ClassFile.FieldType.int) [] pc i
theorem oX16_worked_0 : SX16_worked 0 (i_aload 0 1) := snd_aload_n dX16_worked_0 rfl
theorem oX16_worked_1 : SX16_worked 1 (i_getf 13 0 4) := snd_getf dX16_worked_1 rfl (by decide) in_X16 (Or.inl q1039) (Or.inl rfl) (by decide)
theorem oX16_worked_4 : SX16_worked 4 (i_aload 1 5) := snd_aload_n dX16_worked_4 rfl
theorem oX16_worked_5 : SX16_worked 5 (i_ca [(11, 183), (12, 185), (13, 187), (14, 189)] 1 8) := snd_ca rfl (lk_cons ⟨_, _, _, _, _, _, infX14_worked, by decide, rfl, xVm_A dX16_worked_5 q1241 q1231 q1235 q1236 q158 q1237 q1230 pdx4⟩ (lk_cons ⟨_, _, _, _, _, _, infX15_worked, by decide, rfl, xVm_A dX16_worked_5 q1241 q1231 q1232 q1233 q159 q1234 q1230 pdx4⟩ (lk_cons ⟨_, _, _, _, _, _, infX16_worked, by decide, rfl, xVm_A dX16_worked_5 q1241 q1231 q1238 q1239 q160 q1240 q1230 pdx4⟩ (lk_cons ⟨_, _, _, _, _, _, infX17_worked, by decide, rfl, xVm_A dX16_worked_5 q1241 q1231 q1245 q1242 q161 q1243 q1230 pdx4⟩ (lk_nil)))))
theorem oX16_worked_8 : SX16_worked 8 (i_if1 (fun x => ¬ x = 0) 15 11) := snd_if_ne dX16_worked_8 (by decide)
theorem oX16_worked_11 : SX16_worked 11 (i_const (.int (nI 1)) 12) := snd_iconst dX16_worked_11 (by decide)
theorem oX16_worked_12 : SX16_worked 12 (i_goto 16) := snd_goto dX16_worked_12 (by decide)
theorem oX16_worked_15 : SX16_worked 15 (i_const (.int (nI 0)) 16) := snd_iconst dX16_worked_15 (by decide)
theorem oX16_worked_16 : SX16_worked 16 (i_iret) := snd_iret dX16_worked_16 rfl
theorem okX16_worked : ∀ q ∈ cX16_worked, SX16_worked q.1 q.2 := List.forall_mem_cons.mpr ⟨oX16_worked_0, List.forall_mem_cons.mpr ⟨oX16_worked_1, List.forall_mem_cons.mpr ⟨oX16_worked_4, List.forall_mem_cons.mpr ⟨oX16_worked_5, List.forall_mem_cons.mpr ⟨oX16_worked_8, List.forall_mem_cons.mpr ⟨oX16_worked_11, List.forall_mem_cons.mpr ⟨oX16_worked_12, List.forall_mem_cons.mpr ⟨oX16_worked_15, List.forall_mem_cons.mpr ⟨oX16_worked_16, fun _ h => absurd h List.not_mem_nil⟩⟩⟩⟩⟩⟩⟩⟩⟩
def dkwX17_init_0 : List UInt8 := [42, 183, 0, 1, 42, 27, 181, 0, 7, 42, 44, 181, 0, 13, 42, 45, 181, 0, 17, 177]
abbrev dktX17_init_0 : List UInt8 := dkwX17_init_0 ++ []
theorem dksX17_init_0 : bcX17_init.data.toList.drop 0 = dktX17_init_0 := by decide +kernel
theorem dX17_init_0 : decode bcX17_init 0 = .ok (.aload_n 0, 1) := dk_42 (dk_at dksX17_init_0 0 rfl rfl)
theorem dX17_init_1 : decode bcX17_init 1 = .ok (.invokespecial 1, 3) := dk_183 0 1 (dk_at dksX17_init_0 1 rfl rfl)
theorem dX17_init_4 : decode bcX17_init 4 = .ok (.aload_n 0, 1) := dk_42 (dk_at dksX17_init_0 4 rfl rfl)
theorem dX17_init_5 : decode bcX17_init 5 = .ok (.iload_n 1, 1) := dk_27 (dk_at dksX17_init_0 5 rfl rfl)
theorem dX17_init_6 : decode bcX17_init 6 = .ok (.putfield 7, 3) := dk_181 0 7 (dk_at dksX17_init_0 6 rfl rfl)
theorem dX17_init_9 : decode bcX17_init 9 = .ok (.aload_n 0, 1) := dk_42 (dk_at dksX17_init_0 9 rfl rfl)
theorem dX17_init_10 : decode bcX17_init 10 = .ok (.aload_n 2, 1) := dk_44 (dk_at dksX17_init_0 10 rfl rfl)
theorem dX17_init_11 : decode bcX17_init 11 = .ok (.putfield 13, 3) := dk_181 0 13 (dk_at dksX17_init_0 11 rfl rfl)
theorem dX17_init_14 : decode bcX17_init 14 = .ok (.aload_n 0, 1) := dk_42 (dk_at dksX17_init_0 14 rfl rfl)
theorem dX17_init_15 : decode bcX17_init 15 = .ok (.aload_n 3, 1) := dk_45 (dk_at dksX17_init_0 15 rfl rfl)
theorem dX17_init_16 : decode bcX17_init 16 = .ok (.putfield 17, 3) := dk_181 0 17 (dk_at dksX17_init_0 16 rfl rfl)
theorem dX17_init_19 : decode bcX17_init 19 = .ok (.return_, 1) := dk_177 (dk_at dksX17_init_0 19 rfl rfl)
abbrev SX17_init (pc : Nat) (i : xI) : Prop := Snd "SwollenHouse$Two" "<init>" prog_19_method_1_code 4 (Option.none : Option Jvm.ClassFile.FieldType) [] pc i
theorem oX17_init_0 : SX17_init 0 (i_aload 0 1) := snd_aload_n dX17_init_0 rfl
theorem oX17_init_1 : SX17_init 1 (i_ci [11, 12, 13, 14] 181 0 4) := snd_ci rfl infX13_init (by decide) (xcls_ok _ (by decide)) (xIm_N dX17_init_1 rfl q1052 q1016 q157 q1017 pdX13_init)
theorem oX17_init_4 : SX17_init 4 (i_aload 0 5) := snd_aload_n dX17_init_4 rfl
theorem oX17_init_5 : SX17_init 5 (i_iload 1 6) := snd_iload_n dX17_init_5 rfl
theorem oX17_init_6 : SX17_init 6 (i_putfn .char 14 0 9) := snd_putfn (k := 0) dX17_init_6 rfl (by decide) in_X17 tyX17 tyX17_ok nmX17 (Or.inr (Or.inl ⟨rfl, rfl, rfl, q1053⟩)) (Or.inl rfl) rfl
theorem oX17_init_9 : SX17_init 9 (i_aload 0 10) := snd_aload_n dX17_init_9 rfl
theorem oX17_init_10 : SX17_init 10 (i_aload 2 11) := snd_aload_n dX17_init_10 rfl
theorem oX17_init_11 : SX17_init 11 (i_putfr 14 1 14) := snd_putfr dX17_init_11 rfl (by decide) in_X17 tyX17 tyX17_ok nmX17 (Or.inr (Or.inl ⟨rfl, rfl, rfl, q1054⟩)) (Or.inl rfl) (Or.inl ⟨_, rfl⟩)
theorem oX17_init_14 : SX17_init 14 (i_aload 0 15) := snd_aload_n dX17_init_14 rfl
theorem oX17_init_15 : SX17_init 15 (i_aload 3 16) := snd_aload_n dX17_init_15 rfl
theorem oX17_init_16 : SX17_init 16 (i_putfr 14 2 19) := snd_putfr dX17_init_16 rfl (by decide) in_X17 tyX17 tyX17_ok nmX17 (Or.inr (Or.inl ⟨rfl, rfl, rfl, q1055⟩)) (Or.inl rfl) (Or.inl ⟨_, rfl⟩)
theorem oX17_init_19 : SX17_init 19 (i_vret) := snd_vret dX17_init_19 rfl
theorem okX17_init : ∀ q ∈ cX17_init, SX17_init q.1 q.2 := List.forall_mem_cons.mpr ⟨oX17_init_0, List.forall_mem_cons.mpr ⟨oX17_init_1, List.forall_mem_cons.mpr ⟨oX17_init_4, List.forall_mem_cons.mpr ⟨oX17_init_5, List.forall_mem_cons.mpr ⟨oX17_init_6, List.forall_mem_cons.mpr ⟨oX17_init_9, List.forall_mem_cons.mpr ⟨oX17_init_10, List.forall_mem_cons.mpr ⟨oX17_init_11, List.forall_mem_cons.mpr ⟨oX17_init_14, List.forall_mem_cons.mpr ⟨oX17_init_15, List.forall_mem_cons.mpr ⟨oX17_init_16, List.forall_mem_cons.mpr ⟨oX17_init_19, fun _ h => absurd h List.not_mem_nil⟩⟩⟩⟩⟩⟩⟩⟩⟩⟩⟩⟩
def dkwX17_worked_4 : List UInt8 := [28, 154, 0, 7, 29, 153, 0, 7, 4, 167, 0, 4, 3, 172]
abbrev dktX17_worked_4 : List UInt8 := dkwX17_worked_4 ++ []
def dkwX17_worked_3 : List UInt8 := [29, 160, 0, 7, 4, 167, 0, 4, 3, 172, 28, 153, 0, 11, 29, 153, 0, 7, 4, 167, 0, 4, 3, 172]
abbrev dktX17_worked_3 : List UInt8 := dkwX17_worked_3 ++ dktX17_worked_4
def dkwX17_worked_2 : List UInt8 := [28, 29, 96, 172, 28, 29, 100, 172, 28, 29, 104, 172, 28, 29, 162, 0, 7, 4, 167, 0, 4, 3, 172, 28]
abbrev dktX17_worked_2 : List UInt8 := dkwX17_worked_2 ++ dktX17_worked_3
def dkwX17_worked_1 : List UInt8 := [171, 0, 0, 0, 0, 106, 0, 0, 0, 6, 0, 0, 0, 38, 0, 0, 0, 92, 0, 0, 0, 42, 0, 0, 0, 66, 0, 0, 0, 43, 0, 0, 0, 58, 0, 0, 0, 45, 0, 0, 0, 62, 0, 0, 0, 60, 0, 0, 0, 70, 0, 0, 0, 61, 0, 0, 0, 81]
abbrev dktX17_worked_1 : List UInt8 := dkwX17_worked_1 ++ dktX17_worked_2
def dkwX17_worked_0 : List UInt8 := [42, 180, 0, 13, 43, 182, 0, 20, 61, 42, 180, 0, 17, 43, 182, 0, 20, 62, 42, 180, 0, 7]
abbrev dktX17_worked_0 : List UInt8 := dkwX17_worked_0 ++ dktX17_worked_1
theorem dksX17_worked_0 : bcX17_worked.data.toList.drop 0 = dktX17_worked_0 := by decide +kernel
theorem dksX17_worked_1 : bcX17_worked.data.toList.drop 22 = dktX17_worked_1 := dk_seg dksX17_worked_0 22 rfl rfl
theorem dksX17_worked_2 : bcX17_worked.data.toList.drop 80 = dktX17_worked_2 := dk_seg dksX17_worked_1 58 rfl rfl
theorem dksX17_worked_3 : bcX17_worked.data.toList.drop 104 = dktX17_worked_3 := dk_seg dksX17_worked_2 24 rfl rfl
theorem dksX17_worked_4 : bcX17_worked.data.toList.drop 128 = dktX17_worked_4 := dk_seg dksX17_worked_3 24 rfl rfl
theorem dX17_worked_0 : decode bcX17_worked 0 = .ok (.aload_n 0, 1) := dk_42 (dk_at dksX17_worked_0 0 rfl rfl)
theorem dX17_worked_1 : decode bcX17_worked 1 = .ok (.getfield 13, 3) := dk_180 0 13 (dk_at dksX17_worked_0 1 rfl rfl)
theorem dX17_worked_4 : decode bcX17_worked 4 = .ok (.aload_n 1, 1) := dk_43 (dk_at dksX17_worked_0 4 rfl rfl)
theorem dX17_worked_5 : decode bcX17_worked 5 = .ok (.invokevirtual 20, 3) := dk_182 0 20 (dk_at dksX17_worked_0 5 rfl rfl)
theorem dX17_worked_8 : decode bcX17_worked 8 = .ok (.istore_n 2, 1) := dk_61 (dk_at dksX17_worked_0 8 rfl rfl)
theorem dX17_worked_9 : decode bcX17_worked 9 = .ok (.aload_n 0, 1) := dk_42 (dk_at dksX17_worked_0 9 rfl rfl)
theorem dX17_worked_10 : decode bcX17_worked 10 = .ok (.getfield 17, 3) := dk_180 0 17 (dk_at dksX17_worked_0 10 rfl rfl)
theorem dX17_worked_13 : decode bcX17_worked 13 = .ok (.aload_n 1, 1) := dk_43 (dk_at dksX17_worked_0 13 rfl rfl)
theorem dX17_worked_14 : decode bcX17_worked 14 = .ok (.invokevirtual 20, 3) := dk_182 0 20 (dk_at dksX17_worked_0 14 rfl rfl)
theorem dX17_worked_17 : decode bcX17_worked 17 = .ok (.istore_n 3, 1) := dk_62 (dk_at dksX17_worked_0 17 rfl rfl)
theorem dX17_worked_18 : decode bcX17_worked 18 = .ok (.aload_n 0, 1) := dk_42 (dk_at dksX17_worked_0 18 rfl rfl)
theorem dX17_worked_19 : decode bcX17_worked 19 = .ok (.getfield 7, 3) := dk_180 0 7 (dk_at dksX17_worked_0 19 rfl rfl)
theorem dX17_worked_22 : decode bcX17_worked 22 = .ok (.lookupswitch 106 #[(38, 92), (42, 66), (43, 58), (45, 62), (60, 70), (61, 81)], 58) := by decide +kernel
theorem dX17_worked_80 : decode bcX17_worked 80 = .ok (.iload_n 2, 1) := dk_28 (dk_at dksX17_worked_2 0 rfl rfl)
theorem dX17_worked_81 : decode bcX17_worked 81 = .ok (.iload_n 3, 1) := dk_29 (dk_at dksX17_worked_2 1 rfl rfl)
theorem dX17_worked_82 : decode bcX17_worked 82 = .ok (.iadd, 1) := dk_96 (dk_at dksX17_worked_2 2 rfl rfl)
theorem dX17_worked_83 : decode bcX17_worked 83 = .ok (.ireturn, 1) := dk_172 (dk_at dksX17_worked_2 3 rfl rfl)
theorem dX17_worked_84 : decode bcX17_worked 84 = .ok (.iload_n 2, 1) := dk_28 (dk_at dksX17_worked_2 4 rfl rfl)
theorem dX17_worked_85 : decode bcX17_worked 85 = .ok (.iload_n 3, 1) := dk_29 (dk_at dksX17_worked_2 5 rfl rfl)
theorem dX17_worked_86 : decode bcX17_worked 86 = .ok (.isub, 1) := dk_100 (dk_at dksX17_worked_2 6 rfl rfl)
theorem dX17_worked_87 : decode bcX17_worked 87 = .ok (.ireturn, 1) := dk_172 (dk_at dksX17_worked_2 7 rfl rfl)
theorem dX17_worked_88 : decode bcX17_worked 88 = .ok (.iload_n 2, 1) := dk_28 (dk_at dksX17_worked_2 8 rfl rfl)
theorem dX17_worked_89 : decode bcX17_worked 89 = .ok (.iload_n 3, 1) := dk_29 (dk_at dksX17_worked_2 9 rfl rfl)
theorem dX17_worked_90 : decode bcX17_worked 90 = .ok (.imul, 1) := dk_104 (dk_at dksX17_worked_2 10 rfl rfl)
theorem dX17_worked_91 : decode bcX17_worked 91 = .ok (.ireturn, 1) := dk_172 (dk_at dksX17_worked_2 11 rfl rfl)
theorem dX17_worked_92 : decode bcX17_worked 92 = .ok (.iload_n 2, 1) := dk_28 (dk_at dksX17_worked_2 12 rfl rfl)
theorem dX17_worked_93 : decode bcX17_worked 93 = .ok (.iload_n 3, 1) := dk_29 (dk_at dksX17_worked_2 13 rfl rfl)
theorem dX17_worked_94 : decode bcX17_worked 94 = .ok (.if_icmp .ge 7, 3) := dk_162 0 7 (dk_at dksX17_worked_2 14 rfl rfl)
theorem dX17_worked_97 : decode bcX17_worked 97 = .ok (.iconst 1, 1) := dk_4 (dk_at dksX17_worked_2 17 rfl rfl)
theorem dX17_worked_98 : decode bcX17_worked 98 = .ok (.goto 4, 3) := dk_167 0 4 (dk_at dksX17_worked_2 18 rfl rfl)
theorem dX17_worked_101 : decode bcX17_worked 101 = .ok (.iconst 0, 1) := dk_3 (dk_at dksX17_worked_2 21 rfl rfl)
theorem dX17_worked_102 : decode bcX17_worked 102 = .ok (.ireturn, 1) := dk_172 (dk_at dksX17_worked_2 22 rfl rfl)
theorem dX17_worked_103 : decode bcX17_worked 103 = .ok (.iload_n 2, 1) := dk_28 (dk_at dksX17_worked_2 23 rfl rfl)
theorem dX17_worked_104 : decode bcX17_worked 104 = .ok (.iload_n 3, 1) := dk_29 (dk_at dksX17_worked_3 0 rfl rfl)
theorem dX17_worked_105 : decode bcX17_worked 105 = .ok (.if_icmp .ne 7, 3) := dk_160 0 7 (dk_at dksX17_worked_3 1 rfl rfl)
theorem dX17_worked_108 : decode bcX17_worked 108 = .ok (.iconst 1, 1) := dk_4 (dk_at dksX17_worked_3 4 rfl rfl)
theorem dX17_worked_109 : decode bcX17_worked 109 = .ok (.goto 4, 3) := dk_167 0 4 (dk_at dksX17_worked_3 5 rfl rfl)
theorem dX17_worked_112 : decode bcX17_worked 112 = .ok (.iconst 0, 1) := dk_3 (dk_at dksX17_worked_3 8 rfl rfl)
theorem dX17_worked_113 : decode bcX17_worked 113 = .ok (.ireturn, 1) := dk_172 (dk_at dksX17_worked_3 9 rfl rfl)
theorem dX17_worked_114 : decode bcX17_worked 114 = .ok (.iload_n 2, 1) := dk_28 (dk_at dksX17_worked_3 10 rfl rfl)
theorem dX17_worked_115 : decode bcX17_worked 115 = .ok (.ifCond .eq 11, 3) := dk_153 0 11 (dk_at dksX17_worked_3 11 rfl rfl)
theorem dX17_worked_118 : decode bcX17_worked 118 = .ok (.iload_n 3, 1) := dk_29 (dk_at dksX17_worked_3 14 rfl rfl)
theorem dX17_worked_119 : decode bcX17_worked 119 = .ok (.ifCond .eq 7, 3) := dk_153 0 7 (dk_at dksX17_worked_3 15 rfl rfl)
theorem dX17_worked_122 : decode bcX17_worked 122 = .ok (.iconst 1, 1) := dk_4 (dk_at dksX17_worked_3 18 rfl rfl)
theorem dX17_worked_123 : decode bcX17_worked 123 = .ok (.goto 4, 3) := dk_167 0 4 (dk_at dksX17_worked_3 19 rfl rfl)
theorem dX17_worked_126 : decode bcX17_worked 126 = .ok (.iconst 0, 1) := dk_3 (dk_at dksX17_worked_3 22 rfl rfl)
theorem dX17_worked_127 : decode bcX17_worked 127 = .ok (.ireturn, 1) := dk_172 (dk_at dksX17_worked_3 23 rfl rfl)
theorem dX17_worked_128 : decode bcX17_worked 128 = .ok (.iload_n 2, 1) := dk_28 (dk_at dksX17_worked_4 0 rfl rfl)
theorem dX17_worked_129 : decode bcX17_worked 129 = .ok (.ifCond .ne 7, 3) := dk_154 0 7 (dk_at dksX17_worked_4 1 rfl rfl)
theorem dX17_worked_132 : decode bcX17_worked 132 = .ok (.iload_n 3, 1) := dk_29 (dk_at dksX17_worked_4 4 rfl rfl)
theorem dX17_worked_133 : decode bcX17_worked 133 = .ok (.ifCond .eq 7, 3) := dk_153 0 7 (dk_at dksX17_worked_4 5 rfl rfl)
theorem dX17_worked_136 : decode bcX17_worked 136 = .ok (.iconst 1, 1) := dk_4 (dk_at dksX17_worked_4 8 rfl rfl)
theorem dX17_worked_137 : decode bcX17_worked 137 = .ok (.goto 4, 3) := dk_167 0 4 (dk_at dksX17_worked_4 9 rfl rfl)
theorem dX17_worked_140 : decode bcX17_worked 140 = .ok (.iconst 0, 1) := dk_3 (dk_at dksX17_worked_4 12 rfl rfl)
theorem dX17_worked_141 : decode bcX17_worked 141 = .ok (.ireturn, 1) := dk_172 (dk_at dksX17_worked_4 13 rfl rfl)
abbrev SX17_worked (pc : Nat) (i : xI) : Prop := Snd "SwollenHouse$Two" "worked" prog_19_method_2_code 4 (Option.some Jvm.ClassFile.FieldType.int) [] pc i
theorem oX17_worked_0 : SX17_worked 0 (i_aload 0 1) := snd_aload_n dX17_worked_0 rfl
theorem oX17_worked_1 : SX17_worked 1 (i_getf 14 1 4) := snd_getf dX17_worked_1 rfl (by decide) in_X17 (Or.inl q1054) (Or.inl rfl) (by decide)
theorem oX17_worked_4 : SX17_worked 4 (i_aload 1 5) := snd_aload_n dX17_worked_4 rfl
theorem oX17_worked_5 : SX17_worked 5 (i_ca [(11, 183), (12, 185), (13, 187), (14, 189)] 1 8) := snd_ca rfl (lk_cons ⟨_, _, _, _, _, _, infX14_worked, by decide, rfl, xVm_A dX17_worked_5 q1244 q1231 q1235 q1236 q158 q1237 q1230 pdx4⟩ (lk_cons ⟨_, _, _, _, _, _, infX15_worked, by decide, rfl, xVm_A dX17_worked_5 q1244 q1231 q1232 q1233 q159 q1234 q1230 pdx4⟩ (lk_cons ⟨_, _, _, _, _, _, infX16_worked, by decide, rfl, xVm_A dX17_worked_5 q1244 q1231 q1238 q1239 q160 q1240 q1230 pdx4⟩ (lk_cons ⟨_, _, _, _, _, _, infX17_worked, by decide, rfl, xVm_A dX17_worked_5 q1244 q1231 q1245 q1242 q161 q1243 q1230 pdx4⟩ (lk_nil)))))
theorem oX17_worked_8 : SX17_worked 8 (i_istore 2 9) := snd_istore_n dX17_worked_8 rfl (by decide)
theorem oX17_worked_9 : SX17_worked 9 (i_aload 0 10) := snd_aload_n dX17_worked_9 rfl
theorem oX17_worked_10 : SX17_worked 10 (i_getf 14 2 13) := snd_getf dX17_worked_10 rfl (by decide) in_X17 (Or.inl q1055) (Or.inl rfl) (by decide)
theorem oX17_worked_13 : SX17_worked 13 (i_aload 1 14) := snd_aload_n dX17_worked_13 rfl
theorem oX17_worked_14 : SX17_worked 14 (i_ca [(11, 183), (12, 185), (13, 187), (14, 189)] 1 17) := snd_ca rfl (lk_cons ⟨_, _, _, _, _, _, infX14_worked, by decide, rfl, xVm_A dX17_worked_14 q1244 q1231 q1235 q1236 q158 q1237 q1230 pdx4⟩ (lk_cons ⟨_, _, _, _, _, _, infX15_worked, by decide, rfl, xVm_A dX17_worked_14 q1244 q1231 q1232 q1233 q159 q1234 q1230 pdx4⟩ (lk_cons ⟨_, _, _, _, _, _, infX16_worked, by decide, rfl, xVm_A dX17_worked_14 q1244 q1231 q1238 q1239 q160 q1240 q1230 pdx4⟩ (lk_cons ⟨_, _, _, _, _, _, infX17_worked, by decide, rfl, xVm_A dX17_worked_14 q1244 q1231 q1245 q1242 q161 q1243 q1230 pdx4⟩ (lk_nil)))))
theorem oX17_worked_17 : SX17_worked 17 (i_istore 3 18) := snd_istore_n dX17_worked_17 rfl (by decide)
theorem oX17_worked_18 : SX17_worked 18 (i_aload 0 19) := snd_aload_n dX17_worked_18 rfl
theorem oX17_worked_19 : SX17_worked 19 (i_getf 14 0 22) := snd_getf dX17_worked_19 rfl (by decide) in_X17 (Or.inl q1053) (Or.inl rfl) (by decide)
theorem oX17_worked_22 : SX17_worked 22 (i_lsw [(38, 114), (42, 88), (43, 80), (45, 84), (60, 92), (61, 103)] 128) := snd_lsw dX17_worked_22 (by decide) (by decide) (by decide)
theorem oX17_worked_80 : SX17_worked 80 (i_iload 2 81) := snd_iload_n dX17_worked_80 rfl
theorem oX17_worked_81 : SX17_worked 81 (i_iload 3 82) := snd_iload_n dX17_worked_81 rfl
theorem oX17_worked_82 : SX17_worked 82 (i_ii (fun x y => x + y) 83) := snd_iadd dX17_worked_82
theorem oX17_worked_83 : SX17_worked 83 (i_iret) := snd_iret dX17_worked_83 rfl
theorem oX17_worked_84 : SX17_worked 84 (i_iload 2 85) := snd_iload_n dX17_worked_84 rfl
theorem oX17_worked_85 : SX17_worked 85 (i_iload 3 86) := snd_iload_n dX17_worked_85 rfl
theorem oX17_worked_86 : SX17_worked 86 (i_ii (fun x y => x - y) 87) := snd_isub dX17_worked_86
theorem oX17_worked_87 : SX17_worked 87 (i_iret) := snd_iret dX17_worked_87 rfl
theorem oX17_worked_88 : SX17_worked 88 (i_iload 2 89) := snd_iload_n dX17_worked_88 rfl
theorem oX17_worked_89 : SX17_worked 89 (i_iload 3 90) := snd_iload_n dX17_worked_89 rfl
theorem oX17_worked_90 : SX17_worked 90 (i_ii (fun x y => x * y) 91) := snd_imul dX17_worked_90
theorem oX17_worked_91 : SX17_worked 91 (i_iret) := snd_iret dX17_worked_91 rfl
theorem oX17_worked_92 : SX17_worked 92 (i_iload 2 93) := snd_iload_n dX17_worked_92 rfl
theorem oX17_worked_93 : SX17_worked 93 (i_iload 3 94) := snd_iload_n dX17_worked_93 rfl
theorem oX17_worked_94 : SX17_worked 94 (i_if2 (fun x y => y ≤ x) 101 97) := snd_icmp_ge dX17_worked_94 (by decide)
theorem oX17_worked_97 : SX17_worked 97 (i_const (.int (nI 1)) 98) := snd_iconst dX17_worked_97 (by decide)
theorem oX17_worked_98 : SX17_worked 98 (i_goto 102) := snd_goto dX17_worked_98 (by decide)
theorem oX17_worked_101 : SX17_worked 101 (i_const (.int (nI 0)) 102) := snd_iconst dX17_worked_101 (by decide)
theorem oX17_worked_102 : SX17_worked 102 (i_iret) := snd_iret dX17_worked_102 rfl
theorem oX17_worked_103 : SX17_worked 103 (i_iload 2 104) := snd_iload_n dX17_worked_103 rfl
theorem oX17_worked_104 : SX17_worked 104 (i_iload 3 105) := snd_iload_n dX17_worked_104 rfl
theorem oX17_worked_105 : SX17_worked 105 (i_if2 (fun x y => ¬ x = y) 112 108) := snd_icmp_ne dX17_worked_105 (by decide)
theorem oX17_worked_108 : SX17_worked 108 (i_const (.int (nI 1)) 109) := snd_iconst dX17_worked_108 (by decide)
theorem oX17_worked_109 : SX17_worked 109 (i_goto 113) := snd_goto dX17_worked_109 (by decide)
theorem oX17_worked_112 : SX17_worked 112 (i_const (.int (nI 0)) 113) := snd_iconst dX17_worked_112 (by decide)
theorem oX17_worked_113 : SX17_worked 113 (i_iret) := snd_iret dX17_worked_113 rfl
theorem oX17_worked_114 : SX17_worked 114 (i_iload 2 115) := snd_iload_n dX17_worked_114 rfl
theorem oX17_worked_115 : SX17_worked 115 (i_if1 (fun x => x = 0) 126 118) := snd_if_eq dX17_worked_115 (by decide)
theorem oX17_worked_118 : SX17_worked 118 (i_iload 3 119) := snd_iload_n dX17_worked_118 rfl
theorem oX17_worked_119 : SX17_worked 119 (i_if1 (fun x => x = 0) 126 122) := snd_if_eq dX17_worked_119 (by decide)
theorem oX17_worked_122 : SX17_worked 122 (i_const (.int (nI 1)) 123) := snd_iconst dX17_worked_122 (by decide)
theorem oX17_worked_123 : SX17_worked 123 (i_goto 127) := snd_goto dX17_worked_123 (by decide)
theorem oX17_worked_126 : SX17_worked 126 (i_const (.int (nI 0)) 127) := snd_iconst dX17_worked_126 (by decide)
theorem oX17_worked_127 : SX17_worked 127 (i_iret) := snd_iret dX17_worked_127 rfl
theorem oX17_worked_128 : SX17_worked 128 (i_iload 2 129) := snd_iload_n dX17_worked_128 rfl
theorem oX17_worked_129 : SX17_worked 129 (i_if1 (fun x => ¬ x = 0) 136 132) := snd_if_ne dX17_worked_129 (by decide)
theorem oX17_worked_132 : SX17_worked 132 (i_iload 3 133) := snd_iload_n dX17_worked_132 rfl
theorem oX17_worked_133 : SX17_worked 133 (i_if1 (fun x => x = 0) 140 136) := snd_if_eq dX17_worked_133 (by decide)
theorem oX17_worked_136 : SX17_worked 136 (i_const (.int (nI 1)) 137) := snd_iconst dX17_worked_136 (by decide)
theorem oX17_worked_137 : SX17_worked 137 (i_goto 141) := snd_goto dX17_worked_137 (by decide)
theorem oX17_worked_140 : SX17_worked 140 (i_const (.int (nI 0)) 141) := snd_iconst dX17_worked_140 (by decide)
theorem oX17_worked_141 : SX17_worked 141 (i_iret) := snd_iret dX17_worked_141 rfl
theorem okX17_worked : ∀ q ∈ cX17_worked, SX17_worked q.1 q.2 := List.forall_mem_cons.mpr ⟨oX17_worked_0, List.forall_mem_cons.mpr ⟨oX17_worked_1, List.forall_mem_cons.mpr ⟨oX17_worked_4, List.forall_mem_cons.mpr ⟨oX17_worked_5, List.forall_mem_cons.mpr ⟨oX17_worked_8, List.forall_mem_cons.mpr ⟨oX17_worked_9, List.forall_mem_cons.mpr ⟨oX17_worked_10, List.forall_mem_cons.mpr ⟨oX17_worked_13, List.forall_mem_cons.mpr ⟨oX17_worked_14, List.forall_mem_cons.mpr ⟨oX17_worked_17, List.forall_mem_cons.mpr ⟨oX17_worked_18, List.forall_mem_cons.mpr ⟨oX17_worked_19, List.forall_mem_cons.mpr ⟨oX17_worked_22, List.forall_mem_cons.mpr ⟨oX17_worked_80, List.forall_mem_cons.mpr ⟨oX17_worked_81, List.forall_mem_cons.mpr ⟨oX17_worked_82, List.forall_mem_cons.mpr ⟨oX17_worked_83, List.forall_mem_cons.mpr ⟨oX17_worked_84, List.forall_mem_cons.mpr ⟨oX17_worked_85, List.forall_mem_cons.mpr ⟨oX17_worked_86, List.forall_mem_cons.mpr ⟨oX17_worked_87, List.forall_mem_cons.mpr ⟨oX17_worked_88, List.forall_mem_cons.mpr ⟨oX17_worked_89, List.forall_mem_cons.mpr ⟨oX17_worked_90, List.forall_mem_cons.mpr ⟨oX17_worked_91, List.forall_mem_cons.mpr ⟨oX17_worked_92, List.forall_mem_cons.mpr ⟨oX17_worked_93, List.forall_mem_cons.mpr ⟨oX17_worked_94, List.forall_mem_cons.mpr ⟨oX17_worked_97, List.forall_mem_cons.mpr ⟨oX17_worked_98, List.forall_mem_cons.mpr ⟨oX17_worked_101, List.forall_mem_cons.mpr ⟨oX17_worked_102, List.forall_mem_cons.mpr ⟨oX17_worked_103, List.forall_mem_cons.mpr ⟨oX17_worked_104, List.forall_mem_cons.mpr ⟨oX17_worked_105, List.forall_mem_cons.mpr ⟨oX17_worked_108, List.forall_mem_cons.mpr ⟨oX17_worked_109, List.forall_mem_cons.mpr ⟨oX17_worked_112, List.forall_mem_cons.mpr ⟨oX17_worked_113, List.forall_mem_cons.mpr ⟨oX17_worked_114, List.forall_mem_cons.mpr ⟨oX17_worked_115, List.forall_mem_cons.mpr ⟨oX17_worked_118, List.forall_mem_cons.mpr ⟨oX17_worked_119, List.forall_mem_cons.mpr ⟨oX17_worked_122, List.forall_mem_cons.mpr ⟨oX17_worked_123, List.forall_mem_cons.mpr ⟨oX17_worked_126, List.forall_mem_cons.mpr ⟨oX17_worked_127, List.forall_mem_cons.mpr ⟨oX17_worked_128, List.forall_mem_cons.mpr ⟨oX17_worked_129, List.forall_mem_cons.mpr ⟨oX17_worked_132, List.forall_mem_cons.mpr ⟨oX17_worked_133, List.forall_mem_cons.mpr ⟨oX17_worked_136, List.forall_mem_cons.mpr ⟨oX17_worked_137, List.forall_mem_cons.mpr ⟨oX17_worked_140, List.forall_mem_cons.mpr ⟨oX17_worked_141, fun _ h => absurd h List.not_mem_nil⟩⟩⟩⟩⟩⟩⟩⟩⟩⟩⟩⟩⟩⟩⟩⟩⟩⟩⟩⟩⟩⟩⟩⟩⟩⟩⟩⟩⟩⟩⟩⟩⟩⟩⟩⟩⟩⟩⟩⟩⟩⟩⟩⟩⟩⟩⟩⟩⟩⟩⟩⟩⟩⟩⟩
theorem dX18_init_0 : decode bcX18_init 0 = .ok (.aload_n 0, 1) := by decide +kernel
theorem dX18_init_1 : decode bcX18_init 1 = .ok (.invokespecial 1, 3) := by decide +kernel
theorem dX18_init_4 : decode bcX18_init 4 = .ok (.return_, 1) := by decide +kernel
abbrev SX18_init (pc : Nat) (i : xI) : Prop := Snd "SwollenHouse$Line" "<init>" prog_10_method_1_code 1 (Option.none : Option Jvm.ClassFile.FieldType) [] pc i
theorem oX18_init_0 : SX18_init 0 (i_aload 0 1) := snd_aload_n dX18_init_0 rfl
theorem oX18_init_1 : SX18_init 1 (i_oi 4) := snd_oi dX18_init_1 q1087 q177 q_oicode
theorem oX18_init_4 : SX18_init 4 (i_vret) := snd_vret dX18_init_4 rfl
theorem okX18_init : ∀ q ∈ cX18_init, SX18_init q.1 q.2 := List.forall_mem_cons.mpr ⟨oX18_init_0, List.forall_mem_cons.mpr ⟨oX18_init_1, List.forall_mem_cons.mpr ⟨oX18_init_4, fun _ h => absurd h List.not_mem_nil⟩⟩⟩
theorem dX19_init_0 : decode bcX19_init 0 = .ok (.aload_n 0, 1) := by decide +kernel
theorem dX19_init_1 : decode bcX19_init 1 = .ok (.invokespecial 1, 3) := by decide +kernel
theorem dX19_init_4 : decode bcX19_init 4 = .ok (.return_, 1) := by decide +kernel
abbrev SX19_init (pc : Nat) (i : xI) : Prop := Snd "SwollenHouse$Passed" "<init>" prog_14_method_1_code 1 (Option.none : Option Jvm.ClassFile.FieldType) [] pc i
theorem oX19_init_0 : SX19_init 0 (i_aload 0 1) := snd_aload_n dX19_init_0 rfl
theorem oX19_init_1 : SX19_init 1 (i_ci [15, 16, 17, 18, 19] 190 0 4) := snd_ci rfl infX18_init (by decide) (xcls_ok _ (by decide)) (xIm_N dX19_init_1 rfl q1084 q1085 q162 q1086 pdX18_init)
theorem oX19_init_4 : SX19_init 4 (i_vret) := snd_vret dX19_init_4 rfl
theorem okX19_init : ∀ q ∈ cX19_init, SX19_init q.1 q.2 := List.forall_mem_cons.mpr ⟨oX19_init_0, List.forall_mem_cons.mpr ⟨oX19_init_1, List.forall_mem_cons.mpr ⟨oX19_init_4, fun _ h => absurd h List.not_mem_nil⟩⟩⟩
def dkwX19_isDone_0 : List UInt8 := [43, 44, 43, 180, 0, 7, 44, 180, 0, 13, 182, 0, 19, 182, 0, 25, 4, 172]
abbrev dktX19_isDone_0 : List UInt8 := dkwX19_isDone_0 ++ []
theorem dksX19_isDone_0 : bcX19_isDone.data.toList.drop 0 = dktX19_isDone_0 := by decide +kernel
theorem dX19_isDone_0 : decode bcX19_isDone 0 = .ok (.aload_n 1, 1) := dk_43 (dk_at dksX19_isDone_0 0 rfl rfl)
theorem dX19_isDone_1 : decode bcX19_isDone 1 = .ok (.aload_n 2, 1) := dk_44 (dk_at dksX19_isDone_0 1 rfl rfl)
theorem dX19_isDone_2 : decode bcX19_isDone 2 = .ok (.aload_n 1, 1) := dk_43 (dk_at dksX19_isDone_0 2 rfl rfl)
theorem dX19_isDone_3 : decode bcX19_isDone 3 = .ok (.getfield 7, 3) := dk_180 0 7 (dk_at dksX19_isDone_0 3 rfl rfl)
theorem dX19_isDone_6 : decode bcX19_isDone 6 = .ok (.aload_n 2, 1) := dk_44 (dk_at dksX19_isDone_0 6 rfl rfl)
theorem dX19_isDone_7 : decode bcX19_isDone 7 = .ok (.getfield 13, 3) := dk_180 0 13 (dk_at dksX19_isDone_0 7 rfl rfl)
theorem dX19_isDone_10 : decode bcX19_isDone 10 = .ok (.invokevirtual 19, 3) := dk_182 0 19 (dk_at dksX19_isDone_0 10 rfl rfl)
theorem dX19_isDone_13 : decode bcX19_isDone 13 = .ok (.invokevirtual 25, 3) := dk_182 0 25 (dk_at dksX19_isDone_0 13 rfl rfl)
theorem dX19_isDone_16 : decode bcX19_isDone 16 = .ok (.iconst 1, 1) := dk_4 (dk_at dksX19_isDone_0 16 rfl rfl)
theorem dX19_isDone_17 : decode bcX19_isDone 17 = .ok (.ireturn, 1) := dk_172 (dk_at dksX19_isDone_0 17 rfl rfl)
abbrev SX19_isDone (pc : Nat) (i : xI) : Prop := Snd "SwollenHouse$Passed" "isDone" prog_14_method_2_code 3 (Option.some Jvm.ClassFile.FieldType.boolean) [] pc i
theorem oX19_isDone_0 : SX19_isDone 0 (i_aload 1 1) := snd_aload_n dX19_isDone_0 rfl
theorem oX19_isDone_1 : SX19_isDone 1 (i_aload 2 2) := snd_aload_n dX19_isDone_1 rfl
theorem oX19_isDone_2 : SX19_isDone 2 (i_aload 1 3) := snd_aload_n dX19_isDone_2 rfl
theorem oX19_isDone_3 : SX19_isDone 3 (i_getf 0 2 6) := snd_getf dX19_isDone_3 rfl (by decide) in_X1 (Or.inr ⟨_, q347⟩) (Or.inl rfl) (by decide)
theorem oX19_isDone_6 : SX19_isDone 6 (i_aload 2 7) := snd_aload_n dX19_isDone_6 rfl
theorem oX19_isDone_7 : SX19_isDone 7 (i_getf 3 4 10) := snd_getf dX19_isDone_7 rfl (by decide) in_X4 (Or.inr ⟨_, q300⟩) (Or.inl rfl) (by decide)
theorem oX19_isDone_10 : SX19_isDone 10 (i_cv 2 235 1 13) := snd_cv rfl infX3_damp (by decide) rfl (xVm_V dX19_isDone_10 rfl q1343 q1203 q1204 q129 q1205 pdX3_damp)
theorem oX19_isDone_13 : SX19_isDone 13 (i_cvv 0 105 2 16) := snd_cvv rfl infX1_passes_2 (by decide) rfl (xVm_N dX19_isDone_13 q1344 q1208 qs36 q127 q1209 pdX1_passes_2)
theorem oX19_isDone_16 : SX19_isDone 16 (i_const (.int (nI 1)) 17) := snd_iconst dX19_isDone_16 (by decide)
theorem oX19_isDone_17 : SX19_isDone 17 (i_zret) := snd_zret dX19_isDone_17 rfl
theorem okX19_isDone : ∀ q ∈ cX19_isDone, SX19_isDone q.1 q.2 := List.forall_mem_cons.mpr ⟨oX19_isDone_0, List.forall_mem_cons.mpr ⟨oX19_isDone_1, List.forall_mem_cons.mpr ⟨oX19_isDone_2, List.forall_mem_cons.mpr ⟨oX19_isDone_3, List.forall_mem_cons.mpr ⟨oX19_isDone_6, List.forall_mem_cons.mpr ⟨oX19_isDone_7, List.forall_mem_cons.mpr ⟨oX19_isDone_10, List.forall_mem_cons.mpr ⟨oX19_isDone_13, List.forall_mem_cons.mpr ⟨oX19_isDone_16, List.forall_mem_cons.mpr ⟨oX19_isDone_17, fun _ h => absurd h List.not_mem_nil⟩⟩⟩⟩⟩⟩⟩⟩⟩⟩
def dkwX20_init_0 : List UInt8 := [42, 183, 0, 1, 42, 27, 181, 0, 7, 42, 28, 181, 0, 13, 177]
abbrev dktX20_init_0 : List UInt8 := dkwX20_init_0 ++ []
theorem dksX20_init_0 : bcX20_init.data.toList.drop 0 = dktX20_init_0 := by decide +kernel
theorem dX20_init_0 : decode bcX20_init 0 = .ok (.aload_n 0, 1) := dk_42 (dk_at dksX20_init_0 0 rfl rfl)
theorem dX20_init_1 : decode bcX20_init 1 = .ok (.invokespecial 1, 3) := dk_183 0 1 (dk_at dksX20_init_0 1 rfl rfl)
theorem dX20_init_4 : decode bcX20_init 4 = .ok (.aload_n 0, 1) := dk_42 (dk_at dksX20_init_0 4 rfl rfl)
theorem dX20_init_5 : decode bcX20_init 5 = .ok (.iload_n 1, 1) := dk_27 (dk_at dksX20_init_0 5 rfl rfl)
theorem dX20_init_6 : decode bcX20_init 6 = .ok (.putfield 7, 3) := dk_181 0 7 (dk_at dksX20_init_0 6 rfl rfl)
theorem dX20_init_9 : decode bcX20_init 9 = .ok (.aload_n 0, 1) := dk_42 (dk_at dksX20_init_0 9 rfl rfl)
theorem dX20_init_10 : decode bcX20_init 10 = .ok (.iload_n 2, 1) := dk_28 (dk_at dksX20_init_0 10 rfl rfl)
theorem dX20_init_11 : decode bcX20_init 11 = .ok (.putfield 13, 3) := dk_181 0 13 (dk_at dksX20_init_0 11 rfl rfl)
theorem dX20_init_14 : decode bcX20_init 14 = .ok (.return_, 1) := dk_177 (dk_at dksX20_init_0 14 rfl rfl)
abbrev SX20_init (pc : Nat) (i : xI) : Prop := Snd "SwollenHouse$Walked" "<init>" prog_20_method_1_code 3 (Option.none : Option Jvm.ClassFile.FieldType) [] pc i
theorem oX20_init_0 : SX20_init 0 (i_aload 0 1) := snd_aload_n dX20_init_0 rfl
theorem oX20_init_1 : SX20_init 1 (i_ci [15, 16, 17, 18, 19] 190 0 4) := snd_ci rfl infX18_init (by decide) (xcls_ok _ (by decide)) (xIm_N dX20_init_1 rfl q1094 q1085 q162 q1086 pdX18_init)
theorem oX20_init_4 : SX20_init 4 (i_aload 0 5) := snd_aload_n dX20_init_4 rfl
theorem oX20_init_5 : SX20_init 5 (i_iload 1 6) := snd_iload_n dX20_init_5 rfl
theorem oX20_init_6 : SX20_init 6 (i_putfi 16 0 9) := snd_putfi dX20_init_6 rfl (by decide) in_X20 tyX20 tyX20_ok nmX20 (Or.inr (Or.inl ⟨rfl, rfl, rfl, q1095⟩)) (Or.inl rfl) rfl
theorem oX20_init_9 : SX20_init 9 (i_aload 0 10) := snd_aload_n dX20_init_9 rfl
theorem oX20_init_10 : SX20_init 10 (i_iload 2 11) := snd_iload_n dX20_init_10 rfl
theorem oX20_init_11 : SX20_init 11 (i_putfi 16 1 14) := snd_putfi dX20_init_11 rfl (by decide) in_X20 tyX20 tyX20_ok nmX20 (Or.inr (Or.inl ⟨rfl, rfl, rfl, q1096⟩)) (Or.inl rfl) rfl
theorem oX20_init_14 : SX20_init 14 (i_vret) := snd_vret dX20_init_14 rfl
theorem okX20_init : ∀ q ∈ cX20_init, SX20_init q.1 q.2 := List.forall_mem_cons.mpr ⟨oX20_init_0, List.forall_mem_cons.mpr ⟨oX20_init_1, List.forall_mem_cons.mpr ⟨oX20_init_4, List.forall_mem_cons.mpr ⟨oX20_init_5, List.forall_mem_cons.mpr ⟨oX20_init_6, List.forall_mem_cons.mpr ⟨oX20_init_9, List.forall_mem_cons.mpr ⟨oX20_init_10, List.forall_mem_cons.mpr ⟨oX20_init_11, List.forall_mem_cons.mpr ⟨oX20_init_14, fun _ h => absurd h List.not_mem_nil⟩⟩⟩⟩⟩⟩⟩⟩⟩
def dkwX20_isDone_0 : List UInt8 := [43, 44, 42, 180, 0, 7, 42, 180, 0, 13, 182, 0, 16, 172]
abbrev dktX20_isDone_0 : List UInt8 := dkwX20_isDone_0 ++ []
theorem dksX20_isDone_0 : bcX20_isDone.data.toList.drop 0 = dktX20_isDone_0 := by decide +kernel
theorem dX20_isDone_0 : decode bcX20_isDone 0 = .ok (.aload_n 1, 1) := dk_43 (dk_at dksX20_isDone_0 0 rfl rfl)
theorem dX20_isDone_1 : decode bcX20_isDone 1 = .ok (.aload_n 2, 1) := dk_44 (dk_at dksX20_isDone_0 1 rfl rfl)
theorem dX20_isDone_2 : decode bcX20_isDone 2 = .ok (.aload_n 0, 1) := dk_42 (dk_at dksX20_isDone_0 2 rfl rfl)
theorem dX20_isDone_3 : decode bcX20_isDone 3 = .ok (.getfield 7, 3) := dk_180 0 7 (dk_at dksX20_isDone_0 3 rfl rfl)
theorem dX20_isDone_6 : decode bcX20_isDone 6 = .ok (.aload_n 0, 1) := dk_42 (dk_at dksX20_isDone_0 6 rfl rfl)
theorem dX20_isDone_7 : decode bcX20_isDone 7 = .ok (.getfield 13, 3) := dk_180 0 13 (dk_at dksX20_isDone_0 7 rfl rfl)
theorem dX20_isDone_10 : decode bcX20_isDone 10 = .ok (.invokevirtual 16, 3) := dk_182 0 16 (dk_at dksX20_isDone_0 10 rfl rfl)
theorem dX20_isDone_13 : decode bcX20_isDone 13 = .ok (.ireturn, 1) := dk_172 (dk_at dksX20_isDone_0 13 rfl rfl)
abbrev SX20_isDone (pc : Nat) (i : xI) : Prop := Snd "SwollenHouse$Walked" "isDone" prog_20_method_2_code 3 (Option.some Jvm.ClassFile.FieldType.boolean) [] pc i
theorem oX20_isDone_0 : SX20_isDone 0 (i_aload 1 1) := snd_aload_n dX20_isDone_0 rfl
theorem oX20_isDone_1 : SX20_isDone 1 (i_aload 2 2) := snd_aload_n dX20_isDone_1 rfl
theorem oX20_isDone_2 : SX20_isDone 2 (i_aload 0 3) := snd_aload_n dX20_isDone_2 rfl
theorem oX20_isDone_3 : SX20_isDone 3 (i_getf 16 0 6) := snd_getf dX20_isDone_3 rfl (by decide) in_X20 (Or.inl q1095) (Or.inl rfl) (by decide)
theorem oX20_isDone_6 : SX20_isDone 6 (i_aload 0 7) := snd_aload_n dX20_isDone_6 rfl
theorem oX20_isDone_7 : SX20_isDone 7 (i_getf 16 1 10) := snd_getf dX20_isDone_7 rfl (by decide) in_X20 (Or.inl q1096) (Or.inl rfl) (by decide)
theorem oX20_isDone_10 : SX20_isDone 10 (i_cv 0 110 3 13) := snd_cv rfl infX1_isWalked (by decide) rfl (xVm_N dX20_isDone_10 q1353 q1292 qs39 q127 q1293 pdX1_isWalked)
theorem oX20_isDone_13 : SX20_isDone 13 (i_zret) := snd_zret dX20_isDone_13 rfl
theorem okX20_isDone : ∀ q ∈ cX20_isDone, SX20_isDone q.1 q.2 := List.forall_mem_cons.mpr ⟨oX20_isDone_0, List.forall_mem_cons.mpr ⟨oX20_isDone_1, List.forall_mem_cons.mpr ⟨oX20_isDone_2, List.forall_mem_cons.mpr ⟨oX20_isDone_3, List.forall_mem_cons.mpr ⟨oX20_isDone_6, List.forall_mem_cons.mpr ⟨oX20_isDone_7, List.forall_mem_cons.mpr ⟨oX20_isDone_10, List.forall_mem_cons.mpr ⟨oX20_isDone_13, fun _ h => absurd h List.not_mem_nil⟩⟩⟩⟩⟩⟩⟩⟩
def dkwX21_init_0 : List UInt8 := [42, 183, 0, 1, 42, 27, 181, 0, 7, 177]
abbrev dktX21_init_0 : List UInt8 := dkwX21_init_0 ++ []
theorem dksX21_init_0 : bcX21_init.data.toList.drop 0 = dktX21_init_0 := by decide +kernel
theorem dX21_init_0 : decode bcX21_init 0 = .ok (.aload_n 0, 1) := dk_42 (dk_at dksX21_init_0 0 rfl rfl)
theorem dX21_init_1 : decode bcX21_init 1 = .ok (.invokespecial 1, 3) := dk_183 0 1 (dk_at dksX21_init_0 1 rfl rfl)
theorem dX21_init_4 : decode bcX21_init 4 = .ok (.aload_n 0, 1) := dk_42 (dk_at dksX21_init_0 4 rfl rfl)
theorem dX21_init_5 : decode bcX21_init 5 = .ok (.iload_n 1, 1) := dk_27 (dk_at dksX21_init_0 5 rfl rfl)
theorem dX21_init_6 : decode bcX21_init 6 = .ok (.putfield 7, 3) := dk_181 0 7 (dk_at dksX21_init_0 6 rfl rfl)
theorem dX21_init_9 : decode bcX21_init 9 = .ok (.return_, 1) := dk_177 (dk_at dksX21_init_0 9 rfl rfl)
abbrev SX21_init (pc : Nat) (i : xI) : Prop := Snd "SwollenHouse$Planed" "<init>" prog_16_method_1_code 2 (Option.none : Option Jvm.ClassFile.FieldType) [] pc i
theorem oX21_init_0 : SX21_init 0 (i_aload 0 1) := snd_aload_n dX21_init_0 rfl
theorem oX21_init_1 : SX21_init 1 (i_ci [15, 16, 17, 18, 19] 190 0 4) := snd_ci rfl infX18_init (by decide) (xcls_ok _ (by decide)) (xIm_N dX21_init_1 rfl q1107 q1085 q162 q1086 pdX18_init)
theorem oX21_init_4 : SX21_init 4 (i_aload 0 5) := snd_aload_n dX21_init_4 rfl
theorem oX21_init_5 : SX21_init 5 (i_iload 1 6) := snd_iload_n dX21_init_5 rfl
theorem oX21_init_6 : SX21_init 6 (i_putfi 17 0 9) := snd_putfi dX21_init_6 rfl (by decide) in_X21 tyX21 tyX21_ok nmX21 (Or.inr (Or.inl ⟨rfl, rfl, rfl, q1108⟩)) (Or.inl rfl) rfl
theorem oX21_init_9 : SX21_init 9 (i_vret) := snd_vret dX21_init_9 rfl
theorem okX21_init : ∀ q ∈ cX21_init, SX21_init q.1 q.2 := List.forall_mem_cons.mpr ⟨oX21_init_0, List.forall_mem_cons.mpr ⟨oX21_init_1, List.forall_mem_cons.mpr ⟨oX21_init_4, List.forall_mem_cons.mpr ⟨oX21_init_5, List.forall_mem_cons.mpr ⟨oX21_init_6, List.forall_mem_cons.mpr ⟨oX21_init_9, fun _ h => absurd h List.not_mem_nil⟩⟩⟩⟩⟩⟩
def dkwX21_isDone_1 : List UInt8 := [44, 180, 0, 24, 42, 180, 0, 7, 92, 46, 4, 96, 79, 4, 172]
abbrev dktX21_isDone_1 : List UInt8 := dkwX21_isDone_1 ++ []
def dkwX21_isDone_0 : List UInt8 := [43, 42, 180, 0, 7, 182, 0, 13, 153, 0, 14, 44, 42, 180, 0, 7, 182, 0, 19, 154, 0, 5, 3, 172]
abbrev dktX21_isDone_0 : List UInt8 := dkwX21_isDone_0 ++ dktX21_isDone_1
theorem dksX21_isDone_0 : bcX21_isDone.data.toList.drop 0 = dktX21_isDone_0 := by decide +kernel
theorem dksX21_isDone_1 : bcX21_isDone.data.toList.drop 24 = dktX21_isDone_1 := dk_seg dksX21_isDone_0 24 rfl rfl
theorem dX21_isDone_0 : decode bcX21_isDone 0 = .ok (.aload_n 1, 1) := dk_43 (dk_at dksX21_isDone_0 0 rfl rfl)
theorem dX21_isDone_1 : decode bcX21_isDone 1 = .ok (.aload_n 0, 1) := dk_42 (dk_at dksX21_isDone_0 1 rfl rfl)
theorem dX21_isDone_2 : decode bcX21_isDone 2 = .ok (.getfield 7, 3) := dk_180 0 7 (dk_at dksX21_isDone_0 2 rfl rfl)
theorem dX21_isDone_5 : decode bcX21_isDone 5 = .ok (.invokevirtual 13, 3) := dk_182 0 13 (dk_at dksX21_isDone_0 5 rfl rfl)
theorem dX21_isDone_8 : decode bcX21_isDone 8 = .ok (.ifCond .eq 14, 3) := dk_153 0 14 (dk_at dksX21_isDone_0 8 rfl rfl)
theorem dX21_isDone_11 : decode bcX21_isDone 11 = .ok (.aload_n 2, 1) := dk_44 (dk_at dksX21_isDone_0 11 rfl rfl)
theorem dX21_isDone_12 : decode bcX21_isDone 12 = .ok (.aload_n 0, 1) := dk_42 (dk_at dksX21_isDone_0 12 rfl rfl)
theorem dX21_isDone_13 : decode bcX21_isDone 13 = .ok (.getfield 7, 3) := dk_180 0 7 (dk_at dksX21_isDone_0 13 rfl rfl)
theorem dX21_isDone_16 : decode bcX21_isDone 16 = .ok (.invokevirtual 19, 3) := dk_182 0 19 (dk_at dksX21_isDone_0 16 rfl rfl)
theorem dX21_isDone_19 : decode bcX21_isDone 19 = .ok (.ifCond .ne 5, 3) := dk_154 0 5 (dk_at dksX21_isDone_0 19 rfl rfl)
theorem dX21_isDone_22 : decode bcX21_isDone 22 = .ok (.iconst 0, 1) := dk_3 (dk_at dksX21_isDone_0 22 rfl rfl)
theorem dX21_isDone_23 : decode bcX21_isDone 23 = .ok (.ireturn, 1) := dk_172 (dk_at dksX21_isDone_0 23 rfl rfl)
theorem dX21_isDone_24 : decode bcX21_isDone 24 = .ok (.aload_n 2, 1) := dk_44 (dk_at dksX21_isDone_1 0 rfl rfl)
theorem dX21_isDone_25 : decode bcX21_isDone 25 = .ok (.getfield 24, 3) := dk_180 0 24 (dk_at dksX21_isDone_1 1 rfl rfl)
theorem dX21_isDone_28 : decode bcX21_isDone 28 = .ok (.aload_n 0, 1) := dk_42 (dk_at dksX21_isDone_1 4 rfl rfl)
theorem dX21_isDone_29 : decode bcX21_isDone 29 = .ok (.getfield 7, 3) := dk_180 0 7 (dk_at dksX21_isDone_1 5 rfl rfl)
theorem dX21_isDone_32 : decode bcX21_isDone 32 = .ok (.dup2, 1) := dk_92 (dk_at dksX21_isDone_1 8 rfl rfl)
theorem dX21_isDone_33 : decode bcX21_isDone 33 = .ok (.iaload, 1) := dk_46 (dk_at dksX21_isDone_1 9 rfl rfl)
theorem dX21_isDone_34 : decode bcX21_isDone 34 = .ok (.iconst 1, 1) := dk_4 (dk_at dksX21_isDone_1 10 rfl rfl)
theorem dX21_isDone_35 : decode bcX21_isDone 35 = .ok (.iadd, 1) := dk_96 (dk_at dksX21_isDone_1 11 rfl rfl)
theorem dX21_isDone_36 : decode bcX21_isDone 36 = .ok (.iastore, 1) := dk_79 (dk_at dksX21_isDone_1 12 rfl rfl)
theorem dX21_isDone_37 : decode bcX21_isDone 37 = .ok (.iconst 1, 1) := dk_4 (dk_at dksX21_isDone_1 13 rfl rfl)
theorem dX21_isDone_38 : decode bcX21_isDone 38 = .ok (.ireturn, 1) := dk_172 (dk_at dksX21_isDone_1 14 rfl rfl)
abbrev SX21_isDone (pc : Nat) (i : xI) : Prop := Snd "SwollenHouse$Planed" "isDone" prog_16_method_2_code 3 (Option.some Jvm.ClassFile.FieldType.boolean) [] pc i
theorem oX21_isDone_0 : SX21_isDone 0 (i_aload 1 1) := snd_aload_n dX21_isDone_0 rfl
theorem oX21_isDone_1 : SX21_isDone 1 (i_aload 0 2) := snd_aload_n dX21_isDone_1 rfl
theorem oX21_isDone_2 : SX21_isDone 2 (i_getf 17 0 5) := snd_getf dX21_isDone_2 rfl (by decide) in_X21 (Or.inl q1108) (Or.inl rfl) (by decide)
theorem oX21_isDone_5 : SX21_isDone 5 (i_cv 0 95 1 8) := snd_cv rfl infX1_isDoor (by decide) rfl (xVm_N dX21_isDone_5 q1348 q1138 qs29 q127 q1139 pdX1_isDoor)
theorem oX21_isDone_8 : SX21_isDone 8 (i_if1 (fun x => x = 0) 22 11) := snd_if_eq dX21_isDone_8 (by decide)
theorem oX21_isDone_11 : SX21_isDone 11 (i_aload 2 12) := snd_aload_n dX21_isDone_11 rfl
theorem oX21_isDone_12 : SX21_isDone 12 (i_aload 0 13) := snd_aload_n dX21_isDone_12 rfl
theorem oX21_isDone_13 : SX21_isDone 13 (i_getf 17 0 16) := snd_getf dX21_isDone_13 rfl (by decide) in_X21 (Or.inl q1108) (Or.inl rfl) (by decide)
theorem oX21_isDone_16 : SX21_isDone 16 (i_cv 3 240 1 19) := snd_cv rfl infX4_canPlane (by decide) rfl (xVm_V dX21_isDone_16 rfl q1349 q1303 q1304 q133 q1305 pdX4_canPlane)
theorem oX21_isDone_19 : SX21_isDone 19 (i_if1 (fun x => ¬ x = 0) 24 22) := snd_if_ne dX21_isDone_19 (by decide)
theorem oX21_isDone_22 : SX21_isDone 22 (i_const (.int (nI 0)) 23) := snd_iconst dX21_isDone_22 (by decide)
theorem oX21_isDone_23 : SX21_isDone 23 (i_zret) := snd_zret dX21_isDone_23 rfl
theorem oX21_isDone_24 : SX21_isDone 24 (i_aload 2 25) := snd_aload_n dX21_isDone_24 rfl
theorem oX21_isDone_25 : SX21_isDone 25 (i_getf 3 1 28) := snd_getf dX21_isDone_25 rfl (by decide) in_X4 (Or.inr ⟨_, q293⟩) (Or.inl rfl) (by decide)
theorem oX21_isDone_28 : SX21_isDone 28 (i_aload 0 29) := snd_aload_n dX21_isDone_28 rfl
theorem oX21_isDone_29 : SX21_isDone 29 (i_getf 17 0 32) := snd_getf dX21_isDone_29 rfl (by decide) in_X21 (Or.inl q1108) (Or.inl rfl) (by decide)
theorem oX21_isDone_32 : SX21_isDone 32 (i_dup2 33) := snd_dup2 dX21_isDone_32
theorem oX21_isDone_33 : SX21_isDone 33 (i_ai 0 34) := snd_ai0 dX21_isDone_33
theorem oX21_isDone_34 : SX21_isDone 34 (i_const (.int (nI 1)) 35) := snd_iconst dX21_isDone_34 (by decide)
theorem oX21_isDone_35 : SX21_isDone 35 (i_ii (fun x y => x + y) 36) := snd_iadd dX21_isDone_35
theorem oX21_isDone_36 : SX21_isDone 36 (i_si (fun v => v) 0 37) := snd_si0 dX21_isDone_36
theorem oX21_isDone_37 : SX21_isDone 37 (i_const (.int (nI 1)) 38) := snd_iconst dX21_isDone_37 (by decide)
theorem oX21_isDone_38 : SX21_isDone 38 (i_zret) := snd_zret dX21_isDone_38 rfl
theorem okX21_isDone : ∀ q ∈ cX21_isDone, SX21_isDone q.1 q.2 := List.forall_mem_cons.mpr ⟨oX21_isDone_0, List.forall_mem_cons.mpr ⟨oX21_isDone_1, List.forall_mem_cons.mpr ⟨oX21_isDone_2, List.forall_mem_cons.mpr ⟨oX21_isDone_5, List.forall_mem_cons.mpr ⟨oX21_isDone_8, List.forall_mem_cons.mpr ⟨oX21_isDone_11, List.forall_mem_cons.mpr ⟨oX21_isDone_12, List.forall_mem_cons.mpr ⟨oX21_isDone_13, List.forall_mem_cons.mpr ⟨oX21_isDone_16, List.forall_mem_cons.mpr ⟨oX21_isDone_19, List.forall_mem_cons.mpr ⟨oX21_isDone_22, List.forall_mem_cons.mpr ⟨oX21_isDone_23, List.forall_mem_cons.mpr ⟨oX21_isDone_24, List.forall_mem_cons.mpr ⟨oX21_isDone_25, List.forall_mem_cons.mpr ⟨oX21_isDone_28, List.forall_mem_cons.mpr ⟨oX21_isDone_29, List.forall_mem_cons.mpr ⟨oX21_isDone_32, List.forall_mem_cons.mpr ⟨oX21_isDone_33, List.forall_mem_cons.mpr ⟨oX21_isDone_34, List.forall_mem_cons.mpr ⟨oX21_isDone_35, List.forall_mem_cons.mpr ⟨oX21_isDone_36, List.forall_mem_cons.mpr ⟨oX21_isDone_37, List.forall_mem_cons.mpr ⟨oX21_isDone_38, fun _ h => absurd h List.not_mem_nil⟩⟩⟩⟩⟩⟩⟩⟩⟩⟩⟩⟩⟩⟩⟩⟩⟩⟩⟩⟩⟩⟩⟩
def dkwX22_init_0 : List UInt8 := [42, 183, 0, 1, 42, 27, 181, 0, 7, 177]
abbrev dktX22_init_0 : List UInt8 := dkwX22_init_0 ++ []
theorem dksX22_init_0 : bcX22_init.data.toList.drop 0 = dktX22_init_0 := by decide +kernel
theorem dX22_init_0 : decode bcX22_init 0 = .ok (.aload_n 0, 1) := dk_42 (dk_at dksX22_init_0 0 rfl rfl)
theorem dX22_init_1 : decode bcX22_init 1 = .ok (.invokespecial 1, 3) := dk_183 0 1 (dk_at dksX22_init_0 1 rfl rfl)
theorem dX22_init_4 : decode bcX22_init 4 = .ok (.aload_n 0, 1) := dk_42 (dk_at dksX22_init_0 4 rfl rfl)
theorem dX22_init_5 : decode bcX22_init 5 = .ok (.iload_n 1, 1) := dk_27 (dk_at dksX22_init_0 5 rfl rfl)
theorem dX22_init_6 : decode bcX22_init 6 = .ok (.putfield 7, 3) := dk_181 0 7 (dk_at dksX22_init_0 6 rfl rfl)
theorem dX22_init_9 : decode bcX22_init 9 = .ok (.return_, 1) := dk_177 (dk_at dksX22_init_0 9 rfl rfl)
abbrev SX22_init (pc : Nat) (i : xI) : Prop := Snd "SwollenHouse$Wedged" "<init>" prog_21_method_1_code 2 (Option.none : Option Jvm.ClassFile.FieldType) [] pc i
theorem oX22_init_0 : SX22_init 0 (i_aload 0 1) := snd_aload_n dX22_init_0 rfl
theorem oX22_init_1 : SX22_init 1 (i_ci [15, 16, 17, 18, 19] 190 0 4) := snd_ci rfl infX18_init (by decide) (xcls_ok _ (by decide)) (xIm_N dX22_init_1 rfl q1117 q1085 q162 q1086 pdX18_init)
theorem oX22_init_4 : SX22_init 4 (i_aload 0 5) := snd_aload_n dX22_init_4 rfl
theorem oX22_init_5 : SX22_init 5 (i_iload 1 6) := snd_iload_n dX22_init_5 rfl
theorem oX22_init_6 : SX22_init 6 (i_putfi 18 0 9) := snd_putfi dX22_init_6 rfl (by decide) in_X22 tyX22 tyX22_ok nmX22 (Or.inr (Or.inl ⟨rfl, rfl, rfl, q1118⟩)) (Or.inl rfl) rfl
theorem oX22_init_9 : SX22_init 9 (i_vret) := snd_vret dX22_init_9 rfl
theorem okX22_init : ∀ q ∈ cX22_init, SX22_init q.1 q.2 := List.forall_mem_cons.mpr ⟨oX22_init_0, List.forall_mem_cons.mpr ⟨oX22_init_1, List.forall_mem_cons.mpr ⟨oX22_init_4, List.forall_mem_cons.mpr ⟨oX22_init_5, List.forall_mem_cons.mpr ⟨oX22_init_6, List.forall_mem_cons.mpr ⟨oX22_init_9, fun _ h => absurd h List.not_mem_nil⟩⟩⟩⟩⟩⟩
def dkwX22_isDone_1 : List UInt8 := [44, 89, 180, 0, 24, 4, 42, 180, 0, 7, 120, 130, 181, 0, 24, 4, 172]
abbrev dktX22_isDone_1 : List UInt8 := dkwX22_isDone_1 ++ []
def dkwX22_isDone_0 : List UInt8 := [43, 42, 180, 0, 7, 182, 0, 13, 153, 0, 14, 44, 42, 180, 0, 7, 182, 0, 19, 154, 0, 5, 3, 172]
abbrev dktX22_isDone_0 : List UInt8 := dkwX22_isDone_0 ++ dktX22_isDone_1
theorem dksX22_isDone_0 : bcX22_isDone.data.toList.drop 0 = dktX22_isDone_0 := by decide +kernel
theorem dksX22_isDone_1 : bcX22_isDone.data.toList.drop 24 = dktX22_isDone_1 := dk_seg dksX22_isDone_0 24 rfl rfl
theorem dX22_isDone_0 : decode bcX22_isDone 0 = .ok (.aload_n 1, 1) := dk_43 (dk_at dksX22_isDone_0 0 rfl rfl)
theorem dX22_isDone_1 : decode bcX22_isDone 1 = .ok (.aload_n 0, 1) := dk_42 (dk_at dksX22_isDone_0 1 rfl rfl)
theorem dX22_isDone_2 : decode bcX22_isDone 2 = .ok (.getfield 7, 3) := dk_180 0 7 (dk_at dksX22_isDone_0 2 rfl rfl)
theorem dX22_isDone_5 : decode bcX22_isDone 5 = .ok (.invokevirtual 13, 3) := dk_182 0 13 (dk_at dksX22_isDone_0 5 rfl rfl)
theorem dX22_isDone_8 : decode bcX22_isDone 8 = .ok (.ifCond .eq 14, 3) := dk_153 0 14 (dk_at dksX22_isDone_0 8 rfl rfl)
theorem dX22_isDone_11 : decode bcX22_isDone 11 = .ok (.aload_n 2, 1) := dk_44 (dk_at dksX22_isDone_0 11 rfl rfl)
theorem dX22_isDone_12 : decode bcX22_isDone 12 = .ok (.aload_n 0, 1) := dk_42 (dk_at dksX22_isDone_0 12 rfl rfl)
theorem dX22_isDone_13 : decode bcX22_isDone 13 = .ok (.getfield 7, 3) := dk_180 0 7 (dk_at dksX22_isDone_0 13 rfl rfl)
theorem dX22_isDone_16 : decode bcX22_isDone 16 = .ok (.invokevirtual 19, 3) := dk_182 0 19 (dk_at dksX22_isDone_0 16 rfl rfl)
theorem dX22_isDone_19 : decode bcX22_isDone 19 = .ok (.ifCond .ne 5, 3) := dk_154 0 5 (dk_at dksX22_isDone_0 19 rfl rfl)
theorem dX22_isDone_22 : decode bcX22_isDone 22 = .ok (.iconst 0, 1) := dk_3 (dk_at dksX22_isDone_0 22 rfl rfl)
theorem dX22_isDone_23 : decode bcX22_isDone 23 = .ok (.ireturn, 1) := dk_172 (dk_at dksX22_isDone_0 23 rfl rfl)
theorem dX22_isDone_24 : decode bcX22_isDone 24 = .ok (.aload_n 2, 1) := dk_44 (dk_at dksX22_isDone_1 0 rfl rfl)
theorem dX22_isDone_25 : decode bcX22_isDone 25 = .ok (.dup, 1) := dk_89 (dk_at dksX22_isDone_1 1 rfl rfl)
theorem dX22_isDone_26 : decode bcX22_isDone 26 = .ok (.getfield 24, 3) := dk_180 0 24 (dk_at dksX22_isDone_1 2 rfl rfl)
theorem dX22_isDone_29 : decode bcX22_isDone 29 = .ok (.iconst 1, 1) := dk_4 (dk_at dksX22_isDone_1 5 rfl rfl)
theorem dX22_isDone_30 : decode bcX22_isDone 30 = .ok (.aload_n 0, 1) := dk_42 (dk_at dksX22_isDone_1 6 rfl rfl)
theorem dX22_isDone_31 : decode bcX22_isDone 31 = .ok (.getfield 7, 3) := dk_180 0 7 (dk_at dksX22_isDone_1 7 rfl rfl)
theorem dX22_isDone_34 : decode bcX22_isDone 34 = .ok (.ishl, 1) := dk_120 (dk_at dksX22_isDone_1 10 rfl rfl)
theorem dX22_isDone_35 : decode bcX22_isDone 35 = .ok (.ixor, 1) := dk_130 (dk_at dksX22_isDone_1 11 rfl rfl)
theorem dX22_isDone_36 : decode bcX22_isDone 36 = .ok (.putfield 24, 3) := dk_181 0 24 (dk_at dksX22_isDone_1 12 rfl rfl)
theorem dX22_isDone_39 : decode bcX22_isDone 39 = .ok (.iconst 1, 1) := dk_4 (dk_at dksX22_isDone_1 15 rfl rfl)
theorem dX22_isDone_40 : decode bcX22_isDone 40 = .ok (.ireturn, 1) := dk_172 (dk_at dksX22_isDone_1 16 rfl rfl)
abbrev SX22_isDone (pc : Nat) (i : xI) : Prop := Snd "SwollenHouse$Wedged" "isDone" prog_21_method_2_code 3 (Option.some Jvm.ClassFile.FieldType.boolean) [] pc i
theorem oX22_isDone_0 : SX22_isDone 0 (i_aload 1 1) := snd_aload_n dX22_isDone_0 rfl
theorem oX22_isDone_1 : SX22_isDone 1 (i_aload 0 2) := snd_aload_n dX22_isDone_1 rfl
theorem oX22_isDone_2 : SX22_isDone 2 (i_getf 18 0 5) := snd_getf dX22_isDone_2 rfl (by decide) in_X22 (Or.inl q1118) (Or.inl rfl) (by decide)
theorem oX22_isDone_5 : SX22_isDone 5 (i_cv 0 95 1 8) := snd_cv rfl infX1_isDoor (by decide) rfl (xVm_N dX22_isDone_5 q1357 q1138 qs29 q127 q1139 pdX1_isDoor)
theorem oX22_isDone_8 : SX22_isDone 8 (i_if1 (fun x => x = 0) 22 11) := snd_if_eq dX22_isDone_8 (by decide)
theorem oX22_isDone_11 : SX22_isDone 11 (i_aload 2 12) := snd_aload_n dX22_isDone_11 rfl
theorem oX22_isDone_12 : SX22_isDone 12 (i_aload 0 13) := snd_aload_n dX22_isDone_12 rfl
theorem oX22_isDone_13 : SX22_isDone 13 (i_getf 18 0 16) := snd_getf dX22_isDone_13 rfl (by decide) in_X22 (Or.inl q1118) (Or.inl rfl) (by decide)
theorem oX22_isDone_16 : SX22_isDone 16 (i_cv 3 241 1 19) := snd_cv rfl infX4_canWedge (by decide) rfl (xVm_V dX22_isDone_16 rfl q1358 q1311 q1312 q133 q1313 pdX4_canWedge)
theorem oX22_isDone_19 : SX22_isDone 19 (i_if1 (fun x => ¬ x = 0) 24 22) := snd_if_ne dX22_isDone_19 (by decide)
theorem oX22_isDone_22 : SX22_isDone 22 (i_const (.int (nI 0)) 23) := snd_iconst dX22_isDone_22 (by decide)
theorem oX22_isDone_23 : SX22_isDone 23 (i_zret) := snd_zret dX22_isDone_23 rfl
theorem oX22_isDone_24 : SX22_isDone 24 (i_aload 2 25) := snd_aload_n dX22_isDone_24 rfl
theorem oX22_isDone_25 : SX22_isDone 25 (i_dup 26) := snd_dup dX22_isDone_25
theorem oX22_isDone_26 : SX22_isDone 26 (i_getf 3 3 29) := snd_getf dX22_isDone_26 rfl (by decide) in_X4 (Or.inr ⟨_, q297⟩) (Or.inl rfl) (by decide)
theorem oX22_isDone_29 : SX22_isDone 29 (i_const (.int (nI 1)) 30) := snd_iconst dX22_isDone_29 (by decide)
theorem oX22_isDone_30 : SX22_isDone 30 (i_aload 0 31) := snd_aload_n dX22_isDone_30 rfl
theorem oX22_isDone_31 : SX22_isDone 31 (i_getf 18 0 34) := snd_getf dX22_isDone_31 rfl (by decide) in_X22 (Or.inl q1118) (Or.inl rfl) (by decide)
theorem oX22_isDone_34 : SX22_isDone 34 (i_ii (fun x y => x <<< (y &&& 31)) 35) := snd_ishl dX22_isDone_34
theorem oX22_isDone_35 : SX22_isDone 35 (i_ii (fun x y => x ^^^ y) 36) := snd_ixor dX22_isDone_35
theorem oX22_isDone_36 : SX22_isDone 36 (i_putfi 3 3 39) := snd_putfi dX22_isDone_36 rfl (by decide) in_X4 tyX4 tyX4_ok nmX4 (Or.inr (Or.inr ⟨rfl, _, q297⟩)) (Or.inl rfl) rfl
theorem oX22_isDone_39 : SX22_isDone 39 (i_const (.int (nI 1)) 40) := snd_iconst dX22_isDone_39 (by decide)
theorem oX22_isDone_40 : SX22_isDone 40 (i_zret) := snd_zret dX22_isDone_40 rfl
theorem okX22_isDone : ∀ q ∈ cX22_isDone, SX22_isDone q.1 q.2 := List.forall_mem_cons.mpr ⟨oX22_isDone_0, List.forall_mem_cons.mpr ⟨oX22_isDone_1, List.forall_mem_cons.mpr ⟨oX22_isDone_2, List.forall_mem_cons.mpr ⟨oX22_isDone_5, List.forall_mem_cons.mpr ⟨oX22_isDone_8, List.forall_mem_cons.mpr ⟨oX22_isDone_11, List.forall_mem_cons.mpr ⟨oX22_isDone_12, List.forall_mem_cons.mpr ⟨oX22_isDone_13, List.forall_mem_cons.mpr ⟨oX22_isDone_16, List.forall_mem_cons.mpr ⟨oX22_isDone_19, List.forall_mem_cons.mpr ⟨oX22_isDone_22, List.forall_mem_cons.mpr ⟨oX22_isDone_23, List.forall_mem_cons.mpr ⟨oX22_isDone_24, List.forall_mem_cons.mpr ⟨oX22_isDone_25, List.forall_mem_cons.mpr ⟨oX22_isDone_26, List.forall_mem_cons.mpr ⟨oX22_isDone_29, List.forall_mem_cons.mpr ⟨oX22_isDone_30, List.forall_mem_cons.mpr ⟨oX22_isDone_31, List.forall_mem_cons.mpr ⟨oX22_isDone_34, List.forall_mem_cons.mpr ⟨oX22_isDone_35, List.forall_mem_cons.mpr ⟨oX22_isDone_36, List.forall_mem_cons.mpr ⟨oX22_isDone_39, List.forall_mem_cons.mpr ⟨oX22_isDone_40, fun _ h => absurd h List.not_mem_nil⟩⟩⟩⟩⟩⟩⟩⟩⟩⟩⟩⟩⟩⟩⟩⟩⟩⟩⟩⟩⟩⟩⟩
def dkwX23_init_0 : List UInt8 := [42, 183, 0, 1, 42, 27, 181, 0, 7, 177]
abbrev dktX23_init_0 : List UInt8 := dkwX23_init_0 ++ []
theorem dksX23_init_0 : bcX23_init.data.toList.drop 0 = dktX23_init_0 := by decide +kernel
theorem dX23_init_0 : decode bcX23_init 0 = .ok (.aload_n 0, 1) := dk_42 (dk_at dksX23_init_0 0 rfl rfl)
theorem dX23_init_1 : decode bcX23_init 1 = .ok (.invokespecial 1, 3) := dk_183 0 1 (dk_at dksX23_init_0 1 rfl rfl)
theorem dX23_init_4 : decode bcX23_init 4 = .ok (.aload_n 0, 1) := dk_42 (dk_at dksX23_init_0 4 rfl rfl)
theorem dX23_init_5 : decode bcX23_init 5 = .ok (.iload_n 1, 1) := dk_27 (dk_at dksX23_init_0 5 rfl rfl)
theorem dX23_init_6 : decode bcX23_init 6 = .ok (.putfield 7, 3) := dk_181 0 7 (dk_at dksX23_init_0 6 rfl rfl)
theorem dX23_init_9 : decode bcX23_init 9 = .ok (.return_, 1) := dk_177 (dk_at dksX23_init_0 9 rfl rfl)
abbrev SX23_init (pc : Nat) (i : xI) : Prop := Snd "SwollenHouse$Forced" "<init>" prog_6_method_1_code 2 (Option.none : Option Jvm.ClassFile.FieldType) [] pc i
theorem oX23_init_0 : SX23_init 0 (i_aload 0 1) := snd_aload_n dX23_init_0 rfl
theorem oX23_init_1 : SX23_init 1 (i_ci [15, 16, 17, 18, 19] 190 0 4) := snd_ci rfl infX18_init (by decide) (xcls_ok _ (by decide)) (xIm_N dX23_init_1 rfl q1127 q1085 q162 q1086 pdX18_init)
theorem oX23_init_4 : SX23_init 4 (i_aload 0 5) := snd_aload_n dX23_init_4 rfl
theorem oX23_init_5 : SX23_init 5 (i_iload 1 6) := snd_iload_n dX23_init_5 rfl
theorem oX23_init_6 : SX23_init 6 (i_putfi 19 0 9) := snd_putfi dX23_init_6 rfl (by decide) in_X23 tyX23 tyX23_ok nmX23 (Or.inr (Or.inl ⟨rfl, rfl, rfl, q1128⟩)) (Or.inl rfl) rfl
theorem oX23_init_9 : SX23_init 9 (i_vret) := snd_vret dX23_init_9 rfl
theorem okX23_init : ∀ q ∈ cX23_init, SX23_init q.1 q.2 := List.forall_mem_cons.mpr ⟨oX23_init_0, List.forall_mem_cons.mpr ⟨oX23_init_1, List.forall_mem_cons.mpr ⟨oX23_init_4, List.forall_mem_cons.mpr ⟨oX23_init_5, List.forall_mem_cons.mpr ⟨oX23_init_6, List.forall_mem_cons.mpr ⟨oX23_init_9, fun _ h => absurd h List.not_mem_nil⟩⟩⟩⟩⟩⟩
def dkwX23_isDone_1 : List UInt8 := [44, 180, 0, 24, 42, 180, 0, 7, 44, 180, 0, 28, 42, 180, 0, 7, 46, 79, 4, 172]
abbrev dktX23_isDone_1 : List UInt8 := dkwX23_isDone_1 ++ []
def dkwX23_isDone_0 : List UInt8 := [43, 42, 180, 0, 7, 182, 0, 13, 153, 0, 14, 44, 42, 180, 0, 7, 182, 0, 19, 154, 0, 5, 3, 172]
abbrev dktX23_isDone_0 : List UInt8 := dkwX23_isDone_0 ++ dktX23_isDone_1
theorem dksX23_isDone_0 : bcX23_isDone.data.toList.drop 0 = dktX23_isDone_0 := by decide +kernel
theorem dksX23_isDone_1 : bcX23_isDone.data.toList.drop 24 = dktX23_isDone_1 := dk_seg dksX23_isDone_0 24 rfl rfl
theorem dX23_isDone_0 : decode bcX23_isDone 0 = .ok (.aload_n 1, 1) := dk_43 (dk_at dksX23_isDone_0 0 rfl rfl)
theorem dX23_isDone_1 : decode bcX23_isDone 1 = .ok (.aload_n 0, 1) := dk_42 (dk_at dksX23_isDone_0 1 rfl rfl)
theorem dX23_isDone_2 : decode bcX23_isDone 2 = .ok (.getfield 7, 3) := dk_180 0 7 (dk_at dksX23_isDone_0 2 rfl rfl)
theorem dX23_isDone_5 : decode bcX23_isDone 5 = .ok (.invokevirtual 13, 3) := dk_182 0 13 (dk_at dksX23_isDone_0 5 rfl rfl)
theorem dX23_isDone_8 : decode bcX23_isDone 8 = .ok (.ifCond .eq 14, 3) := dk_153 0 14 (dk_at dksX23_isDone_0 8 rfl rfl)
theorem dX23_isDone_11 : decode bcX23_isDone 11 = .ok (.aload_n 2, 1) := dk_44 (dk_at dksX23_isDone_0 11 rfl rfl)
theorem dX23_isDone_12 : decode bcX23_isDone 12 = .ok (.aload_n 0, 1) := dk_42 (dk_at dksX23_isDone_0 12 rfl rfl)
theorem dX23_isDone_13 : decode bcX23_isDone 13 = .ok (.getfield 7, 3) := dk_180 0 7 (dk_at dksX23_isDone_0 13 rfl rfl)
theorem dX23_isDone_16 : decode bcX23_isDone 16 = .ok (.invokevirtual 19, 3) := dk_182 0 19 (dk_at dksX23_isDone_0 16 rfl rfl)
theorem dX23_isDone_19 : decode bcX23_isDone 19 = .ok (.ifCond .ne 5, 3) := dk_154 0 5 (dk_at dksX23_isDone_0 19 rfl rfl)
theorem dX23_isDone_22 : decode bcX23_isDone 22 = .ok (.iconst 0, 1) := dk_3 (dk_at dksX23_isDone_0 22 rfl rfl)
theorem dX23_isDone_23 : decode bcX23_isDone 23 = .ok (.ireturn, 1) := dk_172 (dk_at dksX23_isDone_0 23 rfl rfl)
theorem dX23_isDone_24 : decode bcX23_isDone 24 = .ok (.aload_n 2, 1) := dk_44 (dk_at dksX23_isDone_1 0 rfl rfl)
theorem dX23_isDone_25 : decode bcX23_isDone 25 = .ok (.getfield 24, 3) := dk_180 0 24 (dk_at dksX23_isDone_1 1 rfl rfl)
theorem dX23_isDone_28 : decode bcX23_isDone 28 = .ok (.aload_n 0, 1) := dk_42 (dk_at dksX23_isDone_1 4 rfl rfl)
theorem dX23_isDone_29 : decode bcX23_isDone 29 = .ok (.getfield 7, 3) := dk_180 0 7 (dk_at dksX23_isDone_1 5 rfl rfl)
theorem dX23_isDone_32 : decode bcX23_isDone 32 = .ok (.aload_n 2, 1) := dk_44 (dk_at dksX23_isDone_1 8 rfl rfl)
theorem dX23_isDone_33 : decode bcX23_isDone 33 = .ok (.getfield 28, 3) := dk_180 0 28 (dk_at dksX23_isDone_1 9 rfl rfl)
theorem dX23_isDone_36 : decode bcX23_isDone 36 = .ok (.aload_n 0, 1) := dk_42 (dk_at dksX23_isDone_1 12 rfl rfl)
theorem dX23_isDone_37 : decode bcX23_isDone 37 = .ok (.getfield 7, 3) := dk_180 0 7 (dk_at dksX23_isDone_1 13 rfl rfl)
theorem dX23_isDone_40 : decode bcX23_isDone 40 = .ok (.iaload, 1) := dk_46 (dk_at dksX23_isDone_1 16 rfl rfl)
theorem dX23_isDone_41 : decode bcX23_isDone 41 = .ok (.iastore, 1) := dk_79 (dk_at dksX23_isDone_1 17 rfl rfl)
theorem dX23_isDone_42 : decode bcX23_isDone 42 = .ok (.iconst 1, 1) := dk_4 (dk_at dksX23_isDone_1 18 rfl rfl)
theorem dX23_isDone_43 : decode bcX23_isDone 43 = .ok (.ireturn, 1) := dk_172 (dk_at dksX23_isDone_1 19 rfl rfl)
abbrev SX23_isDone (pc : Nat) (i : xI) : Prop := Snd "SwollenHouse$Forced" "isDone" prog_6_method_2_code 3 (Option.some Jvm.ClassFile.FieldType.boolean) [] pc i
theorem oX23_isDone_0 : SX23_isDone 0 (i_aload 1 1) := snd_aload_n dX23_isDone_0 rfl
theorem oX23_isDone_1 : SX23_isDone 1 (i_aload 0 2) := snd_aload_n dX23_isDone_1 rfl
theorem oX23_isDone_2 : SX23_isDone 2 (i_getf 19 0 5) := snd_getf dX23_isDone_2 rfl (by decide) in_X23 (Or.inl q1128) (Or.inl rfl) (by decide)
theorem oX23_isDone_5 : SX23_isDone 5 (i_cv 0 95 1 8) := snd_cv rfl infX1_isDoor (by decide) rfl (xVm_N dX23_isDone_5 q1338 q1138 qs29 q127 q1139 pdX1_isDoor)
theorem oX23_isDone_8 : SX23_isDone 8 (i_if1 (fun x => x = 0) 22 11) := snd_if_eq dX23_isDone_8 (by decide)
theorem oX23_isDone_11 : SX23_isDone 11 (i_aload 2 12) := snd_aload_n dX23_isDone_11 rfl
theorem oX23_isDone_12 : SX23_isDone 12 (i_aload 0 13) := snd_aload_n dX23_isDone_12 rfl
theorem oX23_isDone_13 : SX23_isDone 13 (i_getf 19 0 16) := snd_getf dX23_isDone_13 rfl (by decide) in_X23 (Or.inl q1128) (Or.inl rfl) (by decide)
theorem oX23_isDone_16 : SX23_isDone 16 (i_cv 3 242 1 19) := snd_cv rfl infX4_canForce (by decide) rfl (xVm_V dX23_isDone_16 rfl q1339 q1320 q1321 q133 q1322 pdX4_canForce)
theorem oX23_isDone_19 : SX23_isDone 19 (i_if1 (fun x => ¬ x = 0) 24 22) := snd_if_ne dX23_isDone_19 (by decide)
theorem oX23_isDone_22 : SX23_isDone 22 (i_const (.int (nI 0)) 23) := snd_iconst dX23_isDone_22 (by decide)
theorem oX23_isDone_23 : SX23_isDone 23 (i_zret) := snd_zret dX23_isDone_23 rfl
theorem oX23_isDone_24 : SX23_isDone 24 (i_aload 2 25) := snd_aload_n dX23_isDone_24 rfl
theorem oX23_isDone_25 : SX23_isDone 25 (i_getf 3 1 28) := snd_getf dX23_isDone_25 rfl (by decide) in_X4 (Or.inr ⟨_, q292⟩) (Or.inl rfl) (by decide)
theorem oX23_isDone_28 : SX23_isDone 28 (i_aload 0 29) := snd_aload_n dX23_isDone_28 rfl
theorem oX23_isDone_29 : SX23_isDone 29 (i_getf 19 0 32) := snd_getf dX23_isDone_29 rfl (by decide) in_X23 (Or.inl q1128) (Or.inl rfl) (by decide)
theorem oX23_isDone_32 : SX23_isDone 32 (i_aload 2 33) := snd_aload_n dX23_isDone_32 rfl
theorem oX23_isDone_33 : SX23_isDone 33 (i_getf 3 0 36) := snd_getf dX23_isDone_33 rfl (by decide) in_X4 (Or.inr ⟨_, q289⟩) (Or.inl rfl) (by decide)
theorem oX23_isDone_36 : SX23_isDone 36 (i_aload 0 37) := snd_aload_n dX23_isDone_36 rfl
theorem oX23_isDone_37 : SX23_isDone 37 (i_getf 19 0 40) := snd_getf dX23_isDone_37 rfl (by decide) in_X23 (Or.inl q1128) (Or.inl rfl) (by decide)
theorem oX23_isDone_40 : SX23_isDone 40 (i_ai 0 41) := snd_ai0 dX23_isDone_40
theorem oX23_isDone_41 : SX23_isDone 41 (i_si (fun v => v) 0 42) := snd_si0 dX23_isDone_41
theorem oX23_isDone_42 : SX23_isDone 42 (i_const (.int (nI 1)) 43) := snd_iconst dX23_isDone_42 (by decide)
theorem oX23_isDone_43 : SX23_isDone 43 (i_zret) := snd_zret dX23_isDone_43 rfl
theorem okX23_isDone : ∀ q ∈ cX23_isDone, SX23_isDone q.1 q.2 := List.forall_mem_cons.mpr ⟨oX23_isDone_0, List.forall_mem_cons.mpr ⟨oX23_isDone_1, List.forall_mem_cons.mpr ⟨oX23_isDone_2, List.forall_mem_cons.mpr ⟨oX23_isDone_5, List.forall_mem_cons.mpr ⟨oX23_isDone_8, List.forall_mem_cons.mpr ⟨oX23_isDone_11, List.forall_mem_cons.mpr ⟨oX23_isDone_12, List.forall_mem_cons.mpr ⟨oX23_isDone_13, List.forall_mem_cons.mpr ⟨oX23_isDone_16, List.forall_mem_cons.mpr ⟨oX23_isDone_19, List.forall_mem_cons.mpr ⟨oX23_isDone_22, List.forall_mem_cons.mpr ⟨oX23_isDone_23, List.forall_mem_cons.mpr ⟨oX23_isDone_24, List.forall_mem_cons.mpr ⟨oX23_isDone_25, List.forall_mem_cons.mpr ⟨oX23_isDone_28, List.forall_mem_cons.mpr ⟨oX23_isDone_29, List.forall_mem_cons.mpr ⟨oX23_isDone_32, List.forall_mem_cons.mpr ⟨oX23_isDone_33, List.forall_mem_cons.mpr ⟨oX23_isDone_36, List.forall_mem_cons.mpr ⟨oX23_isDone_37, List.forall_mem_cons.mpr ⟨oX23_isDone_40, List.forall_mem_cons.mpr ⟨oX23_isDone_41, List.forall_mem_cons.mpr ⟨oX23_isDone_42, List.forall_mem_cons.mpr ⟨oX23_isDone_43, fun _ h => absurd h List.not_mem_nil⟩⟩⟩⟩⟩⟩⟩⟩⟩⟩⟩⟩⟩⟩⟩⟩⟩⟩⟩⟩⟩⟩⟩⟩
def dkwX24_init_2 : List UInt8 := [16, 8, 188, 4, 181, 0, 31, 177]
abbrev dktX24_init_2 : List UInt8 := dkwX24_init_2 ++ []
def dkwX24_init_1 : List UInt8 := [16, 8, 188, 10, 181, 0, 22, 42, 16, 8, 188, 10, 181, 0, 25, 42, 16, 8, 188, 10, 181, 0, 28, 42]
abbrev dktX24_init_1 : List UInt8 := dkwX24_init_1 ++ dktX24_init_2
def dkwX24_init_0 : List UInt8 := [42, 183, 0, 3, 42, 187, 0, 9, 89, 183, 0, 11, 181, 0, 12, 42, 16, 8, 188, 10, 181, 0, 18, 42]
abbrev dktX24_init_0 : List UInt8 := dkwX24_init_0 ++ dktX24_init_1
theorem dksX24_init_0 : bcX24_init.data.toList.drop 0 = dktX24_init_0 := by decide +kernel
theorem dksX24_init_1 : bcX24_init.data.toList.drop 24 = dktX24_init_1 := dk_seg dksX24_init_0 24 rfl rfl
theorem dksX24_init_2 : bcX24_init.data.toList.drop 48 = dktX24_init_2 := dk_seg dksX24_init_1 24 rfl rfl
theorem dX24_init_0 : decode bcX24_init 0 = .ok (.aload_n 0, 1) := dk_42 (dk_at dksX24_init_0 0 rfl rfl)
theorem dX24_init_1 : decode bcX24_init 1 = .ok (.invokespecial 3, 3) := dk_183 0 3 (dk_at dksX24_init_0 1 rfl rfl)
theorem dX24_init_4 : decode bcX24_init 4 = .ok (.aload_n 0, 1) := dk_42 (dk_at dksX24_init_0 4 rfl rfl)
theorem dX24_init_5 : decode bcX24_init 5 = .ok (.new 9, 3) := dk_187 0 9 (dk_at dksX24_init_0 5 rfl rfl)
theorem dX24_init_8 : decode bcX24_init 8 = .ok (.dup, 1) := dk_89 (dk_at dksX24_init_0 8 rfl rfl)
theorem dX24_init_9 : decode bcX24_init 9 = .ok (.invokespecial 11, 3) := dk_183 0 11 (dk_at dksX24_init_0 9 rfl rfl)
theorem dX24_init_12 : decode bcX24_init 12 = .ok (.putfield 12, 3) := dk_181 0 12 (dk_at dksX24_init_0 12 rfl rfl)
theorem dX24_init_15 : decode bcX24_init 15 = .ok (.aload_n 0, 1) := dk_42 (dk_at dksX24_init_0 15 rfl rfl)
theorem dX24_init_16 : decode bcX24_init 16 = .ok (.bipush 8, 2) := dk_16 8 (dk_at dksX24_init_0 16 rfl rfl)
theorem dX24_init_18 : decode bcX24_init 18 = .ok (.newarray .int, 2) := dk_188_10 (dk_at dksX24_init_0 18 rfl rfl)
theorem dX24_init_20 : decode bcX24_init 20 = .ok (.putfield 18, 3) := dk_181 0 18 (dk_at dksX24_init_0 20 rfl rfl)
theorem dX24_init_23 : decode bcX24_init 23 = .ok (.aload_n 0, 1) := dk_42 (dk_at dksX24_init_0 23 rfl rfl)
theorem dX24_init_24 : decode bcX24_init 24 = .ok (.bipush 8, 2) := dk_16 8 (dk_at dksX24_init_1 0 rfl rfl)
theorem dX24_init_26 : decode bcX24_init 26 = .ok (.newarray .int, 2) := dk_188_10 (dk_at dksX24_init_1 2 rfl rfl)
theorem dX24_init_28 : decode bcX24_init 28 = .ok (.putfield 22, 3) := dk_181 0 22 (dk_at dksX24_init_1 4 rfl rfl)
theorem dX24_init_31 : decode bcX24_init 31 = .ok (.aload_n 0, 1) := dk_42 (dk_at dksX24_init_1 7 rfl rfl)
theorem dX24_init_32 : decode bcX24_init 32 = .ok (.bipush 8, 2) := dk_16 8 (dk_at dksX24_init_1 8 rfl rfl)
theorem dX24_init_34 : decode bcX24_init 34 = .ok (.newarray .int, 2) := dk_188_10 (dk_at dksX24_init_1 10 rfl rfl)
theorem dX24_init_36 : decode bcX24_init 36 = .ok (.putfield 25, 3) := dk_181 0 25 (dk_at dksX24_init_1 12 rfl rfl)
theorem dX24_init_39 : decode bcX24_init 39 = .ok (.aload_n 0, 1) := dk_42 (dk_at dksX24_init_1 15 rfl rfl)
theorem dX24_init_40 : decode bcX24_init 40 = .ok (.bipush 8, 2) := dk_16 8 (dk_at dksX24_init_1 16 rfl rfl)
theorem dX24_init_42 : decode bcX24_init 42 = .ok (.newarray .int, 2) := dk_188_10 (dk_at dksX24_init_1 18 rfl rfl)
theorem dX24_init_44 : decode bcX24_init 44 = .ok (.putfield 28, 3) := dk_181 0 28 (dk_at dksX24_init_1 20 rfl rfl)
theorem dX24_init_47 : decode bcX24_init 47 = .ok (.aload_n 0, 1) := dk_42 (dk_at dksX24_init_1 23 rfl rfl)
theorem dX24_init_48 : decode bcX24_init 48 = .ok (.bipush 8, 2) := dk_16 8 (dk_at dksX24_init_2 0 rfl rfl)
theorem dX24_init_50 : decode bcX24_init 50 = .ok (.newarray .boolean, 2) := dk_188_4 (dk_at dksX24_init_2 2 rfl rfl)
theorem dX24_init_52 : decode bcX24_init 52 = .ok (.putfield 31, 3) := dk_181 0 31 (dk_at dksX24_init_2 4 rfl rfl)
theorem dX24_init_55 : decode bcX24_init 55 = .ok (.return_, 1) := dk_177 (dk_at dksX24_init_2 7 rfl rfl)
abbrev SX24_init (pc : Nat) (i : xI) : Prop := Snd "SwollenHouse$Mark" "<init>" prog_11_method_1_code 1 (Option.none : Option Jvm.ClassFile.FieldType) [] pc i
theorem oX24_init_0 : SX24_init 0 (i_aload 0 1) := snd_aload_n dX24_init_0 rfl
theorem oX24_init_1 : SX24_init 1 (i_oi 4) := snd_oi dX24_init_1 q1559 q177 q_oicode
theorem oX24_init_4 : SX24_init 4 (i_aload 0 5) := snd_aload_n dX24_init_4 rfl
theorem oX24_init_5 : SX24_init 5 (i_new 3 5 zX4 8) := snd_new dX24_init_5 rfl in_X4 tyX4 tyX4_ok (by decide) q1560 q283 q133
theorem oX24_init_8 : SX24_init 8 (i_dup 9) := snd_dup dX24_init_8
theorem oX24_init_9 : SX24_init 9 (i_ci [3] 236 0 12) := snd_ci rfl infX4_init (by decide) (xcls_ok _ (by decide)) (xIm_N dX24_init_9 rfl q1561 q285 q133 q286 pdX4_init)
theorem oX24_init_12 : SX24_init 12 (i_putfr 20 0 15) := snd_putfr dX24_init_12 rfl (by decide) in_X24 tyX24 tyX24_ok nmX24 (Or.inr (Or.inl ⟨rfl, rfl, rfl, q1562⟩)) (Or.inl rfl) (Or.inl ⟨_, rfl⟩)
theorem oX24_init_15 : SX24_init 15 (i_aload 0 16) := snd_aload_n dX24_init_15 rfl
theorem oX24_init_16 : SX24_init 16 (i_const (.int (nI 8)) 18) := snd_bipush dX24_init_16 (by decide)
theorem oX24_init_18 : SX24_init 18 (i_newa 0 (.inl (fun _ => 0)) 20) := snd_na0 dX24_init_18
theorem oX24_init_20 : SX24_init 20 (i_putfr 20 1 23) := snd_putfr dX24_init_20 rfl (by decide) in_X24 tyX24 tyX24_ok nmX24 (Or.inr (Or.inl ⟨rfl, rfl, rfl, q1564⟩)) (Or.inl rfl) (Or.inr ⟨_, rfl⟩)
theorem oX24_init_23 : SX24_init 23 (i_aload 0 24) := snd_aload_n dX24_init_23 rfl
theorem oX24_init_24 : SX24_init 24 (i_const (.int (nI 8)) 26) := snd_bipush dX24_init_24 (by decide)
theorem oX24_init_26 : SX24_init 26 (i_newa 0 (.inl (fun _ => 0)) 28) := snd_na0 dX24_init_26
theorem oX24_init_28 : SX24_init 28 (i_putfr 20 2 31) := snd_putfr dX24_init_28 rfl (by decide) in_X24 tyX24 tyX24_ok nmX24 (Or.inr (Or.inl ⟨rfl, rfl, rfl, q1566⟩)) (Or.inl rfl) (Or.inr ⟨_, rfl⟩)
theorem oX24_init_31 : SX24_init 31 (i_aload 0 32) := snd_aload_n dX24_init_31 rfl
theorem oX24_init_32 : SX24_init 32 (i_const (.int (nI 8)) 34) := snd_bipush dX24_init_32 (by decide)
theorem oX24_init_34 : SX24_init 34 (i_newa 0 (.inl (fun _ => 0)) 36) := snd_na0 dX24_init_34
theorem oX24_init_36 : SX24_init 36 (i_putfr 20 3 39) := snd_putfr dX24_init_36 rfl (by decide) in_X24 tyX24 tyX24_ok nmX24 (Or.inr (Or.inl ⟨rfl, rfl, rfl, q1568⟩)) (Or.inl rfl) (Or.inr ⟨_, rfl⟩)
theorem oX24_init_39 : SX24_init 39 (i_aload 0 40) := snd_aload_n dX24_init_39 rfl
theorem oX24_init_40 : SX24_init 40 (i_const (.int (nI 8)) 42) := snd_bipush dX24_init_40 (by decide)
theorem oX24_init_42 : SX24_init 42 (i_newa 0 (.inl (fun _ => 0)) 44) := snd_na0 dX24_init_42
theorem oX24_init_44 : SX24_init 44 (i_putfr 20 4 47) := snd_putfr dX24_init_44 rfl (by decide) in_X24 tyX24 tyX24_ok nmX24 (Or.inr (Or.inl ⟨rfl, rfl, rfl, q1570⟩)) (Or.inl rfl) (Or.inr ⟨_, rfl⟩)
theorem oX24_init_47 : SX24_init 47 (i_aload 0 48) := snd_aload_n dX24_init_47 rfl
theorem oX24_init_48 : SX24_init 48 (i_const (.int (nI 8)) 50) := snd_bipush dX24_init_48 (by decide)
theorem oX24_init_50 : SX24_init 50 (i_newa 2 (.inl (fun _ => 0)) 52) := snd_na2 dX24_init_50
theorem oX24_init_52 : SX24_init 52 (i_putfr 20 5 55) := snd_putfr dX24_init_52 rfl (by decide) in_X24 tyX24 tyX24_ok nmX24 (Or.inr (Or.inl ⟨rfl, rfl, rfl, q1572⟩)) (Or.inl rfl) (Or.inr ⟨_, rfl⟩)
theorem oX24_init_55 : SX24_init 55 (i_vret) := snd_vret dX24_init_55 rfl
theorem okX24_init : ∀ q ∈ cX24_init, SX24_init q.1 q.2 := List.forall_mem_cons.mpr ⟨oX24_init_0, List.forall_mem_cons.mpr ⟨oX24_init_1, List.forall_mem_cons.mpr ⟨oX24_init_4, List.forall_mem_cons.mpr ⟨oX24_init_5, List.forall_mem_cons.mpr ⟨oX24_init_8, List.forall_mem_cons.mpr ⟨oX24_init_9, List.forall_mem_cons.mpr ⟨oX24_init_12, List.forall_mem_cons.mpr ⟨oX24_init_15, List.forall_mem_cons.mpr ⟨oX24_init_16, List.forall_mem_cons.mpr ⟨oX24_init_18, List.forall_mem_cons.mpr ⟨oX24_init_20, List.forall_mem_cons.mpr ⟨oX24_init_23, List.forall_mem_cons.mpr ⟨oX24_init_24, List.forall_mem_cons.mpr ⟨oX24_init_26, List.forall_mem_cons.mpr ⟨oX24_init_28, List.forall_mem_cons.mpr ⟨oX24_init_31, List.forall_mem_cons.mpr ⟨oX24_init_32, List.forall_mem_cons.mpr ⟨oX24_init_34, List.forall_mem_cons.mpr ⟨oX24_init_36, List.forall_mem_cons.mpr ⟨oX24_init_39, List.forall_mem_cons.mpr ⟨oX24_init_40, List.forall_mem_cons.mpr ⟨oX24_init_42, List.forall_mem_cons.mpr ⟨oX24_init_44, List.forall_mem_cons.mpr ⟨oX24_init_47, List.forall_mem_cons.mpr ⟨oX24_init_48, List.forall_mem_cons.mpr ⟨oX24_init_50, List.forall_mem_cons.mpr ⟨oX24_init_52, List.forall_mem_cons.mpr ⟨oX24_init_55, fun _ h => absurd h List.not_mem_nil⟩⟩⟩⟩⟩⟩⟩⟩⟩⟩⟩⟩⟩⟩⟩⟩⟩⟩⟩⟩⟩⟩⟩⟩⟩⟩⟩⟩
def dkwX3_init_2 : List UInt8 := [181, 0, 26, 42, 16, 12, 188, 10, 181, 0, 30, 177]
abbrev dktX3_init_2 : List UInt8 := dkwX3_init_2 ++ []
def dkwX3_init_1 : List UInt8 := [183, 0, 11, 181, 0, 20, 42, 187, 0, 9, 89, 5, 183, 0, 11, 181, 0, 23, 42, 8, 188, 10]
abbrev dktX3_init_1 : List UInt8 := dkwX3_init_1 ++ dktX3_init_2
def dkwX3_init_0 : List UInt8 := [42, 183, 0, 3, 42, 187, 0, 9, 89, 5, 183, 0, 11, 181, 0, 14, 42, 187, 0, 9, 89, 5]
abbrev dktX3_init_0 : List UInt8 := dkwX3_init_0 ++ dktX3_init_1
theorem dksX3_init_0 : bcX3_init.data.toList.drop 0 = dktX3_init_0 := by decide +kernel
theorem dksX3_init_1 : bcX3_init.data.toList.drop 22 = dktX3_init_1 := dk_seg dksX3_init_0 22 rfl rfl
theorem dksX3_init_2 : bcX3_init.data.toList.drop 44 = dktX3_init_2 := dk_seg dksX3_init_1 22 rfl rfl
theorem dX3_init_0 : decode bcX3_init 0 = .ok (.aload_n 0, 1) := dk_42 (dk_at dksX3_init_0 0 rfl rfl)
theorem dX3_init_1 : decode bcX3_init 1 = .ok (.invokespecial 3, 3) := dk_183 0 3 (dk_at dksX3_init_0 1 rfl rfl)
theorem dX3_init_4 : decode bcX3_init 4 = .ok (.aload_n 0, 1) := dk_42 (dk_at dksX3_init_0 4 rfl rfl)
theorem dX3_init_5 : decode bcX3_init 5 = .ok (.new 9, 3) := dk_187 0 9 (dk_at dksX3_init_0 5 rfl rfl)
theorem dX3_init_8 : decode bcX3_init 8 = .ok (.dup, 1) := dk_89 (dk_at dksX3_init_0 8 rfl rfl)
theorem dX3_init_9 : decode bcX3_init 9 = .ok (.iconst 2, 1) := dk_5 (dk_at dksX3_init_0 9 rfl rfl)
theorem dX3_init_10 : decode bcX3_init 10 = .ok (.invokespecial 11, 3) := dk_183 0 11 (dk_at dksX3_init_0 10 rfl rfl)
theorem dX3_init_13 : decode bcX3_init 13 = .ok (.putfield 14, 3) := dk_181 0 14 (dk_at dksX3_init_0 13 rfl rfl)
theorem dX3_init_16 : decode bcX3_init 16 = .ok (.aload_n 0, 1) := dk_42 (dk_at dksX3_init_0 16 rfl rfl)
theorem dX3_init_17 : decode bcX3_init 17 = .ok (.new 9, 3) := dk_187 0 9 (dk_at dksX3_init_0 17 rfl rfl)
theorem dX3_init_20 : decode bcX3_init 20 = .ok (.dup, 1) := dk_89 (dk_at dksX3_init_0 20 rfl rfl)
theorem dX3_init_21 : decode bcX3_init 21 = .ok (.iconst 2, 1) := dk_5 (dk_at dksX3_init_0 21 rfl rfl)
theorem dX3_init_22 : decode bcX3_init 22 = .ok (.invokespecial 11, 3) := dk_183 0 11 (dk_at dksX3_init_1 0 rfl rfl)
theorem dX3_init_25 : decode bcX3_init 25 = .ok (.putfield 20, 3) := dk_181 0 20 (dk_at dksX3_init_1 3 rfl rfl)
theorem dX3_init_28 : decode bcX3_init 28 = .ok (.aload_n 0, 1) := dk_42 (dk_at dksX3_init_1 6 rfl rfl)
theorem dX3_init_29 : decode bcX3_init 29 = .ok (.new 9, 3) := dk_187 0 9 (dk_at dksX3_init_1 7 rfl rfl)
theorem dX3_init_32 : decode bcX3_init 32 = .ok (.dup, 1) := dk_89 (dk_at dksX3_init_1 10 rfl rfl)
theorem dX3_init_33 : decode bcX3_init 33 = .ok (.iconst 2, 1) := dk_5 (dk_at dksX3_init_1 11 rfl rfl)
theorem dX3_init_34 : decode bcX3_init 34 = .ok (.invokespecial 11, 3) := dk_183 0 11 (dk_at dksX3_init_1 12 rfl rfl)
theorem dX3_init_37 : decode bcX3_init 37 = .ok (.putfield 23, 3) := dk_181 0 23 (dk_at dksX3_init_1 15 rfl rfl)
theorem dX3_init_40 : decode bcX3_init 40 = .ok (.aload_n 0, 1) := dk_42 (dk_at dksX3_init_1 18 rfl rfl)
theorem dX3_init_41 : decode bcX3_init 41 = .ok (.iconst 5, 1) := dk_8 (dk_at dksX3_init_1 19 rfl rfl)
theorem dX3_init_42 : decode bcX3_init 42 = .ok (.newarray .int, 2) := dk_188_10 (dk_at dksX3_init_1 20 rfl rfl)
theorem dX3_init_44 : decode bcX3_init 44 = .ok (.putfield 26, 3) := dk_181 0 26 (dk_at dksX3_init_2 0 rfl rfl)
theorem dX3_init_47 : decode bcX3_init 47 = .ok (.aload_n 0, 1) := dk_42 (dk_at dksX3_init_2 3 rfl rfl)
theorem dX3_init_48 : decode bcX3_init 48 = .ok (.bipush 12, 2) := dk_16 12 (dk_at dksX3_init_2 4 rfl rfl)
theorem dX3_init_50 : decode bcX3_init 50 = .ok (.newarray .int, 2) := dk_188_10 (dk_at dksX3_init_2 6 rfl rfl)
theorem dX3_init_52 : decode bcX3_init 52 = .ok (.putfield 30, 3) := dk_181 0 30 (dk_at dksX3_init_2 8 rfl rfl)
theorem dX3_init_55 : decode bcX3_init 55 = .ok (.return_, 1) := dk_177 (dk_at dksX3_init_2 11 rfl rfl)
abbrev SX3_init (pc : Nat) (i : xI) : Prop := Snd "SwollenHouse$House" "<init>" prog_8_method_1_code 1 (Option.none : Option Jvm.ClassFile.FieldType) [] pc i
theorem oX3_init_0 : SX3_init 0 (i_aload 0 1) := snd_aload_n dX3_init_0 rfl
theorem oX3_init_1 : SX3_init 1 (i_oi 4) := snd_oi dX3_init_1 q216 q177 q_oicode
theorem oX3_init_4 : SX3_init 4 (i_aload 0 5) := snd_aload_n dX3_init_4 rfl
theorem oX3_init_5 : SX3_init 5 (i_new 21 3 zJ2 8) := snd_new dX3_init_5 rfl in_J2 tyJ2 tyJ2_ok (by decide) q217 q218 q132
theorem oX3_init_8 : SX3_init 8 (i_dup 9) := snd_dup dX3_init_8
theorem oX3_init_9 : SX3_init 9 (i_const (.int (nI 2)) 10) := snd_iconst dX3_init_9 (by decide)
theorem oX3_init_10 : SX3_init 10 (i_ci [21] 31 1 13) := snd_ci rfl infJ2_init (by decide) (xcls_ok _ (by decide)) (xIm_I dX3_init_10 rfl q219 q220 q132 q221 pdJ2_init)
theorem oX3_init_13 : SX3_init 13 (i_putfr 2 0 16) := snd_putfr dX3_init_13 rfl (by decide) in_X3 tyX3 tyX3_ok nmX3 (Or.inr (Or.inl ⟨rfl, rfl, rfl, q245⟩)) (Or.inl rfl) (Or.inl ⟨_, rfl⟩)
theorem oX3_init_16 : SX3_init 16 (i_aload 0 17) := snd_aload_n dX3_init_16 rfl
theorem oX3_init_17 : SX3_init 17 (i_new 21 3 zJ2 20) := snd_new dX3_init_17 rfl in_J2 tyJ2 tyJ2_ok (by decide) q217 q218 q132
theorem oX3_init_20 : SX3_init 20 (i_dup 21) := snd_dup dX3_init_20
theorem oX3_init_21 : SX3_init 21 (i_const (.int (nI 2)) 22) := snd_iconst dX3_init_21 (by decide)
theorem oX3_init_22 : SX3_init 22 (i_ci [21] 31 1 25) := snd_ci rfl infJ2_init (by decide) (xcls_ok _ (by decide)) (xIm_I dX3_init_22 rfl q219 q220 q132 q221 pdJ2_init)
theorem oX3_init_25 : SX3_init 25 (i_putfr 2 1 28) := snd_putfr dX3_init_25 rfl (by decide) in_X3 tyX3 tyX3_ok nmX3 (Or.inr (Or.inl ⟨rfl, rfl, rfl, q248⟩)) (Or.inl rfl) (Or.inl ⟨_, rfl⟩)
theorem oX3_init_28 : SX3_init 28 (i_aload 0 29) := snd_aload_n dX3_init_28 rfl
theorem oX3_init_29 : SX3_init 29 (i_new 21 3 zJ2 32) := snd_new dX3_init_29 rfl in_J2 tyJ2 tyJ2_ok (by decide) q217 q218 q132
theorem oX3_init_32 : SX3_init 32 (i_dup 33) := snd_dup dX3_init_32
theorem oX3_init_33 : SX3_init 33 (i_const (.int (nI 2)) 34) := snd_iconst dX3_init_33 (by decide)
theorem oX3_init_34 : SX3_init 34 (i_ci [21] 31 1 37) := snd_ci rfl infJ2_init (by decide) (xcls_ok _ (by decide)) (xIm_I dX3_init_34 rfl q219 q220 q132 q221 pdJ2_init)
theorem oX3_init_37 : SX3_init 37 (i_putfr 2 2 40) := snd_putfr dX3_init_37 rfl (by decide) in_X3 tyX3 tyX3_ok nmX3 (Or.inr (Or.inl ⟨rfl, rfl, rfl, q251⟩)) (Or.inl rfl) (Or.inl ⟨_, rfl⟩)
theorem oX3_init_40 : SX3_init 40 (i_aload 0 41) := snd_aload_n dX3_init_40 rfl
theorem oX3_init_41 : SX3_init 41 (i_const (.int (nI 5)) 42) := snd_iconst dX3_init_41 (by decide)
theorem oX3_init_42 : SX3_init 42 (i_newa 0 (.inl (fun _ => 0)) 44) := snd_na0 dX3_init_42
theorem oX3_init_44 : SX3_init 44 (i_putfr 2 3 47) := snd_putfr dX3_init_44 rfl (by decide) in_X3 tyX3 tyX3_ok nmX3 (Or.inr (Or.inl ⟨rfl, rfl, rfl, q255⟩)) (Or.inl rfl) (Or.inr ⟨_, rfl⟩)
theorem oX3_init_47 : SX3_init 47 (i_aload 0 48) := snd_aload_n dX3_init_47 rfl
theorem oX3_init_48 : SX3_init 48 (i_const (.int (nI 12)) 50) := snd_bipush dX3_init_48 (by decide)
theorem oX3_init_50 : SX3_init 50 (i_newa 0 (.inl (fun _ => 0)) 52) := snd_na0 dX3_init_50
theorem oX3_init_52 : SX3_init 52 (i_putfr 2 4 55) := snd_putfr dX3_init_52 rfl (by decide) in_X3 tyX3 tyX3_ok nmX3 (Or.inr (Or.inl ⟨rfl, rfl, rfl, q258⟩)) (Or.inl rfl) (Or.inr ⟨_, rfl⟩)
theorem oX3_init_55 : SX3_init 55 (i_vret) := snd_vret dX3_init_55 rfl
theorem okX3_init : ∀ q ∈ cX3_init, SX3_init q.1 q.2 := List.forall_mem_cons.mpr ⟨oX3_init_0, List.forall_mem_cons.mpr ⟨oX3_init_1, List.forall_mem_cons.mpr ⟨oX3_init_4, List.forall_mem_cons.mpr ⟨oX3_init_5, List.forall_mem_cons.mpr ⟨oX3_init_8, List.forall_mem_cons.mpr ⟨oX3_init_9, List.forall_mem_cons.mpr ⟨oX3_init_10, List.forall_mem_cons.mpr ⟨oX3_init_13, List.forall_mem_cons.mpr ⟨oX3_init_16, List.forall_mem_cons.mpr ⟨oX3_init_17, List.forall_mem_cons.mpr ⟨oX3_init_20, List.forall_mem_cons.mpr ⟨oX3_init_21, List.forall_mem_cons.mpr ⟨oX3_init_22, List.forall_mem_cons.mpr ⟨oX3_init_25, List.forall_mem_cons.mpr ⟨oX3_init_28, List.forall_mem_cons.mpr ⟨oX3_init_29, List.forall_mem_cons.mpr ⟨oX3_init_32, List.forall_mem_cons.mpr ⟨oX3_init_33, List.forall_mem_cons.mpr ⟨oX3_init_34, List.forall_mem_cons.mpr ⟨oX3_init_37, List.forall_mem_cons.mpr ⟨oX3_init_40, List.forall_mem_cons.mpr ⟨oX3_init_41, List.forall_mem_cons.mpr ⟨oX3_init_42, List.forall_mem_cons.mpr ⟨oX3_init_44, List.forall_mem_cons.mpr ⟨oX3_init_47, List.forall_mem_cons.mpr ⟨oX3_init_48, List.forall_mem_cons.mpr ⟨oX3_init_50, List.forall_mem_cons.mpr ⟨oX3_init_52, List.forall_mem_cons.mpr ⟨oX3_init_55, fun _ h => absurd h List.not_mem_nil⟩⟩⟩⟩⟩⟩⟩⟩⟩⟩⟩⟩⟩⟩⟩⟩⟩⟩⟩⟩⟩⟩⟩⟩⟩⟩⟩⟩⟩
def dkwX3_place_1 : List UInt8 := [153, 0, 5, 28, 172, 132, 2, 1, 167, 255, 228, 2, 172]
abbrev dktX3_place_1 : List UInt8 := dkwX3_place_1 ++ []
def dkwX3_place_0 : List UInt8 := [3, 61, 28, 42, 182, 0, 33, 162, 0, 26, 42, 28, 182, 0, 37, 192, 0, 41, 43, 182, 0, 43]
abbrev dktX3_place_0 : List UInt8 := dkwX3_place_0 ++ dktX3_place_1
theorem dksX3_place_0 : bcX3_place.data.toList.drop 0 = dktX3_place_0 := by decide +kernel
theorem dksX3_place_1 : bcX3_place.data.toList.drop 22 = dktX3_place_1 := dk_seg dksX3_place_0 22 rfl rfl
theorem dX3_place_0 : decode bcX3_place 0 = .ok (.iconst 0, 1) := dk_3 (dk_at dksX3_place_0 0 rfl rfl)
theorem dX3_place_1 : decode bcX3_place 1 = .ok (.istore_n 2, 1) := dk_61 (dk_at dksX3_place_0 1 rfl rfl)
theorem dX3_place_2 : decode bcX3_place 2 = .ok (.iload_n 2, 1) := dk_28 (dk_at dksX3_place_0 2 rfl rfl)
theorem dX3_place_3 : decode bcX3_place 3 = .ok (.aload_n 0, 1) := dk_42 (dk_at dksX3_place_0 3 rfl rfl)
theorem dX3_place_4 : decode bcX3_place 4 = .ok (.invokevirtual 33, 3) := dk_182 0 33 (dk_at dksX3_place_0 4 rfl rfl)
theorem dX3_place_7 : decode bcX3_place 7 = .ok (.if_icmp .ge 26, 3) := dk_162 0 26 (dk_at dksX3_place_0 7 rfl rfl)
theorem dX3_place_10 : decode bcX3_place 10 = .ok (.aload_n 0, 1) := dk_42 (dk_at dksX3_place_0 10 rfl rfl)
theorem dX3_place_11 : decode bcX3_place 11 = .ok (.iload_n 2, 1) := dk_28 (dk_at dksX3_place_0 11 rfl rfl)
theorem dX3_place_12 : decode bcX3_place 12 = .ok (.invokevirtual 37, 3) := dk_182 0 37 (dk_at dksX3_place_0 12 rfl rfl)
theorem dX3_place_15 : decode bcX3_place 15 = .ok (.checkcast 41, 3) := dk_192 0 41 (dk_at dksX3_place_0 15 rfl rfl)
theorem dX3_place_18 : decode bcX3_place 18 = .ok (.aload_n 1, 1) := dk_43 (dk_at dksX3_place_0 18 rfl rfl)
theorem dX3_place_19 : decode bcX3_place 19 = .ok (.invokevirtual 43, 3) := dk_182 0 43 (dk_at dksX3_place_0 19 rfl rfl)
theorem dX3_place_22 : decode bcX3_place 22 = .ok (.ifCond .eq 5, 3) := dk_153 0 5 (dk_at dksX3_place_1 0 rfl rfl)
theorem dX3_place_25 : decode bcX3_place 25 = .ok (.iload_n 2, 1) := dk_28 (dk_at dksX3_place_1 3 rfl rfl)
theorem dX3_place_26 : decode bcX3_place 26 = .ok (.ireturn, 1) := dk_172 (dk_at dksX3_place_1 4 rfl rfl)
theorem dX3_place_27 : decode bcX3_place 27 = .ok (.iinc 2 1, 3) := dk_132 2 1 (dk_at dksX3_place_1 5 rfl rfl)
theorem dX3_place_30 : decode bcX3_place 30 = .ok (.goto (-28), 3) := dk_167 255 228 (dk_at dksX3_place_1 8 rfl rfl)
theorem dX3_place_33 : decode bcX3_place 33 = .ok (.iconst (-1), 1) := dk_2 (dk_at dksX3_place_1 11 rfl rfl)
theorem dX3_place_34 : decode bcX3_place 34 = .ok (.ireturn, 1) := dk_172 (dk_at dksX3_place_1 12 rfl rfl)
abbrev SX3_place (pc : Nat) (i : xI) : Prop := Snd "SwollenHouse$House" "place" prog_8_method_2_code 3 (Option.some Jvm.ClassFile.FieldType.int) [] pc i
theorem oX3_place_0 : SX3_place 0 (i_const (.int (nI 0)) 1) := snd_iconst dX3_place_0 (by decide)
theorem oX3_place_1 : SX3_place 1 (i_istore 2 2) := snd_istore_n dX3_place_1 rfl (by decide)
theorem oX3_place_2 : SX3_place 2 (i_iload 2 3) := snd_iload_n dX3_place_2 rfl
theorem oX3_place_3 : SX3_place 3 (i_aload 0 4) := snd_aload_n dX3_place_3 rfl
theorem oX3_place_4 : SX3_place 4 (i_cv 21 32 0 7) := snd_cv rfl infJ2_size (by decide) rfl (xVm_V dX3_place_4 rfl q815 q324 q325 q132 q326 pdJ2_size)
theorem oX3_place_7 : SX3_place 7 (i_if2 (fun x y => y ≤ x) 33 10) := snd_icmp_ge dX3_place_7 (by decide)
theorem oX3_place_10 : SX3_place 10 (i_aload 0 11) := snd_aload_n dX3_place_10 rfl
theorem oX3_place_11 : SX3_place 11 (i_iload 2 12) := snd_iload_n dX3_place_11 rfl
theorem oX3_place_12 : SX3_place 12 (i_cv 21 33 1 15) := snd_cv rfl infJ2_get (by decide) rfl (xVm_V dX3_place_12 rfl q816 q328 q329 q132 q330 pdJ2_get)
theorem oX3_place_15 : SX3_place 15 (i_cast [22] 18) := snd_cast dX3_place_15 q817 okct_J5
theorem oX3_place_18 : SX3_place 18 (i_aload 1 19) := snd_aload_n dX3_place_18 rfl
theorem oX3_place_19 : SX3_place 19 (i_cv 22 54 1 22) := snd_cv rfl infJ5_equals (by decide) rfl (xVm_V dX3_place_19 rfl q818 q819 q820 q137 q821 pdJ5_equals)
theorem oX3_place_22 : SX3_place 22 (i_if1 (fun x => x = 0) 27 25) := snd_if_eq dX3_place_22 (by decide)
theorem oX3_place_25 : SX3_place 25 (i_iload 2 26) := snd_iload_n dX3_place_25 rfl
theorem oX3_place_26 : SX3_place 26 (i_iret) := snd_iret dX3_place_26 rfl
theorem oX3_place_27 : SX3_place 27 (i_iinc 2 (nI 1) 30) := snd_iinc dX3_place_27 (by decide) (by decide)
theorem oX3_place_30 : SX3_place 30 (i_goto 2) := snd_goto dX3_place_30 (by decide)
theorem oX3_place_33 : SX3_place 33 (i_const (.int (-1)) 34) := snd_iconst dX3_place_33 (by decide)
theorem oX3_place_34 : SX3_place 34 (i_iret) := snd_iret dX3_place_34 rfl
theorem okX3_place : ∀ q ∈ cX3_place, SX3_place q.1 q.2 := List.forall_mem_cons.mpr ⟨oX3_place_0, List.forall_mem_cons.mpr ⟨oX3_place_1, List.forall_mem_cons.mpr ⟨oX3_place_2, List.forall_mem_cons.mpr ⟨oX3_place_3, List.forall_mem_cons.mpr ⟨oX3_place_4, List.forall_mem_cons.mpr ⟨oX3_place_7, List.forall_mem_cons.mpr ⟨oX3_place_10, List.forall_mem_cons.mpr ⟨oX3_place_11, List.forall_mem_cons.mpr ⟨oX3_place_12, List.forall_mem_cons.mpr ⟨oX3_place_15, List.forall_mem_cons.mpr ⟨oX3_place_18, List.forall_mem_cons.mpr ⟨oX3_place_19, List.forall_mem_cons.mpr ⟨oX3_place_22, List.forall_mem_cons.mpr ⟨oX3_place_25, List.forall_mem_cons.mpr ⟨oX3_place_26, List.forall_mem_cons.mpr ⟨oX3_place_27, List.forall_mem_cons.mpr ⟨oX3_place_30, List.forall_mem_cons.mpr ⟨oX3_place_33, List.forall_mem_cons.mpr ⟨oX3_place_34, fun _ h => absurd h List.not_mem_nil⟩⟩⟩⟩⟩⟩⟩⟩⟩⟩⟩⟩⟩⟩⟩⟩⟩⟩⟩
def dkwX3_areJoined_2 : List UInt8 := [153, 0, 5, 4, 172, 132, 3, 1, 167, 255, 204, 3, 172]
abbrev dktX3_areJoined_2 : List UInt8 := dkwX3_areJoined_2 ++ []
def dkwX3_areJoined_1 : List UInt8 := [27, 182, 0, 49, 153, 0, 23, 42, 180, 0, 23, 29, 182, 0, 37, 192, 0, 47, 28, 182, 0, 49]
abbrev dktX3_areJoined_1 : List UInt8 := dkwX3_areJoined_1 ++ dktX3_areJoined_2
def dkwX3_areJoined_0 : List UInt8 := [3, 62, 29, 42, 180, 0, 23, 182, 0, 33, 162, 0, 47, 42, 180, 0, 23, 29, 182, 0, 37, 192, 0, 47]
abbrev dktX3_areJoined_0 : List UInt8 := dkwX3_areJoined_0 ++ dktX3_areJoined_1
theorem dksX3_areJoined_0 : bcX3_areJoined.data.toList.drop 0 = dktX3_areJoined_0 := by decide +kernel
theorem dksX3_areJoined_1 : bcX3_areJoined.data.toList.drop 24 = dktX3_areJoined_1 := dk_seg dksX3_areJoined_0 24 rfl rfl
theorem dksX3_areJoined_2 : bcX3_areJoined.data.toList.drop 46 = dktX3_areJoined_2 := dk_seg dksX3_areJoined_1 22 rfl rfl
theorem dX3_areJoined_0 : decode bcX3_areJoined 0 = .ok (.iconst 0, 1) := dk_3 (dk_at dksX3_areJoined_0 0 rfl rfl)
theorem dX3_areJoined_1 : decode bcX3_areJoined 1 = .ok (.istore_n 3, 1) := dk_62 (dk_at dksX3_areJoined_0 1 rfl rfl)
theorem dX3_areJoined_2 : decode bcX3_areJoined 2 = .ok (.iload_n 3, 1) := dk_29 (dk_at dksX3_areJoined_0 2 rfl rfl)
theorem dX3_areJoined_3 : decode bcX3_areJoined 3 = .ok (.aload_n 0, 1) := dk_42 (dk_at dksX3_areJoined_0 3 rfl rfl)
theorem dX3_areJoined_4 : decode bcX3_areJoined 4 = .ok (.getfield 23, 3) := dk_180 0 23 (dk_at dksX3_areJoined_0 4 rfl rfl)
theorem dX3_areJoined_7 : decode bcX3_areJoined 7 = .ok (.invokevirtual 33, 3) := dk_182 0 33 (dk_at dksX3_areJoined_0 7 rfl rfl)
theorem dX3_areJoined_10 : decode bcX3_areJoined 10 = .ok (.if_icmp .ge 47, 3) := dk_162 0 47 (dk_at dksX3_areJoined_0 10 rfl rfl)
theorem dX3_areJoined_13 : decode bcX3_areJoined 13 = .ok (.aload_n 0, 1) := dk_42 (dk_at dksX3_areJoined_0 13 rfl rfl)
theorem dX3_areJoined_14 : decode bcX3_areJoined 14 = .ok (.getfield 23, 3) := dk_180 0 23 (dk_at dksX3_areJoined_0 14 rfl rfl)
theorem dX3_areJoined_17 : decode bcX3_areJoined 17 = .ok (.iload_n 3, 1) := dk_29 (dk_at dksX3_areJoined_0 17 rfl rfl)
theorem dX3_areJoined_18 : decode bcX3_areJoined 18 = .ok (.invokevirtual 37, 3) := dk_182 0 37 (dk_at dksX3_areJoined_0 18 rfl rfl)
theorem dX3_areJoined_21 : decode bcX3_areJoined 21 = .ok (.checkcast 47, 3) := dk_192 0 47 (dk_at dksX3_areJoined_0 21 rfl rfl)
theorem dX3_areJoined_24 : decode bcX3_areJoined 24 = .ok (.iload_n 1, 1) := dk_27 (dk_at dksX3_areJoined_1 0 rfl rfl)
theorem dX3_areJoined_25 : decode bcX3_areJoined 25 = .ok (.invokevirtual 49, 3) := dk_182 0 49 (dk_at dksX3_areJoined_1 1 rfl rfl)
theorem dX3_areJoined_28 : decode bcX3_areJoined 28 = .ok (.ifCond .eq 23, 3) := dk_153 0 23 (dk_at dksX3_areJoined_1 4 rfl rfl)
theorem dX3_areJoined_31 : decode bcX3_areJoined 31 = .ok (.aload_n 0, 1) := dk_42 (dk_at dksX3_areJoined_1 7 rfl rfl)
theorem dX3_areJoined_32 : decode bcX3_areJoined 32 = .ok (.getfield 23, 3) := dk_180 0 23 (dk_at dksX3_areJoined_1 8 rfl rfl)
theorem dX3_areJoined_35 : decode bcX3_areJoined 35 = .ok (.iload_n 3, 1) := dk_29 (dk_at dksX3_areJoined_1 11 rfl rfl)
theorem dX3_areJoined_36 : decode bcX3_areJoined 36 = .ok (.invokevirtual 37, 3) := dk_182 0 37 (dk_at dksX3_areJoined_1 12 rfl rfl)
theorem dX3_areJoined_39 : decode bcX3_areJoined 39 = .ok (.checkcast 47, 3) := dk_192 0 47 (dk_at dksX3_areJoined_1 15 rfl rfl)
theorem dX3_areJoined_42 : decode bcX3_areJoined 42 = .ok (.iload_n 2, 1) := dk_28 (dk_at dksX3_areJoined_1 18 rfl rfl)
theorem dX3_areJoined_43 : decode bcX3_areJoined 43 = .ok (.invokevirtual 49, 3) := dk_182 0 49 (dk_at dksX3_areJoined_1 19 rfl rfl)
theorem dX3_areJoined_46 : decode bcX3_areJoined 46 = .ok (.ifCond .eq 5, 3) := dk_153 0 5 (dk_at dksX3_areJoined_2 0 rfl rfl)
theorem dX3_areJoined_49 : decode bcX3_areJoined 49 = .ok (.iconst 1, 1) := dk_4 (dk_at dksX3_areJoined_2 3 rfl rfl)
theorem dX3_areJoined_50 : decode bcX3_areJoined 50 = .ok (.ireturn, 1) := dk_172 (dk_at dksX3_areJoined_2 4 rfl rfl)
theorem dX3_areJoined_51 : decode bcX3_areJoined 51 = .ok (.iinc 3 1, 3) := dk_132 3 1 (dk_at dksX3_areJoined_2 5 rfl rfl)
theorem dX3_areJoined_54 : decode bcX3_areJoined 54 = .ok (.goto (-52), 3) := dk_167 255 204 (dk_at dksX3_areJoined_2 8 rfl rfl)
theorem dX3_areJoined_57 : decode bcX3_areJoined 57 = .ok (.iconst 0, 1) := dk_3 (dk_at dksX3_areJoined_2 11 rfl rfl)
theorem dX3_areJoined_58 : decode bcX3_areJoined 58 = .ok (.ireturn, 1) := dk_172 (dk_at dksX3_areJoined_2 12 rfl rfl)
abbrev SX3_areJoined (pc : Nat) (i : xI) : Prop := Snd "SwollenHouse$House" "areJoined" prog_8_method_3_code 4 (Option.some Jvm.ClassFile.FieldType.boolean) [] pc i
theorem oX3_areJoined_0 : SX3_areJoined 0 (i_const (.int (nI 0)) 1) := snd_iconst dX3_areJoined_0 (by decide)
theorem oX3_areJoined_1 : SX3_areJoined 1 (i_istore 3 2) := snd_istore_n dX3_areJoined_1 rfl (by decide)
theorem oX3_areJoined_2 : SX3_areJoined 2 (i_iload 3 3) := snd_iload_n dX3_areJoined_2 rfl
theorem oX3_areJoined_3 : SX3_areJoined 3 (i_aload 0 4) := snd_aload_n dX3_areJoined_3 rfl
theorem oX3_areJoined_4 : SX3_areJoined 4 (i_getf 2 2 7) := snd_getf dX3_areJoined_4 rfl (by decide) in_X3 (Or.inl q251) (Or.inl rfl) (by decide)
theorem oX3_areJoined_7 : SX3_areJoined 7 (i_cv 21 32 0 10) := snd_cv rfl infJ2_size (by decide) rfl (xVm_V dX3_areJoined_7 rfl q815 q324 q325 q132 q326 pdJ2_size)
theorem oX3_areJoined_10 : SX3_areJoined 10 (i_if2 (fun x y => y ≤ x) 57 13) := snd_icmp_ge dX3_areJoined_10 (by decide)
theorem oX3_areJoined_13 : SX3_areJoined 13 (i_aload 0 14) := snd_aload_n dX3_areJoined_13 rfl
theorem oX3_areJoined_14 : SX3_areJoined 14 (i_getf 2 2 17) := snd_getf dX3_areJoined_14 rfl (by decide) in_X3 (Or.inl q251) (Or.inl rfl) (by decide)
theorem oX3_areJoined_17 : SX3_areJoined 17 (i_iload 3 18) := snd_iload_n dX3_areJoined_17 rfl
theorem oX3_areJoined_18 : SX3_areJoined 18 (i_cv 21 33 1 21) := snd_cv rfl infJ2_get (by decide) rfl (xVm_V dX3_areJoined_18 rfl q816 q328 q329 q132 q330 pdJ2_get)
theorem oX3_areJoined_21 : SX3_areJoined 21 (i_cast [6] 24) := snd_cast dX3_areJoined_21 q899 okct_X7
theorem oX3_areJoined_24 : SX3_areJoined 24 (i_iload 1 25) := snd_iload_n dX3_areJoined_24 rfl
theorem oX3_areJoined_25 : SX3_areJoined 25 (i_cv 6 367 1 28) := snd_cv rfl infX7_isOf (by decide) rfl (xVm_V dX3_areJoined_25 rfl q900 q901 q902 q151 q903 pdX7_isOf)
theorem oX3_areJoined_28 : SX3_areJoined 28 (i_if1 (fun x => x = 0) 51 31) := snd_if_eq dX3_areJoined_28 (by decide)
theorem oX3_areJoined_31 : SX3_areJoined 31 (i_aload 0 32) := snd_aload_n dX3_areJoined_31 rfl
theorem oX3_areJoined_32 : SX3_areJoined 32 (i_getf 2 2 35) := snd_getf dX3_areJoined_32 rfl (by decide) in_X3 (Or.inl q251) (Or.inl rfl) (by decide)
theorem oX3_areJoined_35 : SX3_areJoined 35 (i_iload 3 36) := snd_iload_n dX3_areJoined_35 rfl
theorem oX3_areJoined_36 : SX3_areJoined 36 (i_cv 21 33 1 39) := snd_cv rfl infJ2_get (by decide) rfl (xVm_V dX3_areJoined_36 rfl q816 q328 q329 q132 q330 pdJ2_get)
theorem oX3_areJoined_39 : SX3_areJoined 39 (i_cast [6] 42) := snd_cast dX3_areJoined_39 q899 okct_X7
theorem oX3_areJoined_42 : SX3_areJoined 42 (i_iload 2 43) := snd_iload_n dX3_areJoined_42 rfl
theorem oX3_areJoined_43 : SX3_areJoined 43 (i_cv 6 367 1 46) := snd_cv rfl infX7_isOf (by decide) rfl (xVm_V dX3_areJoined_43 rfl q900 q901 q902 q151 q903 pdX7_isOf)
theorem oX3_areJoined_46 : SX3_areJoined 46 (i_if1 (fun x => x = 0) 51 49) := snd_if_eq dX3_areJoined_46 (by decide)
theorem oX3_areJoined_49 : SX3_areJoined 49 (i_const (.int (nI 1)) 50) := snd_iconst dX3_areJoined_49 (by decide)
theorem oX3_areJoined_50 : SX3_areJoined 50 (i_zret) := snd_zret dX3_areJoined_50 rfl
theorem oX3_areJoined_51 : SX3_areJoined 51 (i_iinc 3 (nI 1) 54) := snd_iinc dX3_areJoined_51 (by decide) (by decide)
theorem oX3_areJoined_54 : SX3_areJoined 54 (i_goto 2) := snd_goto dX3_areJoined_54 (by decide)
theorem oX3_areJoined_57 : SX3_areJoined 57 (i_const (.int (nI 0)) 58) := snd_iconst dX3_areJoined_57 (by decide)
theorem oX3_areJoined_58 : SX3_areJoined 58 (i_zret) := snd_zret dX3_areJoined_58 rfl
theorem okX3_areJoined : ∀ q ∈ cX3_areJoined, SX3_areJoined q.1 q.2 := List.forall_mem_cons.mpr ⟨oX3_areJoined_0, List.forall_mem_cons.mpr ⟨oX3_areJoined_1, List.forall_mem_cons.mpr ⟨oX3_areJoined_2, List.forall_mem_cons.mpr ⟨oX3_areJoined_3, List.forall_mem_cons.mpr ⟨oX3_areJoined_4, List.forall_mem_cons.mpr ⟨oX3_areJoined_7, List.forall_mem_cons.mpr ⟨oX3_areJoined_10, List.forall_mem_cons.mpr ⟨oX3_areJoined_13, List.forall_mem_cons.mpr ⟨oX3_areJoined_14, List.forall_mem_cons.mpr ⟨oX3_areJoined_17, List.forall_mem_cons.mpr ⟨oX3_areJoined_18, List.forall_mem_cons.mpr ⟨oX3_areJoined_21, List.forall_mem_cons.mpr ⟨oX3_areJoined_24, List.forall_mem_cons.mpr ⟨oX3_areJoined_25, List.forall_mem_cons.mpr ⟨oX3_areJoined_28, List.forall_mem_cons.mpr ⟨oX3_areJoined_31, List.forall_mem_cons.mpr ⟨oX3_areJoined_32, List.forall_mem_cons.mpr ⟨oX3_areJoined_35, List.forall_mem_cons.mpr ⟨oX3_areJoined_36, List.forall_mem_cons.mpr ⟨oX3_areJoined_39, List.forall_mem_cons.mpr ⟨oX3_areJoined_42, List.forall_mem_cons.mpr ⟨oX3_areJoined_43, List.forall_mem_cons.mpr ⟨oX3_areJoined_46, List.forall_mem_cons.mpr ⟨oX3_areJoined_49, List.forall_mem_cons.mpr ⟨oX3_areJoined_50, List.forall_mem_cons.mpr ⟨oX3_areJoined_51, List.forall_mem_cons.mpr ⟨oX3_areJoined_54, List.forall_mem_cons.mpr ⟨oX3_areJoined_57, List.forall_mem_cons.mpr ⟨oX3_areJoined_58, fun _ h => absurd h List.not_mem_nil⟩⟩⟩⟩⟩⟩⟩⟩⟩⟩⟩⟩⟩⟩⟩⟩⟩⟩⟩⟩⟩⟩⟩⟩⟩⟩⟩⟩⟩
def dkwX3_damp_0 : List UInt8 := [42, 180, 0, 53, 154, 0, 7, 3, 167, 0, 14, 42, 180, 0, 30, 27, 42, 180, 0, 53, 112, 46, 172]
abbrev dktX3_damp_0 : List UInt8 := dkwX3_damp_0 ++ []
theorem dksX3_damp_0 : bcX3_damp.data.toList.drop 0 = dktX3_damp_0 := by decide +kernel
theorem dX3_damp_0 : decode bcX3_damp 0 = .ok (.aload_n 0, 1) := dk_42 (dk_at dksX3_damp_0 0 rfl rfl)
theorem dX3_damp_1 : decode bcX3_damp 1 = .ok (.getfield 53, 3) := dk_180 0 53 (dk_at dksX3_damp_0 1 rfl rfl)
theorem dX3_damp_4 : decode bcX3_damp 4 = .ok (.ifCond .ne 7, 3) := dk_154 0 7 (dk_at dksX3_damp_0 4 rfl rfl)
theorem dX3_damp_7 : decode bcX3_damp 7 = .ok (.iconst 0, 1) := dk_3 (dk_at dksX3_damp_0 7 rfl rfl)
theorem dX3_damp_8 : decode bcX3_damp 8 = .ok (.goto 14, 3) := dk_167 0 14 (dk_at dksX3_damp_0 8 rfl rfl)
theorem dX3_damp_11 : decode bcX3_damp 11 = .ok (.aload_n 0, 1) := dk_42 (dk_at dksX3_damp_0 11 rfl rfl)
theorem dX3_damp_12 : decode bcX3_damp 12 = .ok (.getfield 30, 3) := dk_180 0 30 (dk_at dksX3_damp_0 12 rfl rfl)
theorem dX3_damp_15 : decode bcX3_damp 15 = .ok (.iload_n 1, 1) := dk_27 (dk_at dksX3_damp_0 15 rfl rfl)
theorem dX3_damp_16 : decode bcX3_damp 16 = .ok (.aload_n 0, 1) := dk_42 (dk_at dksX3_damp_0 16 rfl rfl)
theorem dX3_damp_17 : decode bcX3_damp 17 = .ok (.getfield 53, 3) := dk_180 0 53 (dk_at dksX3_damp_0 17 rfl rfl)
theorem dX3_damp_20 : decode bcX3_damp 20 = .ok (.irem, 1) := dk_112 (dk_at dksX3_damp_0 20 rfl rfl)
theorem dX3_damp_21 : decode bcX3_damp 21 = .ok (.iaload, 1) := dk_46 (dk_at dksX3_damp_0 21 rfl rfl)
theorem dX3_damp_22 : decode bcX3_damp 22 = .ok (.ireturn, 1) := dk_172 (dk_at dksX3_damp_0 22 rfl rfl)
abbrev SX3_damp (pc : Nat) (i : xI) : Prop := Snd "SwollenHouse$House" "damp" prog_8_method_4_code 2 (Option.some Jvm.ClassFile.FieldType.int) [] pc i
theorem oX3_damp_0 : SX3_damp 0 (i_aload 0 1) := snd_aload_n dX3_damp_0 rfl
theorem oX3_damp_1 : SX3_damp 1 (i_getf 2 5 4) := snd_getf dX3_damp_1 rfl (by decide) in_X3 (Or.inl q260) (Or.inl rfl) (by decide)
theorem oX3_damp_4 : SX3_damp 4 (i_if1 (fun x => ¬ x = 0) 11 7) := snd_if_ne dX3_damp_4 (by decide)
theorem oX3_damp_7 : SX3_damp 7 (i_const (.int (nI 0)) 8) := snd_iconst dX3_damp_7 (by decide)
theorem oX3_damp_8 : SX3_damp 8 (i_goto 22) := snd_goto dX3_damp_8 (by decide)
theorem oX3_damp_11 : SX3_damp 11 (i_aload 0 12) := snd_aload_n dX3_damp_11 rfl
theorem oX3_damp_12 : SX3_damp 12 (i_getf 2 4 15) := snd_getf dX3_damp_12 rfl (by decide) in_X3 (Or.inl q258) (Or.inl rfl) (by decide)
theorem oX3_damp_15 : SX3_damp 15 (i_iload 1 16) := snd_iload_n dX3_damp_15 rfl
theorem oX3_damp_16 : SX3_damp 16 (i_aload 0 17) := snd_aload_n dX3_damp_16 rfl
theorem oX3_damp_17 : SX3_damp 17 (i_getf 2 5 20) := snd_getf dX3_damp_17 rfl (by decide) in_X3 (Or.inl q260) (Or.inl rfl) (by decide)
theorem oX3_damp_20 : SX3_damp 20 (i_iz (fun x y => x - x / y * y) 21) := snd_irem dX3_damp_20
theorem oX3_damp_21 : SX3_damp 21 (i_ai 0 22) := snd_ai0 dX3_damp_21
theorem oX3_damp_22 : SX3_damp 22 (i_iret) := snd_iret dX3_damp_22 rfl
theorem okX3_damp : ∀ q ∈ cX3_damp, SX3_damp q.1 q.2 := List.forall_mem_cons.mpr ⟨oX3_damp_0, List.forall_mem_cons.mpr ⟨oX3_damp_1, List.forall_mem_cons.mpr ⟨oX3_damp_4, List.forall_mem_cons.mpr ⟨oX3_damp_7, List.forall_mem_cons.mpr ⟨oX3_damp_8, List.forall_mem_cons.mpr ⟨oX3_damp_11, List.forall_mem_cons.mpr ⟨oX3_damp_12, List.forall_mem_cons.mpr ⟨oX3_damp_15, List.forall_mem_cons.mpr ⟨oX3_damp_16, List.forall_mem_cons.mpr ⟨oX3_damp_17, List.forall_mem_cons.mpr ⟨oX3_damp_20, List.forall_mem_cons.mpr ⟨oX3_damp_21, List.forall_mem_cons.mpr ⟨oX3_damp_22, fun _ h => absurd h List.not_mem_nil⟩⟩⟩⟩⟩⟩⟩⟩⟩⟩⟩⟩⟩
def dkwX4_init_1 : List UInt8 := [181, 0, 18, 177]
abbrev dktX4_init_1 : List UInt8 := dkwX4_init_1 ++ []
def dkwX4_init_0 : List UInt8 := [42, 183, 0, 3, 42, 16, 8, 188, 10, 181, 0, 9, 42, 16, 8, 188, 10, 181, 0, 15, 42, 8, 188, 10]
abbrev dktX4_init_0 : List UInt8 := dkwX4_init_0 ++ dktX4_init_1
theorem dksX4_init_0 : bcX4_init.data.toList.drop 0 = dktX4_init_0 := by decide +kernel
theorem dksX4_init_1 : bcX4_init.data.toList.drop 24 = dktX4_init_1 := dk_seg dksX4_init_0 24 rfl rfl
theorem dX4_init_0 : decode bcX4_init 0 = .ok (.aload_n 0, 1) := dk_42 (dk_at dksX4_init_0 0 rfl rfl)
theorem dX4_init_1 : decode bcX4_init 1 = .ok (.invokespecial 3, 3) := dk_183 0 3 (dk_at dksX4_init_0 1 rfl rfl)
theorem dX4_init_4 : decode bcX4_init 4 = .ok (.aload_n 0, 1) := dk_42 (dk_at dksX4_init_0 4 rfl rfl)
theorem dX4_init_5 : decode bcX4_init 5 = .ok (.bipush 8, 2) := dk_16 8 (dk_at dksX4_init_0 5 rfl rfl)
theorem dX4_init_7 : decode bcX4_init 7 = .ok (.newarray .int, 2) := dk_188_10 (dk_at dksX4_init_0 7 rfl rfl)
theorem dX4_init_9 : decode bcX4_init 9 = .ok (.putfield 9, 3) := dk_181 0 9 (dk_at dksX4_init_0 9 rfl rfl)
theorem dX4_init_12 : decode bcX4_init 12 = .ok (.aload_n 0, 1) := dk_42 (dk_at dksX4_init_0 12 rfl rfl)
theorem dX4_init_13 : decode bcX4_init 13 = .ok (.bipush 8, 2) := dk_16 8 (dk_at dksX4_init_0 13 rfl rfl)
theorem dX4_init_15 : decode bcX4_init 15 = .ok (.newarray .int, 2) := dk_188_10 (dk_at dksX4_init_0 15 rfl rfl)
theorem dX4_init_17 : decode bcX4_init 17 = .ok (.putfield 15, 3) := dk_181 0 15 (dk_at dksX4_init_0 17 rfl rfl)
theorem dX4_init_20 : decode bcX4_init 20 = .ok (.aload_n 0, 1) := dk_42 (dk_at dksX4_init_0 20 rfl rfl)
theorem dX4_init_21 : decode bcX4_init 21 = .ok (.iconst 5, 1) := dk_8 (dk_at dksX4_init_0 21 rfl rfl)
theorem dX4_init_22 : decode bcX4_init 22 = .ok (.newarray .int, 2) := dk_188_10 (dk_at dksX4_init_0 22 rfl rfl)
theorem dX4_init_24 : decode bcX4_init 24 = .ok (.putfield 18, 3) := dk_181 0 18 (dk_at dksX4_init_1 0 rfl rfl)
theorem dX4_init_27 : decode bcX4_init 27 = .ok (.return_, 1) := dk_177 (dk_at dksX4_init_1 3 rfl rfl)
abbrev SX4_init (pc : Nat) (i : xI) : Prop := Snd "SwollenHouse$State" "<init>" prog_18_method_1_code 1 (Option.none : Option Jvm.ClassFile.FieldType) [] pc i
theorem oX4_init_0 : SX4_init 0 (i_aload 0 1) := snd_aload_n dX4_init_0 rfl
theorem oX4_init_1 : SX4_init 1 (i_oi 4) := snd_oi dX4_init_1 q287 q177 q_oicode
theorem oX4_init_4 : SX4_init 4 (i_aload 0 5) := snd_aload_n dX4_init_4 rfl
theorem oX4_init_5 : SX4_init 5 (i_const (.int (nI 8)) 7) := snd_bipush dX4_init_5 (by decide)
theorem oX4_init_7 : SX4_init 7 (i_newa 0 (.inl (fun _ => 0)) 9) := snd_na0 dX4_init_7
theorem oX4_init_9 : SX4_init 9 (i_putfr 3 0 12) := snd_putfr dX4_init_9 rfl (by decide) in_X4 tyX4 tyX4_ok nmX4 (Or.inr (Or.inl ⟨rfl, rfl, rfl, q288⟩)) (Or.inl rfl) (Or.inr ⟨_, rfl⟩)
theorem oX4_init_12 : SX4_init 12 (i_aload 0 13) := snd_aload_n dX4_init_12 rfl
theorem oX4_init_13 : SX4_init 13 (i_const (.int (nI 8)) 15) := snd_bipush dX4_init_13 (by decide)
theorem oX4_init_15 : SX4_init 15 (i_newa 0 (.inl (fun _ => 0)) 17) := snd_na0 dX4_init_15
theorem oX4_init_17 : SX4_init 17 (i_putfr 3 1 20) := snd_putfr dX4_init_17 rfl (by decide) in_X4 tyX4 tyX4_ok nmX4 (Or.inr (Or.inl ⟨rfl, rfl, rfl, q291⟩)) (Or.inl rfl) (Or.inr ⟨_, rfl⟩)
theorem oX4_init_20 : SX4_init 20 (i_aload 0 21) := snd_aload_n dX4_init_20 rfl
theorem oX4_init_21 : SX4_init 21 (i_const (.int (nI 5)) 22) := snd_iconst dX4_init_21 (by decide)
theorem oX4_init_22 : SX4_init 22 (i_newa 0 (.inl (fun _ => 0)) 24) := snd_na0 dX4_init_22
theorem oX4_init_24 : SX4_init 24 (i_putfr 3 2 27) := snd_putfr dX4_init_24 rfl (by decide) in_X4 tyX4 tyX4_ok nmX4 (Or.inr (Or.inl ⟨rfl, rfl, rfl, q295⟩)) (Or.inl rfl) (Or.inr ⟨_, rfl⟩)
theorem oX4_init_27 : SX4_init 27 (i_vret) := snd_vret dX4_init_27 rfl
theorem okX4_init : ∀ q ∈ cX4_init, SX4_init q.1 q.2 := List.forall_mem_cons.mpr ⟨oX4_init_0, List.forall_mem_cons.mpr ⟨oX4_init_1, List.forall_mem_cons.mpr ⟨oX4_init_4, List.forall_mem_cons.mpr ⟨oX4_init_5, List.forall_mem_cons.mpr ⟨oX4_init_7, List.forall_mem_cons.mpr ⟨oX4_init_9, List.forall_mem_cons.mpr ⟨oX4_init_12, List.forall_mem_cons.mpr ⟨oX4_init_13, List.forall_mem_cons.mpr ⟨oX4_init_15, List.forall_mem_cons.mpr ⟨oX4_init_17, List.forall_mem_cons.mpr ⟨oX4_init_20, List.forall_mem_cons.mpr ⟨oX4_init_21, List.forall_mem_cons.mpr ⟨oX4_init_22, List.forall_mem_cons.mpr ⟨oX4_init_24, List.forall_mem_cons.mpr ⟨oX4_init_27, fun _ h => absurd h List.not_mem_nil⟩⟩⟩⟩⟩⟩⟩⟩⟩⟩⟩⟩⟩⟩⟩
def dkwX4_begin_3 : List UInt8 := [181, 0, 25, 42, 3, 181, 0, 29, 177]
abbrev dktX4_begin_3 : List UInt8 := dkwX4_begin_3 ++ []
def dkwX4_begin_2 : List UInt8 := [167, 0, 4, 3, 79, 132, 2, 1, 167, 255, 205, 43, 180, 0, 52, 42, 180, 0, 18, 184, 0, 21, 42, 3]
abbrev dktX4_begin_2 : List UInt8 := dkwX4_begin_2 ++ dktX4_begin_3
def dkwX4_begin_1 : List UInt8 := [180, 0, 32, 182, 0, 38, 162, 0, 20, 43, 180, 0, 32, 28, 182, 0, 44, 192, 0, 48, 180, 0, 50]
abbrev dktX4_begin_1 : List UInt8 := dkwX4_begin_1 ++ dktX4_begin_2
def dkwX4_begin_0 : List UInt8 := [3, 61, 28, 16, 8, 162, 0, 51, 42, 180, 0, 9, 28, 3, 79, 42, 180, 0, 15, 28, 28, 43]
abbrev dktX4_begin_0 : List UInt8 := dkwX4_begin_0 ++ dktX4_begin_1
theorem dksX4_begin_0 : bcX4_begin.data.toList.drop 0 = dktX4_begin_0 := by decide +kernel
theorem dksX4_begin_1 : bcX4_begin.data.toList.drop 22 = dktX4_begin_1 := dk_seg dksX4_begin_0 22 rfl rfl
theorem dksX4_begin_2 : bcX4_begin.data.toList.drop 45 = dktX4_begin_2 := dk_seg dksX4_begin_1 23 rfl rfl
theorem dksX4_begin_3 : bcX4_begin.data.toList.drop 69 = dktX4_begin_3 := dk_seg dksX4_begin_2 24 rfl rfl
theorem dX4_begin_0 : decode bcX4_begin 0 = .ok (.iconst 0, 1) := dk_3 (dk_at dksX4_begin_0 0 rfl rfl)
theorem dX4_begin_1 : decode bcX4_begin 1 = .ok (.istore_n 2, 1) := dk_61 (dk_at dksX4_begin_0 1 rfl rfl)
theorem dX4_begin_2 : decode bcX4_begin 2 = .ok (.iload_n 2, 1) := dk_28 (dk_at dksX4_begin_0 2 rfl rfl)
theorem dX4_begin_3 : decode bcX4_begin 3 = .ok (.bipush 8, 2) := dk_16 8 (dk_at dksX4_begin_0 3 rfl rfl)
theorem dX4_begin_5 : decode bcX4_begin 5 = .ok (.if_icmp .ge 51, 3) := dk_162 0 51 (dk_at dksX4_begin_0 5 rfl rfl)
theorem dX4_begin_8 : decode bcX4_begin 8 = .ok (.aload_n 0, 1) := dk_42 (dk_at dksX4_begin_0 8 rfl rfl)
theorem dX4_begin_9 : decode bcX4_begin 9 = .ok (.getfield 9, 3) := dk_180 0 9 (dk_at dksX4_begin_0 9 rfl rfl)
theorem dX4_begin_12 : decode bcX4_begin 12 = .ok (.iload_n 2, 1) := dk_28 (dk_at dksX4_begin_0 12 rfl rfl)
theorem dX4_begin_13 : decode bcX4_begin 13 = .ok (.iconst 0, 1) := dk_3 (dk_at dksX4_begin_0 13 rfl rfl)
theorem dX4_begin_14 : decode bcX4_begin 14 = .ok (.iastore, 1) := dk_79 (dk_at dksX4_begin_0 14 rfl rfl)
theorem dX4_begin_15 : decode bcX4_begin 15 = .ok (.aload_n 0, 1) := dk_42 (dk_at dksX4_begin_0 15 rfl rfl)
theorem dX4_begin_16 : decode bcX4_begin 16 = .ok (.getfield 15, 3) := dk_180 0 15 (dk_at dksX4_begin_0 16 rfl rfl)
theorem dX4_begin_19 : decode bcX4_begin 19 = .ok (.iload_n 2, 1) := dk_28 (dk_at dksX4_begin_0 19 rfl rfl)
theorem dX4_begin_20 : decode bcX4_begin 20 = .ok (.iload_n 2, 1) := dk_28 (dk_at dksX4_begin_0 20 rfl rfl)
theorem dX4_begin_21 : decode bcX4_begin 21 = .ok (.aload_n 1, 1) := dk_43 (dk_at dksX4_begin_0 21 rfl rfl)
theorem dX4_begin_22 : decode bcX4_begin 22 = .ok (.getfield 32, 3) := dk_180 0 32 (dk_at dksX4_begin_1 0 rfl rfl)
theorem dX4_begin_25 : decode bcX4_begin 25 = .ok (.invokevirtual 38, 3) := dk_182 0 38 (dk_at dksX4_begin_1 3 rfl rfl)
theorem dX4_begin_28 : decode bcX4_begin 28 = .ok (.if_icmp .ge 20, 3) := dk_162 0 20 (dk_at dksX4_begin_1 6 rfl rfl)
theorem dX4_begin_31 : decode bcX4_begin 31 = .ok (.aload_n 1, 1) := dk_43 (dk_at dksX4_begin_1 9 rfl rfl)
theorem dX4_begin_32 : decode bcX4_begin 32 = .ok (.getfield 32, 3) := dk_180 0 32 (dk_at dksX4_begin_1 10 rfl rfl)
theorem dX4_begin_35 : decode bcX4_begin 35 = .ok (.iload_n 2, 1) := dk_28 (dk_at dksX4_begin_1 13 rfl rfl)
theorem dX4_begin_36 : decode bcX4_begin 36 = .ok (.invokevirtual 44, 3) := dk_182 0 44 (dk_at dksX4_begin_1 14 rfl rfl)
theorem dX4_begin_39 : decode bcX4_begin 39 = .ok (.checkcast 48, 3) := dk_192 0 48 (dk_at dksX4_begin_1 17 rfl rfl)
theorem dX4_begin_42 : decode bcX4_begin 42 = .ok (.getfield 50, 3) := dk_180 0 50 (dk_at dksX4_begin_1 20 rfl rfl)
theorem dX4_begin_45 : decode bcX4_begin 45 = .ok (.goto 4, 3) := dk_167 0 4 (dk_at dksX4_begin_2 0 rfl rfl)
theorem dX4_begin_48 : decode bcX4_begin 48 = .ok (.iconst 0, 1) := dk_3 (dk_at dksX4_begin_2 3 rfl rfl)
theorem dX4_begin_49 : decode bcX4_begin 49 = .ok (.iastore, 1) := dk_79 (dk_at dksX4_begin_2 4 rfl rfl)
theorem dX4_begin_50 : decode bcX4_begin 50 = .ok (.iinc 2 1, 3) := dk_132 2 1 (dk_at dksX4_begin_2 5 rfl rfl)
theorem dX4_begin_53 : decode bcX4_begin 53 = .ok (.goto (-51), 3) := dk_167 255 205 (dk_at dksX4_begin_2 8 rfl rfl)
theorem dX4_begin_56 : decode bcX4_begin 56 = .ok (.aload_n 1, 1) := dk_43 (dk_at dksX4_begin_2 11 rfl rfl)
theorem dX4_begin_57 : decode bcX4_begin 57 = .ok (.getfield 52, 3) := dk_180 0 52 (dk_at dksX4_begin_2 12 rfl rfl)
theorem dX4_begin_60 : decode bcX4_begin 60 = .ok (.aload_n 0, 1) := dk_42 (dk_at dksX4_begin_2 15 rfl rfl)
theorem dX4_begin_61 : decode bcX4_begin 61 = .ok (.getfield 18, 3) := dk_180 0 18 (dk_at dksX4_begin_2 16 rfl rfl)
theorem dX4_begin_64 : decode bcX4_begin 64 = .ok (.invokestatic 21, 3) := dk_184 0 21 (dk_at dksX4_begin_2 19 rfl rfl)
theorem dX4_begin_67 : decode bcX4_begin 67 = .ok (.aload_n 0, 1) := dk_42 (dk_at dksX4_begin_2 22 rfl rfl)
theorem dX4_begin_68 : decode bcX4_begin 68 = .ok (.iconst 0, 1) := dk_3 (dk_at dksX4_begin_2 23 rfl rfl)
theorem dX4_begin_69 : decode bcX4_begin 69 = .ok (.putfield 25, 3) := dk_181 0 25 (dk_at dksX4_begin_3 0 rfl rfl)
theorem dX4_begin_72 : decode bcX4_begin 72 = .ok (.aload_n 0, 1) := dk_42 (dk_at dksX4_begin_3 3 rfl rfl)
theorem dX4_begin_73 : decode bcX4_begin 73 = .ok (.iconst 0, 1) := dk_3 (dk_at dksX4_begin_3 4 rfl rfl)
theorem dX4_begin_74 : decode bcX4_begin 74 = .ok (.putfield 29, 3) := dk_181 0 29 (dk_at dksX4_begin_3 5 rfl rfl)
theorem dX4_begin_77 : decode bcX4_begin 77 = .ok (.return_, 1) := dk_177 (dk_at dksX4_begin_3 8 rfl rfl)
abbrev SX4_begin (pc : Nat) (i : xI) : Prop := Snd "SwollenHouse$State" "begin" prog_18_method_3_code 3 (Option.none : Option Jvm.ClassFile.FieldType) [] pc i
theorem oX4_begin_0 : SX4_begin 0 (i_const (.int (nI 0)) 1) := snd_iconst dX4_begin_0 (by decide)
theorem oX4_begin_1 : SX4_begin 1 (i_istore 2 2) := snd_istore_n dX4_begin_1 rfl (by decide)
theorem oX4_begin_2 : SX4_begin 2 (i_iload 2 3) := snd_iload_n dX4_begin_2 rfl
theorem oX4_begin_3 : SX4_begin 3 (i_const (.int (nI 8)) 5) := snd_bipush dX4_begin_3 (by decide)
theorem oX4_begin_5 : SX4_begin 5 (i_if2 (fun x y => y ≤ x) 56 8) := snd_icmp_ge dX4_begin_5 (by decide)
theorem oX4_begin_8 : SX4_begin 8 (i_aload 0 9) := snd_aload_n dX4_begin_8 rfl
theorem oX4_begin_9 : SX4_begin 9 (i_getf 3 0 12) := snd_getf dX4_begin_9 rfl (by decide) in_X4 (Or.inl q288) (Or.inl rfl) (by decide)
theorem oX4_begin_12 : SX4_begin 12 (i_iload 2 13) := snd_iload_n dX4_begin_12 rfl
theorem oX4_begin_13 : SX4_begin 13 (i_const (.int (nI 0)) 14) := snd_iconst dX4_begin_13 (by decide)
theorem oX4_begin_14 : SX4_begin 14 (i_si (fun v => v) 0 15) := snd_si0 dX4_begin_14
theorem oX4_begin_15 : SX4_begin 15 (i_aload 0 16) := snd_aload_n dX4_begin_15 rfl
theorem oX4_begin_16 : SX4_begin 16 (i_getf 3 1 19) := snd_getf dX4_begin_16 rfl (by decide) in_X4 (Or.inl q291) (Or.inl rfl) (by decide)
theorem oX4_begin_19 : SX4_begin 19 (i_iload 2 20) := snd_iload_n dX4_begin_19 rfl
theorem oX4_begin_20 : SX4_begin 20 (i_iload 2 21) := snd_iload_n dX4_begin_20 rfl
theorem oX4_begin_21 : SX4_begin 21 (i_aload 1 22) := snd_aload_n dX4_begin_21 rfl
theorem oX4_begin_22 : SX4_begin 22 (i_getf 2 2 25) := snd_getf dX4_begin_22 rfl (by decide) in_X3 (Or.inr ⟨_, q252⟩) (Or.inl rfl) (by decide)
theorem oX4_begin_25 : SX4_begin 25 (i_cv 21 32 0 28) := snd_cv rfl infJ2_size (by decide) rfl (xVm_V dX4_begin_25 rfl q323 q324 q325 q132 q326 pdJ2_size)
theorem oX4_begin_28 : SX4_begin 28 (i_if2 (fun x y => y ≤ x) 48 31) := snd_icmp_ge dX4_begin_28 (by decide)
theorem oX4_begin_31 : SX4_begin 31 (i_aload 1 32) := snd_aload_n dX4_begin_31 rfl
theorem oX4_begin_32 : SX4_begin 32 (i_getf 2 2 35) := snd_getf dX4_begin_32 rfl (by decide) in_X3 (Or.inr ⟨_, q252⟩) (Or.inl rfl) (by decide)
theorem oX4_begin_35 : SX4_begin 35 (i_iload 2 36) := snd_iload_n dX4_begin_35 rfl
theorem oX4_begin_36 : SX4_begin 36 (i_cv 21 33 1 39) := snd_cv rfl infJ2_get (by decide) rfl (xVm_V dX4_begin_36 rfl q327 q328 q329 q132 q330 pdJ2_get)
theorem oX4_begin_39 : SX4_begin 39 (i_cast [6] 42) := snd_cast dX4_begin_39 q341 okct_X7
theorem oX4_begin_42 : SX4_begin 42 (i_getf 6 3 45) := snd_getf dX4_begin_42 rfl (by decide) in_X7 (Or.inr ⟨_, q916⟩) (Or.inl rfl) (by decide)
theorem oX4_begin_45 : SX4_begin 45 (i_goto 49) := snd_goto dX4_begin_45 (by decide)
theorem oX4_begin_48 : SX4_begin 48 (i_const (.int (nI 0)) 49) := snd_iconst dX4_begin_48 (by decide)
theorem oX4_begin_49 : SX4_begin 49 (i_si (fun v => v) 0 50) := snd_si0 dX4_begin_49
theorem oX4_begin_50 : SX4_begin 50 (i_iinc 2 (nI 1) 53) := snd_iinc dX4_begin_50 (by decide) (by decide)
theorem oX4_begin_53 : SX4_begin 53 (i_goto 2) := snd_goto dX4_begin_53 (by decide)
theorem oX4_begin_56 : SX4_begin 56 (i_aload 1 57) := snd_aload_n dX4_begin_56 rfl
theorem oX4_begin_57 : SX4_begin 57 (i_getf 2 3 60) := snd_getf dX4_begin_57 rfl (by decide) in_X3 (Or.inr ⟨_, q256⟩) (Or.inl rfl) (by decide)
theorem oX4_begin_60 : SX4_begin 60 (i_aload 0 61) := snd_aload_n dX4_begin_60 rfl
theorem oX4_begin_61 : SX4_begin 61 (i_getf 3 2 64) := snd_getf dX4_begin_61 rfl (by decide) in_X4 (Or.inl q295) (Or.inl rfl) (by decide)
theorem oX4_begin_64 : SX4_begin 64 (i_csv 88 2 67) := snd_csv rfl infX1_copies (by decide) (xSm_N dX4_begin_64 q342 q343 q127 q344 pdX1_copies)
theorem oX4_begin_67 : SX4_begin 67 (i_aload 0 68) := snd_aload_n dX4_begin_67 rfl
theorem oX4_begin_68 : SX4_begin 68 (i_const (.int (nI 0)) 69) := snd_iconst dX4_begin_68 (by decide)
theorem oX4_begin_69 : SX4_begin 69 (i_putfi 3 3 72) := snd_putfi dX4_begin_69 rfl (by decide) in_X4 tyX4 tyX4_ok nmX4 (Or.inl ⟨rfl, q298⟩) (Or.inl rfl) rfl
theorem oX4_begin_72 : SX4_begin 72 (i_aload 0 73) := snd_aload_n dX4_begin_72 rfl
theorem oX4_begin_73 : SX4_begin 73 (i_const (.int (nI 0)) 74) := snd_iconst dX4_begin_73 (by decide)
theorem oX4_begin_74 : SX4_begin 74 (i_putfi 3 4 77) := snd_putfi dX4_begin_74 rfl (by decide) in_X4 tyX4 tyX4_ok nmX4 (Or.inl ⟨rfl, q301⟩) (Or.inl rfl) rfl
theorem oX4_begin_77 : SX4_begin 77 (i_vret) := snd_vret dX4_begin_77 rfl
theorem okX4_begin : ∀ q ∈ cX4_begin, SX4_begin q.1 q.2 := List.forall_mem_cons.mpr ⟨oX4_begin_0, List.forall_mem_cons.mpr ⟨oX4_begin_1, List.forall_mem_cons.mpr ⟨oX4_begin_2, List.forall_mem_cons.mpr ⟨oX4_begin_3, List.forall_mem_cons.mpr ⟨oX4_begin_5, List.forall_mem_cons.mpr ⟨oX4_begin_8, List.forall_mem_cons.mpr ⟨oX4_begin_9, List.forall_mem_cons.mpr ⟨oX4_begin_12, List.forall_mem_cons.mpr ⟨oX4_begin_13, List.forall_mem_cons.mpr ⟨oX4_begin_14, List.forall_mem_cons.mpr ⟨oX4_begin_15, List.forall_mem_cons.mpr ⟨oX4_begin_16, List.forall_mem_cons.mpr ⟨oX4_begin_19, List.forall_mem_cons.mpr ⟨oX4_begin_20, List.forall_mem_cons.mpr ⟨oX4_begin_21, List.forall_mem_cons.mpr ⟨oX4_begin_22, List.forall_mem_cons.mpr ⟨oX4_begin_25, List.forall_mem_cons.mpr ⟨oX4_begin_28, List.forall_mem_cons.mpr ⟨oX4_begin_31, List.forall_mem_cons.mpr ⟨oX4_begin_32, List.forall_mem_cons.mpr ⟨oX4_begin_35, List.forall_mem_cons.mpr ⟨oX4_begin_36, List.forall_mem_cons.mpr ⟨oX4_begin_39, List.forall_mem_cons.mpr ⟨oX4_begin_42, List.forall_mem_cons.mpr ⟨oX4_begin_45, List.forall_mem_cons.mpr ⟨oX4_begin_48, List.forall_mem_cons.mpr ⟨oX4_begin_49, List.forall_mem_cons.mpr ⟨oX4_begin_50, List.forall_mem_cons.mpr ⟨oX4_begin_53, List.forall_mem_cons.mpr ⟨oX4_begin_56, List.forall_mem_cons.mpr ⟨oX4_begin_57, List.forall_mem_cons.mpr ⟨oX4_begin_60, List.forall_mem_cons.mpr ⟨oX4_begin_61, List.forall_mem_cons.mpr ⟨oX4_begin_64, List.forall_mem_cons.mpr ⟨oX4_begin_67, List.forall_mem_cons.mpr ⟨oX4_begin_68, List.forall_mem_cons.mpr ⟨oX4_begin_69, List.forall_mem_cons.mpr ⟨oX4_begin_72, List.forall_mem_cons.mpr ⟨oX4_begin_73, List.forall_mem_cons.mpr ⟨oX4_begin_74, List.forall_mem_cons.mpr ⟨oX4_begin_77, fun _ h => absurd h List.not_mem_nil⟩⟩⟩⟩⟩⟩⟩⟩⟩⟩⟩⟩⟩⟩⟩⟩⟩⟩⟩⟩⟩⟩⟩⟩⟩⟩⟩⟩⟩⟩⟩⟩⟩⟩⟩⟩⟩⟩⟩⟩⟩
def dkwX4_sticks_1 : List UInt8 := [154, 0, 7, 4, 167, 0, 4, 3, 172]
abbrev dktX4_sticks_1 : List UInt8 := dkwX4_sticks_1 ++ []
def dkwX4_sticks_0 : List UInt8 := [42, 180, 0, 9, 27, 46, 42, 180, 0, 15, 27, 46, 164, 0, 18, 42, 180, 0, 25, 27, 184, 0, 53]
abbrev dktX4_sticks_0 : List UInt8 := dkwX4_sticks_0 ++ dktX4_sticks_1
theorem dksX4_sticks_0 : bcX4_sticks.data.toList.drop 0 = dktX4_sticks_0 := by decide +kernel
theorem dksX4_sticks_1 : bcX4_sticks.data.toList.drop 23 = dktX4_sticks_1 := dk_seg dksX4_sticks_0 23 rfl rfl
theorem dX4_sticks_0 : decode bcX4_sticks 0 = .ok (.aload_n 0, 1) := dk_42 (dk_at dksX4_sticks_0 0 rfl rfl)
theorem dX4_sticks_1 : decode bcX4_sticks 1 = .ok (.getfield 9, 3) := dk_180 0 9 (dk_at dksX4_sticks_0 1 rfl rfl)
theorem dX4_sticks_4 : decode bcX4_sticks 4 = .ok (.iload_n 1, 1) := dk_27 (dk_at dksX4_sticks_0 4 rfl rfl)
theorem dX4_sticks_5 : decode bcX4_sticks 5 = .ok (.iaload, 1) := dk_46 (dk_at dksX4_sticks_0 5 rfl rfl)
theorem dX4_sticks_6 : decode bcX4_sticks 6 = .ok (.aload_n 0, 1) := dk_42 (dk_at dksX4_sticks_0 6 rfl rfl)
theorem dX4_sticks_7 : decode bcX4_sticks 7 = .ok (.getfield 15, 3) := dk_180 0 15 (dk_at dksX4_sticks_0 7 rfl rfl)
theorem dX4_sticks_10 : decode bcX4_sticks 10 = .ok (.iload_n 1, 1) := dk_27 (dk_at dksX4_sticks_0 10 rfl rfl)
theorem dX4_sticks_11 : decode bcX4_sticks 11 = .ok (.iaload, 1) := dk_46 (dk_at dksX4_sticks_0 11 rfl rfl)
theorem dX4_sticks_12 : decode bcX4_sticks 12 = .ok (.if_icmp .le 18, 3) := dk_164 0 18 (dk_at dksX4_sticks_0 12 rfl rfl)
theorem dX4_sticks_15 : decode bcX4_sticks 15 = .ok (.aload_n 0, 1) := dk_42 (dk_at dksX4_sticks_0 15 rfl rfl)
theorem dX4_sticks_16 : decode bcX4_sticks 16 = .ok (.getfield 25, 3) := dk_180 0 25 (dk_at dksX4_sticks_0 16 rfl rfl)
theorem dX4_sticks_19 : decode bcX4_sticks 19 = .ok (.iload_n 1, 1) := dk_27 (dk_at dksX4_sticks_0 19 rfl rfl)
theorem dX4_sticks_20 : decode bcX4_sticks 20 = .ok (.invokestatic 53, 3) := dk_184 0 53 (dk_at dksX4_sticks_0 20 rfl rfl)
theorem dX4_sticks_23 : decode bcX4_sticks 23 = .ok (.ifCond .ne 7, 3) := dk_154 0 7 (dk_at dksX4_sticks_1 0 rfl rfl)
theorem dX4_sticks_26 : decode bcX4_sticks 26 = .ok (.iconst 1, 1) := dk_4 (dk_at dksX4_sticks_1 3 rfl rfl)
theorem dX4_sticks_27 : decode bcX4_sticks 27 = .ok (.goto 4, 3) := dk_167 0 4 (dk_at dksX4_sticks_1 4 rfl rfl)
theorem dX4_sticks_30 : decode bcX4_sticks 30 = .ok (.iconst 0, 1) := dk_3 (dk_at dksX4_sticks_1 7 rfl rfl)
theorem dX4_sticks_31 : decode bcX4_sticks 31 = .ok (.ireturn, 1) := dk_172 (dk_at dksX4_sticks_1 8 rfl rfl)
abbrev SX4_sticks (pc : Nat) (i : xI) : Prop := Snd "SwollenHouse$State" "sticks" prog_18_method_4_code 2 (Option.some Jvm.ClassFile.FieldType.boolean) [] pc i
theorem oX4_sticks_0 : SX4_sticks 0 (i_aload 0 1) := snd_aload_n dX4_sticks_0 rfl
theorem oX4_sticks_1 : SX4_sticks 1 (i_getf 3 0 4) := snd_getf dX4_sticks_1 rfl (by decide) in_X4 (Or.inl q288) (Or.inl rfl) (by decide)
theorem oX4_sticks_4 : SX4_sticks 4 (i_iload 1 5) := snd_iload_n dX4_sticks_4 rfl
theorem oX4_sticks_5 : SX4_sticks 5 (i_ai 0 6) := snd_ai0 dX4_sticks_5
theorem oX4_sticks_6 : SX4_sticks 6 (i_aload 0 7) := snd_aload_n dX4_sticks_6 rfl
theorem oX4_sticks_7 : SX4_sticks 7 (i_getf 3 1 10) := snd_getf dX4_sticks_7 rfl (by decide) in_X4 (Or.inl q291) (Or.inl rfl) (by decide)
theorem oX4_sticks_10 : SX4_sticks 10 (i_iload 1 11) := snd_iload_n dX4_sticks_10 rfl
theorem oX4_sticks_11 : SX4_sticks 11 (i_ai 0 12) := snd_ai0 dX4_sticks_11
theorem oX4_sticks_12 : SX4_sticks 12 (i_if2 (fun x y => x ≤ y) 30 15) := snd_icmp_le dX4_sticks_12 (by decide)
theorem oX4_sticks_15 : SX4_sticks 15 (i_aload 0 16) := snd_aload_n dX4_sticks_15 rfl
theorem oX4_sticks_16 : SX4_sticks 16 (i_getf 3 3 19) := snd_getf dX4_sticks_16 rfl (by decide) in_X4 (Or.inl q298) (Or.inl rfl) (by decide)
theorem oX4_sticks_19 : SX4_sticks 19 (i_iload 1 20) := snd_iload_n dX4_sticks_19 rfl
theorem oX4_sticks_20 : SX4_sticks 20 (i_cs 98 2 23) := snd_cs rfl infX1_isIn (by decide) (xSm_N dX4_sticks_20 q1171 q1172 q127 q1173 pdX1_isIn)
theorem oX4_sticks_23 : SX4_sticks 23 (i_if1 (fun x => ¬ x = 0) 30 26) := snd_if_ne dX4_sticks_23 (by decide)
theorem oX4_sticks_26 : SX4_sticks 26 (i_const (.int (nI 1)) 27) := snd_iconst dX4_sticks_26 (by decide)
theorem oX4_sticks_27 : SX4_sticks 27 (i_goto 31) := snd_goto dX4_sticks_27 (by decide)
theorem oX4_sticks_30 : SX4_sticks 30 (i_const (.int (nI 0)) 31) := snd_iconst dX4_sticks_30 (by decide)
theorem oX4_sticks_31 : SX4_sticks 31 (i_zret) := snd_zret dX4_sticks_31 rfl
theorem okX4_sticks : ∀ q ∈ cX4_sticks, SX4_sticks q.1 q.2 := List.forall_mem_cons.mpr ⟨oX4_sticks_0, List.forall_mem_cons.mpr ⟨oX4_sticks_1, List.forall_mem_cons.mpr ⟨oX4_sticks_4, List.forall_mem_cons.mpr ⟨oX4_sticks_5, List.forall_mem_cons.mpr ⟨oX4_sticks_6, List.forall_mem_cons.mpr ⟨oX4_sticks_7, List.forall_mem_cons.mpr ⟨oX4_sticks_10, List.forall_mem_cons.mpr ⟨oX4_sticks_11, List.forall_mem_cons.mpr ⟨oX4_sticks_12, List.forall_mem_cons.mpr ⟨oX4_sticks_15, List.forall_mem_cons.mpr ⟨oX4_sticks_16, List.forall_mem_cons.mpr ⟨oX4_sticks_19, List.forall_mem_cons.mpr ⟨oX4_sticks_20, List.forall_mem_cons.mpr ⟨oX4_sticks_23, List.forall_mem_cons.mpr ⟨oX4_sticks_26, List.forall_mem_cons.mpr ⟨oX4_sticks_27, List.forall_mem_cons.mpr ⟨oX4_sticks_30, List.forall_mem_cons.mpr ⟨oX4_sticks_31, fun _ h => absurd h List.not_mem_nil⟩⟩⟩⟩⟩⟩⟩⟩⟩⟩⟩⟩⟩⟩⟩⟩⟩⟩
def dkwX4_be_2 : List UInt8 := [181, 0, 29, 177]
abbrev dktX4_be_2 : List UInt8 := dkwX4_be_2 ++ []
def dkwX4_be_1 : List UInt8 := [180, 0, 18, 42, 180, 0, 18, 184, 0, 21, 42, 43, 180, 0, 25, 181, 0, 25, 42, 43, 180, 0, 29]
abbrev dktX4_be_1 : List UInt8 := dkwX4_be_1 ++ dktX4_be_2
def dkwX4_be_0 : List UInt8 := [43, 180, 0, 9, 42, 180, 0, 9, 184, 0, 21, 43, 180, 0, 15, 42, 180, 0, 15, 184, 0, 21, 43]
abbrev dktX4_be_0 : List UInt8 := dkwX4_be_0 ++ dktX4_be_1
theorem dksX4_be_0 : bcX4_be.data.toList.drop 0 = dktX4_be_0 := by decide +kernel
theorem dksX4_be_1 : bcX4_be.data.toList.drop 23 = dktX4_be_1 := dk_seg dksX4_be_0 23 rfl rfl
theorem dksX4_be_2 : bcX4_be.data.toList.drop 46 = dktX4_be_2 := dk_seg dksX4_be_1 23 rfl rfl
theorem dX4_be_0 : decode bcX4_be 0 = .ok (.aload_n 1, 1) := dk_43 (dk_at dksX4_be_0 0 rfl rfl)
theorem dX4_be_1 : decode bcX4_be 1 = .ok (.getfield 9, 3) := dk_180 0 9 (dk_at dksX4_be_0 1 rfl rfl)
theorem dX4_be_4 : decode bcX4_be 4 = .ok (.aload_n 0, 1) := dk_42 (dk_at dksX4_be_0 4 rfl rfl)
theorem dX4_be_5 : decode bcX4_be 5 = .ok (.getfield 9, 3) := dk_180 0 9 (dk_at dksX4_be_0 5 rfl rfl)
theorem dX4_be_8 : decode bcX4_be 8 = .ok (.invokestatic 21, 3) := dk_184 0 21 (dk_at dksX4_be_0 8 rfl rfl)
theorem dX4_be_11 : decode bcX4_be 11 = .ok (.aload_n 1, 1) := dk_43 (dk_at dksX4_be_0 11 rfl rfl)
theorem dX4_be_12 : decode bcX4_be 12 = .ok (.getfield 15, 3) := dk_180 0 15 (dk_at dksX4_be_0 12 rfl rfl)
theorem dX4_be_15 : decode bcX4_be 15 = .ok (.aload_n 0, 1) := dk_42 (dk_at dksX4_be_0 15 rfl rfl)
theorem dX4_be_16 : decode bcX4_be 16 = .ok (.getfield 15, 3) := dk_180 0 15 (dk_at dksX4_be_0 16 rfl rfl)
theorem dX4_be_19 : decode bcX4_be 19 = .ok (.invokestatic 21, 3) := dk_184 0 21 (dk_at dksX4_be_0 19 rfl rfl)
theorem dX4_be_22 : decode bcX4_be 22 = .ok (.aload_n 1, 1) := dk_43 (dk_at dksX4_be_0 22 rfl rfl)
theorem dX4_be_23 : decode bcX4_be 23 = .ok (.getfield 18, 3) := dk_180 0 18 (dk_at dksX4_be_1 0 rfl rfl)
theorem dX4_be_26 : decode bcX4_be 26 = .ok (.aload_n 0, 1) := dk_42 (dk_at dksX4_be_1 3 rfl rfl)
theorem dX4_be_27 : decode bcX4_be 27 = .ok (.getfield 18, 3) := dk_180 0 18 (dk_at dksX4_be_1 4 rfl rfl)
theorem dX4_be_30 : decode bcX4_be 30 = .ok (.invokestatic 21, 3) := dk_184 0 21 (dk_at dksX4_be_1 7 rfl rfl)
theorem dX4_be_33 : decode bcX4_be 33 = .ok (.aload_n 0, 1) := dk_42 (dk_at dksX4_be_1 10 rfl rfl)
theorem dX4_be_34 : decode bcX4_be 34 = .ok (.aload_n 1, 1) := dk_43 (dk_at dksX4_be_1 11 rfl rfl)
theorem dX4_be_35 : decode bcX4_be 35 = .ok (.getfield 25, 3) := dk_180 0 25 (dk_at dksX4_be_1 12 rfl rfl)
theorem dX4_be_38 : decode bcX4_be 38 = .ok (.putfield 25, 3) := dk_181 0 25 (dk_at dksX4_be_1 15 rfl rfl)
theorem dX4_be_41 : decode bcX4_be 41 = .ok (.aload_n 0, 1) := dk_42 (dk_at dksX4_be_1 18 rfl rfl)
theorem dX4_be_42 : decode bcX4_be 42 = .ok (.aload_n 1, 1) := dk_43 (dk_at dksX4_be_1 19 rfl rfl)
theorem dX4_be_43 : decode bcX4_be 43 = .ok (.getfield 29, 3) := dk_180 0 29 (dk_at dksX4_be_1 20 rfl rfl)
theorem dX4_be_46 : decode bcX4_be 46 = .ok (.putfield 29, 3) := dk_181 0 29 (dk_at dksX4_be_2 0 rfl rfl)
theorem dX4_be_49 : decode bcX4_be 49 = .ok (.return_, 1) := dk_177 (dk_at dksX4_be_2 3 rfl rfl)
abbrev SX4_be (pc : Nat) (i : xI) : Prop := Snd "SwollenHouse$State" "be" prog_18_method_2_code 2 (Option.none : Option Jvm.ClassFile.FieldType) [] pc i
theorem oX4_be_0 : SX4_be 0 (i_aload 1 1) := snd_aload_n dX4_be_0 rfl
theorem oX4_be_1 : SX4_be 1 (i_getf 3 0 4) := snd_getf dX4_be_1 rfl (by decide) in_X4 (Or.inl q288) (Or.inl rfl) (by decide)
theorem oX4_be_4 : SX4_be 4 (i_aload 0 5) := snd_aload_n dX4_be_4 rfl
theorem oX4_be_5 : SX4_be 5 (i_getf 3 0 8) := snd_getf dX4_be_5 rfl (by decide) in_X4 (Or.inl q288) (Or.inl rfl) (by decide)
theorem oX4_be_8 : SX4_be 8 (i_csv 88 2 11) := snd_csv rfl infX1_copies (by decide) (xSm_N dX4_be_8 q342 q343 q127 q344 pdX1_copies)
theorem oX4_be_11 : SX4_be 11 (i_aload 1 12) := snd_aload_n dX4_be_11 rfl
theorem oX4_be_12 : SX4_be 12 (i_getf 3 1 15) := snd_getf dX4_be_12 rfl (by decide) in_X4 (Or.inl q291) (Or.inl rfl) (by decide)
theorem oX4_be_15 : SX4_be 15 (i_aload 0 16) := snd_aload_n dX4_be_15 rfl
theorem oX4_be_16 : SX4_be 16 (i_getf 3 1 19) := snd_getf dX4_be_16 rfl (by decide) in_X4 (Or.inl q291) (Or.inl rfl) (by decide)
theorem oX4_be_19 : SX4_be 19 (i_csv 88 2 22) := snd_csv rfl infX1_copies (by decide) (xSm_N dX4_be_19 q342 q343 q127 q344 pdX1_copies)
theorem oX4_be_22 : SX4_be 22 (i_aload 1 23) := snd_aload_n dX4_be_22 rfl
theorem oX4_be_23 : SX4_be 23 (i_getf 3 2 26) := snd_getf dX4_be_23 rfl (by decide) in_X4 (Or.inl q295) (Or.inl rfl) (by decide)
theorem oX4_be_26 : SX4_be 26 (i_aload 0 27) := snd_aload_n dX4_be_26 rfl
theorem oX4_be_27 : SX4_be 27 (i_getf 3 2 30) := snd_getf dX4_be_27 rfl (by decide) in_X4 (Or.inl q295) (Or.inl rfl) (by decide)
theorem oX4_be_30 : SX4_be 30 (i_csv 88 2 33) := snd_csv rfl infX1_copies (by decide) (xSm_N dX4_be_30 q342 q343 q127 q344 pdX1_copies)
theorem oX4_be_33 : SX4_be 33 (i_aload 0 34) := snd_aload_n dX4_be_33 rfl
theorem oX4_be_34 : SX4_be 34 (i_aload 1 35) := snd_aload_n dX4_be_34 rfl
theorem oX4_be_35 : SX4_be 35 (i_getf 3 3 38) := snd_getf dX4_be_35 rfl (by decide) in_X4 (Or.inl q298) (Or.inl rfl) (by decide)
theorem oX4_be_38 : SX4_be 38 (i_putfi 3 3 41) := snd_putfi dX4_be_38 rfl (by decide) in_X4 tyX4 tyX4_ok nmX4 (Or.inl ⟨rfl, q298⟩) (Or.inl rfl) rfl
theorem oX4_be_41 : SX4_be 41 (i_aload 0 42) := snd_aload_n dX4_be_41 rfl
theorem oX4_be_42 : SX4_be 42 (i_aload 1 43) := snd_aload_n dX4_be_42 rfl
theorem oX4_be_43 : SX4_be 43 (i_getf 3 4 46) := snd_getf dX4_be_43 rfl (by decide) in_X4 (Or.inl q301) (Or.inl rfl) (by decide)
theorem oX4_be_46 : SX4_be 46 (i_putfi 3 4 49) := snd_putfi dX4_be_46 rfl (by decide) in_X4 tyX4 tyX4_ok nmX4 (Or.inl ⟨rfl, q301⟩) (Or.inl rfl) rfl
theorem oX4_be_49 : SX4_be 49 (i_vret) := snd_vret dX4_be_49 rfl
theorem okX4_be : ∀ q ∈ cX4_be, SX4_be q.1 q.2 := List.forall_mem_cons.mpr ⟨oX4_be_0, List.forall_mem_cons.mpr ⟨oX4_be_1, List.forall_mem_cons.mpr ⟨oX4_be_4, List.forall_mem_cons.mpr ⟨oX4_be_5, List.forall_mem_cons.mpr ⟨oX4_be_8, List.forall_mem_cons.mpr ⟨oX4_be_11, List.forall_mem_cons.mpr ⟨oX4_be_12, List.forall_mem_cons.mpr ⟨oX4_be_15, List.forall_mem_cons.mpr ⟨oX4_be_16, List.forall_mem_cons.mpr ⟨oX4_be_19, List.forall_mem_cons.mpr ⟨oX4_be_22, List.forall_mem_cons.mpr ⟨oX4_be_23, List.forall_mem_cons.mpr ⟨oX4_be_26, List.forall_mem_cons.mpr ⟨oX4_be_27, List.forall_mem_cons.mpr ⟨oX4_be_30, List.forall_mem_cons.mpr ⟨oX4_be_33, List.forall_mem_cons.mpr ⟨oX4_be_34, List.forall_mem_cons.mpr ⟨oX4_be_35, List.forall_mem_cons.mpr ⟨oX4_be_38, List.forall_mem_cons.mpr ⟨oX4_be_41, List.forall_mem_cons.mpr ⟨oX4_be_42, List.forall_mem_cons.mpr ⟨oX4_be_43, List.forall_mem_cons.mpr ⟨oX4_be_46, List.forall_mem_cons.mpr ⟨oX4_be_49, fun _ h => absurd h List.not_mem_nil⟩⟩⟩⟩⟩⟩⟩⟩⟩⟩⟩⟩⟩⟩⟩⟩⟩⟩⟩⟩⟩⟩⟩⟩
def dkwX4_canPlane_0 : List UInt8 := [42, 180, 0, 15, 27, 46, 16, 20, 162, 0, 7, 4, 167, 0, 4, 3, 172]
abbrev dktX4_canPlane_0 : List UInt8 := dkwX4_canPlane_0 ++ []
theorem dksX4_canPlane_0 : bcX4_canPlane.data.toList.drop 0 = dktX4_canPlane_0 := by decide +kernel
theorem dX4_canPlane_0 : decode bcX4_canPlane 0 = .ok (.aload_n 0, 1) := dk_42 (dk_at dksX4_canPlane_0 0 rfl rfl)
theorem dX4_canPlane_1 : decode bcX4_canPlane 1 = .ok (.getfield 15, 3) := dk_180 0 15 (dk_at dksX4_canPlane_0 1 rfl rfl)
theorem dX4_canPlane_4 : decode bcX4_canPlane 4 = .ok (.iload_n 1, 1) := dk_27 (dk_at dksX4_canPlane_0 4 rfl rfl)
theorem dX4_canPlane_5 : decode bcX4_canPlane 5 = .ok (.iaload, 1) := dk_46 (dk_at dksX4_canPlane_0 5 rfl rfl)
theorem dX4_canPlane_6 : decode bcX4_canPlane 6 = .ok (.bipush 20, 2) := dk_16 20 (dk_at dksX4_canPlane_0 6 rfl rfl)
theorem dX4_canPlane_8 : decode bcX4_canPlane 8 = .ok (.if_icmp .ge 7, 3) := dk_162 0 7 (dk_at dksX4_canPlane_0 8 rfl rfl)
theorem dX4_canPlane_11 : decode bcX4_canPlane 11 = .ok (.iconst 1, 1) := dk_4 (dk_at dksX4_canPlane_0 11 rfl rfl)
theorem dX4_canPlane_12 : decode bcX4_canPlane 12 = .ok (.goto 4, 3) := dk_167 0 4 (dk_at dksX4_canPlane_0 12 rfl rfl)
theorem dX4_canPlane_15 : decode bcX4_canPlane 15 = .ok (.iconst 0, 1) := dk_3 (dk_at dksX4_canPlane_0 15 rfl rfl)
theorem dX4_canPlane_16 : decode bcX4_canPlane 16 = .ok (.ireturn, 1) := dk_172 (dk_at dksX4_canPlane_0 16 rfl rfl)
abbrev SX4_canPlane (pc : Nat) (i : xI) : Prop := Snd "SwollenHouse$State" "canPlane" prog_18_method_5_code 2 (Option.some Jvm.ClassFile.FieldType.boolean) [] pc i
theorem oX4_canPlane_0 : SX4_canPlane 0 (i_aload 0 1) := snd_aload_n dX4_canPlane_0 rfl
theorem oX4_canPlane_1 : SX4_canPlane 1 (i_getf 3 1 4) := snd_getf dX4_canPlane_1 rfl (by decide) in_X4 (Or.inl q291) (Or.inl rfl) (by decide)
theorem oX4_canPlane_4 : SX4_canPlane 4 (i_iload 1 5) := snd_iload_n dX4_canPlane_4 rfl
theorem oX4_canPlane_5 : SX4_canPlane 5 (i_ai 0 6) := snd_ai0 dX4_canPlane_5
theorem oX4_canPlane_6 : SX4_canPlane 6 (i_const (.int (nI 20)) 8) := snd_bipush dX4_canPlane_6 (by decide)
theorem oX4_canPlane_8 : SX4_canPlane 8 (i_if2 (fun x y => y ≤ x) 15 11) := snd_icmp_ge dX4_canPlane_8 (by decide)
theorem oX4_canPlane_11 : SX4_canPlane 11 (i_const (.int (nI 1)) 12) := snd_iconst dX4_canPlane_11 (by decide)
theorem oX4_canPlane_12 : SX4_canPlane 12 (i_goto 16) := snd_goto dX4_canPlane_12 (by decide)
theorem oX4_canPlane_15 : SX4_canPlane 15 (i_const (.int (nI 0)) 16) := snd_iconst dX4_canPlane_15 (by decide)
theorem oX4_canPlane_16 : SX4_canPlane 16 (i_zret) := snd_zret dX4_canPlane_16 rfl
theorem okX4_canPlane : ∀ q ∈ cX4_canPlane, SX4_canPlane q.1 q.2 := List.forall_mem_cons.mpr ⟨oX4_canPlane_0, List.forall_mem_cons.mpr ⟨oX4_canPlane_1, List.forall_mem_cons.mpr ⟨oX4_canPlane_4, List.forall_mem_cons.mpr ⟨oX4_canPlane_5, List.forall_mem_cons.mpr ⟨oX4_canPlane_6, List.forall_mem_cons.mpr ⟨oX4_canPlane_8, List.forall_mem_cons.mpr ⟨oX4_canPlane_11, List.forall_mem_cons.mpr ⟨oX4_canPlane_12, List.forall_mem_cons.mpr ⟨oX4_canPlane_15, List.forall_mem_cons.mpr ⟨oX4_canPlane_16, fun _ h => absurd h List.not_mem_nil⟩⟩⟩⟩⟩⟩⟩⟩⟩⟩
def dkwX4_canWedge_1 : List UInt8 := [172]
abbrev dktX4_canWedge_1 : List UInt8 := dkwX4_canWedge_1 ++ []
def dkwX4_canWedge_0 : List UInt8 := [42, 180, 0, 25, 27, 184, 0, 53, 154, 0, 11, 42, 27, 182, 0, 57, 154, 0, 7, 4, 167, 0, 4, 3]
abbrev dktX4_canWedge_0 : List UInt8 := dkwX4_canWedge_0 ++ dktX4_canWedge_1
theorem dksX4_canWedge_0 : bcX4_canWedge.data.toList.drop 0 = dktX4_canWedge_0 := by decide +kernel
theorem dksX4_canWedge_1 : bcX4_canWedge.data.toList.drop 24 = dktX4_canWedge_1 := dk_seg dksX4_canWedge_0 24 rfl rfl
theorem dX4_canWedge_0 : decode bcX4_canWedge 0 = .ok (.aload_n 0, 1) := dk_42 (dk_at dksX4_canWedge_0 0 rfl rfl)
theorem dX4_canWedge_1 : decode bcX4_canWedge 1 = .ok (.getfield 25, 3) := dk_180 0 25 (dk_at dksX4_canWedge_0 1 rfl rfl)
theorem dX4_canWedge_4 : decode bcX4_canWedge 4 = .ok (.iload_n 1, 1) := dk_27 (dk_at dksX4_canWedge_0 4 rfl rfl)
theorem dX4_canWedge_5 : decode bcX4_canWedge 5 = .ok (.invokestatic 53, 3) := dk_184 0 53 (dk_at dksX4_canWedge_0 5 rfl rfl)
theorem dX4_canWedge_8 : decode bcX4_canWedge 8 = .ok (.ifCond .ne 11, 3) := dk_154 0 11 (dk_at dksX4_canWedge_0 8 rfl rfl)
theorem dX4_canWedge_11 : decode bcX4_canWedge 11 = .ok (.aload_n 0, 1) := dk_42 (dk_at dksX4_canWedge_0 11 rfl rfl)
theorem dX4_canWedge_12 : decode bcX4_canWedge 12 = .ok (.iload_n 1, 1) := dk_27 (dk_at dksX4_canWedge_0 12 rfl rfl)
theorem dX4_canWedge_13 : decode bcX4_canWedge 13 = .ok (.invokevirtual 57, 3) := dk_182 0 57 (dk_at dksX4_canWedge_0 13 rfl rfl)
theorem dX4_canWedge_16 : decode bcX4_canWedge 16 = .ok (.ifCond .ne 7, 3) := dk_154 0 7 (dk_at dksX4_canWedge_0 16 rfl rfl)
theorem dX4_canWedge_19 : decode bcX4_canWedge 19 = .ok (.iconst 1, 1) := dk_4 (dk_at dksX4_canWedge_0 19 rfl rfl)
theorem dX4_canWedge_20 : decode bcX4_canWedge 20 = .ok (.goto 4, 3) := dk_167 0 4 (dk_at dksX4_canWedge_0 20 rfl rfl)
theorem dX4_canWedge_23 : decode bcX4_canWedge 23 = .ok (.iconst 0, 1) := dk_3 (dk_at dksX4_canWedge_0 23 rfl rfl)
theorem dX4_canWedge_24 : decode bcX4_canWedge 24 = .ok (.ireturn, 1) := dk_172 (dk_at dksX4_canWedge_1 0 rfl rfl)
abbrev SX4_canWedge (pc : Nat) (i : xI) : Prop := Snd "SwollenHouse$State" "canWedge" prog_18_method_6_code 2 (Option.some Jvm.ClassFile.FieldType.boolean) [] pc i
theorem oX4_canWedge_0 : SX4_canWedge 0 (i_aload 0 1) := snd_aload_n dX4_canWedge_0 rfl
theorem oX4_canWedge_1 : SX4_canWedge 1 (i_getf 3 3 4) := snd_getf dX4_canWedge_1 rfl (by decide) in_X4 (Or.inl q298) (Or.inl rfl) (by decide)
theorem oX4_canWedge_4 : SX4_canWedge 4 (i_iload 1 5) := snd_iload_n dX4_canWedge_4 rfl
theorem oX4_canWedge_5 : SX4_canWedge 5 (i_cs 98 2 8) := snd_cs rfl infX1_isIn (by decide) (xSm_N dX4_canWedge_5 q1171 q1172 q127 q1173 pdX1_isIn)
theorem oX4_canWedge_8 : SX4_canWedge 8 (i_if1 (fun x => ¬ x = 0) 19 11) := snd_if_ne dX4_canWedge_8 (by decide)
theorem oX4_canWedge_11 : SX4_canWedge 11 (i_aload 0 12) := snd_aload_n dX4_canWedge_11 rfl
theorem oX4_canWedge_12 : SX4_canWedge 12 (i_iload 1 13) := snd_iload_n dX4_canWedge_12 rfl
theorem oX4_canWedge_13 : SX4_canWedge 13 (i_cv 3 238 1 16) := snd_cv rfl infX4_sticks (by decide) rfl (xVm_V dX4_canWedge_13 rfl q1314 q1168 q1169 q133 q1170 pdX4_sticks)
theorem oX4_canWedge_16 : SX4_canWedge 16 (i_if1 (fun x => ¬ x = 0) 23 19) := snd_if_ne dX4_canWedge_16 (by decide)
theorem oX4_canWedge_19 : SX4_canWedge 19 (i_const (.int (nI 1)) 20) := snd_iconst dX4_canWedge_19 (by decide)
theorem oX4_canWedge_20 : SX4_canWedge 20 (i_goto 24) := snd_goto dX4_canWedge_20 (by decide)
theorem oX4_canWedge_23 : SX4_canWedge 23 (i_const (.int (nI 0)) 24) := snd_iconst dX4_canWedge_23 (by decide)
theorem oX4_canWedge_24 : SX4_canWedge 24 (i_zret) := snd_zret dX4_canWedge_24 rfl
theorem okX4_canWedge : ∀ q ∈ cX4_canWedge, SX4_canWedge q.1 q.2 := List.forall_mem_cons.mpr ⟨oX4_canWedge_0, List.forall_mem_cons.mpr ⟨oX4_canWedge_1, List.forall_mem_cons.mpr ⟨oX4_canWedge_4, List.forall_mem_cons.mpr ⟨oX4_canWedge_5, List.forall_mem_cons.mpr ⟨oX4_canWedge_8, List.forall_mem_cons.mpr ⟨oX4_canWedge_11, List.forall_mem_cons.mpr ⟨oX4_canWedge_12, List.forall_mem_cons.mpr ⟨oX4_canWedge_13, List.forall_mem_cons.mpr ⟨oX4_canWedge_16, List.forall_mem_cons.mpr ⟨oX4_canWedge_19, List.forall_mem_cons.mpr ⟨oX4_canWedge_20, List.forall_mem_cons.mpr ⟨oX4_canWedge_23, List.forall_mem_cons.mpr ⟨oX4_canWedge_24, fun _ h => absurd h List.not_mem_nil⟩⟩⟩⟩⟩⟩⟩⟩⟩⟩⟩⟩⟩
def dkwX4_canForce_1 : List UInt8 := [163, 0, 7, 4, 167, 0, 4, 3, 172]
abbrev dktX4_canForce_1 : List UInt8 := dkwX4_canForce_1 ++ []
def dkwX4_canForce_0 : List UInt8 := [42, 27, 182, 0, 57, 153, 0, 24, 42, 180, 0, 9, 27, 46, 42, 180, 0, 15, 27, 46, 100, 5]
abbrev dktX4_canForce_0 : List UInt8 := dkwX4_canForce_0 ++ dktX4_canForce_1
theorem dksX4_canForce_0 : bcX4_canForce.data.toList.drop 0 = dktX4_canForce_0 := by decide +kernel
theorem dksX4_canForce_1 : bcX4_canForce.data.toList.drop 22 = dktX4_canForce_1 := dk_seg dksX4_canForce_0 22 rfl rfl
theorem dX4_canForce_0 : decode bcX4_canForce 0 = .ok (.aload_n 0, 1) := dk_42 (dk_at dksX4_canForce_0 0 rfl rfl)
theorem dX4_canForce_1 : decode bcX4_canForce 1 = .ok (.iload_n 1, 1) := dk_27 (dk_at dksX4_canForce_0 1 rfl rfl)
theorem dX4_canForce_2 : decode bcX4_canForce 2 = .ok (.invokevirtual 57, 3) := dk_182 0 57 (dk_at dksX4_canForce_0 2 rfl rfl)
theorem dX4_canForce_5 : decode bcX4_canForce 5 = .ok (.ifCond .eq 24, 3) := dk_153 0 24 (dk_at dksX4_canForce_0 5 rfl rfl)
theorem dX4_canForce_8 : decode bcX4_canForce 8 = .ok (.aload_n 0, 1) := dk_42 (dk_at dksX4_canForce_0 8 rfl rfl)
theorem dX4_canForce_9 : decode bcX4_canForce 9 = .ok (.getfield 9, 3) := dk_180 0 9 (dk_at dksX4_canForce_0 9 rfl rfl)
theorem dX4_canForce_12 : decode bcX4_canForce 12 = .ok (.iload_n 1, 1) := dk_27 (dk_at dksX4_canForce_0 12 rfl rfl)
theorem dX4_canForce_13 : decode bcX4_canForce 13 = .ok (.iaload, 1) := dk_46 (dk_at dksX4_canForce_0 13 rfl rfl)
theorem dX4_canForce_14 : decode bcX4_canForce 14 = .ok (.aload_n 0, 1) := dk_42 (dk_at dksX4_canForce_0 14 rfl rfl)
theorem dX4_canForce_15 : decode bcX4_canForce 15 = .ok (.getfield 15, 3) := dk_180 0 15 (dk_at dksX4_canForce_0 15 rfl rfl)
theorem dX4_canForce_18 : decode bcX4_canForce 18 = .ok (.iload_n 1, 1) := dk_27 (dk_at dksX4_canForce_0 18 rfl rfl)
theorem dX4_canForce_19 : decode bcX4_canForce 19 = .ok (.iaload, 1) := dk_46 (dk_at dksX4_canForce_0 19 rfl rfl)
theorem dX4_canForce_20 : decode bcX4_canForce 20 = .ok (.isub, 1) := dk_100 (dk_at dksX4_canForce_0 20 rfl rfl)
theorem dX4_canForce_21 : decode bcX4_canForce 21 = .ok (.iconst 2, 1) := dk_5 (dk_at dksX4_canForce_0 21 rfl rfl)
theorem dX4_canForce_22 : decode bcX4_canForce 22 = .ok (.if_icmp .gt 7, 3) := dk_163 0 7 (dk_at dksX4_canForce_1 0 rfl rfl)
theorem dX4_canForce_25 : decode bcX4_canForce 25 = .ok (.iconst 1, 1) := dk_4 (dk_at dksX4_canForce_1 3 rfl rfl)
theorem dX4_canForce_26 : decode bcX4_canForce 26 = .ok (.goto 4, 3) := dk_167 0 4 (dk_at dksX4_canForce_1 4 rfl rfl)
theorem dX4_canForce_29 : decode bcX4_canForce 29 = .ok (.iconst 0, 1) := dk_3 (dk_at dksX4_canForce_1 7 rfl rfl)
theorem dX4_canForce_30 : decode bcX4_canForce 30 = .ok (.ireturn, 1) := dk_172 (dk_at dksX4_canForce_1 8 rfl rfl)
abbrev SX4_canForce (pc : Nat) (i : xI) : Prop := Snd "SwollenHouse$State" "canForce" prog_18_method_7_code 2 (Option.some Jvm.ClassFile.FieldType.boolean) [] pc i
theorem oX4_canForce_0 : SX4_canForce 0 (i_aload 0 1) := snd_aload_n dX4_canForce_0 rfl
theorem oX4_canForce_1 : SX4_canForce 1 (i_iload 1 2) := snd_iload_n dX4_canForce_1 rfl
theorem oX4_canForce_2 : SX4_canForce 2 (i_cv 3 238 1 5) := snd_cv rfl infX4_sticks (by decide) rfl (xVm_V dX4_canForce_2 rfl q1314 q1168 q1169 q133 q1170 pdX4_sticks)
theorem oX4_canForce_5 : SX4_canForce 5 (i_if1 (fun x => x = 0) 29 8) := snd_if_eq dX4_canForce_5 (by decide)
theorem oX4_canForce_8 : SX4_canForce 8 (i_aload 0 9) := snd_aload_n dX4_canForce_8 rfl
theorem oX4_canForce_9 : SX4_canForce 9 (i_getf 3 0 12) := snd_getf dX4_canForce_9 rfl (by decide) in_X4 (Or.inl q288) (Or.inl rfl) (by decide)
theorem oX4_canForce_12 : SX4_canForce 12 (i_iload 1 13) := snd_iload_n dX4_canForce_12 rfl
theorem oX4_canForce_13 : SX4_canForce 13 (i_ai 0 14) := snd_ai0 dX4_canForce_13
theorem oX4_canForce_14 : SX4_canForce 14 (i_aload 0 15) := snd_aload_n dX4_canForce_14 rfl
theorem oX4_canForce_15 : SX4_canForce 15 (i_getf 3 1 18) := snd_getf dX4_canForce_15 rfl (by decide) in_X4 (Or.inl q291) (Or.inl rfl) (by decide)
theorem oX4_canForce_18 : SX4_canForce 18 (i_iload 1 19) := snd_iload_n dX4_canForce_18 rfl
theorem oX4_canForce_19 : SX4_canForce 19 (i_ai 0 20) := snd_ai0 dX4_canForce_19
theorem oX4_canForce_20 : SX4_canForce 20 (i_ii (fun x y => x - y) 21) := snd_isub dX4_canForce_20
theorem oX4_canForce_21 : SX4_canForce 21 (i_const (.int (nI 2)) 22) := snd_iconst dX4_canForce_21 (by decide)
theorem oX4_canForce_22 : SX4_canForce 22 (i_if2 (fun x y => y < x) 29 25) := snd_icmp_gt dX4_canForce_22 (by decide)
theorem oX4_canForce_25 : SX4_canForce 25 (i_const (.int (nI 1)) 26) := snd_iconst dX4_canForce_25 (by decide)
theorem oX4_canForce_26 : SX4_canForce 26 (i_goto 30) := snd_goto dX4_canForce_26 (by decide)
theorem oX4_canForce_29 : SX4_canForce 29 (i_const (.int (nI 0)) 30) := snd_iconst dX4_canForce_29 (by decide)
theorem oX4_canForce_30 : SX4_canForce 30 (i_zret) := snd_zret dX4_canForce_30 rfl
theorem okX4_canForce : ∀ q ∈ cX4_canForce, SX4_canForce q.1 q.2 := List.forall_mem_cons.mpr ⟨oX4_canForce_0, List.forall_mem_cons.mpr ⟨oX4_canForce_1, List.forall_mem_cons.mpr ⟨oX4_canForce_2, List.forall_mem_cons.mpr ⟨oX4_canForce_5, List.forall_mem_cons.mpr ⟨oX4_canForce_8, List.forall_mem_cons.mpr ⟨oX4_canForce_9, List.forall_mem_cons.mpr ⟨oX4_canForce_12, List.forall_mem_cons.mpr ⟨oX4_canForce_13, List.forall_mem_cons.mpr ⟨oX4_canForce_14, List.forall_mem_cons.mpr ⟨oX4_canForce_15, List.forall_mem_cons.mpr ⟨oX4_canForce_18, List.forall_mem_cons.mpr ⟨oX4_canForce_19, List.forall_mem_cons.mpr ⟨oX4_canForce_20, List.forall_mem_cons.mpr ⟨oX4_canForce_21, List.forall_mem_cons.mpr ⟨oX4_canForce_22, List.forall_mem_cons.mpr ⟨oX4_canForce_25, List.forall_mem_cons.mpr ⟨oX4_canForce_26, List.forall_mem_cons.mpr ⟨oX4_canForce_29, List.forall_mem_cons.mpr ⟨oX4_canForce_30, fun _ h => absurd h List.not_mem_nil⟩⟩⟩⟩⟩⟩⟩⟩⟩⟩⟩⟩⟩⟩⟩⟩⟩⟩⟩
def dkwX6_init_0 : List UInt8 := [42, 1, 1, 3, 3, 183, 0, 1, 42, 27, 16, 16, 28, 104, 96, 181, 0, 7, 177]
abbrev dktX6_init_0 : List UInt8 := dkwX6_init_0 ++ []
theorem dksX6_init_0 : bcX6_init.data.toList.drop 0 = dktX6_init_0 := by decide +kernel
theorem dX6_init_0 : decode bcX6_init 0 = .ok (.aload_n 0, 1) := dk_42 (dk_at dksX6_init_0 0 rfl rfl)
theorem dX6_init_1 : decode bcX6_init 1 = .ok (.aconst_null, 1) := dk_1 (dk_at dksX6_init_0 1 rfl rfl)
theorem dX6_init_2 : decode bcX6_init 2 = .ok (.aconst_null, 1) := dk_1 (dk_at dksX6_init_0 2 rfl rfl)
theorem dX6_init_3 : decode bcX6_init 3 = .ok (.iconst 0, 1) := dk_3 (dk_at dksX6_init_0 3 rfl rfl)
theorem dX6_init_4 : decode bcX6_init 4 = .ok (.iconst 0, 1) := dk_3 (dk_at dksX6_init_0 4 rfl rfl)
theorem dX6_init_5 : decode bcX6_init 5 = .ok (.invokespecial 1, 3) := dk_183 0 1 (dk_at dksX6_init_0 5 rfl rfl)
theorem dX6_init_8 : decode bcX6_init 8 = .ok (.aload_n 0, 1) := dk_42 (dk_at dksX6_init_0 8 rfl rfl)
theorem dX6_init_9 : decode bcX6_init 9 = .ok (.iload_n 1, 1) := dk_27 (dk_at dksX6_init_0 9 rfl rfl)
theorem dX6_init_10 : decode bcX6_init 10 = .ok (.bipush 16, 2) := dk_16 16 (dk_at dksX6_init_0 10 rfl rfl)
theorem dX6_init_12 : decode bcX6_init 12 = .ok (.iload_n 2, 1) := dk_28 (dk_at dksX6_init_0 12 rfl rfl)
theorem dX6_init_13 : decode bcX6_init 13 = .ok (.imul, 1) := dk_104 (dk_at dksX6_init_0 13 rfl rfl)
theorem dX6_init_14 : decode bcX6_init 14 = .ok (.iadd, 1) := dk_96 (dk_at dksX6_init_0 14 rfl rfl)
theorem dX6_init_15 : decode bcX6_init 15 = .ok (.putfield 7, 3) := dk_181 0 7 (dk_at dksX6_init_0 15 rfl rfl)
theorem dX6_init_18 : decode bcX6_init 18 = .ok (.return_, 1) := dk_177 (dk_at dksX6_init_0 18 rfl rfl)
abbrev SX6_init (pc : Nat) (i : xI) : Prop := Snd "SwollenHouse$Wrong" "<init>" prog_23_method_1_code 3 (Option.none : Option Jvm.ClassFile.FieldType) [] pc i
theorem oX6_init_0 : SX6_init 0 (i_aload 0 1) := snd_aload_n dX6_init_0 rfl
theorem oX6_init_1 : SX6_init 1 (i_const .null 2) := snd_null dX6_init_1
theorem oX6_init_2 : SX6_init 2 (i_const .null 3) := snd_null dX6_init_2
theorem oX6_init_3 : SX6_init 3 (i_const (.int (nI 0)) 4) := snd_iconst dX6_init_3 (by decide)
theorem oX6_init_4 : SX6_init 4 (i_const (.int (nI 0)) 5) := snd_iconst dX6_init_4 (by decide)
theorem oX6_init_5 : SX6_init 5 (i_ci [5] 6 4 8) := snd_ci rfl infJ12_init (by decide) (xcls_ok _ (by decide)) (xIm_I dX6_init_5 rfl q610 q611 q144 q612 pdJ12_init)
theorem oX6_init_8 : SX6_init 8 (i_aload 0 9) := snd_aload_n dX6_init_8 rfl
theorem oX6_init_9 : SX6_init 9 (i_iload 1 10) := snd_iload_n dX6_init_9 rfl
theorem oX6_init_10 : SX6_init 10 (i_const (.int (nI 16)) 12) := snd_bipush dX6_init_10 (by decide)
theorem oX6_init_12 : SX6_init 12 (i_iload 2 13) := snd_iload_n dX6_init_12 rfl
theorem oX6_init_13 : SX6_init 13 (i_ii (fun x y => x * y) 14) := snd_imul dX6_init_13
theorem oX6_init_14 : SX6_init 14 (i_ii (fun x y => x + y) 15) := snd_iadd dX6_init_14
theorem oX6_init_15 : SX6_init 15 (i_putfi 5 6 18) := snd_putfi dX6_init_15 rfl (by decide) in_X6 tyX6 tyX6_ok nmX6 (Or.inr (Or.inl ⟨rfl, rfl, rfl, q619⟩)) (Or.inl rfl) rfl
theorem oX6_init_18 : SX6_init 18 (i_vret) := snd_vret dX6_init_18 rfl
theorem okX6_init : ∀ q ∈ cX6_init, SX6_init q.1 q.2 := List.forall_mem_cons.mpr ⟨oX6_init_0, List.forall_mem_cons.mpr ⟨oX6_init_1, List.forall_mem_cons.mpr ⟨oX6_init_2, List.forall_mem_cons.mpr ⟨oX6_init_3, List.forall_mem_cons.mpr ⟨oX6_init_4, List.forall_mem_cons.mpr ⟨oX6_init_5, List.forall_mem_cons.mpr ⟨oX6_init_8, List.forall_mem_cons.mpr ⟨oX6_init_9, List.forall_mem_cons.mpr ⟨oX6_init_10, List.forall_mem_cons.mpr ⟨oX6_init_12, List.forall_mem_cons.mpr ⟨oX6_init_13, List.forall_mem_cons.mpr ⟨oX6_init_14, List.forall_mem_cons.mpr ⟨oX6_init_15, List.forall_mem_cons.mpr ⟨oX6_init_18, fun _ h => absurd h List.not_mem_nil⟩⟩⟩⟩⟩⟩⟩⟩⟩⟩⟩⟩⟩⟩
def dkwX7_isOf_0 : List UInt8 := [42, 180, 0, 7, 27, 159, 0, 11, 42, 180, 0, 13, 27, 160, 0, 7, 4, 167, 0, 4, 3, 172]
abbrev dktX7_isOf_0 : List UInt8 := dkwX7_isOf_0 ++ []
theorem dksX7_isOf_0 : bcX7_isOf.data.toList.drop 0 = dktX7_isOf_0 := by decide +kernel
theorem dX7_isOf_0 : decode bcX7_isOf 0 = .ok (.aload_n 0, 1) := dk_42 (dk_at dksX7_isOf_0 0 rfl rfl)
theorem dX7_isOf_1 : decode bcX7_isOf 1 = .ok (.getfield 7, 3) := dk_180 0 7 (dk_at dksX7_isOf_0 1 rfl rfl)
theorem dX7_isOf_4 : decode bcX7_isOf 4 = .ok (.iload_n 1, 1) := dk_27 (dk_at dksX7_isOf_0 4 rfl rfl)
theorem dX7_isOf_5 : decode bcX7_isOf 5 = .ok (.if_icmp .eq 11, 3) := dk_159 0 11 (dk_at dksX7_isOf_0 5 rfl rfl)
theorem dX7_isOf_8 : decode bcX7_isOf 8 = .ok (.aload_n 0, 1) := dk_42 (dk_at dksX7_isOf_0 8 rfl rfl)
theorem dX7_isOf_9 : decode bcX7_isOf 9 = .ok (.getfield 13, 3) := dk_180 0 13 (dk_at dksX7_isOf_0 9 rfl rfl)
theorem dX7_isOf_12 : decode bcX7_isOf 12 = .ok (.iload_n 1, 1) := dk_27 (dk_at dksX7_isOf_0 12 rfl rfl)
theorem dX7_isOf_13 : decode bcX7_isOf 13 = .ok (.if_icmp .ne 7, 3) := dk_160 0 7 (dk_at dksX7_isOf_0 13 rfl rfl)
theorem dX7_isOf_16 : decode bcX7_isOf 16 = .ok (.iconst 1, 1) := dk_4 (dk_at dksX7_isOf_0 16 rfl rfl)
theorem dX7_isOf_17 : decode bcX7_isOf 17 = .ok (.goto 4, 3) := dk_167 0 4 (dk_at dksX7_isOf_0 17 rfl rfl)
theorem dX7_isOf_20 : decode bcX7_isOf 20 = .ok (.iconst 0, 1) := dk_3 (dk_at dksX7_isOf_0 20 rfl rfl)
theorem dX7_isOf_21 : decode bcX7_isOf 21 = .ok (.ireturn, 1) := dk_172 (dk_at dksX7_isOf_0 21 rfl rfl)
abbrev SX7_isOf (pc : Nat) (i : xI) : Prop := Snd "SwollenHouse$Door" "isOf" prog_2_method_2_code 2 (Option.some Jvm.ClassFile.FieldType.boolean) [] pc i
theorem oX7_isOf_0 : SX7_isOf 0 (i_aload 0 1) := snd_aload_n dX7_isOf_0 rfl
theorem oX7_isOf_1 : SX7_isOf 1 (i_getf 6 0 4) := snd_getf dX7_isOf_1 rfl (by decide) in_X7 (Or.inl q910) (Or.inl rfl) (by decide)
theorem oX7_isOf_4 : SX7_isOf 4 (i_iload 1 5) := snd_iload_n dX7_isOf_4 rfl
theorem oX7_isOf_5 : SX7_isOf 5 (i_if2 (fun x y => x = y) 16 8) := snd_icmp_eq dX7_isOf_5 (by decide)
theorem oX7_isOf_8 : SX7_isOf 8 (i_aload 0 9) := snd_aload_n dX7_isOf_8 rfl
theorem oX7_isOf_9 : SX7_isOf 9 (i_getf 6 1 12) := snd_getf dX7_isOf_9 rfl (by decide) in_X7 (Or.inl q912) (Or.inl rfl) (by decide)
theorem oX7_isOf_12 : SX7_isOf 12 (i_iload 1 13) := snd_iload_n dX7_isOf_12 rfl
theorem oX7_isOf_13 : SX7_isOf 13 (i_if2 (fun x y => ¬ x = y) 20 16) := snd_icmp_ne dX7_isOf_13 (by decide)
theorem oX7_isOf_16 : SX7_isOf 16 (i_const (.int (nI 1)) 17) := snd_iconst dX7_isOf_16 (by decide)
theorem oX7_isOf_17 : SX7_isOf 17 (i_goto 21) := snd_goto dX7_isOf_17 (by decide)
theorem oX7_isOf_20 : SX7_isOf 20 (i_const (.int (nI 0)) 21) := snd_iconst dX7_isOf_20 (by decide)
theorem oX7_isOf_21 : SX7_isOf 21 (i_zret) := snd_zret dX7_isOf_21 rfl
theorem okX7_isOf : ∀ q ∈ cX7_isOf, SX7_isOf q.1 q.2 := List.forall_mem_cons.mpr ⟨oX7_isOf_0, List.forall_mem_cons.mpr ⟨oX7_isOf_1, List.forall_mem_cons.mpr ⟨oX7_isOf_4, List.forall_mem_cons.mpr ⟨oX7_isOf_5, List.forall_mem_cons.mpr ⟨oX7_isOf_8, List.forall_mem_cons.mpr ⟨oX7_isOf_9, List.forall_mem_cons.mpr ⟨oX7_isOf_12, List.forall_mem_cons.mpr ⟨oX7_isOf_13, List.forall_mem_cons.mpr ⟨oX7_isOf_16, List.forall_mem_cons.mpr ⟨oX7_isOf_17, List.forall_mem_cons.mpr ⟨oX7_isOf_20, List.forall_mem_cons.mpr ⟨oX7_isOf_21, fun _ h => absurd h List.not_mem_nil⟩⟩⟩⟩⟩⟩⟩⟩⟩⟩⟩⟩
def dkwX7_init_0 : List UInt8 := [42, 183, 0, 1, 42, 27, 181, 0, 7, 42, 28, 181, 0, 13, 177]
abbrev dktX7_init_0 : List UInt8 := dkwX7_init_0 ++ []
theorem dksX7_init_0 : bcX7_init.data.toList.drop 0 = dktX7_init_0 := by decide +kernel
theorem dX7_init_0 : decode bcX7_init 0 = .ok (.aload_n 0, 1) := dk_42 (dk_at dksX7_init_0 0 rfl rfl)
theorem dX7_init_1 : decode bcX7_init 1 = .ok (.invokespecial 1, 3) := dk_183 0 1 (dk_at dksX7_init_0 1 rfl rfl)
theorem dX7_init_4 : decode bcX7_init 4 = .ok (.aload_n 0, 1) := dk_42 (dk_at dksX7_init_0 4 rfl rfl)
theorem dX7_init_5 : decode bcX7_init 5 = .ok (.iload_n 1, 1) := dk_27 (dk_at dksX7_init_0 5 rfl rfl)
theorem dX7_init_6 : decode bcX7_init 6 = .ok (.putfield 7, 3) := dk_181 0 7 (dk_at dksX7_init_0 6 rfl rfl)
theorem dX7_init_9 : decode bcX7_init 9 = .ok (.aload_n 0, 1) := dk_42 (dk_at dksX7_init_0 9 rfl rfl)
theorem dX7_init_10 : decode bcX7_init 10 = .ok (.iload_n 2, 1) := dk_28 (dk_at dksX7_init_0 10 rfl rfl)
theorem dX7_init_11 : decode bcX7_init 11 = .ok (.putfield 13, 3) := dk_181 0 13 (dk_at dksX7_init_0 11 rfl rfl)
theorem dX7_init_14 : decode bcX7_init 14 = .ok (.return_, 1) := dk_177 (dk_at dksX7_init_0 14 rfl rfl)
abbrev SX7_init (pc : Nat) (i : xI) : Prop := Snd "SwollenHouse$Door" "<init>" prog_2_method_1_code 3 (Option.none : Option Jvm.ClassFile.FieldType) [] pc i
theorem oX7_init_0 : SX7_init 0 (i_aload 0 1) := snd_aload_n dX7_init_0 rfl
theorem oX7_init_1 : SX7_init 1 (i_oi 4) := snd_oi dX7_init_1 q909 q177 q_oicode
theorem oX7_init_4 : SX7_init 4 (i_aload 0 5) := snd_aload_n dX7_init_4 rfl
theorem oX7_init_5 : SX7_init 5 (i_iload 1 6) := snd_iload_n dX7_init_5 rfl
theorem oX7_init_6 : SX7_init 6 (i_putfi 6 0 9) := snd_putfi dX7_init_6 rfl (by decide) in_X7 tyX7 tyX7_ok nmX7 (Or.inr (Or.inl ⟨rfl, rfl, rfl, q910⟩)) (Or.inl rfl) rfl
theorem oX7_init_9 : SX7_init 9 (i_aload 0 10) := snd_aload_n dX7_init_9 rfl
theorem oX7_init_10 : SX7_init 10 (i_iload 2 11) := snd_iload_n dX7_init_10 rfl
theorem oX7_init_11 : SX7_init 11 (i_putfi 6 1 14) := snd_putfi dX7_init_11 rfl (by decide) in_X7 tyX7 tyX7_ok nmX7 (Or.inr (Or.inl ⟨rfl, rfl, rfl, q912⟩)) (Or.inl rfl) rfl
theorem oX7_init_14 : SX7_init 14 (i_vret) := snd_vret dX7_init_14 rfl
theorem okX7_init : ∀ q ∈ cX7_init, SX7_init q.1 q.2 := List.forall_mem_cons.mpr ⟨oX7_init_0, List.forall_mem_cons.mpr ⟨oX7_init_1, List.forall_mem_cons.mpr ⟨oX7_init_4, List.forall_mem_cons.mpr ⟨oX7_init_5, List.forall_mem_cons.mpr ⟨oX7_init_6, List.forall_mem_cons.mpr ⟨oX7_init_9, List.forall_mem_cons.mpr ⟨oX7_init_10, List.forall_mem_cons.mpr ⟨oX7_init_11, List.forall_mem_cons.mpr ⟨oX7_init_14, fun _ h => absurd h List.not_mem_nil⟩⟩⟩⟩⟩⟩⟩⟩⟩
def dkwX7_beyond_0 : List UInt8 := [27, 42, 180, 0, 7, 160, 0, 10, 42, 180, 0, 13, 167, 0, 7, 42, 180, 0, 7, 172]
abbrev dktX7_beyond_0 : List UInt8 := dkwX7_beyond_0 ++ []
theorem dksX7_beyond_0 : bcX7_beyond.data.toList.drop 0 = dktX7_beyond_0 := by decide +kernel
theorem dX7_beyond_0 : decode bcX7_beyond 0 = .ok (.iload_n 1, 1) := dk_27 (dk_at dksX7_beyond_0 0 rfl rfl)
theorem dX7_beyond_1 : decode bcX7_beyond 1 = .ok (.aload_n 0, 1) := dk_42 (dk_at dksX7_beyond_0 1 rfl rfl)
theorem dX7_beyond_2 : decode bcX7_beyond 2 = .ok (.getfield 7, 3) := dk_180 0 7 (dk_at dksX7_beyond_0 2 rfl rfl)
theorem dX7_beyond_5 : decode bcX7_beyond 5 = .ok (.if_icmp .ne 10, 3) := dk_160 0 10 (dk_at dksX7_beyond_0 5 rfl rfl)
theorem dX7_beyond_8 : decode bcX7_beyond 8 = .ok (.aload_n 0, 1) := dk_42 (dk_at dksX7_beyond_0 8 rfl rfl)
theorem dX7_beyond_9 : decode bcX7_beyond 9 = .ok (.getfield 13, 3) := dk_180 0 13 (dk_at dksX7_beyond_0 9 rfl rfl)
theorem dX7_beyond_12 : decode bcX7_beyond 12 = .ok (.goto 7, 3) := dk_167 0 7 (dk_at dksX7_beyond_0 12 rfl rfl)
theorem dX7_beyond_15 : decode bcX7_beyond 15 = .ok (.aload_n 0, 1) := dk_42 (dk_at dksX7_beyond_0 15 rfl rfl)
theorem dX7_beyond_16 : decode bcX7_beyond 16 = .ok (.getfield 7, 3) := dk_180 0 7 (dk_at dksX7_beyond_0 16 rfl rfl)
theorem dX7_beyond_19 : decode bcX7_beyond 19 = .ok (.ireturn, 1) := dk_172 (dk_at dksX7_beyond_0 19 rfl rfl)
abbrev SX7_beyond (pc : Nat) (i : xI) : Prop := Snd "SwollenHouse$Door" "beyond" prog_2_method_3_code 2 (Option.some Jvm.ClassFile.FieldType.int) [] pc i
theorem oX7_beyond_0 : SX7_beyond 0 (i_iload 1 1) := snd_iload_n dX7_beyond_0 rfl
theorem oX7_beyond_1 : SX7_beyond 1 (i_aload 0 2) := snd_aload_n dX7_beyond_1 rfl
theorem oX7_beyond_2 : SX7_beyond 2 (i_getf 6 0 5) := snd_getf dX7_beyond_2 rfl (by decide) in_X7 (Or.inl q910) (Or.inl rfl) (by decide)
theorem oX7_beyond_5 : SX7_beyond 5 (i_if2 (fun x y => ¬ x = y) 15 8) := snd_icmp_ne dX7_beyond_5 (by decide)
theorem oX7_beyond_8 : SX7_beyond 8 (i_aload 0 9) := snd_aload_n dX7_beyond_8 rfl
theorem oX7_beyond_9 : SX7_beyond 9 (i_getf 6 1 12) := snd_getf dX7_beyond_9 rfl (by decide) in_X7 (Or.inl q912) (Or.inl rfl) (by decide)
theorem oX7_beyond_12 : SX7_beyond 12 (i_goto 19) := snd_goto dX7_beyond_12 (by decide)
theorem oX7_beyond_15 : SX7_beyond 15 (i_aload 0 16) := snd_aload_n dX7_beyond_15 rfl
theorem oX7_beyond_16 : SX7_beyond 16 (i_getf 6 0 19) := snd_getf dX7_beyond_16 rfl (by decide) in_X7 (Or.inl q910) (Or.inl rfl) (by decide)
theorem oX7_beyond_19 : SX7_beyond 19 (i_iret) := snd_iret dX7_beyond_19 rfl
theorem okX7_beyond : ∀ q ∈ cX7_beyond, SX7_beyond q.1 q.2 := List.forall_mem_cons.mpr ⟨oX7_beyond_0, List.forall_mem_cons.mpr ⟨oX7_beyond_1, List.forall_mem_cons.mpr ⟨oX7_beyond_2, List.forall_mem_cons.mpr ⟨oX7_beyond_5, List.forall_mem_cons.mpr ⟨oX7_beyond_8, List.forall_mem_cons.mpr ⟨oX7_beyond_9, List.forall_mem_cons.mpr ⟨oX7_beyond_12, List.forall_mem_cons.mpr ⟨oX7_beyond_15, List.forall_mem_cons.mpr ⟨oX7_beyond_16, List.forall_mem_cons.mpr ⟨oX7_beyond_19, fun _ h => absurd h List.not_mem_nil⟩⟩⟩⟩⟩⟩⟩⟩⟩⟩
theorem dX8_init_0 : decode bcX8_init 0 = .ok (.aload_n 0, 1) := by decide +kernel
theorem dX8_init_1 : decode bcX8_init 1 = .ok (.invokespecial 1, 3) := by decide +kernel
theorem dX8_init_4 : decode bcX8_init 4 = .ok (.return_, 1) := by decide +kernel
abbrev SX8_init (pc : Nat) (i : xI) : Prop := Snd "SwollenHouse$Wood" "<init>" prog_22_method_1_code 1 (Option.none : Option Jvm.ClassFile.FieldType) [] pc i
theorem oX8_init_0 : SX8_init 0 (i_aload 0 1) := snd_aload_n dX8_init_0 rfl
theorem oX8_init_1 : SX8_init 1 (i_oi 4) := snd_oi dX8_init_1 q940 q177 q_oicode
theorem oX8_init_4 : SX8_init 4 (i_vret) := snd_vret dX8_init_4 rfl
theorem okX8_init : ∀ q ∈ cX8_init, SX8_init q.1 q.2 := List.forall_mem_cons.mpr ⟨oX8_init_0, List.forall_mem_cons.mpr ⟨oX8_init_1, List.forall_mem_cons.mpr ⟨oX8_init_4, fun _ h => absurd h List.not_mem_nil⟩⟩⟩
theorem dX9_init_0 : decode bcX9_init 0 = .ok (.aload_n 0, 1) := by decide +kernel
theorem dX9_init_1 : decode bcX9_init 1 = .ok (.invokespecial 1, 3) := by decide +kernel
theorem dX9_init_4 : decode bcX9_init 4 = .ok (.return_, 1) := by decide +kernel
abbrev SX9_init (pc : Nat) (i : xI) : Prop := Snd "SwollenHouse$Oak" "<init>" prog_13_method_1_code 1 (Option.none : Option Jvm.ClassFile.FieldType) [] pc i
theorem oX9_init_0 : SX9_init 0 (i_aload 0 1) := snd_aload_n dX9_init_0 rfl
theorem oX9_init_1 : SX9_init 1 (i_ci [7, 8, 9, 10] 370 0 4) := snd_ci rfl infX8_init (by decide) (xcls_ok _ (by decide)) (xIm_N dX9_init_1 rfl q937 q938 q152 q939 pdX8_init)
theorem oX9_init_4 : SX9_init 4 (i_vret) := snd_vret dX9_init_4 rfl
theorem okX9_init : ∀ q ∈ cX9_init, SX9_init q.1 q.2 := List.forall_mem_cons.mpr ⟨oX9_init_0, List.forall_mem_cons.mpr ⟨oX9_init_1, List.forall_mem_cons.mpr ⟨oX9_init_4, fun _ h => absurd h List.not_mem_nil⟩⟩⟩
theorem dX9_kind_0 : decode bcX9_kind 0 = .ok (.iconst 0, 1) := by decide +kernel
theorem dX9_kind_1 : decode bcX9_kind 1 = .ok (.ireturn, 1) := by decide +kernel
abbrev SX9_kind (pc : Nat) (i : xI) : Prop := Snd "SwollenHouse$Oak" "kind" prog_13_method_2_code 1 (Option.some Jvm.ClassFile.FieldType.int) [] pc i
theorem oX9_kind_0 : SX9_kind 0 (i_const (.int (nI 0)) 1) := snd_iconst dX9_kind_0 (by decide)
theorem oX9_kind_1 : SX9_kind 1 (i_iret) := snd_iret dX9_kind_1 rfl
theorem okX9_kind : ∀ q ∈ cX9_kind, SX9_kind q.1 q.2 := List.forall_mem_cons.mpr ⟨oX9_kind_0, List.forall_mem_cons.mpr ⟨oX9_kind_1, fun _ h => absurd h List.not_mem_nil⟩⟩
