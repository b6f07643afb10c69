set_option maxRecDepth 100000
theorem dX2_init_0 : decode bcX2_init 0 = .ok (.aload_n 0, 1) := by decide +kernel
theorem dX2_init_1 : decode bcX2_init 1 = .ok (.invokespecial 3, 3) := by decide +kernel
theorem dX2_init_4 : decode bcX2_init 4 = .ok (.return_, 1) := by decide +kernel
abbrev SX2_init (pc : Nat) (i : xI) : Prop := Snd "SwollenHouse$Reader" "<init>" prog_17_method_1_code 1 (Option.none : Option Jvm.ClassFile.FieldType) [] pc i
theorem oX2_init_0 : SX2_init 0 (i_aload 0 1) := snd_aload_n dX2_init_0 rfl
theorem oX2_init_1 : SX2_init 1 (i_oi 4) := snd_oi dX2_init_1 q184 q177 q_oicode
theorem oX2_init_4 : SX2_init 4 (i_vret) := snd_vret dX2_init_4 rfl
theorem okX2_init : ∀ q ∈ cX2_init, SX2_init q.1 q.2 := List.forall_mem_cons.mpr ⟨oX2_init_0, List.forall_mem_cons.mpr ⟨oX2_init_1, List.forall_mem_cons.mpr ⟨oX2_init_4, fun _ h => absurd h List.not_mem_nil⟩⟩⟩
def dkwX2_begin_1 : List UInt8 := [177]
abbrev dktX2_begin_1 : List UInt8 := dkwX2_begin_1 ++ []
def dkwX2_begin_0 : List UInt8 := [42, 43, 181, 0, 9, 42, 28, 181, 0, 15, 42, 3, 181, 0, 19, 42, 3, 181, 0, 22, 42, 182, 0, 25]
abbrev dktX2_begin_0 : List UInt8 := dkwX2_begin_0 ++ dktX2_begin_1
theorem dksX2_begin_0 : bcX2_begin.data.toList.drop 0 = dktX2_begin_0 := by decide +kernel
theorem dksX2_begin_1 : bcX2_begin.data.toList.drop 24 = dktX2_begin_1 := dk_seg dksX2_begin_0 24 rfl rfl
theorem dX2_begin_0 : decode bcX2_begin 0 = .ok (.aload_n 0, 1) := dk_42 (dk_at dksX2_begin_0 0 rfl rfl)
theorem dX2_begin_1 : decode bcX2_begin 1 = .ok (.aload_n 1, 1) := dk_43 (dk_at dksX2_begin_0 1 rfl rfl)
theorem dX2_begin_2 : decode bcX2_begin 2 = .ok (.putfield 9, 3) := dk_181 0 9 (dk_at dksX2_begin_0 2 rfl rfl)
theorem dX2_begin_5 : decode bcX2_begin 5 = .ok (.aload_n 0, 1) := dk_42 (dk_at dksX2_begin_0 5 rfl rfl)
theorem dX2_begin_6 : decode bcX2_begin 6 = .ok (.iload_n 2, 1) := dk_28 (dk_at dksX2_begin_0 6 rfl rfl)
theorem dX2_begin_7 : decode bcX2_begin 7 = .ok (.putfield 15, 3) := dk_181 0 15 (dk_at dksX2_begin_0 7 rfl rfl)
theorem dX2_begin_10 : decode bcX2_begin 10 = .ok (.aload_n 0, 1) := dk_42 (dk_at dksX2_begin_0 10 rfl rfl)
theorem dX2_begin_11 : decode bcX2_begin 11 = .ok (.iconst 0, 1) := dk_3 (dk_at dksX2_begin_0 11 rfl rfl)
theorem dX2_begin_12 : decode bcX2_begin 12 = .ok (.putfield 19, 3) := dk_181 0 19 (dk_at dksX2_begin_0 12 rfl rfl)
theorem dX2_begin_15 : decode bcX2_begin 15 = .ok (.aload_n 0, 1) := dk_42 (dk_at dksX2_begin_0 15 rfl rfl)
theorem dX2_begin_16 : decode bcX2_begin 16 = .ok (.iconst 0, 1) := dk_3 (dk_at dksX2_begin_0 16 rfl rfl)
theorem dX2_begin_17 : decode bcX2_begin 17 = .ok (.putfield 22, 3) := dk_181 0 22 (dk_at dksX2_begin_0 17 rfl rfl)
theorem dX2_begin_20 : decode bcX2_begin 20 = .ok (.aload_n 0, 1) := dk_42 (dk_at dksX2_begin_0 20 rfl rfl)
theorem dX2_begin_21 : decode bcX2_begin 21 = .ok (.invokevirtual 25, 3) := dk_182 0 25 (dk_at dksX2_begin_0 21 rfl rfl)
theorem dX2_begin_24 : decode bcX2_begin 24 = .ok (.return_, 1) := dk_177 (dk_at dksX2_begin_1 0 rfl rfl)
abbrev SX2_begin (pc : Nat) (i : xI) : Prop := Snd "SwollenHouse$Reader" "begin" prog_17_method_2_code 3 (Option.none : Option Jvm.ClassFile.FieldType) [] pc i
theorem oX2_begin_0 : SX2_begin 0 (i_aload 0 1) := snd_aload_n dX2_begin_0 rfl
theorem oX2_begin_1 : SX2_begin 1 (i_aload 1 2) := snd_aload_n dX2_begin_1 rfl
theorem oX2_begin_2 : SX2_begin 2 (i_putfr 1 0 5) := snd_putfr dX2_begin_2 rfl (by decide) in_X2 tyX2 tyX2_ok nmX2 (Or.inl ⟨rfl, q185⟩) (Or.inl rfl) (Or.inr ⟨_, rfl⟩)
theorem oX2_begin_5 : SX2_begin 5 (i_aload 0 6) := snd_aload_n dX2_begin_5 rfl
theorem oX2_begin_6 : SX2_begin 6 (i_iload 2 7) := snd_iload_n dX2_begin_6 rfl
theorem oX2_begin_7 : SX2_begin 7 (i_putfi 1 1 10) := snd_putfi dX2_begin_7 rfl (by decide) in_X2 tyX2 tyX2_ok nmX2 (Or.inl ⟨rfl, q186⟩) (Or.inl rfl) rfl
theorem oX2_begin_10 : SX2_begin 10 (i_aload 0 11) := snd_aload_n dX2_begin_10 rfl
theorem oX2_begin_11 : SX2_begin 11 (i_const (.int (nI 0)) 12) := snd_iconst dX2_begin_11 (by decide)
theorem oX2_begin_12 : SX2_begin 12 (i_putfi 1 2 15) := snd_putfi dX2_begin_12 rfl (by decide) in_X2 tyX2 tyX2_ok nmX2 (Or.inl ⟨rfl, q187⟩) (Or.inl rfl) rfl
theorem oX2_begin_15 : SX2_begin 15 (i_aload 0 16) := snd_aload_n dX2_begin_15 rfl
theorem oX2_begin_16 : SX2_begin 16 (i_const (.int (nI 0)) 17) := snd_iconst dX2_begin_16 (by decide)
theorem oX2_begin_17 : SX2_begin 17 (i_putfi 1 6 20) := snd_putfi dX2_begin_17 rfl (by decide) in_X2 tyX2 tyX2_ok nmX2 (Or.inl ⟨rfl, q191⟩) (Or.inl rfl) rfl
theorem oX2_begin_20 : SX2_begin 20 (i_aload 0 21) := snd_aload_n dX2_begin_20 rfl
theorem oX2_begin_21 : SX2_begin 21 (i_cvv 1 195 0 24) := snd_cvv rfl infX2_next (by decide) rfl (xVm_V dX2_begin_21 rfl q431 q433 qs1 q128 q434 pdX2_next)
theorem oX2_begin_24 : SX2_begin 24 (i_vret) := snd_vret dX2_begin_24 rfl
theorem okX2_begin : ∀ q ∈ cX2_begin, SX2_begin q.1 q.2 := List.forall_mem_cons.mpr ⟨oX2_begin_0, List.forall_mem_cons.mpr ⟨oX2_begin_1, List.forall_mem_cons.mpr ⟨oX2_begin_2, List.forall_mem_cons.mpr ⟨oX2_begin_5, List.forall_mem_cons.mpr ⟨oX2_begin_6, List.forall_mem_cons.mpr ⟨oX2_begin_7, List.forall_mem_cons.mpr ⟨oX2_begin_10, List.forall_mem_cons.mpr ⟨oX2_begin_11, List.forall_mem_cons.mpr ⟨oX2_begin_12, List.forall_mem_cons.mpr ⟨oX2_begin_15, List.forall_mem_cons.mpr ⟨oX2_begin_16, List.forall_mem_cons.mpr ⟨oX2_begin_17, List.forall_mem_cons.mpr ⟨oX2_begin_20, List.forall_mem_cons.mpr ⟨oX2_begin_21, List.forall_mem_cons.mpr ⟨oX2_begin_24, fun _ h => absurd h List.not_mem_nil⟩⟩⟩⟩⟩⟩⟩⟩⟩⟩⟩⟩⟩⟩⟩
def dkwX2_next_12 : List UInt8 := [6, 167, 0, 4, 7, 181, 0, 31, 42, 89, 180, 0, 19, 4, 96, 181, 0, 19, 177]
abbrev dktX2_next_12 : List UInt8 := dkwX2_next_12 ++ []
def dkwX2_next_11 : List UInt8 := [181, 0, 31, 167, 0, 39, 42, 18, 48, 42, 42, 180, 0, 19, 182, 0, 34, 146, 182, 0, 50, 155, 0, 7]
abbrev dktX2_next_11 : List UInt8 := dkwX2_next_11 ++ dktX2_next_12
def dkwX2_next_10 : List UInt8 := [167, 255, 189, 42, 42, 180, 0, 19, 42, 180, 0, 28, 100, 7, 164, 0, 7, 7, 167, 0, 4, 5]
abbrev dktX2_next_10 : List UInt8 := dkwX2_next_10 ++ dktX2_next_11
def dkwX2_next_9 : List UInt8 := [96, 16, 48, 100, 167, 0, 7, 42, 180, 0, 45, 181, 0, 45, 42, 89, 180, 0, 19, 4, 96, 181, 0, 19]
abbrev dktX2_next_9 : List UInt8 := dkwX2_next_9 ++ dktX2_next_10
def dkwX2_next_8 : List UInt8 := [42, 180, 0, 28, 100, 7, 162, 0, 25, 16, 10, 42, 180, 0, 45, 104, 42, 42, 180, 0, 19, 182, 0, 34]
abbrev dktX2_next_8 : List UInt8 := dkwX2_next_8 ++ dktX2_next_9
def dkwX2_next_7 : List UInt8 := [42, 3, 181, 0, 45, 42, 42, 180, 0, 19, 182, 0, 34, 184, 0, 42, 153, 0, 59, 42, 42, 180, 0, 19]
abbrev dktX2_next_7 : List UInt8 := dkwX2_next_7 ++ dktX2_next_8
def dkwX2_next_6 : List UInt8 := [167, 0, 4, 4, 181, 0, 31, 167, 0, 153, 42, 42, 180, 0, 19, 182, 0, 34, 184, 0, 42, 153, 0, 103]
abbrev dktX2_next_6 : List UInt8 := dkwX2_next_6 ++ dktX2_next_7
def dkwX2_next_5 : List UInt8 := [181, 0, 19, 167, 255, 232, 42, 42, 180, 0, 19, 42, 180, 0, 28, 100, 16, 8, 164, 0, 7, 7]
abbrev dktX2_next_5 : List UInt8 := dkwX2_next_5 ++ dktX2_next_6
def dkwX2_next_4 : List UInt8 := [153, 0, 56, 42, 42, 180, 0, 19, 182, 0, 34, 184, 0, 38, 153, 0, 16, 42, 89, 180, 0, 19, 4, 96]
abbrev dktX2_next_4 : List UInt8 := dkwX2_next_4 ++ dktX2_next_5
def dkwX2_next_3 : List UInt8 := [160, 0, 11, 42, 3, 181, 0, 31, 167, 0, 220, 42, 42, 180, 0, 19, 182, 0, 34, 184, 0, 38]
abbrev dktX2_next_3 : List UInt8 := dkwX2_next_3 ++ dktX2_next_4
def dkwX2_next_2 : List UInt8 := [181, 0, 19, 167, 255, 207, 42, 42, 180, 0, 19, 181, 0, 28, 42, 180, 0, 19, 42, 180, 0, 15]
abbrev dktX2_next_2 : List UInt8 := dkwX2_next_2 ++ dktX2_next_3
def dkwX2_next_1 : List UInt8 := [159, 0, 17, 42, 180, 0, 9, 42, 180, 0, 19, 51, 16, 32, 160, 0, 16, 42, 89, 180, 0, 19, 4, 96]
abbrev dktX2_next_1 : List UInt8 := dkwX2_next_1 ++ dktX2_next_2
def dkwX2_next_0 : List UInt8 := [42, 180, 0, 19, 42, 180, 0, 15, 162, 0, 44, 42, 180, 0, 9, 42, 180, 0, 19, 51, 16, 10]
abbrev dktX2_next_0 : List UInt8 := dkwX2_next_0 ++ dktX2_next_1
theorem dksX2_next_0 : bcX2_next.data.toList.drop 0 = dktX2_next_0 := by decide +kernel
theorem dksX2_next_1 : bcX2_next.data.toList.drop 22 = dktX2_next_1 := dk_seg dksX2_next_0 22 rfl rfl
theorem dksX2_next_2 : bcX2_next.data.toList.drop 46 = dktX2_next_2 := dk_seg dksX2_next_1 24 rfl rfl
theorem dksX2_next_3 : bcX2_next.data.toList.drop 68 = dktX2_next_3 := dk_seg dksX2_next_2 22 rfl rfl
theorem dksX2_next_4 : bcX2_next.data.toList.drop 90 = dktX2_next_4 := dk_seg dksX2_next_3 22 rfl rfl
theorem dksX2_next_5 : bcX2_next.data.toList.drop 114 = dktX2_next_5 := dk_seg dksX2_next_4 24 rfl rfl
theorem dksX2_next_6 : bcX2_next.data.toList.drop 136 = dktX2_next_6 := dk_seg dksX2_next_5 22 rfl rfl
theorem dksX2_next_7 : bcX2_next.data.toList.drop 160 = dktX2_next_7 := dk_seg dksX2_next_6 24 rfl rfl
theorem dksX2_next_8 : bcX2_next.data.toList.drop 184 = dktX2_next_8 := dk_seg dksX2_next_7 24 rfl rfl
theorem dksX2_next_9 : bcX2_next.data.toList.drop 208 = dktX2_next_9 := dk_seg dksX2_next_8 24 rfl rfl
theorem dksX2_next_10 : bcX2_next.data.toList.drop 232 = dktX2_next_10 := dk_seg dksX2_next_9 24 rfl rfl
theorem dksX2_next_11 : bcX2_next.data.toList.drop 254 = dktX2_next_11 := dk_seg dksX2_next_10 22 rfl rfl
theorem dksX2_next_12 : bcX2_next.data.toList.drop 278 = dktX2_next_12 := dk_seg dksX2_next_11 24 rfl rfl
theorem dX2_next_0 : decode bcX2_next 0 = .ok (.aload_n 0, 1) := dk_42 (dk_at dksX2_next_0 0 rfl rfl)
theorem dX2_next_1 : decode bcX2_next 1 = .ok (.getfield 19, 3) := dk_180 0 19 (dk_at dksX2_next_0 1 rfl rfl)
theorem dX2_next_4 : decode bcX2_next 4 = .ok (.aload_n 0, 1) := dk_42 (dk_at dksX2_next_0 4 rfl rfl)
theorem dX2_next_5 : decode bcX2_next 5 = .ok (.getfield 15, 3) := dk_180 0 15 (dk_at dksX2_next_0 5 rfl rfl)
theorem dX2_next_8 : decode bcX2_next 8 = .ok (.if_icmp .ge 44, 3) := dk_162 0 44 (dk_at dksX2_next_0 8 rfl rfl)
theorem dX2_next_11 : decode bcX2_next 11 = .ok (.aload_n 0, 1) := dk_42 (dk_at dksX2_next_0 11 rfl rfl)
theorem dX2_next_12 : decode bcX2_next 12 = .ok (.getfield 9, 3) := dk_180 0 9 (dk_at dksX2_next_0 12 rfl rfl)
theorem dX2_next_15 : decode bcX2_next 15 = .ok (.aload_n 0, 1) := dk_42 (dk_at dksX2_next_0 15 rfl rfl)
theorem dX2_next_16 : decode bcX2_next 16 = .ok (.getfield 19, 3) := dk_180 0 19 (dk_at dksX2_next_0 16 rfl rfl)
theorem dX2_next_19 : decode bcX2_next 19 = .ok (.baload, 1) := dk_51 (dk_at dksX2_next_0 19 rfl rfl)
theorem dX2_next_20 : decode bcX2_next 20 = .ok (.bipush 10, 2) := dk_16 10 (dk_at dksX2_next_0 20 rfl rfl)
theorem dX2_next_22 : decode bcX2_next 22 = .ok (.if_icmp .eq 17, 3) := dk_159 0 17 (dk_at dksX2_next_1 0 rfl rfl)
theorem dX2_next_25 : decode bcX2_next 25 = .ok (.aload_n 0, 1) := dk_42 (dk_at dksX2_next_1 3 rfl rfl)
theorem dX2_next_26 : decode bcX2_next 26 = .ok (.getfield 9, 3) := dk_180 0 9 (dk_at dksX2_next_1 4 rfl rfl)
theorem dX2_next_29 : decode bcX2_next 29 = .ok (.aload_n 0, 1) := dk_42 (dk_at dksX2_next_1 7 rfl rfl)
theorem dX2_next_30 : decode bcX2_next 30 = .ok (.getfield 19, 3) := dk_180 0 19 (dk_at dksX2_next_1 8 rfl rfl)
theorem dX2_next_33 : decode bcX2_next 33 = .ok (.baload, 1) := dk_51 (dk_at dksX2_next_1 11 rfl rfl)
theorem dX2_next_34 : decode bcX2_next 34 = .ok (.bipush 32, 2) := dk_16 32 (dk_at dksX2_next_1 12 rfl rfl)
theorem dX2_next_36 : decode bcX2_next 36 = .ok (.if_icmp .ne 16, 3) := dk_160 0 16 (dk_at dksX2_next_1 14 rfl rfl)
theorem dX2_next_39 : decode bcX2_next 39 = .ok (.aload_n 0, 1) := dk_42 (dk_at dksX2_next_1 17 rfl rfl)
theorem dX2_next_40 : decode bcX2_next 40 = .ok (.dup, 1) := dk_89 (dk_at dksX2_next_1 18 rfl rfl)
theorem dX2_next_41 : decode bcX2_next 41 = .ok (.getfield 19, 3) := dk_180 0 19 (dk_at dksX2_next_1 19 rfl rfl)
theorem dX2_next_44 : decode bcX2_next 44 = .ok (.iconst 1, 1) := dk_4 (dk_at dksX2_next_1 22 rfl rfl)
theorem dX2_next_45 : decode bcX2_next 45 = .ok (.iadd, 1) := dk_96 (dk_at dksX2_next_1 23 rfl rfl)
theorem dX2_next_46 : decode bcX2_next 46 = .ok (.putfield 19, 3) := dk_181 0 19 (dk_at dksX2_next_2 0 rfl rfl)
theorem dX2_next_49 : decode bcX2_next 49 = .ok (.goto (-49), 3) := dk_167 255 207 (dk_at dksX2_next_2 3 rfl rfl)
theorem dX2_next_52 : decode bcX2_next 52 = .ok (.aload_n 0, 1) := dk_42 (dk_at dksX2_next_2 6 rfl rfl)
theorem dX2_next_53 : decode bcX2_next 53 = .ok (.aload_n 0, 1) := dk_42 (dk_at dksX2_next_2 7 rfl rfl)
theorem dX2_next_54 : decode bcX2_next 54 = .ok (.getfield 19, 3) := dk_180 0 19 (dk_at dksX2_next_2 8 rfl rfl)
theorem dX2_next_57 : decode bcX2_next 57 = .ok (.putfield 28, 3) := dk_181 0 28 (dk_at dksX2_next_2 11 rfl rfl)
theorem dX2_next_60 : decode bcX2_next 60 = .ok (.aload_n 0, 1) := dk_42 (dk_at dksX2_next_2 14 rfl rfl)
theorem dX2_next_61 : decode bcX2_next 61 = .ok (.getfield 19, 3) := dk_180 0 19 (dk_at dksX2_next_2 15 rfl rfl)
theorem dX2_next_64 : decode bcX2_next 64 = .ok (.aload_n 0, 1) := dk_42 (dk_at dksX2_next_2 18 rfl rfl)
theorem dX2_next_65 : decode bcX2_next 65 = .ok (.getfield 15, 3) := dk_180 0 15 (dk_at dksX2_next_2 19 rfl rfl)
theorem dX2_next_68 : decode bcX2_next 68 = .ok (.if_icmp .ne 11, 3) := dk_160 0 11 (dk_at dksX2_next_3 0 rfl rfl)
theorem dX2_next_71 : decode bcX2_next 71 = .ok (.aload_n 0, 1) := dk_42 (dk_at dksX2_next_3 3 rfl rfl)
theorem dX2_next_72 : decode bcX2_next 72 = .ok (.iconst 0, 1) := dk_3 (dk_at dksX2_next_3 4 rfl rfl)
theorem dX2_next_73 : decode bcX2_next 73 = .ok (.putfield 31, 3) := dk_181 0 31 (dk_at dksX2_next_3 5 rfl rfl)
theorem dX2_next_76 : decode bcX2_next 76 = .ok (.goto 220, 3) := dk_167 0 220 (dk_at dksX2_next_3 8 rfl rfl)
theorem dX2_next_79 : decode bcX2_next 79 = .ok (.aload_n 0, 1) := dk_42 (dk_at dksX2_next_3 11 rfl rfl)
theorem dX2_next_80 : decode bcX2_next 80 = .ok (.aload_n 0, 1) := dk_42 (dk_at dksX2_next_3 12 rfl rfl)
theorem dX2_next_81 : decode bcX2_next 81 = .ok (.getfield 19, 3) := dk_180 0 19 (dk_at dksX2_next_3 13 rfl rfl)
theorem dX2_next_84 : decode bcX2_next 84 = .ok (.invokevirtual 34, 3) := dk_182 0 34 (dk_at dksX2_next_3 16 rfl rfl)
theorem dX2_next_87 : decode bcX2_next 87 = .ok (.invokestatic 38, 3) := dk_184 0 38 (dk_at dksX2_next_3 19 rfl rfl)
theorem dX2_next_90 : decode bcX2_next 90 = .ok (.ifCond .eq 56, 3) := dk_153 0 56 (dk_at dksX2_next_4 0 rfl rfl)
theorem dX2_next_93 : decode bcX2_next 93 = .ok (.aload_n 0, 1) := dk_42 (dk_at dksX2_next_4 3 rfl rfl)
theorem dX2_next_94 : decode bcX2_next 94 = .ok (.aload_n 0, 1) := dk_42 (dk_at dksX2_next_4 4 rfl rfl)
theorem dX2_next_95 : decode bcX2_next 95 = .ok (.getfield 19, 3) := dk_180 0 19 (dk_at dksX2_next_4 5 rfl rfl)
theorem dX2_next_98 : decode bcX2_next 98 = .ok (.invokevirtual 34, 3) := dk_182 0 34 (dk_at dksX2_next_4 8 rfl rfl)
theorem dX2_next_101 : decode bcX2_next 101 = .ok (.invokestatic 38, 3) := dk_184 0 38 (dk_at dksX2_next_4 11 rfl rfl)
theorem dX2_next_104 : decode bcX2_next 104 = .ok (.ifCond .eq 16, 3) := dk_153 0 16 (dk_at dksX2_next_4 14 rfl rfl)
theorem dX2_next_107 : decode bcX2_next 107 = .ok (.aload_n 0, 1) := dk_42 (dk_at dksX2_next_4 17 rfl rfl)
theorem dX2_next_108 : decode bcX2_next 108 = .ok (.dup, 1) := dk_89 (dk_at dksX2_next_4 18 rfl rfl)
theorem dX2_next_109 : decode bcX2_next 109 = .ok (.getfield 19, 3) := dk_180 0 19 (dk_at dksX2_next_4 19 rfl rfl)
theorem dX2_next_112 : decode bcX2_next 112 = .ok (.iconst 1, 1) := dk_4 (dk_at dksX2_next_4 22 rfl rfl)
theorem dX2_next_113 : decode bcX2_next 113 = .ok (.iadd, 1) := dk_96 (dk_at dksX2_next_4 23 rfl rfl)
theorem dX2_next_114 : decode bcX2_next 114 = .ok (.putfield 19, 3) := dk_181 0 19 (dk_at dksX2_next_5 0 rfl rfl)
theorem dX2_next_117 : decode bcX2_next 117 = .ok (.goto (-24), 3) := dk_167 255 232 (dk_at dksX2_next_5 3 rfl rfl)
theorem dX2_next_120 : decode bcX2_next 120 = .ok (.aload_n 0, 1) := dk_42 (dk_at dksX2_next_5 6 rfl rfl)
theorem dX2_next_121 : decode bcX2_next 121 = .ok (.aload_n 0, 1) := dk_42 (dk_at dksX2_next_5 7 rfl rfl)
theorem dX2_next_122 : decode bcX2_next 122 = .ok (.getfield 19, 3) := dk_180 0 19 (dk_at dksX2_next_5 8 rfl rfl)
theorem dX2_next_125 : decode bcX2_next 125 = .ok (.aload_n 0, 1) := dk_42 (dk_at dksX2_next_5 11 rfl rfl)
theorem dX2_next_126 : decode bcX2_next 126 = .ok (.getfield 28, 3) := dk_180 0 28 (dk_at dksX2_next_5 12 rfl rfl)
theorem dX2_next_129 : decode bcX2_next 129 = .ok (.isub, 1) := dk_100 (dk_at dksX2_next_5 15 rfl rfl)
theorem dX2_next_130 : decode bcX2_next 130 = .ok (.bipush 8, 2) := dk_16 8 (dk_at dksX2_next_5 16 rfl rfl)
theorem dX2_next_132 : decode bcX2_next 132 = .ok (.if_icmp .le 7, 3) := dk_164 0 7 (dk_at dksX2_next_5 18 rfl rfl)
theorem dX2_next_135 : decode bcX2_next 135 = .ok (.iconst 4, 1) := dk_7 (dk_at dksX2_next_5 21 rfl rfl)
theorem dX2_next_136 : decode bcX2_next 136 = .ok (.goto 4, 3) := dk_167 0 4 (dk_at dksX2_next_6 0 rfl rfl)
theorem dX2_next_139 : decode bcX2_next 139 = .ok (.iconst 1, 1) := dk_4 (dk_at dksX2_next_6 3 rfl rfl)
theorem dX2_next_140 : decode bcX2_next 140 = .ok (.putfield 31, 3) := dk_181 0 31 (dk_at dksX2_next_6 4 rfl rfl)
theorem dX2_next_143 : decode bcX2_next 143 = .ok (.goto 153, 3) := dk_167 0 153 (dk_at dksX2_next_6 7 rfl rfl)
theorem dX2_next_146 : decode bcX2_next 146 = .ok (.aload_n 0, 1) := dk_42 (dk_at dksX2_next_6 10 rfl rfl)
theorem dX2_next_147 : decode bcX2_next 147 = .ok (.aload_n 0, 1) := dk_42 (dk_at dksX2_next_6 11 rfl rfl)
theorem dX2_next_148 : decode bcX2_next 148 = .ok (.getfield 19, 3) := dk_180 0 19 (dk_at dksX2_next_6 12 rfl rfl)
theorem dX2_next_151 : decode bcX2_next 151 = .ok (.invokevirtual 34, 3) := dk_182 0 34 (dk_at dksX2_next_6 15 rfl rfl)
theorem dX2_next_154 : decode bcX2_next 154 = .ok (.invokestatic 42, 3) := dk_184 0 42 (dk_at dksX2_next_6 18 rfl rfl)
theorem dX2_next_157 : decode bcX2_next 157 = .ok (.ifCond .eq 103, 3) := dk_153 0 103 (dk_at dksX2_next_6 21 rfl rfl)
theorem dX2_next_160 : decode bcX2_next 160 = .ok (.aload_n 0, 1) := dk_42 (dk_at dksX2_next_7 0 rfl rfl)
theorem dX2_next_161 : decode bcX2_next 161 = .ok (.iconst 0, 1) := dk_3 (dk_at dksX2_next_7 1 rfl rfl)
theorem dX2_next_162 : decode bcX2_next 162 = .ok (.putfield 45, 3) := dk_181 0 45 (dk_at dksX2_next_7 2 rfl rfl)
theorem dX2_next_165 : decode bcX2_next 165 = .ok (.aload_n 0, 1) := dk_42 (dk_at dksX2_next_7 5 rfl rfl)
theorem dX2_next_166 : decode bcX2_next 166 = .ok (.aload_n 0, 1) := dk_42 (dk_at dksX2_next_7 6 rfl rfl)
theorem dX2_next_167 : decode bcX2_next 167 = .ok (.getfield 19, 3) := dk_180 0 19 (dk_at dksX2_next_7 7 rfl rfl)
theorem dX2_next_170 : decode bcX2_next 170 = .ok (.invokevirtual 34, 3) := dk_182 0 34 (dk_at dksX2_next_7 10 rfl rfl)
theorem dX2_next_173 : decode bcX2_next 173 = .ok (.invokestatic 42, 3) := dk_184 0 42 (dk_at dksX2_next_7 13 rfl rfl)
theorem dX2_next_176 : decode bcX2_next 176 = .ok (.ifCond .eq 59, 3) := dk_153 0 59 (dk_at dksX2_next_7 16 rfl rfl)
theorem dX2_next_179 : decode bcX2_next 179 = .ok (.aload_n 0, 1) := dk_42 (dk_at dksX2_next_7 19 rfl rfl)
theorem dX2_next_180 : decode bcX2_next 180 = .ok (.aload_n 0, 1) := dk_42 (dk_at dksX2_next_7 20 rfl rfl)
theorem dX2_next_181 : decode bcX2_next 181 = .ok (.getfield 19, 3) := dk_180 0 19 (dk_at dksX2_next_7 21 rfl rfl)
theorem dX2_next_184 : decode bcX2_next 184 = .ok (.aload_n 0, 1) := dk_42 (dk_at dksX2_next_8 0 rfl rfl)
theorem dX2_next_185 : decode bcX2_next 185 = .ok (.getfield 28, 3) := dk_180 0 28 (dk_at dksX2_next_8 1 rfl rfl)
theorem dX2_next_188 : decode bcX2_next 188 = .ok (.isub, 1) := dk_100 (dk_at dksX2_next_8 4 rfl rfl)
theorem dX2_next_189 : decode bcX2_next 189 = .ok (.iconst 4, 1) := dk_7 (dk_at dksX2_next_8 5 rfl rfl)
theorem dX2_next_190 : decode bcX2_next 190 = .ok (.if_icmp .ge 25, 3) := dk_162 0 25 (dk_at dksX2_next_8 6 rfl rfl)
theorem dX2_next_193 : decode bcX2_next 193 = .ok (.bipush 10, 2) := dk_16 10 (dk_at dksX2_next_8 9 rfl rfl)
theorem dX2_next_195 : decode bcX2_next 195 = .ok (.aload_n 0, 1) := dk_42 (dk_at dksX2_next_8 11 rfl rfl)
theorem dX2_next_196 : decode bcX2_next 196 = .ok (.getfield 45, 3) := dk_180 0 45 (dk_at dksX2_next_8 12 rfl rfl)
theorem dX2_next_199 : decode bcX2_next 199 = .ok (.imul, 1) := dk_104 (dk_at dksX2_next_8 15 rfl rfl)
theorem dX2_next_200 : decode bcX2_next 200 = .ok (.aload_n 0, 1) := dk_42 (dk_at dksX2_next_8 16 rfl rfl)
theorem dX2_next_201 : decode bcX2_next 201 = .ok (.aload_n 0, 1) := dk_42 (dk_at dksX2_next_8 17 rfl rfl)
theorem dX2_next_202 : decode bcX2_next 202 = .ok (.getfield 19, 3) := dk_180 0 19 (dk_at dksX2_next_8 18 rfl rfl)
theorem dX2_next_205 : decode bcX2_next 205 = .ok (.invokevirtual 34, 3) := dk_182 0 34 (dk_at dksX2_next_8 21 rfl rfl)
theorem dX2_next_208 : decode bcX2_next 208 = .ok (.iadd, 1) := dk_96 (dk_at dksX2_next_9 0 rfl rfl)
theorem dX2_next_209 : decode bcX2_next 209 = .ok (.bipush 48, 2) := dk_16 48 (dk_at dksX2_next_9 1 rfl rfl)
theorem dX2_next_211 : decode bcX2_next 211 = .ok (.isub, 1) := dk_100 (dk_at dksX2_next_9 3 rfl rfl)
theorem dX2_next_212 : decode bcX2_next 212 = .ok (.goto 7, 3) := dk_167 0 7 (dk_at dksX2_next_9 4 rfl rfl)
theorem dX2_next_215 : decode bcX2_next 215 = .ok (.aload_n 0, 1) := dk_42 (dk_at dksX2_next_9 7 rfl rfl)
theorem dX2_next_216 : decode bcX2_next 216 = .ok (.getfield 45, 3) := dk_180 0 45 (dk_at dksX2_next_9 8 rfl rfl)
theorem dX2_next_219 : decode bcX2_next 219 = .ok (.putfield 45, 3) := dk_181 0 45 (dk_at dksX2_next_9 11 rfl rfl)
theorem dX2_next_222 : decode bcX2_next 222 = .ok (.aload_n 0, 1) := dk_42 (dk_at dksX2_next_9 14 rfl rfl)
theorem dX2_next_223 : decode bcX2_next 223 = .ok (.dup, 1) := dk_89 (dk_at dksX2_next_9 15 rfl rfl)
theorem dX2_next_224 : decode bcX2_next 224 = .ok (.getfield 19, 3) := dk_180 0 19 (dk_at dksX2_next_9 16 rfl rfl)
theorem dX2_next_227 : decode bcX2_next 227 = .ok (.iconst 1, 1) := dk_4 (dk_at dksX2_next_9 19 rfl rfl)
theorem dX2_next_228 : decode bcX2_next 228 = .ok (.iadd, 1) := dk_96 (dk_at dksX2_next_9 20 rfl rfl)
theorem dX2_next_229 : decode bcX2_next 229 = .ok (.putfield 19, 3) := dk_181 0 19 (dk_at dksX2_next_9 21 rfl rfl)
theorem dX2_next_232 : decode bcX2_next 232 = .ok (.goto (-67), 3) := dk_167 255 189 (dk_at dksX2_next_10 0 rfl rfl)
theorem dX2_next_235 : decode bcX2_next 235 = .ok (.aload_n 0, 1) := dk_42 (dk_at dksX2_next_10 3 rfl rfl)
theorem dX2_next_236 : decode bcX2_next 236 = .ok (.aload_n 0, 1) := dk_42 (dk_at dksX2_next_10 4 rfl rfl)
theorem dX2_next_237 : decode bcX2_next 237 = .ok (.getfield 19, 3) := dk_180 0 19 (dk_at dksX2_next_10 5 rfl rfl)
theorem dX2_next_240 : decode bcX2_next 240 = .ok (.aload_n 0, 1) := dk_42 (dk_at dksX2_next_10 8 rfl rfl)
theorem dX2_next_241 : decode bcX2_next 241 = .ok (.getfield 28, 3) := dk_180 0 28 (dk_at dksX2_next_10 9 rfl rfl)
theorem dX2_next_244 : decode bcX2_next 244 = .ok (.isub, 1) := dk_100 (dk_at dksX2_next_10 12 rfl rfl)
theorem dX2_next_245 : decode bcX2_next 245 = .ok (.iconst 4, 1) := dk_7 (dk_at dksX2_next_10 13 rfl rfl)
theorem dX2_next_246 : decode bcX2_next 246 = .ok (.if_icmp .le 7, 3) := dk_164 0 7 (dk_at dksX2_next_10 14 rfl rfl)
theorem dX2_next_249 : decode bcX2_next 249 = .ok (.iconst 4, 1) := dk_7 (dk_at dksX2_next_10 17 rfl rfl)
theorem dX2_next_250 : decode bcX2_next 250 = .ok (.goto 4, 3) := dk_167 0 4 (dk_at dksX2_next_10 18 rfl rfl)
theorem dX2_next_253 : decode bcX2_next 253 = .ok (.iconst 2, 1) := dk_5 (dk_at dksX2_next_10 21 rfl rfl)
theorem dX2_next_254 : decode bcX2_next 254 = .ok (.putfield 31, 3) := dk_181 0 31 (dk_at dksX2_next_11 0 rfl rfl)
theorem dX2_next_257 : decode bcX2_next 257 = .ok (.goto 39, 3) := dk_167 0 39 (dk_at dksX2_next_11 3 rfl rfl)
theorem dX2_next_260 : decode bcX2_next 260 = .ok (.aload_n 0, 1) := dk_42 (dk_at dksX2_next_11 6 rfl rfl)
theorem dX2_next_261 : decode bcX2_next 261 = .ok (.ldc 48, 2) := dk_18 48 (dk_at dksX2_next_11 7 rfl rfl)
theorem dX2_next_263 : decode bcX2_next 263 = .ok (.aload_n 0, 1) := dk_42 (dk_at dksX2_next_11 9 rfl rfl)
theorem dX2_next_264 : decode bcX2_next 264 = .ok (.aload_n 0, 1) := dk_42 (dk_at dksX2_next_11 10 rfl rfl)
theorem dX2_next_265 : decode bcX2_next 265 = .ok (.getfield 19, 3) := dk_180 0 19 (dk_at dksX2_next_11 11 rfl rfl)
theorem dX2_next_268 : decode bcX2_next 268 = .ok (.invokevirtual 34, 3) := dk_182 0 34 (dk_at dksX2_next_11 14 rfl rfl)
theorem dX2_next_271 : decode bcX2_next 271 = .ok (.i2c, 1) := dk_146 (dk_at dksX2_next_11 17 rfl rfl)
theorem dX2_next_272 : decode bcX2_next 272 = .ok (.invokevirtual 50, 3) := dk_182 0 50 (dk_at dksX2_next_11 18 rfl rfl)
theorem dX2_next_275 : decode bcX2_next 275 = .ok (.ifCond .lt 7, 3) := dk_155 0 7 (dk_at dksX2_next_11 21 rfl rfl)
theorem dX2_next_278 : decode bcX2_next 278 = .ok (.iconst 3, 1) := dk_6 (dk_at dksX2_next_12 0 rfl rfl)
theorem dX2_next_279 : decode bcX2_next 279 = .ok (.goto 4, 3) := dk_167 0 4 (dk_at dksX2_next_12 1 rfl rfl)
theorem dX2_next_282 : decode bcX2_next 282 = .ok (.iconst 4, 1) := dk_7 (dk_at dksX2_next_12 4 rfl rfl)
theorem dX2_next_283 : decode bcX2_next 283 = .ok (.putfield 31, 3) := dk_181 0 31 (dk_at dksX2_next_12 5 rfl rfl)
theorem dX2_next_286 : decode bcX2_next 286 = .ok (.aload_n 0, 1) := dk_42 (dk_at dksX2_next_12 8 rfl rfl)
theorem dX2_next_287 : decode bcX2_next 287 = .ok (.dup, 1) := dk_89 (dk_at dksX2_next_12 9 rfl rfl)
theorem dX2_next_288 : decode bcX2_next 288 = .ok (.getfield 19, 3) := dk_180 0 19 (dk_at dksX2_next_12 10 rfl rfl)
theorem dX2_next_291 : decode bcX2_next 291 = .ok (.iconst 1, 1) := dk_4 (dk_at dksX2_next_12 13 rfl rfl)
theorem dX2_next_292 : decode bcX2_next 292 = .ok (.iadd, 1) := dk_96 (dk_at dksX2_next_12 14 rfl rfl)
theorem dX2_next_293 : decode bcX2_next 293 = .ok (.putfield 19, 3) := dk_181 0 19 (dk_at dksX2_next_12 15 rfl rfl)
theorem dX2_next_296 : decode bcX2_next 296 = .ok (.return_, 1) := dk_177 (dk_at dksX2_next_12 18 rfl rfl)
abbrev SX2_next (pc : Nat) (i : xI) : Prop := Snd "SwollenHouse$Reader" "next" prog_17_method_6_code 1 (Option.none : Option Jvm.ClassFile.FieldType) [] pc i
theorem oX2_next_0 : SX2_next 0 (i_aload 0 1) := snd_aload_n dX2_next_0 rfl
theorem oX2_next_1 : SX2_next 1 (i_getf 1 2 4) := snd_getf dX2_next_1 rfl (by decide) in_X2 (Or.inl q187) (Or.inl rfl) (by decide)
theorem oX2_next_4 : SX2_next 4 (i_aload 0 5) := snd_aload_n dX2_next_4 rfl
theorem oX2_next_5 : SX2_next 5 (i_getf 1 1 8) := snd_getf dX2_next_5 rfl (by decide) in_X2 (Or.inl q186) (Or.inl rfl) (by decide)
theorem oX2_next_8 : SX2_next 8 (i_if2 (fun x y => y ≤ x) 52 11) := snd_icmp_ge dX2_next_8 (by decide)
theorem oX2_next_11 : SX2_next 11 (i_aload 0 12) := snd_aload_n dX2_next_11 rfl
theorem oX2_next_12 : SX2_next 12 (i_getf 1 0 15) := snd_getf dX2_next_12 rfl (by decide) in_X2 (Or.inl q185) (Or.inl rfl) (by decide)
theorem oX2_next_15 : SX2_next 15 (i_aload 0 16) := snd_aload_n dX2_next_15 rfl
theorem oX2_next_16 : SX2_next 16 (i_getf 1 2 19) := snd_getf dX2_next_16 rfl (by decide) in_X2 (Or.inl q187) (Or.inl rfl) (by decide)
theorem oX2_next_19 : SX2_next 19 (i_ai 1 20) := snd_ai1 dX2_next_19
theorem oX2_next_20 : SX2_next 20 (i_const (.int (nI 10)) 22) := snd_bipush dX2_next_20 (by decide)
theorem oX2_next_22 : SX2_next 22 (i_if2 (fun x y => x = y) 39 25) := snd_icmp_eq dX2_next_22 (by decide)
theorem oX2_next_25 : SX2_next 25 (i_aload 0 26) := snd_aload_n dX2_next_25 rfl
theorem oX2_next_26 : SX2_next 26 (i_getf 1 0 29) := snd_getf dX2_next_26 rfl (by decide) in_X2 (Or.inl q185) (Or.inl rfl) (by decide)
theorem oX2_next_29 : SX2_next 29 (i_aload 0 30) := snd_aload_n dX2_next_29 rfl
theorem oX2_next_30 : SX2_next 30 (i_getf 1 2 33) := snd_getf dX2_next_30 rfl (by decide) in_X2 (Or.inl q187) (Or.inl rfl) (by decide)
theorem oX2_next_33 : SX2_next 33 (i_ai 1 34) := snd_ai1 dX2_next_33
theorem oX2_next_34 : SX2_next 34 (i_const (.int (nI 32)) 36) := snd_bipush dX2_next_34 (by decide)
theorem oX2_next_36 : SX2_next 36 (i_if2 (fun x y => ¬ x = y) 52 39) := snd_icmp_ne dX2_next_36 (by decide)
theorem oX2_next_39 : SX2_next 39 (i_aload 0 40) := snd_aload_n dX2_next_39 rfl
theorem oX2_next_40 : SX2_next 40 (i_dup 41) := snd_dup dX2_next_40
theorem oX2_next_41 : SX2_next 41 (i_getf 1 2 44) := snd_getf dX2_next_41 rfl (by decide) in_X2 (Or.inl q187) (Or.inl rfl) (by decide)
theorem oX2_next_44 : SX2_next 44 (i_const (.int (nI 1)) 45) := snd_iconst dX2_next_44 (by decide)
theorem oX2_next_45 : SX2_next 45 (i_ii (fun x y => x + y) 46) := snd_iadd dX2_next_45
theorem oX2_next_46 : SX2_next 46 (i_putfi 1 2 49) := snd_putfi dX2_next_46 rfl (by decide) in_X2 tyX2 tyX2_ok nmX2 (Or.inl ⟨rfl, q187⟩) (Or.inl rfl) rfl
theorem oX2_next_49 : SX2_next 49 (i_goto 0) := snd_goto dX2_next_49 (by decide)
theorem oX2_next_52 : SX2_next 52 (i_aload 0 53) := snd_aload_n dX2_next_52 rfl
theorem oX2_next_53 : SX2_next 53 (i_aload 0 54) := snd_aload_n dX2_next_53 rfl
theorem oX2_next_54 : SX2_next 54 (i_getf 1 2 57) := snd_getf dX2_next_54 rfl (by decide) in_X2 (Or.inl q187) (Or.inl rfl) (by decide)
theorem oX2_next_57 : SX2_next 57 (i_putfi 1 4 60) := snd_putfi dX2_next_57 rfl (by decide) in_X2 tyX2 tyX2_ok nmX2 (Or.inl ⟨rfl, q189⟩) (Or.inl rfl) rfl
theorem oX2_next_60 : SX2_next 60 (i_aload 0 61) := snd_aload_n dX2_next_60 rfl
theorem oX2_next_61 : SX2_next 61 (i_getf 1 2 64) := snd_getf dX2_next_61 rfl (by decide) in_X2 (Or.inl q187) (Or.inl rfl) (by decide)
theorem oX2_next_64 : SX2_next 64 (i_aload 0 65) := snd_aload_n dX2_next_64 rfl
theorem oX2_next_65 : SX2_next 65 (i_getf 1 1 68) := snd_getf dX2_next_65 rfl (by decide) in_X2 (Or.inl q186) (Or.inl rfl) (by decide)
theorem oX2_next_68 : SX2_next 68 (i_if2 (fun x y => ¬ x = y) 79 71) := snd_icmp_ne dX2_next_68 (by decide)
theorem oX2_next_71 : SX2_next 71 (i_aload 0 72) := snd_aload_n dX2_next_71 rfl
theorem oX2_next_72 : SX2_next 72 (i_const (.int (nI 0)) 73) := snd_iconst dX2_next_72 (by decide)
theorem oX2_next_73 : SX2_next 73 (i_putfi 1 3 76) := snd_putfi dX2_next_73 rfl (by decide) in_X2 tyX2 tyX2_ok nmX2 (Or.inl ⟨rfl, q188⟩) (Or.inl rfl) rfl
theorem oX2_next_76 : SX2_next 76 (i_goto 296) := snd_goto dX2_next_76 (by decide)
theorem oX2_next_79 : SX2_next 79 (i_aload 0 80) := snd_aload_n dX2_next_79 rfl
theorem oX2_next_80 : SX2_next 80 (i_aload 0 81) := snd_aload_n dX2_next_80 rfl
theorem oX2_next_81 : SX2_next 81 (i_getf 1 2 84) := snd_getf dX2_next_81 rfl (by decide) in_X2 (Or.inl q187) (Or.inl rfl) (by decide)
theorem oX2_next_84 : SX2_next 84 (i_cv 1 196 1 87) := snd_cv rfl infX2_at (by decide) rfl (xVm_V dX2_next_84 rfl q435 q437 qs2 q128 q438 pdX2_at)
theorem oX2_next_87 : SX2_next 87 (i_cs 197 1 90) := snd_cs rfl infX2_isLetter (by decide) (xSm_S dX2_next_87 q439 q440 q128 q441 pdX2_isLetter)
theorem oX2_next_90 : SX2_next 90 (i_if1 (fun x => x = 0) 146 93) := snd_if_eq dX2_next_90 (by decide)
theorem oX2_next_93 : SX2_next 93 (i_aload 0 94) := snd_aload_n dX2_next_93 rfl
theorem oX2_next_94 : SX2_next 94 (i_aload 0 95) := snd_aload_n dX2_next_94 rfl
theorem oX2_next_95 : SX2_next 95 (i_getf 1 2 98) := snd_getf dX2_next_95 rfl (by decide) in_X2 (Or.inl q187) (Or.inl rfl) (by decide)
theorem oX2_next_98 : SX2_next 98 (i_cv 1 196 1 101) := snd_cv rfl infX2_at (by decide) rfl (xVm_V dX2_next_98 rfl q435 q437 qs2 q128 q438 pdX2_at)
theorem oX2_next_101 : SX2_next 101 (i_cs 197 1 104) := snd_cs rfl infX2_isLetter (by decide) (xSm_S dX2_next_101 q439 q440 q128 q441 pdX2_isLetter)
theorem oX2_next_104 : SX2_next 104 (i_if1 (fun x => x = 0) 120 107) := snd_if_eq dX2_next_104 (by decide)
theorem oX2_next_107 : SX2_next 107 (i_aload 0 108) := snd_aload_n dX2_next_107 rfl
theorem oX2_next_108 : SX2_next 108 (i_dup 109) := snd_dup dX2_next_108
theorem oX2_next_109 : SX2_next 109 (i_getf 1 2 112) := snd_getf dX2_next_109 rfl (by decide) in_X2 (Or.inl q187) (Or.inl rfl) (by decide)
theorem oX2_next_112 : SX2_next 112 (i_const (.int (nI 1)) 113) := snd_iconst dX2_next_112 (by decide)
theorem oX2_next_113 : SX2_next 113 (i_ii (fun x y => x + y) 114) := snd_iadd dX2_next_113
theorem oX2_next_114 : SX2_next 114 (i_putfi 1 2 117) := snd_putfi dX2_next_114 rfl (by decide) in_X2 tyX2 tyX2_ok nmX2 (Or.inl ⟨rfl, q187⟩) (Or.inl rfl) rfl
theorem oX2_next_117 : SX2_next 117 (i_goto 93) := snd_goto dX2_next_117 (by decide)
theorem oX2_next_120 : SX2_next 120 (i_aload 0 121) := snd_aload_n dX2_next_120 rfl
theorem oX2_next_121 : SX2_next 121 (i_aload 0 122) := snd_aload_n dX2_next_121 rfl
theorem oX2_next_122 : SX2_next 122 (i_getf 1 2 125) := snd_getf dX2_next_122 rfl (by decide) in_X2 (Or.inl q187) (Or.inl rfl) (by decide)
theorem oX2_next_125 : SX2_next 125 (i_aload 0 126) := snd_aload_n dX2_next_125 rfl
theorem oX2_next_126 : SX2_next 126 (i_getf 1 4 129) := snd_getf dX2_next_126 rfl (by decide) in_X2 (Or.inl q189) (Or.inl rfl) (by decide)
theorem oX2_next_129 : SX2_next 129 (i_ii (fun x y => x - y) 130) := snd_isub dX2_next_129
theorem oX2_next_130 : SX2_next 130 (i_const (.int (nI 8)) 132) := snd_bipush dX2_next_130 (by decide)
theorem oX2_next_132 : SX2_next 132 (i_if2 (fun x y => x ≤ y) 139 135) := snd_icmp_le dX2_next_132 (by decide)
theorem oX2_next_135 : SX2_next 135 (i_const (.int (nI 4)) 136) := snd_iconst dX2_next_135 (by decide)
theorem oX2_next_136 : SX2_next 136 (i_goto 140) := snd_goto dX2_next_136 (by decide)
theorem oX2_next_139 : SX2_next 139 (i_const (.int (nI 1)) 140) := snd_iconst dX2_next_139 (by decide)
theorem oX2_next_140 : SX2_next 140 (i_putfi 1 3 143) := snd_putfi dX2_next_140 rfl (by decide) in_X2 tyX2 tyX2_ok nmX2 (Or.inl ⟨rfl, q188⟩) (Or.inl rfl) rfl
theorem oX2_next_143 : SX2_next 143 (i_goto 296) := snd_goto dX2_next_143 (by decide)
theorem oX2_next_146 : SX2_next 146 (i_aload 0 147) := snd_aload_n dX2_next_146 rfl
theorem oX2_next_147 : SX2_next 147 (i_aload 0 148) := snd_aload_n dX2_next_147 rfl
theorem oX2_next_148 : SX2_next 148 (i_getf 1 2 151) := snd_getf dX2_next_148 rfl (by decide) in_X2 (Or.inl q187) (Or.inl rfl) (by decide)
theorem oX2_next_151 : SX2_next 151 (i_cv 1 196 1 154) := snd_cv rfl infX2_at (by decide) rfl (xVm_V dX2_next_151 rfl q435 q437 qs2 q128 q438 pdX2_at)
theorem oX2_next_154 : SX2_next 154 (i_cs 198 1 157) := snd_cs rfl infX2_isDigit (by decide) (xSm_S dX2_next_154 q442 q443 q128 q444 pdX2_isDigit)
theorem oX2_next_157 : SX2_next 157 (i_if1 (fun x => x = 0) 260 160) := snd_if_eq dX2_next_157 (by decide)
theorem oX2_next_160 : SX2_next 160 (i_aload 0 161) := snd_aload_n dX2_next_160 rfl
theorem oX2_next_161 : SX2_next 161 (i_const (.int (nI 0)) 162) := snd_iconst dX2_next_161 (by decide)
theorem oX2_next_162 : SX2_next 162 (i_putfi 1 5 165) := snd_putfi dX2_next_162 rfl (by decide) in_X2 tyX2 tyX2_ok nmX2 (Or.inl ⟨rfl, q190⟩) (Or.inl rfl) rfl
theorem oX2_next_165 : SX2_next 165 (i_aload 0 166) := snd_aload_n dX2_next_165 rfl
theorem oX2_next_166 : SX2_next 166 (i_aload 0 167) := snd_aload_n dX2_next_166 rfl
theorem oX2_next_167 : SX2_next 167 (i_getf 1 2 170) := snd_getf dX2_next_167 rfl (by decide) in_X2 (Or.inl q187) (Or.inl rfl) (by decide)
theorem oX2_next_170 : SX2_next 170 (i_cv 1 196 1 173) := snd_cv rfl infX2_at (by decide) rfl (xVm_V dX2_next_170 rfl q435 q437 qs2 q128 q438 pdX2_at)
theorem oX2_next_173 : SX2_next 173 (i_cs 198 1 176) := snd_cs rfl infX2_isDigit (by decide) (xSm_S dX2_next_173 q442 q443 q128 q444 pdX2_isDigit)
theorem oX2_next_176 : SX2_next 176 (i_if1 (fun x => x = 0) 235 179) := snd_if_eq dX2_next_176 (by decide)
theorem oX2_next_179 : SX2_next 179 (i_aload 0 180) := snd_aload_n dX2_next_179 rfl
theorem oX2_next_180 : SX2_next 180 (i_aload 0 181) := snd_aload_n dX2_next_180 rfl
theorem oX2_next_181 : SX2_next 181 (i_getf 1 2 184) := snd_getf dX2_next_181 rfl (by decide) in_X2 (Or.inl q187) (Or.inl rfl) (by decide)
theorem oX2_next_184 : SX2_next 184 (i_aload 0 185) := snd_aload_n dX2_next_184 rfl
theorem oX2_next_185 : SX2_next 185 (i_getf 1 4 188) := snd_getf dX2_next_185 rfl (by decide) in_X2 (Or.inl q189) (Or.inl rfl) (by decide)
theorem oX2_next_188 : SX2_next 188 (i_ii (fun x y => x - y) 189) := snd_isub dX2_next_188
theorem oX2_next_189 : SX2_next 189 (i_const (.int (nI 4)) 190) := snd_iconst dX2_next_189 (by decide)
theorem oX2_next_190 : SX2_next 190 (i_if2 (fun x y => y ≤ x) 215 193) := snd_icmp_ge dX2_next_190 (by decide)
theorem oX2_next_193 : SX2_next 193 (i_const (.int (nI 10)) 195) := snd_bipush dX2_next_193 (by decide)
theorem oX2_next_195 : SX2_next 195 (i_aload 0 196) := snd_aload_n dX2_next_195 rfl
theorem oX2_next_196 : SX2_next 196 (i_getf 1 5 199) := snd_getf dX2_next_196 rfl (by decide) in_X2 (Or.inl q190) (Or.inl rfl) (by decide)
theorem oX2_next_199 : SX2_next 199 (i_ii (fun x y => x * y) 200) := snd_imul dX2_next_199
theorem oX2_next_200 : SX2_next 200 (i_aload 0 201) := snd_aload_n dX2_next_200 rfl
theorem oX2_next_201 : SX2_next 201 (i_aload 0 202) := snd_aload_n dX2_next_201 rfl
theorem oX2_next_202 : SX2_next 202 (i_getf 1 2 205) := snd_getf dX2_next_202 rfl (by decide) in_X2 (Or.inl q187) (Or.inl rfl) (by decide)
theorem oX2_next_205 : SX2_next 205 (i_cv 1 196 1 208) := snd_cv rfl infX2_at (by decide) rfl (xVm_V dX2_next_205 rfl q435 q437 qs2 q128 q438 pdX2_at)
theorem oX2_next_208 : SX2_next 208 (i_ii (fun x y => x + y) 209) := snd_iadd dX2_next_208
theorem oX2_next_209 : SX2_next 209 (i_const (.int (nI 48)) 211) := snd_bipush dX2_next_209 (by decide)
theorem oX2_next_211 : SX2_next 211 (i_ii (fun x y => x - y) 212) := snd_isub dX2_next_211
theorem oX2_next_212 : SX2_next 212 (i_goto 219) := snd_goto dX2_next_212 (by decide)
theorem oX2_next_215 : SX2_next 215 (i_aload 0 216) := snd_aload_n dX2_next_215 rfl
theorem oX2_next_216 : SX2_next 216 (i_getf 1 5 219) := snd_getf dX2_next_216 rfl (by decide) in_X2 (Or.inl q190) (Or.inl rfl) (by decide)
theorem oX2_next_219 : SX2_next 219 (i_putfi 1 5 222) := snd_putfi dX2_next_219 rfl (by decide) in_X2 tyX2 tyX2_ok nmX2 (Or.inl ⟨rfl, q190⟩) (Or.inl rfl) rfl
theorem oX2_next_222 : SX2_next 222 (i_aload 0 223) := snd_aload_n dX2_next_222 rfl
theorem oX2_next_223 : SX2_next 223 (i_dup 224) := snd_dup dX2_next_223
theorem oX2_next_224 : SX2_next 224 (i_getf 1 2 227) := snd_getf dX2_next_224 rfl (by decide) in_X2 (Or.inl q187) (Or.inl rfl) (by decide)
theorem oX2_next_227 : SX2_next 227 (i_const (.int (nI 1)) 228) := snd_iconst dX2_next_227 (by decide)
theorem oX2_next_228 : SX2_next 228 (i_ii (fun x y => x + y) 229) := snd_iadd dX2_next_228
theorem oX2_next_229 : SX2_next 229 (i_putfi 1 2 232) := snd_putfi dX2_next_229 rfl (by decide) in_X2 tyX2 tyX2_ok nmX2 (Or.inl ⟨rfl, q187⟩) (Or.inl rfl) rfl
theorem oX2_next_232 : SX2_next 232 (i_goto 165) := snd_goto dX2_next_232 (by decide)
theorem oX2_next_235 : SX2_next 235 (i_aload 0 236) := snd_aload_n dX2_next_235 rfl
theorem oX2_next_236 : SX2_next 236 (i_aload 0 237) := snd_aload_n dX2_next_236 rfl
theorem oX2_next_237 : SX2_next 237 (i_getf 1 2 240) := snd_getf dX2_next_237 rfl (by decide) in_X2 (Or.inl q187) (Or.inl rfl) (by decide)
theorem oX2_next_240 : SX2_next 240 (i_aload 0 241) := snd_aload_n dX2_next_240 rfl
theorem oX2_next_241 : SX2_next 241 (i_getf 1 4 244) := snd_getf dX2_next_241 rfl (by decide) in_X2 (Or.inl q189) (Or.inl rfl) (by decide)
theorem oX2_next_244 : SX2_next 244 (i_ii (fun x y => x - y) 245) := snd_isub dX2_next_244
theorem oX2_next_245 : SX2_next 245 (i_const (.int (nI 4)) 246) := snd_iconst dX2_next_245 (by decide)
theorem oX2_next_246 : SX2_next 246 (i_if2 (fun x y => x ≤ y) 253 249) := snd_icmp_le dX2_next_246 (by decide)
theorem oX2_next_249 : SX2_next 249 (i_const (.int (nI 4)) 250) := snd_iconst dX2_next_249 (by decide)
theorem oX2_next_250 : SX2_next 250 (i_goto 254) := snd_goto dX2_next_250 (by decide)
theorem oX2_next_253 : SX2_next 253 (i_const (.int (nI 2)) 254) := snd_iconst dX2_next_253 (by decide)
theorem oX2_next_254 : SX2_next 254 (i_putfi 1 3 257) := snd_putfi dX2_next_254 rfl (by decide) in_X2 tyX2 tyX2_ok nmX2 (Or.inl ⟨rfl, q188⟩) (Or.inl rfl) rfl
theorem oX2_next_257 : SX2_next 257 (i_goto 296) := snd_goto dX2_next_257 (by decide)
theorem oX2_next_260 : SX2_next 260 (i_aload 0 261) := snd_aload_n dX2_next_260 rfl
theorem oX2_next_261 : SX2_next 261 (i_const (.ref 2) 263) := snd_lit dX2_next_261 (by decide) (List.mem_of_getElem? (i := 0) rfl) rfl
theorem oX2_next_263 : SX2_next 263 (i_aload 0 264) := snd_aload_n dX2_next_263 rfl
theorem oX2_next_264 : SX2_next 264 (i_aload 0 265) := snd_aload_n dX2_next_264 rfl
theorem oX2_next_265 : SX2_next 265 (i_getf 1 2 268) := snd_getf dX2_next_265 rfl (by decide) in_X2 (Or.inl q187) (Or.inl rfl) (by decide)
theorem oX2_next_268 : SX2_next 268 (i_cv 1 196 1 271) := snd_cv rfl infX2_at (by decide) rfl (xVm_V dX2_next_268 rfl q435 q437 qs2 q128 q438 pdX2_at)
theorem oX2_next_271 : SX2_next 271 (i_i1 (fun x => (x.toUInt32 % 65536).toInt32) 272) := snd_i2c dX2_next_271
theorem oX2_next_272 : SX2_next 272 (i_cv 22 43 1 275) := snd_cv rfl infJ5_indexOf (by decide) rfl (xVm_V dX2_next_272 rfl q446 q447 q448 q137 q449 pdJ5_indexOf)
theorem oX2_next_275 : SX2_next 275 (i_if1 (fun x => x < 0) 282 278) := snd_if_lt dX2_next_275 (by decide)
theorem oX2_next_278 : SX2_next 278 (i_const (.int (nI 3)) 279) := snd_iconst dX2_next_278 (by decide)
theorem oX2_next_279 : SX2_next 279 (i_goto 283) := snd_goto dX2_next_279 (by decide)
theorem oX2_next_282 : SX2_next 282 (i_const (.int (nI 4)) 283) := snd_iconst dX2_next_282 (by decide)
theorem oX2_next_283 : SX2_next 283 (i_putfi 1 3 286) := snd_putfi dX2_next_283 rfl (by decide) in_X2 tyX2 tyX2_ok nmX2 (Or.inl ⟨rfl, q188⟩) (Or.inl rfl) rfl
theorem oX2_next_286 : SX2_next 286 (i_aload 0 287) := snd_aload_n dX2_next_286 rfl
theorem oX2_next_287 : SX2_next 287 (i_dup 288) := snd_dup dX2_next_287
theorem oX2_next_288 : SX2_next 288 (i_getf 1 2 291) := snd_getf dX2_next_288 rfl (by decide) in_X2 (Or.inl q187) (Or.inl rfl) (by decide)
theorem oX2_next_291 : SX2_next 291 (i_const (.int (nI 1)) 292) := snd_iconst dX2_next_291 (by decide)
theorem oX2_next_292 : SX2_next 292 (i_ii (fun x y => x + y) 293) := snd_iadd dX2_next_292
theorem oX2_next_293 : SX2_next 293 (i_putfi 1 2 296) := snd_putfi dX2_next_293 rfl (by decide) in_X2 tyX2 tyX2_ok nmX2 (Or.inl ⟨rfl, q187⟩) (Or.inl rfl) rfl
theorem oX2_next_296 : SX2_next 296 (i_vret) := snd_vret dX2_next_296 rfl
theorem okX2_next : ∀ q ∈ cX2_next, SX2_next q.1 q.2 := List.forall_mem_cons.mpr ⟨oX2_next_0, List.forall_mem_cons.mpr ⟨oX2_next_1, List.forall_mem_cons.mpr ⟨oX2_next_4, List.forall_mem_cons.mpr ⟨oX2_next_5, List.forall_mem_cons.mpr ⟨oX2_next_8, List.forall_mem_cons.mpr ⟨oX2_next_11, List.forall_mem_cons.mpr ⟨oX2_next_12, List.forall_mem_cons.mpr ⟨oX2_next_15, List.forall_mem_cons.mpr ⟨oX2_next_16, List.forall_mem_cons.mpr ⟨oX2_next_19, List.forall_mem_cons.mpr ⟨oX2_next_20, List.forall_mem_cons.mpr ⟨oX2_next_22, List.forall_mem_cons.mpr ⟨oX2_next_25, List.forall_mem_cons.mpr ⟨oX2_next_26, List.forall_mem_cons.mpr ⟨oX2_next_29, List.forall_mem_cons.mpr ⟨oX2_next_30, List.forall_mem_cons.mpr ⟨oX2_next_33, List.forall_mem_cons.mpr ⟨oX2_next_34, List.forall_mem_cons.mpr ⟨oX2_next_36, List.forall_mem_cons.mpr ⟨oX2_next_39, List.forall_mem_cons.mpr ⟨oX2_next_40, List.forall_mem_cons.mpr ⟨oX2_next_41, List.forall_mem_cons.mpr ⟨oX2_next_44, List.forall_mem_cons.mpr ⟨oX2_next_45, List.forall_mem_cons.mpr ⟨oX2_next_46, List.forall_mem_cons.mpr ⟨oX2_next_49, List.forall_mem_cons.mpr ⟨oX2_next_52, List.forall_mem_cons.mpr ⟨oX2_next_53, List.forall_mem_cons.mpr ⟨oX2_next_54, List.forall_mem_cons.mpr ⟨oX2_next_57, List.forall_mem_cons.mpr ⟨oX2_next_60, List.forall_mem_cons.mpr ⟨oX2_next_61, List.forall_mem_cons.mpr ⟨oX2_next_64, List.forall_mem_cons.mpr ⟨oX2_next_65, List.forall_mem_cons.mpr ⟨oX2_next_68, List.forall_mem_cons.mpr ⟨oX2_next_71, List.forall_mem_cons.mpr ⟨oX2_next_72, List.forall_mem_cons.mpr ⟨oX2_next_73, List.forall_mem_cons.mpr ⟨oX2_next_76, List.forall_mem_cons.mpr ⟨oX2_next_79, List.forall_mem_cons.mpr ⟨oX2_next_80, List.forall_mem_cons.mpr ⟨oX2_next_81, List.forall_mem_cons.mpr ⟨oX2_next_84, List.forall_mem_cons.mpr ⟨oX2_next_87, List.forall_mem_cons.mpr ⟨oX2_next_90, List.forall_mem_cons.mpr ⟨oX2_next_93, List.forall_mem_cons.mpr ⟨oX2_next_94, List.forall_mem_cons.mpr ⟨oX2_next_95, List.forall_mem_cons.mpr ⟨oX2_next_98, List.forall_mem_cons.mpr ⟨oX2_next_101, List.forall_mem_cons.mpr ⟨oX2_next_104, List.forall_mem_cons.mpr ⟨oX2_next_107, List.forall_mem_cons.mpr ⟨oX2_next_108, List.forall_mem_cons.mpr ⟨oX2_next_109, List.forall_mem_cons.mpr ⟨oX2_next_112, List.forall_mem_cons.mpr ⟨oX2_next_113, List.forall_mem_cons.mpr ⟨oX2_next_114, List.forall_mem_cons.mpr ⟨oX2_next_117, List.forall_mem_cons.mpr ⟨oX2_next_120, List.forall_mem_cons.mpr ⟨oX2_next_121, List.forall_mem_cons.mpr ⟨oX2_next_122, List.forall_mem_cons.mpr ⟨oX2_next_125, List.forall_mem_cons.mpr ⟨oX2_next_126, List.forall_mem_cons.mpr ⟨oX2_next_129, List.forall_mem_cons.mpr ⟨oX2_next_130, List.forall_mem_cons.mpr ⟨oX2_next_132, List.forall_mem_cons.mpr ⟨oX2_next_135, List.forall_mem_cons.mpr ⟨oX2_next_136, List.forall_mem_cons.mpr ⟨oX2_next_139, List.forall_mem_cons.mpr ⟨oX2_next_140, List.forall_mem_cons.mpr ⟨oX2_next_143, List.forall_mem_cons.mpr ⟨oX2_next_146, List.forall_mem_cons.mpr ⟨oX2_next_147, List.forall_mem_cons.mpr ⟨oX2_next_148, List.forall_mem_cons.mpr ⟨oX2_next_151, List.forall_mem_cons.mpr ⟨oX2_next_154, List.forall_mem_cons.mpr ⟨oX2_next_157, List.forall_mem_cons.mpr ⟨oX2_next_160, List.forall_mem_cons.mpr ⟨oX2_next_161, List.forall_mem_cons.mpr ⟨oX2_next_162, List.forall_mem_cons.mpr ⟨oX2_next_165, List.forall_mem_cons.mpr ⟨oX2_next_166, List.forall_mem_cons.mpr ⟨oX2_next_167, List.forall_mem_cons.mpr ⟨oX2_next_170, List.forall_mem_cons.mpr ⟨oX2_next_173, List.forall_mem_cons.mpr ⟨oX2_next_176, List.forall_mem_cons.mpr ⟨oX2_next_179, List.forall_mem_cons.mpr ⟨oX2_next_180, List.forall_mem_cons.mpr ⟨oX2_next_181, List.forall_mem_cons.mpr ⟨oX2_next_184, List.forall_mem_cons.mpr ⟨oX2_next_185, List.forall_mem_cons.mpr ⟨oX2_next_188, List.forall_mem_cons.mpr ⟨oX2_next_189, List.forall_mem_cons.mpr ⟨oX2_next_190, List.forall_mem_cons.mpr ⟨oX2_next_193, List.forall_mem_cons.mpr ⟨oX2_next_195, List.forall_mem_cons.mpr ⟨oX2_next_196, List.forall_mem_cons.mpr ⟨oX2_next_199, List.forall_mem_cons.mpr ⟨oX2_next_200, List.forall_mem_cons.mpr ⟨oX2_next_201, List.forall_mem_cons.mpr ⟨oX2_next_202, List.forall_mem_cons.mpr ⟨oX2_next_205, List.forall_mem_cons.mpr ⟨oX2_next_208, List.forall_mem_cons.mpr ⟨oX2_next_209, List.forall_mem_cons.mpr ⟨oX2_next_211, List.forall_mem_cons.mpr ⟨oX2_next_212, List.forall_mem_cons.mpr ⟨oX2_next_215, List.forall_mem_cons.mpr ⟨oX2_next_216, List.forall_mem_cons.mpr ⟨oX2_next_219, List.forall_mem_cons.mpr ⟨oX2_next_222, List.forall_mem_cons.mpr ⟨oX2_next_223, List.forall_mem_cons.mpr ⟨oX2_next_224, List.forall_mem_cons.mpr ⟨oX2_next_227, List.forall_mem_cons.mpr ⟨oX2_next_228, List.forall_mem_cons.mpr ⟨oX2_next_229, List.forall_mem_cons.mpr ⟨oX2_next_232, List.forall_mem_cons.mpr ⟨oX2_next_235, List.forall_mem_cons.mpr ⟨oX2_next_236, List.forall_mem_cons.mpr ⟨oX2_next_237, List.forall_mem_cons.mpr ⟨oX2_next_240, List.forall_mem_cons.mpr ⟨oX2_next_241, List.forall_mem_cons.mpr ⟨oX2_next_244, List.forall_mem_cons.mpr ⟨oX2_next_245, List.forall_mem_cons.mpr ⟨oX2_next_246, List.forall_mem_cons.mpr ⟨oX2_next_249, List.forall_mem_cons.mpr ⟨oX2_next_250, List.forall_mem_cons.mpr ⟨oX2_next_253, List.forall_mem_cons.mpr ⟨oX2_next_254, List.forall_mem_cons.mpr ⟨oX2_next_257, List.forall_mem_cons.mpr ⟨oX2_next_260, List.forall_mem_cons.mpr ⟨oX2_next_261, List.forall_mem_cons.mpr ⟨oX2_next_263, List.forall_mem_cons.mpr ⟨oX2_next_264, List.forall_mem_cons.mpr ⟨oX2_next_265, List.forall_mem_cons.mpr ⟨oX2_next_268, List.forall_mem_cons.mpr ⟨oX2_next_271, List.forall_mem_cons.mpr ⟨oX2_next_272, List.forall_mem_cons.mpr ⟨oX2_next_275, List.forall_mem_cons.mpr ⟨oX2_next_278, List.forall_mem_cons.mpr ⟨oX2_next_279, List.forall_mem_cons.mpr ⟨oX2_next_282, List.forall_mem_cons.mpr ⟨oX2_next_283, List.forall_mem_cons.mpr ⟨oX2_next_286, List.forall_mem_cons.mpr ⟨oX2_next_287, List.forall_mem_cons.mpr ⟨oX2_next_288, List.forall_mem_cons.mpr ⟨oX2_next_291, List.forall_mem_cons.mpr ⟨oX2_next_292, List.forall_mem_cons.mpr ⟨oX2_next_293, List.forall_mem_cons.mpr ⟨oX2_next_296, fun _ h => absurd h List.not_mem_nil⟩⟩⟩⟩⟩⟩⟩⟩⟩⟩⟩⟩⟩⟩⟩⟩⟩⟩⟩⟩⟩⟩⟩⟩⟩⟩⟩⟩⟩⟩⟩⟩⟩⟩⟩⟩⟩⟩⟩⟩⟩⟩⟩⟩⟩⟩⟩⟩⟩⟩⟩⟩⟩⟩⟩⟩⟩⟩⟩⟩⟩⟩⟩⟩⟩⟩⟩⟩⟩⟩⟩⟩⟩⟩⟩⟩⟩⟩⟩⟩⟩⟩⟩⟩⟩⟩⟩⟩⟩⟩⟩⟩⟩⟩⟩⟩⟩⟩⟩⟩⟩⟩⟩⟩⟩⟩⟩⟩⟩⟩⟩⟩⟩⟩⟩⟩⟩⟩⟩⟩⟩⟩⟩⟩⟩⟩⟩⟩⟩⟩⟩⟩⟩⟩⟩⟩⟩⟩⟩⟩⟩⟩⟩⟩⟩⟩⟩⟩⟩
def dkwX2_at_0 : List UInt8 := [27, 42, 180, 0, 15, 162, 0, 12, 42, 180, 0, 9, 27, 51, 167, 0, 4, 3, 172]
abbrev dktX2_at_0 : List UInt8 := dkwX2_at_0 ++ []
theorem dksX2_at_0 : bcX2_at.data.toList.drop 0 = dktX2_at_0 := by decide +kernel
theorem dX2_at_0 : decode bcX2_at 0 = .ok (.iload_n 1, 1) := dk_27 (dk_at dksX2_at_0 0 rfl rfl)
theorem dX2_at_1 : decode bcX2_at 1 = .ok (.aload_n 0, 1) := dk_42 (dk_at dksX2_at_0 1 rfl rfl)
theorem dX2_at_2 : decode bcX2_at 2 = .ok (.getfield 15, 3) := dk_180 0 15 (dk_at dksX2_at_0 2 rfl rfl)
theorem dX2_at_5 : decode bcX2_at 5 = .ok (.if_icmp .ge 12, 3) := dk_162 0 12 (dk_at dksX2_at_0 5 rfl rfl)
theorem dX2_at_8 : decode bcX2_at 8 = .ok (.aload_n 0, 1) := dk_42 (dk_at dksX2_at_0 8 rfl rfl)
theorem dX2_at_9 : decode bcX2_at 9 = .ok (.getfield 9, 3) := dk_180 0 9 (dk_at dksX2_at_0 9 rfl rfl)
theorem dX2_at_12 : decode bcX2_at 12 = .ok (.iload_n 1, 1) := dk_27 (dk_at dksX2_at_0 12 rfl rfl)
theorem dX2_at_13 : decode bcX2_at 13 = .ok (.baload, 1) := dk_51 (dk_at dksX2_at_0 13 rfl rfl)
theorem dX2_at_14 : decode bcX2_at 14 = .ok (.goto 4, 3) := dk_167 0 4 (dk_at dksX2_at_0 14 rfl rfl)
theorem dX2_at_17 : decode bcX2_at 17 = .ok (.iconst 0, 1) := dk_3 (dk_at dksX2_at_0 17 rfl rfl)
theorem dX2_at_18 : decode bcX2_at 18 = .ok (.ireturn, 1) := dk_172 (dk_at dksX2_at_0 18 rfl rfl)
abbrev SX2_at (pc : Nat) (i : xI) : Prop := Snd "SwollenHouse$Reader" "at" prog_17_method_3_code 2 (Option.some Jvm.ClassFile.FieldType.int) [] pc i
theorem oX2_at_0 : SX2_at 0 (i_iload 1 1) := snd_iload_n dX2_at_0 rfl
theorem oX2_at_1 : SX2_at 1 (i_aload 0 2) := snd_aload_n dX2_at_1 rfl
theorem oX2_at_2 : SX2_at 2 (i_getf 1 1 5) := snd_getf dX2_at_2 rfl (by decide) in_X2 (Or.inl q186) (Or.inl rfl) (by decide)
theorem oX2_at_5 : SX2_at 5 (i_if2 (fun x y => y ≤ x) 17 8) := snd_icmp_ge dX2_at_5 (by decide)
theorem oX2_at_8 : SX2_at 8 (i_aload 0 9) := snd_aload_n dX2_at_8 rfl
theorem oX2_at_9 : SX2_at 9 (i_getf 1 0 12) := snd_getf dX2_at_9 rfl (by decide) in_X2 (Or.inl q185) (Or.inl rfl) (by decide)
theorem oX2_at_12 : SX2_at 12 (i_iload 1 13) := snd_iload_n dX2_at_12 rfl
theorem oX2_at_13 : SX2_at 13 (i_ai 1 14) := snd_ai1 dX2_at_13
theorem oX2_at_14 : SX2_at 14 (i_goto 18) := snd_goto dX2_at_14 (by decide)
theorem oX2_at_17 : SX2_at 17 (i_const (.int (nI 0)) 18) := snd_iconst dX2_at_17 (by decide)
theorem oX2_at_18 : SX2_at 18 (i_iret) := snd_iret dX2_at_18 rfl
theorem okX2_at : ∀ q ∈ cX2_at, SX2_at q.1 q.2 := List.forall_mem_cons.mpr ⟨oX2_at_0, List.forall_mem_cons.mpr ⟨oX2_at_1, List.forall_mem_cons.mpr ⟨oX2_at_2, List.forall_mem_cons.mpr ⟨oX2_at_5, List.forall_mem_cons.mpr ⟨oX2_at_8, List.forall_mem_cons.mpr ⟨oX2_at_9, List.forall_mem_cons.mpr ⟨oX2_at_12, List.forall_mem_cons.mpr ⟨oX2_at_13, List.forall_mem_cons.mpr ⟨oX2_at_14, List.forall_mem_cons.mpr ⟨oX2_at_17, List.forall_mem_cons.mpr ⟨oX2_at_18, fun _ h => absurd h List.not_mem_nil⟩⟩⟩⟩⟩⟩⟩⟩⟩⟩⟩
def dkwX2_isLetter_0 : List UInt8 := [26, 16, 97, 161, 0, 13, 26, 16, 122, 163, 0, 7, 4, 167, 0, 4, 3, 172]
abbrev dktX2_isLetter_0 : List UInt8 := dkwX2_isLetter_0 ++ []
theorem dksX2_isLetter_0 : bcX2_isLetter.data.toList.drop 0 = dktX2_isLetter_0 := by decide +kernel
theorem dX2_isLetter_0 : decode bcX2_isLetter 0 = .ok (.iload_n 0, 1) := dk_26 (dk_at dksX2_isLetter_0 0 rfl rfl)
theorem dX2_isLetter_1 : decode bcX2_isLetter 1 = .ok (.bipush 97, 2) := dk_16 97 (dk_at dksX2_isLetter_0 1 rfl rfl)
theorem dX2_isLetter_3 : decode bcX2_isLetter 3 = .ok (.if_icmp .lt 13, 3) := dk_161 0 13 (dk_at dksX2_isLetter_0 3 rfl rfl)
theorem dX2_isLetter_6 : decode bcX2_isLetter 6 = .ok (.iload_n 0, 1) := dk_26 (dk_at dksX2_isLetter_0 6 rfl rfl)
theorem dX2_isLetter_7 : decode bcX2_isLetter 7 = .ok (.bipush 122, 2) := dk_16 122 (dk_at dksX2_isLetter_0 7 rfl rfl)
theorem dX2_isLetter_9 : decode bcX2_isLetter 9 = .ok (.if_icmp .gt 7, 3) := dk_163 0 7 (dk_at dksX2_isLetter_0 9 rfl rfl)
theorem dX2_isLetter_12 : decode bcX2_isLetter 12 = .ok (.iconst 1, 1) := dk_4 (dk_at dksX2_isLetter_0 12 rfl rfl)
theorem dX2_isLetter_13 : decode bcX2_isLetter 13 = .ok (.goto 4, 3) := dk_167 0 4 (dk_at dksX2_isLetter_0 13 rfl rfl)
theorem dX2_isLetter_16 : decode bcX2_isLetter 16 = .ok (.iconst 0, 1) := dk_3 (dk_at dksX2_isLetter_0 16 rfl rfl)
theorem dX2_isLetter_17 : decode bcX2_isLetter 17 = .ok (.ireturn, 1) := dk_172 (dk_at dksX2_isLetter_0 17 rfl rfl)
abbrev SX2_isLetter (pc : Nat) (i : xI) : Prop := Snd "SwollenHouse$Reader" "isLetter" prog_17_method_4_code 1 (Option.some Jvm.ClassFile.FieldType.boolean) [] pc i
theorem oX2_isLetter_0 : SX2_isLetter 0 (i_iload 0 1) := snd_iload_n dX2_isLetter_0 rfl
theorem oX2_isLetter_1 : SX2_isLetter 1 (i_const (.int (nI 97)) 3) := snd_bipush dX2_isLetter_1 (by decide)
theorem oX2_isLetter_3 : SX2_isLetter 3 (i_if2 (fun x y => x < y) 16 6) := snd_icmp_lt dX2_isLetter_3 (by decide)
theorem oX2_isLetter_6 : SX2_isLetter 6 (i_iload 0 7) := snd_iload_n dX2_isLetter_6 rfl
theorem oX2_isLetter_7 : SX2_isLetter 7 (i_const (.int (nI 122)) 9) := snd_bipush dX2_isLetter_7 (by decide)
theorem oX2_isLetter_9 : SX2_isLetter 9 (i_if2 (fun x y => y < x) 16 12) := snd_icmp_gt dX2_isLetter_9 (by decide)
theorem oX2_isLetter_12 : SX2_isLetter 12 (i_const (.int (nI 1)) 13) := snd_iconst dX2_isLetter_12 (by decide)
theorem oX2_isLetter_13 : SX2_isLetter 13 (i_goto 17) := snd_goto dX2_isLetter_13 (by decide)
theorem oX2_isLetter_16 : SX2_isLetter 16 (i_const (.int (nI 0)) 17) := snd_iconst dX2_isLetter_16 (by decide)
theorem oX2_isLetter_17 : SX2_isLetter 17 (i_zret) := snd_zret dX2_isLetter_17 rfl
theorem okX2_isLetter : ∀ q ∈ cX2_isLetter, SX2_isLetter q.1 q.2 := List.forall_mem_cons.mpr ⟨oX2_isLetter_0, List.forall_mem_cons.mpr ⟨oX2_isLetter_1, List.forall_mem_cons.mpr ⟨oX2_isLetter_3, List.forall_mem_cons.mpr ⟨oX2_isLetter_6, List.forall_mem_cons.mpr ⟨oX2_isLetter_7, List.forall_mem_cons.mpr ⟨oX2_isLetter_9, List.forall_mem_cons.mpr ⟨oX2_isLetter_12, List.forall_mem_cons.mpr ⟨oX2_isLetter_13, List.forall_mem_cons.mpr ⟨oX2_isLetter_16, List.forall_mem_cons.mpr ⟨oX2_isLetter_17, fun _ h => absurd h List.not_mem_nil⟩⟩⟩⟩⟩⟩⟩⟩⟩⟩
def dkwX2_isDigit_0 : List UInt8 := [26, 16, 48, 161, 0, 13, 26, 16, 57, 163, 0, 7, 4, 167, 0, 4, 3, 172]
abbrev dktX2_isDigit_0 : List UInt8 := dkwX2_isDigit_0 ++ []
theorem dksX2_isDigit_0 : bcX2_isDigit.data.toList.drop 0 = dktX2_isDigit_0 := by decide +kernel
theorem dX2_isDigit_0 : decode bcX2_isDigit 0 = .ok (.iload_n 0, 1) := dk_26 (dk_at dksX2_isDigit_0 0 rfl rfl)
theorem dX2_isDigit_1 : decode bcX2_isDigit 1 = .ok (.bipush 48, 2) := dk_16 48 (dk_at dksX2_isDigit_0 1 rfl rfl)
theorem dX2_isDigit_3 : decode bcX2_isDigit 3 = .ok (.if_icmp .lt 13, 3) := dk_161 0 13 (dk_at dksX2_isDigit_0 3 rfl rfl)
theorem dX2_isDigit_6 : decode bcX2_isDigit 6 = .ok (.iload_n 0, 1) := dk_26 (dk_at dksX2_isDigit_0 6 rfl rfl)
theorem dX2_isDigit_7 : decode bcX2_isDigit 7 = .ok (.bipush 57, 2) := dk_16 57 (dk_at dksX2_isDigit_0 7 rfl rfl)
theorem dX2_isDigit_9 : decode bcX2_isDigit 9 = .ok (.if_icmp .gt 7, 3) := dk_163 0 7 (dk_at dksX2_isDigit_0 9 rfl rfl)
theorem dX2_isDigit_12 : decode bcX2_isDigit 12 = .ok (.iconst 1, 1) := dk_4 (dk_at dksX2_isDigit_0 12 rfl rfl)
theorem dX2_isDigit_13 : decode bcX2_isDigit 13 = .ok (.goto 4, 3) := dk_167 0 4 (dk_at dksX2_isDigit_0 13 rfl rfl)
theorem dX2_isDigit_16 : decode bcX2_isDigit 16 = .ok (.iconst 0, 1) := dk_3 (dk_at dksX2_isDigit_0 16 rfl rfl)
theorem dX2_isDigit_17 : decode bcX2_isDigit 17 = .ok (.ireturn, 1) := dk_172 (dk_at dksX2_isDigit_0 17 rfl rfl)
abbrev SX2_isDigit (pc : Nat) (i : xI) : Prop := Snd "SwollenHouse$Reader" "isDigit" prog_17_method_5_code 1 (Option.some Jvm.ClassFile.FieldType.boolean) [] pc i
theorem oX2_isDigit_0 : SX2_isDigit 0 (i_iload 0 1) := snd_iload_n dX2_isDigit_0 rfl
theorem oX2_isDigit_1 : SX2_isDigit 1 (i_const (.int (nI 48)) 3) := snd_bipush dX2_isDigit_1 (by decide)
theorem oX2_isDigit_3 : SX2_isDigit 3 (i_if2 (fun x y => x < y) 16 6) := snd_icmp_lt dX2_isDigit_3 (by decide)
theorem oX2_isDigit_6 : SX2_isDigit 6 (i_iload 0 7) := snd_iload_n dX2_isDigit_6 rfl
theorem oX2_isDigit_7 : SX2_isDigit 7 (i_const (.int (nI 57)) 9) := snd_bipush dX2_isDigit_7 (by decide)
theorem oX2_isDigit_9 : SX2_isDigit 9 (i_if2 (fun x y => y < x) 16 12) := snd_icmp_gt dX2_isDigit_9 (by decide)
theorem oX2_isDigit_12 : SX2_isDigit 12 (i_const (.int (nI 1)) 13) := snd_iconst dX2_isDigit_12 (by decide)
theorem oX2_isDigit_13 : SX2_isDigit 13 (i_goto 17) := snd_goto dX2_isDigit_13 (by decide)
theorem oX2_isDigit_16 : SX2_isDigit 16 (i_const (.int (nI 0)) 17) := snd_iconst dX2_isDigit_16 (by decide)
theorem oX2_isDigit_17 : SX2_isDigit 17 (i_zret) := snd_zret dX2_isDigit_17 rfl
theorem okX2_isDigit : ∀ q ∈ cX2_isDigit, SX2_isDigit q.1 q.2 := List.forall_mem_cons.mpr ⟨oX2_isDigit_0, List.forall_mem_cons.mpr ⟨oX2_isDigit_1, List.forall_mem_cons.mpr ⟨oX2_isDigit_3, List.forall_mem_cons.mpr ⟨oX2_isDigit_6, List.forall_mem_cons.mpr ⟨oX2_isDigit_7, List.forall_mem_cons.mpr ⟨oX2_isDigit_9, List.forall_mem_cons.mpr ⟨oX2_isDigit_12, List.forall_mem_cons.mpr ⟨oX2_isDigit_13, List.forall_mem_cons.mpr ⟨oX2_isDigit_16, List.forall_mem_cons.mpr ⟨oX2_isDigit_17, fun _ h => absurd h List.not_mem_nil⟩⟩⟩⟩⟩⟩⟩⟩⟩⟩
def dkwX2_house_4 : List UInt8 := [16, 59, 182, 0, 156, 167, 255, 167, 42, 180, 0, 101, 176]
abbrev dktX2_house_4 : List UInt8 := dkwX2_house_4 ++ []
def dkwX2_house_3 : List UInt8 := [42, 27, 182, 0, 150, 153, 0, 9, 42, 8, 182, 0, 75, 191, 42, 182, 0, 25, 42, 27, 182, 0, 153, 42]
abbrev dktX2_house_3 : List UInt8 := dkwX2_house_3 ++ dktX2_house_4
def dkwX2_house_2 : List UInt8 := [157, 0, 18, 27, 7, 160, 0, 19, 42, 180, 0, 101, 180, 0, 146, 198, 0, 9, 42, 6, 182, 0, 75, 191]
abbrev dktX2_house_2 : List UInt8 := dkwX2_house_2 ++ dktX2_house_3
def dkwX2_house_1 : List UInt8 := [60, 27, 156, 0, 9, 42, 4, 182, 0, 75, 191, 27, 6, 160, 0, 13, 42, 180, 0, 101, 180, 0, 143]
abbrev dktX2_house_1 : List UInt8 := dkwX2_house_1 ++ dktX2_house_2
def dkwX2_house_0 : List UInt8 := [42, 187, 0, 106, 89, 183, 0, 140, 181, 0, 101, 42, 180, 0, 31, 153, 0, 88, 42, 18, 141, 182, 0, 71]
abbrev dktX2_house_0 : List UInt8 := dkwX2_house_0 ++ dktX2_house_1
theorem dksX2_house_0 : bcX2_house.data.toList.drop 0 = dktX2_house_0 := by decide +kernel
theorem dksX2_house_1 : bcX2_house.data.toList.drop 24 = dktX2_house_1 := dk_seg dksX2_house_0 24 rfl rfl
theorem dksX2_house_2 : bcX2_house.data.toList.drop 47 = dktX2_house_2 := dk_seg dksX2_house_1 23 rfl rfl
theorem dksX2_house_3 : bcX2_house.data.toList.drop 71 = dktX2_house_3 := dk_seg dksX2_house_2 24 rfl rfl
theorem dksX2_house_4 : bcX2_house.data.toList.drop 95 = dktX2_house_4 := dk_seg dksX2_house_3 24 rfl rfl
theorem dX2_house_0 : decode bcX2_house 0 = .ok (.aload_n 0, 1) := dk_42 (dk_at dksX2_house_0 0 rfl rfl)
theorem dX2_house_1 : decode bcX2_house 1 = .ok (.new 106, 3) := dk_187 0 106 (dk_at dksX2_house_0 1 rfl rfl)
theorem dX2_house_4 : decode bcX2_house 4 = .ok (.dup, 1) := dk_89 (dk_at dksX2_house_0 4 rfl rfl)
theorem dX2_house_5 : decode bcX2_house 5 = .ok (.invokespecial 140, 3) := dk_183 0 140 (dk_at dksX2_house_0 5 rfl rfl)
theorem dX2_house_8 : decode bcX2_house 8 = .ok (.putfield 101, 3) := dk_181 0 101 (dk_at dksX2_house_0 8 rfl rfl)
theorem dX2_house_11 : decode bcX2_house 11 = .ok (.aload_n 0, 1) := dk_42 (dk_at dksX2_house_0 11 rfl rfl)
theorem dX2_house_12 : decode bcX2_house 12 = .ok (.getfield 31, 3) := dk_180 0 31 (dk_at dksX2_house_0 12 rfl rfl)
theorem dX2_house_15 : decode bcX2_house 15 = .ok (.ifCond .eq 88, 3) := dk_153 0 88 (dk_at dksX2_house_0 15 rfl rfl)
theorem dX2_house_18 : decode bcX2_house 18 = .ok (.aload_n 0, 1) := dk_42 (dk_at dksX2_house_0 18 rfl rfl)
theorem dX2_house_19 : decode bcX2_house 19 = .ok (.ldc 141, 2) := dk_18 141 (dk_at dksX2_house_0 19 rfl rfl)
theorem dX2_house_21 : decode bcX2_house 21 = .ok (.invokevirtual 71, 3) := dk_182 0 71 (dk_at dksX2_house_0 21 rfl rfl)
theorem dX2_house_24 : decode bcX2_house 24 = .ok (.istore_n 1, 1) := dk_60 (dk_at dksX2_house_1 0 rfl rfl)
theorem dX2_house_25 : decode bcX2_house 25 = .ok (.iload_n 1, 1) := dk_27 (dk_at dksX2_house_1 1 rfl rfl)
theorem dX2_house_26 : decode bcX2_house 26 = .ok (.ifCond .ge 9, 3) := dk_156 0 9 (dk_at dksX2_house_1 2 rfl rfl)
theorem dX2_house_29 : decode bcX2_house 29 = .ok (.aload_n 0, 1) := dk_42 (dk_at dksX2_house_1 5 rfl rfl)
theorem dX2_house_30 : decode bcX2_house 30 = .ok (.iconst 1, 1) := dk_4 (dk_at dksX2_house_1 6 rfl rfl)
theorem dX2_house_31 : decode bcX2_house 31 = .ok (.invokevirtual 75, 3) := dk_182 0 75 (dk_at dksX2_house_1 7 rfl rfl)
theorem dX2_house_34 : decode bcX2_house 34 = .ok (.athrow, 1) := dk_191 (dk_at dksX2_house_1 10 rfl rfl)
theorem dX2_house_35 : decode bcX2_house 35 = .ok (.iload_n 1, 1) := dk_27 (dk_at dksX2_house_1 11 rfl rfl)
theorem dX2_house_36 : decode bcX2_house 36 = .ok (.iconst 3, 1) := dk_6 (dk_at dksX2_house_1 12 rfl rfl)
theorem dX2_house_37 : decode bcX2_house 37 = .ok (.if_icmp .ne 13, 3) := dk_160 0 13 (dk_at dksX2_house_1 13 rfl rfl)
theorem dX2_house_40 : decode bcX2_house 40 = .ok (.aload_n 0, 1) := dk_42 (dk_at dksX2_house_1 16 rfl rfl)
theorem dX2_house_41 : decode bcX2_house 41 = .ok (.getfield 101, 3) := dk_180 0 101 (dk_at dksX2_house_1 17 rfl rfl)
theorem dX2_house_44 : decode bcX2_house 44 = .ok (.getfield 143, 3) := dk_180 0 143 (dk_at dksX2_house_1 20 rfl rfl)
theorem dX2_house_47 : decode bcX2_house 47 = .ok (.ifCond .gt 18, 3) := dk_157 0 18 (dk_at dksX2_house_2 0 rfl rfl)
theorem dX2_house_50 : decode bcX2_house 50 = .ok (.iload_n 1, 1) := dk_27 (dk_at dksX2_house_2 3 rfl rfl)
theorem dX2_house_51 : decode bcX2_house 51 = .ok (.iconst 4, 1) := dk_7 (dk_at dksX2_house_2 4 rfl rfl)
theorem dX2_house_52 : decode bcX2_house 52 = .ok (.if_icmp .ne 19, 3) := dk_160 0 19 (dk_at dksX2_house_2 5 rfl rfl)
theorem dX2_house_55 : decode bcX2_house 55 = .ok (.aload_n 0, 1) := dk_42 (dk_at dksX2_house_2 8 rfl rfl)
theorem dX2_house_56 : decode bcX2_house 56 = .ok (.getfield 101, 3) := dk_180 0 101 (dk_at dksX2_house_2 9 rfl rfl)
theorem dX2_house_59 : decode bcX2_house 59 = .ok (.getfield 146, 3) := dk_180 0 146 (dk_at dksX2_house_2 12 rfl rfl)
theorem dX2_house_62 : decode bcX2_house 62 = .ok (.ifnull 9, 3) := dk_198 0 9 (dk_at dksX2_house_2 15 rfl rfl)
theorem dX2_house_65 : decode bcX2_house 65 = .ok (.aload_n 0, 1) := dk_42 (dk_at dksX2_house_2 18 rfl rfl)
theorem dX2_house_66 : decode bcX2_house 66 = .ok (.iconst 3, 1) := dk_6 (dk_at dksX2_house_2 19 rfl rfl)
theorem dX2_house_67 : decode bcX2_house 67 = .ok (.invokevirtual 75, 3) := dk_182 0 75 (dk_at dksX2_house_2 20 rfl rfl)
theorem dX2_house_70 : decode bcX2_house 70 = .ok (.athrow, 1) := dk_191 (dk_at dksX2_house_2 23 rfl rfl)
theorem dX2_house_71 : decode bcX2_house 71 = .ok (.aload_n 0, 1) := dk_42 (dk_at dksX2_house_3 0 rfl rfl)
theorem dX2_house_72 : decode bcX2_house 72 = .ok (.iload_n 1, 1) := dk_27 (dk_at dksX2_house_3 1 rfl rfl)
theorem dX2_house_73 : decode bcX2_house 73 = .ok (.invokevirtual 150, 3) := dk_182 0 150 (dk_at dksX2_house_3 2 rfl rfl)
theorem dX2_house_76 : decode bcX2_house 76 = .ok (.ifCond .eq 9, 3) := dk_153 0 9 (dk_at dksX2_house_3 5 rfl rfl)
theorem dX2_house_79 : decode bcX2_house 79 = .ok (.aload_n 0, 1) := dk_42 (dk_at dksX2_house_3 8 rfl rfl)
theorem dX2_house_80 : decode bcX2_house 80 = .ok (.iconst 5, 1) := dk_8 (dk_at dksX2_house_3 9 rfl rfl)
theorem dX2_house_81 : decode bcX2_house 81 = .ok (.invokevirtual 75, 3) := dk_182 0 75 (dk_at dksX2_house_3 10 rfl rfl)
theorem dX2_house_84 : decode bcX2_house 84 = .ok (.athrow, 1) := dk_191 (dk_at dksX2_house_3 13 rfl rfl)
theorem dX2_house_85 : decode bcX2_house 85 = .ok (.aload_n 0, 1) := dk_42 (dk_at dksX2_house_3 14 rfl rfl)
theorem dX2_house_86 : decode bcX2_house 86 = .ok (.invokevirtual 25, 3) := dk_182 0 25 (dk_at dksX2_house_3 15 rfl rfl)
theorem dX2_house_89 : decode bcX2_house 89 = .ok (.aload_n 0, 1) := dk_42 (dk_at dksX2_house_3 18 rfl rfl)
theorem dX2_house_90 : decode bcX2_house 90 = .ok (.iload_n 1, 1) := dk_27 (dk_at dksX2_house_3 19 rfl rfl)
theorem dX2_house_91 : decode bcX2_house 91 = .ok (.invokevirtual 153, 3) := dk_182 0 153 (dk_at dksX2_house_3 20 rfl rfl)
theorem dX2_house_94 : decode bcX2_house 94 = .ok (.aload_n 0, 1) := dk_42 (dk_at dksX2_house_3 23 rfl rfl)
theorem dX2_house_95 : decode bcX2_house 95 = .ok (.bipush 59, 2) := dk_16 59 (dk_at dksX2_house_4 0 rfl rfl)
theorem dX2_house_97 : decode bcX2_house 97 = .ok (.invokevirtual 156, 3) := dk_182 0 156 (dk_at dksX2_house_4 2 rfl rfl)
theorem dX2_house_100 : decode bcX2_house 100 = .ok (.goto (-89), 3) := dk_167 255 167 (dk_at dksX2_house_4 5 rfl rfl)
theorem dX2_house_103 : decode bcX2_house 103 = .ok (.aload_n 0, 1) := dk_42 (dk_at dksX2_house_4 8 rfl rfl)
theorem dX2_house_104 : decode bcX2_house 104 = .ok (.getfield 101, 3) := dk_180 0 101 (dk_at dksX2_house_4 9 rfl rfl)
theorem dX2_house_107 : decode bcX2_house 107 = .ok (.areturn, 1) := dk_176 (dk_at dksX2_house_4 12 rfl rfl)
abbrev SX2_house (pc : Nat) (i : xI) : Prop := Snd "SwollenHouse$Reader" "house" prog_17_method_21_code 2 (Option.some (Jvm.ClassFile.FieldType.object "SwollenHouse$House")) [] pc i
theorem oX2_house_0 : SX2_house 0 (i_aload 0 1) := snd_aload_n dX2_house_0 rfl
theorem oX2_house_1 : SX2_house 1 (i_new 2 7 zX3 4) := snd_new dX2_house_1 rfl in_X3 tyX3 tyX3_ok (by decide) q536 q212 q129
theorem oX2_house_4 : SX2_house 4 (i_dup 5) := snd_dup dX2_house_4
theorem oX2_house_5 : SX2_house 5 (i_ci [2] 232 0 8) := snd_ci rfl infX3_init (by decide) (xcls_ok _ (by decide)) (xIm_N dX2_house_5 rfl q537 q214 q129 q215 pdX3_init)
theorem oX2_house_8 : SX2_house 8 (i_putfr 1 7 11) := snd_putfr dX2_house_8 rfl (by decide) in_X2 tyX2 tyX2_ok nmX2 (Or.inl ⟨rfl, q192⟩) (Or.inl rfl) (Or.inl ⟨_, rfl⟩)
theorem oX2_house_11 : SX2_house 11 (i_aload 0 12) := snd_aload_n dX2_house_11 rfl
theorem oX2_house_12 : SX2_house 12 (i_getf 1 3 15) := snd_getf dX2_house_12 rfl (by decide) in_X2 (Or.inl q188) (Or.inl rfl) (by decide)
theorem oX2_house_15 : SX2_house 15 (i_if1 (fun x => x = 0) 103 18) := snd_if_eq dX2_house_15 (by decide)
theorem oX2_house_18 : SX2_house 18 (i_aload 0 19) := snd_aload_n dX2_house_18 rfl
theorem oX2_house_19 : SX2_house 19 (i_const (.ref 4) 21) := snd_lit dX2_house_19 (by decide) (List.mem_of_getElem? (i := 1) rfl) rfl
theorem oX2_house_21 : SX2_house 21 (i_cv 1 200 1 24) := snd_cv rfl infX2_which (by decide) rfl (xVm_V dX2_house_21 rfl q539 q541 qs3 q128 q542 pdX2_which)
theorem oX2_house_24 : SX2_house 24 (i_istore 1 25) := snd_istore_n dX2_house_24 rfl (by decide)
theorem oX2_house_25 : SX2_house 25 (i_iload 1 26) := snd_iload_n dX2_house_25 rfl
theorem oX2_house_26 : SX2_house 26 (i_if1 (fun x => 0 ≤ x) 35 29) := snd_if_ge dX2_house_26 (by decide)
theorem oX2_house_29 : SX2_house 29 (i_aload 0 30) := snd_aload_n dX2_house_29 rfl
theorem oX2_house_30 : SX2_house 30 (i_const (.int (nI 1)) 31) := snd_iconst dX2_house_30 (by decide)
theorem oX2_house_31 : SX2_house 31 (i_cv 1 201 1 34) := snd_cv rfl infX2_wrong (by decide) rfl (xVm_V dX2_house_31 rfl q563 q565 qs4 q128 q566 pdX2_wrong)
theorem oX2_house_34 : SX2_house 34 (i_throw [5]) := snd_throw dX2_house_34 rfl okth_5
theorem oX2_house_35 : SX2_house 35 (i_iload 1 36) := snd_iload_n dX2_house_35 rfl
theorem oX2_house_36 : SX2_house 36 (i_const (.int (nI 3)) 37) := snd_iconst dX2_house_36 (by decide)
theorem oX2_house_37 : SX2_house 37 (i_if2 (fun x y => ¬ x = y) 50 40) := snd_icmp_ne dX2_house_37 (by decide)
theorem oX2_house_40 : SX2_house 40 (i_aload 0 41) := snd_aload_n dX2_house_40 rfl
theorem oX2_house_41 : SX2_house 41 (i_getf 1 7 44) := snd_getf dX2_house_41 rfl (by decide) in_X2 (Or.inl q192) (Or.inl rfl) (by decide)
theorem oX2_house_44 : SX2_house 44 (i_getf 2 5 47) := snd_getf dX2_house_44 rfl (by decide) in_X3 (Or.inr ⟨_, q261⟩) (Or.inl rfl) (by decide)
theorem oX2_house_47 : SX2_house 47 (i_if1 (fun x => 0 < x) 65 50) := snd_if_gt dX2_house_47 (by decide)
theorem oX2_house_50 : SX2_house 50 (i_iload 1 51) := snd_iload_n dX2_house_50 rfl
theorem oX2_house_51 : SX2_house 51 (i_const (.int (nI 4)) 52) := snd_iconst dX2_house_51 (by decide)
theorem oX2_house_52 : SX2_house 52 (i_if2 (fun x y => ¬ x = y) 71 55) := snd_icmp_ne dX2_house_52 (by decide)
theorem oX2_house_55 : SX2_house 55 (i_aload 0 56) := snd_aload_n dX2_house_55 rfl
theorem oX2_house_56 : SX2_house 56 (i_getf 1 7 59) := snd_getf dX2_house_56 rfl (by decide) in_X2 (Or.inl q192) (Or.inl rfl) (by decide)
theorem oX2_house_59 : SX2_house 59 (i_getf 2 6 62) := snd_getf dX2_house_59 rfl (by decide) in_X3 (Or.inr ⟨_, q263⟩) (Or.inl rfl) (by decide)
theorem oX2_house_62 : SX2_house 62 (i_ifnull 71 65) := snd_ifnull dX2_house_62 (by decide)
theorem oX2_house_65 : SX2_house 65 (i_aload 0 66) := snd_aload_n dX2_house_65 rfl
theorem oX2_house_66 : SX2_house 66 (i_const (.int (nI 3)) 67) := snd_iconst dX2_house_66 (by decide)
theorem oX2_house_67 : SX2_house 67 (i_cv 1 201 1 70) := snd_cv rfl infX2_wrong (by decide) rfl (xVm_V dX2_house_67 rfl q563 q565 qs4 q128 q566 pdX2_wrong)
theorem oX2_house_70 : SX2_house 70 (i_throw [5]) := snd_throw dX2_house_70 rfl okth_5
theorem oX2_house_71 : SX2_house 71 (i_aload 0 72) := snd_aload_n dX2_house_71 rfl
theorem oX2_house_72 : SX2_house 72 (i_iload 1 73) := snd_iload_n dX2_house_72 rfl
theorem oX2_house_73 : SX2_house 73 (i_cv 1 202 1 76) := snd_cv rfl infX2_isFull (by decide) rfl (xVm_V dX2_house_73 rfl q636 q638 qs6 q128 q639 pdX2_isFull)
theorem oX2_house_76 : SX2_house 76 (i_if1 (fun x => x = 0) 85 79) := snd_if_eq dX2_house_76 (by decide)
theorem oX2_house_79 : SX2_house 79 (i_aload 0 80) := snd_aload_n dX2_house_79 rfl
theorem oX2_house_80 : SX2_house 80 (i_const (.int (nI 5)) 81) := snd_iconst dX2_house_80 (by decide)
theorem oX2_house_81 : SX2_house 81 (i_cv 1 201 1 84) := snd_cv rfl infX2_wrong (by decide) rfl (xVm_V dX2_house_81 rfl q563 q565 qs4 q128 q566 pdX2_wrong)
theorem oX2_house_84 : SX2_house 84 (i_throw [5]) := snd_throw dX2_house_84 rfl okth_5
theorem oX2_house_85 : SX2_house 85 (i_aload 0 86) := snd_aload_n dX2_house_85 rfl
theorem oX2_house_86 : SX2_house 86 (i_cvv 1 195 0 89) := snd_cvv rfl infX2_next (by decide) rfl (xVm_V dX2_house_86 rfl q431 q433 qs1 q128 q434 pdX2_next)
theorem oX2_house_89 : SX2_house 89 (i_aload 0 90) := snd_aload_n dX2_house_89 rfl
theorem oX2_house_90 : SX2_house 90 (i_iload 1 91) := snd_iload_n dX2_house_90 rfl
theorem oX2_house_91 : SX2_house 91 (i_cvv 1 203 1 94) := snd_cvv rfl infX2_line (by decide) rfl (xVm_V dX2_house_91 rfl q641 q643 qs7 q128 q644 pdX2_line)
theorem oX2_house_94 : SX2_house 94 (i_aload 0 95) := snd_aload_n dX2_house_94 rfl
theorem oX2_house_95 : SX2_house 95 (i_const (.int (nI 59)) 97) := snd_bipush dX2_house_95 (by decide)
theorem oX2_house_97 : SX2_house 97 (i_cvv 1 220 1 100) := snd_cvv rfl infX2_need_2 (by decide) rfl (xVm_V dX2_house_97 rfl q1043 q1045 qs27 q128 q1046 pdX2_need_2)
theorem oX2_house_100 : SX2_house 100 (i_goto 11) := snd_goto dX2_house_100 (by decide)
theorem oX2_house_103 : SX2_house 103 (i_aload 0 104) := snd_aload_n dX2_house_103 rfl
theorem oX2_house_104 : SX2_house 104 (i_getf 1 7 107) := snd_getf dX2_house_104 rfl (by decide) in_X2 (Or.inl q192) (Or.inl rfl) (by decide)
theorem oX2_house_107 : SX2_house 107 (i_aret) := snd_aret dX2_house_107 rfl (Or.inl ⟨_, rfl⟩)
theorem okX2_house : ∀ q ∈ cX2_house, SX2_house q.1 q.2 := List.forall_mem_cons.mpr ⟨oX2_house_0, List.forall_mem_cons.mpr ⟨oX2_house_1, List.forall_mem_cons.mpr ⟨oX2_house_4, List.forall_mem_cons.mpr ⟨oX2_house_5, List.forall_mem_cons.mpr ⟨oX2_house_8, List.forall_mem_cons.mpr ⟨oX2_house_11, List.forall_mem_cons.mpr ⟨oX2_house_12, List.forall_mem_cons.mpr ⟨oX2_house_15, List.forall_mem_cons.mpr ⟨oX2_house_18, List.forall_mem_cons.mpr ⟨oX2_house_19, List.forall_mem_cons.mpr ⟨oX2_house_21, List.forall_mem_cons.mpr ⟨oX2_house_24, List.forall_mem_cons.mpr ⟨oX2_house_25, List.forall_mem_cons.mpr ⟨oX2_house_26, List.forall_mem_cons.mpr ⟨oX2_house_29, List.forall_mem_cons.mpr ⟨oX2_house_30, List.forall_mem_cons.mpr ⟨oX2_house_31, List.forall_mem_cons.mpr ⟨oX2_house_34, List.forall_mem_cons.mpr ⟨oX2_house_35, List.forall_mem_cons.mpr ⟨oX2_house_36, List.forall_mem_cons.mpr ⟨oX2_house_37, List.forall_mem_cons.mpr ⟨oX2_house_40, List.forall_mem_cons.mpr ⟨oX2_house_41, List.forall_mem_cons.mpr ⟨oX2_house_44, List.forall_mem_cons.mpr ⟨oX2_house_47, List.forall_mem_cons.mpr ⟨oX2_house_50, List.forall_mem_cons.mpr ⟨oX2_house_51, List.forall_mem_cons.mpr ⟨oX2_house_52, List.forall_mem_cons.mpr ⟨oX2_house_55, List.forall_mem_cons.mpr ⟨oX2_house_56, List.forall_mem_cons.mpr ⟨oX2_house_59, List.forall_mem_cons.mpr ⟨oX2_house_62, List.forall_mem_cons.mpr ⟨oX2_house_65, List.forall_mem_cons.mpr ⟨oX2_house_66, List.forall_mem_cons.mpr ⟨oX2_house_67, List.forall_mem_cons.mpr ⟨oX2_house_70, List.forall_mem_cons.mpr ⟨oX2_house_71, List.forall_mem_cons.mpr ⟨oX2_house_72, List.forall_mem_cons.mpr ⟨oX2_house_73, List.forall_mem_cons.mpr ⟨oX2_house_76, List.forall_mem_cons.mpr ⟨oX2_house_79, List.forall_mem_cons.mpr ⟨oX2_house_80, List.forall_mem_cons.mpr ⟨oX2_house_81, List.forall_mem_cons.mpr ⟨oX2_house_84, List.forall_mem_cons.mpr ⟨oX2_house_85, List.forall_mem_cons.mpr ⟨oX2_house_86, List.forall_mem_cons.mpr ⟨oX2_house_89, List.forall_mem_cons.mpr ⟨oX2_house_90, List.forall_mem_cons.mpr ⟨oX2_house_91, List.forall_mem_cons.mpr ⟨oX2_house_94, List.forall_mem_cons.mpr ⟨oX2_house_95, List.forall_mem_cons.mpr ⟨oX2_house_97, List.forall_mem_cons.mpr ⟨oX2_house_100, List.forall_mem_cons.mpr ⟨oX2_house_103, List.forall_mem_cons.mpr ⟨oX2_house_104, List.forall_mem_cons.mpr ⟨oX2_house_107, fun _ h => absurd h List.not_mem_nil⟩⟩⟩⟩⟩⟩⟩⟩⟩⟩⟩⟩⟩⟩⟩⟩⟩⟩⟩⟩⟩⟩⟩⟩⟩⟩⟩⟩⟩⟩⟩⟩⟩⟩⟩⟩⟩⟩⟩⟩⟩⟩⟩⟩⟩⟩⟩⟩⟩⟩⟩⟩⟩⟩⟩⟩
def dkwX2_which_5 : List UInt8 := [96, 62, 132, 2, 1, 167, 255, 140, 2, 172]
abbrev dktX2_which_5 : List UInt8 := dkwX2_which_5 ++ []
def dkwX2_which_4 : List UInt8 := [167, 0, 4, 3, 54, 5, 132, 6, 1, 167, 255, 211, 21, 5, 153, 0, 5, 28, 172, 29, 21, 4, 4, 96]
abbrev dktX2_which_4 : List UInt8 := dkwX2_which_4 ++ dktX2_which_5
def dkwX2_which_3 : List UInt8 := [180, 0, 9, 42, 180, 0, 28, 21, 6, 96, 51, 43, 29, 21, 6, 96, 182, 0, 67, 160, 0, 7, 4]
abbrev dktX2_which_3 : List UInt8 := dkwX2_which_3 ++ dktX2_which_4
def dkwX2_which_2 : List UInt8 := [167, 0, 4, 3, 54, 5, 3, 54, 6, 21, 5, 153, 0, 46, 21, 6, 21, 4, 162, 0, 39, 42]
abbrev dktX2_which_2 : List UInt8 := dkwX2_which_2 ++ dktX2_which_3
def dkwX2_which_1 : List UInt8 := [182, 0, 64, 29, 100, 54, 4, 42, 180, 0, 19, 42, 180, 0, 28, 100, 21, 4, 160, 0, 7, 4]
abbrev dktX2_which_1 : List UInt8 := dkwX2_which_1 ++ dktX2_which_2
def dkwX2_which_0 : List UInt8 := [3, 61, 3, 62, 29, 43, 182, 0, 60, 162, 0, 114, 42, 180, 0, 31, 4, 160, 0, 106, 43, 16, 32, 29]
abbrev dktX2_which_0 : List UInt8 := dkwX2_which_0 ++ dktX2_which_1
theorem dksX2_which_0 : bcX2_which.data.toList.drop 0 = dktX2_which_0 := by decide +kernel
theorem dksX2_which_1 : bcX2_which.data.toList.drop 24 = dktX2_which_1 := dk_seg dksX2_which_0 24 rfl rfl
theorem dksX2_which_2 : bcX2_which.data.toList.drop 46 = dktX2_which_2 := dk_seg dksX2_which_1 22 rfl rfl
theorem dksX2_which_3 : bcX2_which.data.toList.drop 68 = dktX2_which_3 := dk_seg dksX2_which_2 22 rfl rfl
theorem dksX2_which_4 : bcX2_which.data.toList.drop 91 = dktX2_which_4 := dk_seg dksX2_which_3 23 rfl rfl
theorem dksX2_which_5 : bcX2_which.data.toList.drop 115 = dktX2_which_5 := dk_seg dksX2_which_4 24 rfl rfl
theorem dX2_which_0 : decode bcX2_which 0 = .ok (.iconst 0, 1) := dk_3 (dk_at dksX2_which_0 0 rfl rfl)
theorem dX2_which_1 : decode bcX2_which 1 = .ok (.istore_n 2, 1) := dk_61 (dk_at dksX2_which_0 1 rfl rfl)
theorem dX2_which_2 : decode bcX2_which 2 = .ok (.iconst 0, 1) := dk_3 (dk_at dksX2_which_0 2 rfl rfl)
theorem dX2_which_3 : decode bcX2_which 3 = .ok (.istore_n 3, 1) := dk_62 (dk_at dksX2_which_0 3 rfl rfl)
theorem dX2_which_4 : decode bcX2_which 4 = .ok (.iload_n 3, 1) := dk_29 (dk_at dksX2_which_0 4 rfl rfl)
theorem dX2_which_5 : decode bcX2_which 5 = .ok (.aload_n 1, 1) := dk_43 (dk_at dksX2_which_0 5 rfl rfl)
theorem dX2_which_6 : decode bcX2_which 6 = .ok (.invokevirtual 60, 3) := dk_182 0 60 (dk_at dksX2_which_0 6 rfl rfl)
theorem dX2_which_9 : decode bcX2_which 9 = .ok (.if_icmp .ge 114, 3) := dk_162 0 114 (dk_at dksX2_which_0 9 rfl rfl)
theorem dX2_which_12 : decode bcX2_which 12 = .ok (.aload_n 0, 1) := dk_42 (dk_at dksX2_which_0 12 rfl rfl)
theorem dX2_which_13 : decode bcX2_which 13 = .ok (.getfield 31, 3) := dk_180 0 31 (dk_at dksX2_which_0 13 rfl rfl)
theorem dX2_which_16 : decode bcX2_which 16 = .ok (.iconst 1, 1) := dk_4 (dk_at dksX2_which_0 16 rfl rfl)
theorem dX2_which_17 : decode bcX2_which 17 = .ok (.if_icmp .ne 106, 3) := dk_160 0 106 (dk_at dksX2_which_0 17 rfl rfl)
theorem dX2_which_20 : decode bcX2_which 20 = .ok (.aload_n 1, 1) := dk_43 (dk_at dksX2_which_0 20 rfl rfl)
theorem dX2_which_21 : decode bcX2_which 21 = .ok (.bipush 32, 2) := dk_16 32 (dk_at dksX2_which_0 21 rfl rfl)
theorem dX2_which_23 : decode bcX2_which 23 = .ok (.iload_n 3, 1) := dk_29 (dk_at dksX2_which_0 23 rfl rfl)
theorem dX2_which_24 : decode bcX2_which 24 = .ok (.invokevirtual 64, 3) := dk_182 0 64 (dk_at dksX2_which_1 0 rfl rfl)
theorem dX2_which_27 : decode bcX2_which 27 = .ok (.iload_n 3, 1) := dk_29 (dk_at dksX2_which_1 3 rfl rfl)
theorem dX2_which_28 : decode bcX2_which 28 = .ok (.isub, 1) := dk_100 (dk_at dksX2_which_1 4 rfl rfl)
theorem dX2_which_29 : decode bcX2_which 29 = .ok (.istore 4, 2) := dk_54 4 (dk_at dksX2_which_1 5 rfl rfl)
theorem dX2_which_31 : decode bcX2_which 31 = .ok (.aload_n 0, 1) := dk_42 (dk_at dksX2_which_1 7 rfl rfl)
theorem dX2_which_32 : decode bcX2_which 32 = .ok (.getfield 19, 3) := dk_180 0 19 (dk_at dksX2_which_1 8 rfl rfl)
theorem dX2_which_35 : decode bcX2_which 35 = .ok (.aload_n 0, 1) := dk_42 (dk_at dksX2_which_1 11 rfl rfl)
theorem dX2_which_36 : decode bcX2_which 36 = .ok (.getfield 28, 3) := dk_180 0 28 (dk_at dksX2_which_1 12 rfl rfl)
theorem dX2_which_39 : decode bcX2_which 39 = .ok (.isub, 1) := dk_100 (dk_at dksX2_which_1 15 rfl rfl)
theorem dX2_which_40 : decode bcX2_which 40 = .ok (.iload 4, 2) := dk_21 4 (dk_at dksX2_which_1 16 rfl rfl)
theorem dX2_which_42 : decode bcX2_which 42 = .ok (.if_icmp .ne 7, 3) := dk_160 0 7 (dk_at dksX2_which_1 18 rfl rfl)
theorem dX2_which_45 : decode bcX2_which 45 = .ok (.iconst 1, 1) := dk_4 (dk_at dksX2_which_1 21 rfl rfl)
theorem dX2_which_46 : decode bcX2_which 46 = .ok (.goto 4, 3) := dk_167 0 4 (dk_at dksX2_which_2 0 rfl rfl)
theorem dX2_which_49 : decode bcX2_which 49 = .ok (.iconst 0, 1) := dk_3 (dk_at dksX2_which_2 3 rfl rfl)
theorem dX2_which_50 : decode bcX2_which 50 = .ok (.istore 5, 2) := dk_54 5 (dk_at dksX2_which_2 4 rfl rfl)
theorem dX2_which_52 : decode bcX2_which 52 = .ok (.iconst 0, 1) := dk_3 (dk_at dksX2_which_2 6 rfl rfl)
theorem dX2_which_53 : decode bcX2_which 53 = .ok (.istore 6, 2) := dk_54 6 (dk_at dksX2_which_2 7 rfl rfl)
theorem dX2_which_55 : decode bcX2_which 55 = .ok (.iload 5, 2) := dk_21 5 (dk_at dksX2_which_2 9 rfl rfl)
theorem dX2_which_57 : decode bcX2_which 57 = .ok (.ifCond .eq 46, 3) := dk_153 0 46 (dk_at dksX2_which_2 11 rfl rfl)
theorem dX2_which_60 : decode bcX2_which 60 = .ok (.iload 6, 2) := dk_21 6 (dk_at dksX2_which_2 14 rfl rfl)
theorem dX2_which_62 : decode bcX2_which 62 = .ok (.iload 4, 2) := dk_21 4 (dk_at dksX2_which_2 16 rfl rfl)
theorem dX2_which_64 : decode bcX2_which 64 = .ok (.if_icmp .ge 39, 3) := dk_162 0 39 (dk_at dksX2_which_2 18 rfl rfl)
theorem dX2_which_67 : decode bcX2_which 67 = .ok (.aload_n 0, 1) := dk_42 (dk_at dksX2_which_2 21 rfl rfl)
theorem dX2_which_68 : decode bcX2_which 68 = .ok (.getfield 9, 3) := dk_180 0 9 (dk_at dksX2_which_3 0 rfl rfl)
theorem dX2_which_71 : decode bcX2_which 71 = .ok (.aload_n 0, 1) := dk_42 (dk_at dksX2_which_3 3 rfl rfl)
theorem dX2_which_72 : decode bcX2_which 72 = .ok (.getfield 28, 3) := dk_180 0 28 (dk_at dksX2_which_3 4 rfl rfl)
theorem dX2_which_75 : decode bcX2_which 75 = .ok (.iload 6, 2) := dk_21 6 (dk_at dksX2_which_3 7 rfl rfl)
theorem dX2_which_77 : decode bcX2_which 77 = .ok (.iadd, 1) := dk_96 (dk_at dksX2_which_3 9 rfl rfl)
theorem dX2_which_78 : decode bcX2_which 78 = .ok (.baload, 1) := dk_51 (dk_at dksX2_which_3 10 rfl rfl)
theorem dX2_which_79 : decode bcX2_which 79 = .ok (.aload_n 1, 1) := dk_43 (dk_at dksX2_which_3 11 rfl rfl)
theorem dX2_which_80 : decode bcX2_which 80 = .ok (.iload_n 3, 1) := dk_29 (dk_at dksX2_which_3 12 rfl rfl)
theorem dX2_which_81 : decode bcX2_which 81 = .ok (.iload 6, 2) := dk_21 6 (dk_at dksX2_which_3 13 rfl rfl)
theorem dX2_which_83 : decode bcX2_which 83 = .ok (.iadd, 1) := dk_96 (dk_at dksX2_which_3 15 rfl rfl)
theorem dX2_which_84 : decode bcX2_which 84 = .ok (.invokevirtual 67, 3) := dk_182 0 67 (dk_at dksX2_which_3 16 rfl rfl)
theorem dX2_which_87 : decode bcX2_which 87 = .ok (.if_icmp .ne 7, 3) := dk_160 0 7 (dk_at dksX2_which_3 19 rfl rfl)
theorem dX2_which_90 : decode bcX2_which 90 = .ok (.iconst 1, 1) := dk_4 (dk_at dksX2_which_3 22 rfl rfl)
theorem dX2_which_91 : decode bcX2_which 91 = .ok (.goto 4, 3) := dk_167 0 4 (dk_at dksX2_which_4 0 rfl rfl)
theorem dX2_which_94 : decode bcX2_which 94 = .ok (.iconst 0, 1) := dk_3 (dk_at dksX2_which_4 3 rfl rfl)
theorem dX2_which_95 : decode bcX2_which 95 = .ok (.istore 5, 2) := dk_54 5 (dk_at dksX2_which_4 4 rfl rfl)
theorem dX2_which_97 : decode bcX2_which 97 = .ok (.iinc 6 1, 3) := dk_132 6 1 (dk_at dksX2_which_4 6 rfl rfl)
theorem dX2_which_100 : decode bcX2_which 100 = .ok (.goto (-45), 3) := dk_167 255 211 (dk_at dksX2_which_4 9 rfl rfl)
theorem dX2_which_103 : decode bcX2_which 103 = .ok (.iload 5, 2) := dk_21 5 (dk_at dksX2_which_4 12 rfl rfl)
theorem dX2_which_105 : decode bcX2_which 105 = .ok (.ifCond .eq 5, 3) := dk_153 0 5 (dk_at dksX2_which_4 14 rfl rfl)
theorem dX2_which_108 : decode bcX2_which 108 = .ok (.iload_n 2, 1) := dk_28 (dk_at dksX2_which_4 17 rfl rfl)
theorem dX2_which_109 : decode bcX2_which 109 = .ok (.ireturn, 1) := dk_172 (dk_at dksX2_which_4 18 rfl rfl)
theorem dX2_which_110 : decode bcX2_which 110 = .ok (.iload_n 3, 1) := dk_29 (dk_at dksX2_which_4 19 rfl rfl)
theorem dX2_which_111 : decode bcX2_which 111 = .ok (.iload 4, 2) := dk_21 4 (dk_at dksX2_which_4 20 rfl rfl)
theorem dX2_which_113 : decode bcX2_which 113 = .ok (.iconst 1, 1) := dk_4 (dk_at dksX2_which_4 22 rfl rfl)
theorem dX2_which_114 : decode bcX2_which 114 = .ok (.iadd, 1) := dk_96 (dk_at dksX2_which_4 23 rfl rfl)
theorem dX2_which_115 : decode bcX2_which 115 = .ok (.iadd, 1) := dk_96 (dk_at dksX2_which_5 0 rfl rfl)
theorem dX2_which_116 : decode bcX2_which 116 = .ok (.istore_n 3, 1) := dk_62 (dk_at dksX2_which_5 1 rfl rfl)
theorem dX2_which_117 : decode bcX2_which 117 = .ok (.iinc 2 1, 3) := dk_132 2 1 (dk_at dksX2_which_5 2 rfl rfl)
theorem dX2_which_120 : decode bcX2_which 120 = .ok (.goto (-116), 3) := dk_167 255 140 (dk_at dksX2_which_5 5 rfl rfl)
theorem dX2_which_123 : decode bcX2_which 123 = .ok (.iconst (-1), 1) := dk_2 (dk_at dksX2_which_5 8 rfl rfl)
theorem dX2_which_124 : decode bcX2_which 124 = .ok (.ireturn, 1) := dk_172 (dk_at dksX2_which_5 9 rfl rfl)
abbrev SX2_which (pc : Nat) (i : xI) : Prop := Snd "SwollenHouse$Reader" "which" prog_17_method_8_code 7 (Option.some Jvm.ClassFile.FieldType.int) [] pc i
theorem oX2_which_0 : SX2_which 0 (i_const (.int (nI 0)) 1) := snd_iconst dX2_which_0 (by decide)
theorem oX2_which_1 : SX2_which 1 (i_istore 2 2) := snd_istore_n dX2_which_1 rfl (by decide)
theorem oX2_which_2 : SX2_which 2 (i_const (.int (nI 0)) 3) := snd_iconst dX2_which_2 (by decide)
theorem oX2_which_3 : SX2_which 3 (i_istore 3 4) := snd_istore_n dX2_which_3 rfl (by decide)
theorem oX2_which_4 : SX2_which 4 (i_iload 3 5) := snd_iload_n dX2_which_4 rfl
theorem oX2_which_5 : SX2_which 5 (i_aload 1 6) := snd_aload_n dX2_which_5 rfl
theorem oX2_which_6 : SX2_which 6 (i_cv 22 46 0 9) := snd_cv rfl infJ5_length (by decide) rfl (xVm_V dX2_which_6 rfl q543 q461 q462 q137 q463 pdJ5_length)
theorem oX2_which_9 : SX2_which 9 (i_if2 (fun x y => y ≤ x) 123 12) := snd_icmp_ge dX2_which_9 (by decide)
theorem oX2_which_12 : SX2_which 12 (i_aload 0 13) := snd_aload_n dX2_which_12 rfl
theorem oX2_which_13 : SX2_which 13 (i_getf 1 3 16) := snd_getf dX2_which_13 rfl (by decide) in_X2 (Or.inl q188) (Or.inl rfl) (by decide)
theorem oX2_which_16 : SX2_which 16 (i_const (.int (nI 1)) 17) := snd_iconst dX2_which_16 (by decide)
theorem oX2_which_17 : SX2_which 17 (i_if2 (fun x y => ¬ x = y) 123 20) := snd_icmp_ne dX2_which_17 (by decide)
theorem oX2_which_20 : SX2_which 20 (i_aload 1 21) := snd_aload_n dX2_which_20 rfl
theorem oX2_which_21 : SX2_which 21 (i_const (.int (nI 32)) 23) := snd_bipush dX2_which_21 (by decide)
theorem oX2_which_23 : SX2_which 23 (i_iload 3 24) := snd_iload_n dX2_which_23 rfl
theorem oX2_which_24 : SX2_which 24 (i_cv 22 44 2 27) := snd_cv rfl infJ5_indexOf_2 (by decide) rfl (xVm_V dX2_which_24 rfl q544 q451 q452 q137 q453 pdJ5_indexOf_2)
theorem oX2_which_27 : SX2_which 27 (i_iload 3 28) := snd_iload_n dX2_which_27 rfl
theorem oX2_which_28 : SX2_which 28 (i_ii (fun x y => x - y) 29) := snd_isub dX2_which_28
theorem oX2_which_29 : SX2_which 29 (i_istore 4 31) := snd_istore dX2_which_29 (by decide)
theorem oX2_which_31 : SX2_which 31 (i_aload 0 32) := snd_aload_n dX2_which_31 rfl
theorem oX2_which_32 : SX2_which 32 (i_getf 1 2 35) := snd_getf dX2_which_32 rfl (by decide) in_X2 (Or.inl q187) (Or.inl rfl) (by decide)
theorem oX2_which_35 : SX2_which 35 (i_aload 0 36) := snd_aload_n dX2_which_35 rfl
theorem oX2_which_36 : SX2_which 36 (i_getf 1 4 39) := snd_getf dX2_which_36 rfl (by decide) in_X2 (Or.inl q189) (Or.inl rfl) (by decide)
theorem oX2_which_39 : SX2_which 39 (i_ii (fun x y => x - y) 40) := snd_isub dX2_which_39
theorem oX2_which_40 : SX2_which 40 (i_iload 4 42) := snd_iload dX2_which_40
theorem oX2_which_42 : SX2_which 42 (i_if2 (fun x y => ¬ x = y) 49 45) := snd_icmp_ne dX2_which_42 (by decide)
theorem oX2_which_45 : SX2_which 45 (i_const (.int (nI 1)) 46) := snd_iconst dX2_which_45 (by decide)
theorem oX2_which_46 : SX2_which 46 (i_goto 50) := snd_goto dX2_which_46 (by decide)
theorem oX2_which_49 : SX2_which 49 (i_const (.int (nI 0)) 50) := snd_iconst dX2_which_49 (by decide)
theorem oX2_which_50 : SX2_which 50 (i_istore 5 52) := snd_istore dX2_which_50 (by decide)
theorem oX2_which_52 : SX2_which 52 (i_const (.int (nI 0)) 53) := snd_iconst dX2_which_52 (by decide)
theorem oX2_which_53 : SX2_which 53 (i_istore 6 55) := snd_istore dX2_which_53 (by decide)
theorem oX2_which_55 : SX2_which 55 (i_iload 5 57) := snd_iload dX2_which_55
theorem oX2_which_57 : SX2_which 57 (i_if1 (fun x => x = 0) 103 60) := snd_if_eq dX2_which_57 (by decide)
theorem oX2_which_60 : SX2_which 60 (i_iload 6 62) := snd_iload dX2_which_60
theorem oX2_which_62 : SX2_which 62 (i_iload 4 64) := snd_iload dX2_which_62
theorem oX2_which_64 : SX2_which 64 (i_if2 (fun x y => y ≤ x) 103 67) := snd_icmp_ge dX2_which_64 (by decide)
theorem oX2_which_67 : SX2_which 67 (i_aload 0 68) := snd_aload_n dX2_which_67 rfl
theorem oX2_which_68 : SX2_which 68 (i_getf 1 0 71) := snd_getf dX2_which_68 rfl (by decide) in_X2 (Or.inl q185) (Or.inl rfl) (by decide)
theorem oX2_which_71 : SX2_which 71 (i_aload 0 72) := snd_aload_n dX2_which_71 rfl
theorem oX2_which_72 : SX2_which 72 (i_getf 1 4 75) := snd_getf dX2_which_72 rfl (by decide) in_X2 (Or.inl q189) (Or.inl rfl) (by decide)
theorem oX2_which_75 : SX2_which 75 (i_iload 6 77) := snd_iload dX2_which_75
theorem oX2_which_77 : SX2_which 77 (i_ii (fun x y => x + y) 78) := snd_iadd dX2_which_77
theorem oX2_which_78 : SX2_which 78 (i_ai 1 79) := snd_ai1 dX2_which_78
theorem oX2_which_79 : SX2_which 79 (i_aload 1 80) := snd_aload_n dX2_which_79 rfl
theorem oX2_which_80 : SX2_which 80 (i_iload 3 81) := snd_iload_n dX2_which_80 rfl
theorem oX2_which_81 : SX2_which 81 (i_iload 6 83) := snd_iload dX2_which_81
theorem oX2_which_83 : SX2_which 83 (i_ii (fun x y => x + y) 84) := snd_iadd dX2_which_83
theorem oX2_which_84 : SX2_which 84 (i_cv 22 49 1 87) := snd_cv rfl infJ5_charAt (by decide) rfl (xVm_V dX2_which_84 rfl q545 q546 q547 q137 q548 pdJ5_charAt)
theorem oX2_which_87 : SX2_which 87 (i_if2 (fun x y => ¬ x = y) 94 90) := snd_icmp_ne dX2_which_87 (by decide)
theorem oX2_which_90 : SX2_which 90 (i_const (.int (nI 1)) 91) := snd_iconst dX2_which_90 (by decide)
theorem oX2_which_91 : SX2_which 91 (i_goto 95) := snd_goto dX2_which_91 (by decide)
theorem oX2_which_94 : SX2_which 94 (i_const (.int (nI 0)) 95) := snd_iconst dX2_which_94 (by decide)
theorem oX2_which_95 : SX2_which 95 (i_istore 5 97) := snd_istore dX2_which_95 (by decide)
theorem oX2_which_97 : SX2_which 97 (i_iinc 6 (nI 1) 100) := snd_iinc dX2_which_97 (by decide) (by decide)
theorem oX2_which_100 : SX2_which 100 (i_goto 55) := snd_goto dX2_which_100 (by decide)
theorem oX2_which_103 : SX2_which 103 (i_iload 5 105) := snd_iload dX2_which_103
theorem oX2_which_105 : SX2_which 105 (i_if1 (fun x => x = 0) 110 108) := snd_if_eq dX2_which_105 (by decide)
theorem oX2_which_108 : SX2_which 108 (i_iload 2 109) := snd_iload_n dX2_which_108 rfl
theorem oX2_which_109 : SX2_which 109 (i_iret) := snd_iret dX2_which_109 rfl
theorem oX2_which_110 : SX2_which 110 (i_iload 3 111) := snd_iload_n dX2_which_110 rfl
theorem oX2_which_111 : SX2_which 111 (i_iload 4 113) := snd_iload dX2_which_111
theorem oX2_which_113 : SX2_which 113 (i_const (.int (nI 1)) 114) := snd_iconst dX2_which_113 (by decide)
theorem oX2_which_114 : SX2_which 114 (i_ii (fun x y => x + y) 115) := snd_iadd dX2_which_114
theorem oX2_which_115 : SX2_which 115 (i_ii (fun x y => x + y) 116) := snd_iadd dX2_which_115
theorem oX2_which_116 : SX2_which 116 (i_istore 3 117) := snd_istore_n dX2_which_116 rfl (by decide)
theorem oX2_which_117 : SX2_which 117 (i_iinc 2 (nI 1) 120) := snd_iinc dX2_which_117 (by decide) (by decide)
theorem oX2_which_120 : SX2_which 120 (i_goto 4) := snd_goto dX2_which_120 (by decide)
theorem oX2_which_123 : SX2_which 123 (i_const (.int (-1)) 124) := snd_iconst dX2_which_123 (by decide)
theorem oX2_which_124 : SX2_which 124 (i_iret) := snd_iret dX2_which_124 rfl
theorem okX2_which : ∀ q ∈ cX2_which, SX2_which q.1 q.2 := List.forall_mem_cons.mpr ⟨oX2_which_0, List.forall_mem_cons.mpr ⟨oX2_which_1, List.forall_mem_cons.mpr ⟨oX2_which_2, List.forall_mem_cons.mpr ⟨oX2_which_3, List.forall_mem_cons.mpr ⟨oX2_which_4, List.forall_mem_cons.mpr ⟨oX2_which_5, List.forall_mem_cons.mpr ⟨oX2_which_6, List.forall_mem_cons.mpr ⟨oX2_which_9, List.forall_mem_cons.mpr ⟨oX2_which_12, List.forall_mem_cons.mpr ⟨oX2_which_13, List.forall_mem_cons.mpr ⟨oX2_which_16, List.forall_mem_cons.mpr ⟨oX2_which_17, List.forall_mem_cons.mpr ⟨oX2_which_20, List.forall_mem_cons.mpr ⟨oX2_which_21, List.forall_mem_cons.mpr ⟨oX2_which_23, List.forall_mem_cons.mpr ⟨oX2_which_24, List.forall_mem_cons.mpr ⟨oX2_which_27, List.forall_mem_cons.mpr ⟨oX2_which_28, List.forall_mem_cons.mpr ⟨oX2_which_29, List.forall_mem_cons.mpr ⟨oX2_which_31, List.forall_mem_cons.mpr ⟨oX2_which_32, List.forall_mem_cons.mpr ⟨oX2_which_35, List.forall_mem_cons.mpr ⟨oX2_which_36, List.forall_mem_cons.mpr ⟨oX2_which_39, List.forall_mem_cons.mpr ⟨oX2_which_40, List.forall_mem_cons.mpr ⟨oX2_which_42, List.forall_mem_cons.mpr ⟨oX2_which_45, List.forall_mem_cons.mpr ⟨oX2_which_46, List.forall_mem_cons.mpr ⟨oX2_which_49, List.forall_mem_cons.mpr ⟨oX2_which_50, List.forall_mem_cons.mpr ⟨oX2_which_52, List.forall_mem_cons.mpr ⟨oX2_which_53, List.forall_mem_cons.mpr ⟨oX2_which_55, List.forall_mem_cons.mpr ⟨oX2_which_57, List.forall_mem_cons.mpr ⟨oX2_which_60, List.forall_mem_cons.mpr ⟨oX2_which_62, List.forall_mem_cons.mpr ⟨oX2_which_64, List.forall_mem_cons.mpr ⟨oX2_which_67, List.forall_mem_cons.mpr ⟨oX2_which_68, List.forall_mem_cons.mpr ⟨oX2_which_71, List.forall_mem_cons.mpr ⟨oX2_which_72, List.forall_mem_cons.mpr ⟨oX2_which_75, List.forall_mem_cons.mpr ⟨oX2_which_77, List.forall_mem_cons.mpr ⟨oX2_which_78, List.forall_mem_cons.mpr ⟨oX2_which_79, List.forall_mem_cons.mpr ⟨oX2_which_80, List.forall_mem_cons.mpr ⟨oX2_which_81, List.forall_mem_cons.mpr ⟨oX2_which_83, List.forall_mem_cons.mpr ⟨oX2_which_84, List.forall_mem_cons.mpr ⟨oX2_which_87, List.forall_mem_cons.mpr ⟨oX2_which_90, List.forall_mem_cons.mpr ⟨oX2_which_91, List.forall_mem_cons.mpr ⟨oX2_which_94, List.forall_mem_cons.mpr ⟨oX2_which_95, List.forall_mem_cons.mpr ⟨oX2_which_97, List.forall_mem_cons.mpr ⟨oX2_which_100, List.forall_mem_cons.mpr ⟨oX2_which_103, List.forall_mem_cons.mpr ⟨oX2_which_105, List.forall_mem_cons.mpr ⟨oX2_which_108, List.forall_mem_cons.mpr ⟨oX2_which_109, List.forall_mem_cons.mpr ⟨oX2_which_110, List.forall_mem_cons.mpr ⟨oX2_which_111, List.forall_mem_cons.mpr ⟨oX2_which_113, List.forall_mem_cons.mpr ⟨oX2_which_114, List.forall_mem_cons.mpr ⟨oX2_which_115, List.forall_mem_cons.mpr ⟨oX2_which_116, List.forall_mem_cons.mpr ⟨oX2_which_117, List.forall_mem_cons.mpr ⟨oX2_which_120, List.forall_mem_cons.mpr ⟨oX2_which_123, List.forall_mem_cons.mpr ⟨oX2_which_124, fun _ h => absurd h List.not_mem_nil⟩⟩⟩⟩⟩⟩⟩⟩⟩⟩⟩⟩⟩⟩⟩⟩⟩⟩⟩⟩⟩⟩⟩⟩⟩⟩⟩⟩⟩⟩⟩⟩⟩⟩⟩⟩⟩⟩⟩⟩⟩⟩⟩⟩⟩⟩⟩⟩⟩⟩⟩⟩⟩⟩⟩⟩⟩⟩⟩⟩⟩⟩⟩⟩⟩⟩⟩⟩⟩⟩
def dkwX2_wrong_0 : List UInt8 := [187, 0, 55, 89, 27, 42, 180, 0, 28, 183, 0, 57, 176]
abbrev dktX2_wrong_0 : List UInt8 := dkwX2_wrong_0 ++ []
theorem dksX2_wrong_0 : bcX2_wrong.data.toList.drop 0 = dktX2_wrong_0 := by decide +kernel
theorem dX2_wrong_0 : decode bcX2_wrong 0 = .ok (.new 55, 3) := dk_187 0 55 (dk_at dksX2_wrong_0 0 rfl rfl)
theorem dX2_wrong_3 : decode bcX2_wrong 3 = .ok (.dup, 1) := dk_89 (dk_at dksX2_wrong_0 3 rfl rfl)
theorem dX2_wrong_4 : decode bcX2_wrong 4 = .ok (.iload_n 1, 1) := dk_27 (dk_at dksX2_wrong_0 4 rfl rfl)
theorem dX2_wrong_5 : decode bcX2_wrong 5 = .ok (.aload_n 0, 1) := dk_42 (dk_at dksX2_wrong_0 5 rfl rfl)
theorem dX2_wrong_6 : decode bcX2_wrong 6 = .ok (.getfield 28, 3) := dk_180 0 28 (dk_at dksX2_wrong_0 6 rfl rfl)
theorem dX2_wrong_9 : decode bcX2_wrong 9 = .ok (.invokespecial 57, 3) := dk_183 0 57 (dk_at dksX2_wrong_0 9 rfl rfl)
theorem dX2_wrong_12 : decode bcX2_wrong 12 = .ok (.areturn, 1) := dk_176 (dk_at dksX2_wrong_0 12 rfl rfl)
abbrev SX2_wrong (pc : Nat) (i : xI) : Prop := Snd "SwollenHouse$Reader" "wrong" prog_17_method_7_code 2 (Option.some (Jvm.ClassFile.FieldType.object "SwollenHouse$Wrong")) [] pc i
theorem oX2_wrong_0 : SX2_wrong 0 (i_new 5 7 zX6 3) := snd_new dX2_wrong_0 rfl in_X6 tyX6 tyX6_ok (by decide) q567 q568 q145
theorem oX2_wrong_3 : SX2_wrong 3 (i_dup 4) := snd_dup dX2_wrong_3
theorem oX2_wrong_4 : SX2_wrong 4 (i_iload 1 5) := snd_iload_n dX2_wrong_4 rfl
theorem oX2_wrong_5 : SX2_wrong 5 (i_aload 0 6) := snd_aload_n dX2_wrong_5 rfl
theorem oX2_wrong_6 : SX2_wrong 6 (i_getf 1 4 9) := snd_getf dX2_wrong_6 rfl (by decide) in_X2 (Or.inl q189) (Or.inl rfl) (by decide)
theorem oX2_wrong_9 : SX2_wrong 9 (i_ci [5] 366 2 12) := snd_ci rfl infX6_init (by decide) (xcls_ok _ (by decide)) (xIm_I dX2_wrong_9 rfl q607 q608 q145 q609 pdX6_init)
theorem oX2_wrong_12 : SX2_wrong 12 (i_aret) := snd_aret dX2_wrong_12 rfl (Or.inl ⟨_, rfl⟩)
theorem okX2_wrong : ∀ q ∈ cX2_wrong, SX2_wrong q.1 q.2 := List.forall_mem_cons.mpr ⟨oX2_wrong_0, List.forall_mem_cons.mpr ⟨oX2_wrong_3, List.forall_mem_cons.mpr ⟨oX2_wrong_4, List.forall_mem_cons.mpr ⟨oX2_wrong_5, List.forall_mem_cons.mpr ⟨oX2_wrong_6, List.forall_mem_cons.mpr ⟨oX2_wrong_9, List.forall_mem_cons.mpr ⟨oX2_wrong_12, fun _ h => absurd h List.not_mem_nil⟩⟩⟩⟩⟩⟩⟩
def dkwX2_isFull_2 : List UInt8 := [180, 0, 115, 182, 0, 133, 8, 160, 0, 7, 4, 167, 0, 4, 3, 172]
abbrev dktX2_isFull_2 : List UInt8 := dkwX2_isFull_2 ++ []
def dkwX2_isFull_1 : List UInt8 := [42, 180, 0, 101, 180, 0, 137, 182, 0, 133, 16, 8, 159, 0, 22, 27, 5, 160, 0, 21, 42, 180, 0, 101]
abbrev dktX2_isFull_1 : List UInt8 := dkwX2_isFull_1 ++ dktX2_isFull_2
def dkwX2_isFull_0 : List UInt8 := [27, 154, 0, 18, 42, 180, 0, 101, 180, 0, 105, 182, 0, 133, 16, 7, 159, 0, 42, 27, 4, 160, 0, 18]
abbrev dktX2_isFull_0 : List UInt8 := dkwX2_isFull_0 ++ dktX2_isFull_1
theorem dksX2_isFull_0 : bcX2_isFull.data.toList.drop 0 = dktX2_isFull_0 := by decide +kernel
theorem dksX2_isFull_1 : bcX2_isFull.data.toList.drop 24 = dktX2_isFull_1 := dk_seg dksX2_isFull_0 24 rfl rfl
theorem dksX2_isFull_2 : bcX2_isFull.data.toList.drop 48 = dktX2_isFull_2 := dk_seg dksX2_isFull_1 24 rfl rfl
theorem dX2_isFull_0 : decode bcX2_isFull 0 = .ok (.iload_n 1, 1) := dk_27 (dk_at dksX2_isFull_0 0 rfl rfl)
theorem dX2_isFull_1 : decode bcX2_isFull 1 = .ok (.ifCond .ne 18, 3) := dk_154 0 18 (dk_at dksX2_isFull_0 1 rfl rfl)
theorem dX2_isFull_4 : decode bcX2_isFull 4 = .ok (.aload_n 0, 1) := dk_42 (dk_at dksX2_isFull_0 4 rfl rfl)
theorem dX2_isFull_5 : decode bcX2_isFull 5 = .ok (.getfield 101, 3) := dk_180 0 101 (dk_at dksX2_isFull_0 5 rfl rfl)
theorem dX2_isFull_8 : decode bcX2_isFull 8 = .ok (.getfield 105, 3) := dk_180 0 105 (dk_at dksX2_isFull_0 8 rfl rfl)
theorem dX2_isFull_11 : decode bcX2_isFull 11 = .ok (.invokevirtual 133, 3) := dk_182 0 133 (dk_at dksX2_isFull_0 11 rfl rfl)
theorem dX2_isFull_14 : decode bcX2_isFull 14 = .ok (.bipush 7, 2) := dk_16 7 (dk_at dksX2_isFull_0 14 rfl rfl)
theorem dX2_isFull_16 : decode bcX2_isFull 16 = .ok (.if_icmp .eq 42, 3) := dk_159 0 42 (dk_at dksX2_isFull_0 16 rfl rfl)
theorem dX2_isFull_19 : decode bcX2_isFull 19 = .ok (.iload_n 1, 1) := dk_27 (dk_at dksX2_isFull_0 19 rfl rfl)
theorem dX2_isFull_20 : decode bcX2_isFull 20 = .ok (.iconst 1, 1) := dk_4 (dk_at dksX2_isFull_0 20 rfl rfl)
theorem dX2_isFull_21 : decode bcX2_isFull 21 = .ok (.if_icmp .ne 18, 3) := dk_160 0 18 (dk_at dksX2_isFull_0 21 rfl rfl)
theorem dX2_isFull_24 : decode bcX2_isFull 24 = .ok (.aload_n 0, 1) := dk_42 (dk_at dksX2_isFull_1 0 rfl rfl)
theorem dX2_isFull_25 : decode bcX2_isFull 25 = .ok (.getfield 101, 3) := dk_180 0 101 (dk_at dksX2_isFull_1 1 rfl rfl)
theorem dX2_isFull_28 : decode bcX2_isFull 28 = .ok (.getfield 137, 3) := dk_180 0 137 (dk_at dksX2_isFull_1 4 rfl rfl)
theorem dX2_isFull_31 : decode bcX2_isFull 31 = .ok (.invokevirtual 133, 3) := dk_182 0 133 (dk_at dksX2_isFull_1 7 rfl rfl)
theorem dX2_isFull_34 : decode bcX2_isFull 34 = .ok (.bipush 8, 2) := dk_16 8 (dk_at dksX2_isFull_1 10 rfl rfl)
theorem dX2_isFull_36 : decode bcX2_isFull 36 = .ok (.if_icmp .eq 22, 3) := dk_159 0 22 (dk_at dksX2_isFull_1 12 rfl rfl)
theorem dX2_isFull_39 : decode bcX2_isFull 39 = .ok (.iload_n 1, 1) := dk_27 (dk_at dksX2_isFull_1 15 rfl rfl)
theorem dX2_isFull_40 : decode bcX2_isFull 40 = .ok (.iconst 2, 1) := dk_5 (dk_at dksX2_isFull_1 16 rfl rfl)
theorem dX2_isFull_41 : decode bcX2_isFull 41 = .ok (.if_icmp .ne 21, 3) := dk_160 0 21 (dk_at dksX2_isFull_1 17 rfl rfl)
theorem dX2_isFull_44 : decode bcX2_isFull 44 = .ok (.aload_n 0, 1) := dk_42 (dk_at dksX2_isFull_1 20 rfl rfl)
theorem dX2_isFull_45 : decode bcX2_isFull 45 = .ok (.getfield 101, 3) := dk_180 0 101 (dk_at dksX2_isFull_1 21 rfl rfl)
theorem dX2_isFull_48 : decode bcX2_isFull 48 = .ok (.getfield 115, 3) := dk_180 0 115 (dk_at dksX2_isFull_2 0 rfl rfl)
theorem dX2_isFull_51 : decode bcX2_isFull 51 = .ok (.invokevirtual 133, 3) := dk_182 0 133 (dk_at dksX2_isFull_2 3 rfl rfl)
theorem dX2_isFull_54 : decode bcX2_isFull 54 = .ok (.iconst 5, 1) := dk_8 (dk_at dksX2_isFull_2 6 rfl rfl)
theorem dX2_isFull_55 : decode bcX2_isFull 55 = .ok (.if_icmp .ne 7, 3) := dk_160 0 7 (dk_at dksX2_isFull_2 7 rfl rfl)
theorem dX2_isFull_58 : decode bcX2_isFull 58 = .ok (.iconst 1, 1) := dk_4 (dk_at dksX2_isFull_2 10 rfl rfl)
theorem dX2_isFull_59 : decode bcX2_isFull 59 = .ok (.goto 4, 3) := dk_167 0 4 (dk_at dksX2_isFull_2 11 rfl rfl)
theorem dX2_isFull_62 : decode bcX2_isFull 62 = .ok (.iconst 0, 1) := dk_3 (dk_at dksX2_isFull_2 14 rfl rfl)
theorem dX2_isFull_63 : decode bcX2_isFull 63 = .ok (.ireturn, 1) := dk_172 (dk_at dksX2_isFull_2 15 rfl rfl)
abbrev SX2_isFull (pc : Nat) (i : xI) : Prop := Snd "SwollenHouse$Reader" "isFull" prog_17_method_20_code 2 (Option.some Jvm.ClassFile.FieldType.boolean) [] pc i
theorem oX2_isFull_0 : SX2_isFull 0 (i_iload 1 1) := snd_iload_n dX2_isFull_0 rfl
theorem oX2_isFull_1 : SX2_isFull 1 (i_if1 (fun x => ¬ x = 0) 19 4) := snd_if_ne dX2_isFull_1 (by decide)
theorem oX2_isFull_4 : SX2_isFull 4 (i_aload 0 5) := snd_aload_n dX2_isFull_4 rfl
theorem oX2_isFull_5 : SX2_isFull 5 (i_getf 1 7 8) := snd_getf dX2_isFull_5 rfl (by decide) in_X2 (Or.inl q192) (Or.inl rfl) (by decide)
theorem oX2_isFull_8 : SX2_isFull 8 (i_getf 2 0 11) := snd_getf dX2_isFull_8 rfl (by decide) in_X3 (Or.inr ⟨_, q247⟩) (Or.inl rfl) (by decide)
theorem oX2_isFull_11 : SX2_isFull 11 (i_cv 21 32 0 14) := snd_cv rfl infJ2_size (by decide) rfl (xVm_V dX2_isFull_11 rfl q640 q324 q325 q132 q326 pdJ2_size)
theorem oX2_isFull_14 : SX2_isFull 14 (i_const (.int (nI 7)) 16) := snd_bipush dX2_isFull_14 (by decide)
theorem oX2_isFull_16 : SX2_isFull 16 (i_if2 (fun x y => x = y) 58 19) := snd_icmp_eq dX2_isFull_16 (by decide)
theorem oX2_isFull_19 : SX2_isFull 19 (i_iload 1 20) := snd_iload_n dX2_isFull_19 rfl
theorem oX2_isFull_20 : SX2_isFull 20 (i_const (.int (nI 1)) 21) := snd_iconst dX2_isFull_20 (by decide)
theorem oX2_isFull_21 : SX2_isFull 21 (i_if2 (fun x y => ¬ x = y) 39 24) := snd_icmp_ne dX2_isFull_21 (by decide)
theorem oX2_isFull_24 : SX2_isFull 24 (i_aload 0 25) := snd_aload_n dX2_isFull_24 rfl
theorem oX2_isFull_25 : SX2_isFull 25 (i_getf 1 7 28) := snd_getf dX2_isFull_25 rfl (by decide) in_X2 (Or.inl q192) (Or.inl rfl) (by decide)
theorem oX2_isFull_28 : SX2_isFull 28 (i_getf 2 2 31) := snd_getf dX2_isFull_28 rfl (by decide) in_X3 (Or.inr ⟨_, q254⟩) (Or.inl rfl) (by decide)
theorem oX2_isFull_31 : SX2_isFull 31 (i_cv 21 32 0 34) := snd_cv rfl infJ2_size (by decide) rfl (xVm_V dX2_isFull_31 rfl q640 q324 q325 q132 q326 pdJ2_size)
theorem oX2_isFull_34 : SX2_isFull 34 (i_const (.int (nI 8)) 36) := snd_bipush dX2_isFull_34 (by decide)
theorem oX2_isFull_36 : SX2_isFull 36 (i_if2 (fun x y => x = y) 58 39) := snd_icmp_eq dX2_isFull_36 (by decide)
theorem oX2_isFull_39 : SX2_isFull 39 (i_iload 1 40) := snd_iload_n dX2_isFull_39 rfl
theorem oX2_isFull_40 : SX2_isFull 40 (i_const (.int (nI 2)) 41) := snd_iconst dX2_isFull_40 (by decide)
theorem oX2_isFull_41 : SX2_isFull 41 (i_if2 (fun x y => ¬ x = y) 62 44) := snd_icmp_ne dX2_isFull_41 (by decide)
theorem oX2_isFull_44 : SX2_isFull 44 (i_aload 0 45) := snd_aload_n dX2_isFull_44 rfl
theorem oX2_isFull_45 : SX2_isFull 45 (i_getf 1 7 48) := snd_getf dX2_isFull_45 rfl (by decide) in_X2 (Or.inl q192) (Or.inl rfl) (by decide)
theorem oX2_isFull_48 : SX2_isFull 48 (i_getf 2 1 51) := snd_getf dX2_isFull_48 rfl (by decide) in_X3 (Or.inr ⟨_, q249⟩) (Or.inl rfl) (by decide)
theorem oX2_isFull_51 : SX2_isFull 51 (i_cv 21 32 0 54) := snd_cv rfl infJ2_size (by decide) rfl (xVm_V dX2_isFull_51 rfl q640 q324 q325 q132 q326 pdJ2_size)
theorem oX2_isFull_54 : SX2_isFull 54 (i_const (.int (nI 5)) 55) := snd_iconst dX2_isFull_54 (by decide)
theorem oX2_isFull_55 : SX2_isFull 55 (i_if2 (fun x y => ¬ x = y) 62 58) := snd_icmp_ne dX2_isFull_55 (by decide)
theorem oX2_isFull_58 : SX2_isFull 58 (i_const (.int (nI 1)) 59) := snd_iconst dX2_isFull_58 (by decide)
theorem oX2_isFull_59 : SX2_isFull 59 (i_goto 63) := snd_goto dX2_isFull_59 (by decide)
theorem oX2_isFull_62 : SX2_isFull 62 (i_const (.int (nI 0)) 63) := snd_iconst dX2_isFull_62 (by decide)
theorem oX2_isFull_63 : SX2_isFull 63 (i_zret) := snd_zret dX2_isFull_63 rfl
theorem okX2_isFull : ∀ q ∈ cX2_isFull, SX2_isFull q.1 q.2 := List.forall_mem_cons.mpr ⟨oX2_isFull_0, List.forall_mem_cons.mpr ⟨oX2_isFull_1, List.forall_mem_cons.mpr ⟨oX2_isFull_4, List.forall_mem_cons.mpr ⟨oX2_isFull_5, List.forall_mem_cons.mpr ⟨oX2_isFull_8, List.forall_mem_cons.mpr ⟨oX2_isFull_11, List.forall_mem_cons.mpr ⟨oX2_isFull_14, List.forall_mem_cons.mpr ⟨oX2_isFull_16, List.forall_mem_cons.mpr ⟨oX2_isFull_19, List.forall_mem_cons.mpr ⟨oX2_isFull_20, List.forall_mem_cons.mpr ⟨oX2_isFull_21, List.forall_mem_cons.mpr ⟨oX2_isFull_24, List.forall_mem_cons.mpr ⟨oX2_isFull_25, List.forall_mem_cons.mpr ⟨oX2_isFull_28, List.forall_mem_cons.mpr ⟨oX2_isFull_31, List.forall_mem_cons.mpr ⟨oX2_isFull_34, List.forall_mem_cons.mpr ⟨oX2_isFull_36, List.forall_mem_cons.mpr ⟨oX2_isFull_39, List.forall_mem_cons.mpr ⟨oX2_isFull_40, List.forall_mem_cons.mpr ⟨oX2_isFull_41, List.forall_mem_cons.mpr ⟨oX2_isFull_44, List.forall_mem_cons.mpr ⟨oX2_isFull_45, List.forall_mem_cons.mpr ⟨oX2_isFull_48, List.forall_mem_cons.mpr ⟨oX2_isFull_51, List.forall_mem_cons.mpr ⟨oX2_isFull_54, List.forall_mem_cons.mpr ⟨oX2_isFull_55, List.forall_mem_cons.mpr ⟨oX2_isFull_58, List.forall_mem_cons.mpr ⟨oX2_isFull_59, List.forall_mem_cons.mpr ⟨oX2_isFull_62, List.forall_mem_cons.mpr ⟨oX2_isFull_63, fun _ h => absurd h List.not_mem_nil⟩⟩⟩⟩⟩⟩⟩⟩⟩⟩⟩⟩⟩⟩⟩⟩⟩⟩⟩⟩⟩⟩⟩⟩⟩⟩⟩⟩⟩⟩
def dkwX2_line_9 : List UInt8 := [42, 182, 0, 184, 181, 0, 146, 177]
abbrev dktX2_line_9 : List UInt8 := dkwX2_line_9 ++ []
def dkwX2_line_8 : List UInt8 := [90, 4, 96, 181, 0, 143, 28, 79, 42, 16, 59, 182, 0, 79, 153, 255, 197, 167, 0, 14, 42, 180, 0, 101]
abbrev dktX2_line_8 : List UInt8 := dkwX2_line_8 ++ dktX2_line_9
def dkwX2_line_7 : List UInt8 := [8, 182, 0, 75, 191, 42, 182, 0, 25, 42, 180, 0, 101, 180, 0, 181, 42, 180, 0, 101, 89, 180, 0, 143]
abbrev dktX2_line_7 : List UInt8 := dkwX2_line_7 ++ dktX2_line_8
def dkwX2_line_6 : List UInt8 := [167, 0, 79, 42, 3, 16, 9, 182, 0, 178, 61, 42, 180, 0, 101, 180, 0, 143, 16, 12, 160, 0, 9, 42]
abbrev dktX2_line_6 : List UInt8 := dkwX2_line_6 ++ dktX2_line_7
def dkwX2_line_5 : List UInt8 := [180, 0, 101, 180, 0, 105, 182, 0, 175, 79, 42, 180, 0, 101, 180, 0, 115, 44, 182, 0, 162, 87]
abbrev dktX2_line_5 : List UInt8 := dkwX2_line_5 ++ dktX2_line_6
def dkwX2_line_4 : List UInt8 := [182, 0, 118, 42, 180, 0, 101, 180, 0, 172, 42, 180, 0, 101, 180, 0, 115, 182, 0, 133, 42, 42]
abbrev dktX2_line_4 : List UInt8 := dkwX2_line_4 ++ dktX2_line_5
def dkwX2_line_3 : List UInt8 := [180, 0, 137, 42, 182, 0, 166, 182, 0, 162, 87, 167, 0, 134, 42, 182, 0, 159, 77, 42, 18, 170]
abbrev dktX2_line_3 : List UInt8 := dkwX2_line_3 ++ dktX2_line_4
def dkwX2_line_2 : List UInt8 := [42, 180, 0, 101, 180, 0, 105, 42, 182, 0, 159, 182, 0, 162, 87, 167, 0, 152, 42, 180, 0, 101]
abbrev dktX2_line_2 : List UInt8 := dkwX2_line_2 ++ dktX2_line_3
def dkwX2_line_1 : List UInt8 := [170, 0, 0, 0, 0, 0, 187, 0, 0, 0, 0, 0, 0, 0, 3, 0, 0, 0, 31, 0, 0, 0, 49, 0, 0, 0, 67, 0, 0, 0, 122]
abbrev dktX2_line_1 : List UInt8 := dkwX2_line_1 ++ dktX2_line_2
def dkwX2_line_0 : List UInt8 := [27]
abbrev dktX2_line_0 : List UInt8 := dkwX2_line_0 ++ dktX2_line_1
theorem dksX2_line_0 : bcX2_line.data.toList.drop 0 = dktX2_line_0 := by decide +kernel
theorem dksX2_line_1 : bcX2_line.data.toList.drop 1 = dktX2_line_1 := dk_seg dksX2_line_0 1 rfl rfl
theorem dksX2_line_2 : bcX2_line.data.toList.drop 32 = dktX2_line_2 := dk_seg dksX2_line_1 31 rfl rfl
theorem dksX2_line_3 : bcX2_line.data.toList.drop 54 = dktX2_line_3 := dk_seg dksX2_line_2 22 rfl rfl
theorem dksX2_line_4 : bcX2_line.data.toList.drop 76 = dktX2_line_4 := dk_seg dksX2_line_3 22 rfl rfl
theorem dksX2_line_5 : bcX2_line.data.toList.drop 98 = dktX2_line_5 := dk_seg dksX2_line_4 22 rfl rfl
theorem dksX2_line_6 : bcX2_line.data.toList.drop 120 = dktX2_line_6 := dk_seg dksX2_line_5 22 rfl rfl
theorem dksX2_line_7 : bcX2_line.data.toList.drop 144 = dktX2_line_7 := dk_seg dksX2_line_6 24 rfl rfl
theorem dksX2_line_8 : bcX2_line.data.toList.drop 168 = dktX2_line_8 := dk_seg dksX2_line_7 24 rfl rfl
theorem dksX2_line_9 : bcX2_line.data.toList.drop 192 = dktX2_line_9 := dk_seg dksX2_line_8 24 rfl rfl
theorem dX2_line_0 : decode bcX2_line 0 = .ok (.iload_n 1, 1) := dk_27 (dk_at dksX2_line_0 0 rfl rfl)
theorem dX2_line_1 : decode bcX2_line 1 = .ok (.tableswitch 187 0 3 #[31, 49, 67, 122], 31) := by decide +kernel
theorem dX2_line_32 : decode bcX2_line 32 = .ok (.aload_n 0, 1) := dk_42 (dk_at dksX2_line_2 0 rfl rfl)
theorem dX2_line_33 : decode bcX2_line 33 = .ok (.getfield 101, 3) := dk_180 0 101 (dk_at dksX2_line_2 1 rfl rfl)
theorem dX2_line_36 : decode bcX2_line 36 = .ok (.getfield 105, 3) := dk_180 0 105 (dk_at dksX2_line_2 4 rfl rfl)
theorem dX2_line_39 : decode bcX2_line 39 = .ok (.aload_n 0, 1) := dk_42 (dk_at dksX2_line_2 7 rfl rfl)
theorem dX2_line_40 : decode bcX2_line 40 = .ok (.invokevirtual 159, 3) := dk_182 0 159 (dk_at dksX2_line_2 8 rfl rfl)
theorem dX2_line_43 : decode bcX2_line 43 = .ok (.invokevirtual 162, 3) := dk_182 0 162 (dk_at dksX2_line_2 11 rfl rfl)
theorem dX2_line_46 : decode bcX2_line 46 = .ok (.pop, 1) := dk_87 (dk_at dksX2_line_2 14 rfl rfl)
theorem dX2_line_47 : decode bcX2_line 47 = .ok (.goto 152, 3) := dk_167 0 152 (dk_at dksX2_line_2 15 rfl rfl)
theorem dX2_line_50 : decode bcX2_line 50 = .ok (.aload_n 0, 1) := dk_42 (dk_at dksX2_line_2 18 rfl rfl)
theorem dX2_line_51 : decode bcX2_line 51 = .ok (.getfield 101, 3) := dk_180 0 101 (dk_at dksX2_line_2 19 rfl rfl)
theorem dX2_line_54 : decode bcX2_line 54 = .ok (.getfield 137, 3) := dk_180 0 137 (dk_at dksX2_line_3 0 rfl rfl)
theorem dX2_line_57 : decode bcX2_line 57 = .ok (.aload_n 0, 1) := dk_42 (dk_at dksX2_line_3 3 rfl rfl)
theorem dX2_line_58 : decode bcX2_line 58 = .ok (.invokevirtual 166, 3) := dk_182 0 166 (dk_at dksX2_line_3 4 rfl rfl)
theorem dX2_line_61 : decode bcX2_line 61 = .ok (.invokevirtual 162, 3) := dk_182 0 162 (dk_at dksX2_line_3 7 rfl rfl)
theorem dX2_line_64 : decode bcX2_line 64 = .ok (.pop, 1) := dk_87 (dk_at dksX2_line_3 10 rfl rfl)
theorem dX2_line_65 : decode bcX2_line 65 = .ok (.goto 134, 3) := dk_167 0 134 (dk_at dksX2_line_3 11 rfl rfl)
theorem dX2_line_68 : decode bcX2_line 68 = .ok (.aload_n 0, 1) := dk_42 (dk_at dksX2_line_3 14 rfl rfl)
theorem dX2_line_69 : decode bcX2_line 69 = .ok (.invokevirtual 159, 3) := dk_182 0 159 (dk_at dksX2_line_3 15 rfl rfl)
theorem dX2_line_72 : decode bcX2_line 72 = .ok (.astore_n 2, 1) := dk_77 (dk_at dksX2_line_3 18 rfl rfl)
theorem dX2_line_73 : decode bcX2_line 73 = .ok (.aload_n 0, 1) := dk_42 (dk_at dksX2_line_3 19 rfl rfl)
theorem dX2_line_74 : decode bcX2_line 74 = .ok (.ldc 170, 2) := dk_18 170 (dk_at dksX2_line_3 20 rfl rfl)
theorem dX2_line_76 : decode bcX2_line 76 = .ok (.invokevirtual 118, 3) := dk_182 0 118 (dk_at dksX2_line_4 0 rfl rfl)
theorem dX2_line_79 : decode bcX2_line 79 = .ok (.aload_n 0, 1) := dk_42 (dk_at dksX2_line_4 3 rfl rfl)
theorem dX2_line_80 : decode bcX2_line 80 = .ok (.getfield 101, 3) := dk_180 0 101 (dk_at dksX2_line_4 4 rfl rfl)
theorem dX2_line_83 : decode bcX2_line 83 = .ok (.getfield 172, 3) := dk_180 0 172 (dk_at dksX2_line_4 7 rfl rfl)
theorem dX2_line_86 : decode bcX2_line 86 = .ok (.aload_n 0, 1) := dk_42 (dk_at dksX2_line_4 10 rfl rfl)
theorem dX2_line_87 : decode bcX2_line 87 = .ok (.getfield 101, 3) := dk_180 0 101 (dk_at dksX2_line_4 11 rfl rfl)
theorem dX2_line_90 : decode bcX2_line 90 = .ok (.getfield 115, 3) := dk_180 0 115 (dk_at dksX2_line_4 14 rfl rfl)
theorem dX2_line_93 : decode bcX2_line 93 = .ok (.invokevirtual 133, 3) := dk_182 0 133 (dk_at dksX2_line_4 17 rfl rfl)
theorem dX2_line_96 : decode bcX2_line 96 = .ok (.aload_n 0, 1) := dk_42 (dk_at dksX2_line_4 20 rfl rfl)
theorem dX2_line_97 : decode bcX2_line 97 = .ok (.aload_n 0, 1) := dk_42 (dk_at dksX2_line_4 21 rfl rfl)
theorem dX2_line_98 : decode bcX2_line 98 = .ok (.getfield 101, 3) := dk_180 0 101 (dk_at dksX2_line_5 0 rfl rfl)
theorem dX2_line_101 : decode bcX2_line 101 = .ok (.getfield 105, 3) := dk_180 0 105 (dk_at dksX2_line_5 3 rfl rfl)
theorem dX2_line_104 : decode bcX2_line 104 = .ok (.invokevirtual 175, 3) := dk_182 0 175 (dk_at dksX2_line_5 6 rfl rfl)
theorem dX2_line_107 : decode bcX2_line 107 = .ok (.iastore, 1) := dk_79 (dk_at dksX2_line_5 9 rfl rfl)
theorem dX2_line_108 : decode bcX2_line 108 = .ok (.aload_n 0, 1) := dk_42 (dk_at dksX2_line_5 10 rfl rfl)
theorem dX2_line_109 : decode bcX2_line 109 = .ok (.getfield 101, 3) := dk_180 0 101 (dk_at dksX2_line_5 11 rfl rfl)
theorem dX2_line_112 : decode bcX2_line 112 = .ok (.getfield 115, 3) := dk_180 0 115 (dk_at dksX2_line_5 14 rfl rfl)
theorem dX2_line_115 : decode bcX2_line 115 = .ok (.aload_n 2, 1) := dk_44 (dk_at dksX2_line_5 17 rfl rfl)
theorem dX2_line_116 : decode bcX2_line 116 = .ok (.invokevirtual 162, 3) := dk_182 0 162 (dk_at dksX2_line_5 18 rfl rfl)
theorem dX2_line_119 : decode bcX2_line 119 = .ok (.pop, 1) := dk_87 (dk_at dksX2_line_5 21 rfl rfl)
theorem dX2_line_120 : decode bcX2_line 120 = .ok (.goto 79, 3) := dk_167 0 79 (dk_at dksX2_line_6 0 rfl rfl)
theorem dX2_line_123 : decode bcX2_line 123 = .ok (.aload_n 0, 1) := dk_42 (dk_at dksX2_line_6 3 rfl rfl)
theorem dX2_line_124 : decode bcX2_line 124 = .ok (.iconst 0, 1) := dk_3 (dk_at dksX2_line_6 4 rfl rfl)
theorem dX2_line_125 : decode bcX2_line 125 = .ok (.bipush 9, 2) := dk_16 9 (dk_at dksX2_line_6 5 rfl rfl)
theorem dX2_line_127 : decode bcX2_line 127 = .ok (.invokevirtual 178, 3) := dk_182 0 178 (dk_at dksX2_line_6 7 rfl rfl)
theorem dX2_line_130 : decode bcX2_line 130 = .ok (.istore_n 2, 1) := dk_61 (dk_at dksX2_line_6 10 rfl rfl)
theorem dX2_line_131 : decode bcX2_line 131 = .ok (.aload_n 0, 1) := dk_42 (dk_at dksX2_line_6 11 rfl rfl)
theorem dX2_line_132 : decode bcX2_line 132 = .ok (.getfield 101, 3) := dk_180 0 101 (dk_at dksX2_line_6 12 rfl rfl)
theorem dX2_line_135 : decode bcX2_line 135 = .ok (.getfield 143, 3) := dk_180 0 143 (dk_at dksX2_line_6 15 rfl rfl)
theorem dX2_line_138 : decode bcX2_line 138 = .ok (.bipush 12, 2) := dk_16 12 (dk_at dksX2_line_6 18 rfl rfl)
theorem dX2_line_140 : decode bcX2_line 140 = .ok (.if_icmp .ne 9, 3) := dk_160 0 9 (dk_at dksX2_line_6 20 rfl rfl)
theorem dX2_line_143 : decode bcX2_line 143 = .ok (.aload_n 0, 1) := dk_42 (dk_at dksX2_line_6 23 rfl rfl)
theorem dX2_line_144 : decode bcX2_line 144 = .ok (.iconst 5, 1) := dk_8 (dk_at dksX2_line_7 0 rfl rfl)
theorem dX2_line_145 : decode bcX2_line 145 = .ok (.invokevirtual 75, 3) := dk_182 0 75 (dk_at dksX2_line_7 1 rfl rfl)
theorem dX2_line_148 : decode bcX2_line 148 = .ok (.athrow, 1) := dk_191 (dk_at dksX2_line_7 4 rfl rfl)
theorem dX2_line_149 : decode bcX2_line 149 = .ok (.aload_n 0, 1) := dk_42 (dk_at dksX2_line_7 5 rfl rfl)
theorem dX2_line_150 : decode bcX2_line 150 = .ok (.invokevirtual 25, 3) := dk_182 0 25 (dk_at dksX2_line_7 6 rfl rfl)
theorem dX2_line_153 : decode bcX2_line 153 = .ok (.aload_n 0, 1) := dk_42 (dk_at dksX2_line_7 9 rfl rfl)
theorem dX2_line_154 : decode bcX2_line 154 = .ok (.getfield 101, 3) := dk_180 0 101 (dk_at dksX2_line_7 10 rfl rfl)
theorem dX2_line_157 : decode bcX2_line 157 = .ok (.getfield 181, 3) := dk_180 0 181 (dk_at dksX2_line_7 13 rfl rfl)
theorem dX2_line_160 : decode bcX2_line 160 = .ok (.aload_n 0, 1) := dk_42 (dk_at dksX2_line_7 16 rfl rfl)
theorem dX2_line_161 : decode bcX2_line 161 = .ok (.getfield 101, 3) := dk_180 0 101 (dk_at dksX2_line_7 17 rfl rfl)
theorem dX2_line_164 : decode bcX2_line 164 = .ok (.dup, 1) := dk_89 (dk_at dksX2_line_7 20 rfl rfl)
theorem dX2_line_165 : decode bcX2_line 165 = .ok (.getfield 143, 3) := dk_180 0 143 (dk_at dksX2_line_7 21 rfl rfl)
theorem dX2_line_168 : decode bcX2_line 168 = .ok (.dup_x1, 1) := dk_90 (dk_at dksX2_line_8 0 rfl rfl)
theorem dX2_line_169 : decode bcX2_line 169 = .ok (.iconst 1, 1) := dk_4 (dk_at dksX2_line_8 1 rfl rfl)
theorem dX2_line_170 : decode bcX2_line 170 = .ok (.iadd, 1) := dk_96 (dk_at dksX2_line_8 2 rfl rfl)
theorem dX2_line_171 : decode bcX2_line 171 = .ok (.putfield 143, 3) := dk_181 0 143 (dk_at dksX2_line_8 3 rfl rfl)
theorem dX2_line_174 : decode bcX2_line 174 = .ok (.iload_n 2, 1) := dk_28 (dk_at dksX2_line_8 6 rfl rfl)
theorem dX2_line_175 : decode bcX2_line 175 = .ok (.iastore, 1) := dk_79 (dk_at dksX2_line_8 7 rfl rfl)
theorem dX2_line_176 : decode bcX2_line 176 = .ok (.aload_n 0, 1) := dk_42 (dk_at dksX2_line_8 8 rfl rfl)
theorem dX2_line_177 : decode bcX2_line 177 = .ok (.bipush 59, 2) := dk_16 59 (dk_at dksX2_line_8 9 rfl rfl)
theorem dX2_line_179 : decode bcX2_line 179 = .ok (.invokevirtual 79, 3) := dk_182 0 79 (dk_at dksX2_line_8 11 rfl rfl)
theorem dX2_line_182 : decode bcX2_line 182 = .ok (.ifCond .eq (-59), 3) := dk_153 255 197 (dk_at dksX2_line_8 14 rfl rfl)
theorem dX2_line_185 : decode bcX2_line 185 = .ok (.goto 14, 3) := dk_167 0 14 (dk_at dksX2_line_8 17 rfl rfl)
theorem dX2_line_188 : decode bcX2_line 188 = .ok (.aload_n 0, 1) := dk_42 (dk_at dksX2_line_8 20 rfl rfl)
theorem dX2_line_189 : decode bcX2_line 189 = .ok (.getfield 101, 3) := dk_180 0 101 (dk_at dksX2_line_8 21 rfl rfl)
theorem dX2_line_192 : decode bcX2_line 192 = .ok (.aload_n 0, 1) := dk_42 (dk_at dksX2_line_9 0 rfl rfl)
theorem dX2_line_193 : decode bcX2_line 193 = .ok (.invokevirtual 184, 3) := dk_182 0 184 (dk_at dksX2_line_9 1 rfl rfl)
theorem dX2_line_196 : decode bcX2_line 196 = .ok (.putfield 146, 3) := dk_181 0 146 (dk_at dksX2_line_9 4 rfl rfl)
theorem dX2_line_199 : decode bcX2_line 199 = .ok (.return_, 1) := dk_177 (dk_at dksX2_line_9 7 rfl rfl)
abbrev SX2_line (pc : Nat) (i : xI) : Prop := Snd "SwollenHouse$Reader" "line" prog_17_method_22_code 3 (Option.none : Option Jvm.ClassFile.FieldType) [] pc i
theorem oX2_line_0 : SX2_line 0 (i_iload 1 1) := snd_iload_n dX2_line_0 rfl
theorem oX2_line_1 : SX2_line 1 (i_tsw 0 [32, 50, 68, 123] 188) := snd_tsw dX2_line_1 (by decide) (by decide) (by decide)
theorem oX2_line_32 : SX2_line 32 (i_aload 0 33) := snd_aload_n dX2_line_32 rfl
theorem oX2_line_33 : SX2_line 33 (i_getf 1 7 36) := snd_getf dX2_line_33 rfl (by decide) in_X2 (Or.inl q192) (Or.inl rfl) (by decide)
theorem oX2_line_36 : SX2_line 36 (i_getf 2 0 39) := snd_getf dX2_line_36 rfl (by decide) in_X3 (Or.inr ⟨_, q247⟩) (Or.inl rfl) (by decide)
theorem oX2_line_39 : SX2_line 39 (i_aload 0 40) := snd_aload_n dX2_line_39 rfl
theorem oX2_line_40 : SX2_line 40 (i_cv 1 204 0 43) := snd_cv rfl infX2_fresh (by decide) rfl (xVm_V dX2_line_40 rfl q645 q647 qs8 q128 q648 pdX2_fresh)
theorem oX2_line_43 : SX2_line 43 (i_cv 21 35 1 46) := snd_cv rfl infJ2_add (by decide) rfl (xVm_V dX2_line_43 rfl q826 q827 q828 q132 q829 pdJ2_add)
theorem oX2_line_46 : SX2_line 46 (i_pop 47) := snd_pop dX2_line_46
theorem oX2_line_47 : SX2_line 47 (i_goto 199) := snd_goto dX2_line_47 (by decide)
theorem oX2_line_50 : SX2_line 50 (i_aload 0 51) := snd_aload_n dX2_line_50 rfl
theorem oX2_line_51 : SX2_line 51 (i_getf 1 7 54) := snd_getf dX2_line_51 rfl (by decide) in_X2 (Or.inl q192) (Or.inl rfl) (by decide)
theorem oX2_line_54 : SX2_line 54 (i_getf 2 2 57) := snd_getf dX2_line_54 rfl (by decide) in_X3 (Or.inr ⟨_, q254⟩) (Or.inl rfl) (by decide)
theorem oX2_line_57 : SX2_line 57 (i_aload 0 58) := snd_aload_n dX2_line_57 rfl
theorem oX2_line_58 : SX2_line 58 (i_cv 1 206 0 61) := snd_cv rfl infX2_door (by decide) rfl (xVm_V dX2_line_58 rfl q883 q885 qs13 q128 q886 pdX2_door)
theorem oX2_line_61 : SX2_line 61 (i_cv 21 35 1 64) := snd_cv rfl infJ2_add (by decide) rfl (xVm_V dX2_line_61 rfl q826 q827 q828 q132 q829 pdJ2_add)
theorem oX2_line_64 : SX2_line 64 (i_pop 65) := snd_pop dX2_line_64
theorem oX2_line_65 : SX2_line 65 (i_goto 199) := snd_goto dX2_line_65 (by decide)
theorem oX2_line_68 : SX2_line 68 (i_aload 0 69) := snd_aload_n dX2_line_68 rfl
theorem oX2_line_69 : SX2_line 69 (i_cv 1 204 0 72) := snd_cv rfl infX2_fresh (by decide) rfl (xVm_V dX2_line_69 rfl q645 q647 qs8 q128 q648 pdX2_fresh)
theorem oX2_line_72 : SX2_line 72 (i_astore 2 73) := snd_astore_n dX2_line_72 rfl (by decide)
theorem oX2_line_73 : SX2_line 73 (i_aload 0 74) := snd_aload_n dX2_line_73 rfl
theorem oX2_line_74 : SX2_line 74 (i_const (.ref 12) 76) := snd_lit dX2_line_74 (by decide) (List.mem_of_getElem? (i := 5) rfl) rfl
theorem oX2_line_76 : SX2_line 76 (i_cvv 1 211 1 79) := snd_cvv rfl infX2_need (by decide) rfl (xVm_V dX2_line_76 rfl q968 q970 qs18 q128 q971 pdX2_need)
theorem oX2_line_79 : SX2_line 79 (i_aload 0 80) := snd_aload_n dX2_line_79 rfl
theorem oX2_line_80 : SX2_line 80 (i_getf 1 7 83) := snd_getf dX2_line_80 rfl (by decide) in_X2 (Or.inl q192) (Or.inl rfl) (by decide)
theorem oX2_line_83 : SX2_line 83 (i_getf 2 3 86) := snd_getf dX2_line_83 rfl (by decide) in_X3 (Or.inr ⟨_, q257⟩) (Or.inl rfl) (by decide)
theorem oX2_line_86 : SX2_line 86 (i_aload 0 87) := snd_aload_n dX2_line_86 rfl
theorem oX2_line_87 : SX2_line 87 (i_getf 1 7 90) := snd_getf dX2_line_87 rfl (by decide) in_X2 (Or.inl q192) (Or.inl rfl) (by decide)
theorem oX2_line_90 : SX2_line 90 (i_getf 2 1 93) := snd_getf dX2_line_90 rfl (by decide) in_X3 (Or.inr ⟨_, q249⟩) (Or.inl rfl) (by decide)
theorem oX2_line_93 : SX2_line 93 (i_cv 21 32 0 96) := snd_cv rfl infJ2_size (by decide) rfl (xVm_V dX2_line_93 rfl q640 q324 q325 q132 q326 pdJ2_size)
theorem oX2_line_96 : SX2_line 96 (i_aload 0 97) := snd_aload_n dX2_line_96 rfl
theorem oX2_line_97 : SX2_line 97 (i_aload 0 98) := snd_aload_n dX2_line_97 rfl
theorem oX2_line_98 : SX2_line 98 (i_getf 1 7 101) := snd_getf dX2_line_98 rfl (by decide) in_X2 (Or.inl q192) (Or.inl rfl) (by decide)
theorem oX2_line_101 : SX2_line 101 (i_getf 2 0 104) := snd_getf dX2_line_101 rfl (by decide) in_X3 (Or.inr ⟨_, q247⟩) (Or.inl rfl) (by decide)
theorem oX2_line_104 : SX2_line 104 (i_cv 1 207 1 107) := snd_cv rfl infX2_passed (by decide) rfl (xVm_V dX2_line_104 rfl q887 q889 qs14 q128 q890 pdX2_passed)
theorem oX2_line_107 : SX2_line 107 (i_si (fun v => v) 0 108) := snd_si0 dX2_line_107
theorem oX2_line_108 : SX2_line 108 (i_aload 0 109) := snd_aload_n dX2_line_108 rfl
theorem oX2_line_109 : SX2_line 109 (i_getf 1 7 112) := snd_getf dX2_line_109 rfl (by decide) in_X2 (Or.inl q192) (Or.inl rfl) (by decide)
theorem oX2_line_112 : SX2_line 112 (i_getf 2 1 115) := snd_getf dX2_line_112 rfl (by decide) in_X3 (Or.inr ⟨_, q249⟩) (Or.inl rfl) (by decide)
theorem oX2_line_115 : SX2_line 115 (i_aload 2 116) := snd_aload_n dX2_line_115 rfl
theorem oX2_line_116 : SX2_line 116 (i_cv 21 35 1 119) := snd_cv rfl infJ2_add (by decide) rfl (xVm_V dX2_line_116 rfl q826 q827 q828 q132 q829 pdJ2_add)
theorem oX2_line_119 : SX2_line 119 (i_pop 120) := snd_pop dX2_line_119
theorem oX2_line_120 : SX2_line 120 (i_goto 199) := snd_goto dX2_line_120 (by decide)
theorem oX2_line_123 : SX2_line 123 (i_aload 0 124) := snd_aload_n dX2_line_123 rfl
theorem oX2_line_124 : SX2_line 124 (i_const (.int (nI 0)) 125) := snd_iconst dX2_line_124 (by decide)
theorem oX2_line_125 : SX2_line 125 (i_const (.int (nI 9)) 127) := snd_bipush dX2_line_125 (by decide)
theorem oX2_line_127 : SX2_line 127 (i_cv 1 213 2 130) := snd_cv rfl infX2_ahead (by decide) rfl (xVm_V dX2_line_127 rfl q977 q979 qs20 q128 q980 pdX2_ahead)
theorem oX2_line_130 : SX2_line 130 (i_istore 2 131) := snd_istore_n dX2_line_130 rfl (by decide)
theorem oX2_line_131 : SX2_line 131 (i_aload 0 132) := snd_aload_n dX2_line_131 rfl
theorem oX2_line_132 : SX2_line 132 (i_getf 1 7 135) := snd_getf dX2_line_132 rfl (by decide) in_X2 (Or.inl q192) (Or.inl rfl) (by decide)
theorem oX2_line_135 : SX2_line 135 (i_getf 2 5 138) := snd_getf dX2_line_135 rfl (by decide) in_X3 (Or.inr ⟨_, q261⟩) (Or.inl rfl) (by decide)
theorem oX2_line_138 : SX2_line 138 (i_const (.int (nI 12)) 140) := snd_bipush dX2_line_138 (by decide)
theorem oX2_line_140 : SX2_line 140 (i_if2 (fun x y => ¬ x = y) 149 143) := snd_icmp_ne dX2_line_140 (by decide)
theorem oX2_line_143 : SX2_line 143 (i_aload 0 144) := snd_aload_n dX2_line_143 rfl
theorem oX2_line_144 : SX2_line 144 (i_const (.int (nI 5)) 145) := snd_iconst dX2_line_144 (by decide)
theorem oX2_line_145 : SX2_line 145 (i_cv 1 201 1 148) := snd_cv rfl infX2_wrong (by decide) rfl (xVm_V dX2_line_145 rfl q563 q565 qs4 q128 q566 pdX2_wrong)
theorem oX2_line_148 : SX2_line 148 (i_throw [5]) := snd_throw dX2_line_148 rfl okth_5
theorem oX2_line_149 : SX2_line 149 (i_aload 0 150) := snd_aload_n dX2_line_149 rfl
theorem oX2_line_150 : SX2_line 150 (i_cvv 1 195 0 153) := snd_cvv rfl infX2_next (by decide) rfl (xVm_V dX2_line_150 rfl q431 q433 qs1 q128 q434 pdX2_next)
theorem oX2_line_153 : SX2_line 153 (i_aload 0 154) := snd_aload_n dX2_line_153 rfl
theorem oX2_line_154 : SX2_line 154 (i_getf 1 7 157) := snd_getf dX2_line_154 rfl (by decide) in_X2 (Or.inl q192) (Or.inl rfl) (by decide)
theorem oX2_line_157 : SX2_line 157 (i_getf 2 4 160) := snd_getf dX2_line_157 rfl (by decide) in_X3 (Or.inr ⟨_, q259⟩) (Or.inl rfl) (by decide)
theorem oX2_line_160 : SX2_line 160 (i_aload 0 161) := snd_aload_n dX2_line_160 rfl
theorem oX2_line_161 : SX2_line 161 (i_getf 1 7 164) := snd_getf dX2_line_161 rfl (by decide) in_X2 (Or.inl q192) (Or.inl rfl) (by decide)
theorem oX2_line_164 : SX2_line 164 (i_dup 165) := snd_dup dX2_line_164
theorem oX2_line_165 : SX2_line 165 (i_getf 2 5 168) := snd_getf dX2_line_165 rfl (by decide) in_X3 (Or.inr ⟨_, q261⟩) (Or.inl rfl) (by decide)
theorem oX2_line_168 : SX2_line 168 (i_dup_x1 169) := snd_dup_x1 dX2_line_168
theorem oX2_line_169 : SX2_line 169 (i_const (.int (nI 1)) 170) := snd_iconst dX2_line_169 (by decide)
theorem oX2_line_170 : SX2_line 170 (i_ii (fun x y => x + y) 171) := snd_iadd dX2_line_170
theorem oX2_line_171 : SX2_line 171 (i_putfi 2 5 174) := snd_putfi dX2_line_171 rfl (by decide) in_X3 tyX3 tyX3_ok nmX3 (Or.inr (Or.inr ⟨rfl, _, q261⟩)) (Or.inl rfl) rfl
theorem oX2_line_174 : SX2_line 174 (i_iload 2 175) := snd_iload_n dX2_line_174 rfl
theorem oX2_line_175 : SX2_line 175 (i_si (fun v => v) 0 176) := snd_si0 dX2_line_175
theorem oX2_line_176 : SX2_line 176 (i_aload 0 177) := snd_aload_n dX2_line_176 rfl
theorem oX2_line_177 : SX2_line 177 (i_const (.int (nI 59)) 179) := snd_bipush dX2_line_177 (by decide)
theorem oX2_line_179 : SX2_line 179 (i_cv 1 214 1 182) := snd_cv rfl infX2_isSign (by decide) rfl (xVm_V dX2_line_179 rfl q984 q986 qs21 q128 q987 pdX2_isSign)
theorem oX2_line_182 : SX2_line 182 (i_if1 (fun x => x = 0) 123 185) := snd_if_eq dX2_line_182 (by decide)
theorem oX2_line_185 : SX2_line 185 (i_goto 199) := snd_goto dX2_line_185 (by decide)
theorem oX2_line_188 : SX2_line 188 (i_aload 0 189) := snd_aload_n dX2_line_188 rfl
theorem oX2_line_189 : SX2_line 189 (i_getf 1 7 192) := snd_getf dX2_line_189 rfl (by decide) in_X2 (Or.inl q192) (Or.inl rfl) (by decide)
theorem oX2_line_192 : SX2_line 192 (i_aload 0 193) := snd_aload_n dX2_line_192 rfl
theorem oX2_line_193 : SX2_line 193 (i_cv 1 215 0 196) := snd_cv rfl infX2_expression (by decide) rfl (xVm_V dX2_line_193 rfl q988 q990 qs22 q128 q991 pdX2_expression)
theorem oX2_line_196 : SX2_line 196 (i_putfr 2 6 199) := snd_putfr dX2_line_196 rfl (by decide) in_X3 tyX3 tyX3_ok nmX3 (Or.inr (Or.inr ⟨rfl, _, q263⟩)) (Or.inl rfl) (Or.inl ⟨_, rfl⟩)
theorem oX2_line_199 : SX2_line 199 (i_vret) := snd_vret dX2_line_199 rfl
theorem okX2_line : ∀ q ∈ cX2_line, SX2_line q.1 q.2 := List.forall_mem_cons.mpr ⟨oX2_line_0, List.forall_mem_cons.mpr ⟨oX2_line_1, List.forall_mem_cons.mpr ⟨oX2_line_32, List.forall_mem_cons.mpr ⟨oX2_line_33, List.forall_mem_cons.mpr ⟨oX2_line_36, List.forall_mem_cons.mpr ⟨oX2_line_39, List.forall_mem_cons.mpr ⟨oX2_line_40, List.forall_mem_cons.mpr ⟨oX2_line_43, List.forall_mem_cons.mpr ⟨oX2_line_46, List.forall_mem_cons.mpr ⟨oX2_line_47, List.forall_mem_cons.mpr ⟨oX2_line_50, List.forall_mem_cons.mpr ⟨oX2_line_51, List.forall_mem_cons.mpr ⟨oX2_line_54, List.forall_mem_cons.mpr ⟨oX2_line_57, List.forall_mem_cons.mpr ⟨oX2_line_58, List.forall_mem_cons.mpr ⟨oX2_line_61, List.forall_mem_cons.mpr ⟨oX2_line_64, List.forall_mem_cons.mpr ⟨oX2_line_65, List.forall_mem_cons.mpr ⟨oX2_line_68, List.forall_mem_cons.mpr ⟨oX2_line_69, List.forall_mem_cons.mpr ⟨oX2_line_72, List.forall_mem_cons.mpr ⟨oX2_line_73, List.forall_mem_cons.mpr ⟨oX2_line_74, List.forall_mem_cons.mpr ⟨oX2_line_76, List.forall_mem_cons.mpr ⟨oX2_line_79, List.forall_mem_cons.mpr ⟨oX2_line_80, List.forall_mem_cons.mpr ⟨oX2_line_83, List.forall_mem_cons.mpr ⟨oX2_line_86, List.forall_mem_cons.mpr ⟨oX2_line_87, List.forall_mem_cons.mpr ⟨oX2_line_90, List.forall_mem_cons.mpr ⟨oX2_line_93, List.forall_mem_cons.mpr ⟨oX2_line_96, List.forall_mem_cons.mpr ⟨oX2_line_97, List.forall_mem_cons.mpr ⟨oX2_line_98, List.forall_mem_cons.mpr ⟨oX2_line_101, List.forall_mem_cons.mpr ⟨oX2_line_104, List.forall_mem_cons.mpr ⟨oX2_line_107, List.forall_mem_cons.mpr ⟨oX2_line_108, List.forall_mem_cons.mpr ⟨oX2_line_109, List.forall_mem_cons.mpr ⟨oX2_line_112, List.forall_mem_cons.mpr ⟨oX2_line_115, List.forall_mem_cons.mpr ⟨oX2_line_116, List.forall_mem_cons.mpr ⟨oX2_line_119, List.forall_mem_cons.mpr ⟨oX2_line_120, List.forall_mem_cons.mpr ⟨oX2_line_123, List.forall_mem_cons.mpr ⟨oX2_line_124, List.forall_mem_cons.mpr ⟨oX2_line_125, List.forall_mem_cons.mpr ⟨oX2_line_127, List.forall_mem_cons.mpr ⟨oX2_line_130, List.forall_mem_cons.mpr ⟨oX2_line_131, List.forall_mem_cons.mpr ⟨oX2_line_132, List.forall_mem_cons.mpr ⟨oX2_line_135, List.forall_mem_cons.mpr ⟨oX2_line_138, List.forall_mem_cons.mpr ⟨oX2_line_140, List.forall_mem_cons.mpr ⟨oX2_line_143, List.forall_mem_cons.mpr ⟨oX2_line_144, List.forall_mem_cons.mpr ⟨oX2_line_145, List.forall_mem_cons.mpr ⟨oX2_line_148, List.forall_mem_cons.mpr ⟨oX2_line_149, List.forall_mem_cons.mpr ⟨oX2_line_150, List.forall_mem_cons.mpr ⟨oX2_line_153, List.forall_mem_cons.mpr ⟨oX2_line_154, List.forall_mem_cons.mpr ⟨oX2_line_157, List.forall_mem_cons.mpr ⟨oX2_line_160, List.forall_mem_cons.mpr ⟨oX2_line_161, List.forall_mem_cons.mpr ⟨oX2_line_164, List.forall_mem_cons.mpr ⟨oX2_line_165, List.forall_mem_cons.mpr ⟨oX2_line_168, List.forall_mem_cons.mpr ⟨oX2_line_169, List.forall_mem_cons.mpr ⟨oX2_line_170, List.forall_mem_cons.mpr ⟨oX2_line_171, List.forall_mem_cons.mpr ⟨oX2_line_174, List.forall_mem_cons.mpr ⟨oX2_line_175, List.forall_mem_cons.mpr ⟨oX2_line_176, List.forall_mem_cons.mpr ⟨oX2_line_177, List.forall_mem_cons.mpr ⟨oX2_line_179, List.forall_mem_cons.mpr ⟨oX2_line_182, List.forall_mem_cons.mpr ⟨oX2_line_185, List.forall_mem_cons.mpr ⟨oX2_line_188, List.forall_mem_cons.mpr ⟨oX2_line_189, List.forall_mem_cons.mpr ⟨oX2_line_192, List.forall_mem_cons.mpr ⟨oX2_line_193, List.forall_mem_cons.mpr ⟨oX2_line_196, List.forall_mem_cons.mpr ⟨oX2_line_199, fun _ h => absurd h List.not_mem_nil⟩⟩⟩⟩⟩⟩⟩⟩⟩⟩⟩⟩⟩⟩⟩⟩⟩⟩⟩⟩⟩⟩⟩⟩⟩⟩⟩⟩⟩⟩⟩⟩⟩⟩⟩⟩⟩⟩⟩⟩⟩⟩⟩⟩⟩⟩⟩⟩⟩⟩⟩⟩⟩⟩⟩⟩⟩⟩⟩⟩⟩⟩⟩⟩⟩⟩⟩⟩⟩⟩⟩⟩⟩⟩⟩⟩⟩⟩⟩⟩⟩⟩⟩⟩
def dkwX2_fresh_1 : List UInt8 := [180, 0, 115, 43, 184, 0, 111, 155, 0, 9, 42, 6, 182, 0, 75, 191, 42, 182, 0, 25, 43, 176]
abbrev dktX2_fresh_1 : List UInt8 := dkwX2_fresh_1 ++ []
def dkwX2_fresh_0 : List UInt8 := [42, 182, 0, 98, 76, 42, 180, 0, 101, 180, 0, 105, 43, 184, 0, 111, 156, 0, 17, 42, 180, 0, 101]
abbrev dktX2_fresh_0 : List UInt8 := dkwX2_fresh_0 ++ dktX2_fresh_1
theorem dksX2_fresh_0 : bcX2_fresh.data.toList.drop 0 = dktX2_fresh_0 := by decide +kernel
theorem dksX2_fresh_1 : bcX2_fresh.data.toList.drop 23 = dktX2_fresh_1 := dk_seg dksX2_fresh_0 23 rfl rfl
theorem dX2_fresh_0 : decode bcX2_fresh 0 = .ok (.aload_n 0, 1) := dk_42 (dk_at dksX2_fresh_0 0 rfl rfl)
theorem dX2_fresh_1 : decode bcX2_fresh 1 = .ok (.invokevirtual 98, 3) := dk_182 0 98 (dk_at dksX2_fresh_0 1 rfl rfl)
theorem dX2_fresh_4 : decode bcX2_fresh 4 = .ok (.astore_n 1, 1) := dk_76 (dk_at dksX2_fresh_0 4 rfl rfl)
theorem dX2_fresh_5 : decode bcX2_fresh 5 = .ok (.aload_n 0, 1) := dk_42 (dk_at dksX2_fresh_0 5 rfl rfl)
theorem dX2_fresh_6 : decode bcX2_fresh 6 = .ok (.getfield 101, 3) := dk_180 0 101 (dk_at dksX2_fresh_0 6 rfl rfl)
theorem dX2_fresh_9 : decode bcX2_fresh 9 = .ok (.getfield 105, 3) := dk_180 0 105 (dk_at dksX2_fresh_0 9 rfl rfl)
theorem dX2_fresh_12 : decode bcX2_fresh 12 = .ok (.aload_n 1, 1) := dk_43 (dk_at dksX2_fresh_0 12 rfl rfl)
theorem dX2_fresh_13 : decode bcX2_fresh 13 = .ok (.invokestatic 111, 3) := dk_184 0 111 (dk_at dksX2_fresh_0 13 rfl rfl)
theorem dX2_fresh_16 : decode bcX2_fresh 16 = .ok (.ifCond .ge 17, 3) := dk_156 0 17 (dk_at dksX2_fresh_0 16 rfl rfl)
theorem dX2_fresh_19 : decode bcX2_fresh 19 = .ok (.aload_n 0, 1) := dk_42 (dk_at dksX2_fresh_0 19 rfl rfl)
theorem dX2_fresh_20 : decode bcX2_fresh 20 = .ok (.getfield 101, 3) := dk_180 0 101 (dk_at dksX2_fresh_0 20 rfl rfl)
theorem dX2_fresh_23 : decode bcX2_fresh 23 = .ok (.getfield 115, 3) := dk_180 0 115 (dk_at dksX2_fresh_1 0 rfl rfl)
theorem dX2_fresh_26 : decode bcX2_fresh 26 = .ok (.aload_n 1, 1) := dk_43 (dk_at dksX2_fresh_1 3 rfl rfl)
theorem dX2_fresh_27 : decode bcX2_fresh 27 = .ok (.invokestatic 111, 3) := dk_184 0 111 (dk_at dksX2_fresh_1 4 rfl rfl)
theorem dX2_fresh_30 : decode bcX2_fresh 30 = .ok (.ifCond .lt 9, 3) := dk_155 0 9 (dk_at dksX2_fresh_1 7 rfl rfl)
theorem dX2_fresh_33 : decode bcX2_fresh 33 = .ok (.aload_n 0, 1) := dk_42 (dk_at dksX2_fresh_1 10 rfl rfl)
theorem dX2_fresh_34 : decode bcX2_fresh 34 = .ok (.iconst 3, 1) := dk_6 (dk_at dksX2_fresh_1 11 rfl rfl)
theorem dX2_fresh_35 : decode bcX2_fresh 35 = .ok (.invokevirtual 75, 3) := dk_182 0 75 (dk_at dksX2_fresh_1 12 rfl rfl)
theorem dX2_fresh_38 : decode bcX2_fresh 38 = .ok (.athrow, 1) := dk_191 (dk_at dksX2_fresh_1 15 rfl rfl)
theorem dX2_fresh_39 : decode bcX2_fresh 39 = .ok (.aload_n 0, 1) := dk_42 (dk_at dksX2_fresh_1 16 rfl rfl)
theorem dX2_fresh_40 : decode bcX2_fresh 40 = .ok (.invokevirtual 25, 3) := dk_182 0 25 (dk_at dksX2_fresh_1 17 rfl rfl)
theorem dX2_fresh_43 : decode bcX2_fresh 43 = .ok (.aload_n 1, 1) := dk_43 (dk_at dksX2_fresh_1 20 rfl rfl)
theorem dX2_fresh_44 : decode bcX2_fresh 44 = .ok (.areturn, 1) := dk_176 (dk_at dksX2_fresh_1 21 rfl rfl)
abbrev SX2_fresh (pc : Nat) (i : xI) : Prop := Snd "SwollenHouse$Reader" "fresh" prog_17_method_14_code 2 (Option.some (Jvm.ClassFile.FieldType.object "java/lang/String")) [] pc i
theorem oX2_fresh_0 : SX2_fresh 0 (i_aload 0 1) := snd_aload_n dX2_fresh_0 rfl
theorem oX2_fresh_1 : SX2_fresh 1 (i_cv 1 205 0 4) := snd_cv rfl infX2_name (by decide) rfl (xVm_V dX2_fresh_1 rfl q649 q651 qs9 q128 q652 pdX2_name)
theorem oX2_fresh_4 : SX2_fresh 4 (i_astore 1 5) := snd_astore_n dX2_fresh_4 rfl (by decide)
theorem oX2_fresh_5 : SX2_fresh 5 (i_aload 0 6) := snd_aload_n dX2_fresh_5 rfl
theorem oX2_fresh_6 : SX2_fresh 6 (i_getf 1 7 9) := snd_getf dX2_fresh_6 rfl (by decide) in_X2 (Or.inl q192) (Or.inl rfl) (by decide)
theorem oX2_fresh_9 : SX2_fresh 9 (i_getf 2 0 12) := snd_getf dX2_fresh_9 rfl (by decide) in_X3 (Or.inr ⟨_, q247⟩) (Or.inl rfl) (by decide)
theorem oX2_fresh_12 : SX2_fresh 12 (i_aload 1 13) := snd_aload_n dX2_fresh_12 rfl
theorem oX2_fresh_13 : SX2_fresh 13 (i_cs 233 2 16) := snd_cs rfl infX3_place (by decide) (xSm_N dX2_fresh_13 q812 q813 q129 q814 pdX3_place)
theorem oX2_fresh_16 : SX2_fresh 16 (i_if1 (fun x => 0 ≤ x) 33 19) := snd_if_ge dX2_fresh_16 (by decide)
theorem oX2_fresh_19 : SX2_fresh 19 (i_aload 0 20) := snd_aload_n dX2_fresh_19 rfl
theorem oX2_fresh_20 : SX2_fresh 20 (i_getf 1 7 23) := snd_getf dX2_fresh_20 rfl (by decide) in_X2 (Or.inl q192) (Or.inl rfl) (by decide)
theorem oX2_fresh_23 : SX2_fresh 23 (i_getf 2 1 26) := snd_getf dX2_fresh_23 rfl (by decide) in_X3 (Or.inr ⟨_, q249⟩) (Or.inl rfl) (by decide)
theorem oX2_fresh_26 : SX2_fresh 26 (i_aload 1 27) := snd_aload_n dX2_fresh_26 rfl
theorem oX2_fresh_27 : SX2_fresh 27 (i_cs 233 2 30) := snd_cs rfl infX3_place (by decide) (xSm_N dX2_fresh_27 q812 q813 q129 q814 pdX3_place)
theorem oX2_fresh_30 : SX2_fresh 30 (i_if1 (fun x => x < 0) 39 33) := snd_if_lt dX2_fresh_30 (by decide)
theorem oX2_fresh_33 : SX2_fresh 33 (i_aload 0 34) := snd_aload_n dX2_fresh_33 rfl
theorem oX2_fresh_34 : SX2_fresh 34 (i_const (.int (nI 3)) 35) := snd_iconst dX2_fresh_34 (by decide)
theorem oX2_fresh_35 : SX2_fresh 35 (i_cv 1 201 1 38) := snd_cv rfl infX2_wrong (by decide) rfl (xVm_V dX2_fresh_35 rfl q563 q565 qs4 q128 q566 pdX2_wrong)
theorem oX2_fresh_38 : SX2_fresh 38 (i_throw [5]) := snd_throw dX2_fresh_38 rfl okth_5
theorem oX2_fresh_39 : SX2_fresh 39 (i_aload 0 40) := snd_aload_n dX2_fresh_39 rfl
theorem oX2_fresh_40 : SX2_fresh 40 (i_cvv 1 195 0 43) := snd_cvv rfl infX2_next (by decide) rfl (xVm_V dX2_fresh_40 rfl q431 q433 qs1 q128 q434 pdX2_next)
theorem oX2_fresh_43 : SX2_fresh 43 (i_aload 1 44) := snd_aload_n dX2_fresh_43 rfl
theorem oX2_fresh_44 : SX2_fresh 44 (i_aret) := snd_aret dX2_fresh_44 rfl (Or.inl ⟨_, rfl⟩)
theorem okX2_fresh : ∀ q ∈ cX2_fresh, SX2_fresh q.1 q.2 := List.forall_mem_cons.mpr ⟨oX2_fresh_0, List.forall_mem_cons.mpr ⟨oX2_fresh_1, List.forall_mem_cons.mpr ⟨oX2_fresh_4, List.forall_mem_cons.mpr ⟨oX2_fresh_5, List.forall_mem_cons.mpr ⟨oX2_fresh_6, List.forall_mem_cons.mpr ⟨oX2_fresh_9, List.forall_mem_cons.mpr ⟨oX2_fresh_12, List.forall_mem_cons.mpr ⟨oX2_fresh_13, List.forall_mem_cons.mpr ⟨oX2_fresh_16, List.forall_mem_cons.mpr ⟨oX2_fresh_19, List.forall_mem_cons.mpr ⟨oX2_fresh_20, List.forall_mem_cons.mpr ⟨oX2_fresh_23, List.forall_mem_cons.mpr ⟨oX2_fresh_26, List.forall_mem_cons.mpr ⟨oX2_fresh_27, List.forall_mem_cons.mpr ⟨oX2_fresh_30, List.forall_mem_cons.mpr ⟨oX2_fresh_33, List.forall_mem_cons.mpr ⟨oX2_fresh_34, List.forall_mem_cons.mpr ⟨oX2_fresh_35, List.forall_mem_cons.mpr ⟨oX2_fresh_38, List.forall_mem_cons.mpr ⟨oX2_fresh_39, List.forall_mem_cons.mpr ⟨oX2_fresh_40, List.forall_mem_cons.mpr ⟨oX2_fresh_43, List.forall_mem_cons.mpr ⟨oX2_fresh_44, fun _ h => absurd h List.not_mem_nil⟩⟩⟩⟩⟩⟩⟩⟩⟩⟩⟩⟩⟩⟩⟩⟩⟩⟩⟩⟩⟩⟩⟩
def dkwX2_name_2 : List UInt8 := [42, 180, 0, 9, 28, 51, 146, 182, 0, 90, 87, 132, 2, 1, 167, 255, 233, 43, 182, 0, 94, 176]
abbrev dktX2_name_2 : List UInt8 := dkwX2_name_2 ++ []
def dkwX2_name_1 : List UInt8 := [187, 0, 85, 89, 16, 8, 183, 0, 87, 76, 42, 180, 0, 28, 61, 28, 42, 180, 0, 19, 162, 0, 21, 43]
abbrev dktX2_name_1 : List UInt8 := dkwX2_name_1 ++ dktX2_name_2
def dkwX2_name_0 : List UInt8 := [42, 180, 0, 31, 4, 160, 0, 12, 42, 18, 83, 182, 0, 71, 155, 0, 9, 42, 4, 182, 0, 75, 191]
abbrev dktX2_name_0 : List UInt8 := dkwX2_name_0 ++ dktX2_name_1
theorem dksX2_name_0 : bcX2_name.data.toList.drop 0 = dktX2_name_0 := by decide +kernel
theorem dksX2_name_1 : bcX2_name.data.toList.drop 23 = dktX2_name_1 := dk_seg dksX2_name_0 23 rfl rfl
theorem dksX2_name_2 : bcX2_name.data.toList.drop 47 = dktX2_name_2 := dk_seg dksX2_name_1 24 rfl rfl
theorem dX2_name_0 : decode bcX2_name 0 = .ok (.aload_n 0, 1) := dk_42 (dk_at dksX2_name_0 0 rfl rfl)
theorem dX2_name_1 : decode bcX2_name 1 = .ok (.getfield 31, 3) := dk_180 0 31 (dk_at dksX2_name_0 1 rfl rfl)
theorem dX2_name_4 : decode bcX2_name 4 = .ok (.iconst 1, 1) := dk_4 (dk_at dksX2_name_0 4 rfl rfl)
theorem dX2_name_5 : decode bcX2_name 5 = .ok (.if_icmp .ne 12, 3) := dk_160 0 12 (dk_at dksX2_name_0 5 rfl rfl)
theorem dX2_name_8 : decode bcX2_name 8 = .ok (.aload_n 0, 1) := dk_42 (dk_at dksX2_name_0 8 rfl rfl)
theorem dX2_name_9 : decode bcX2_name 9 = .ok (.ldc 83, 2) := dk_18 83 (dk_at dksX2_name_0 9 rfl rfl)
theorem dX2_name_11 : decode bcX2_name 11 = .ok (.invokevirtual 71, 3) := dk_182 0 71 (dk_at dksX2_name_0 11 rfl rfl)
theorem dX2_name_14 : decode bcX2_name 14 = .ok (.ifCond .lt 9, 3) := dk_155 0 9 (dk_at dksX2_name_0 14 rfl rfl)
theorem dX2_name_17 : decode bcX2_name 17 = .ok (.aload_n 0, 1) := dk_42 (dk_at dksX2_name_0 17 rfl rfl)
theorem dX2_name_18 : decode bcX2_name 18 = .ok (.iconst 1, 1) := dk_4 (dk_at dksX2_name_0 18 rfl rfl)
theorem dX2_name_19 : decode bcX2_name 19 = .ok (.invokevirtual 75, 3) := dk_182 0 75 (dk_at dksX2_name_0 19 rfl rfl)
theorem dX2_name_22 : decode bcX2_name 22 = .ok (.athrow, 1) := dk_191 (dk_at dksX2_name_0 22 rfl rfl)
theorem dX2_name_23 : decode bcX2_name 23 = .ok (.new 85, 3) := dk_187 0 85 (dk_at dksX2_name_1 0 rfl rfl)
theorem dX2_name_26 : decode bcX2_name 26 = .ok (.dup, 1) := dk_89 (dk_at dksX2_name_1 3 rfl rfl)
theorem dX2_name_27 : decode bcX2_name 27 = .ok (.bipush 8, 2) := dk_16 8 (dk_at dksX2_name_1 4 rfl rfl)
theorem dX2_name_29 : decode bcX2_name 29 = .ok (.invokespecial 87, 3) := dk_183 0 87 (dk_at dksX2_name_1 6 rfl rfl)
theorem dX2_name_32 : decode bcX2_name 32 = .ok (.astore_n 1, 1) := dk_76 (dk_at dksX2_name_1 9 rfl rfl)
theorem dX2_name_33 : decode bcX2_name 33 = .ok (.aload_n 0, 1) := dk_42 (dk_at dksX2_name_1 10 rfl rfl)
theorem dX2_name_34 : decode bcX2_name 34 = .ok (.getfield 28, 3) := dk_180 0 28 (dk_at dksX2_name_1 11 rfl rfl)
theorem dX2_name_37 : decode bcX2_name 37 = .ok (.istore_n 2, 1) := dk_61 (dk_at dksX2_name_1 14 rfl rfl)
theorem dX2_name_38 : decode bcX2_name 38 = .ok (.iload_n 2, 1) := dk_28 (dk_at dksX2_name_1 15 rfl rfl)
theorem dX2_name_39 : decode bcX2_name 39 = .ok (.aload_n 0, 1) := dk_42 (dk_at dksX2_name_1 16 rfl rfl)
theorem dX2_name_40 : decode bcX2_name 40 = .ok (.getfield 19, 3) := dk_180 0 19 (dk_at dksX2_name_1 17 rfl rfl)
theorem dX2_name_43 : decode bcX2_name 43 = .ok (.if_icmp .ge 21, 3) := dk_162 0 21 (dk_at dksX2_name_1 20 rfl rfl)
theorem dX2_name_46 : decode bcX2_name 46 = .ok (.aload_n 1, 1) := dk_43 (dk_at dksX2_name_1 23 rfl rfl)
theorem dX2_name_47 : decode bcX2_name 47 = .ok (.aload_n 0, 1) := dk_42 (dk_at dksX2_name_2 0 rfl rfl)
theorem dX2_name_48 : decode bcX2_name 48 = .ok (.getfield 9, 3) := dk_180 0 9 (dk_at dksX2_name_2 1 rfl rfl)
theorem dX2_name_51 : decode bcX2_name 51 = .ok (.iload_n 2, 1) := dk_28 (dk_at dksX2_name_2 4 rfl rfl)
theorem dX2_name_52 : decode bcX2_name 52 = .ok (.baload, 1) := dk_51 (dk_at dksX2_name_2 5 rfl rfl)
theorem dX2_name_53 : decode bcX2_name 53 = .ok (.i2c, 1) := dk_146 (dk_at dksX2_name_2 6 rfl rfl)
theorem dX2_name_54 : decode bcX2_name 54 = .ok (.invokevirtual 90, 3) := dk_182 0 90 (dk_at dksX2_name_2 7 rfl rfl)
theorem dX2_name_57 : decode bcX2_name 57 = .ok (.pop, 1) := dk_87 (dk_at dksX2_name_2 10 rfl rfl)
theorem dX2_name_58 : decode bcX2_name 58 = .ok (.iinc 2 1, 3) := dk_132 2 1 (dk_at dksX2_name_2 11 rfl rfl)
theorem dX2_name_61 : decode bcX2_name 61 = .ok (.goto (-23), 3) := dk_167 255 233 (dk_at dksX2_name_2 14 rfl rfl)
theorem dX2_name_64 : decode bcX2_name 64 = .ok (.aload_n 1, 1) := dk_43 (dk_at dksX2_name_2 17 rfl rfl)
theorem dX2_name_65 : decode bcX2_name 65 = .ok (.invokevirtual 94, 3) := dk_182 0 94 (dk_at dksX2_name_2 18 rfl rfl)
theorem dX2_name_68 : decode bcX2_name 68 = .ok (.areturn, 1) := dk_176 (dk_at dksX2_name_2 21 rfl rfl)
abbrev SX2_name (pc : Nat) (i : xI) : Prop := Snd "SwollenHouse$Reader" "name" prog_17_method_13_code 3 (Option.some (Jvm.ClassFile.FieldType.object "java/lang/String")) [] pc i
theorem oX2_name_0 : SX2_name 0 (i_aload 0 1) := snd_aload_n dX2_name_0 rfl
theorem oX2_name_1 : SX2_name 1 (i_getf 1 3 4) := snd_getf dX2_name_1 rfl (by decide) in_X2 (Or.inl q188) (Or.inl rfl) (by decide)
theorem oX2_name_4 : SX2_name 4 (i_const (.int (nI 1)) 5) := snd_iconst dX2_name_4 (by decide)
theorem oX2_name_5 : SX2_name 5 (i_if2 (fun x y => ¬ x = y) 17 8) := snd_icmp_ne dX2_name_5 (by decide)
theorem oX2_name_8 : SX2_name 8 (i_aload 0 9) := snd_aload_n dX2_name_8 rfl
theorem oX2_name_9 : SX2_name 9 (i_const (.ref 6) 11) := snd_lit dX2_name_9 (by decide) (List.mem_of_getElem? (i := 2) rfl) rfl
theorem oX2_name_11 : SX2_name 11 (i_cv 1 200 1 14) := snd_cv rfl infX2_which (by decide) rfl (xVm_V dX2_name_11 rfl q539 q541 qs3 q128 q542 pdX2_which)
theorem oX2_name_14 : SX2_name 14 (i_if1 (fun x => x < 0) 23 17) := snd_if_lt dX2_name_14 (by decide)
theorem oX2_name_17 : SX2_name 17 (i_aload 0 18) := snd_aload_n dX2_name_17 rfl
theorem oX2_name_18 : SX2_name 18 (i_const (.int (nI 1)) 19) := snd_iconst dX2_name_18 (by decide)
theorem oX2_name_19 : SX2_name 19 (i_cv 1 201 1 22) := snd_cv rfl infX2_wrong (by decide) rfl (xVm_V dX2_name_19 rfl q563 q565 qs4 q128 q566 pdX2_wrong)
theorem oX2_name_22 : SX2_name 22 (i_throw [5]) := snd_throw dX2_name_22 rfl okth_5
theorem oX2_name_23 : SX2_name 23 (i_new 23 4 zJ14 26) := snd_new dX2_name_23 rfl in_J14 tyJ14 tyJ14_ok (by decide) q654 q655 q147
theorem oX2_name_26 : SX2_name 26 (i_dup 27) := snd_dup dX2_name_26
theorem oX2_name_27 : SX2_name 27 (i_const (.int (nI 8)) 29) := snd_bipush dX2_name_27 (by decide)
theorem oX2_name_29 : SX2_name 29 (i_ci [23] 16 1 32) := snd_ci rfl infJ14_init (by decide) (xcls_ok _ (by decide)) (xIm_I dX2_name_29 rfl q656 q657 q147 q658 pdJ14_init)
theorem oX2_name_32 : SX2_name 32 (i_astore 1 33) := snd_astore_n dX2_name_32 rfl (by decide)
theorem oX2_name_33 : SX2_name 33 (i_aload 0 34) := snd_aload_n dX2_name_33 rfl
theorem oX2_name_34 : SX2_name 34 (i_getf 1 4 37) := snd_getf dX2_name_34 rfl (by decide) in_X2 (Or.inl q189) (Or.inl rfl) (by decide)
theorem oX2_name_37 : SX2_name 37 (i_istore 2 38) := snd_istore_n dX2_name_37 rfl (by decide)
theorem oX2_name_38 : SX2_name 38 (i_iload 2 39) := snd_iload_n dX2_name_38 rfl
theorem oX2_name_39 : SX2_name 39 (i_aload 0 40) := snd_aload_n dX2_name_39 rfl
theorem oX2_name_40 : SX2_name 40 (i_getf 1 2 43) := snd_getf dX2_name_40 rfl (by decide) in_X2 (Or.inl q187) (Or.inl rfl) (by decide)
theorem oX2_name_43 : SX2_name 43 (i_if2 (fun x y => y ≤ x) 64 46) := snd_icmp_ge dX2_name_43 (by decide)
theorem oX2_name_46 : SX2_name 46 (i_aload 1 47) := snd_aload_n dX2_name_46 rfl
theorem oX2_name_47 : SX2_name 47 (i_aload 0 48) := snd_aload_n dX2_name_47 rfl
theorem oX2_name_48 : SX2_name 48 (i_getf 1 0 51) := snd_getf dX2_name_48 rfl (by decide) in_X2 (Or.inl q185) (Or.inl rfl) (by decide)
theorem oX2_name_51 : SX2_name 51 (i_iload 2 52) := snd_iload_n dX2_name_51 rfl
theorem oX2_name_52 : SX2_name 52 (i_ai 1 53) := snd_ai1 dX2_name_52
theorem oX2_name_53 : SX2_name 53 (i_i1 (fun x => (x.toUInt32 % 65536).toInt32) 54) := snd_i2c dX2_name_53
theorem oX2_name_54 : SX2_name 54 (i_cv 23 17 1 57) := snd_cv rfl infJ14_append (by decide) rfl (xVm_V dX2_name_54 rfl q684 q685 q686 q147 q687 pdJ14_append)
theorem oX2_name_57 : SX2_name 57 (i_pop 58) := snd_pop dX2_name_57
theorem oX2_name_58 : SX2_name 58 (i_iinc 2 (nI 1) 61) := snd_iinc dX2_name_58 (by decide) (by decide)
theorem oX2_name_61 : SX2_name 61 (i_goto 38) := snd_goto dX2_name_61 (by decide)
theorem oX2_name_64 : SX2_name 64 (i_aload 1 65) := snd_aload_n dX2_name_64 rfl
theorem oX2_name_65 : SX2_name 65 (i_cv 23 18 0 68) := snd_cv rfl infJ14_toString (by decide) rfl (xVm_V dX2_name_65 rfl q755 q756 q757 q147 q758 pdJ14_toString)
theorem oX2_name_68 : SX2_name 68 (i_aret) := snd_aret dX2_name_68 rfl (Or.inl ⟨_, rfl⟩)
theorem okX2_name : ∀ q ∈ cX2_name, SX2_name q.1 q.2 := List.forall_mem_cons.mpr ⟨oX2_name_0, List.forall_mem_cons.mpr ⟨oX2_name_1, List.forall_mem_cons.mpr ⟨oX2_name_4, List.forall_mem_cons.mpr ⟨oX2_name_5, List.forall_mem_cons.mpr ⟨oX2_name_8, List.forall_mem_cons.mpr ⟨oX2_name_9, List.forall_mem_cons.mpr ⟨oX2_name_11, List.forall_mem_cons.mpr ⟨oX2_name_14, List.forall_mem_cons.mpr ⟨oX2_name_17, List.forall_mem_cons.mpr ⟨oX2_name_18, List.forall_mem_cons.mpr ⟨oX2_name_19, List.forall_mem_cons.mpr ⟨oX2_name_22, List.forall_mem_cons.mpr ⟨oX2_name_23, List.forall_mem_cons.mpr ⟨oX2_name_26, List.forall_mem_cons.mpr ⟨oX2_name_27, List.forall_mem_cons.mpr ⟨oX2_name_29, List.forall_mem_cons.mpr ⟨oX2_name_32, List.forall_mem_cons.mpr ⟨oX2_name_33, List.forall_mem_cons.mpr ⟨oX2_name_34, List.forall_mem_cons.mpr ⟨oX2_name_37, List.forall_mem_cons.mpr ⟨oX2_name_38, List.forall_mem_cons.mpr ⟨oX2_name_39, List.forall_mem_cons.mpr ⟨oX2_name_40, List.forall_mem_cons.mpr ⟨oX2_name_43, List.forall_mem_cons.mpr ⟨oX2_name_46, List.forall_mem_cons.mpr ⟨oX2_name_47, List.forall_mem_cons.mpr ⟨oX2_name_48, List.forall_mem_cons.mpr ⟨oX2_name_51, List.forall_mem_cons.mpr ⟨oX2_name_52, List.forall_mem_cons.mpr ⟨oX2_name_53, List.forall_mem_cons.mpr ⟨oX2_name_54, List.forall_mem_cons.mpr ⟨oX2_name_57, List.forall_mem_cons.mpr ⟨oX2_name_58, List.forall_mem_cons.mpr ⟨oX2_name_61, List.forall_mem_cons.mpr ⟨oX2_name_64, List.forall_mem_cons.mpr ⟨oX2_name_65, List.forall_mem_cons.mpr ⟨oX2_name_68, fun _ h => absurd h List.not_mem_nil⟩⟩⟩⟩⟩⟩⟩⟩⟩⟩⟩⟩⟩⟩⟩⟩⟩⟩⟩⟩⟩⟩⟩⟩⟩⟩⟩⟩⟩⟩⟩⟩⟩⟩⟩⟩⟩
def dkwX2_door_6 : List UInt8 := [176]
abbrev dktX2_door_6 : List UInt8 := dkwX2_door_6 ++ []
def dkwX2_door_5 : List UInt8 := [187, 0, 209, 89, 183, 0, 211, 181, 0, 212, 45, 42, 18, 216, 3, 16, 12, 182, 0, 218, 181, 0, 221, 45]
abbrev dktX2_door_5 : List UInt8 := dkwX2_door_5 ++ dktX2_door_6
def dkwX2_door_4 : List UInt8 := [183, 0, 205, 167, 0, 26, 21, 4, 5, 160, 0, 13, 187, 0, 206, 89, 183, 0, 208, 167, 0, 10]
abbrev dktX2_door_4 : List UInt8 := dkwX2_door_4 ++ dktX2_door_5
def dkwX2_door_3 : List UInt8 := [154, 0, 13, 187, 0, 200, 89, 183, 0, 202, 167, 0, 42, 21, 4, 4, 160, 0, 13, 187, 0, 203, 89]
abbrev dktX2_door_3 : List UInt8 := dkwX2_door_3 ++ dktX2_door_4
def dkwX2_door_2 : List UInt8 := [182, 0, 25, 187, 0, 192, 89, 27, 28, 183, 0, 194, 78, 42, 18, 195, 182, 0, 197, 54, 4, 45, 21, 4]
abbrev dktX2_door_2 : List UInt8 := dkwX2_door_2 ++ dktX2_door_3
def dkwX2_door_1 : List UInt8 := [27, 28, 159, 0, 15, 42, 180, 0, 101, 27, 28, 182, 0, 188, 153, 0, 9, 42, 6, 182, 0, 75, 191, 42]
abbrev dktX2_door_1 : List UInt8 := dkwX2_door_1 ++ dktX2_door_2
def dkwX2_door_0 : List UInt8 := [42, 42, 180, 0, 101, 180, 0, 105, 182, 0, 175, 60, 42, 42, 180, 0, 101, 180, 0, 105, 182, 0, 129, 61]
abbrev dktX2_door_0 : List UInt8 := dkwX2_door_0 ++ dktX2_door_1
theorem dksX2_door_0 : bcX2_door.data.toList.drop 0 = dktX2_door_0 := by decide +kernel
theorem dksX2_door_1 : bcX2_door.data.toList.drop 24 = dktX2_door_1 := dk_seg dksX2_door_0 24 rfl rfl
theorem dksX2_door_2 : bcX2_door.data.toList.drop 48 = dktX2_door_2 := dk_seg dksX2_door_1 24 rfl rfl
theorem dksX2_door_3 : bcX2_door.data.toList.drop 72 = dktX2_door_3 := dk_seg dksX2_door_2 24 rfl rfl
theorem dksX2_door_4 : bcX2_door.data.toList.drop 95 = dktX2_door_4 := dk_seg dksX2_door_3 23 rfl rfl
theorem dksX2_door_5 : bcX2_door.data.toList.drop 117 = dktX2_door_5 := dk_seg dksX2_door_4 22 rfl rfl
theorem dksX2_door_6 : bcX2_door.data.toList.drop 141 = dktX2_door_6 := dk_seg dksX2_door_5 24 rfl rfl
theorem dX2_door_0 : decode bcX2_door 0 = .ok (.aload_n 0, 1) := dk_42 (dk_at dksX2_door_0 0 rfl rfl)
theorem dX2_door_1 : decode bcX2_door 1 = .ok (.aload_n 0, 1) := dk_42 (dk_at dksX2_door_0 1 rfl rfl)
theorem dX2_door_2 : decode bcX2_door 2 = .ok (.getfield 101, 3) := dk_180 0 101 (dk_at dksX2_door_0 2 rfl rfl)
theorem dX2_door_5 : decode bcX2_door 5 = .ok (.getfield 105, 3) := dk_180 0 105 (dk_at dksX2_door_0 5 rfl rfl)
theorem dX2_door_8 : decode bcX2_door 8 = .ok (.invokevirtual 175, 3) := dk_182 0 175 (dk_at dksX2_door_0 8 rfl rfl)
theorem dX2_door_11 : decode bcX2_door 11 = .ok (.istore_n 1, 1) := dk_60 (dk_at dksX2_door_0 11 rfl rfl)
theorem dX2_door_12 : decode bcX2_door 12 = .ok (.aload_n 0, 1) := dk_42 (dk_at dksX2_door_0 12 rfl rfl)
theorem dX2_door_13 : decode bcX2_door 13 = .ok (.aload_n 0, 1) := dk_42 (dk_at dksX2_door_0 13 rfl rfl)
theorem dX2_door_14 : decode bcX2_door 14 = .ok (.getfield 101, 3) := dk_180 0 101 (dk_at dksX2_door_0 14 rfl rfl)
theorem dX2_door_17 : decode bcX2_door 17 = .ok (.getfield 105, 3) := dk_180 0 105 (dk_at dksX2_door_0 17 rfl rfl)
theorem dX2_door_20 : decode bcX2_door 20 = .ok (.invokevirtual 129, 3) := dk_182 0 129 (dk_at dksX2_door_0 20 rfl rfl)
theorem dX2_door_23 : decode bcX2_door 23 = .ok (.istore_n 2, 1) := dk_61 (dk_at dksX2_door_0 23 rfl rfl)
theorem dX2_door_24 : decode bcX2_door 24 = .ok (.iload_n 1, 1) := dk_27 (dk_at dksX2_door_1 0 rfl rfl)
theorem dX2_door_25 : decode bcX2_door 25 = .ok (.iload_n 2, 1) := dk_28 (dk_at dksX2_door_1 1 rfl rfl)
theorem dX2_door_26 : decode bcX2_door 26 = .ok (.if_icmp .eq 15, 3) := dk_159 0 15 (dk_at dksX2_door_1 2 rfl rfl)
theorem dX2_door_29 : decode bcX2_door 29 = .ok (.aload_n 0, 1) := dk_42 (dk_at dksX2_door_1 5 rfl rfl)
theorem dX2_door_30 : decode bcX2_door 30 = .ok (.getfield 101, 3) := dk_180 0 101 (dk_at dksX2_door_1 6 rfl rfl)
theorem dX2_door_33 : decode bcX2_door 33 = .ok (.iload_n 1, 1) := dk_27 (dk_at dksX2_door_1 9 rfl rfl)
theorem dX2_door_34 : decode bcX2_door 34 = .ok (.iload_n 2, 1) := dk_28 (dk_at dksX2_door_1 10 rfl rfl)
theorem dX2_door_35 : decode bcX2_door 35 = .ok (.invokevirtual 188, 3) := dk_182 0 188 (dk_at dksX2_door_1 11 rfl rfl)
theorem dX2_door_38 : decode bcX2_door 38 = .ok (.ifCond .eq 9, 3) := dk_153 0 9 (dk_at dksX2_door_1 14 rfl rfl)
theorem dX2_door_41 : decode bcX2_door 41 = .ok (.aload_n 0, 1) := dk_42 (dk_at dksX2_door_1 17 rfl rfl)
theorem dX2_door_42 : decode bcX2_door 42 = .ok (.iconst 3, 1) := dk_6 (dk_at dksX2_door_1 18 rfl rfl)
theorem dX2_door_43 : decode bcX2_door 43 = .ok (.invokevirtual 75, 3) := dk_182 0 75 (dk_at dksX2_door_1 19 rfl rfl)
theorem dX2_door_46 : decode bcX2_door 46 = .ok (.athrow, 1) := dk_191 (dk_at dksX2_door_1 22 rfl rfl)
theorem dX2_door_47 : decode bcX2_door 47 = .ok (.aload_n 0, 1) := dk_42 (dk_at dksX2_door_1 23 rfl rfl)
theorem dX2_door_48 : decode bcX2_door 48 = .ok (.invokevirtual 25, 3) := dk_182 0 25 (dk_at dksX2_door_2 0 rfl rfl)
theorem dX2_door_51 : decode bcX2_door 51 = .ok (.new 192, 3) := dk_187 0 192 (dk_at dksX2_door_2 3 rfl rfl)
theorem dX2_door_54 : decode bcX2_door 54 = .ok (.dup, 1) := dk_89 (dk_at dksX2_door_2 6 rfl rfl)
theorem dX2_door_55 : decode bcX2_door 55 = .ok (.iload_n 1, 1) := dk_27 (dk_at dksX2_door_2 7 rfl rfl)
theorem dX2_door_56 : decode bcX2_door 56 = .ok (.iload_n 2, 1) := dk_28 (dk_at dksX2_door_2 8 rfl rfl)
theorem dX2_door_57 : decode bcX2_door 57 = .ok (.invokespecial 194, 3) := dk_183 0 194 (dk_at dksX2_door_2 9 rfl rfl)
theorem dX2_door_60 : decode bcX2_door 60 = .ok (.astore_n 3, 1) := dk_78 (dk_at dksX2_door_2 12 rfl rfl)
theorem dX2_door_61 : decode bcX2_door 61 = .ok (.aload_n 0, 1) := dk_42 (dk_at dksX2_door_2 13 rfl rfl)
theorem dX2_door_62 : decode bcX2_door 62 = .ok (.ldc 195, 2) := dk_18 195 (dk_at dksX2_door_2 14 rfl rfl)
theorem dX2_door_64 : decode bcX2_door 64 = .ok (.invokevirtual 197, 3) := dk_182 0 197 (dk_at dksX2_door_2 16 rfl rfl)
theorem dX2_door_67 : decode bcX2_door 67 = .ok (.istore 4, 2) := dk_54 4 (dk_at dksX2_door_2 19 rfl rfl)
theorem dX2_door_69 : decode bcX2_door 69 = .ok (.aload_n 3, 1) := dk_45 (dk_at dksX2_door_2 21 rfl rfl)
theorem dX2_door_70 : decode bcX2_door 70 = .ok (.iload 4, 2) := dk_21 4 (dk_at dksX2_door_2 22 rfl rfl)
theorem dX2_door_72 : decode bcX2_door 72 = .ok (.ifCond .ne 13, 3) := dk_154 0 13 (dk_at dksX2_door_3 0 rfl rfl)
theorem dX2_door_75 : decode bcX2_door 75 = .ok (.new 200, 3) := dk_187 0 200 (dk_at dksX2_door_3 3 rfl rfl)
theorem dX2_door_78 : decode bcX2_door 78 = .ok (.dup, 1) := dk_89 (dk_at dksX2_door_3 6 rfl rfl)
theorem dX2_door_79 : decode bcX2_door 79 = .ok (.invokespecial 202, 3) := dk_183 0 202 (dk_at dksX2_door_3 7 rfl rfl)
theorem dX2_door_82 : decode bcX2_door 82 = .ok (.goto 42, 3) := dk_167 0 42 (dk_at dksX2_door_3 10 rfl rfl)
theorem dX2_door_85 : decode bcX2_door 85 = .ok (.iload 4, 2) := dk_21 4 (dk_at dksX2_door_3 13 rfl rfl)
theorem dX2_door_87 : decode bcX2_door 87 = .ok (.iconst 1, 1) := dk_4 (dk_at dksX2_door_3 15 rfl rfl)
theorem dX2_door_88 : decode bcX2_door 88 = .ok (.if_icmp .ne 13, 3) := dk_160 0 13 (dk_at dksX2_door_3 16 rfl rfl)
theorem dX2_door_91 : decode bcX2_door 91 = .ok (.new 203, 3) := dk_187 0 203 (dk_at dksX2_door_3 19 rfl rfl)
theorem dX2_door_94 : decode bcX2_door 94 = .ok (.dup, 1) := dk_89 (dk_at dksX2_door_3 22 rfl rfl)
theorem dX2_door_95 : decode bcX2_door 95 = .ok (.invokespecial 205, 3) := dk_183 0 205 (dk_at dksX2_door_4 0 rfl rfl)
theorem dX2_door_98 : decode bcX2_door 98 = .ok (.goto 26, 3) := dk_167 0 26 (dk_at dksX2_door_4 3 rfl rfl)
theorem dX2_door_101 : decode bcX2_door 101 = .ok (.iload 4, 2) := dk_21 4 (dk_at dksX2_door_4 6 rfl rfl)
theorem dX2_door_103 : decode bcX2_door 103 = .ok (.iconst 2, 1) := dk_5 (dk_at dksX2_door_4 8 rfl rfl)
theorem dX2_door_104 : decode bcX2_door 104 = .ok (.if_icmp .ne 13, 3) := dk_160 0 13 (dk_at dksX2_door_4 9 rfl rfl)
theorem dX2_door_107 : decode bcX2_door 107 = .ok (.new 206, 3) := dk_187 0 206 (dk_at dksX2_door_4 12 rfl rfl)
theorem dX2_door_110 : decode bcX2_door 110 = .ok (.dup, 1) := dk_89 (dk_at dksX2_door_4 15 rfl rfl)
theorem dX2_door_111 : decode bcX2_door 111 = .ok (.invokespecial 208, 3) := dk_183 0 208 (dk_at dksX2_door_4 16 rfl rfl)
theorem dX2_door_114 : decode bcX2_door 114 = .ok (.goto 10, 3) := dk_167 0 10 (dk_at dksX2_door_4 19 rfl rfl)
theorem dX2_door_117 : decode bcX2_door 117 = .ok (.new 209, 3) := dk_187 0 209 (dk_at dksX2_door_5 0 rfl rfl)
theorem dX2_door_120 : decode bcX2_door 120 = .ok (.dup, 1) := dk_89 (dk_at dksX2_door_5 3 rfl rfl)
theorem dX2_door_121 : decode bcX2_door 121 = .ok (.invokespecial 211, 3) := dk_183 0 211 (dk_at dksX2_door_5 4 rfl rfl)
theorem dX2_door_124 : decode bcX2_door 124 = .ok (.putfield 212, 3) := dk_181 0 212 (dk_at dksX2_door_5 7 rfl rfl)
theorem dX2_door_127 : decode bcX2_door 127 = .ok (.aload_n 3, 1) := dk_45 (dk_at dksX2_door_5 10 rfl rfl)
theorem dX2_door_128 : decode bcX2_door 128 = .ok (.aload_n 0, 1) := dk_42 (dk_at dksX2_door_5 11 rfl rfl)
theorem dX2_door_129 : decode bcX2_door 129 = .ok (.ldc 216, 2) := dk_18 216 (dk_at dksX2_door_5 12 rfl rfl)
theorem dX2_door_131 : decode bcX2_door 131 = .ok (.iconst 0, 1) := dk_3 (dk_at dksX2_door_5 14 rfl rfl)
theorem dX2_door_132 : decode bcX2_door 132 = .ok (.bipush 12, 2) := dk_16 12 (dk_at dksX2_door_5 15 rfl rfl)
theorem dX2_door_134 : decode bcX2_door 134 = .ok (.invokevirtual 218, 3) := dk_182 0 218 (dk_at dksX2_door_5 17 rfl rfl)
theorem dX2_door_137 : decode bcX2_door 137 = .ok (.putfield 221, 3) := dk_181 0 221 (dk_at dksX2_door_5 20 rfl rfl)
theorem dX2_door_140 : decode bcX2_door 140 = .ok (.aload_n 3, 1) := dk_45 (dk_at dksX2_door_5 23 rfl rfl)
theorem dX2_door_141 : decode bcX2_door 141 = .ok (.areturn, 1) := dk_176 (dk_at dksX2_door_6 0 rfl rfl)
abbrev SX2_door (pc : Nat) (i : xI) : Prop := Snd "SwollenHouse$Reader" "door" prog_17_method_23_code 5 (Option.some (Jvm.ClassFile.FieldType.object "SwollenHouse$Door")) [] pc i
theorem oX2_door_0 : SX2_door 0 (i_aload 0 1) := snd_aload_n dX2_door_0 rfl
theorem oX2_door_1 : SX2_door 1 (i_aload 0 2) := snd_aload_n dX2_door_1 rfl
theorem oX2_door_2 : SX2_door 2 (i_getf 1 7 5) := snd_getf dX2_door_2 rfl (by decide) in_X2 (Or.inl q192) (Or.inl rfl) (by decide)
theorem oX2_door_5 : SX2_door 5 (i_getf 2 0 8) := snd_getf dX2_door_5 rfl (by decide) in_X3 (Or.inr ⟨_, q247⟩) (Or.inl rfl) (by decide)
theorem oX2_door_8 : SX2_door 8 (i_cv 1 207 1 11) := snd_cv rfl infX2_passed (by decide) rfl (xVm_V dX2_door_8 rfl q887 q889 qs14 q128 q890 pdX2_passed)
theorem oX2_door_11 : SX2_door 11 (i_istore 1 12) := snd_istore_n dX2_door_11 rfl (by decide)
theorem oX2_door_12 : SX2_door 12 (i_aload 0 13) := snd_aload_n dX2_door_12 rfl
theorem oX2_door_13 : SX2_door 13 (i_aload 0 14) := snd_aload_n dX2_door_13 rfl
theorem oX2_door_14 : SX2_door 14 (i_getf 1 7 17) := snd_getf dX2_door_14 rfl (by decide) in_X2 (Or.inl q192) (Or.inl rfl) (by decide)
theorem oX2_door_17 : SX2_door 17 (i_getf 2 0 20) := snd_getf dX2_door_17 rfl (by decide) in_X3 (Or.inr ⟨_, q247⟩) (Or.inl rfl) (by decide)
theorem oX2_door_20 : SX2_door 20 (i_cv 1 208 1 23) := snd_cv rfl infX2_told (by decide) rfl (xVm_V dX2_door_20 rfl q891 q893 qs15 q128 q894 pdX2_told)
theorem oX2_door_23 : SX2_door 23 (i_istore 2 24) := snd_istore_n dX2_door_23 rfl (by decide)
theorem oX2_door_24 : SX2_door 24 (i_iload 1 25) := snd_iload_n dX2_door_24 rfl
theorem oX2_door_25 : SX2_door 25 (i_iload 2 26) := snd_iload_n dX2_door_25 rfl
theorem oX2_door_26 : SX2_door 26 (i_if2 (fun x y => x = y) 41 29) := snd_icmp_eq dX2_door_26 (by decide)
theorem oX2_door_29 : SX2_door 29 (i_aload 0 30) := snd_aload_n dX2_door_29 rfl
theorem oX2_door_30 : SX2_door 30 (i_getf 1 7 33) := snd_getf dX2_door_30 rfl (by decide) in_X2 (Or.inl q192) (Or.inl rfl) (by decide)
theorem oX2_door_33 : SX2_door 33 (i_iload 1 34) := snd_iload_n dX2_door_33 rfl
theorem oX2_door_34 : SX2_door 34 (i_iload 2 35) := snd_iload_n dX2_door_34 rfl
theorem oX2_door_35 : SX2_door 35 (i_cv 2 234 2 38) := snd_cv rfl infX3_areJoined (by decide) rfl (xVm_V dX2_door_35 rfl q895 q896 q897 q129 q898 pdX3_areJoined)
theorem oX2_door_38 : SX2_door 38 (i_if1 (fun x => x = 0) 47 41) := snd_if_eq dX2_door_38 (by decide)
theorem oX2_door_41 : SX2_door 41 (i_aload 0 42) := snd_aload_n dX2_door_41 rfl
theorem oX2_door_42 : SX2_door 42 (i_const (.int (nI 3)) 43) := snd_iconst dX2_door_42 (by decide)
theorem oX2_door_43 : SX2_door 43 (i_cv 1 201 1 46) := snd_cv rfl infX2_wrong (by decide) rfl (xVm_V dX2_door_43 rfl q563 q565 qs4 q128 q566 pdX2_wrong)
theorem oX2_door_46 : SX2_door 46 (i_throw [5]) := snd_throw dX2_door_46 rfl okth_5
theorem oX2_door_47 : SX2_door 47 (i_aload 0 48) := snd_aload_n dX2_door_47 rfl
theorem oX2_door_48 : SX2_door 48 (i_cvv 1 195 0 51) := snd_cvv rfl infX2_next (by decide) rfl (xVm_V dX2_door_48 rfl q431 q433 qs1 q128 q434 pdX2_next)
theorem oX2_door_51 : SX2_door 51 (i_new 6 4 zX7 54) := snd_new dX2_door_51 rfl in_X7 tyX7 tyX7_ok (by decide) q904 q905 q151
theorem oX2_door_54 : SX2_door 54 (i_dup 55) := snd_dup dX2_door_54
theorem oX2_door_55 : SX2_door 55 (i_iload 1 56) := snd_iload_n dX2_door_55 rfl
theorem oX2_door_56 : SX2_door 56 (i_iload 2 57) := snd_iload_n dX2_door_56 rfl
theorem oX2_door_57 : SX2_door 57 (i_ci [6] 368 2 60) := snd_ci rfl infX7_init (by decide) (xcls_ok _ (by decide)) (xIm_I dX2_door_57 rfl q906 q907 q151 q908 pdX7_init)
theorem oX2_door_60 : SX2_door 60 (i_astore 3 61) := snd_astore_n dX2_door_60 rfl (by decide)
theorem oX2_door_61 : SX2_door 61 (i_aload 0 62) := snd_aload_n dX2_door_61 rfl
theorem oX2_door_62 : SX2_door 62 (i_const (.ref 8) 64) := snd_lit dX2_door_62 (by decide) (List.mem_of_getElem? (i := 3) rfl) rfl
theorem oX2_door_64 : SX2_door 64 (i_cv 1 209 1 67) := snd_cv rfl infX2_one (by decide) rfl (xVm_V dX2_door_64 rfl q928 q930 qs16 q128 q931 pdX2_one)
theorem oX2_door_67 : SX2_door 67 (i_istore 4 69) := snd_istore dX2_door_67 (by decide)
theorem oX2_door_69 : SX2_door 69 (i_aload 3 70) := snd_aload_n dX2_door_69 rfl
theorem oX2_door_70 : SX2_door 70 (i_iload 4 72) := snd_iload dX2_door_70
theorem oX2_door_72 : SX2_door 72 (i_if1 (fun x => ¬ x = 0) 85 75) := snd_if_ne dX2_door_72 (by decide)
theorem oX2_door_75 : SX2_door 75 (i_new 7 0 zX9 78) := snd_new dX2_door_75 rfl (fun w h => absurd h List.not_mem_nil) (fun _ => .int) (fun k h => absurd h (Nat.not_lt_zero k)) (fun k h => absurd h (Nat.not_lt_zero k)) q932 q933 q153
theorem oX2_door_78 : SX2_door 78 (i_dup 79) := snd_dup dX2_door_78
theorem oX2_door_79 : SX2_door 79 (i_ci [7] 371 0 82) := snd_ci rfl infX9_init (by decide) (xcls_ok _ (by decide)) (xIm_N dX2_door_79 rfl q934 q935 q153 q936 pdX9_init)
theorem oX2_door_82 : SX2_door 82 (i_goto 124) := snd_goto dX2_door_82 (by decide)
theorem oX2_door_85 : SX2_door 85 (i_iload 4 87) := snd_iload dX2_door_85
theorem oX2_door_87 : SX2_door 87 (i_const (.int (nI 1)) 88) := snd_iconst dX2_door_87 (by decide)
theorem oX2_door_88 : SX2_door 88 (i_if2 (fun x y => ¬ x = y) 101 91) := snd_icmp_ne dX2_door_88 (by decide)
theorem oX2_door_91 : SX2_door 91 (i_new 8 0 zX10 94) := snd_new dX2_door_91 rfl (fun w h => absurd h List.not_mem_nil) (fun _ => .int) (fun k h => absurd h (Nat.not_lt_zero k)) (fun k h => absurd h (Nat.not_lt_zero k)) q942 q943 q154
theorem oX2_door_94 : SX2_door 94 (i_dup 95) := snd_dup dX2_door_94
theorem oX2_door_95 : SX2_door 95 (i_ci [8] 166 0 98) := snd_ci rfl infX10_init (by decide) (xcls_ok _ (by decide)) (xIm_N dX2_door_95 rfl q944 q945 q154 q946 pdX10_init)
theorem oX2_door_98 : SX2_door 98 (i_goto 124) := snd_goto dX2_door_98 (by decide)
theorem oX2_door_101 : SX2_door 101 (i_iload 4 103) := snd_iload dX2_door_101
theorem oX2_door_103 : SX2_door 103 (i_const (.int (nI 2)) 104) := snd_iconst dX2_door_103 (by decide)
theorem oX2_door_104 : SX2_door 104 (i_if2 (fun x y => ¬ x = y) 117 107) := snd_icmp_ne dX2_door_104 (by decide)
theorem oX2_door_107 : SX2_door 107 (i_new 9 0 zX11 110) := snd_new dX2_door_107 rfl (fun w h => absurd h List.not_mem_nil) (fun _ => .int) (fun k h => absurd h (Nat.not_lt_zero k)) (fun k h => absurd h (Nat.not_lt_zero k)) q949 q950 q155
theorem oX2_door_110 : SX2_door 110 (i_dup 111) := snd_dup dX2_door_110
theorem oX2_door_111 : SX2_door 111 (i_ci [9] 171 0 114) := snd_ci rfl infX11_init (by decide) (xcls_ok _ (by decide)) (xIm_N dX2_door_111 rfl q951 q952 q155 q953 pdX11_init)
theorem oX2_door_114 : SX2_door 114 (i_goto 124) := snd_goto dX2_door_114 (by decide)
theorem oX2_door_117 : SX2_door 117 (i_new 10 0 zX12 120) := snd_new dX2_door_117 rfl (fun w h => absurd h List.not_mem_nil) (fun _ => .int) (fun k h => absurd h (Nat.not_lt_zero k)) (fun k h => absurd h (Nat.not_lt_zero k)) q956 q957 q156
theorem oX2_door_120 : SX2_door 120 (i_dup 121) := snd_dup dX2_door_120
theorem oX2_door_121 : SX2_door 121 (i_ci [10] 176 0 124) := snd_ci rfl infX12_init (by decide) (xcls_ok _ (by decide)) (xIm_N dX2_door_121 rfl q958 q959 q156 q960 pdX12_init)
theorem oX2_door_124 : SX2_door 124 (i_putfr 6 2 127) := snd_putfr dX2_door_124 rfl (by decide) in_X7 tyX7 tyX7_ok nmX7 (Or.inr (Or.inr ⟨rfl, _, q915⟩)) (Or.inl rfl) (Or.inl ⟨_, rfl⟩)
theorem oX2_door_127 : SX2_door 127 (i_aload 3 128) := snd_aload_n dX2_door_127 rfl
theorem oX2_door_128 : SX2_door 128 (i_aload 0 129) := snd_aload_n dX2_door_128 rfl
theorem oX2_door_129 : SX2_door 129 (i_const (.ref 10) 131) := snd_lit dX2_door_129 (by decide) (List.mem_of_getElem? (i := 4) rfl) rfl
theorem oX2_door_131 : SX2_door 131 (i_const (.int (nI 0)) 132) := snd_iconst dX2_door_131 (by decide)
theorem oX2_door_132 : SX2_door 132 (i_const (.int (nI 12)) 134) := snd_bipush dX2_door_132 (by decide)
theorem oX2_door_134 : SX2_door 134 (i_cv 1 210 3 137) := snd_cv rfl infX2_number (by decide) rfl (xVm_V dX2_door_134 rfl q964 q966 qs17 q128 q967 pdX2_number)
theorem oX2_door_137 : SX2_door 137 (i_putfi 6 3 140) := snd_putfi dX2_door_137 rfl (by decide) in_X7 tyX7 tyX7_ok nmX7 (Or.inr (Or.inr ⟨rfl, _, q917⟩)) (Or.inl rfl) rfl
theorem oX2_door_140 : SX2_door 140 (i_aload 3 141) := snd_aload_n dX2_door_140 rfl
theorem oX2_door_141 : SX2_door 141 (i_aret) := snd_aret dX2_door_141 rfl (Or.inl ⟨_, rfl⟩)
theorem okX2_door : ∀ q ∈ cX2_door, SX2_door q.1 q.2 := List.forall_mem_cons.mpr ⟨oX2_door_0, List.forall_mem_cons.mpr ⟨oX2_door_1, List.forall_mem_cons.mpr ⟨oX2_door_2, List.forall_mem_cons.mpr ⟨oX2_door_5, List.forall_mem_cons.mpr ⟨oX2_door_8, List.forall_mem_cons.mpr ⟨oX2_door_11, List.forall_mem_cons.mpr ⟨oX2_door_12, List.forall_mem_cons.mpr ⟨oX2_door_13, List.forall_mem_cons.mpr ⟨oX2_door_14, List.forall_mem_cons.mpr ⟨oX2_door_17, List.forall_mem_cons.mpr ⟨oX2_door_20, List.forall_mem_cons.mpr ⟨oX2_door_23, List.forall_mem_cons.mpr ⟨oX2_door_24, List.forall_mem_cons.mpr ⟨oX2_door_25, List.forall_mem_cons.mpr ⟨oX2_door_26, List.forall_mem_cons.mpr ⟨oX2_door_29, List.forall_mem_cons.mpr ⟨oX2_door_30, List.forall_mem_cons.mpr ⟨oX2_door_33, List.forall_mem_cons.mpr ⟨oX2_door_34, List.forall_mem_cons.mpr ⟨oX2_door_35, List.forall_mem_cons.mpr ⟨oX2_door_38, List.forall_mem_cons.mpr ⟨oX2_door_41, List.forall_mem_cons.mpr ⟨oX2_door_42, List.forall_mem_cons.mpr ⟨oX2_door_43, List.forall_mem_cons.mpr ⟨oX2_door_46, List.forall_mem_cons.mpr ⟨oX2_door_47, List.forall_mem_cons.mpr ⟨oX2_door_48, List.forall_mem_cons.mpr ⟨oX2_door_51, List.forall_mem_cons.mpr ⟨oX2_door_54, List.forall_mem_cons.mpr ⟨oX2_door_55, List.forall_mem_cons.mpr ⟨oX2_door_56, List.forall_mem_cons.mpr ⟨oX2_door_57, List.forall_mem_cons.mpr ⟨oX2_door_60, List.forall_mem_cons.mpr ⟨oX2_door_61, List.forall_mem_cons.mpr ⟨oX2_door_62, List.forall_mem_cons.mpr ⟨oX2_door_64, List.forall_mem_cons.mpr ⟨oX2_door_67, List.forall_mem_cons.mpr ⟨oX2_door_69, List.forall_mem_cons.mpr ⟨oX2_door_70, List.forall_mem_cons.mpr ⟨oX2_door_72, List.forall_mem_cons.mpr ⟨oX2_door_75, List.forall_mem_cons.mpr ⟨oX2_door_78, List.forall_mem_cons.mpr ⟨oX2_door_79, List.forall_mem_cons.mpr ⟨oX2_door_82, List.forall_mem_cons.mpr ⟨oX2_door_85, List.forall_mem_cons.mpr ⟨oX2_door_87, List.forall_mem_cons.mpr ⟨oX2_door_88, List.forall_mem_cons.mpr ⟨oX2_door_91, List.forall_mem_cons.mpr ⟨oX2_door_94, List.forall_mem_cons.mpr ⟨oX2_door_95, List.forall_mem_cons.mpr ⟨oX2_door_98, List.forall_mem_cons.mpr ⟨oX2_door_101, List.forall_mem_cons.mpr ⟨oX2_door_103, List.forall_mem_cons.mpr ⟨oX2_door_104, List.forall_mem_cons.mpr ⟨oX2_door_107, List.forall_mem_cons.mpr ⟨oX2_door_110, List.forall_mem_cons.mpr ⟨oX2_door_111, List.forall_mem_cons.mpr ⟨oX2_door_114, List.forall_mem_cons.mpr ⟨oX2_door_117, List.forall_mem_cons.mpr ⟨oX2_door_120, List.forall_mem_cons.mpr ⟨oX2_door_121, List.forall_mem_cons.mpr ⟨oX2_door_124, List.forall_mem_cons.mpr ⟨oX2_door_127, List.forall_mem_cons.mpr ⟨oX2_door_128, List.forall_mem_cons.mpr ⟨oX2_door_129, List.forall_mem_cons.mpr ⟨oX2_door_131, List.forall_mem_cons.mpr ⟨oX2_door_132, List.forall_mem_cons.mpr ⟨oX2_door_134, List.forall_mem_cons.mpr ⟨oX2_door_137, List.forall_mem_cons.mpr ⟨oX2_door_140, List.forall_mem_cons.mpr ⟨oX2_door_141, fun _ h => absurd h List.not_mem_nil⟩⟩⟩⟩⟩⟩⟩⟩⟩⟩⟩⟩⟩⟩⟩⟩⟩⟩⟩⟩⟩⟩⟩⟩⟩⟩⟩⟩⟩⟩⟩⟩⟩⟩⟩⟩⟩⟩⟩⟩⟩⟩⟩⟩⟩⟩⟩⟩⟩⟩⟩⟩⟩⟩⟩⟩⟩⟩⟩⟩⟩⟩⟩⟩⟩⟩⟩⟩⟩⟩⟩
def dkwX2_passed_0 : List UInt8 := [42, 43, 182, 0, 129, 61, 42, 182, 0, 25, 28, 172]
abbrev dktX2_passed_0 : List UInt8 := dkwX2_passed_0 ++ []
theorem dksX2_passed_0 : bcX2_passed.data.toList.drop 0 = dktX2_passed_0 := by decide +kernel
theorem dX2_passed_0 : decode bcX2_passed 0 = .ok (.aload_n 0, 1) := dk_42 (dk_at dksX2_passed_0 0 rfl rfl)
theorem dX2_passed_1 : decode bcX2_passed 1 = .ok (.aload_n 1, 1) := dk_43 (dk_at dksX2_passed_0 1 rfl rfl)
theorem dX2_passed_2 : decode bcX2_passed 2 = .ok (.invokevirtual 129, 3) := dk_182 0 129 (dk_at dksX2_passed_0 2 rfl rfl)
theorem dX2_passed_5 : decode bcX2_passed 5 = .ok (.istore_n 2, 1) := dk_61 (dk_at dksX2_passed_0 5 rfl rfl)
theorem dX2_passed_6 : decode bcX2_passed 6 = .ok (.aload_n 0, 1) := dk_42 (dk_at dksX2_passed_0 6 rfl rfl)
theorem dX2_passed_7 : decode bcX2_passed 7 = .ok (.invokevirtual 25, 3) := dk_182 0 25 (dk_at dksX2_passed_0 7 rfl rfl)
theorem dX2_passed_10 : decode bcX2_passed 10 = .ok (.iload_n 2, 1) := dk_28 (dk_at dksX2_passed_0 10 rfl rfl)
theorem dX2_passed_11 : decode bcX2_passed 11 = .ok (.ireturn, 1) := dk_172 (dk_at dksX2_passed_0 11 rfl rfl)
abbrev SX2_passed (pc : Nat) (i : xI) : Prop := Snd "SwollenHouse$Reader" "passed" prog_17_method_19_code 3 (Option.some Jvm.ClassFile.FieldType.int) [] pc i
theorem oX2_passed_0 : SX2_passed 0 (i_aload 0 1) := snd_aload_n dX2_passed_0 rfl
theorem oX2_passed_1 : SX2_passed 1 (i_aload 1 2) := snd_aload_n dX2_passed_1 rfl
theorem oX2_passed_2 : SX2_passed 2 (i_cv 1 208 1 5) := snd_cv rfl infX2_told (by decide) rfl (xVm_V dX2_passed_2 rfl q891 q893 qs15 q128 q894 pdX2_told)
theorem oX2_passed_5 : SX2_passed 5 (i_istore 2 6) := snd_istore_n dX2_passed_5 rfl (by decide)
theorem oX2_passed_6 : SX2_passed 6 (i_aload 0 7) := snd_aload_n dX2_passed_6 rfl
theorem oX2_passed_7 : SX2_passed 7 (i_cvv 1 195 0 10) := snd_cvv rfl infX2_next (by decide) rfl (xVm_V dX2_passed_7 rfl q431 q433 qs1 q128 q434 pdX2_next)
theorem oX2_passed_10 : SX2_passed 10 (i_iload 2 11) := snd_iload_n dX2_passed_10 rfl
theorem oX2_passed_11 : SX2_passed 11 (i_iret) := snd_iret dX2_passed_11 rfl
theorem okX2_passed : ∀ q ∈ cX2_passed, SX2_passed q.1 q.2 := List.forall_mem_cons.mpr ⟨oX2_passed_0, List.forall_mem_cons.mpr ⟨oX2_passed_1, List.forall_mem_cons.mpr ⟨oX2_passed_2, List.forall_mem_cons.mpr ⟨oX2_passed_5, List.forall_mem_cons.mpr ⟨oX2_passed_6, List.forall_mem_cons.mpr ⟨oX2_passed_7, List.forall_mem_cons.mpr ⟨oX2_passed_10, List.forall_mem_cons.mpr ⟨oX2_passed_11, fun _ h => absurd h List.not_mem_nil⟩⟩⟩⟩⟩⟩⟩⟩
def dkwX2_told_0 : List UInt8 := [43, 42, 182, 0, 98, 184, 0, 111, 61, 28, 156, 0, 9, 42, 5, 182, 0, 75, 191, 28, 172]
abbrev dktX2_told_0 : List UInt8 := dkwX2_told_0 ++ []
theorem dksX2_told_0 : bcX2_told.data.toList.drop 0 = dktX2_told_0 := by decide +kernel
theorem dX2_told_0 : decode bcX2_told 0 = .ok (.aload_n 1, 1) := dk_43 (dk_at dksX2_told_0 0 rfl rfl)
theorem dX2_told_1 : decode bcX2_told 1 = .ok (.aload_n 0, 1) := dk_42 (dk_at dksX2_told_0 1 rfl rfl)
theorem dX2_told_2 : decode bcX2_told 2 = .ok (.invokevirtual 98, 3) := dk_182 0 98 (dk_at dksX2_told_0 2 rfl rfl)
theorem dX2_told_5 : decode bcX2_told 5 = .ok (.invokestatic 111, 3) := dk_184 0 111 (dk_at dksX2_told_0 5 rfl rfl)
theorem dX2_told_8 : decode bcX2_told 8 = .ok (.istore_n 2, 1) := dk_61 (dk_at dksX2_told_0 8 rfl rfl)
theorem dX2_told_9 : decode bcX2_told 9 = .ok (.iload_n 2, 1) := dk_28 (dk_at dksX2_told_0 9 rfl rfl)
theorem dX2_told_10 : decode bcX2_told 10 = .ok (.ifCond .ge 9, 3) := dk_156 0 9 (dk_at dksX2_told_0 10 rfl rfl)
theorem dX2_told_13 : decode bcX2_told 13 = .ok (.aload_n 0, 1) := dk_42 (dk_at dksX2_told_0 13 rfl rfl)
theorem dX2_told_14 : decode bcX2_told 14 = .ok (.iconst 2, 1) := dk_5 (dk_at dksX2_told_0 14 rfl rfl)
theorem dX2_told_15 : decode bcX2_told 15 = .ok (.invokevirtual 75, 3) := dk_182 0 75 (dk_at dksX2_told_0 15 rfl rfl)
theorem dX2_told_18 : decode bcX2_told 18 = .ok (.athrow, 1) := dk_191 (dk_at dksX2_told_0 18 rfl rfl)
theorem dX2_told_19 : decode bcX2_told 19 = .ok (.iload_n 2, 1) := dk_28 (dk_at dksX2_told_0 19 rfl rfl)
theorem dX2_told_20 : decode bcX2_told 20 = .ok (.ireturn, 1) := dk_172 (dk_at dksX2_told_0 20 rfl rfl)
abbrev SX2_told (pc : Nat) (i : xI) : Prop := Snd "SwollenHouse$Reader" "told" prog_17_method_18_code 3 (Option.some Jvm.ClassFile.FieldType.int) [] pc i
theorem oX2_told_0 : SX2_told 0 (i_aload 1 1) := snd_aload_n dX2_told_0 rfl
theorem oX2_told_1 : SX2_told 1 (i_aload 0 2) := snd_aload_n dX2_told_1 rfl
theorem oX2_told_2 : SX2_told 2 (i_cv 1 205 0 5) := snd_cv rfl infX2_name (by decide) rfl (xVm_V dX2_told_2 rfl q649 q651 qs9 q128 q652 pdX2_name)
theorem oX2_told_5 : SX2_told 5 (i_cs 233 2 8) := snd_cs rfl infX3_place (by decide) (xSm_N dX2_told_5 q812 q813 q129 q814 pdX3_place)
theorem oX2_told_8 : SX2_told 8 (i_istore 2 9) := snd_istore_n dX2_told_8 rfl (by decide)
theorem oX2_told_9 : SX2_told 9 (i_iload 2 10) := snd_iload_n dX2_told_9 rfl
theorem oX2_told_10 : SX2_told 10 (i_if1 (fun x => 0 ≤ x) 19 13) := snd_if_ge dX2_told_10 (by decide)
theorem oX2_told_13 : SX2_told 13 (i_aload 0 14) := snd_aload_n dX2_told_13 rfl
theorem oX2_told_14 : SX2_told 14 (i_const (.int (nI 2)) 15) := snd_iconst dX2_told_14 (by decide)
theorem oX2_told_15 : SX2_told 15 (i_cv 1 201 1 18) := snd_cv rfl infX2_wrong (by decide) rfl (xVm_V dX2_told_15 rfl q563 q565 qs4 q128 q566 pdX2_wrong)
theorem oX2_told_18 : SX2_told 18 (i_throw [5]) := snd_throw dX2_told_18 rfl okth_5
theorem oX2_told_19 : SX2_told 19 (i_iload 2 20) := snd_iload_n dX2_told_19 rfl
theorem oX2_told_20 : SX2_told 20 (i_iret) := snd_iret dX2_told_20 rfl
theorem okX2_told : ∀ q ∈ cX2_told, SX2_told q.1 q.2 := List.forall_mem_cons.mpr ⟨oX2_told_0, List.forall_mem_cons.mpr ⟨oX2_told_1, List.forall_mem_cons.mpr ⟨oX2_told_2, List.forall_mem_cons.mpr ⟨oX2_told_5, List.forall_mem_cons.mpr ⟨oX2_told_8, List.forall_mem_cons.mpr ⟨oX2_told_9, List.forall_mem_cons.mpr ⟨oX2_told_10, List.forall_mem_cons.mpr ⟨oX2_told_13, List.forall_mem_cons.mpr ⟨oX2_told_14, List.forall_mem_cons.mpr ⟨oX2_told_15, List.forall_mem_cons.mpr ⟨oX2_told_18, List.forall_mem_cons.mpr ⟨oX2_told_19, List.forall_mem_cons.mpr ⟨oX2_told_20, fun _ h => absurd h List.not_mem_nil⟩⟩⟩⟩⟩⟩⟩⟩⟩⟩⟩⟩⟩
def dkwX2_one_0 : List UInt8 := [42, 43, 182, 0, 71, 61, 28, 156, 0, 9, 42, 4, 182, 0, 75, 191, 42, 182, 0, 25, 28, 172]
abbrev dktX2_one_0 : List UInt8 := dkwX2_one_0 ++ []
theorem dksX2_one_0 : bcX2_one.data.toList.drop 0 = dktX2_one_0 := by decide +kernel
theorem dX2_one_0 : decode bcX2_one 0 = .ok (.aload_n 0, 1) := dk_42 (dk_at dksX2_one_0 0 rfl rfl)
theorem dX2_one_1 : decode bcX2_one 1 = .ok (.aload_n 1, 1) := dk_43 (dk_at dksX2_one_0 1 rfl rfl)
theorem dX2_one_2 : decode bcX2_one 2 = .ok (.invokevirtual 71, 3) := dk_182 0 71 (dk_at dksX2_one_0 2 rfl rfl)
theorem dX2_one_5 : decode bcX2_one 5 = .ok (.istore_n 2, 1) := dk_61 (dk_at dksX2_one_0 5 rfl rfl)
theorem dX2_one_6 : decode bcX2_one 6 = .ok (.iload_n 2, 1) := dk_28 (dk_at dksX2_one_0 6 rfl rfl)
theorem dX2_one_7 : decode bcX2_one 7 = .ok (.ifCond .ge 9, 3) := dk_156 0 9 (dk_at dksX2_one_0 7 rfl rfl)
theorem dX2_one_10 : decode bcX2_one 10 = .ok (.aload_n 0, 1) := dk_42 (dk_at dksX2_one_0 10 rfl rfl)
theorem dX2_one_11 : decode bcX2_one 11 = .ok (.iconst 1, 1) := dk_4 (dk_at dksX2_one_0 11 rfl rfl)
theorem dX2_one_12 : decode bcX2_one 12 = .ok (.invokevirtual 75, 3) := dk_182 0 75 (dk_at dksX2_one_0 12 rfl rfl)
theorem dX2_one_15 : decode bcX2_one 15 = .ok (.athrow, 1) := dk_191 (dk_at dksX2_one_0 15 rfl rfl)
theorem dX2_one_16 : decode bcX2_one 16 = .ok (.aload_n 0, 1) := dk_42 (dk_at dksX2_one_0 16 rfl rfl)
theorem dX2_one_17 : decode bcX2_one 17 = .ok (.invokevirtual 25, 3) := dk_182 0 25 (dk_at dksX2_one_0 17 rfl rfl)
theorem dX2_one_20 : decode bcX2_one 20 = .ok (.iload_n 2, 1) := dk_28 (dk_at dksX2_one_0 20 rfl rfl)
theorem dX2_one_21 : decode bcX2_one 21 = .ok (.ireturn, 1) := dk_172 (dk_at dksX2_one_0 21 rfl rfl)
abbrev SX2_one (pc : Nat) (i : xI) : Prop := Snd "SwollenHouse$Reader" "one" prog_17_method_16_code 3 (Option.some Jvm.ClassFile.FieldType.int) [] pc i
theorem oX2_one_0 : SX2_one 0 (i_aload 0 1) := snd_aload_n dX2_one_0 rfl
theorem oX2_one_1 : SX2_one 1 (i_aload 1 2) := snd_aload_n dX2_one_1 rfl
theorem oX2_one_2 : SX2_one 2 (i_cv 1 200 1 5) := snd_cv rfl infX2_which (by decide) rfl (xVm_V dX2_one_2 rfl q539 q541 qs3 q128 q542 pdX2_which)
theorem oX2_one_5 : SX2_one 5 (i_istore 2 6) := snd_istore_n dX2_one_5 rfl (by decide)
theorem oX2_one_6 : SX2_one 6 (i_iload 2 7) := snd_iload_n dX2_one_6 rfl
theorem oX2_one_7 : SX2_one 7 (i_if1 (fun x => 0 ≤ x) 16 10) := snd_if_ge dX2_one_7 (by decide)
theorem oX2_one_10 : SX2_one 10 (i_aload 0 11) := snd_aload_n dX2_one_10 rfl
theorem oX2_one_11 : SX2_one 11 (i_const (.int (nI 1)) 12) := snd_iconst dX2_one_11 (by decide)
theorem oX2_one_12 : SX2_one 12 (i_cv 1 201 1 15) := snd_cv rfl infX2_wrong (by decide) rfl (xVm_V dX2_one_12 rfl q563 q565 qs4 q128 q566 pdX2_wrong)
theorem oX2_one_15 : SX2_one 15 (i_throw [5]) := snd_throw dX2_one_15 rfl okth_5
theorem oX2_one_16 : SX2_one 16 (i_aload 0 17) := snd_aload_n dX2_one_16 rfl
theorem oX2_one_17 : SX2_one 17 (i_cvv 1 195 0 20) := snd_cvv rfl infX2_next (by decide) rfl (xVm_V dX2_one_17 rfl q431 q433 qs1 q128 q434 pdX2_next)
theorem oX2_one_20 : SX2_one 20 (i_iload 2 21) := snd_iload_n dX2_one_20 rfl
theorem oX2_one_21 : SX2_one 21 (i_iret) := snd_iret dX2_one_21 rfl
theorem okX2_one : ∀ q ∈ cX2_one, SX2_one q.1 q.2 := List.forall_mem_cons.mpr ⟨oX2_one_0, List.forall_mem_cons.mpr ⟨oX2_one_1, List.forall_mem_cons.mpr ⟨oX2_one_2, List.forall_mem_cons.mpr ⟨oX2_one_5, List.forall_mem_cons.mpr ⟨oX2_one_6, List.forall_mem_cons.mpr ⟨oX2_one_7, List.forall_mem_cons.mpr ⟨oX2_one_10, List.forall_mem_cons.mpr ⟨oX2_one_11, List.forall_mem_cons.mpr ⟨oX2_one_12, List.forall_mem_cons.mpr ⟨oX2_one_15, List.forall_mem_cons.mpr ⟨oX2_one_16, List.forall_mem_cons.mpr ⟨oX2_one_17, List.forall_mem_cons.mpr ⟨oX2_one_20, List.forall_mem_cons.mpr ⟨oX2_one_21, fun _ h => absurd h List.not_mem_nil⟩⟩⟩⟩⟩⟩⟩⟩⟩⟩⟩⟩⟩⟩
def dkwX2_number_0 : List UInt8 := [42, 43, 182, 0, 118, 42, 28, 29, 182, 0, 122, 172]
abbrev dktX2_number_0 : List UInt8 := dkwX2_number_0 ++ []
theorem dksX2_number_0 : bcX2_number.data.toList.drop 0 = dktX2_number_0 := by decide +kernel
theorem dX2_number_0 : decode bcX2_number 0 = .ok (.aload_n 0, 1) := dk_42 (dk_at dksX2_number_0 0 rfl rfl)
theorem dX2_number_1 : decode bcX2_number 1 = .ok (.aload_n 1, 1) := dk_43 (dk_at dksX2_number_0 1 rfl rfl)
theorem dX2_number_2 : decode bcX2_number 2 = .ok (.invokevirtual 118, 3) := dk_182 0 118 (dk_at dksX2_number_0 2 rfl rfl)
theorem dX2_number_5 : decode bcX2_number 5 = .ok (.aload_n 0, 1) := dk_42 (dk_at dksX2_number_0 5 rfl rfl)
theorem dX2_number_6 : decode bcX2_number 6 = .ok (.iload_n 2, 1) := dk_28 (dk_at dksX2_number_0 6 rfl rfl)
theorem dX2_number_7 : decode bcX2_number 7 = .ok (.iload_n 3, 1) := dk_29 (dk_at dksX2_number_0 7 rfl rfl)
theorem dX2_number_8 : decode bcX2_number 8 = .ok (.invokevirtual 122, 3) := dk_182 0 122 (dk_at dksX2_number_0 8 rfl rfl)
theorem dX2_number_11 : decode bcX2_number 11 = .ok (.ireturn, 1) := dk_172 (dk_at dksX2_number_0 11 rfl rfl)
abbrev SX2_number (pc : Nat) (i : xI) : Prop := Snd "SwollenHouse$Reader" "number" prog_17_method_15_code 4 (Option.some Jvm.ClassFile.FieldType.int) [] pc i
theorem oX2_number_0 : SX2_number 0 (i_aload 0 1) := snd_aload_n dX2_number_0 rfl
theorem oX2_number_1 : SX2_number 1 (i_aload 1 2) := snd_aload_n dX2_number_1 rfl
theorem oX2_number_2 : SX2_number 2 (i_cvv 1 211 1 5) := snd_cvv rfl infX2_need (by decide) rfl (xVm_V dX2_number_2 rfl q968 q970 qs18 q128 q971 pdX2_need)
theorem oX2_number_5 : SX2_number 5 (i_aload 0 6) := snd_aload_n dX2_number_5 rfl
theorem oX2_number_6 : SX2_number 6 (i_iload 2 7) := snd_iload_n dX2_number_6 rfl
theorem oX2_number_7 : SX2_number 7 (i_iload 3 8) := snd_iload_n dX2_number_7 rfl
theorem oX2_number_8 : SX2_number 8 (i_cv 1 212 2 11) := snd_cv rfl infX2_number_2 (by decide) rfl (xVm_V dX2_number_8 rfl q972 q974 qs19 q128 q975 pdX2_number_2)
theorem oX2_number_11 : SX2_number 11 (i_iret) := snd_iret dX2_number_11 rfl
theorem okX2_number : ∀ q ∈ cX2_number, SX2_number q.1 q.2 := List.forall_mem_cons.mpr ⟨oX2_number_0, List.forall_mem_cons.mpr ⟨oX2_number_1, List.forall_mem_cons.mpr ⟨oX2_number_2, List.forall_mem_cons.mpr ⟨oX2_number_5, List.forall_mem_cons.mpr ⟨oX2_number_6, List.forall_mem_cons.mpr ⟨oX2_number_7, List.forall_mem_cons.mpr ⟨oX2_number_8, List.forall_mem_cons.mpr ⟨oX2_number_11, fun _ h => absurd h List.not_mem_nil⟩⟩⟩⟩⟩⟩⟩⟩
def dkwX2_need_0 : List UInt8 := [42, 43, 182, 0, 71, 156, 0, 9, 42, 4, 182, 0, 75, 191, 42, 182, 0, 25, 177]
abbrev dktX2_need_0 : List UInt8 := dkwX2_need_0 ++ []
theorem dksX2_need_0 : bcX2_need.data.toList.drop 0 = dktX2_need_0 := by decide +kernel
theorem dX2_need_0 : decode bcX2_need 0 = .ok (.aload_n 0, 1) := dk_42 (dk_at dksX2_need_0 0 rfl rfl)
theorem dX2_need_1 : decode bcX2_need 1 = .ok (.aload_n 1, 1) := dk_43 (dk_at dksX2_need_0 1 rfl rfl)
theorem dX2_need_2 : decode bcX2_need 2 = .ok (.invokevirtual 71, 3) := dk_182 0 71 (dk_at dksX2_need_0 2 rfl rfl)
theorem dX2_need_5 : decode bcX2_need 5 = .ok (.ifCond .ge 9, 3) := dk_156 0 9 (dk_at dksX2_need_0 5 rfl rfl)
theorem dX2_need_8 : decode bcX2_need 8 = .ok (.aload_n 0, 1) := dk_42 (dk_at dksX2_need_0 8 rfl rfl)
theorem dX2_need_9 : decode bcX2_need 9 = .ok (.iconst 1, 1) := dk_4 (dk_at dksX2_need_0 9 rfl rfl)
theorem dX2_need_10 : decode bcX2_need 10 = .ok (.invokevirtual 75, 3) := dk_182 0 75 (dk_at dksX2_need_0 10 rfl rfl)
theorem dX2_need_13 : decode bcX2_need 13 = .ok (.athrow, 1) := dk_191 (dk_at dksX2_need_0 13 rfl rfl)
theorem dX2_need_14 : decode bcX2_need 14 = .ok (.aload_n 0, 1) := dk_42 (dk_at dksX2_need_0 14 rfl rfl)
theorem dX2_need_15 : decode bcX2_need 15 = .ok (.invokevirtual 25, 3) := dk_182 0 25 (dk_at dksX2_need_0 15 rfl rfl)
theorem dX2_need_18 : decode bcX2_need 18 = .ok (.return_, 1) := dk_177 (dk_at dksX2_need_0 18 rfl rfl)
abbrev SX2_need (pc : Nat) (i : xI) : Prop := Snd "SwollenHouse$Reader" "need" prog_17_method_9_code 2 (Option.none : Option Jvm.ClassFile.FieldType) [] pc i
theorem oX2_need_0 : SX2_need 0 (i_aload 0 1) := snd_aload_n dX2_need_0 rfl
theorem oX2_need_1 : SX2_need 1 (i_aload 1 2) := snd_aload_n dX2_need_1 rfl
theorem oX2_need_2 : SX2_need 2 (i_cv 1 200 1 5) := snd_cv rfl infX2_which (by decide) rfl (xVm_V dX2_need_2 rfl q539 q541 qs3 q128 q542 pdX2_which)
theorem oX2_need_5 : SX2_need 5 (i_if1 (fun x => 0 ≤ x) 14 8) := snd_if_ge dX2_need_5 (by decide)
theorem oX2_need_8 : SX2_need 8 (i_aload 0 9) := snd_aload_n dX2_need_8 rfl
theorem oX2_need_9 : SX2_need 9 (i_const (.int (nI 1)) 10) := snd_iconst dX2_need_9 (by decide)
theorem oX2_need_10 : SX2_need 10 (i_cv 1 201 1 13) := snd_cv rfl infX2_wrong (by decide) rfl (xVm_V dX2_need_10 rfl q563 q565 qs4 q128 q566 pdX2_wrong)
theorem oX2_need_13 : SX2_need 13 (i_throw [5]) := snd_throw dX2_need_13 rfl okth_5
theorem oX2_need_14 : SX2_need 14 (i_aload 0 15) := snd_aload_n dX2_need_14 rfl
theorem oX2_need_15 : SX2_need 15 (i_cvv 1 195 0 18) := snd_cvv rfl infX2_next (by decide) rfl (xVm_V dX2_need_15 rfl q431 q433 qs1 q128 q434 pdX2_next)
theorem oX2_need_18 : SX2_need 18 (i_vret) := snd_vret dX2_need_18 rfl
theorem okX2_need : ∀ q ∈ cX2_need, SX2_need q.1 q.2 := List.forall_mem_cons.mpr ⟨oX2_need_0, List.forall_mem_cons.mpr ⟨oX2_need_1, List.forall_mem_cons.mpr ⟨oX2_need_2, List.forall_mem_cons.mpr ⟨oX2_need_5, List.forall_mem_cons.mpr ⟨oX2_need_8, List.forall_mem_cons.mpr ⟨oX2_need_9, List.forall_mem_cons.mpr ⟨oX2_need_10, List.forall_mem_cons.mpr ⟨oX2_need_13, List.forall_mem_cons.mpr ⟨oX2_need_14, List.forall_mem_cons.mpr ⟨oX2_need_15, List.forall_mem_cons.mpr ⟨oX2_need_18, fun _ h => absurd h List.not_mem_nil⟩⟩⟩⟩⟩⟩⟩⟩⟩⟩⟩
def dkwX2_number_2_1 : List UInt8 := [180, 0, 45, 28, 164, 0, 9, 42, 7, 182, 0, 75, 191, 42, 180, 0, 45, 62, 42, 182, 0, 25, 29, 172]
abbrev dktX2_number_2_1 : List UInt8 := dkwX2_number_2_1 ++ []
def dkwX2_number_2_0 : List UInt8 := [42, 180, 0, 31, 5, 159, 0, 9, 42, 4, 182, 0, 75, 191, 42, 180, 0, 45, 27, 161, 0, 11, 42]
abbrev dktX2_number_2_0 : List UInt8 := dkwX2_number_2_0 ++ dktX2_number_2_1
theorem dksX2_number_2_0 : bcX2_number_2.data.toList.drop 0 = dktX2_number_2_0 := by decide +kernel
theorem dksX2_number_2_1 : bcX2_number_2.data.toList.drop 23 = dktX2_number_2_1 := dk_seg dksX2_number_2_0 23 rfl rfl
theorem dX2_number_2_0 : decode bcX2_number_2 0 = .ok (.aload_n 0, 1) := dk_42 (dk_at dksX2_number_2_0 0 rfl rfl)
theorem dX2_number_2_1 : decode bcX2_number_2 1 = .ok (.getfield 31, 3) := dk_180 0 31 (dk_at dksX2_number_2_0 1 rfl rfl)
theorem dX2_number_2_4 : decode bcX2_number_2 4 = .ok (.iconst 2, 1) := dk_5 (dk_at dksX2_number_2_0 4 rfl rfl)
theorem dX2_number_2_5 : decode bcX2_number_2 5 = .ok (.if_icmp .eq 9, 3) := dk_159 0 9 (dk_at dksX2_number_2_0 5 rfl rfl)
theorem dX2_number_2_8 : decode bcX2_number_2 8 = .ok (.aload_n 0, 1) := dk_42 (dk_at dksX2_number_2_0 8 rfl rfl)
theorem dX2_number_2_9 : decode bcX2_number_2 9 = .ok (.iconst 1, 1) := dk_4 (dk_at dksX2_number_2_0 9 rfl rfl)
theorem dX2_number_2_10 : decode bcX2_number_2 10 = .ok (.invokevirtual 75, 3) := dk_182 0 75 (dk_at dksX2_number_2_0 10 rfl rfl)
theorem dX2_number_2_13 : decode bcX2_number_2 13 = .ok (.athrow, 1) := dk_191 (dk_at dksX2_number_2_0 13 rfl rfl)
theorem dX2_number_2_14 : decode bcX2_number_2 14 = .ok (.aload_n 0, 1) := dk_42 (dk_at dksX2_number_2_0 14 rfl rfl)
theorem dX2_number_2_15 : decode bcX2_number_2 15 = .ok (.getfield 45, 3) := dk_180 0 45 (dk_at dksX2_number_2_0 15 rfl rfl)
theorem dX2_number_2_18 : decode bcX2_number_2 18 = .ok (.iload_n 1, 1) := dk_27 (dk_at dksX2_number_2_0 18 rfl rfl)
theorem dX2_number_2_19 : decode bcX2_number_2 19 = .ok (.if_icmp .lt 11, 3) := dk_161 0 11 (dk_at dksX2_number_2_0 19 rfl rfl)
theorem dX2_number_2_22 : decode bcX2_number_2 22 = .ok (.aload_n 0, 1) := dk_42 (dk_at dksX2_number_2_0 22 rfl rfl)
theorem dX2_number_2_23 : decode bcX2_number_2 23 = .ok (.getfield 45, 3) := dk_180 0 45 (dk_at dksX2_number_2_1 0 rfl rfl)
theorem dX2_number_2_26 : decode bcX2_number_2 26 = .ok (.iload_n 2, 1) := dk_28 (dk_at dksX2_number_2_1 3 rfl rfl)
theorem dX2_number_2_27 : decode bcX2_number_2 27 = .ok (.if_icmp .le 9, 3) := dk_164 0 9 (dk_at dksX2_number_2_1 4 rfl rfl)
theorem dX2_number_2_30 : decode bcX2_number_2 30 = .ok (.aload_n 0, 1) := dk_42 (dk_at dksX2_number_2_1 7 rfl rfl)
theorem dX2_number_2_31 : decode bcX2_number_2 31 = .ok (.iconst 4, 1) := dk_7 (dk_at dksX2_number_2_1 8 rfl rfl)
theorem dX2_number_2_32 : decode bcX2_number_2 32 = .ok (.invokevirtual 75, 3) := dk_182 0 75 (dk_at dksX2_number_2_1 9 rfl rfl)
theorem dX2_number_2_35 : decode bcX2_number_2 35 = .ok (.athrow, 1) := dk_191 (dk_at dksX2_number_2_1 12 rfl rfl)
theorem dX2_number_2_36 : decode bcX2_number_2 36 = .ok (.aload_n 0, 1) := dk_42 (dk_at dksX2_number_2_1 13 rfl rfl)
theorem dX2_number_2_37 : decode bcX2_number_2 37 = .ok (.getfield 45, 3) := dk_180 0 45 (dk_at dksX2_number_2_1 14 rfl rfl)
theorem dX2_number_2_40 : decode bcX2_number_2 40 = .ok (.istore_n 3, 1) := dk_62 (dk_at dksX2_number_2_1 17 rfl rfl)
theorem dX2_number_2_41 : decode bcX2_number_2 41 = .ok (.aload_n 0, 1) := dk_42 (dk_at dksX2_number_2_1 18 rfl rfl)
theorem dX2_number_2_42 : decode bcX2_number_2 42 = .ok (.invokevirtual 25, 3) := dk_182 0 25 (dk_at dksX2_number_2_1 19 rfl rfl)
theorem dX2_number_2_45 : decode bcX2_number_2 45 = .ok (.iload_n 3, 1) := dk_29 (dk_at dksX2_number_2_1 22 rfl rfl)
theorem dX2_number_2_46 : decode bcX2_number_2 46 = .ok (.ireturn, 1) := dk_172 (dk_at dksX2_number_2_1 23 rfl rfl)
abbrev SX2_number_2 (pc : Nat) (i : xI) : Prop := Snd "SwollenHouse$Reader" "number" prog_17_method_12_code 4 (Option.some Jvm.ClassFile.FieldType.int) [] pc i
theorem oX2_number_2_0 : SX2_number_2 0 (i_aload 0 1) := snd_aload_n dX2_number_2_0 rfl
theorem oX2_number_2_1 : SX2_number_2 1 (i_getf 1 3 4) := snd_getf dX2_number_2_1 rfl (by decide) in_X2 (Or.inl q188) (Or.inl rfl) (by decide)
theorem oX2_number_2_4 : SX2_number_2 4 (i_const (.int (nI 2)) 5) := snd_iconst dX2_number_2_4 (by decide)
theorem oX2_number_2_5 : SX2_number_2 5 (i_if2 (fun x y => x = y) 14 8) := snd_icmp_eq dX2_number_2_5 (by decide)
theorem oX2_number_2_8 : SX2_number_2 8 (i_aload 0 9) := snd_aload_n dX2_number_2_8 rfl
theorem oX2_number_2_9 : SX2_number_2 9 (i_const (.int (nI 1)) 10) := snd_iconst dX2_number_2_9 (by decide)
theorem oX2_number_2_10 : SX2_number_2 10 (i_cv 1 201 1 13) := snd_cv rfl infX2_wrong (by decide) rfl (xVm_V dX2_number_2_10 rfl q563 q565 qs4 q128 q566 pdX2_wrong)
theorem oX2_number_2_13 : SX2_number_2 13 (i_throw [5]) := snd_throw dX2_number_2_13 rfl okth_5
theorem oX2_number_2_14 : SX2_number_2 14 (i_aload 0 15) := snd_aload_n dX2_number_2_14 rfl
theorem oX2_number_2_15 : SX2_number_2 15 (i_getf 1 5 18) := snd_getf dX2_number_2_15 rfl (by decide) in_X2 (Or.inl q190) (Or.inl rfl) (by decide)
theorem oX2_number_2_18 : SX2_number_2 18 (i_iload 1 19) := snd_iload_n dX2_number_2_18 rfl
theorem oX2_number_2_19 : SX2_number_2 19 (i_if2 (fun x y => x < y) 30 22) := snd_icmp_lt dX2_number_2_19 (by decide)
theorem oX2_number_2_22 : SX2_number_2 22 (i_aload 0 23) := snd_aload_n dX2_number_2_22 rfl
theorem oX2_number_2_23 : SX2_number_2 23 (i_getf 1 5 26) := snd_getf dX2_number_2_23 rfl (by decide) in_X2 (Or.inl q190) (Or.inl rfl) (by decide)
theorem oX2_number_2_26 : SX2_number_2 26 (i_iload 2 27) := snd_iload_n dX2_number_2_26 rfl
theorem oX2_number_2_27 : SX2_number_2 27 (i_if2 (fun x y => x ≤ y) 36 30) := snd_icmp_le dX2_number_2_27 (by decide)
theorem oX2_number_2_30 : SX2_number_2 30 (i_aload 0 31) := snd_aload_n dX2_number_2_30 rfl
theorem oX2_number_2_31 : SX2_number_2 31 (i_const (.int (nI 4)) 32) := snd_iconst dX2_number_2_31 (by decide)
theorem oX2_number_2_32 : SX2_number_2 32 (i_cv 1 201 1 35) := snd_cv rfl infX2_wrong (by decide) rfl (xVm_V dX2_number_2_32 rfl q563 q565 qs4 q128 q566 pdX2_wrong)
theorem oX2_number_2_35 : SX2_number_2 35 (i_throw [5]) := snd_throw dX2_number_2_35 rfl okth_5
theorem oX2_number_2_36 : SX2_number_2 36 (i_aload 0 37) := snd_aload_n dX2_number_2_36 rfl
theorem oX2_number_2_37 : SX2_number_2 37 (i_getf 1 5 40) := snd_getf dX2_number_2_37 rfl (by decide) in_X2 (Or.inl q190) (Or.inl rfl) (by decide)
theorem oX2_number_2_40 : SX2_number_2 40 (i_istore 3 41) := snd_istore_n dX2_number_2_40 rfl (by decide)
theorem oX2_number_2_41 : SX2_number_2 41 (i_aload 0 42) := snd_aload_n dX2_number_2_41 rfl
theorem oX2_number_2_42 : SX2_number_2 42 (i_cvv 1 195 0 45) := snd_cvv rfl infX2_next (by decide) rfl (xVm_V dX2_number_2_42 rfl q431 q433 qs1 q128 q434 pdX2_next)
theorem oX2_number_2_45 : SX2_number_2 45 (i_iload 3 46) := snd_iload_n dX2_number_2_45 rfl
theorem oX2_number_2_46 : SX2_number_2 46 (i_iret) := snd_iret dX2_number_2_46 rfl
theorem okX2_number_2 : ∀ q ∈ cX2_number_2, SX2_number_2 q.1 q.2 := List.forall_mem_cons.mpr ⟨oX2_number_2_0, List.forall_mem_cons.mpr ⟨oX2_number_2_1, List.forall_mem_cons.mpr ⟨oX2_number_2_4, List.forall_mem_cons.mpr ⟨oX2_number_2_5, List.forall_mem_cons.mpr ⟨oX2_number_2_8, List.forall_mem_cons.mpr ⟨oX2_number_2_9, List.forall_mem_cons.mpr ⟨oX2_number_2_10, List.forall_mem_cons.mpr ⟨oX2_number_2_13, List.forall_mem_cons.mpr ⟨oX2_number_2_14, List.forall_mem_cons.mpr ⟨oX2_number_2_15, List.forall_mem_cons.mpr ⟨oX2_number_2_18, List.forall_mem_cons.mpr ⟨oX2_number_2_19, List.forall_mem_cons.mpr ⟨oX2_number_2_22, List.forall_mem_cons.mpr ⟨oX2_number_2_23, List.forall_mem_cons.mpr ⟨oX2_number_2_26, List.forall_mem_cons.mpr ⟨oX2_number_2_27, List.forall_mem_cons.mpr ⟨oX2_number_2_30, List.forall_mem_cons.mpr ⟨oX2_number_2_31, List.forall_mem_cons.mpr ⟨oX2_number_2_32, List.forall_mem_cons.mpr ⟨oX2_number_2_35, List.forall_mem_cons.mpr ⟨oX2_number_2_36, List.forall_mem_cons.mpr ⟨oX2_number_2_37, List.forall_mem_cons.mpr ⟨oX2_number_2_40, List.forall_mem_cons.mpr ⟨oX2_number_2_41, List.forall_mem_cons.mpr ⟨oX2_number_2_42, List.forall_mem_cons.mpr ⟨oX2_number_2_45, List.forall_mem_cons.mpr ⟨oX2_number_2_46, fun _ h => absurd h List.not_mem_nil⟩⟩⟩⟩⟩⟩⟩⟩⟩⟩⟩⟩⟩⟩⟩⟩⟩⟩⟩⟩⟩⟩⟩⟩⟩⟩⟩
def dkwX2_ahead_2 : List UInt8 := [132, 4, 1, 167, 255, 228, 29, 27, 28, 184, 0, 125, 154, 0, 9, 42, 7, 182, 0, 75, 191, 29, 172]
abbrev dktX2_ahead_2 : List UInt8 := dkwX2_ahead_2 ++ []
def dkwX2_ahead_1 : List UInt8 := [42, 180, 0, 19, 162, 0, 25, 29, 16, 10, 104, 42, 180, 0, 9, 21, 4, 51, 96, 16, 48, 100, 62]
abbrev dktX2_ahead_1 : List UInt8 := dkwX2_ahead_1 ++ dktX2_ahead_2
def dkwX2_ahead_0 : List UInt8 := [42, 180, 0, 31, 5, 159, 0, 9, 42, 4, 182, 0, 75, 191, 3, 62, 42, 180, 0, 28, 54, 4, 21, 4]
abbrev dktX2_ahead_0 : List UInt8 := dkwX2_ahead_0 ++ dktX2_ahead_1
theorem dksX2_ahead_0 : bcX2_ahead.data.toList.drop 0 = dktX2_ahead_0 := by decide +kernel
theorem dksX2_ahead_1 : bcX2_ahead.data.toList.drop 24 = dktX2_ahead_1 := dk_seg dksX2_ahead_0 24 rfl rfl
theorem dksX2_ahead_2 : bcX2_ahead.data.toList.drop 47 = dktX2_ahead_2 := dk_seg dksX2_ahead_1 23 rfl rfl
theorem dX2_ahead_0 : decode bcX2_ahead 0 = .ok (.aload_n 0, 1) := dk_42 (dk_at dksX2_ahead_0 0 rfl rfl)
theorem dX2_ahead_1 : decode bcX2_ahead 1 = .ok (.getfield 31, 3) := dk_180 0 31 (dk_at dksX2_ahead_0 1 rfl rfl)
theorem dX2_ahead_4 : decode bcX2_ahead 4 = .ok (.iconst 2, 1) := dk_5 (dk_at dksX2_ahead_0 4 rfl rfl)
theorem dX2_ahead_5 : decode bcX2_ahead 5 = .ok (.if_icmp .eq 9, 3) := dk_159 0 9 (dk_at dksX2_ahead_0 5 rfl rfl)
theorem dX2_ahead_8 : decode bcX2_ahead 8 = .ok (.aload_n 0, 1) := dk_42 (dk_at dksX2_ahead_0 8 rfl rfl)
theorem dX2_ahead_9 : decode bcX2_ahead 9 = .ok (.iconst 1, 1) := dk_4 (dk_at dksX2_ahead_0 9 rfl rfl)
theorem dX2_ahead_10 : decode bcX2_ahead 10 = .ok (.invokevirtual 75, 3) := dk_182 0 75 (dk_at dksX2_ahead_0 10 rfl rfl)
theorem dX2_ahead_13 : decode bcX2_ahead 13 = .ok (.athrow, 1) := dk_191 (dk_at dksX2_ahead_0 13 rfl rfl)
theorem dX2_ahead_14 : decode bcX2_ahead 14 = .ok (.iconst 0, 1) := dk_3 (dk_at dksX2_ahead_0 14 rfl rfl)
theorem dX2_ahead_15 : decode bcX2_ahead 15 = .ok (.istore_n 3, 1) := dk_62 (dk_at dksX2_ahead_0 15 rfl rfl)
theorem dX2_ahead_16 : decode bcX2_ahead 16 = .ok (.aload_n 0, 1) := dk_42 (dk_at dksX2_ahead_0 16 rfl rfl)
theorem dX2_ahead_17 : decode bcX2_ahead 17 = .ok (.getfield 28, 3) := dk_180 0 28 (dk_at dksX2_ahead_0 17 rfl rfl)
theorem dX2_ahead_20 : decode bcX2_ahead 20 = .ok (.istore 4, 2) := dk_54 4 (dk_at dksX2_ahead_0 20 rfl rfl)
theorem dX2_ahead_22 : decode bcX2_ahead 22 = .ok (.iload 4, 2) := dk_21 4 (dk_at dksX2_ahead_0 22 rfl rfl)
theorem dX2_ahead_24 : decode bcX2_ahead 24 = .ok (.aload_n 0, 1) := dk_42 (dk_at dksX2_ahead_1 0 rfl rfl)
theorem dX2_ahead_25 : decode bcX2_ahead 25 = .ok (.getfield 19, 3) := dk_180 0 19 (dk_at dksX2_ahead_1 1 rfl rfl)
theorem dX2_ahead_28 : decode bcX2_ahead 28 = .ok (.if_icmp .ge 25, 3) := dk_162 0 25 (dk_at dksX2_ahead_1 4 rfl rfl)
theorem dX2_ahead_31 : decode bcX2_ahead 31 = .ok (.iload_n 3, 1) := dk_29 (dk_at dksX2_ahead_1 7 rfl rfl)
theorem dX2_ahead_32 : decode bcX2_ahead 32 = .ok (.bipush 10, 2) := dk_16 10 (dk_at dksX2_ahead_1 8 rfl rfl)
theorem dX2_ahead_34 : decode bcX2_ahead 34 = .ok (.imul, 1) := dk_104 (dk_at dksX2_ahead_1 10 rfl rfl)
theorem dX2_ahead_35 : decode bcX2_ahead 35 = .ok (.aload_n 0, 1) := dk_42 (dk_at dksX2_ahead_1 11 rfl rfl)
theorem dX2_ahead_36 : decode bcX2_ahead 36 = .ok (.getfield 9, 3) := dk_180 0 9 (dk_at dksX2_ahead_1 12 rfl rfl)
theorem dX2_ahead_39 : decode bcX2_ahead 39 = .ok (.iload 4, 2) := dk_21 4 (dk_at dksX2_ahead_1 15 rfl rfl)
theorem dX2_ahead_41 : decode bcX2_ahead 41 = .ok (.baload, 1) := dk_51 (dk_at dksX2_ahead_1 17 rfl rfl)
theorem dX2_ahead_42 : decode bcX2_ahead 42 = .ok (.iadd, 1) := dk_96 (dk_at dksX2_ahead_1 18 rfl rfl)
theorem dX2_ahead_43 : decode bcX2_ahead 43 = .ok (.bipush 48, 2) := dk_16 48 (dk_at dksX2_ahead_1 19 rfl rfl)
theorem dX2_ahead_45 : decode bcX2_ahead 45 = .ok (.isub, 1) := dk_100 (dk_at dksX2_ahead_1 21 rfl rfl)
theorem dX2_ahead_46 : decode bcX2_ahead 46 = .ok (.istore_n 3, 1) := dk_62 (dk_at dksX2_ahead_1 22 rfl rfl)
theorem dX2_ahead_47 : decode bcX2_ahead 47 = .ok (.iinc 4 1, 3) := dk_132 4 1 (dk_at dksX2_ahead_2 0 rfl rfl)
theorem dX2_ahead_50 : decode bcX2_ahead 50 = .ok (.goto (-28), 3) := dk_167 255 228 (dk_at dksX2_ahead_2 3 rfl rfl)
theorem dX2_ahead_53 : decode bcX2_ahead 53 = .ok (.iload_n 3, 1) := dk_29 (dk_at dksX2_ahead_2 6 rfl rfl)
theorem dX2_ahead_54 : decode bcX2_ahead 54 = .ok (.iload_n 1, 1) := dk_27 (dk_at dksX2_ahead_2 7 rfl rfl)
theorem dX2_ahead_55 : decode bcX2_ahead 55 = .ok (.iload_n 2, 1) := dk_28 (dk_at dksX2_ahead_2 8 rfl rfl)
theorem dX2_ahead_56 : decode bcX2_ahead 56 = .ok (.invokestatic 125, 3) := dk_184 0 125 (dk_at dksX2_ahead_2 9 rfl rfl)
theorem dX2_ahead_59 : decode bcX2_ahead 59 = .ok (.ifCond .ne 9, 3) := dk_154 0 9 (dk_at dksX2_ahead_2 12 rfl rfl)
theorem dX2_ahead_62 : decode bcX2_ahead 62 = .ok (.aload_n 0, 1) := dk_42 (dk_at dksX2_ahead_2 15 rfl rfl)
theorem dX2_ahead_63 : decode bcX2_ahead 63 = .ok (.iconst 4, 1) := dk_7 (dk_at dksX2_ahead_2 16 rfl rfl)
theorem dX2_ahead_64 : decode bcX2_ahead 64 = .ok (.invokevirtual 75, 3) := dk_182 0 75 (dk_at dksX2_ahead_2 17 rfl rfl)
theorem dX2_ahead_67 : decode bcX2_ahead 67 = .ok (.athrow, 1) := dk_191 (dk_at dksX2_ahead_2 20 rfl rfl)
theorem dX2_ahead_68 : decode bcX2_ahead 68 = .ok (.iload_n 3, 1) := dk_29 (dk_at dksX2_ahead_2 21 rfl rfl)
theorem dX2_ahead_69 : decode bcX2_ahead 69 = .ok (.ireturn, 1) := dk_172 (dk_at dksX2_ahead_2 22 rfl rfl)
abbrev SX2_ahead (pc : Nat) (i : xI) : Prop := Snd "SwollenHouse$Reader" "ahead" prog_17_method_17_code 5 (Option.some Jvm.ClassFile.FieldType.int) [] pc i
theorem oX2_ahead_0 : SX2_ahead 0 (i_aload 0 1) := snd_aload_n dX2_ahead_0 rfl
theorem oX2_ahead_1 : SX2_ahead 1 (i_getf 1 3 4) := snd_getf dX2_ahead_1 rfl (by decide) in_X2 (Or.inl q188) (Or.inl rfl) (by decide)
theorem oX2_ahead_4 : SX2_ahead 4 (i_const (.int (nI 2)) 5) := snd_iconst dX2_ahead_4 (by decide)
theorem oX2_ahead_5 : SX2_ahead 5 (i_if2 (fun x y => x = y) 14 8) := snd_icmp_eq dX2_ahead_5 (by decide)
theorem oX2_ahead_8 : SX2_ahead 8 (i_aload 0 9) := snd_aload_n dX2_ahead_8 rfl
theorem oX2_ahead_9 : SX2_ahead 9 (i_const (.int (nI 1)) 10) := snd_iconst dX2_ahead_9 (by decide)
theorem oX2_ahead_10 : SX2_ahead 10 (i_cv 1 201 1 13) := snd_cv rfl infX2_wrong (by decide) rfl (xVm_V dX2_ahead_10 rfl q563 q565 qs4 q128 q566 pdX2_wrong)
theorem oX2_ahead_13 : SX2_ahead 13 (i_throw [5]) := snd_throw dX2_ahead_13 rfl okth_5
theorem oX2_ahead_14 : SX2_ahead 14 (i_const (.int (nI 0)) 15) := snd_iconst dX2_ahead_14 (by decide)
theorem oX2_ahead_15 : SX2_ahead 15 (i_istore 3 16) := snd_istore_n dX2_ahead_15 rfl (by decide)
theorem oX2_ahead_16 : SX2_ahead 16 (i_aload 0 17) := snd_aload_n dX2_ahead_16 rfl
theorem oX2_ahead_17 : SX2_ahead 17 (i_getf 1 4 20) := snd_getf dX2_ahead_17 rfl (by decide) in_X2 (Or.inl q189) (Or.inl rfl) (by decide)
theorem oX2_ahead_20 : SX2_ahead 20 (i_istore 4 22) := snd_istore dX2_ahead_20 (by decide)
theorem oX2_ahead_22 : SX2_ahead 22 (i_iload 4 24) := snd_iload dX2_ahead_22
theorem oX2_ahead_24 : SX2_ahead 24 (i_aload 0 25) := snd_aload_n dX2_ahead_24 rfl
theorem oX2_ahead_25 : SX2_ahead 25 (i_getf 1 2 28) := snd_getf dX2_ahead_25 rfl (by decide) in_X2 (Or.inl q187) (Or.inl rfl) (by decide)
theorem oX2_ahead_28 : SX2_ahead 28 (i_if2 (fun x y => y ≤ x) 53 31) := snd_icmp_ge dX2_ahead_28 (by decide)
theorem oX2_ahead_31 : SX2_ahead 31 (i_iload 3 32) := snd_iload_n dX2_ahead_31 rfl
theorem oX2_ahead_32 : SX2_ahead 32 (i_const (.int (nI 10)) 34) := snd_bipush dX2_ahead_32 (by decide)
theorem oX2_ahead_34 : SX2_ahead 34 (i_ii (fun x y => x * y) 35) := snd_imul dX2_ahead_34
theorem oX2_ahead_35 : SX2_ahead 35 (i_aload 0 36) := snd_aload_n dX2_ahead_35 rfl
theorem oX2_ahead_36 : SX2_ahead 36 (i_getf 1 0 39) := snd_getf dX2_ahead_36 rfl (by decide) in_X2 (Or.inl q185) (Or.inl rfl) (by decide)
theorem oX2_ahead_39 : SX2_ahead 39 (i_iload 4 41) := snd_iload dX2_ahead_39
theorem oX2_ahead_41 : SX2_ahead 41 (i_ai 1 42) := snd_ai1 dX2_ahead_41
theorem oX2_ahead_42 : SX2_ahead 42 (i_ii (fun x y => x + y) 43) := snd_iadd dX2_ahead_42
theorem oX2_ahead_43 : SX2_ahead 43 (i_const (.int (nI 48)) 45) := snd_bipush dX2_ahead_43 (by decide)
theorem oX2_ahead_45 : SX2_ahead 45 (i_ii (fun x y => x - y) 46) := snd_isub dX2_ahead_45
theorem oX2_ahead_46 : SX2_ahead 46 (i_istore 3 47) := snd_istore_n dX2_ahead_46 rfl (by decide)
theorem oX2_ahead_47 : SX2_ahead 47 (i_iinc 4 (nI 1) 50) := snd_iinc dX2_ahead_47 (by decide) (by decide)
theorem oX2_ahead_50 : SX2_ahead 50 (i_goto 22) := snd_goto dX2_ahead_50 (by decide)
theorem oX2_ahead_53 : SX2_ahead 53 (i_iload 3 54) := snd_iload_n dX2_ahead_53 rfl
theorem oX2_ahead_54 : SX2_ahead 54 (i_iload 1 55) := snd_iload_n dX2_ahead_54 rfl
theorem oX2_ahead_55 : SX2_ahead 55 (i_iload 2 56) := snd_iload_n dX2_ahead_55 rfl
theorem oX2_ahead_56 : SX2_ahead 56 (i_cs 92 3 59) := snd_cs rfl infX1_in (by decide) (xSm_N dX2_ahead_56 q981 q982 q127 q983 pdX1_in)
theorem oX2_ahead_59 : SX2_ahead 59 (i_if1 (fun x => ¬ x = 0) 68 62) := snd_if_ne dX2_ahead_59 (by decide)
theorem oX2_ahead_62 : SX2_ahead 62 (i_aload 0 63) := snd_aload_n dX2_ahead_62 rfl
theorem oX2_ahead_63 : SX2_ahead 63 (i_const (.int (nI 4)) 64) := snd_iconst dX2_ahead_63 (by decide)
theorem oX2_ahead_64 : SX2_ahead 64 (i_cv 1 201 1 67) := snd_cv rfl infX2_wrong (by decide) rfl (xVm_V dX2_ahead_64 rfl q563 q565 qs4 q128 q566 pdX2_wrong)
theorem oX2_ahead_67 : SX2_ahead 67 (i_throw [5]) := snd_throw dX2_ahead_67 rfl okth_5
theorem oX2_ahead_68 : SX2_ahead 68 (i_iload 3 69) := snd_iload_n dX2_ahead_68 rfl
theorem oX2_ahead_69 : SX2_ahead 69 (i_iret) := snd_iret dX2_ahead_69 rfl
theorem okX2_ahead : ∀ q ∈ cX2_ahead, SX2_ahead q.1 q.2 := List.forall_mem_cons.mpr ⟨oX2_ahead_0, List.forall_mem_cons.mpr ⟨oX2_ahead_1, List.forall_mem_cons.mpr ⟨oX2_ahead_4, List.forall_mem_cons.mpr ⟨oX2_ahead_5, List.forall_mem_cons.mpr ⟨oX2_ahead_8, List.forall_mem_cons.mpr ⟨oX2_ahead_9, List.forall_mem_cons.mpr ⟨oX2_ahead_10, List.forall_mem_cons.mpr ⟨oX2_ahead_13, List.forall_mem_cons.mpr ⟨oX2_ahead_14, List.forall_mem_cons.mpr ⟨oX2_ahead_15, List.forall_mem_cons.mpr ⟨oX2_ahead_16, List.forall_mem_cons.mpr ⟨oX2_ahead_17, List.forall_mem_cons.mpr ⟨oX2_ahead_20, List.forall_mem_cons.mpr ⟨oX2_ahead_22, List.forall_mem_cons.mpr ⟨oX2_ahead_24, List.forall_mem_cons.mpr ⟨oX2_ahead_25, List.forall_mem_cons.mpr ⟨oX2_ahead_28, List.forall_mem_cons.mpr ⟨oX2_ahead_31, List.forall_mem_cons.mpr ⟨oX2_ahead_32, List.forall_mem_cons.mpr ⟨oX2_ahead_34, List.forall_mem_cons.mpr ⟨oX2_ahead_35, List.forall_mem_cons.mpr ⟨oX2_ahead_36, List.forall_mem_cons.mpr ⟨oX2_ahead_39, List.forall_mem_cons.mpr ⟨oX2_ahead_41, List.forall_mem_cons.mpr ⟨oX2_ahead_42, List.forall_mem_cons.mpr ⟨oX2_ahead_43, List.forall_mem_cons.mpr ⟨oX2_ahead_45, List.forall_mem_cons.mpr ⟨oX2_ahead_46, List.forall_mem_cons.mpr ⟨oX2_ahead_47, List.forall_mem_cons.mpr ⟨oX2_ahead_50, List.forall_mem_cons.mpr ⟨oX2_ahead_53, List.forall_mem_cons.mpr ⟨oX2_ahead_54, List.forall_mem_cons.mpr ⟨oX2_ahead_55, List.forall_mem_cons.mpr ⟨oX2_ahead_56, List.forall_mem_cons.mpr ⟨oX2_ahead_59, List.forall_mem_cons.mpr ⟨oX2_ahead_62, List.forall_mem_cons.mpr ⟨oX2_ahead_63, List.forall_mem_cons.mpr ⟨oX2_ahead_64, List.forall_mem_cons.mpr ⟨oX2_ahead_67, List.forall_mem_cons.mpr ⟨oX2_ahead_68, List.forall_mem_cons.mpr ⟨oX2_ahead_69, fun _ h => absurd h List.not_mem_nil⟩⟩⟩⟩⟩⟩⟩⟩⟩⟩⟩⟩⟩⟩⟩⟩⟩⟩⟩⟩⟩⟩⟩⟩⟩⟩⟩⟩⟩⟩⟩⟩⟩⟩⟩⟩⟩⟩⟩⟩⟩
def dkwX2_isSign_1 : List UInt8 := [167, 0, 4, 3, 172]
abbrev dktX2_isSign_1 : List UInt8 := dkwX2_isSign_1 ++ []
def dkwX2_isSign_0 : List UInt8 := [42, 180, 0, 31, 6, 160, 0, 20, 42, 180, 0, 9, 42, 180, 0, 28, 51, 27, 160, 0, 7, 4]
abbrev dktX2_isSign_0 : List UInt8 := dkwX2_isSign_0 ++ dktX2_isSign_1
theorem dksX2_isSign_0 : bcX2_isSign.data.toList.drop 0 = dktX2_isSign_0 := by decide +kernel
theorem dksX2_isSign_1 : bcX2_isSign.data.toList.drop 22 = dktX2_isSign_1 := dk_seg dksX2_isSign_0 22 rfl rfl
theorem dX2_isSign_0 : decode bcX2_isSign 0 = .ok (.aload_n 0, 1) := dk_42 (dk_at dksX2_isSign_0 0 rfl rfl)
theorem dX2_isSign_1 : decode bcX2_isSign 1 = .ok (.getfield 31, 3) := dk_180 0 31 (dk_at dksX2_isSign_0 1 rfl rfl)
theorem dX2_isSign_4 : decode bcX2_isSign 4 = .ok (.iconst 3, 1) := dk_6 (dk_at dksX2_isSign_0 4 rfl rfl)
theorem dX2_isSign_5 : decode bcX2_isSign 5 = .ok (.if_icmp .ne 20, 3) := dk_160 0 20 (dk_at dksX2_isSign_0 5 rfl rfl)
theorem dX2_isSign_8 : decode bcX2_isSign 8 = .ok (.aload_n 0, 1) := dk_42 (dk_at dksX2_isSign_0 8 rfl rfl)
theorem dX2_isSign_9 : decode bcX2_isSign 9 = .ok (.getfield 9, 3) := dk_180 0 9 (dk_at dksX2_isSign_0 9 rfl rfl)
theorem dX2_isSign_12 : decode bcX2_isSign 12 = .ok (.aload_n 0, 1) := dk_42 (dk_at dksX2_isSign_0 12 rfl rfl)
theorem dX2_isSign_13 : decode bcX2_isSign 13 = .ok (.getfield 28, 3) := dk_180 0 28 (dk_at dksX2_isSign_0 13 rfl rfl)
theorem dX2_isSign_16 : decode bcX2_isSign 16 = .ok (.baload, 1) := dk_51 (dk_at dksX2_isSign_0 16 rfl rfl)
theorem dX2_isSign_17 : decode bcX2_isSign 17 = .ok (.iload_n 1, 1) := dk_27 (dk_at dksX2_isSign_0 17 rfl rfl)
theorem dX2_isSign_18 : decode bcX2_isSign 18 = .ok (.if_icmp .ne 7, 3) := dk_160 0 7 (dk_at dksX2_isSign_0 18 rfl rfl)
theorem dX2_isSign_21 : decode bcX2_isSign 21 = .ok (.iconst 1, 1) := dk_4 (dk_at dksX2_isSign_0 21 rfl rfl)
theorem dX2_isSign_22 : decode bcX2_isSign 22 = .ok (.goto 4, 3) := dk_167 0 4 (dk_at dksX2_isSign_1 0 rfl rfl)
theorem dX2_isSign_25 : decode bcX2_isSign 25 = .ok (.iconst 0, 1) := dk_3 (dk_at dksX2_isSign_1 3 rfl rfl)
theorem dX2_isSign_26 : decode bcX2_isSign 26 = .ok (.ireturn, 1) := dk_172 (dk_at dksX2_isSign_1 4 rfl rfl)
abbrev SX2_isSign (pc : Nat) (i : xI) : Prop := Snd "SwollenHouse$Reader" "isSign" prog_17_method_10_code 2 (Option.some Jvm.ClassFile.FieldType.boolean) [] pc i
theorem oX2_isSign_0 : SX2_isSign 0 (i_aload 0 1) := snd_aload_n dX2_isSign_0 rfl
theorem oX2_isSign_1 : SX2_isSign 1 (i_getf 1 3 4) := snd_getf dX2_isSign_1 rfl (by decide) in_X2 (Or.inl q188) (Or.inl rfl) (by decide)
theorem oX2_isSign_4 : SX2_isSign 4 (i_const (.int (nI 3)) 5) := snd_iconst dX2_isSign_4 (by decide)
theorem oX2_isSign_5 : SX2_isSign 5 (i_if2 (fun x y => ¬ x = y) 25 8) := snd_icmp_ne dX2_isSign_5 (by decide)
theorem oX2_isSign_8 : SX2_isSign 8 (i_aload 0 9) := snd_aload_n dX2_isSign_8 rfl
theorem oX2_isSign_9 : SX2_isSign 9 (i_getf 1 0 12) := snd_getf dX2_isSign_9 rfl (by decide) in_X2 (Or.inl q185) (Or.inl rfl) (by decide)
theorem oX2_isSign_12 : SX2_isSign 12 (i_aload 0 13) := snd_aload_n dX2_isSign_12 rfl
theorem oX2_isSign_13 : SX2_isSign 13 (i_getf 1 4 16) := snd_getf dX2_isSign_13 rfl (by decide) in_X2 (Or.inl q189) (Or.inl rfl) (by decide)
theorem oX2_isSign_16 : SX2_isSign 16 (i_ai 1 17) := snd_ai1 dX2_isSign_16
theorem oX2_isSign_17 : SX2_isSign 17 (i_iload 1 18) := snd_iload_n dX2_isSign_17 rfl
theorem oX2_isSign_18 : SX2_isSign 18 (i_if2 (fun x y => ¬ x = y) 25 21) := snd_icmp_ne dX2_isSign_18 (by decide)
theorem oX2_isSign_21 : SX2_isSign 21 (i_const (.int (nI 1)) 22) := snd_iconst dX2_isSign_21 (by decide)
theorem oX2_isSign_22 : SX2_isSign 22 (i_goto 26) := snd_goto dX2_isSign_22 (by decide)
theorem oX2_isSign_25 : SX2_isSign 25 (i_const (.int (nI 0)) 26) := snd_iconst dX2_isSign_25 (by decide)
theorem oX2_isSign_26 : SX2_isSign 26 (i_zret) := snd_zret dX2_isSign_26 rfl
theorem okX2_isSign : ∀ q ∈ cX2_isSign, SX2_isSign q.1 q.2 := List.forall_mem_cons.mpr ⟨oX2_isSign_0, List.forall_mem_cons.mpr ⟨oX2_isSign_1, List.forall_mem_cons.mpr ⟨oX2_isSign_4, List.forall_mem_cons.mpr ⟨oX2_isSign_5, List.forall_mem_cons.mpr ⟨oX2_isSign_8, List.forall_mem_cons.mpr ⟨oX2_isSign_9, List.forall_mem_cons.mpr ⟨oX2_isSign_12, List.forall_mem_cons.mpr ⟨oX2_isSign_13, List.forall_mem_cons.mpr ⟨oX2_isSign_16, List.forall_mem_cons.mpr ⟨oX2_isSign_17, List.forall_mem_cons.mpr ⟨oX2_isSign_18, List.forall_mem_cons.mpr ⟨oX2_isSign_21, List.forall_mem_cons.mpr ⟨oX2_isSign_22, List.forall_mem_cons.mpr ⟨oX2_isSign_25, List.forall_mem_cons.mpr ⟨oX2_isSign_26, fun _ h => absurd h List.not_mem_nil⟩⟩⟩⟩⟩⟩⟩⟩⟩⟩⟩⟩⟩⟩⟩
def dkwX2_expression_2 : List UInt8 := [167, 255, 215]
abbrev dktX2_expression_2 : List UInt8 := dkwX2_expression_2 ++ []
def dkwX2_expression_1 : List UInt8 := [187, 0, 251, 89, 28, 154, 0, 8, 16, 38, 167, 0, 5, 16, 124, 43, 42, 182, 0, 246, 183, 0, 253, 76]
abbrev dktX2_expression_1 : List UInt8 := dkwX2_expression_1 ++ dktX2_expression_2
def dkwX2_expression_0 : List UInt8 := [42, 182, 0, 246, 76, 42, 18, 249, 182, 0, 71, 61, 28, 156, 0, 5, 43, 176, 42, 182, 0, 25]
abbrev dktX2_expression_0 : List UInt8 := dkwX2_expression_0 ++ dktX2_expression_1
theorem dksX2_expression_0 : bcX2_expression.data.toList.drop 0 = dktX2_expression_0 := by decide +kernel
theorem dksX2_expression_1 : bcX2_expression.data.toList.drop 22 = dktX2_expression_1 := dk_seg dksX2_expression_0 22 rfl rfl
theorem dksX2_expression_2 : bcX2_expression.data.toList.drop 46 = dktX2_expression_2 := dk_seg dksX2_expression_1 24 rfl rfl
theorem dX2_expression_0 : decode bcX2_expression 0 = .ok (.aload_n 0, 1) := dk_42 (dk_at dksX2_expression_0 0 rfl rfl)
theorem dX2_expression_1 : decode bcX2_expression 1 = .ok (.invokevirtual 246, 3) := dk_182 0 246 (dk_at dksX2_expression_0 1 rfl rfl)
theorem dX2_expression_4 : decode bcX2_expression 4 = .ok (.astore_n 1, 1) := dk_76 (dk_at dksX2_expression_0 4 rfl rfl)
theorem dX2_expression_5 : decode bcX2_expression 5 = .ok (.aload_n 0, 1) := dk_42 (dk_at dksX2_expression_0 5 rfl rfl)
theorem dX2_expression_6 : decode bcX2_expression 6 = .ok (.ldc 249, 2) := dk_18 249 (dk_at dksX2_expression_0 6 rfl rfl)
theorem dX2_expression_8 : decode bcX2_expression 8 = .ok (.invokevirtual 71, 3) := dk_182 0 71 (dk_at dksX2_expression_0 8 rfl rfl)
theorem dX2_expression_11 : decode bcX2_expression 11 = .ok (.istore_n 2, 1) := dk_61 (dk_at dksX2_expression_0 11 rfl rfl)
theorem dX2_expression_12 : decode bcX2_expression 12 = .ok (.iload_n 2, 1) := dk_28 (dk_at dksX2_expression_0 12 rfl rfl)
theorem dX2_expression_13 : decode bcX2_expression 13 = .ok (.ifCond .ge 5, 3) := dk_156 0 5 (dk_at dksX2_expression_0 13 rfl rfl)
theorem dX2_expression_16 : decode bcX2_expression 16 = .ok (.aload_n 1, 1) := dk_43 (dk_at dksX2_expression_0 16 rfl rfl)
theorem dX2_expression_17 : decode bcX2_expression 17 = .ok (.areturn, 1) := dk_176 (dk_at dksX2_expression_0 17 rfl rfl)
theorem dX2_expression_18 : decode bcX2_expression 18 = .ok (.aload_n 0, 1) := dk_42 (dk_at dksX2_expression_0 18 rfl rfl)
theorem dX2_expression_19 : decode bcX2_expression 19 = .ok (.invokevirtual 25, 3) := dk_182 0 25 (dk_at dksX2_expression_0 19 rfl rfl)
theorem dX2_expression_22 : decode bcX2_expression 22 = .ok (.new 251, 3) := dk_187 0 251 (dk_at dksX2_expression_1 0 rfl rfl)
theorem dX2_expression_25 : decode bcX2_expression 25 = .ok (.dup, 1) := dk_89 (dk_at dksX2_expression_1 3 rfl rfl)
theorem dX2_expression_26 : decode bcX2_expression 26 = .ok (.iload_n 2, 1) := dk_28 (dk_at dksX2_expression_1 4 rfl rfl)
theorem dX2_expression_27 : decode bcX2_expression 27 = .ok (.ifCond .ne 8, 3) := dk_154 0 8 (dk_at dksX2_expression_1 5 rfl rfl)
theorem dX2_expression_30 : decode bcX2_expression 30 = .ok (.bipush 38, 2) := dk_16 38 (dk_at dksX2_expression_1 8 rfl rfl)
theorem dX2_expression_32 : decode bcX2_expression 32 = .ok (.goto 5, 3) := dk_167 0 5 (dk_at dksX2_expression_1 10 rfl rfl)
theorem dX2_expression_35 : decode bcX2_expression 35 = .ok (.bipush 124, 2) := dk_16 124 (dk_at dksX2_expression_1 13 rfl rfl)
theorem dX2_expression_37 : decode bcX2_expression 37 = .ok (.aload_n 1, 1) := dk_43 (dk_at dksX2_expression_1 15 rfl rfl)
theorem dX2_expression_38 : decode bcX2_expression 38 = .ok (.aload_n 0, 1) := dk_42 (dk_at dksX2_expression_1 16 rfl rfl)
theorem dX2_expression_39 : decode bcX2_expression 39 = .ok (.invokevirtual 246, 3) := dk_182 0 246 (dk_at dksX2_expression_1 17 rfl rfl)
theorem dX2_expression_42 : decode bcX2_expression 42 = .ok (.invokespecial 253, 3) := dk_183 0 253 (dk_at dksX2_expression_1 20 rfl rfl)
theorem dX2_expression_45 : decode bcX2_expression 45 = .ok (.astore_n 1, 1) := dk_76 (dk_at dksX2_expression_1 23 rfl rfl)
theorem dX2_expression_46 : decode bcX2_expression 46 = .ok (.goto (-41), 3) := dk_167 255 215 (dk_at dksX2_expression_2 0 rfl rfl)
abbrev SX2_expression (pc : Nat) (i : xI) : Prop := Snd "SwollenHouse$Reader" "expression" prog_17_method_26_code 3 (Option.some (Jvm.ClassFile.FieldType.object "SwollenHouse$Expression")) [] pc i
theorem oX2_expression_0 : SX2_expression 0 (i_aload 0 1) := snd_aload_n dX2_expression_0 rfl
theorem oX2_expression_1 : SX2_expression 1 (i_cv 1 216 0 4) := snd_cv rfl infX2_test (by decide) rfl (xVm_V dX2_expression_1 rfl q992 q994 qs23 q128 q995 pdX2_test)
theorem oX2_expression_4 : SX2_expression 4 (i_astore 1 5) := snd_astore_n dX2_expression_4 rfl (by decide)
theorem oX2_expression_5 : SX2_expression 5 (i_aload 0 6) := snd_aload_n dX2_expression_5 rfl
theorem oX2_expression_6 : SX2_expression 6 (i_const (.ref 18) 8) := snd_lit dX2_expression_6 (by decide) (List.mem_of_getElem? (i := 8) rfl) rfl
theorem oX2_expression_8 : SX2_expression 8 (i_cv 1 200 1 11) := snd_cv rfl infX2_which (by decide) rfl (xVm_V dX2_expression_8 rfl q539 q541 qs3 q128 q542 pdX2_which)
theorem oX2_expression_11 : SX2_expression 11 (i_istore 2 12) := snd_istore_n dX2_expression_11 rfl (by decide)
theorem oX2_expression_12 : SX2_expression 12 (i_iload 2 13) := snd_iload_n dX2_expression_12 rfl
theorem oX2_expression_13 : SX2_expression 13 (i_if1 (fun x => 0 ≤ x) 18 16) := snd_if_ge dX2_expression_13 (by decide)
theorem oX2_expression_16 : SX2_expression 16 (i_aload 1 17) := snd_aload_n dX2_expression_16 rfl
theorem oX2_expression_17 : SX2_expression 17 (i_aret) := snd_aret dX2_expression_17 rfl (Or.inl ⟨_, rfl⟩)
theorem oX2_expression_18 : SX2_expression 18 (i_aload 0 19) := snd_aload_n dX2_expression_18 rfl
theorem oX2_expression_19 : SX2_expression 19 (i_cvv 1 195 0 22) := snd_cvv rfl infX2_next (by decide) rfl (xVm_V dX2_expression_19 rfl q431 q433 qs1 q128 q434 pdX2_next)
theorem oX2_expression_22 : SX2_expression 22 (i_new 14 3 zX17 25) := snd_new dX2_expression_22 rfl in_X17 tyX17 tyX17_ok (by decide) q1047 q1048 q161
theorem oX2_expression_25 : SX2_expression 25 (i_dup 26) := snd_dup dX2_expression_25
theorem oX2_expression_26 : SX2_expression 26 (i_iload 2 27) := snd_iload_n dX2_expression_26 rfl
theorem oX2_expression_27 : SX2_expression 27 (i_if1 (fun x => ¬ x = 0) 35 30) := snd_if_ne dX2_expression_27 (by decide)
theorem oX2_expression_30 : SX2_expression 30 (i_const (.int (nI 38)) 32) := snd_bipush dX2_expression_30 (by decide)
theorem oX2_expression_32 : SX2_expression 32 (i_goto 37) := snd_goto dX2_expression_32 (by decide)
theorem oX2_expression_35 : SX2_expression 35 (i_const (.int (nI 124)) 37) := snd_bipush dX2_expression_35 (by decide)
theorem oX2_expression_37 : SX2_expression 37 (i_aload 1 38) := snd_aload_n dX2_expression_37 rfl
theorem oX2_expression_38 : SX2_expression 38 (i_aload 0 39) := snd_aload_n dX2_expression_38 rfl
theorem oX2_expression_39 : SX2_expression 39 (i_cv 1 216 0 42) := snd_cv rfl infX2_test (by decide) rfl (xVm_V dX2_expression_39 rfl q992 q994 qs23 q128 q995 pdX2_test)
theorem oX2_expression_42 : SX2_expression 42 (i_ci [14] 188 3 45) := snd_ci rfl infX17_init (by decide) (xcls_ok _ (by decide)) (xIm_I dX2_expression_42 rfl q1049 q1050 q161 q1051 pdX17_init)
theorem oX2_expression_45 : SX2_expression 45 (i_astore 1 46) := snd_astore_n dX2_expression_45 rfl (by decide)
theorem oX2_expression_46 : SX2_expression 46 (i_goto 5) := snd_goto dX2_expression_46 (by decide)
theorem okX2_expression : ∀ q ∈ cX2_expression, SX2_expression q.1 q.2 := List.forall_mem_cons.mpr ⟨oX2_expression_0, List.forall_mem_cons.mpr ⟨oX2_expression_1, List.forall_mem_cons.mpr ⟨oX2_expression_4, List.forall_mem_cons.mpr ⟨oX2_expression_5, List.forall_mem_cons.mpr ⟨oX2_expression_6, List.forall_mem_cons.mpr ⟨oX2_expression_8, List.forall_mem_cons.mpr ⟨oX2_expression_11, List.forall_mem_cons.mpr ⟨oX2_expression_12, List.forall_mem_cons.mpr ⟨oX2_expression_13, List.forall_mem_cons.mpr ⟨oX2_expression_16, List.forall_mem_cons.mpr ⟨oX2_expression_17, List.forall_mem_cons.mpr ⟨oX2_expression_18, List.forall_mem_cons.mpr ⟨oX2_expression_19, List.forall_mem_cons.mpr ⟨oX2_expression_22, List.forall_mem_cons.mpr ⟨oX2_expression_25, List.forall_mem_cons.mpr ⟨oX2_expression_26, List.forall_mem_cons.mpr ⟨oX2_expression_27, List.forall_mem_cons.mpr ⟨oX2_expression_30, List.forall_mem_cons.mpr ⟨oX2_expression_32, List.forall_mem_cons.mpr ⟨oX2_expression_35, List.forall_mem_cons.mpr ⟨oX2_expression_37, List.forall_mem_cons.mpr ⟨oX2_expression_38, List.forall_mem_cons.mpr ⟨oX2_expression_39, List.forall_mem_cons.mpr ⟨oX2_expression_42, List.forall_mem_cons.mpr ⟨oX2_expression_45, List.forall_mem_cons.mpr ⟨oX2_expression_46, fun _ h => absurd h List.not_mem_nil⟩⟩⟩⟩⟩⟩⟩⟩⟩⟩⟩⟩⟩⟩⟩⟩⟩⟩⟩⟩⟩⟩⟩⟩⟩⟩
def dkwX2_test_2 : List UInt8 := [182, 0, 25, 187, 0, 251, 89, 28, 43, 42, 182, 1, 0, 183, 0, 253, 176]
abbrev dktX2_test_2 : List UInt8 := dkwX2_test_2 ++ []
def dkwX2_test_1 : List UInt8 := [182, 0, 79, 153, 0, 8, 16, 61, 167, 0, 5, 16, 32, 61, 28, 16, 32, 160, 0, 5, 43, 176, 42]
abbrev dktX2_test_1 : List UInt8 := dkwX2_test_1 ++ dktX2_test_2
def dkwX2_test_0 : List UInt8 := [42, 182, 1, 0, 76, 42, 16, 60, 182, 0, 79, 153, 0, 8, 16, 60, 167, 0, 19, 42, 16, 61]
abbrev dktX2_test_0 : List UInt8 := dkwX2_test_0 ++ dktX2_test_1
theorem dksX2_test_0 : bcX2_test.data.toList.drop 0 = dktX2_test_0 := by decide +kernel
theorem dksX2_test_1 : bcX2_test.data.toList.drop 22 = dktX2_test_1 := dk_seg dksX2_test_0 22 rfl rfl
theorem dksX2_test_2 : bcX2_test.data.toList.drop 45 = dktX2_test_2 := dk_seg dksX2_test_1 23 rfl rfl
theorem dX2_test_0 : decode bcX2_test 0 = .ok (.aload_n 0, 1) := dk_42 (dk_at dksX2_test_0 0 rfl rfl)
theorem dX2_test_1 : decode bcX2_test 1 = .ok (.invokevirtual 256, 3) := dk_182 1 0 (dk_at dksX2_test_0 1 rfl rfl)
theorem dX2_test_4 : decode bcX2_test 4 = .ok (.astore_n 1, 1) := dk_76 (dk_at dksX2_test_0 4 rfl rfl)
theorem dX2_test_5 : decode bcX2_test 5 = .ok (.aload_n 0, 1) := dk_42 (dk_at dksX2_test_0 5 rfl rfl)
theorem dX2_test_6 : decode bcX2_test 6 = .ok (.bipush 60, 2) := dk_16 60 (dk_at dksX2_test_0 6 rfl rfl)
theorem dX2_test_8 : decode bcX2_test 8 = .ok (.invokevirtual 79, 3) := dk_182 0 79 (dk_at dksX2_test_0 8 rfl rfl)
theorem dX2_test_11 : decode bcX2_test 11 = .ok (.ifCond .eq 8, 3) := dk_153 0 8 (dk_at dksX2_test_0 11 rfl rfl)
theorem dX2_test_14 : decode bcX2_test 14 = .ok (.bipush 60, 2) := dk_16 60 (dk_at dksX2_test_0 14 rfl rfl)
theorem dX2_test_16 : decode bcX2_test 16 = .ok (.goto 19, 3) := dk_167 0 19 (dk_at dksX2_test_0 16 rfl rfl)
theorem dX2_test_19 : decode bcX2_test 19 = .ok (.aload_n 0, 1) := dk_42 (dk_at dksX2_test_0 19 rfl rfl)
theorem dX2_test_20 : decode bcX2_test 20 = .ok (.bipush 61, 2) := dk_16 61 (dk_at dksX2_test_0 20 rfl rfl)
theorem dX2_test_22 : decode bcX2_test 22 = .ok (.invokevirtual 79, 3) := dk_182 0 79 (dk_at dksX2_test_1 0 rfl rfl)
theorem dX2_test_25 : decode bcX2_test 25 = .ok (.ifCond .eq 8, 3) := dk_153 0 8 (dk_at dksX2_test_1 3 rfl rfl)
theorem dX2_test_28 : decode bcX2_test 28 = .ok (.bipush 61, 2) := dk_16 61 (dk_at dksX2_test_1 6 rfl rfl)
theorem dX2_test_30 : decode bcX2_test 30 = .ok (.goto 5, 3) := dk_167 0 5 (dk_at dksX2_test_1 8 rfl rfl)
theorem dX2_test_33 : decode bcX2_test 33 = .ok (.bipush 32, 2) := dk_16 32 (dk_at dksX2_test_1 11 rfl rfl)
theorem dX2_test_35 : decode bcX2_test 35 = .ok (.istore_n 2, 1) := dk_61 (dk_at dksX2_test_1 13 rfl rfl)
theorem dX2_test_36 : decode bcX2_test 36 = .ok (.iload_n 2, 1) := dk_28 (dk_at dksX2_test_1 14 rfl rfl)
theorem dX2_test_37 : decode bcX2_test 37 = .ok (.bipush 32, 2) := dk_16 32 (dk_at dksX2_test_1 15 rfl rfl)
theorem dX2_test_39 : decode bcX2_test 39 = .ok (.if_icmp .ne 5, 3) := dk_160 0 5 (dk_at dksX2_test_1 17 rfl rfl)
theorem dX2_test_42 : decode bcX2_test 42 = .ok (.aload_n 1, 1) := dk_43 (dk_at dksX2_test_1 20 rfl rfl)
theorem dX2_test_43 : decode bcX2_test 43 = .ok (.areturn, 1) := dk_176 (dk_at dksX2_test_1 21 rfl rfl)
theorem dX2_test_44 : decode bcX2_test 44 = .ok (.aload_n 0, 1) := dk_42 (dk_at dksX2_test_1 22 rfl rfl)
theorem dX2_test_45 : decode bcX2_test 45 = .ok (.invokevirtual 25, 3) := dk_182 0 25 (dk_at dksX2_test_2 0 rfl rfl)
theorem dX2_test_48 : decode bcX2_test 48 = .ok (.new 251, 3) := dk_187 0 251 (dk_at dksX2_test_2 3 rfl rfl)
theorem dX2_test_51 : decode bcX2_test 51 = .ok (.dup, 1) := dk_89 (dk_at dksX2_test_2 6 rfl rfl)
theorem dX2_test_52 : decode bcX2_test 52 = .ok (.iload_n 2, 1) := dk_28 (dk_at dksX2_test_2 7 rfl rfl)
theorem dX2_test_53 : decode bcX2_test 53 = .ok (.aload_n 1, 1) := dk_43 (dk_at dksX2_test_2 8 rfl rfl)
theorem dX2_test_54 : decode bcX2_test 54 = .ok (.aload_n 0, 1) := dk_42 (dk_at dksX2_test_2 9 rfl rfl)
theorem dX2_test_55 : decode bcX2_test 55 = .ok (.invokevirtual 256, 3) := dk_182 1 0 (dk_at dksX2_test_2 10 rfl rfl)
theorem dX2_test_58 : decode bcX2_test 58 = .ok (.invokespecial 253, 3) := dk_183 0 253 (dk_at dksX2_test_2 13 rfl rfl)
theorem dX2_test_61 : decode bcX2_test 61 = .ok (.areturn, 1) := dk_176 (dk_at dksX2_test_2 16 rfl rfl)
abbrev SX2_test (pc : Nat) (i : xI) : Prop := Snd "SwollenHouse$Reader" "test" prog_17_method_27_code 3 (Option.some (Jvm.ClassFile.FieldType.object "SwollenHouse$Expression")) [] pc i
theorem oX2_test_0 : SX2_test 0 (i_aload 0 1) := snd_aload_n dX2_test_0 rfl
theorem oX2_test_1 : SX2_test 1 (i_cv 1 217 0 4) := snd_cv rfl infX2_sum (by decide) rfl (xVm_V dX2_test_1 rfl q996 q998 qs24 q128 q999 pdX2_sum)
theorem oX2_test_4 : SX2_test 4 (i_astore 1 5) := snd_astore_n dX2_test_4 rfl (by decide)
theorem oX2_test_5 : SX2_test 5 (i_aload 0 6) := snd_aload_n dX2_test_5 rfl
theorem oX2_test_6 : SX2_test 6 (i_const (.int (nI 60)) 8) := snd_bipush dX2_test_6 (by decide)
theorem oX2_test_8 : SX2_test 8 (i_cv 1 214 1 11) := snd_cv rfl infX2_isSign (by decide) rfl (xVm_V dX2_test_8 rfl q984 q986 qs21 q128 q987 pdX2_isSign)
theorem oX2_test_11 : SX2_test 11 (i_if1 (fun x => x = 0) 19 14) := snd_if_eq dX2_test_11 (by decide)
theorem oX2_test_14 : SX2_test 14 (i_const (.int (nI 60)) 16) := snd_bipush dX2_test_14 (by decide)
theorem oX2_test_16 : SX2_test 16 (i_goto 35) := snd_goto dX2_test_16 (by decide)
theorem oX2_test_19 : SX2_test 19 (i_aload 0 20) := snd_aload_n dX2_test_19 rfl
theorem oX2_test_20 : SX2_test 20 (i_const (.int (nI 61)) 22) := snd_bipush dX2_test_20 (by decide)
theorem oX2_test_22 : SX2_test 22 (i_cv 1 214 1 25) := snd_cv rfl infX2_isSign (by decide) rfl (xVm_V dX2_test_22 rfl q984 q986 qs21 q128 q987 pdX2_isSign)
theorem oX2_test_25 : SX2_test 25 (i_if1 (fun x => x = 0) 33 28) := snd_if_eq dX2_test_25 (by decide)
theorem oX2_test_28 : SX2_test 28 (i_const (.int (nI 61)) 30) := snd_bipush dX2_test_28 (by decide)
theorem oX2_test_30 : SX2_test 30 (i_goto 35) := snd_goto dX2_test_30 (by decide)
theorem oX2_test_33 : SX2_test 33 (i_const (.int (nI 32)) 35) := snd_bipush dX2_test_33 (by decide)
theorem oX2_test_35 : SX2_test 35 (i_istore 2 36) := snd_istore_n dX2_test_35 rfl (by decide)
theorem oX2_test_36 : SX2_test 36 (i_iload 2 37) := snd_iload_n dX2_test_36 rfl
theorem oX2_test_37 : SX2_test 37 (i_const (.int (nI 32)) 39) := snd_bipush dX2_test_37 (by decide)
theorem oX2_test_39 : SX2_test 39 (i_if2 (fun x y => ¬ x = y) 44 42) := snd_icmp_ne dX2_test_39 (by decide)
theorem oX2_test_42 : SX2_test 42 (i_aload 1 43) := snd_aload_n dX2_test_42 rfl
theorem oX2_test_43 : SX2_test 43 (i_aret) := snd_aret dX2_test_43 rfl (Or.inl ⟨_, rfl⟩)
theorem oX2_test_44 : SX2_test 44 (i_aload 0 45) := snd_aload_n dX2_test_44 rfl
theorem oX2_test_45 : SX2_test 45 (i_cvv 1 195 0 48) := snd_cvv rfl infX2_next (by decide) rfl (xVm_V dX2_test_45 rfl q431 q433 qs1 q128 q434 pdX2_next)
theorem oX2_test_48 : SX2_test 48 (i_new 14 3 zX17 51) := snd_new dX2_test_48 rfl in_X17 tyX17 tyX17_ok (by decide) q1047 q1048 q161
theorem oX2_test_51 : SX2_test 51 (i_dup 52) := snd_dup dX2_test_51
theorem oX2_test_52 : SX2_test 52 (i_iload 2 53) := snd_iload_n dX2_test_52 rfl
theorem oX2_test_53 : SX2_test 53 (i_aload 1 54) := snd_aload_n dX2_test_53 rfl
theorem oX2_test_54 : SX2_test 54 (i_aload 0 55) := snd_aload_n dX2_test_54 rfl
theorem oX2_test_55 : SX2_test 55 (i_cv 1 217 0 58) := snd_cv rfl infX2_sum (by decide) rfl (xVm_V dX2_test_55 rfl q996 q998 qs24 q128 q999 pdX2_sum)
theorem oX2_test_58 : SX2_test 58 (i_ci [14] 188 3 61) := snd_ci rfl infX17_init (by decide) (xcls_ok _ (by decide)) (xIm_I dX2_test_58 rfl q1049 q1050 q161 q1051 pdX17_init)
theorem oX2_test_61 : SX2_test 61 (i_aret) := snd_aret dX2_test_61 rfl (Or.inl ⟨_, rfl⟩)
theorem okX2_test : ∀ q ∈ cX2_test, SX2_test q.1 q.2 := List.forall_mem_cons.mpr ⟨oX2_test_0, List.forall_mem_cons.mpr ⟨oX2_test_1, List.forall_mem_cons.mpr ⟨oX2_test_4, List.forall_mem_cons.mpr ⟨oX2_test_5, List.forall_mem_cons.mpr ⟨oX2_test_6, List.forall_mem_cons.mpr ⟨oX2_test_8, List.forall_mem_cons.mpr ⟨oX2_test_11, List.forall_mem_cons.mpr ⟨oX2_test_14, List.forall_mem_cons.mpr ⟨oX2_test_16, List.forall_mem_cons.mpr ⟨oX2_test_19, List.forall_mem_cons.mpr ⟨oX2_test_20, List.forall_mem_cons.mpr ⟨oX2_test_22, List.forall_mem_cons.mpr ⟨oX2_test_25, List.forall_mem_cons.mpr ⟨oX2_test_28, List.forall_mem_cons.mpr ⟨oX2_test_30, List.forall_mem_cons.mpr ⟨oX2_test_33, List.forall_mem_cons.mpr ⟨oX2_test_35, List.forall_mem_cons.mpr ⟨oX2_test_36, List.forall_mem_cons.mpr ⟨oX2_test_37, List.forall_mem_cons.mpr ⟨oX2_test_39, List.forall_mem_cons.mpr ⟨oX2_test_42, List.forall_mem_cons.mpr ⟨oX2_test_43, List.forall_mem_cons.mpr ⟨oX2_test_44, List.forall_mem_cons.mpr ⟨oX2_test_45, List.forall_mem_cons.mpr ⟨oX2_test_48, List.forall_mem_cons.mpr ⟨oX2_test_51, List.forall_mem_cons.mpr ⟨oX2_test_52, List.forall_mem_cons.mpr ⟨oX2_test_53, List.forall_mem_cons.mpr ⟨oX2_test_54, List.forall_mem_cons.mpr ⟨oX2_test_55, List.forall_mem_cons.mpr ⟨oX2_test_58, List.forall_mem_cons.mpr ⟨oX2_test_61, fun _ h => absurd h List.not_mem_nil⟩⟩⟩⟩⟩⟩⟩⟩⟩⟩⟩⟩⟩⟩⟩⟩⟩⟩⟩⟩⟩⟩⟩⟩⟩⟩⟩⟩⟩⟩⟩⟩
def dkwX2_sum_2 : List UInt8 := [28, 43, 42, 182, 1, 3, 183, 0, 253, 76, 167, 255, 203, 43, 176]
abbrev dktX2_sum_2 : List UInt8 := dkwX2_sum_2 ++ []
def dkwX2_sum_1 : List UInt8 := [16, 43, 182, 0, 79, 153, 0, 8, 16, 43, 167, 0, 5, 16, 45, 61, 42, 182, 0, 25, 187, 0, 251, 89]
abbrev dktX2_sum_1 : List UInt8 := dkwX2_sum_1 ++ dktX2_sum_2
def dkwX2_sum_0 : List UInt8 := [42, 182, 1, 3, 76, 42, 16, 43, 182, 0, 79, 154, 0, 12, 42, 16, 45, 182, 0, 79, 153, 0, 41, 42]
abbrev dktX2_sum_0 : List UInt8 := dkwX2_sum_0 ++ dktX2_sum_1
theorem dksX2_sum_0 : bcX2_sum.data.toList.drop 0 = dktX2_sum_0 := by decide +kernel
theorem dksX2_sum_1 : bcX2_sum.data.toList.drop 24 = dktX2_sum_1 := dk_seg dksX2_sum_0 24 rfl rfl
theorem dksX2_sum_2 : bcX2_sum.data.toList.drop 48 = dktX2_sum_2 := dk_seg dksX2_sum_1 24 rfl rfl
theorem dX2_sum_0 : decode bcX2_sum 0 = .ok (.aload_n 0, 1) := dk_42 (dk_at dksX2_sum_0 0 rfl rfl)
theorem dX2_sum_1 : decode bcX2_sum 1 = .ok (.invokevirtual 259, 3) := dk_182 1 3 (dk_at dksX2_sum_0 1 rfl rfl)
theorem dX2_sum_4 : decode bcX2_sum 4 = .ok (.astore_n 1, 1) := dk_76 (dk_at dksX2_sum_0 4 rfl rfl)
theorem dX2_sum_5 : decode bcX2_sum 5 = .ok (.aload_n 0, 1) := dk_42 (dk_at dksX2_sum_0 5 rfl rfl)
theorem dX2_sum_6 : decode bcX2_sum 6 = .ok (.bipush 43, 2) := dk_16 43 (dk_at dksX2_sum_0 6 rfl rfl)
theorem dX2_sum_8 : decode bcX2_sum 8 = .ok (.invokevirtual 79, 3) := dk_182 0 79 (dk_at dksX2_sum_0 8 rfl rfl)
theorem dX2_sum_11 : decode bcX2_sum 11 = .ok (.ifCond .ne 12, 3) := dk_154 0 12 (dk_at dksX2_sum_0 11 rfl rfl)
theorem dX2_sum_14 : decode bcX2_sum 14 = .ok (.aload_n 0, 1) := dk_42 (dk_at dksX2_sum_0 14 rfl rfl)
theorem dX2_sum_15 : decode bcX2_sum 15 = .ok (.bipush 45, 2) := dk_16 45 (dk_at dksX2_sum_0 15 rfl rfl)
theorem dX2_sum_17 : decode bcX2_sum 17 = .ok (.invokevirtual 79, 3) := dk_182 0 79 (dk_at dksX2_sum_0 17 rfl rfl)
theorem dX2_sum_20 : decode bcX2_sum 20 = .ok (.ifCond .eq 41, 3) := dk_153 0 41 (dk_at dksX2_sum_0 20 rfl rfl)
theorem dX2_sum_23 : decode bcX2_sum 23 = .ok (.aload_n 0, 1) := dk_42 (dk_at dksX2_sum_0 23 rfl rfl)
theorem dX2_sum_24 : decode bcX2_sum 24 = .ok (.bipush 43, 2) := dk_16 43 (dk_at dksX2_sum_1 0 rfl rfl)
theorem dX2_sum_26 : decode bcX2_sum 26 = .ok (.invokevirtual 79, 3) := dk_182 0 79 (dk_at dksX2_sum_1 2 rfl rfl)
theorem dX2_sum_29 : decode bcX2_sum 29 = .ok (.ifCond .eq 8, 3) := dk_153 0 8 (dk_at dksX2_sum_1 5 rfl rfl)
theorem dX2_sum_32 : decode bcX2_sum 32 = .ok (.bipush 43, 2) := dk_16 43 (dk_at dksX2_sum_1 8 rfl rfl)
theorem dX2_sum_34 : decode bcX2_sum 34 = .ok (.goto 5, 3) := dk_167 0 5 (dk_at dksX2_sum_1 10 rfl rfl)
theorem dX2_sum_37 : decode bcX2_sum 37 = .ok (.bipush 45, 2) := dk_16 45 (dk_at dksX2_sum_1 13 rfl rfl)
theorem dX2_sum_39 : decode bcX2_sum 39 = .ok (.istore_n 2, 1) := dk_61 (dk_at dksX2_sum_1 15 rfl rfl)
theorem dX2_sum_40 : decode bcX2_sum 40 = .ok (.aload_n 0, 1) := dk_42 (dk_at dksX2_sum_1 16 rfl rfl)
theorem dX2_sum_41 : decode bcX2_sum 41 = .ok (.invokevirtual 25, 3) := dk_182 0 25 (dk_at dksX2_sum_1 17 rfl rfl)
theorem dX2_sum_44 : decode bcX2_sum 44 = .ok (.new 251, 3) := dk_187 0 251 (dk_at dksX2_sum_1 20 rfl rfl)
theorem dX2_sum_47 : decode bcX2_sum 47 = .ok (.dup, 1) := dk_89 (dk_at dksX2_sum_1 23 rfl rfl)
theorem dX2_sum_48 : decode bcX2_sum 48 = .ok (.iload_n 2, 1) := dk_28 (dk_at dksX2_sum_2 0 rfl rfl)
theorem dX2_sum_49 : decode bcX2_sum 49 = .ok (.aload_n 1, 1) := dk_43 (dk_at dksX2_sum_2 1 rfl rfl)
theorem dX2_sum_50 : decode bcX2_sum 50 = .ok (.aload_n 0, 1) := dk_42 (dk_at dksX2_sum_2 2 rfl rfl)
theorem dX2_sum_51 : decode bcX2_sum 51 = .ok (.invokevirtual 259, 3) := dk_182 1 3 (dk_at dksX2_sum_2 3 rfl rfl)
theorem dX2_sum_54 : decode bcX2_sum 54 = .ok (.invokespecial 253, 3) := dk_183 0 253 (dk_at dksX2_sum_2 6 rfl rfl)
theorem dX2_sum_57 : decode bcX2_sum 57 = .ok (.astore_n 1, 1) := dk_76 (dk_at dksX2_sum_2 9 rfl rfl)
theorem dX2_sum_58 : decode bcX2_sum 58 = .ok (.goto (-53), 3) := dk_167 255 203 (dk_at dksX2_sum_2 10 rfl rfl)
theorem dX2_sum_61 : decode bcX2_sum 61 = .ok (.aload_n 1, 1) := dk_43 (dk_at dksX2_sum_2 13 rfl rfl)
theorem dX2_sum_62 : decode bcX2_sum 62 = .ok (.areturn, 1) := dk_176 (dk_at dksX2_sum_2 14 rfl rfl)
abbrev SX2_sum (pc : Nat) (i : xI) : Prop := Snd "SwollenHouse$Reader" "sum" prog_17_method_28_code 3 (Option.some (Jvm.ClassFile.FieldType.object "SwollenHouse$Expression")) [] pc i
theorem oX2_sum_0 : SX2_sum 0 (i_aload 0 1) := snd_aload_n dX2_sum_0 rfl
theorem oX2_sum_1 : SX2_sum 1 (i_cv 1 218 0 4) := snd_cv rfl infX2_product (by decide) rfl (xVm_V dX2_sum_1 rfl q1000 q1002 qs25 q128 q1003 pdX2_product)
theorem oX2_sum_4 : SX2_sum 4 (i_astore 1 5) := snd_astore_n dX2_sum_4 rfl (by decide)
theorem oX2_sum_5 : SX2_sum 5 (i_aload 0 6) := snd_aload_n dX2_sum_5 rfl
theorem oX2_sum_6 : SX2_sum 6 (i_const (.int (nI 43)) 8) := snd_bipush dX2_sum_6 (by decide)
theorem oX2_sum_8 : SX2_sum 8 (i_cv 1 214 1 11) := snd_cv rfl infX2_isSign (by decide) rfl (xVm_V dX2_sum_8 rfl q984 q986 qs21 q128 q987 pdX2_isSign)
theorem oX2_sum_11 : SX2_sum 11 (i_if1 (fun x => ¬ x = 0) 23 14) := snd_if_ne dX2_sum_11 (by decide)
theorem oX2_sum_14 : SX2_sum 14 (i_aload 0 15) := snd_aload_n dX2_sum_14 rfl
theorem oX2_sum_15 : SX2_sum 15 (i_const (.int (nI 45)) 17) := snd_bipush dX2_sum_15 (by decide)
theorem oX2_sum_17 : SX2_sum 17 (i_cv 1 214 1 20) := snd_cv rfl infX2_isSign (by decide) rfl (xVm_V dX2_sum_17 rfl q984 q986 qs21 q128 q987 pdX2_isSign)
theorem oX2_sum_20 : SX2_sum 20 (i_if1 (fun x => x = 0) 61 23) := snd_if_eq dX2_sum_20 (by decide)
theorem oX2_sum_23 : SX2_sum 23 (i_aload 0 24) := snd_aload_n dX2_sum_23 rfl
theorem oX2_sum_24 : SX2_sum 24 (i_const (.int (nI 43)) 26) := snd_bipush dX2_sum_24 (by decide)
theorem oX2_sum_26 : SX2_sum 26 (i_cv 1 214 1 29) := snd_cv rfl infX2_isSign (by decide) rfl (xVm_V dX2_sum_26 rfl q984 q986 qs21 q128 q987 pdX2_isSign)
theorem oX2_sum_29 : SX2_sum 29 (i_if1 (fun x => x = 0) 37 32) := snd_if_eq dX2_sum_29 (by decide)
theorem oX2_sum_32 : SX2_sum 32 (i_const (.int (nI 43)) 34) := snd_bipush dX2_sum_32 (by decide)
theorem oX2_sum_34 : SX2_sum 34 (i_goto 39) := snd_goto dX2_sum_34 (by decide)
theorem oX2_sum_37 : SX2_sum 37 (i_const (.int (nI 45)) 39) := snd_bipush dX2_sum_37 (by decide)
theorem oX2_sum_39 : SX2_sum 39 (i_istore 2 40) := snd_istore_n dX2_sum_39 rfl (by decide)
theorem oX2_sum_40 : SX2_sum 40 (i_aload 0 41) := snd_aload_n dX2_sum_40 rfl
theorem oX2_sum_41 : SX2_sum 41 (i_cvv 1 195 0 44) := snd_cvv rfl infX2_next (by decide) rfl (xVm_V dX2_sum_41 rfl q431 q433 qs1 q128 q434 pdX2_next)
theorem oX2_sum_44 : SX2_sum 44 (i_new 14 3 zX17 47) := snd_new dX2_sum_44 rfl in_X17 tyX17 tyX17_ok (by decide) q1047 q1048 q161
theorem oX2_sum_47 : SX2_sum 47 (i_dup 48) := snd_dup dX2_sum_47
theorem oX2_sum_48 : SX2_sum 48 (i_iload 2 49) := snd_iload_n dX2_sum_48 rfl
theorem oX2_sum_49 : SX2_sum 49 (i_aload 1 50) := snd_aload_n dX2_sum_49 rfl
theorem oX2_sum_50 : SX2_sum 50 (i_aload 0 51) := snd_aload_n dX2_sum_50 rfl
theorem oX2_sum_51 : SX2_sum 51 (i_cv 1 218 0 54) := snd_cv rfl infX2_product (by decide) rfl (xVm_V dX2_sum_51 rfl q1000 q1002 qs25 q128 q1003 pdX2_product)
theorem oX2_sum_54 : SX2_sum 54 (i_ci [14] 188 3 57) := snd_ci rfl infX17_init (by decide) (xcls_ok _ (by decide)) (xIm_I dX2_sum_54 rfl q1049 q1050 q161 q1051 pdX17_init)
theorem oX2_sum_57 : SX2_sum 57 (i_astore 1 58) := snd_astore_n dX2_sum_57 rfl (by decide)
theorem oX2_sum_58 : SX2_sum 58 (i_goto 5) := snd_goto dX2_sum_58 (by decide)
theorem oX2_sum_61 : SX2_sum 61 (i_aload 1 62) := snd_aload_n dX2_sum_61 rfl
theorem oX2_sum_62 : SX2_sum 62 (i_aret) := snd_aret dX2_sum_62 rfl (Or.inl ⟨_, rfl⟩)
theorem okX2_sum : ∀ q ∈ cX2_sum, SX2_sum q.1 q.2 := List.forall_mem_cons.mpr ⟨oX2_sum_0, List.forall_mem_cons.mpr ⟨oX2_sum_1, List.forall_mem_cons.mpr ⟨oX2_sum_4, List.forall_mem_cons.mpr ⟨oX2_sum_5, List.forall_mem_cons.mpr ⟨oX2_sum_6, List.forall_mem_cons.mpr ⟨oX2_sum_8, List.forall_mem_cons.mpr ⟨oX2_sum_11, List.forall_mem_cons.mpr ⟨oX2_sum_14, List.forall_mem_cons.mpr ⟨oX2_sum_15, List.forall_mem_cons.mpr ⟨oX2_sum_17, List.forall_mem_cons.mpr ⟨oX2_sum_20, List.forall_mem_cons.mpr ⟨oX2_sum_23, List.forall_mem_cons.mpr ⟨oX2_sum_24, List.forall_mem_cons.mpr ⟨oX2_sum_26, List.forall_mem_cons.mpr ⟨oX2_sum_29, List.forall_mem_cons.mpr ⟨oX2_sum_32, List.forall_mem_cons.mpr ⟨oX2_sum_34, List.forall_mem_cons.mpr ⟨oX2_sum_37, List.forall_mem_cons.mpr ⟨oX2_sum_39, List.forall_mem_cons.mpr ⟨oX2_sum_40, List.forall_mem_cons.mpr ⟨oX2_sum_41, List.forall_mem_cons.mpr ⟨oX2_sum_44, List.forall_mem_cons.mpr ⟨oX2_sum_47, List.forall_mem_cons.mpr ⟨oX2_sum_48, List.forall_mem_cons.mpr ⟨oX2_sum_49, List.forall_mem_cons.mpr ⟨oX2_sum_50, List.forall_mem_cons.mpr ⟨oX2_sum_51, List.forall_mem_cons.mpr ⟨oX2_sum_54, List.forall_mem_cons.mpr ⟨oX2_sum_57, List.forall_mem_cons.mpr ⟨oX2_sum_58, List.forall_mem_cons.mpr ⟨oX2_sum_61, List.forall_mem_cons.mpr ⟨oX2_sum_62, fun _ h => absurd h List.not_mem_nil⟩⟩⟩⟩⟩⟩⟩⟩⟩⟩⟩⟩⟩⟩⟩⟩⟩⟩⟩⟩⟩⟩⟩⟩⟩⟩⟩⟩⟩⟩⟩⟩
def dkwX2_product_1 : List UInt8 := [43, 42, 182, 1, 6, 183, 0, 253, 76, 167, 255, 228, 43, 176]
abbrev dktX2_product_1 : List UInt8 := dkwX2_product_1 ++ []
def dkwX2_product_0 : List UInt8 := [42, 182, 1, 6, 76, 42, 16, 42, 182, 0, 79, 153, 0, 25, 42, 182, 0, 25, 187, 0, 251, 89, 16, 42]
abbrev dktX2_product_0 : List UInt8 := dkwX2_product_0 ++ dktX2_product_1
theorem dksX2_product_0 : bcX2_product.data.toList.drop 0 = dktX2_product_0 := by decide +kernel
theorem dksX2_product_1 : bcX2_product.data.toList.drop 24 = dktX2_product_1 := dk_seg dksX2_product_0 24 rfl rfl
theorem dX2_product_0 : decode bcX2_product 0 = .ok (.aload_n 0, 1) := dk_42 (dk_at dksX2_product_0 0 rfl rfl)
theorem dX2_product_1 : decode bcX2_product 1 = .ok (.invokevirtual 262, 3) := dk_182 1 6 (dk_at dksX2_product_0 1 rfl rfl)
theorem dX2_product_4 : decode bcX2_product 4 = .ok (.astore_n 1, 1) := dk_76 (dk_at dksX2_product_0 4 rfl rfl)
theorem dX2_product_5 : decode bcX2_product 5 = .ok (.aload_n 0, 1) := dk_42 (dk_at dksX2_product_0 5 rfl rfl)
theorem dX2_product_6 : decode bcX2_product 6 = .ok (.bipush 42, 2) := dk_16 42 (dk_at dksX2_product_0 6 rfl rfl)
theorem dX2_product_8 : decode bcX2_product 8 = .ok (.invokevirtual 79, 3) := dk_182 0 79 (dk_at dksX2_product_0 8 rfl rfl)
theorem dX2_product_11 : decode bcX2_product 11 = .ok (.ifCond .eq 25, 3) := dk_153 0 25 (dk_at dksX2_product_0 11 rfl rfl)
theorem dX2_product_14 : decode bcX2_product 14 = .ok (.aload_n 0, 1) := dk_42 (dk_at dksX2_product_0 14 rfl rfl)
theorem dX2_product_15 : decode bcX2_product 15 = .ok (.invokevirtual 25, 3) := dk_182 0 25 (dk_at dksX2_product_0 15 rfl rfl)
theorem dX2_product_18 : decode bcX2_product 18 = .ok (.new 251, 3) := dk_187 0 251 (dk_at dksX2_product_0 18 rfl rfl)
theorem dX2_product_21 : decode bcX2_product 21 = .ok (.dup, 1) := dk_89 (dk_at dksX2_product_0 21 rfl rfl)
theorem dX2_product_22 : decode bcX2_product 22 = .ok (.bipush 42, 2) := dk_16 42 (dk_at dksX2_product_0 22 rfl rfl)
theorem dX2_product_24 : decode bcX2_product 24 = .ok (.aload_n 1, 1) := dk_43 (dk_at dksX2_product_1 0 rfl rfl)
theorem dX2_product_25 : decode bcX2_product 25 = .ok (.aload_n 0, 1) := dk_42 (dk_at dksX2_product_1 1 rfl rfl)
theorem dX2_product_26 : decode bcX2_product 26 = .ok (.invokevirtual 262, 3) := dk_182 1 6 (dk_at dksX2_product_1 2 rfl rfl)
theorem dX2_product_29 : decode bcX2_product 29 = .ok (.invokespecial 253, 3) := dk_183 0 253 (dk_at dksX2_product_1 5 rfl rfl)
theorem dX2_product_32 : decode bcX2_product 32 = .ok (.astore_n 1, 1) := dk_76 (dk_at dksX2_product_1 8 rfl rfl)
theorem dX2_product_33 : decode bcX2_product 33 = .ok (.goto (-28), 3) := dk_167 255 228 (dk_at dksX2_product_1 9 rfl rfl)
theorem dX2_product_36 : decode bcX2_product 36 = .ok (.aload_n 1, 1) := dk_43 (dk_at dksX2_product_1 12 rfl rfl)
theorem dX2_product_37 : decode bcX2_product 37 = .ok (.areturn, 1) := dk_176 (dk_at dksX2_product_1 13 rfl rfl)
abbrev SX2_product (pc : Nat) (i : xI) : Prop := Snd "SwollenHouse$Reader" "product" prog_17_method_29_code 2 (Option.some (Jvm.ClassFile.FieldType.object "SwollenHouse$Expression")) [] pc i
theorem oX2_product_0 : SX2_product 0 (i_aload 0 1) := snd_aload_n dX2_product_0 rfl
theorem oX2_product_1 : SX2_product 1 (i_cv 1 219 0 4) := snd_cv rfl infX2_part (by decide) rfl (xVm_V dX2_product_1 rfl q1004 q1006 qs26 q128 q1007 pdX2_part)
theorem oX2_product_4 : SX2_product 4 (i_astore 1 5) := snd_astore_n dX2_product_4 rfl (by decide)
theorem oX2_product_5 : SX2_product 5 (i_aload 0 6) := snd_aload_n dX2_product_5 rfl
theorem oX2_product_6 : SX2_product 6 (i_const (.int (nI 42)) 8) := snd_bipush dX2_product_6 (by decide)
theorem oX2_product_8 : SX2_product 8 (i_cv 1 214 1 11) := snd_cv rfl infX2_isSign (by decide) rfl (xVm_V dX2_product_8 rfl q984 q986 qs21 q128 q987 pdX2_isSign)
theorem oX2_product_11 : SX2_product 11 (i_if1 (fun x => x = 0) 36 14) := snd_if_eq dX2_product_11 (by decide)
theorem oX2_product_14 : SX2_product 14 (i_aload 0 15) := snd_aload_n dX2_product_14 rfl
theorem oX2_product_15 : SX2_product 15 (i_cvv 1 195 0 18) := snd_cvv rfl infX2_next (by decide) rfl (xVm_V dX2_product_15 rfl q431 q433 qs1 q128 q434 pdX2_next)
theorem oX2_product_18 : SX2_product 18 (i_new 14 3 zX17 21) := snd_new dX2_product_18 rfl in_X17 tyX17 tyX17_ok (by decide) q1047 q1048 q161
theorem oX2_product_21 : SX2_product 21 (i_dup 22) := snd_dup dX2_product_21
theorem oX2_product_22 : SX2_product 22 (i_const (.int (nI 42)) 24) := snd_bipush dX2_product_22 (by decide)
theorem oX2_product_24 : SX2_product 24 (i_aload 1 25) := snd_aload_n dX2_product_24 rfl
theorem oX2_product_25 : SX2_product 25 (i_aload 0 26) := snd_aload_n dX2_product_25 rfl
theorem oX2_product_26 : SX2_product 26 (i_cv 1 219 0 29) := snd_cv rfl infX2_part (by decide) rfl (xVm_V dX2_product_26 rfl q1004 q1006 qs26 q128 q1007 pdX2_part)
theorem oX2_product_29 : SX2_product 29 (i_ci [14] 188 3 32) := snd_ci rfl infX17_init (by decide) (xcls_ok _ (by decide)) (xIm_I dX2_product_29 rfl q1049 q1050 q161 q1051 pdX17_init)
theorem oX2_product_32 : SX2_product 32 (i_astore 1 33) := snd_astore_n dX2_product_32 rfl (by decide)
theorem oX2_product_33 : SX2_product 33 (i_goto 5) := snd_goto dX2_product_33 (by decide)
theorem oX2_product_36 : SX2_product 36 (i_aload 1 37) := snd_aload_n dX2_product_36 rfl
theorem oX2_product_37 : SX2_product 37 (i_aret) := snd_aret dX2_product_37 rfl (Or.inl ⟨_, rfl⟩)
theorem okX2_product : ∀ q ∈ cX2_product, SX2_product q.1 q.2 := List.forall_mem_cons.mpr ⟨oX2_product_0, List.forall_mem_cons.mpr ⟨oX2_product_1, List.forall_mem_cons.mpr ⟨oX2_product_4, List.forall_mem_cons.mpr ⟨oX2_product_5, List.forall_mem_cons.mpr ⟨oX2_product_6, List.forall_mem_cons.mpr ⟨oX2_product_8, List.forall_mem_cons.mpr ⟨oX2_product_11, List.forall_mem_cons.mpr ⟨oX2_product_14, List.forall_mem_cons.mpr ⟨oX2_product_15, List.forall_mem_cons.mpr ⟨oX2_product_18, List.forall_mem_cons.mpr ⟨oX2_product_21, List.forall_mem_cons.mpr ⟨oX2_product_22, List.forall_mem_cons.mpr ⟨oX2_product_24, List.forall_mem_cons.mpr ⟨oX2_product_25, List.forall_mem_cons.mpr ⟨oX2_product_26, List.forall_mem_cons.mpr ⟨oX2_product_29, List.forall_mem_cons.mpr ⟨oX2_product_32, List.forall_mem_cons.mpr ⟨oX2_product_33, List.forall_mem_cons.mpr ⟨oX2_product_36, List.forall_mem_cons.mpr ⟨oX2_product_37, fun _ h => absurd h List.not_mem_nil⟩⟩⟩⟩⟩⟩⟩⟩⟩⟩⟩⟩⟩⟩⟩⟩⟩⟩⟩⟩
def dkwX2_part_7 : List UInt8 := [181, 0, 22, 25, 4, 176]
abbrev dktX2_part_7 : List UInt8 := dkwX2_part_7 ++ []
def dkwX2_part_6 : List UInt8 := [182, 0, 184, 58, 4, 29, 153, 0, 9, 42, 16, 41, 182, 0, 156, 42, 89, 180, 0, 22, 4, 100]
abbrev dktX2_part_6 : List UInt8 := dkwX2_part_6 ++ dktX2_part_7
def dkwX2_part_5 : List UInt8 := [181, 0, 22, 28, 153, 0, 17, 187, 1, 19, 89, 42, 182, 1, 6, 183, 1, 21, 167, 0, 7, 42]
abbrev dktX2_part_5 : List UInt8 := dkwX2_part_5 ++ dktX2_part_6
def dkwX2_part_4 : List UInt8 := [182, 0, 25, 27, 155, 0, 12, 187, 1, 16, 89, 27, 183, 1, 18, 176, 42, 89, 180, 0, 22, 4, 96]
abbrev dktX2_part_4 : List UInt8 := dkwX2_part_4 ++ dktX2_part_5
def dkwX2_part_3 : List UInt8 := [180, 0, 31, 5, 160, 0, 19, 187, 1, 13, 89, 42, 3, 17, 39, 15, 182, 0, 122, 183, 1, 15, 176, 42]
abbrev dktX2_part_3 : List UInt8 := dkwX2_part_3 ++ dktX2_part_4
def dkwX2_part_2 : List UInt8 := [159, 0, 9, 42, 4, 182, 0, 75, 191, 42, 180, 0, 22, 8, 160, 0, 9, 42, 8, 182, 0, 75, 191, 42]
abbrev dktX2_part_2 : List UInt8 := dkwX2_part_2 ++ dktX2_part_3
def dkwX2_part_1 : List UInt8 := [42, 16, 40, 182, 0, 79, 62, 27, 156, 0, 25, 28, 154, 0, 21, 29, 154, 0, 17, 42, 180, 0, 31, 5]
abbrev dktX2_part_1 : List UInt8 := dkwX2_part_1 ++ dktX2_part_2
def dkwX2_part_0 : List UInt8 := [42, 19, 1, 9, 182, 0, 71, 60, 42, 19, 1, 11, 182, 0, 71, 155, 0, 7, 4, 167, 0, 4, 3, 61]
abbrev dktX2_part_0 : List UInt8 := dkwX2_part_0 ++ dktX2_part_1
theorem dksX2_part_0 : bcX2_part.data.toList.drop 0 = dktX2_part_0 := by decide +kernel
theorem dksX2_part_1 : bcX2_part.data.toList.drop 24 = dktX2_part_1 := dk_seg dksX2_part_0 24 rfl rfl
theorem dksX2_part_2 : bcX2_part.data.toList.drop 48 = dktX2_part_2 := dk_seg dksX2_part_1 24 rfl rfl
theorem dksX2_part_3 : bcX2_part.data.toList.drop 72 = dktX2_part_3 := dk_seg dksX2_part_2 24 rfl rfl
theorem dksX2_part_4 : bcX2_part.data.toList.drop 96 = dktX2_part_4 := dk_seg dksX2_part_3 24 rfl rfl
theorem dksX2_part_5 : bcX2_part.data.toList.drop 119 = dktX2_part_5 := dk_seg dksX2_part_4 23 rfl rfl
theorem dksX2_part_6 : bcX2_part.data.toList.drop 141 = dktX2_part_6 := dk_seg dksX2_part_5 22 rfl rfl
theorem dksX2_part_7 : bcX2_part.data.toList.drop 163 = dktX2_part_7 := dk_seg dksX2_part_6 22 rfl rfl
theorem dX2_part_0 : decode bcX2_part 0 = .ok (.aload_n 0, 1) := dk_42 (dk_at dksX2_part_0 0 rfl rfl)
theorem dX2_part_1 : decode bcX2_part 1 = .ok (.ldc_w 265, 3) := dk_19 1 9 (dk_at dksX2_part_0 1 rfl rfl)
theorem dX2_part_4 : decode bcX2_part 4 = .ok (.invokevirtual 71, 3) := dk_182 0 71 (dk_at dksX2_part_0 4 rfl rfl)
theorem dX2_part_7 : decode bcX2_part 7 = .ok (.istore_n 1, 1) := dk_60 (dk_at dksX2_part_0 7 rfl rfl)
theorem dX2_part_8 : decode bcX2_part 8 = .ok (.aload_n 0, 1) := dk_42 (dk_at dksX2_part_0 8 rfl rfl)
theorem dX2_part_9 : decode bcX2_part 9 = .ok (.ldc_w 267, 3) := dk_19 1 11 (dk_at dksX2_part_0 9 rfl rfl)
theorem dX2_part_12 : decode bcX2_part 12 = .ok (.invokevirtual 71, 3) := dk_182 0 71 (dk_at dksX2_part_0 12 rfl rfl)
theorem dX2_part_15 : decode bcX2_part 15 = .ok (.ifCond .lt 7, 3) := dk_155 0 7 (dk_at dksX2_part_0 15 rfl rfl)
theorem dX2_part_18 : decode bcX2_part 18 = .ok (.iconst 1, 1) := dk_4 (dk_at dksX2_part_0 18 rfl rfl)
theorem dX2_part_19 : decode bcX2_part 19 = .ok (.goto 4, 3) := dk_167 0 4 (dk_at dksX2_part_0 19 rfl rfl)
theorem dX2_part_22 : decode bcX2_part 22 = .ok (.iconst 0, 1) := dk_3 (dk_at dksX2_part_0 22 rfl rfl)
theorem dX2_part_23 : decode bcX2_part 23 = .ok (.istore_n 2, 1) := dk_61 (dk_at dksX2_part_0 23 rfl rfl)
theorem dX2_part_24 : decode bcX2_part 24 = .ok (.aload_n 0, 1) := dk_42 (dk_at dksX2_part_1 0 rfl rfl)
theorem dX2_part_25 : decode bcX2_part 25 = .ok (.bipush 40, 2) := dk_16 40 (dk_at dksX2_part_1 1 rfl rfl)
theorem dX2_part_27 : decode bcX2_part 27 = .ok (.invokevirtual 79, 3) := dk_182 0 79 (dk_at dksX2_part_1 3 rfl rfl)
theorem dX2_part_30 : decode bcX2_part 30 = .ok (.istore_n 3, 1) := dk_62 (dk_at dksX2_part_1 6 rfl rfl)
theorem dX2_part_31 : decode bcX2_part 31 = .ok (.iload_n 1, 1) := dk_27 (dk_at dksX2_part_1 7 rfl rfl)
theorem dX2_part_32 : decode bcX2_part 32 = .ok (.ifCond .ge 25, 3) := dk_156 0 25 (dk_at dksX2_part_1 8 rfl rfl)
theorem dX2_part_35 : decode bcX2_part 35 = .ok (.iload_n 2, 1) := dk_28 (dk_at dksX2_part_1 11 rfl rfl)
theorem dX2_part_36 : decode bcX2_part 36 = .ok (.ifCond .ne 21, 3) := dk_154 0 21 (dk_at dksX2_part_1 12 rfl rfl)
theorem dX2_part_39 : decode bcX2_part 39 = .ok (.iload_n 3, 1) := dk_29 (dk_at dksX2_part_1 15 rfl rfl)
theorem dX2_part_40 : decode bcX2_part 40 = .ok (.ifCond .ne 17, 3) := dk_154 0 17 (dk_at dksX2_part_1 16 rfl rfl)
theorem dX2_part_43 : decode bcX2_part 43 = .ok (.aload_n 0, 1) := dk_42 (dk_at dksX2_part_1 19 rfl rfl)
theorem dX2_part_44 : decode bcX2_part 44 = .ok (.getfield 31, 3) := dk_180 0 31 (dk_at dksX2_part_1 20 rfl rfl)
theorem dX2_part_47 : decode bcX2_part 47 = .ok (.iconst 2, 1) := dk_5 (dk_at dksX2_part_1 23 rfl rfl)
theorem dX2_part_48 : decode bcX2_part 48 = .ok (.if_icmp .eq 9, 3) := dk_159 0 9 (dk_at dksX2_part_2 0 rfl rfl)
theorem dX2_part_51 : decode bcX2_part 51 = .ok (.aload_n 0, 1) := dk_42 (dk_at dksX2_part_2 3 rfl rfl)
theorem dX2_part_52 : decode bcX2_part 52 = .ok (.iconst 1, 1) := dk_4 (dk_at dksX2_part_2 4 rfl rfl)
theorem dX2_part_53 : decode bcX2_part 53 = .ok (.invokevirtual 75, 3) := dk_182 0 75 (dk_at dksX2_part_2 5 rfl rfl)
theorem dX2_part_56 : decode bcX2_part 56 = .ok (.athrow, 1) := dk_191 (dk_at dksX2_part_2 8 rfl rfl)
theorem dX2_part_57 : decode bcX2_part 57 = .ok (.aload_n 0, 1) := dk_42 (dk_at dksX2_part_2 9 rfl rfl)
theorem dX2_part_58 : decode bcX2_part 58 = .ok (.getfield 22, 3) := dk_180 0 22 (dk_at dksX2_part_2 10 rfl rfl)
theorem dX2_part_61 : decode bcX2_part 61 = .ok (.iconst 5, 1) := dk_8 (dk_at dksX2_part_2 13 rfl rfl)
theorem dX2_part_62 : decode bcX2_part 62 = .ok (.if_icmp .ne 9, 3) := dk_160 0 9 (dk_at dksX2_part_2 14 rfl rfl)
theorem dX2_part_65 : decode bcX2_part 65 = .ok (.aload_n 0, 1) := dk_42 (dk_at dksX2_part_2 17 rfl rfl)
theorem dX2_part_66 : decode bcX2_part 66 = .ok (.iconst 5, 1) := dk_8 (dk_at dksX2_part_2 18 rfl rfl)
theorem dX2_part_67 : decode bcX2_part 67 = .ok (.invokevirtual 75, 3) := dk_182 0 75 (dk_at dksX2_part_2 19 rfl rfl)
theorem dX2_part_70 : decode bcX2_part 70 = .ok (.athrow, 1) := dk_191 (dk_at dksX2_part_2 22 rfl rfl)
theorem dX2_part_71 : decode bcX2_part 71 = .ok (.aload_n 0, 1) := dk_42 (dk_at dksX2_part_2 23 rfl rfl)
theorem dX2_part_72 : decode bcX2_part 72 = .ok (.getfield 31, 3) := dk_180 0 31 (dk_at dksX2_part_3 0 rfl rfl)
theorem dX2_part_75 : decode bcX2_part 75 = .ok (.iconst 2, 1) := dk_5 (dk_at dksX2_part_3 3 rfl rfl)
theorem dX2_part_76 : decode bcX2_part 76 = .ok (.if_icmp .ne 19, 3) := dk_160 0 19 (dk_at dksX2_part_3 4 rfl rfl)
theorem dX2_part_79 : decode bcX2_part 79 = .ok (.new 269, 3) := dk_187 1 13 (dk_at dksX2_part_3 7 rfl rfl)
theorem dX2_part_82 : decode bcX2_part 82 = .ok (.dup, 1) := dk_89 (dk_at dksX2_part_3 10 rfl rfl)
theorem dX2_part_83 : decode bcX2_part 83 = .ok (.aload_n 0, 1) := dk_42 (dk_at dksX2_part_3 11 rfl rfl)
theorem dX2_part_84 : decode bcX2_part 84 = .ok (.iconst 0, 1) := dk_3 (dk_at dksX2_part_3 12 rfl rfl)
theorem dX2_part_85 : decode bcX2_part 85 = .ok (.sipush 9999, 3) := dk_17 39 15 (dk_at dksX2_part_3 13 rfl rfl)
theorem dX2_part_88 : decode bcX2_part 88 = .ok (.invokevirtual 122, 3) := dk_182 0 122 (dk_at dksX2_part_3 16 rfl rfl)
theorem dX2_part_91 : decode bcX2_part 91 = .ok (.invokespecial 271, 3) := dk_183 1 15 (dk_at dksX2_part_3 19 rfl rfl)
theorem dX2_part_94 : decode bcX2_part 94 = .ok (.areturn, 1) := dk_176 (dk_at dksX2_part_3 22 rfl rfl)
theorem dX2_part_95 : decode bcX2_part 95 = .ok (.aload_n 0, 1) := dk_42 (dk_at dksX2_part_3 23 rfl rfl)
theorem dX2_part_96 : decode bcX2_part 96 = .ok (.invokevirtual 25, 3) := dk_182 0 25 (dk_at dksX2_part_4 0 rfl rfl)
theorem dX2_part_99 : decode bcX2_part 99 = .ok (.iload_n 1, 1) := dk_27 (dk_at dksX2_part_4 3 rfl rfl)
theorem dX2_part_100 : decode bcX2_part 100 = .ok (.ifCond .lt 12, 3) := dk_155 0 12 (dk_at dksX2_part_4 4 rfl rfl)
theorem dX2_part_103 : decode bcX2_part 103 = .ok (.new 272, 3) := dk_187 1 16 (dk_at dksX2_part_4 7 rfl rfl)
theorem dX2_part_106 : decode bcX2_part 106 = .ok (.dup, 1) := dk_89 (dk_at dksX2_part_4 10 rfl rfl)
theorem dX2_part_107 : decode bcX2_part 107 = .ok (.iload_n 1, 1) := dk_27 (dk_at dksX2_part_4 11 rfl rfl)
theorem dX2_part_108 : decode bcX2_part 108 = .ok (.invokespecial 274, 3) := dk_183 1 18 (dk_at dksX2_part_4 12 rfl rfl)
theorem dX2_part_111 : decode bcX2_part 111 = .ok (.areturn, 1) := dk_176 (dk_at dksX2_part_4 15 rfl rfl)
theorem dX2_part_112 : decode bcX2_part 112 = .ok (.aload_n 0, 1) := dk_42 (dk_at dksX2_part_4 16 rfl rfl)
theorem dX2_part_113 : decode bcX2_part 113 = .ok (.dup, 1) := dk_89 (dk_at dksX2_part_4 17 rfl rfl)
theorem dX2_part_114 : decode bcX2_part 114 = .ok (.getfield 22, 3) := dk_180 0 22 (dk_at dksX2_part_4 18 rfl rfl)
theorem dX2_part_117 : decode bcX2_part 117 = .ok (.iconst 1, 1) := dk_4 (dk_at dksX2_part_4 21 rfl rfl)
theorem dX2_part_118 : decode bcX2_part 118 = .ok (.iadd, 1) := dk_96 (dk_at dksX2_part_4 22 rfl rfl)
theorem dX2_part_119 : decode bcX2_part 119 = .ok (.putfield 22, 3) := dk_181 0 22 (dk_at dksX2_part_5 0 rfl rfl)
theorem dX2_part_122 : decode bcX2_part 122 = .ok (.iload_n 2, 1) := dk_28 (dk_at dksX2_part_5 3 rfl rfl)
theorem dX2_part_123 : decode bcX2_part 123 = .ok (.ifCond .eq 17, 3) := dk_153 0 17 (dk_at dksX2_part_5 4 rfl rfl)
theorem dX2_part_126 : decode bcX2_part 126 = .ok (.new 275, 3) := dk_187 1 19 (dk_at dksX2_part_5 7 rfl rfl)
theorem dX2_part_129 : decode bcX2_part 129 = .ok (.dup, 1) := dk_89 (dk_at dksX2_part_5 10 rfl rfl)
theorem dX2_part_130 : decode bcX2_part 130 = .ok (.aload_n 0, 1) := dk_42 (dk_at dksX2_part_5 11 rfl rfl)
theorem dX2_part_131 : decode bcX2_part 131 = .ok (.invokevirtual 262, 3) := dk_182 1 6 (dk_at dksX2_part_5 12 rfl rfl)
theorem dX2_part_134 : decode bcX2_part 134 = .ok (.invokespecial 277, 3) := dk_183 1 21 (dk_at dksX2_part_5 15 rfl rfl)
theorem dX2_part_137 : decode bcX2_part 137 = .ok (.goto 7, 3) := dk_167 0 7 (dk_at dksX2_part_5 18 rfl rfl)
theorem dX2_part_140 : decode bcX2_part 140 = .ok (.aload_n 0, 1) := dk_42 (dk_at dksX2_part_5 21 rfl rfl)
theorem dX2_part_141 : decode bcX2_part 141 = .ok (.invokevirtual 184, 3) := dk_182 0 184 (dk_at dksX2_part_6 0 rfl rfl)
theorem dX2_part_144 : decode bcX2_part 144 = .ok (.astore 4, 2) := dk_58 4 (dk_at dksX2_part_6 3 rfl rfl)
theorem dX2_part_146 : decode bcX2_part 146 = .ok (.iload_n 3, 1) := dk_29 (dk_at dksX2_part_6 5 rfl rfl)
theorem dX2_part_147 : decode bcX2_part 147 = .ok (.ifCond .eq 9, 3) := dk_153 0 9 (dk_at dksX2_part_6 6 rfl rfl)
theorem dX2_part_150 : decode bcX2_part 150 = .ok (.aload_n 0, 1) := dk_42 (dk_at dksX2_part_6 9 rfl rfl)
theorem dX2_part_151 : decode bcX2_part 151 = .ok (.bipush 41, 2) := dk_16 41 (dk_at dksX2_part_6 10 rfl rfl)
theorem dX2_part_153 : decode bcX2_part 153 = .ok (.invokevirtual 156, 3) := dk_182 0 156 (dk_at dksX2_part_6 12 rfl rfl)
theorem dX2_part_156 : decode bcX2_part 156 = .ok (.aload_n 0, 1) := dk_42 (dk_at dksX2_part_6 15 rfl rfl)
theorem dX2_part_157 : decode bcX2_part 157 = .ok (.dup, 1) := dk_89 (dk_at dksX2_part_6 16 rfl rfl)
theorem dX2_part_158 : decode bcX2_part 158 = .ok (.getfield 22, 3) := dk_180 0 22 (dk_at dksX2_part_6 17 rfl rfl)
theorem dX2_part_161 : decode bcX2_part 161 = .ok (.iconst 1, 1) := dk_4 (dk_at dksX2_part_6 20 rfl rfl)
theorem dX2_part_162 : decode bcX2_part 162 = .ok (.isub, 1) := dk_100 (dk_at dksX2_part_6 21 rfl rfl)
theorem dX2_part_163 : decode bcX2_part 163 = .ok (.putfield 22, 3) := dk_181 0 22 (dk_at dksX2_part_7 0 rfl rfl)
theorem dX2_part_166 : decode bcX2_part 166 = .ok (.aload 4, 2) := dk_25 4 (dk_at dksX2_part_7 3 rfl rfl)
theorem dX2_part_168 : decode bcX2_part 168 = .ok (.areturn, 1) := dk_176 (dk_at dksX2_part_7 5 rfl rfl)
abbrev SX2_part (pc : Nat) (i : xI) : Prop := Snd "SwollenHouse$Reader" "part" prog_17_method_30_code 5 (Option.some (Jvm.ClassFile.FieldType.object "SwollenHouse$Expression")) [] pc i
theorem oX2_part_0 : SX2_part 0 (i_aload 0 1) := snd_aload_n dX2_part_0 rfl
theorem oX2_part_1 : SX2_part 1 (i_const (.ref 14) 4) := snd_litw dX2_part_1 (by decide) (List.mem_of_getElem? (i := 6) rfl) rfl
theorem oX2_part_4 : SX2_part 4 (i_cv 1 200 1 7) := snd_cv rfl infX2_which (by decide) rfl (xVm_V dX2_part_4 rfl q539 q541 qs3 q128 q542 pdX2_which)
theorem oX2_part_7 : SX2_part 7 (i_istore 1 8) := snd_istore_n dX2_part_7 rfl (by decide)
theorem oX2_part_8 : SX2_part 8 (i_aload 0 9) := snd_aload_n dX2_part_8 rfl
theorem oX2_part_9 : SX2_part 9 (i_const (.ref 16) 12) := snd_litw dX2_part_9 (by decide) (List.mem_of_getElem? (i := 7) rfl) rfl
theorem oX2_part_12 : SX2_part 12 (i_cv 1 200 1 15) := snd_cv rfl infX2_which (by decide) rfl (xVm_V dX2_part_12 rfl q539 q541 qs3 q128 q542 pdX2_which)
theorem oX2_part_15 : SX2_part 15 (i_if1 (fun x => x < 0) 22 18) := snd_if_lt dX2_part_15 (by decide)
theorem oX2_part_18 : SX2_part 18 (i_const (.int (nI 1)) 19) := snd_iconst dX2_part_18 (by decide)
theorem oX2_part_19 : SX2_part 19 (i_goto 23) := snd_goto dX2_part_19 (by decide)
theorem oX2_part_22 : SX2_part 22 (i_const (.int (nI 0)) 23) := snd_iconst dX2_part_22 (by decide)
theorem oX2_part_23 : SX2_part 23 (i_istore 2 24) := snd_istore_n dX2_part_23 rfl (by decide)
theorem oX2_part_24 : SX2_part 24 (i_aload 0 25) := snd_aload_n dX2_part_24 rfl
theorem oX2_part_25 : SX2_part 25 (i_const (.int (nI 40)) 27) := snd_bipush dX2_part_25 (by decide)
theorem oX2_part_27 : SX2_part 27 (i_cv 1 214 1 30) := snd_cv rfl infX2_isSign (by decide) rfl (xVm_V dX2_part_27 rfl q984 q986 qs21 q128 q987 pdX2_isSign)
theorem oX2_part_30 : SX2_part 30 (i_istore 3 31) := snd_istore_n dX2_part_30 rfl (by decide)
theorem oX2_part_31 : SX2_part 31 (i_iload 1 32) := snd_iload_n dX2_part_31 rfl
theorem oX2_part_32 : SX2_part 32 (i_if1 (fun x => 0 ≤ x) 57 35) := snd_if_ge dX2_part_32 (by decide)
theorem oX2_part_35 : SX2_part 35 (i_iload 2 36) := snd_iload_n dX2_part_35 rfl
theorem oX2_part_36 : SX2_part 36 (i_if1 (fun x => ¬ x = 0) 57 39) := snd_if_ne dX2_part_36 (by decide)
theorem oX2_part_39 : SX2_part 39 (i_iload 3 40) := snd_iload_n dX2_part_39 rfl
theorem oX2_part_40 : SX2_part 40 (i_if1 (fun x => ¬ x = 0) 57 43) := snd_if_ne dX2_part_40 (by decide)
theorem oX2_part_43 : SX2_part 43 (i_aload 0 44) := snd_aload_n dX2_part_43 rfl
theorem oX2_part_44 : SX2_part 44 (i_getf 1 3 47) := snd_getf dX2_part_44 rfl (by decide) in_X2 (Or.inl q188) (Or.inl rfl) (by decide)
theorem oX2_part_47 : SX2_part 47 (i_const (.int (nI 2)) 48) := snd_iconst dX2_part_47 (by decide)
theorem oX2_part_48 : SX2_part 48 (i_if2 (fun x y => x = y) 57 51) := snd_icmp_eq dX2_part_48 (by decide)
theorem oX2_part_51 : SX2_part 51 (i_aload 0 52) := snd_aload_n dX2_part_51 rfl
theorem oX2_part_52 : SX2_part 52 (i_const (.int (nI 1)) 53) := snd_iconst dX2_part_52 (by decide)
theorem oX2_part_53 : SX2_part 53 (i_cv 1 201 1 56) := snd_cv rfl infX2_wrong (by decide) rfl (xVm_V dX2_part_53 rfl q563 q565 qs4 q128 q566 pdX2_wrong)
theorem oX2_part_56 : SX2_part 56 (i_throw [5]) := snd_throw dX2_part_56 rfl okth_5
theorem oX2_part_57 : SX2_part 57 (i_aload 0 58) := snd_aload_n dX2_part_57 rfl
theorem oX2_part_58 : SX2_part 58 (i_getf 1 6 61) := snd_getf dX2_part_58 rfl (by decide) in_X2 (Or.inl q191) (Or.inl rfl) (by decide)
theorem oX2_part_61 : SX2_part 61 (i_const (.int (nI 5)) 62) := snd_iconst dX2_part_61 (by decide)
theorem oX2_part_62 : SX2_part 62 (i_if2 (fun x y => ¬ x = y) 71 65) := snd_icmp_ne dX2_part_62 (by decide)
theorem oX2_part_65 : SX2_part 65 (i_aload 0 66) := snd_aload_n dX2_part_65 rfl
theorem oX2_part_66 : SX2_part 66 (i_const (.int (nI 5)) 67) := snd_iconst dX2_part_66 (by decide)
theorem oX2_part_67 : SX2_part 67 (i_cv 1 201 1 70) := snd_cv rfl infX2_wrong (by decide) rfl (xVm_V dX2_part_67 rfl q563 q565 qs4 q128 q566 pdX2_wrong)
theorem oX2_part_70 : SX2_part 70 (i_throw [5]) := snd_throw dX2_part_70 rfl okth_5
theorem oX2_part_71 : SX2_part 71 (i_aload 0 72) := snd_aload_n dX2_part_71 rfl
theorem oX2_part_72 : SX2_part 72 (i_getf 1 3 75) := snd_getf dX2_part_72 rfl (by decide) in_X2 (Or.inl q188) (Or.inl rfl) (by decide)
theorem oX2_part_75 : SX2_part 75 (i_const (.int (nI 2)) 76) := snd_iconst dX2_part_75 (by decide)
theorem oX2_part_76 : SX2_part 76 (i_if2 (fun x y => ¬ x = y) 95 79) := snd_icmp_ne dX2_part_76 (by decide)
theorem oX2_part_79 : SX2_part 79 (i_new 11 1 zX14 82) := snd_new dX2_part_79 rfl in_X14 tyX14 tyX14_ok (by decide) q1010 q1011 q158
theorem oX2_part_82 : SX2_part 82 (i_dup 83) := snd_dup dX2_part_82
theorem oX2_part_83 : SX2_part 83 (i_aload 0 84) := snd_aload_n dX2_part_83 rfl
theorem oX2_part_84 : SX2_part 84 (i_const (.int (nI 0)) 85) := snd_iconst dX2_part_84 (by decide)
theorem oX2_part_85 : SX2_part 85 (i_const (.int (nI 9999)) 88) := snd_sipush dX2_part_85 (by decide)
theorem oX2_part_88 : SX2_part 88 (i_cv 1 212 2 91) := snd_cv rfl infX2_number_2 (by decide) rfl (xVm_V dX2_part_88 rfl q972 q974 qs19 q128 q975 pdX2_number_2)
theorem oX2_part_91 : SX2_part 91 (i_ci [11] 182 1 94) := snd_ci rfl infX14_init (by decide) (xcls_ok _ (by decide)) (xIm_I dX2_part_91 rfl q1012 q1013 q158 q1014 pdX14_init)
theorem oX2_part_94 : SX2_part 94 (i_aret) := snd_aret dX2_part_94 rfl (Or.inl ⟨_, rfl⟩)
theorem oX2_part_95 : SX2_part 95 (i_aload 0 96) := snd_aload_n dX2_part_95 rfl
theorem oX2_part_96 : SX2_part 96 (i_cvv 1 195 0 99) := snd_cvv rfl infX2_next (by decide) rfl (xVm_V dX2_part_96 rfl q431 q433 qs1 q128 q434 pdX2_next)
theorem oX2_part_99 : SX2_part 99 (i_iload 1 100) := snd_iload_n dX2_part_99 rfl
theorem oX2_part_100 : SX2_part 100 (i_if1 (fun x => x < 0) 112 103) := snd_if_lt dX2_part_100 (by decide)
theorem oX2_part_103 : SX2_part 103 (i_new 12 1 zX15 106) := snd_new dX2_part_103 rfl in_X15 tyX15 tyX15_ok (by decide) q1023 q1024 q159
theorem oX2_part_106 : SX2_part 106 (i_dup 107) := snd_dup dX2_part_106
theorem oX2_part_107 : SX2_part 107 (i_iload 1 108) := snd_iload_n dX2_part_107 rfl
theorem oX2_part_108 : SX2_part 108 (i_ci [12] 184 1 111) := snd_ci rfl infX15_init (by decide) (xcls_ok _ (by decide)) (xIm_I dX2_part_108 rfl q1025 q1026 q159 q1027 pdX15_init)
theorem oX2_part_111 : SX2_part 111 (i_aret) := snd_aret dX2_part_111 rfl (Or.inl ⟨_, rfl⟩)
theorem oX2_part_112 : SX2_part 112 (i_aload 0 113) := snd_aload_n dX2_part_112 rfl
theorem oX2_part_113 : SX2_part 113 (i_dup 114) := snd_dup dX2_part_113
theorem oX2_part_114 : SX2_part 114 (i_getf 1 6 117) := snd_getf dX2_part_114 rfl (by decide) in_X2 (Or.inl q191) (Or.inl rfl) (by decide)
theorem oX2_part_117 : SX2_part 117 (i_const (.int (nI 1)) 118) := snd_iconst dX2_part_117 (by decide)
theorem oX2_part_118 : SX2_part 118 (i_ii (fun x y => x + y) 119) := snd_iadd dX2_part_118
theorem oX2_part_119 : SX2_part 119 (i_putfi 1 6 122) := snd_putfi dX2_part_119 rfl (by decide) in_X2 tyX2 tyX2_ok nmX2 (Or.inl ⟨rfl, q191⟩) (Or.inl rfl) rfl
theorem oX2_part_122 : SX2_part 122 (i_iload 2 123) := snd_iload_n dX2_part_122 rfl
theorem oX2_part_123 : SX2_part 123 (i_if1 (fun x => x = 0) 140 126) := snd_if_eq dX2_part_123 (by decide)
theorem oX2_part_126 : SX2_part 126 (i_new 13 1 zX16 129) := snd_new dX2_part_126 rfl in_X16 tyX16 tyX16_ok (by decide) q1033 q1034 q160
theorem oX2_part_129 : SX2_part 129 (i_dup 130) := snd_dup dX2_part_129
theorem oX2_part_130 : SX2_part 130 (i_aload 0 131) := snd_aload_n dX2_part_130 rfl
theorem oX2_part_131 : SX2_part 131 (i_cv 1 219 0 134) := snd_cv rfl infX2_part (by decide) rfl (xVm_V dX2_part_131 rfl q1004 q1006 qs26 q128 q1007 pdX2_part)
theorem oX2_part_134 : SX2_part 134 (i_ci [13] 186 1 137) := snd_ci rfl infX16_init (by decide) (xcls_ok _ (by decide)) (xIm_I dX2_part_134 rfl q1035 q1036 q160 q1037 pdX16_init)
theorem oX2_part_137 : SX2_part 137 (i_goto 144) := snd_goto dX2_part_137 (by decide)
theorem oX2_part_140 : SX2_part 140 (i_aload 0 141) := snd_aload_n dX2_part_140 rfl
theorem oX2_part_141 : SX2_part 141 (i_cv 1 215 0 144) := snd_cv rfl infX2_expression (by decide) rfl (xVm_V dX2_part_141 rfl q988 q990 qs22 q128 q991 pdX2_expression)
theorem oX2_part_144 : SX2_part 144 (i_astore 4 146) := snd_astore dX2_part_144 (by decide)
theorem oX2_part_146 : SX2_part 146 (i_iload 3 147) := snd_iload_n dX2_part_146 rfl
theorem oX2_part_147 : SX2_part 147 (i_if1 (fun x => x = 0) 156 150) := snd_if_eq dX2_part_147 (by decide)
theorem oX2_part_150 : SX2_part 150 (i_aload 0 151) := snd_aload_n dX2_part_150 rfl
theorem oX2_part_151 : SX2_part 151 (i_const (.int (nI 41)) 153) := snd_bipush dX2_part_151 (by decide)
theorem oX2_part_153 : SX2_part 153 (i_cvv 1 220 1 156) := snd_cvv rfl infX2_need_2 (by decide) rfl (xVm_V dX2_part_153 rfl q1043 q1045 qs27 q128 q1046 pdX2_need_2)
theorem oX2_part_156 : SX2_part 156 (i_aload 0 157) := snd_aload_n dX2_part_156 rfl
theorem oX2_part_157 : SX2_part 157 (i_dup 158) := snd_dup dX2_part_157
theorem oX2_part_158 : SX2_part 158 (i_getf 1 6 161) := snd_getf dX2_part_158 rfl (by decide) in_X2 (Or.inl q191) (Or.inl rfl) (by decide)
theorem oX2_part_161 : SX2_part 161 (i_const (.int (nI 1)) 162) := snd_iconst dX2_part_161 (by decide)
theorem oX2_part_162 : SX2_part 162 (i_ii (fun x y => x - y) 163) := snd_isub dX2_part_162
theorem oX2_part_163 : SX2_part 163 (i_putfi 1 6 166) := snd_putfi dX2_part_163 rfl (by decide) in_X2 tyX2 tyX2_ok nmX2 (Or.inl ⟨rfl, q191⟩) (Or.inl rfl) rfl
theorem oX2_part_166 : SX2_part 166 (i_aload 4 168) := snd_aload dX2_part_166
theorem oX2_part_168 : SX2_part 168 (i_aret) := snd_aret dX2_part_168 rfl (Or.inl ⟨_, rfl⟩)
theorem okX2_part : ∀ q ∈ cX2_part, SX2_part q.1 q.2 := List.forall_mem_cons.mpr ⟨oX2_part_0, List.forall_mem_cons.mpr ⟨oX2_part_1, List.forall_mem_cons.mpr ⟨oX2_part_4, List.forall_mem_cons.mpr ⟨oX2_part_7, List.forall_mem_cons.mpr ⟨oX2_part_8, List.forall_mem_cons.mpr ⟨oX2_part_9, List.forall_mem_cons.mpr ⟨oX2_part_12, List.forall_mem_cons.mpr ⟨oX2_part_15, List.forall_mem_cons.mpr ⟨oX2_part_18, List.forall_mem_cons.mpr ⟨oX2_part_19, List.forall_mem_cons.mpr ⟨oX2_part_22, List.forall_mem_cons.mpr ⟨oX2_part_23, List.forall_mem_cons.mpr ⟨oX2_part_24, List.forall_mem_cons.mpr ⟨oX2_part_25, List.forall_mem_cons.mpr ⟨oX2_part_27, List.forall_mem_cons.mpr ⟨oX2_part_30, List.forall_mem_cons.mpr ⟨oX2_part_31, List.forall_mem_cons.mpr ⟨oX2_part_32, List.forall_mem_cons.mpr ⟨oX2_part_35, List.forall_mem_cons.mpr ⟨oX2_part_36, List.forall_mem_cons.mpr ⟨oX2_part_39, List.forall_mem_cons.mpr ⟨oX2_part_40, List.forall_mem_cons.mpr ⟨oX2_part_43, List.forall_mem_cons.mpr ⟨oX2_part_44, List.forall_mem_cons.mpr ⟨oX2_part_47, List.forall_mem_cons.mpr ⟨oX2_part_48, List.forall_mem_cons.mpr ⟨oX2_part_51, List.forall_mem_cons.mpr ⟨oX2_part_52, List.forall_mem_cons.mpr ⟨oX2_part_53, List.forall_mem_cons.mpr ⟨oX2_part_56, List.forall_mem_cons.mpr ⟨oX2_part_57, List.forall_mem_cons.mpr ⟨oX2_part_58, List.forall_mem_cons.mpr ⟨oX2_part_61, List.forall_mem_cons.mpr ⟨oX2_part_62, List.forall_mem_cons.mpr ⟨oX2_part_65, List.forall_mem_cons.mpr ⟨oX2_part_66, List.forall_mem_cons.mpr ⟨oX2_part_67, List.forall_mem_cons.mpr ⟨oX2_part_70, List.forall_mem_cons.mpr ⟨oX2_part_71, List.forall_mem_cons.mpr ⟨oX2_part_72, List.forall_mem_cons.mpr ⟨oX2_part_75, List.forall_mem_cons.mpr ⟨oX2_part_76, List.forall_mem_cons.mpr ⟨oX2_part_79, List.forall_mem_cons.mpr ⟨oX2_part_82, List.forall_mem_cons.mpr ⟨oX2_part_83, List.forall_mem_cons.mpr ⟨oX2_part_84, List.forall_mem_cons.mpr ⟨oX2_part_85, List.forall_mem_cons.mpr ⟨oX2_part_88, List.forall_mem_cons.mpr ⟨oX2_part_91, List.forall_mem_cons.mpr ⟨oX2_part_94, List.forall_mem_cons.mpr ⟨oX2_part_95, List.forall_mem_cons.mpr ⟨oX2_part_96, List.forall_mem_cons.mpr ⟨oX2_part_99, List.forall_mem_cons.mpr ⟨oX2_part_100, List.forall_mem_cons.mpr ⟨oX2_part_103, List.forall_mem_cons.mpr ⟨oX2_part_106, List.forall_mem_cons.mpr ⟨oX2_part_107, List.forall_mem_cons.mpr ⟨oX2_part_108, List.forall_mem_cons.mpr ⟨oX2_part_111, List.forall_mem_cons.mpr ⟨oX2_part_112, List.forall_mem_cons.mpr ⟨oX2_part_113, List.forall_mem_cons.mpr ⟨oX2_part_114, List.forall_mem_cons.mpr ⟨oX2_part_117, List.forall_mem_cons.mpr ⟨oX2_part_118, List.forall_mem_cons.mpr ⟨oX2_part_119, List.forall_mem_cons.mpr ⟨oX2_part_122, List.forall_mem_cons.mpr ⟨oX2_part_123, List.forall_mem_cons.mpr ⟨oX2_part_126, List.forall_mem_cons.mpr ⟨oX2_part_129, List.forall_mem_cons.mpr ⟨oX2_part_130, List.forall_mem_cons.mpr ⟨oX2_part_131, List.forall_mem_cons.mpr ⟨oX2_part_134, List.forall_mem_cons.mpr ⟨oX2_part_137, List.forall_mem_cons.mpr ⟨oX2_part_140, List.forall_mem_cons.mpr ⟨oX2_part_141, List.forall_mem_cons.mpr ⟨oX2_part_144, List.forall_mem_cons.mpr ⟨oX2_part_146, List.forall_mem_cons.mpr ⟨oX2_part_147, List.forall_mem_cons.mpr ⟨oX2_part_150, List.forall_mem_cons.mpr ⟨oX2_part_151, List.forall_mem_cons.mpr ⟨oX2_part_153, List.forall_mem_cons.mpr ⟨oX2_part_156, List.forall_mem_cons.mpr ⟨oX2_part_157, List.forall_mem_cons.mpr ⟨oX2_part_158, List.forall_mem_cons.mpr ⟨oX2_part_161, List.forall_mem_cons.mpr ⟨oX2_part_162, List.forall_mem_cons.mpr ⟨oX2_part_163, List.forall_mem_cons.mpr ⟨oX2_part_166, List.forall_mem_cons.mpr ⟨oX2_part_168, fun _ h => absurd h List.not_mem_nil⟩⟩⟩⟩⟩⟩⟩⟩⟩⟩⟩⟩⟩⟩⟩⟩⟩⟩⟩⟩⟩⟩⟩⟩⟩⟩⟩⟩⟩⟩⟩⟩⟩⟩⟩⟩⟩⟩⟩⟩⟩⟩⟩⟩⟩⟩⟩⟩⟩⟩⟩⟩⟩⟩⟩⟩⟩⟩⟩⟩⟩⟩⟩⟩⟩⟩⟩⟩⟩⟩⟩⟩⟩⟩⟩⟩⟩⟩⟩⟩⟩⟩⟩⟩⟩⟩⟩⟩⟩
def dkwX2_need_2_0 : List UInt8 := [42, 27, 182, 0, 79, 154, 0, 9, 42, 4, 182, 0, 75, 191, 42, 182, 0, 25, 177]
abbrev dktX2_need_2_0 : List UInt8 := dkwX2_need_2_0 ++ []
theorem dksX2_need_2_0 : bcX2_need_2.data.toList.drop 0 = dktX2_need_2_0 := by decide +kernel
theorem dX2_need_2_0 : decode bcX2_need_2 0 = .ok (.aload_n 0, 1) := dk_42 (dk_at dksX2_need_2_0 0 rfl rfl)
theorem dX2_need_2_1 : decode bcX2_need_2 1 = .ok (.iload_n 1, 1) := dk_27 (dk_at dksX2_need_2_0 1 rfl rfl)
theorem dX2_need_2_2 : decode bcX2_need_2 2 = .ok (.invokevirtual 79, 3) := dk_182 0 79 (dk_at dksX2_need_2_0 2 rfl rfl)
theorem dX2_need_2_5 : decode bcX2_need_2 5 = .ok (.ifCond .ne 9, 3) := dk_154 0 9 (dk_at dksX2_need_2_0 5 rfl rfl)
theorem dX2_need_2_8 : decode bcX2_need_2 8 = .ok (.aload_n 0, 1) := dk_42 (dk_at dksX2_need_2_0 8 rfl rfl)
theorem dX2_need_2_9 : decode bcX2_need_2 9 = .ok (.iconst 1, 1) := dk_4 (dk_at dksX2_need_2_0 9 rfl rfl)
theorem dX2_need_2_10 : decode bcX2_need_2 10 = .ok (.invokevirtual 75, 3) := dk_182 0 75 (dk_at dksX2_need_2_0 10 rfl rfl)
theorem dX2_need_2_13 : decode bcX2_need_2 13 = .ok (.athrow, 1) := dk_191 (dk_at dksX2_need_2_0 13 rfl rfl)
theorem dX2_need_2_14 : decode bcX2_need_2 14 = .ok (.aload_n 0, 1) := dk_42 (dk_at dksX2_need_2_0 14 rfl rfl)
theorem dX2_need_2_15 : decode bcX2_need_2 15 = .ok (.invokevirtual 25, 3) := dk_182 0 25 (dk_at dksX2_need_2_0 15 rfl rfl)
theorem dX2_need_2_18 : decode bcX2_need_2 18 = .ok (.return_, 1) := dk_177 (dk_at dksX2_need_2_0 18 rfl rfl)
abbrev SX2_need_2 (pc : Nat) (i : xI) : Prop := Snd "SwollenHouse$Reader" "need" prog_17_method_11_code 2 (Option.none : Option Jvm.ClassFile.FieldType) [] pc i
theorem oX2_need_2_0 : SX2_need_2 0 (i_aload 0 1) := snd_aload_n dX2_need_2_0 rfl
theorem oX2_need_2_1 : SX2_need_2 1 (i_iload 1 2) := snd_iload_n dX2_need_2_1 rfl
theorem oX2_need_2_2 : SX2_need_2 2 (i_cv 1 214 1 5) := snd_cv rfl infX2_isSign (by decide) rfl (xVm_V dX2_need_2_2 rfl q984 q986 qs21 q128 q987 pdX2_isSign)
theorem oX2_need_2_5 : SX2_need_2 5 (i_if1 (fun x => ¬ x = 0) 14 8) := snd_if_ne dX2_need_2_5 (by decide)
theorem oX2_need_2_8 : SX2_need_2 8 (i_aload 0 9) := snd_aload_n dX2_need_2_8 rfl
theorem oX2_need_2_9 : SX2_need_2 9 (i_const (.int (nI 1)) 10) := snd_iconst dX2_need_2_9 (by decide)
theorem oX2_need_2_10 : SX2_need_2 10 (i_cv 1 201 1 13) := snd_cv rfl infX2_wrong (by decide) rfl (xVm_V dX2_need_2_10 rfl q563 q565 qs4 q128 q566 pdX2_wrong)
theorem oX2_need_2_13 : SX2_need_2 13 (i_throw [5]) := snd_throw dX2_need_2_13 rfl okth_5
theorem oX2_need_2_14 : SX2_need_2 14 (i_aload 0 15) := snd_aload_n dX2_need_2_14 rfl
theorem oX2_need_2_15 : SX2_need_2 15 (i_cvv 1 195 0 18) := snd_cvv rfl infX2_next (by decide) rfl (xVm_V dX2_need_2_15 rfl q431 q433 qs1 q128 q434 pdX2_next)
theorem oX2_need_2_18 : SX2_need_2 18 (i_vret) := snd_vret dX2_need_2_18 rfl
theorem okX2_need_2 : ∀ q ∈ cX2_need_2, SX2_need_2 q.1 q.2 := List.forall_mem_cons.mpr ⟨oX2_need_2_0, List.forall_mem_cons.mpr ⟨oX2_need_2_1, List.forall_mem_cons.mpr ⟨oX2_need_2_2, List.forall_mem_cons.mpr ⟨oX2_need_2_5, List.forall_mem_cons.mpr ⟨oX2_need_2_8, List.forall_mem_cons.mpr ⟨oX2_need_2_9, List.forall_mem_cons.mpr ⟨oX2_need_2_10, List.forall_mem_cons.mpr ⟨oX2_need_2_13, List.forall_mem_cons.mpr ⟨oX2_need_2_14, List.forall_mem_cons.mpr ⟨oX2_need_2_15, List.forall_mem_cons.mpr ⟨oX2_need_2_18, fun _ h => absurd h List.not_mem_nil⟩⟩⟩⟩⟩⟩⟩⟩⟩⟩⟩
def dkwX2_days_3 : List UInt8 := [182, 0, 156, 167, 255, 197, 44, 176]
abbrev dktX2_days_3 : List UInt8 := dkwX2_days_3 ++ []
def dkwX2_days_2 : List UInt8 := [8, 182, 0, 75, 191, 42, 182, 0, 25, 44, 42, 29, 182, 0, 227, 182, 0, 162, 87, 42, 16, 59]
abbrev dktX2_days_2 : List UInt8 := dkwX2_days_2 ++ dktX2_days_3
def dkwX2_days_1 : List UInt8 := [182, 0, 71, 62, 29, 156, 0, 9, 42, 4, 182, 0, 75, 191, 44, 182, 0, 133, 16, 40, 160, 0, 9, 42]
abbrev dktX2_days_1 : List UInt8 := dkwX2_days_1 ++ dktX2_days_2
def dkwX2_days_0 : List UInt8 := [42, 43, 181, 0, 101, 187, 0, 134, 89, 7, 183, 0, 224, 77, 42, 180, 0, 31, 153, 0, 58, 42, 18, 225]
abbrev dktX2_days_0 : List UInt8 := dkwX2_days_0 ++ dktX2_days_1
theorem dksX2_days_0 : bcX2_days.data.toList.drop 0 = dktX2_days_0 := by decide +kernel
theorem dksX2_days_1 : bcX2_days.data.toList.drop 24 = dktX2_days_1 := dk_seg dksX2_days_0 24 rfl rfl
theorem dksX2_days_2 : bcX2_days.data.toList.drop 48 = dktX2_days_2 := dk_seg dksX2_days_1 24 rfl rfl
theorem dksX2_days_3 : bcX2_days.data.toList.drop 70 = dktX2_days_3 := dk_seg dksX2_days_2 22 rfl rfl
theorem dX2_days_0 : decode bcX2_days 0 = .ok (.aload_n 0, 1) := dk_42 (dk_at dksX2_days_0 0 rfl rfl)
theorem dX2_days_1 : decode bcX2_days 1 = .ok (.aload_n 1, 1) := dk_43 (dk_at dksX2_days_0 1 rfl rfl)
theorem dX2_days_2 : decode bcX2_days 2 = .ok (.putfield 101, 3) := dk_181 0 101 (dk_at dksX2_days_0 2 rfl rfl)
theorem dX2_days_5 : decode bcX2_days 5 = .ok (.new 134, 3) := dk_187 0 134 (dk_at dksX2_days_0 5 rfl rfl)
theorem dX2_days_8 : decode bcX2_days 8 = .ok (.dup, 1) := dk_89 (dk_at dksX2_days_0 8 rfl rfl)
theorem dX2_days_9 : decode bcX2_days 9 = .ok (.iconst 4, 1) := dk_7 (dk_at dksX2_days_0 9 rfl rfl)
theorem dX2_days_10 : decode bcX2_days 10 = .ok (.invokespecial 224, 3) := dk_183 0 224 (dk_at dksX2_days_0 10 rfl rfl)
theorem dX2_days_13 : decode bcX2_days 13 = .ok (.astore_n 2, 1) := dk_77 (dk_at dksX2_days_0 13 rfl rfl)
theorem dX2_days_14 : decode bcX2_days 14 = .ok (.aload_n 0, 1) := dk_42 (dk_at dksX2_days_0 14 rfl rfl)
theorem dX2_days_15 : decode bcX2_days 15 = .ok (.getfield 31, 3) := dk_180 0 31 (dk_at dksX2_days_0 15 rfl rfl)
theorem dX2_days_18 : decode bcX2_days 18 = .ok (.ifCond .eq 58, 3) := dk_153 0 58 (dk_at dksX2_days_0 18 rfl rfl)
theorem dX2_days_21 : decode bcX2_days 21 = .ok (.aload_n 0, 1) := dk_42 (dk_at dksX2_days_0 21 rfl rfl)
theorem dX2_days_22 : decode bcX2_days 22 = .ok (.ldc 225, 2) := dk_18 225 (dk_at dksX2_days_0 22 rfl rfl)
theorem dX2_days_24 : decode bcX2_days 24 = .ok (.invokevirtual 71, 3) := dk_182 0 71 (dk_at dksX2_days_1 0 rfl rfl)
theorem dX2_days_27 : decode bcX2_days 27 = .ok (.istore_n 3, 1) := dk_62 (dk_at dksX2_days_1 3 rfl rfl)
theorem dX2_days_28 : decode bcX2_days 28 = .ok (.iload_n 3, 1) := dk_29 (dk_at dksX2_days_1 4 rfl rfl)
theorem dX2_days_29 : decode bcX2_days 29 = .ok (.ifCond .ge 9, 3) := dk_156 0 9 (dk_at dksX2_days_1 5 rfl rfl)
theorem dX2_days_32 : decode bcX2_days 32 = .ok (.aload_n 0, 1) := dk_42 (dk_at dksX2_days_1 8 rfl rfl)
theorem dX2_days_33 : decode bcX2_days 33 = .ok (.iconst 1, 1) := dk_4 (dk_at dksX2_days_1 9 rfl rfl)
theorem dX2_days_34 : decode bcX2_days 34 = .ok (.invokevirtual 75, 3) := dk_182 0 75 (dk_at dksX2_days_1 10 rfl rfl)
theorem dX2_days_37 : decode bcX2_days 37 = .ok (.athrow, 1) := dk_191 (dk_at dksX2_days_1 13 rfl rfl)
theorem dX2_days_38 : decode bcX2_days 38 = .ok (.aload_n 2, 1) := dk_44 (dk_at dksX2_days_1 14 rfl rfl)
theorem dX2_days_39 : decode bcX2_days 39 = .ok (.invokevirtual 133, 3) := dk_182 0 133 (dk_at dksX2_days_1 15 rfl rfl)
theorem dX2_days_42 : decode bcX2_days 42 = .ok (.bipush 40, 2) := dk_16 40 (dk_at dksX2_days_1 18 rfl rfl)
theorem dX2_days_44 : decode bcX2_days 44 = .ok (.if_icmp .ne 9, 3) := dk_160 0 9 (dk_at dksX2_days_1 20 rfl rfl)
theorem dX2_days_47 : decode bcX2_days 47 = .ok (.aload_n 0, 1) := dk_42 (dk_at dksX2_days_1 23 rfl rfl)
theorem dX2_days_48 : decode bcX2_days 48 = .ok (.iconst 5, 1) := dk_8 (dk_at dksX2_days_2 0 rfl rfl)
theorem dX2_days_49 : decode bcX2_days 49 = .ok (.invokevirtual 75, 3) := dk_182 0 75 (dk_at dksX2_days_2 1 rfl rfl)
theorem dX2_days_52 : decode bcX2_days 52 = .ok (.athrow, 1) := dk_191 (dk_at dksX2_days_2 4 rfl rfl)
theorem dX2_days_53 : decode bcX2_days 53 = .ok (.aload_n 0, 1) := dk_42 (dk_at dksX2_days_2 5 rfl rfl)
theorem dX2_days_54 : decode bcX2_days 54 = .ok (.invokevirtual 25, 3) := dk_182 0 25 (dk_at dksX2_days_2 6 rfl rfl)
theorem dX2_days_57 : decode bcX2_days 57 = .ok (.aload_n 2, 1) := dk_44 (dk_at dksX2_days_2 9 rfl rfl)
theorem dX2_days_58 : decode bcX2_days 58 = .ok (.aload_n 0, 1) := dk_42 (dk_at dksX2_days_2 10 rfl rfl)
theorem dX2_days_59 : decode bcX2_days 59 = .ok (.iload_n 3, 1) := dk_29 (dk_at dksX2_days_2 11 rfl rfl)
theorem dX2_days_60 : decode bcX2_days 60 = .ok (.invokevirtual 227, 3) := dk_182 0 227 (dk_at dksX2_days_2 12 rfl rfl)
theorem dX2_days_63 : decode bcX2_days 63 = .ok (.invokevirtual 162, 3) := dk_182 0 162 (dk_at dksX2_days_2 15 rfl rfl)
theorem dX2_days_66 : decode bcX2_days 66 = .ok (.pop, 1) := dk_87 (dk_at dksX2_days_2 18 rfl rfl)
theorem dX2_days_67 : decode bcX2_days 67 = .ok (.aload_n 0, 1) := dk_42 (dk_at dksX2_days_2 19 rfl rfl)
theorem dX2_days_68 : decode bcX2_days 68 = .ok (.bipush 59, 2) := dk_16 59 (dk_at dksX2_days_2 20 rfl rfl)
theorem dX2_days_70 : decode bcX2_days 70 = .ok (.invokevirtual 156, 3) := dk_182 0 156 (dk_at dksX2_days_3 0 rfl rfl)
theorem dX2_days_73 : decode bcX2_days 73 = .ok (.goto (-59), 3) := dk_167 255 197 (dk_at dksX2_days_3 3 rfl rfl)
theorem dX2_days_76 : decode bcX2_days 76 = .ok (.aload_n 2, 1) := dk_44 (dk_at dksX2_days_3 6 rfl rfl)
theorem dX2_days_77 : decode bcX2_days 77 = .ok (.areturn, 1) := dk_176 (dk_at dksX2_days_3 7 rfl rfl)
abbrev SX2_days (pc : Nat) (i : xI) : Prop := Snd "SwollenHouse$Reader" "days" prog_17_method_24_code 4 (Option.some (Jvm.ClassFile.FieldType.object "java/util/ArrayList")) [] pc i
theorem oX2_days_0 : SX2_days 0 (i_aload 0 1) := snd_aload_n dX2_days_0 rfl
theorem oX2_days_1 : SX2_days 1 (i_aload 1 2) := snd_aload_n dX2_days_1 rfl
theorem oX2_days_2 : SX2_days 2 (i_putfr 1 7 5) := snd_putfr dX2_days_2 rfl (by decide) in_X2 tyX2 tyX2_ok nmX2 (Or.inl ⟨rfl, q192⟩) (Or.inl rfl) (Or.inl ⟨_, rfl⟩)
theorem oX2_days_5 : SX2_days 5 (i_new 21 3 zJ2 8) := snd_new dX2_days_5 rfl in_J2 tyJ2 tyJ2_ok (by decide) q1072 q218 q132
theorem oX2_days_8 : SX2_days 8 (i_dup 9) := snd_dup dX2_days_8
theorem oX2_days_9 : SX2_days 9 (i_const (.int (nI 4)) 10) := snd_iconst dX2_days_9 (by decide)
theorem oX2_days_10 : SX2_days 10 (i_ci [21] 31 1 13) := snd_ci rfl infJ2_init (by decide) (xcls_ok _ (by decide)) (xIm_I dX2_days_10 rfl q1073 q220 q132 q221 pdJ2_init)
theorem oX2_days_13 : SX2_days 13 (i_astore 2 14) := snd_astore_n dX2_days_13 rfl (by decide)
theorem oX2_days_14 : SX2_days 14 (i_aload 0 15) := snd_aload_n dX2_days_14 rfl
theorem oX2_days_15 : SX2_days 15 (i_getf 1 3 18) := snd_getf dX2_days_15 rfl (by decide) in_X2 (Or.inl q188) (Or.inl rfl) (by decide)
theorem oX2_days_18 : SX2_days 18 (i_if1 (fun x => x = 0) 76 21) := snd_if_eq dX2_days_18 (by decide)
theorem oX2_days_21 : SX2_days 21 (i_aload 0 22) := snd_aload_n dX2_days_21 rfl
theorem oX2_days_22 : SX2_days 22 (i_const (.ref 20) 24) := snd_lit dX2_days_22 (by decide) (List.mem_of_getElem? (i := 9) rfl) rfl
theorem oX2_days_24 : SX2_days 24 (i_cv 1 200 1 27) := snd_cv rfl infX2_which (by decide) rfl (xVm_V dX2_days_24 rfl q539 q541 qs3 q128 q542 pdX2_which)
theorem oX2_days_27 : SX2_days 27 (i_istore 3 28) := snd_istore_n dX2_days_27 rfl (by decide)
theorem oX2_days_28 : SX2_days 28 (i_iload 3 29) := snd_iload_n dX2_days_28 rfl
theorem oX2_days_29 : SX2_days 29 (i_if1 (fun x => 0 ≤ x) 38 32) := snd_if_ge dX2_days_29 (by decide)
theorem oX2_days_32 : SX2_days 32 (i_aload 0 33) := snd_aload_n dX2_days_32 rfl
theorem oX2_days_33 : SX2_days 33 (i_const (.int (nI 1)) 34) := snd_iconst dX2_days_33 (by decide)
theorem oX2_days_34 : SX2_days 34 (i_cv 1 201 1 37) := snd_cv rfl infX2_wrong (by decide) rfl (xVm_V dX2_days_34 rfl q563 q565 qs4 q128 q566 pdX2_wrong)
theorem oX2_days_37 : SX2_days 37 (i_throw [5]) := snd_throw dX2_days_37 rfl okth_5
theorem oX2_days_38 : SX2_days 38 (i_aload 2 39) := snd_aload_n dX2_days_38 rfl
theorem oX2_days_39 : SX2_days 39 (i_cv 21 32 0 42) := snd_cv rfl infJ2_size (by decide) rfl (xVm_V dX2_days_39 rfl q640 q324 q325 q132 q326 pdJ2_size)
theorem oX2_days_42 : SX2_days 42 (i_const (.int (nI 40)) 44) := snd_bipush dX2_days_42 (by decide)
theorem oX2_days_44 : SX2_days 44 (i_if2 (fun x y => ¬ x = y) 53 47) := snd_icmp_ne dX2_days_44 (by decide)
theorem oX2_days_47 : SX2_days 47 (i_aload 0 48) := snd_aload_n dX2_days_47 rfl
theorem oX2_days_48 : SX2_days 48 (i_const (.int (nI 5)) 49) := snd_iconst dX2_days_48 (by decide)
theorem oX2_days_49 : SX2_days 49 (i_cv 1 201 1 52) := snd_cv rfl infX2_wrong (by decide) rfl (xVm_V dX2_days_49 rfl q563 q565 qs4 q128 q566 pdX2_wrong)
theorem oX2_days_52 : SX2_days 52 (i_throw [5]) := snd_throw dX2_days_52 rfl okth_5
theorem oX2_days_53 : SX2_days 53 (i_aload 0 54) := snd_aload_n dX2_days_53 rfl
theorem oX2_days_54 : SX2_days 54 (i_cvv 1 195 0 57) := snd_cvv rfl infX2_next (by decide) rfl (xVm_V dX2_days_54 rfl q431 q433 qs1 q128 q434 pdX2_next)
theorem oX2_days_57 : SX2_days 57 (i_aload 2 58) := snd_aload_n dX2_days_57 rfl
theorem oX2_days_58 : SX2_days 58 (i_aload 0 59) := snd_aload_n dX2_days_58 rfl
theorem oX2_days_59 : SX2_days 59 (i_iload 3 60) := snd_iload_n dX2_days_59 rfl
theorem oX2_days_60 : SX2_days 60 (i_cv 1 222 1 63) := snd_cv rfl infX2_done (by decide) rfl (xVm_V dX2_days_60 rfl q1075 q1077 qs28 q128 q1078 pdX2_done)
theorem oX2_days_63 : SX2_days 63 (i_cv 21 35 1 66) := snd_cv rfl infJ2_add (by decide) rfl (xVm_V dX2_days_63 rfl q826 q827 q828 q132 q829 pdJ2_add)
theorem oX2_days_66 : SX2_days 66 (i_pop 67) := snd_pop dX2_days_66
theorem oX2_days_67 : SX2_days 67 (i_aload 0 68) := snd_aload_n dX2_days_67 rfl
theorem oX2_days_68 : SX2_days 68 (i_const (.int (nI 59)) 70) := snd_bipush dX2_days_68 (by decide)
theorem oX2_days_70 : SX2_days 70 (i_cvv 1 220 1 73) := snd_cvv rfl infX2_need_2 (by decide) rfl (xVm_V dX2_days_70 rfl q1043 q1045 qs27 q128 q1046 pdX2_need_2)
theorem oX2_days_73 : SX2_days 73 (i_goto 14) := snd_goto dX2_days_73 (by decide)
theorem oX2_days_76 : SX2_days 76 (i_aload 2 77) := snd_aload_n dX2_days_76 rfl
theorem oX2_days_77 : SX2_days 77 (i_aret) := snd_aret dX2_days_77 rfl (Or.inl ⟨_, rfl⟩)
theorem okX2_days : ∀ q ∈ cX2_days, SX2_days q.1 q.2 := List.forall_mem_cons.mpr ⟨oX2_days_0, List.forall_mem_cons.mpr ⟨oX2_days_1, List.forall_mem_cons.mpr ⟨oX2_days_2, List.forall_mem_cons.mpr ⟨oX2_days_5, List.forall_mem_cons.mpr ⟨oX2_days_8, List.forall_mem_cons.mpr ⟨oX2_days_9, List.forall_mem_cons.mpr ⟨oX2_days_10, List.forall_mem_cons.mpr ⟨oX2_days_13, List.forall_mem_cons.mpr ⟨oX2_days_14, List.forall_mem_cons.mpr ⟨oX2_days_15, List.forall_mem_cons.mpr ⟨oX2_days_18, List.forall_mem_cons.mpr ⟨oX2_days_21, List.forall_mem_cons.mpr ⟨oX2_days_22, List.forall_mem_cons.mpr ⟨oX2_days_24, List.forall_mem_cons.mpr ⟨oX2_days_27, List.forall_mem_cons.mpr ⟨oX2_days_28, List.forall_mem_cons.mpr ⟨oX2_days_29, List.forall_mem_cons.mpr ⟨oX2_days_32, List.forall_mem_cons.mpr ⟨oX2_days_33, List.forall_mem_cons.mpr ⟨oX2_days_34, List.forall_mem_cons.mpr ⟨oX2_days_37, List.forall_mem_cons.mpr ⟨oX2_days_38, List.forall_mem_cons.mpr ⟨oX2_days_39, List.forall_mem_cons.mpr ⟨oX2_days_42, List.forall_mem_cons.mpr ⟨oX2_days_44, List.forall_mem_cons.mpr ⟨oX2_days_47, List.forall_mem_cons.mpr ⟨oX2_days_48, List.forall_mem_cons.mpr ⟨oX2_days_49, List.forall_mem_cons.mpr ⟨oX2_days_52, List.forall_mem_cons.mpr ⟨oX2_days_53, List.forall_mem_cons.mpr ⟨oX2_days_54, List.forall_mem_cons.mpr ⟨oX2_days_57, List.forall_mem_cons.mpr ⟨oX2_days_58, List.forall_mem_cons.mpr ⟨oX2_days_59, List.forall_mem_cons.mpr ⟨oX2_days_60, List.forall_mem_cons.mpr ⟨oX2_days_63, List.forall_mem_cons.mpr ⟨oX2_days_66, List.forall_mem_cons.mpr ⟨oX2_days_67, List.forall_mem_cons.mpr ⟨oX2_days_68, List.forall_mem_cons.mpr ⟨oX2_days_70, List.forall_mem_cons.mpr ⟨oX2_days_73, List.forall_mem_cons.mpr ⟨oX2_days_76, List.forall_mem_cons.mpr ⟨oX2_days_77, fun _ h => absurd h List.not_mem_nil⟩⟩⟩⟩⟩⟩⟩⟩⟩⟩⟩⟩⟩⟩⟩⟩⟩⟩⟩⟩⟩⟩⟩⟩⟩⟩⟩⟩⟩⟩⟩⟩⟩⟩⟩⟩⟩⟩⟩⟩⟩⟩⟩
def dkwX2_done_3 : List UInt8 := [6, 160, 0, 14, 187, 0, 240, 89, 28, 183, 0, 242, 167, 0, 11, 187, 0, 243, 89, 28, 183, 0, 245, 176]
abbrev dktX2_done_3 : List UInt8 := dkwX2_done_3 ++ []
def dkwX2_done_2 : List UInt8 := [3, 16, 7, 182, 0, 122, 61, 27, 5, 160, 0, 14, 187, 0, 237, 89, 28, 183, 0, 239, 167, 0, 27, 27]
abbrev dktX2_done_2 : List UInt8 := dkwX2_done_2 ++ dktX2_done_3
def dkwX2_done_1 : List UInt8 := [180, 0, 115, 182, 0, 175, 61, 187, 0, 234, 89, 28, 42, 3, 16, 7, 182, 0, 122, 183, 0, 236, 176, 42]
abbrev dktX2_done_1 : List UInt8 := dkwX2_done_1 ++ dktX2_done_2
def dkwX2_done_0 : List UInt8 := [27, 154, 0, 11, 187, 0, 231, 89, 183, 0, 233, 176, 27, 4, 160, 0, 31, 42, 42, 180, 0, 101]
abbrev dktX2_done_0 : List UInt8 := dkwX2_done_0 ++ dktX2_done_1
theorem dksX2_done_0 : bcX2_done.data.toList.drop 0 = dktX2_done_0 := by decide +kernel
theorem dksX2_done_1 : bcX2_done.data.toList.drop 22 = dktX2_done_1 := dk_seg dksX2_done_0 22 rfl rfl
theorem dksX2_done_2 : bcX2_done.data.toList.drop 46 = dktX2_done_2 := dk_seg dksX2_done_1 24 rfl rfl
theorem dksX2_done_3 : bcX2_done.data.toList.drop 70 = dktX2_done_3 := dk_seg dksX2_done_2 24 rfl rfl
theorem dX2_done_0 : decode bcX2_done 0 = .ok (.iload_n 1, 1) := dk_27 (dk_at dksX2_done_0 0 rfl rfl)
theorem dX2_done_1 : decode bcX2_done 1 = .ok (.ifCond .ne 11, 3) := dk_154 0 11 (dk_at dksX2_done_0 1 rfl rfl)
theorem dX2_done_4 : decode bcX2_done 4 = .ok (.new 231, 3) := dk_187 0 231 (dk_at dksX2_done_0 4 rfl rfl)
theorem dX2_done_7 : decode bcX2_done 7 = .ok (.dup, 1) := dk_89 (dk_at dksX2_done_0 7 rfl rfl)
theorem dX2_done_8 : decode bcX2_done 8 = .ok (.invokespecial 233, 3) := dk_183 0 233 (dk_at dksX2_done_0 8 rfl rfl)
theorem dX2_done_11 : decode bcX2_done 11 = .ok (.areturn, 1) := dk_176 (dk_at dksX2_done_0 11 rfl rfl)
theorem dX2_done_12 : decode bcX2_done 12 = .ok (.iload_n 1, 1) := dk_27 (dk_at dksX2_done_0 12 rfl rfl)
theorem dX2_done_13 : decode bcX2_done 13 = .ok (.iconst 1, 1) := dk_4 (dk_at dksX2_done_0 13 rfl rfl)
theorem dX2_done_14 : decode bcX2_done 14 = .ok (.if_icmp .ne 31, 3) := dk_160 0 31 (dk_at dksX2_done_0 14 rfl rfl)
theorem dX2_done_17 : decode bcX2_done 17 = .ok (.aload_n 0, 1) := dk_42 (dk_at dksX2_done_0 17 rfl rfl)
theorem dX2_done_18 : decode bcX2_done 18 = .ok (.aload_n 0, 1) := dk_42 (dk_at dksX2_done_0 18 rfl rfl)
theorem dX2_done_19 : decode bcX2_done 19 = .ok (.getfield 101, 3) := dk_180 0 101 (dk_at dksX2_done_0 19 rfl rfl)
theorem dX2_done_22 : decode bcX2_done 22 = .ok (.getfield 115, 3) := dk_180 0 115 (dk_at dksX2_done_1 0 rfl rfl)
theorem dX2_done_25 : decode bcX2_done 25 = .ok (.invokevirtual 175, 3) := dk_182 0 175 (dk_at dksX2_done_1 3 rfl rfl)
theorem dX2_done_28 : decode bcX2_done 28 = .ok (.istore_n 2, 1) := dk_61 (dk_at dksX2_done_1 6 rfl rfl)
theorem dX2_done_29 : decode bcX2_done 29 = .ok (.new 234, 3) := dk_187 0 234 (dk_at dksX2_done_1 7 rfl rfl)
theorem dX2_done_32 : decode bcX2_done 32 = .ok (.dup, 1) := dk_89 (dk_at dksX2_done_1 10 rfl rfl)
theorem dX2_done_33 : decode bcX2_done 33 = .ok (.iload_n 2, 1) := dk_28 (dk_at dksX2_done_1 11 rfl rfl)
theorem dX2_done_34 : decode bcX2_done 34 = .ok (.aload_n 0, 1) := dk_42 (dk_at dksX2_done_1 12 rfl rfl)
theorem dX2_done_35 : decode bcX2_done 35 = .ok (.iconst 0, 1) := dk_3 (dk_at dksX2_done_1 13 rfl rfl)
theorem dX2_done_36 : decode bcX2_done 36 = .ok (.bipush 7, 2) := dk_16 7 (dk_at dksX2_done_1 14 rfl rfl)
theorem dX2_done_38 : decode bcX2_done 38 = .ok (.invokevirtual 122, 3) := dk_182 0 122 (dk_at dksX2_done_1 16 rfl rfl)
theorem dX2_done_41 : decode bcX2_done 41 = .ok (.invokespecial 236, 3) := dk_183 0 236 (dk_at dksX2_done_1 19 rfl rfl)
theorem dX2_done_44 : decode bcX2_done 44 = .ok (.areturn, 1) := dk_176 (dk_at dksX2_done_1 22 rfl rfl)
theorem dX2_done_45 : decode bcX2_done 45 = .ok (.aload_n 0, 1) := dk_42 (dk_at dksX2_done_1 23 rfl rfl)
theorem dX2_done_46 : decode bcX2_done 46 = .ok (.iconst 0, 1) := dk_3 (dk_at dksX2_done_2 0 rfl rfl)
theorem dX2_done_47 : decode bcX2_done 47 = .ok (.bipush 7, 2) := dk_16 7 (dk_at dksX2_done_2 1 rfl rfl)
theorem dX2_done_49 : decode bcX2_done 49 = .ok (.invokevirtual 122, 3) := dk_182 0 122 (dk_at dksX2_done_2 3 rfl rfl)
theorem dX2_done_52 : decode bcX2_done 52 = .ok (.istore_n 2, 1) := dk_61 (dk_at dksX2_done_2 6 rfl rfl)
theorem dX2_done_53 : decode bcX2_done 53 = .ok (.iload_n 1, 1) := dk_27 (dk_at dksX2_done_2 7 rfl rfl)
theorem dX2_done_54 : decode bcX2_done 54 = .ok (.iconst 2, 1) := dk_5 (dk_at dksX2_done_2 8 rfl rfl)
theorem dX2_done_55 : decode bcX2_done 55 = .ok (.if_icmp .ne 14, 3) := dk_160 0 14 (dk_at dksX2_done_2 9 rfl rfl)
theorem dX2_done_58 : decode bcX2_done 58 = .ok (.new 237, 3) := dk_187 0 237 (dk_at dksX2_done_2 12 rfl rfl)
theorem dX2_done_61 : decode bcX2_done 61 = .ok (.dup, 1) := dk_89 (dk_at dksX2_done_2 15 rfl rfl)
theorem dX2_done_62 : decode bcX2_done 62 = .ok (.iload_n 2, 1) := dk_28 (dk_at dksX2_done_2 16 rfl rfl)
theorem dX2_done_63 : decode bcX2_done 63 = .ok (.invokespecial 239, 3) := dk_183 0 239 (dk_at dksX2_done_2 17 rfl rfl)
theorem dX2_done_66 : decode bcX2_done 66 = .ok (.goto 27, 3) := dk_167 0 27 (dk_at dksX2_done_2 20 rfl rfl)
theorem dX2_done_69 : decode bcX2_done 69 = .ok (.iload_n 1, 1) := dk_27 (dk_at dksX2_done_2 23 rfl rfl)
theorem dX2_done_70 : decode bcX2_done 70 = .ok (.iconst 3, 1) := dk_6 (dk_at dksX2_done_3 0 rfl rfl)
theorem dX2_done_71 : decode bcX2_done 71 = .ok (.if_icmp .ne 14, 3) := dk_160 0 14 (dk_at dksX2_done_3 1 rfl rfl)
theorem dX2_done_74 : decode bcX2_done 74 = .ok (.new 240, 3) := dk_187 0 240 (dk_at dksX2_done_3 4 rfl rfl)
theorem dX2_done_77 : decode bcX2_done 77 = .ok (.dup, 1) := dk_89 (dk_at dksX2_done_3 7 rfl rfl)
theorem dX2_done_78 : decode bcX2_done 78 = .ok (.iload_n 2, 1) := dk_28 (dk_at dksX2_done_3 8 rfl rfl)
theorem dX2_done_79 : decode bcX2_done 79 = .ok (.invokespecial 242, 3) := dk_183 0 242 (dk_at dksX2_done_3 9 rfl rfl)
theorem dX2_done_82 : decode bcX2_done 82 = .ok (.goto 11, 3) := dk_167 0 11 (dk_at dksX2_done_3 12 rfl rfl)
theorem dX2_done_85 : decode bcX2_done 85 = .ok (.new 243, 3) := dk_187 0 243 (dk_at dksX2_done_3 15 rfl rfl)
theorem dX2_done_88 : decode bcX2_done 88 = .ok (.dup, 1) := dk_89 (dk_at dksX2_done_3 18 rfl rfl)
theorem dX2_done_89 : decode bcX2_done 89 = .ok (.iload_n 2, 1) := dk_28 (dk_at dksX2_done_3 19 rfl rfl)
theorem dX2_done_90 : decode bcX2_done 90 = .ok (.invokespecial 245, 3) := dk_183 0 245 (dk_at dksX2_done_3 20 rfl rfl)
theorem dX2_done_93 : decode bcX2_done 93 = .ok (.areturn, 1) := dk_176 (dk_at dksX2_done_3 23 rfl rfl)
abbrev SX2_done (pc : Nat) (i : xI) : Prop := Snd "SwollenHouse$Reader" "done" prog_17_method_25_code 3 (Option.some (Jvm.ClassFile.FieldType.object "SwollenHouse$Line")) [] pc i
theorem oX2_done_0 : SX2_done 0 (i_iload 1 1) := snd_iload_n dX2_done_0 rfl
theorem oX2_done_1 : SX2_done 1 (i_if1 (fun x => ¬ x = 0) 12 4) := snd_if_ne dX2_done_1 (by decide)
theorem oX2_done_4 : SX2_done 4 (i_new 15 0 zX19 7) := snd_new dX2_done_4 rfl (fun w h => absurd h List.not_mem_nil) (fun _ => .int) (fun k h => absurd h (Nat.not_lt_zero k)) (fun k h => absurd h (Nat.not_lt_zero k)) q1079 q1080 q163
theorem oX2_done_7 : SX2_done 7 (i_dup 8) := snd_dup dX2_done_7
theorem oX2_done_8 : SX2_done 8 (i_ci [15] 191 0 11) := snd_ci rfl infX19_init (by decide) (xcls_ok _ (by decide)) (xIm_N dX2_done_8 rfl q1081 q1082 q163 q1083 pdX19_init)
theorem oX2_done_11 : SX2_done 11 (i_aret) := snd_aret dX2_done_11 rfl (Or.inl ⟨_, rfl⟩)
theorem oX2_done_12 : SX2_done 12 (i_iload 1 13) := snd_iload_n dX2_done_12 rfl
theorem oX2_done_13 : SX2_done 13 (i_const (.int (nI 1)) 14) := snd_iconst dX2_done_13 (by decide)
theorem oX2_done_14 : SX2_done 14 (i_if2 (fun x y => ¬ x = y) 45 17) := snd_icmp_ne dX2_done_14 (by decide)
theorem oX2_done_17 : SX2_done 17 (i_aload 0 18) := snd_aload_n dX2_done_17 rfl
theorem oX2_done_18 : SX2_done 18 (i_aload 0 19) := snd_aload_n dX2_done_18 rfl
theorem oX2_done_19 : SX2_done 19 (i_getf 1 7 22) := snd_getf dX2_done_19 rfl (by decide) in_X2 (Or.inl q192) (Or.inl rfl) (by decide)
theorem oX2_done_22 : SX2_done 22 (i_getf 2 1 25) := snd_getf dX2_done_22 rfl (by decide) in_X3 (Or.inr ⟨_, q249⟩) (Or.inl rfl) (by decide)
theorem oX2_done_25 : SX2_done 25 (i_cv 1 207 1 28) := snd_cv rfl infX2_passed (by decide) rfl (xVm_V dX2_done_25 rfl q887 q889 qs14 q128 q890 pdX2_passed)
theorem oX2_done_28 : SX2_done 28 (i_istore 2 29) := snd_istore_n dX2_done_28 rfl (by decide)
theorem oX2_done_29 : SX2_done 29 (i_new 16 2 zX20 32) := snd_new dX2_done_29 rfl in_X20 tyX20 tyX20_ok (by decide) q1089 q1090 q164
theorem oX2_done_32 : SX2_done 32 (i_dup 33) := snd_dup dX2_done_32
theorem oX2_done_33 : SX2_done 33 (i_iload 2 34) := snd_iload_n dX2_done_33 rfl
theorem oX2_done_34 : SX2_done 34 (i_aload 0 35) := snd_aload_n dX2_done_34 rfl
theorem oX2_done_35 : SX2_done 35 (i_const (.int (nI 0)) 36) := snd_iconst dX2_done_35 (by decide)
theorem oX2_done_36 : SX2_done 36 (i_const (.int (nI 7)) 38) := snd_bipush dX2_done_36 (by decide)
theorem oX2_done_38 : SX2_done 38 (i_cv 1 212 2 41) := snd_cv rfl infX2_number_2 (by decide) rfl (xVm_V dX2_done_38 rfl q972 q974 qs19 q128 q975 pdX2_number_2)
theorem oX2_done_41 : SX2_done 41 (i_ci [16] 223 2 44) := snd_ci rfl infX20_init (by decide) (xcls_ok _ (by decide)) (xIm_I dX2_done_41 rfl q1091 q1092 q164 q1093 pdX20_init)
theorem oX2_done_44 : SX2_done 44 (i_aret) := snd_aret dX2_done_44 rfl (Or.inl ⟨_, rfl⟩)
theorem oX2_done_45 : SX2_done 45 (i_aload 0 46) := snd_aload_n dX2_done_45 rfl
theorem oX2_done_46 : SX2_done 46 (i_const (.int (nI 0)) 47) := snd_iconst dX2_done_46 (by decide)
theorem oX2_done_47 : SX2_done 47 (i_const (.int (nI 7)) 49) := snd_bipush dX2_done_47 (by decide)
theorem oX2_done_49 : SX2_done 49 (i_cv 1 212 2 52) := snd_cv rfl infX2_number_2 (by decide) rfl (xVm_V dX2_done_49 rfl q972 q974 qs19 q128 q975 pdX2_number_2)
theorem oX2_done_52 : SX2_done 52 (i_istore 2 53) := snd_istore_n dX2_done_52 rfl (by decide)
theorem oX2_done_53 : SX2_done 53 (i_iload 1 54) := snd_iload_n dX2_done_53 rfl
theorem oX2_done_54 : SX2_done 54 (i_const (.int (nI 2)) 55) := snd_iconst dX2_done_54 (by decide)
theorem oX2_done_55 : SX2_done 55 (i_if2 (fun x y => ¬ x = y) 69 58) := snd_icmp_ne dX2_done_55 (by decide)
theorem oX2_done_58 : SX2_done 58 (i_new 17 1 zX21 61) := snd_new dX2_done_58 rfl in_X21 tyX21 tyX21_ok (by decide) q1102 q1103 q165
theorem oX2_done_61 : SX2_done 61 (i_dup 62) := snd_dup dX2_done_61
theorem oX2_done_62 : SX2_done 62 (i_iload 2 63) := snd_iload_n dX2_done_62 rfl
theorem oX2_done_63 : SX2_done 63 (i_ci [17] 225 1 66) := snd_ci rfl infX21_init (by decide) (xcls_ok _ (by decide)) (xIm_I dX2_done_63 rfl q1104 q1105 q165 q1106 pdX21_init)
theorem oX2_done_66 : SX2_done 66 (i_goto 93) := snd_goto dX2_done_66 (by decide)
theorem oX2_done_69 : SX2_done 69 (i_iload 1 70) := snd_iload_n dX2_done_69 rfl
theorem oX2_done_70 : SX2_done 70 (i_const (.int (nI 3)) 71) := snd_iconst dX2_done_70 (by decide)
theorem oX2_done_71 : SX2_done 71 (i_if2 (fun x y => ¬ x = y) 85 74) := snd_icmp_ne dX2_done_71 (by decide)
theorem oX2_done_74 : SX2_done 74 (i_new 18 1 zX22 77) := snd_new dX2_done_74 rfl in_X22 tyX22 tyX22_ok (by decide) q1112 q1113 q166
theorem oX2_done_77 : SX2_done 77 (i_dup 78) := snd_dup dX2_done_77
theorem oX2_done_78 : SX2_done 78 (i_iload 2 79) := snd_iload_n dX2_done_78 rfl
theorem oX2_done_79 : SX2_done 79 (i_ci [18] 227 1 82) := snd_ci rfl infX22_init (by decide) (xcls_ok _ (by decide)) (xIm_I dX2_done_79 rfl q1114 q1115 q166 q1116 pdX22_init)
theorem oX2_done_82 : SX2_done 82 (i_goto 93) := snd_goto dX2_done_82 (by decide)
theorem oX2_done_85 : SX2_done 85 (i_new 19 1 zX23 88) := snd_new dX2_done_85 rfl in_X23 tyX23 tyX23_ok (by decide) q1122 q1123 q167
theorem oX2_done_88 : SX2_done 88 (i_dup 89) := snd_dup dX2_done_88
theorem oX2_done_89 : SX2_done 89 (i_iload 2 90) := snd_iload_n dX2_done_89 rfl
theorem oX2_done_90 : SX2_done 90 (i_ci [19] 229 1 93) := snd_ci rfl infX23_init (by decide) (xcls_ok _ (by decide)) (xIm_I dX2_done_90 rfl q1124 q1125 q167 q1126 pdX23_init)
theorem oX2_done_93 : SX2_done 93 (i_aret) := snd_aret dX2_done_93 rfl (Or.inl ⟨_, rfl⟩)
theorem okX2_done : ∀ q ∈ cX2_done, SX2_done q.1 q.2 := List.forall_mem_cons.mpr ⟨oX2_done_0, List.forall_mem_cons.mpr ⟨oX2_done_1, List.forall_mem_cons.mpr ⟨oX2_done_4, List.forall_mem_cons.mpr ⟨oX2_done_7, List.forall_mem_cons.mpr ⟨oX2_done_8, List.forall_mem_cons.mpr ⟨oX2_done_11, List.forall_mem_cons.mpr ⟨oX2_done_12, List.forall_mem_cons.mpr ⟨oX2_done_13, List.forall_mem_cons.mpr ⟨oX2_done_14, List.forall_mem_cons.mpr ⟨oX2_done_17, List.forall_mem_cons.mpr ⟨oX2_done_18, List.forall_mem_cons.mpr ⟨oX2_done_19, List.forall_mem_cons.mpr ⟨oX2_done_22, List.forall_mem_cons.mpr ⟨oX2_done_25, List.forall_mem_cons.mpr ⟨oX2_done_28, List.forall_mem_cons.mpr ⟨oX2_done_29, List.forall_mem_cons.mpr ⟨oX2_done_32, List.forall_mem_cons.mpr ⟨oX2_done_33, List.forall_mem_cons.mpr ⟨oX2_done_34, List.forall_mem_cons.mpr ⟨oX2_done_35, List.forall_mem_cons.mpr ⟨oX2_done_36, List.forall_mem_cons.mpr ⟨oX2_done_38, List.forall_mem_cons.mpr ⟨oX2_done_41, List.forall_mem_cons.mpr ⟨oX2_done_44, List.forall_mem_cons.mpr ⟨oX2_done_45, List.forall_mem_cons.mpr ⟨oX2_done_46, List.forall_mem_cons.mpr ⟨oX2_done_47, List.forall_mem_cons.mpr ⟨oX2_done_49, List.forall_mem_cons.mpr ⟨oX2_done_52, List.forall_mem_cons.mpr ⟨oX2_done_53, List.forall_mem_cons.mpr ⟨oX2_done_54, List.forall_mem_cons.mpr ⟨oX2_done_55, List.forall_mem_cons.mpr ⟨oX2_done_58, List.forall_mem_cons.mpr ⟨oX2_done_61, List.forall_mem_cons.mpr ⟨oX2_done_62, List.forall_mem_cons.mpr ⟨oX2_done_63, List.forall_mem_cons.mpr ⟨oX2_done_66, List.forall_mem_cons.mpr ⟨oX2_done_69, List.forall_mem_cons.mpr ⟨oX2_done_70, List.forall_mem_cons.mpr ⟨oX2_done_71, List.forall_mem_cons.mpr ⟨oX2_done_74, List.forall_mem_cons.mpr ⟨oX2_done_77, List.forall_mem_cons.mpr ⟨oX2_done_78, List.forall_mem_cons.mpr ⟨oX2_done_79, List.forall_mem_cons.mpr ⟨oX2_done_82, List.forall_mem_cons.mpr ⟨oX2_done_85, List.forall_mem_cons.mpr ⟨oX2_done_88, List.forall_mem_cons.mpr ⟨oX2_done_89, List.forall_mem_cons.mpr ⟨oX2_done_90, List.forall_mem_cons.mpr ⟨oX2_done_93, fun _ h => absurd h List.not_mem_nil⟩⟩⟩⟩⟩⟩⟩⟩⟩⟩⟩⟩⟩⟩⟩⟩⟩⟩⟩⟩⟩⟩⟩⟩⟩⟩⟩⟩⟩⟩⟩⟩⟩⟩⟩⟩⟩⟩⟩⟩⟩⟩⟩⟩⟩⟩⟩⟩⟩⟩
