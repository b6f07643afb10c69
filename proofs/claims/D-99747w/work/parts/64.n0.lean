set_option maxRecDepth 100000
def dkwX1_init_7 : List UInt8 := [180, 0, 51, 42, 180, 0, 35, 182, 0, 99, 177]
abbrev dktX1_init_7 : List UInt8 := dkwX1_init_7 ++ []
def dkwX1_init_6 : List UInt8 := [16, 8, 188, 10, 181, 0, 87, 42, 16, 8, 188, 10, 181, 0, 90, 42, 7, 189, 0, 93, 181, 0, 95, 42]
abbrev dktX1_init_6 : List UInt8 := dkwX1_init_6 ++ dktX1_init_7
def dkwX1_init_5 : List UInt8 := [181, 0, 75, 42, 16, 8, 188, 4, 181, 0, 78, 42, 16, 10, 16, 31, 197, 0, 82, 2, 181, 0, 84, 42]
abbrev dktX1_init_5 : List UInt8 := dkwX1_init_5 ++ dktX1_init_6
def dkwX1_init_4 : List UInt8 := [187, 0, 48, 89, 183, 0, 50, 181, 0, 69, 42, 16, 8, 188, 10, 181, 0, 72, 42, 16, 8, 188, 10]
abbrev dktX1_init_4 : List UInt8 := dkwX1_init_4 ++ dktX1_init_5
def dkwX1_init_3 : List UInt8 := [188, 10, 181, 0, 58, 42, 16, 16, 189, 0, 48, 181, 0, 62, 42, 6, 188, 10, 181, 0, 66, 42]
abbrev dktX1_init_3 : List UInt8 := dkwX1_init_3 ++ dktX1_init_4
def dkwX1_init_2 : List UInt8 := [187, 0, 48, 89, 183, 0, 50, 181, 0, 51, 42, 187, 0, 48, 89, 183, 0, 50, 181, 0, 55, 42, 7]
abbrev dktX1_init_2 : List UInt8 := dkwX1_init_2 ++ dktX1_init_3
def dkwX1_init_1 : List UInt8 := [42, 187, 0, 32, 89, 183, 0, 34, 181, 0, 35, 42, 187, 0, 39, 89, 3, 183, 0, 41, 181, 0, 44, 42]
abbrev dktX1_init_1 : List UInt8 := dkwX1_init_1 ++ dktX1_init_2
def dkwX1_init_0 : List UInt8 := [42, 183, 0, 16, 42, 17, 3, 232, 188, 8, 181, 0, 21, 42, 187, 0, 25, 89, 183, 0, 27, 181, 0, 28]
abbrev dktX1_init_0 : List UInt8 := dkwX1_init_0 ++ dktX1_init_1
theorem dksX1_init_0 : bcX1_init.data.toList.drop 0 = dktX1_init_0 := by decide +kernel
theorem dksX1_init_1 : bcX1_init.data.toList.drop 24 = dktX1_init_1 := dk_seg dksX1_init_0 24 rfl rfl
theorem dksX1_init_2 : bcX1_init.data.toList.drop 48 = dktX1_init_2 := dk_seg dksX1_init_1 24 rfl rfl
theorem dksX1_init_3 : bcX1_init.data.toList.drop 71 = dktX1_init_3 := dk_seg dksX1_init_2 23 rfl rfl
theorem dksX1_init_4 : bcX1_init.data.toList.drop 93 = dktX1_init_4 := dk_seg dksX1_init_3 22 rfl rfl
theorem dksX1_init_5 : bcX1_init.data.toList.drop 116 = dktX1_init_5 := dk_seg dksX1_init_4 23 rfl rfl
theorem dksX1_init_6 : bcX1_init.data.toList.drop 140 = dktX1_init_6 := dk_seg dksX1_init_5 24 rfl rfl
theorem dksX1_init_7 : bcX1_init.data.toList.drop 164 = dktX1_init_7 := dk_seg dksX1_init_6 24 rfl rfl
theorem dX1_init_0 : decode bcX1_init 0 = .ok (.aload_n 0, 1) := dk_42 (dk_at dksX1_init_0 0 rfl rfl)
theorem dX1_init_1 : decode bcX1_init 1 = .ok (.invokespecial 16, 3) := dk_183 0 16 (dk_at dksX1_init_0 1 rfl rfl)
theorem dX1_init_4 : decode bcX1_init 4 = .ok (.aload_n 0, 1) := dk_42 (dk_at dksX1_init_0 4 rfl rfl)
theorem dX1_init_5 : decode bcX1_init 5 = .ok (.sipush 1000, 3) := dk_17 3 232 (dk_at dksX1_init_0 5 rfl rfl)
theorem dX1_init_8 : decode bcX1_init 8 = .ok (.newarray .byte, 2) := dk_188_8 (dk_at dksX1_init_0 8 rfl rfl)
theorem dX1_init_10 : decode bcX1_init 10 = .ok (.putfield 21, 3) := dk_181 0 21 (dk_at dksX1_init_0 10 rfl rfl)
theorem dX1_init_13 : decode bcX1_init 13 = .ok (.aload_n 0, 1) := dk_42 (dk_at dksX1_init_0 13 rfl rfl)
theorem dX1_init_14 : decode bcX1_init 14 = .ok (.new 25, 3) := dk_187 0 25 (dk_at dksX1_init_0 14 rfl rfl)
theorem dX1_init_17 : decode bcX1_init 17 = .ok (.dup, 1) := dk_89 (dk_at dksX1_init_0 17 rfl rfl)
theorem dX1_init_18 : decode bcX1_init 18 = .ok (.invokespecial 27, 3) := dk_183 0 27 (dk_at dksX1_init_0 18 rfl rfl)
theorem dX1_init_21 : decode bcX1_init 21 = .ok (.putfield 28, 3) := dk_181 0 28 (dk_at dksX1_init_0 21 rfl rfl)
theorem dX1_init_24 : decode bcX1_init 24 = .ok (.aload_n 0, 1) := dk_42 (dk_at dksX1_init_1 0 rfl rfl)
theorem dX1_init_25 : decode bcX1_init 25 = .ok (.new 32, 3) := dk_187 0 32 (dk_at dksX1_init_1 1 rfl rfl)
theorem dX1_init_28 : decode bcX1_init 28 = .ok (.dup, 1) := dk_89 (dk_at dksX1_init_1 4 rfl rfl)
theorem dX1_init_29 : decode bcX1_init 29 = .ok (.invokespecial 34, 3) := dk_183 0 34 (dk_at dksX1_init_1 5 rfl rfl)
theorem dX1_init_32 : decode bcX1_init 32 = .ok (.putfield 35, 3) := dk_181 0 35 (dk_at dksX1_init_1 8 rfl rfl)
theorem dX1_init_35 : decode bcX1_init 35 = .ok (.aload_n 0, 1) := dk_42 (dk_at dksX1_init_1 11 rfl rfl)
theorem dX1_init_36 : decode bcX1_init 36 = .ok (.new 39, 3) := dk_187 0 39 (dk_at dksX1_init_1 12 rfl rfl)
theorem dX1_init_39 : decode bcX1_init 39 = .ok (.dup, 1) := dk_89 (dk_at dksX1_init_1 15 rfl rfl)
theorem dX1_init_40 : decode bcX1_init 40 = .ok (.iconst 0, 1) := dk_3 (dk_at dksX1_init_1 16 rfl rfl)
theorem dX1_init_41 : decode bcX1_init 41 = .ok (.invokespecial 41, 3) := dk_183 0 41 (dk_at dksX1_init_1 17 rfl rfl)
theorem dX1_init_44 : decode bcX1_init 44 = .ok (.putfield 44, 3) := dk_181 0 44 (dk_at dksX1_init_1 20 rfl rfl)
theorem dX1_init_47 : decode bcX1_init 47 = .ok (.aload_n 0, 1) := dk_42 (dk_at dksX1_init_1 23 rfl rfl)
theorem dX1_init_48 : decode bcX1_init 48 = .ok (.new 48, 3) := dk_187 0 48 (dk_at dksX1_init_2 0 rfl rfl)
theorem dX1_init_51 : decode bcX1_init 51 = .ok (.dup, 1) := dk_89 (dk_at dksX1_init_2 3 rfl rfl)
theorem dX1_init_52 : decode bcX1_init 52 = .ok (.invokespecial 50, 3) := dk_183 0 50 (dk_at dksX1_init_2 4 rfl rfl)
theorem dX1_init_55 : decode bcX1_init 55 = .ok (.putfield 51, 3) := dk_181 0 51 (dk_at dksX1_init_2 7 rfl rfl)
theorem dX1_init_58 : decode bcX1_init 58 = .ok (.aload_n 0, 1) := dk_42 (dk_at dksX1_init_2 10 rfl rfl)
theorem dX1_init_59 : decode bcX1_init 59 = .ok (.new 48, 3) := dk_187 0 48 (dk_at dksX1_init_2 11 rfl rfl)
theorem dX1_init_62 : decode bcX1_init 62 = .ok (.dup, 1) := dk_89 (dk_at dksX1_init_2 14 rfl rfl)
theorem dX1_init_63 : decode bcX1_init 63 = .ok (.invokespecial 50, 3) := dk_183 0 50 (dk_at dksX1_init_2 15 rfl rfl)
theorem dX1_init_66 : decode bcX1_init 66 = .ok (.putfield 55, 3) := dk_181 0 55 (dk_at dksX1_init_2 18 rfl rfl)
theorem dX1_init_69 : decode bcX1_init 69 = .ok (.aload_n 0, 1) := dk_42 (dk_at dksX1_init_2 21 rfl rfl)
theorem dX1_init_70 : decode bcX1_init 70 = .ok (.iconst 4, 1) := dk_7 (dk_at dksX1_init_2 22 rfl rfl)
theorem dX1_init_71 : decode bcX1_init 71 = .ok (.newarray .int, 2) := dk_188_10 (dk_at dksX1_init_3 0 rfl rfl)
theorem dX1_init_73 : decode bcX1_init 73 = .ok (.putfield 58, 3) := dk_181 0 58 (dk_at dksX1_init_3 2 rfl rfl)
theorem dX1_init_76 : decode bcX1_init 76 = .ok (.aload_n 0, 1) := dk_42 (dk_at dksX1_init_3 5 rfl rfl)
theorem dX1_init_77 : decode bcX1_init 77 = .ok (.bipush 16, 2) := dk_16 16 (dk_at dksX1_init_3 6 rfl rfl)
theorem dX1_init_79 : decode bcX1_init 79 = .ok (.anewarray 48, 3) := dk_189 0 48 (dk_at dksX1_init_3 8 rfl rfl)
theorem dX1_init_82 : decode bcX1_init 82 = .ok (.putfield 62, 3) := dk_181 0 62 (dk_at dksX1_init_3 11 rfl rfl)
theorem dX1_init_85 : decode bcX1_init 85 = .ok (.aload_n 0, 1) := dk_42 (dk_at dksX1_init_3 14 rfl rfl)
theorem dX1_init_86 : decode bcX1_init 86 = .ok (.iconst 3, 1) := dk_6 (dk_at dksX1_init_3 15 rfl rfl)
theorem dX1_init_87 : decode bcX1_init 87 = .ok (.newarray .int, 2) := dk_188_10 (dk_at dksX1_init_3 16 rfl rfl)
theorem dX1_init_89 : decode bcX1_init 89 = .ok (.putfield 66, 3) := dk_181 0 66 (dk_at dksX1_init_3 18 rfl rfl)
theorem dX1_init_92 : decode bcX1_init 92 = .ok (.aload_n 0, 1) := dk_42 (dk_at dksX1_init_3 21 rfl rfl)
theorem dX1_init_93 : decode bcX1_init 93 = .ok (.new 48, 3) := dk_187 0 48 (dk_at dksX1_init_4 0 rfl rfl)
theorem dX1_init_96 : decode bcX1_init 96 = .ok (.dup, 1) := dk_89 (dk_at dksX1_init_4 3 rfl rfl)
theorem dX1_init_97 : decode bcX1_init 97 = .ok (.invokespecial 50, 3) := dk_183 0 50 (dk_at dksX1_init_4 4 rfl rfl)
theorem dX1_init_100 : decode bcX1_init 100 = .ok (.putfield 69, 3) := dk_181 0 69 (dk_at dksX1_init_4 7 rfl rfl)
theorem dX1_init_103 : decode bcX1_init 103 = .ok (.aload_n 0, 1) := dk_42 (dk_at dksX1_init_4 10 rfl rfl)
theorem dX1_init_104 : decode bcX1_init 104 = .ok (.bipush 8, 2) := dk_16 8 (dk_at dksX1_init_4 11 rfl rfl)
theorem dX1_init_106 : decode bcX1_init 106 = .ok (.newarray .int, 2) := dk_188_10 (dk_at dksX1_init_4 13 rfl rfl)
theorem dX1_init_108 : decode bcX1_init 108 = .ok (.putfield 72, 3) := dk_181 0 72 (dk_at dksX1_init_4 15 rfl rfl)
theorem dX1_init_111 : decode bcX1_init 111 = .ok (.aload_n 0, 1) := dk_42 (dk_at dksX1_init_4 18 rfl rfl)
theorem dX1_init_112 : decode bcX1_init 112 = .ok (.bipush 8, 2) := dk_16 8 (dk_at dksX1_init_4 19 rfl rfl)
theorem dX1_init_114 : decode bcX1_init 114 = .ok (.newarray .int, 2) := dk_188_10 (dk_at dksX1_init_4 21 rfl rfl)
theorem dX1_init_116 : decode bcX1_init 116 = .ok (.putfield 75, 3) := dk_181 0 75 (dk_at dksX1_init_5 0 rfl rfl)
theorem dX1_init_119 : decode bcX1_init 119 = .ok (.aload_n 0, 1) := dk_42 (dk_at dksX1_init_5 3 rfl rfl)
theorem dX1_init_120 : decode bcX1_init 120 = .ok (.bipush 8, 2) := dk_16 8 (dk_at dksX1_init_5 4 rfl rfl)
theorem dX1_init_122 : decode bcX1_init 122 = .ok (.newarray .boolean, 2) := dk_188_4 (dk_at dksX1_init_5 6 rfl rfl)
theorem dX1_init_124 : decode bcX1_init 124 = .ok (.putfield 78, 3) := dk_181 0 78 (dk_at dksX1_init_5 8 rfl rfl)
theorem dX1_init_127 : decode bcX1_init 127 = .ok (.aload_n 0, 1) := dk_42 (dk_at dksX1_init_5 11 rfl rfl)
theorem dX1_init_128 : decode bcX1_init 128 = .ok (.bipush 10, 2) := dk_16 10 (dk_at dksX1_init_5 12 rfl rfl)
theorem dX1_init_130 : decode bcX1_init 130 = .ok (.bipush 31, 2) := dk_16 31 (dk_at dksX1_init_5 14 rfl rfl)
theorem dX1_init_132 : decode bcX1_init 132 = .ok (.multianewarray 82 2, 4) := by decide +kernel
theorem dX1_init_136 : decode bcX1_init 136 = .ok (.putfield 84, 3) := dk_181 0 84 (dk_at dksX1_init_5 20 rfl rfl)
theorem dX1_init_139 : decode bcX1_init 139 = .ok (.aload_n 0, 1) := dk_42 (dk_at dksX1_init_5 23 rfl rfl)
theorem dX1_init_140 : decode bcX1_init 140 = .ok (.bipush 8, 2) := dk_16 8 (dk_at dksX1_init_6 0 rfl rfl)
theorem dX1_init_142 : decode bcX1_init 142 = .ok (.newarray .int, 2) := dk_188_10 (dk_at dksX1_init_6 2 rfl rfl)
theorem dX1_init_144 : decode bcX1_init 144 = .ok (.putfield 87, 3) := dk_181 0 87 (dk_at dksX1_init_6 4 rfl rfl)
theorem dX1_init_147 : decode bcX1_init 147 = .ok (.aload_n 0, 1) := dk_42 (dk_at dksX1_init_6 7 rfl rfl)
theorem dX1_init_148 : decode bcX1_init 148 = .ok (.bipush 8, 2) := dk_16 8 (dk_at dksX1_init_6 8 rfl rfl)
theorem dX1_init_150 : decode bcX1_init 150 = .ok (.newarray .int, 2) := dk_188_10 (dk_at dksX1_init_6 10 rfl rfl)
theorem dX1_init_152 : decode bcX1_init 152 = .ok (.putfield 90, 3) := dk_181 0 90 (dk_at dksX1_init_6 12 rfl rfl)
theorem dX1_init_155 : decode bcX1_init 155 = .ok (.aload_n 0, 1) := dk_42 (dk_at dksX1_init_6 15 rfl rfl)
theorem dX1_init_156 : decode bcX1_init 156 = .ok (.iconst 4, 1) := dk_7 (dk_at dksX1_init_6 16 rfl rfl)
theorem dX1_init_157 : decode bcX1_init 157 = .ok (.anewarray 93, 3) := dk_189 0 93 (dk_at dksX1_init_6 17 rfl rfl)
theorem dX1_init_160 : decode bcX1_init 160 = .ok (.putfield 95, 3) := dk_181 0 95 (dk_at dksX1_init_6 20 rfl rfl)
theorem dX1_init_163 : decode bcX1_init 163 = .ok (.aload_n 0, 1) := dk_42 (dk_at dksX1_init_6 23 rfl rfl)
theorem dX1_init_164 : decode bcX1_init 164 = .ok (.getfield 51, 3) := dk_180 0 51 (dk_at dksX1_init_7 0 rfl rfl)
theorem dX1_init_167 : decode bcX1_init 167 = .ok (.aload_n 0, 1) := dk_42 (dk_at dksX1_init_7 3 rfl rfl)
theorem dX1_init_168 : decode bcX1_init 168 = .ok (.getfield 35, 3) := dk_180 0 35 (dk_at dksX1_init_7 4 rfl rfl)
theorem dX1_init_171 : decode bcX1_init 171 = .ok (.invokevirtual 99, 3) := dk_182 0 99 (dk_at dksX1_init_7 7 rfl rfl)
theorem dX1_init_174 : decode bcX1_init 174 = .ok (.return_, 1) := dk_177 (dk_at dksX1_init_7 10 rfl rfl)
abbrev SX1_init (pc : Nat) (i : xI) : Prop := Snd "SwollenHouse" "<init>" prog_1_method_7_code 1 (Option.none : Option Jvm.ClassFile.FieldType) [] pc i
theorem oX1_init_0 : SX1_init 0 (i_aload 0 1) := snd_aload_n dX1_init_0 rfl
theorem oX1_init_1 : SX1_init 1 (i_oi 4) := snd_oi dX1_init_1 q176 q177 q_oicode
theorem oX1_init_4 : SX1_init 4 (i_aload 0 5) := snd_aload_n dX1_init_4 rfl
theorem oX1_init_5 : SX1_init 5 (i_const (.int (nI 1000)) 8) := snd_sipush dX1_init_5 (by decide)
theorem oX1_init_8 : SX1_init 8 (i_newa 1 (.inl (fun _ => 0)) 10) := snd_na1 dX1_init_8
theorem oX1_init_10 : SX1_init 10 (i_putfr 0 0 13) := snd_putfr dX1_init_10 rfl (by decide) in_X1 tyX1 tyX1_ok nmX1 (Or.inr (Or.inl ⟨rfl, rfl, rfl, q345⟩)) (Or.inl rfl) (Or.inr ⟨_, rfl⟩)
theorem oX1_init_13 : SX1_init 13 (i_aload 0 14) := snd_aload_n dX1_init_13 rfl
theorem oX1_init_14 : SX1_init 14 (i_new 1 8 zX2 17) := snd_new dX1_init_14 rfl in_X2 tyX2 tyX2_ok (by decide) q179 q180 q128
theorem oX1_init_17 : SX1_init 17 (i_dup 18) := snd_dup dX1_init_17
theorem oX1_init_18 : SX1_init 18 (i_ci [1] 193 0 21) := snd_ci rfl infX2_init (by decide) (xcls_ok _ (by decide)) (xIm_N dX1_init_18 rfl q181 q182 q128 q183 pdX2_init)
theorem oX1_init_21 : SX1_init 21 (i_putfr 0 1 24) := snd_putfr dX1_init_21 rfl (by decide) in_X1 tyX1 tyX1_ok nmX1 (Or.inr (Or.inl ⟨rfl, rfl, rfl, q346⟩)) (Or.inl rfl) (Or.inl ⟨_, rfl⟩)
theorem oX1_init_24 : SX1_init 24 (i_aload 0 25) := snd_aload_n dX1_init_24 rfl
theorem oX1_init_25 : SX1_init 25 (i_new 2 7 zX3 28) := snd_new dX1_init_25 rfl in_X3 tyX3 tyX3_ok (by decide) q211 q212 q129
theorem oX1_init_28 : SX1_init 28 (i_dup 29) := snd_dup dX1_init_28
theorem oX1_init_29 : SX1_init 29 (i_ci [2] 232 0 32) := snd_ci rfl infX3_init (by decide) (xcls_ok _ (by decide)) (xIm_N dX1_init_29 rfl q213 q214 q129 q215 pdX3_init)
theorem oX1_init_32 : SX1_init 32 (i_putfr 0 2 35) := snd_putfr dX1_init_32 rfl (by decide) in_X1 tyX1 tyX1_ok nmX1 (Or.inl ⟨rfl, q348⟩) (Or.inl rfl) (Or.inl ⟨_, rfl⟩)
theorem oX1_init_35 : SX1_init 35 (i_aload 0 36) := snd_aload_n dX1_init_35 rfl
theorem oX1_init_36 : SX1_init 36 (i_new 21 3 zJ2 39) := snd_new dX1_init_36 rfl in_J2 tyJ2 tyJ2_ok (by decide) q280 q218 q132
theorem oX1_init_39 : SX1_init 39 (i_dup 40) := snd_dup dX1_init_39
theorem oX1_init_40 : SX1_init 40 (i_const (.int (nI 0)) 41) := snd_iconst dX1_init_40 (by decide)
theorem oX1_init_41 : SX1_init 41 (i_ci [21] 31 1 44) := snd_ci rfl infJ2_init (by decide) (xcls_ok _ (by decide)) (xIm_I dX1_init_41 rfl q281 q220 q132 q221 pdJ2_init)
theorem oX1_init_44 : SX1_init 44 (i_putfr 0 3 47) := snd_putfr dX1_init_44 rfl (by decide) in_X1 tyX1 tyX1_ok nmX1 (Or.inl ⟨rfl, q349⟩) (Or.inl rfl) (Or.inl ⟨_, rfl⟩)
theorem oX1_init_47 : SX1_init 47 (i_aload 0 48) := snd_aload_n dX1_init_47 rfl
theorem oX1_init_48 : SX1_init 48 (i_new 3 5 zX4 51) := snd_new dX1_init_48 rfl in_X4 tyX4 tyX4_ok (by decide) q282 q283 q133
theorem oX1_init_51 : SX1_init 51 (i_dup 52) := snd_dup dX1_init_51
theorem oX1_init_52 : SX1_init 52 (i_ci [3] 236 0 55) := snd_ci rfl infX4_init (by decide) (xcls_ok _ (by decide)) (xIm_N dX1_init_52 rfl q284 q285 q133 q286 pdX4_init)
theorem oX1_init_55 : SX1_init 55 (i_putfr 0 4 58) := snd_putfr dX1_init_55 rfl (by decide) in_X1 tyX1 tyX1_ok nmX1 (Or.inr (Or.inl ⟨rfl, rfl, rfl, q350⟩)) (Or.inl rfl) (Or.inl ⟨_, rfl⟩)
theorem oX1_init_58 : SX1_init 58 (i_aload 0 59) := snd_aload_n dX1_init_58 rfl
theorem oX1_init_59 : SX1_init 59 (i_new 3 5 zX4 62) := snd_new dX1_init_59 rfl in_X4 tyX4 tyX4_ok (by decide) q282 q283 q133
theorem oX1_init_62 : SX1_init 62 (i_dup 63) := snd_dup dX1_init_62
theorem oX1_init_63 : SX1_init 63 (i_ci [3] 236 0 66) := snd_ci rfl infX4_init (by decide) (xcls_ok _ (by decide)) (xIm_N dX1_init_63 rfl q284 q285 q133 q286 pdX4_init)
theorem oX1_init_66 : SX1_init 66 (i_putfr 0 5 69) := snd_putfr dX1_init_66 rfl (by decide) in_X1 tyX1 tyX1_ok nmX1 (Or.inr (Or.inl ⟨rfl, rfl, rfl, q351⟩)) (Or.inl rfl) (Or.inl ⟨_, rfl⟩)
theorem oX1_init_69 : SX1_init 69 (i_aload 0 70) := snd_aload_n dX1_init_69 rfl
theorem oX1_init_70 : SX1_init 70 (i_const (.int (nI 4)) 71) := snd_iconst dX1_init_70 (by decide)
theorem oX1_init_71 : SX1_init 71 (i_newa 0 (.inl (fun _ => 0)) 73) := snd_na0 dX1_init_71
theorem oX1_init_73 : SX1_init 73 (i_putfr 0 6 76) := snd_putfr dX1_init_73 rfl (by decide) in_X1 tyX1 tyX1_ok nmX1 (Or.inr (Or.inl ⟨rfl, rfl, rfl, q352⟩)) (Or.inl rfl) (Or.inr ⟨_, rfl⟩)
theorem oX1_init_76 : SX1_init 76 (i_aload 0 77) := snd_aload_n dX1_init_76 rfl
theorem oX1_init_77 : SX1_init 77 (i_const (.int (nI 16)) 79) := snd_bipush dX1_init_77 (by decide)
theorem oX1_init_79 : SX1_init 79 (i_newa 5 (.inr (.inr (fun _ => none))) 82) := snd_anewa dX1_init_79 (by decide) rfl q282 (fun _ _ _ h => h.2.2.1.2.1)
theorem oX1_init_82 : SX1_init 82 (i_putfr 0 8 85) := snd_putfr dX1_init_82 rfl (by decide) in_X1 tyX1 tyX1_ok nmX1 (Or.inr (Or.inl ⟨rfl, rfl, rfl, q354⟩)) (Or.inl rfl) (Or.inr ⟨_, rfl⟩)
theorem oX1_init_85 : SX1_init 85 (i_aload 0 86) := snd_aload_n dX1_init_85 rfl
theorem oX1_init_86 : SX1_init 86 (i_const (.int (nI 3)) 87) := snd_iconst dX1_init_86 (by decide)
theorem oX1_init_87 : SX1_init 87 (i_newa 0 (.inl (fun _ => 0)) 89) := snd_na0 dX1_init_87
theorem oX1_init_89 : SX1_init 89 (i_putfr 0 10 92) := snd_putfr dX1_init_89 rfl (by decide) in_X1 tyX1 tyX1_ok nmX1 (Or.inr (Or.inl ⟨rfl, rfl, rfl, q356⟩)) (Or.inl rfl) (Or.inr ⟨_, rfl⟩)
theorem oX1_init_92 : SX1_init 92 (i_aload 0 93) := snd_aload_n dX1_init_92 rfl
theorem oX1_init_93 : SX1_init 93 (i_new 3 5 zX4 96) := snd_new dX1_init_93 rfl in_X4 tyX4 tyX4_ok (by decide) q282 q283 q133
theorem oX1_init_96 : SX1_init 96 (i_dup 97) := snd_dup dX1_init_96
theorem oX1_init_97 : SX1_init 97 (i_ci [3] 236 0 100) := snd_ci rfl infX4_init (by decide) (xcls_ok _ (by decide)) (xIm_N dX1_init_97 rfl q284 q285 q133 q286 pdX4_init)
theorem oX1_init_100 : SX1_init 100 (i_putfr 0 11 103) := snd_putfr dX1_init_100 rfl (by decide) in_X1 tyX1 tyX1_ok nmX1 (Or.inr (Or.inl ⟨rfl, rfl, rfl, q357⟩)) (Or.inl rfl) (Or.inl ⟨_, rfl⟩)
theorem oX1_init_103 : SX1_init 103 (i_aload 0 104) := snd_aload_n dX1_init_103 rfl
theorem oX1_init_104 : SX1_init 104 (i_const (.int (nI 8)) 106) := snd_bipush dX1_init_104 (by decide)
theorem oX1_init_106 : SX1_init 106 (i_newa 0 (.inl (fun _ => 0)) 108) := snd_na0 dX1_init_106
theorem oX1_init_108 : SX1_init 108 (i_putfr 0 12 111) := snd_putfr dX1_init_108 rfl (by decide) in_X1 tyX1 tyX1_ok nmX1 (Or.inr (Or.inl ⟨rfl, rfl, rfl, q358⟩)) (Or.inl rfl) (Or.inr ⟨_, rfl⟩)
theorem oX1_init_111 : SX1_init 111 (i_aload 0 112) := snd_aload_n dX1_init_111 rfl
theorem oX1_init_112 : SX1_init 112 (i_const (.int (nI 8)) 114) := snd_bipush dX1_init_112 (by decide)
theorem oX1_init_114 : SX1_init 114 (i_newa 0 (.inl (fun _ => 0)) 116) := snd_na0 dX1_init_114
theorem oX1_init_116 : SX1_init 116 (i_putfr 0 13 119) := snd_putfr dX1_init_116 rfl (by decide) in_X1 tyX1 tyX1_ok nmX1 (Or.inr (Or.inl ⟨rfl, rfl, rfl, q359⟩)) (Or.inl rfl) (Or.inr ⟨_, rfl⟩)
theorem oX1_init_119 : SX1_init 119 (i_aload 0 120) := snd_aload_n dX1_init_119 rfl
theorem oX1_init_120 : SX1_init 120 (i_const (.int (nI 8)) 122) := snd_bipush dX1_init_120 (by decide)
theorem oX1_init_122 : SX1_init 122 (i_newa 2 (.inl (fun _ => 0)) 124) := snd_na2 dX1_init_122
theorem oX1_init_124 : SX1_init 124 (i_putfr 0 14 127) := snd_putfr dX1_init_124 rfl (by decide) in_X1 tyX1 tyX1_ok nmX1 (Or.inr (Or.inl ⟨rfl, rfl, rfl, q360⟩)) (Or.inl rfl) (Or.inr ⟨_, rfl⟩)
theorem oX1_init_127 : SX1_init 127 (i_aload 0 128) := snd_aload_n dX1_init_127 rfl
theorem oX1_init_128 : SX1_init 128 (i_const (.int (nI 10)) 130) := snd_bipush dX1_init_128 (by decide)
theorem oX1_init_130 : SX1_init 130 (i_const (.int (nI 31)) 132) := snd_bipush dX1_init_130 (by decide)
theorem oX1_init_132 : SX1_init 132 (i_multi 136) := snd_multi dX1_init_132 q315
theorem oX1_init_136 : SX1_init 136 (i_putfr 0 16 139) := snd_putfr dX1_init_136 rfl (by decide) in_X1 tyX1 tyX1_ok nmX1 (Or.inr (Or.inl ⟨rfl, rfl, rfl, q362⟩)) (Or.inl rfl) (Or.inr ⟨_, rfl⟩)
theorem oX1_init_139 : SX1_init 139 (i_aload 0 140) := snd_aload_n dX1_init_139 rfl
theorem oX1_init_140 : SX1_init 140 (i_const (.int (nI 8)) 142) := snd_bipush dX1_init_140 (by decide)
theorem oX1_init_142 : SX1_init 142 (i_newa 0 (.inl (fun _ => 0)) 144) := snd_na0 dX1_init_142
theorem oX1_init_144 : SX1_init 144 (i_putfr 0 17 147) := snd_putfr dX1_init_144 rfl (by decide) in_X1 tyX1 tyX1_ok nmX1 (Or.inr (Or.inl ⟨rfl, rfl, rfl, q363⟩)) (Or.inl rfl) (Or.inr ⟨_, rfl⟩)
theorem oX1_init_147 : SX1_init 147 (i_aload 0 148) := snd_aload_n dX1_init_147 rfl
theorem oX1_init_148 : SX1_init 148 (i_const (.int (nI 8)) 150) := snd_bipush dX1_init_148 (by decide)
theorem oX1_init_150 : SX1_init 150 (i_newa 0 (.inl (fun _ => 0)) 152) := snd_na0 dX1_init_150
theorem oX1_init_152 : SX1_init 152 (i_putfr 0 18 155) := snd_putfr dX1_init_152 rfl (by decide) in_X1 tyX1 tyX1_ok nmX1 (Or.inr (Or.inl ⟨rfl, rfl, rfl, q364⟩)) (Or.inl rfl) (Or.inr ⟨_, rfl⟩)
theorem oX1_init_155 : SX1_init 155 (i_aload 0 156) := snd_aload_n dX1_init_155 rfl
theorem oX1_init_156 : SX1_init 156 (i_const (.int (nI 4)) 157) := snd_iconst dX1_init_156 (by decide)
theorem oX1_init_157 : SX1_init 157 (i_newa 7 (.inr (.inr (fun _ => none))) 160) := snd_anewa dX1_init_157 (by decide) rfl q317 (fun _ _ _ h => h.2.2.1.2.2)
theorem oX1_init_160 : SX1_init 160 (i_putfr 0 21 163) := snd_putfr dX1_init_160 rfl (by decide) in_X1 tyX1 tyX1_ok nmX1 (Or.inr (Or.inl ⟨rfl, rfl, rfl, q367⟩)) (Or.inl rfl) (Or.inr ⟨_, rfl⟩)
theorem oX1_init_163 : SX1_init 163 (i_aload 0 164) := snd_aload_n dX1_init_163 rfl
theorem oX1_init_164 : SX1_init 164 (i_getf 0 4 167) := snd_getf dX1_init_164 rfl (by decide) in_X1 (Or.inl q350) (Or.inl rfl) (by decide)
theorem oX1_init_167 : SX1_init 167 (i_aload 0 168) := snd_aload_n dX1_init_167 rfl
theorem oX1_init_168 : SX1_init 168 (i_getf 0 2 171) := snd_getf dX1_init_168 rfl (by decide) in_X1 (Or.inl q348) (Or.inl rfl) (by decide)
theorem oX1_init_171 : SX1_init 171 (i_cvv 3 237 1 174) := snd_cvv rfl infX4_begin (by decide) rfl (xVm_V dX1_init_171 rfl q319 q320 q321 q133 q322 pdX4_begin)
theorem oX1_init_174 : SX1_init 174 (i_vret) := snd_vret dX1_init_174 rfl
theorem okX1_init : ∀ q ∈ cX1_init, SX1_init q.1 q.2 := List.forall_mem_cons.mpr ⟨oX1_init_0, List.forall_mem_cons.mpr ⟨oX1_init_1, List.forall_mem_cons.mpr ⟨oX1_init_4, List.forall_mem_cons.mpr ⟨oX1_init_5, List.forall_mem_cons.mpr ⟨oX1_init_8, List.forall_mem_cons.mpr ⟨oX1_init_10, List.forall_mem_cons.mpr ⟨oX1_init_13, List.forall_mem_cons.mpr ⟨oX1_init_14, List.forall_mem_cons.mpr ⟨oX1_init_17, List.forall_mem_cons.mpr ⟨oX1_init_18, List.forall_mem_cons.mpr ⟨oX1_init_21, List.forall_mem_cons.mpr ⟨oX1_init_24, List.forall_mem_cons.mpr ⟨oX1_init_25, List.forall_mem_cons.mpr ⟨oX1_init_28, List.forall_mem_cons.mpr ⟨oX1_init_29, List.forall_mem_cons.mpr ⟨oX1_init_32, List.forall_mem_cons.mpr ⟨oX1_init_35, List.forall_mem_cons.mpr ⟨oX1_init_36, List.forall_mem_cons.mpr ⟨oX1_init_39, List.forall_mem_cons.mpr ⟨oX1_init_40, List.forall_mem_cons.mpr ⟨oX1_init_41, List.forall_mem_cons.mpr ⟨oX1_init_44, List.forall_mem_cons.mpr ⟨oX1_init_47, List.forall_mem_cons.mpr ⟨oX1_init_48, List.forall_mem_cons.mpr ⟨oX1_init_51, List.forall_mem_cons.mpr ⟨oX1_init_52, List.forall_mem_cons.mpr ⟨oX1_init_55, List.forall_mem_cons.mpr ⟨oX1_init_58, List.forall_mem_cons.mpr ⟨oX1_init_59, List.forall_mem_cons.mpr ⟨oX1_init_62, List.forall_mem_cons.mpr ⟨oX1_init_63, List.forall_mem_cons.mpr ⟨oX1_init_66, List.forall_mem_cons.mpr ⟨oX1_init_69, List.forall_mem_cons.mpr ⟨oX1_init_70, List.forall_mem_cons.mpr ⟨oX1_init_71, List.forall_mem_cons.mpr ⟨oX1_init_73, List.forall_mem_cons.mpr ⟨oX1_init_76, List.forall_mem_cons.mpr ⟨oX1_init_77, List.forall_mem_cons.mpr ⟨oX1_init_79, List.forall_mem_cons.mpr ⟨oX1_init_82, List.forall_mem_cons.mpr ⟨oX1_init_85, List.forall_mem_cons.mpr ⟨oX1_init_86, List.forall_mem_cons.mpr ⟨oX1_init_87, List.forall_mem_cons.mpr ⟨oX1_init_89, List.forall_mem_cons.mpr ⟨oX1_init_92, List.forall_mem_cons.mpr ⟨oX1_init_93, List.forall_mem_cons.mpr ⟨oX1_init_96, List.forall_mem_cons.mpr ⟨oX1_init_97, List.forall_mem_cons.mpr ⟨oX1_init_100, List.forall_mem_cons.mpr ⟨oX1_init_103, List.forall_mem_cons.mpr ⟨oX1_init_104, List.forall_mem_cons.mpr ⟨oX1_init_106, List.forall_mem_cons.mpr ⟨oX1_init_108, List.forall_mem_cons.mpr ⟨oX1_init_111, List.forall_mem_cons.mpr ⟨oX1_init_112, List.forall_mem_cons.mpr ⟨oX1_init_114, List.forall_mem_cons.mpr ⟨oX1_init_116, List.forall_mem_cons.mpr ⟨oX1_init_119, List.forall_mem_cons.mpr ⟨oX1_init_120, List.forall_mem_cons.mpr ⟨oX1_init_122, List.forall_mem_cons.mpr ⟨oX1_init_124, List.forall_mem_cons.mpr ⟨oX1_init_127, List.forall_mem_cons.mpr ⟨oX1_init_128, List.forall_mem_cons.mpr ⟨oX1_init_130, List.forall_mem_cons.mpr ⟨oX1_init_132, List.forall_mem_cons.mpr ⟨oX1_init_136, List.forall_mem_cons.mpr ⟨oX1_init_139, List.forall_mem_cons.mpr ⟨oX1_init_140, List.forall_mem_cons.mpr ⟨oX1_init_142, List.forall_mem_cons.mpr ⟨oX1_init_144, List.forall_mem_cons.mpr ⟨oX1_init_147, List.forall_mem_cons.mpr ⟨oX1_init_148, List.forall_mem_cons.mpr ⟨oX1_init_150, List.forall_mem_cons.mpr ⟨oX1_init_152, List.forall_mem_cons.mpr ⟨oX1_init_155, List.forall_mem_cons.mpr ⟨oX1_init_156, List.forall_mem_cons.mpr ⟨oX1_init_157, List.forall_mem_cons.mpr ⟨oX1_init_160, List.forall_mem_cons.mpr ⟨oX1_init_163, List.forall_mem_cons.mpr ⟨oX1_init_164, List.forall_mem_cons.mpr ⟨oX1_init_167, List.forall_mem_cons.mpr ⟨oX1_init_168, List.forall_mem_cons.mpr ⟨oX1_init_171, List.forall_mem_cons.mpr ⟨oX1_init_174, fun _ h => absurd h List.not_mem_nil⟩⟩⟩⟩⟩⟩⟩⟩⟩⟩⟩⟩⟩⟩⟩⟩⟩⟩⟩⟩⟩⟩⟩⟩⟩⟩⟩⟩⟩⟩⟩⟩⟩⟩⟩⟩⟩⟩⟩⟩⟩⟩⟩⟩⟩⟩⟩⟩⟩⟩⟩⟩⟩⟩⟩⟩⟩⟩⟩⟩⟩⟩⟩⟩⟩⟩⟩⟩⟩⟩⟩⟩⟩⟩⟩⟩⟩⟩⟩⟩⟩⟩⟩⟩
def dkwX1_copies_0 : List UInt8 := [3, 61, 28, 43, 190, 162, 0, 15, 43, 28, 42, 28, 46, 79, 132, 2, 1, 167, 255, 241, 177]
abbrev dktX1_copies_0 : List UInt8 := dkwX1_copies_0 ++ []
theorem dksX1_copies_0 : bcX1_copies.data.toList.drop 0 = dktX1_copies_0 := by decide +kernel
theorem dX1_copies_0 : decode bcX1_copies 0 = .ok (.iconst 0, 1) := dk_3 (dk_at dksX1_copies_0 0 rfl rfl)
theorem dX1_copies_1 : decode bcX1_copies 1 = .ok (.istore_n 2, 1) := dk_61 (dk_at dksX1_copies_0 1 rfl rfl)
theorem dX1_copies_2 : decode bcX1_copies 2 = .ok (.iload_n 2, 1) := dk_28 (dk_at dksX1_copies_0 2 rfl rfl)
theorem dX1_copies_3 : decode bcX1_copies 3 = .ok (.aload_n 1, 1) := dk_43 (dk_at dksX1_copies_0 3 rfl rfl)
theorem dX1_copies_4 : decode bcX1_copies 4 = .ok (.arraylength, 1) := dk_190 (dk_at dksX1_copies_0 4 rfl rfl)
theorem dX1_copies_5 : decode bcX1_copies 5 = .ok (.if_icmp .ge 15, 3) := dk_162 0 15 (dk_at dksX1_copies_0 5 rfl rfl)
theorem dX1_copies_8 : decode bcX1_copies 8 = .ok (.aload_n 1, 1) := dk_43 (dk_at dksX1_copies_0 8 rfl rfl)
theorem dX1_copies_9 : decode bcX1_copies 9 = .ok (.iload_n 2, 1) := dk_28 (dk_at dksX1_copies_0 9 rfl rfl)
theorem dX1_copies_10 : decode bcX1_copies 10 = .ok (.aload_n 0, 1) := dk_42 (dk_at dksX1_copies_0 10 rfl rfl)
theorem dX1_copies_11 : decode bcX1_copies 11 = .ok (.iload_n 2, 1) := dk_28 (dk_at dksX1_copies_0 11 rfl rfl)
theorem dX1_copies_12 : decode bcX1_copies 12 = .ok (.iaload, 1) := dk_46 (dk_at dksX1_copies_0 12 rfl rfl)
theorem dX1_copies_13 : decode bcX1_copies 13 = .ok (.iastore, 1) := dk_79 (dk_at dksX1_copies_0 13 rfl rfl)
theorem dX1_copies_14 : decode bcX1_copies 14 = .ok (.iinc 2 1, 3) := dk_132 2 1 (dk_at dksX1_copies_0 14 rfl rfl)
theorem dX1_copies_17 : decode bcX1_copies 17 = .ok (.goto (-15), 3) := dk_167 255 241 (dk_at dksX1_copies_0 17 rfl rfl)
theorem dX1_copies_20 : decode bcX1_copies 20 = .ok (.return_, 1) := dk_177 (dk_at dksX1_copies_0 20 rfl rfl)
abbrev SX1_copies (pc : Nat) (i : xI) : Prop := Snd "SwollenHouse" "copies" prog_1_method_5_code 3 (Option.none : Option Jvm.ClassFile.FieldType) [] pc i
theorem oX1_copies_0 : SX1_copies 0 (i_const (.int (nI 0)) 1) := snd_iconst dX1_copies_0 (by decide)
theorem oX1_copies_1 : SX1_copies 1 (i_istore 2 2) := snd_istore_n dX1_copies_1 rfl (by decide)
theorem oX1_copies_2 : SX1_copies 2 (i_iload 2 3) := snd_iload_n dX1_copies_2 rfl
theorem oX1_copies_3 : SX1_copies 3 (i_aload 1 4) := snd_aload_n dX1_copies_3 rfl
theorem oX1_copies_4 : SX1_copies 4 (i_len 5) := snd_len dX1_copies_4
theorem oX1_copies_5 : SX1_copies 5 (i_if2 (fun x y => y ≤ x) 20 8) := snd_icmp_ge dX1_copies_5 (by decide)
theorem oX1_copies_8 : SX1_copies 8 (i_aload 1 9) := snd_aload_n dX1_copies_8 rfl
theorem oX1_copies_9 : SX1_copies 9 (i_iload 2 10) := snd_iload_n dX1_copies_9 rfl
theorem oX1_copies_10 : SX1_copies 10 (i_aload 0 11) := snd_aload_n dX1_copies_10 rfl
theorem oX1_copies_11 : SX1_copies 11 (i_iload 2 12) := snd_iload_n dX1_copies_11 rfl
theorem oX1_copies_12 : SX1_copies 12 (i_ai 0 13) := snd_ai0 dX1_copies_12
theorem oX1_copies_13 : SX1_copies 13 (i_si (fun v => v) 0 14) := snd_si0 dX1_copies_13
theorem oX1_copies_14 : SX1_copies 14 (i_iinc 2 (nI 1) 17) := snd_iinc dX1_copies_14 (by decide) (by decide)
theorem oX1_copies_17 : SX1_copies 17 (i_goto 2) := snd_goto dX1_copies_17 (by decide)
theorem oX1_copies_20 : SX1_copies 20 (i_vret) := snd_vret dX1_copies_20 rfl
theorem okX1_copies : ∀ q ∈ cX1_copies, SX1_copies q.1 q.2 := List.forall_mem_cons.mpr ⟨oX1_copies_0, List.forall_mem_cons.mpr ⟨oX1_copies_1, List.forall_mem_cons.mpr ⟨oX1_copies_2, List.forall_mem_cons.mpr ⟨oX1_copies_3, List.forall_mem_cons.mpr ⟨oX1_copies_4, List.forall_mem_cons.mpr ⟨oX1_copies_5, List.forall_mem_cons.mpr ⟨oX1_copies_8, List.forall_mem_cons.mpr ⟨oX1_copies_9, List.forall_mem_cons.mpr ⟨oX1_copies_10, List.forall_mem_cons.mpr ⟨oX1_copies_11, List.forall_mem_cons.mpr ⟨oX1_copies_12, List.forall_mem_cons.mpr ⟨oX1_copies_13, List.forall_mem_cons.mpr ⟨oX1_copies_14, List.forall_mem_cons.mpr ⟨oX1_copies_17, List.forall_mem_cons.mpr ⟨oX1_copies_20, fun _ h => absurd h List.not_mem_nil⟩⟩⟩⟩⟩⟩⟩⟩⟩⟩⟩⟩⟩⟩⟩
def dkwX1_feed_4 : List UInt8 := [96, 181, 0, 103, 21, 8, 145, 84, 132, 7, 1, 167, 255, 153, 42, 180, 0, 103, 172]
abbrev dktX1_feed_4 : List UInt8 := dkwX1_feed_4 ++ []
def dkwX1_feed_3 : List UInt8 := [163, 0, 32, 42, 180, 0, 103, 17, 3, 232, 162, 0, 22, 42, 180, 0, 21, 42, 89, 180, 0, 103, 90, 4]
abbrev dktX1_feed_3 : List UInt8 := dkwX1_feed_3 ++ dktX1_feed_4
def dkwX1_feed_2 : List UInt8 := [17, 0, 255, 126, 54, 8, 21, 8, 16, 10, 159, 0, 17, 21, 8, 16, 32, 161, 0, 39, 21, 8, 16, 126]
abbrev dktX1_feed_2 : List UInt8 := dkwX1_feed_2 ++ dktX1_feed_3
def dkwX1_feed_1 : List UInt8 := [16, 16, 162, 0, 7, 33, 167, 0, 5, 22, 5, 16, 56, 16, 8, 21, 7, 16, 8, 112, 104, 100, 123, 136]
abbrev dktX1_feed_1 : List UInt8 := dkwX1_feed_1 ++ dktX1_feed_2
def dkwX1_feed_0 : List UInt8 := [3, 54, 7, 21, 7, 16, 24, 162, 0, 102, 21, 7, 16, 8, 162, 0, 7, 31, 167, 0, 16, 21, 7]
abbrev dktX1_feed_0 : List UInt8 := dkwX1_feed_0 ++ dktX1_feed_1
theorem dksX1_feed_0 : bcX1_feed.data.toList.drop 0 = dktX1_feed_0 := by decide +kernel
theorem dksX1_feed_1 : bcX1_feed.data.toList.drop 23 = dktX1_feed_1 := dk_seg dksX1_feed_0 23 rfl rfl
theorem dksX1_feed_2 : bcX1_feed.data.toList.drop 47 = dktX1_feed_2 := dk_seg dksX1_feed_1 24 rfl rfl
theorem dksX1_feed_3 : bcX1_feed.data.toList.drop 71 = dktX1_feed_3 := dk_seg dksX1_feed_2 24 rfl rfl
theorem dksX1_feed_4 : bcX1_feed.data.toList.drop 95 = dktX1_feed_4 := dk_seg dksX1_feed_3 24 rfl rfl
theorem dX1_feed_0 : decode bcX1_feed 0 = .ok (.iconst 0, 1) := dk_3 (dk_at dksX1_feed_0 0 rfl rfl)
theorem dX1_feed_1 : decode bcX1_feed 1 = .ok (.istore 7, 2) := dk_54 7 (dk_at dksX1_feed_0 1 rfl rfl)
theorem dX1_feed_3 : decode bcX1_feed 3 = .ok (.iload 7, 2) := dk_21 7 (dk_at dksX1_feed_0 3 rfl rfl)
theorem dX1_feed_5 : decode bcX1_feed 5 = .ok (.bipush 24, 2) := dk_16 24 (dk_at dksX1_feed_0 5 rfl rfl)
theorem dX1_feed_7 : decode bcX1_feed 7 = .ok (.if_icmp .ge 102, 3) := dk_162 0 102 (dk_at dksX1_feed_0 7 rfl rfl)
theorem dX1_feed_10 : decode bcX1_feed 10 = .ok (.iload 7, 2) := dk_21 7 (dk_at dksX1_feed_0 10 rfl rfl)
theorem dX1_feed_12 : decode bcX1_feed 12 = .ok (.bipush 8, 2) := dk_16 8 (dk_at dksX1_feed_0 12 rfl rfl)
theorem dX1_feed_14 : decode bcX1_feed 14 = .ok (.if_icmp .ge 7, 3) := dk_162 0 7 (dk_at dksX1_feed_0 14 rfl rfl)
theorem dX1_feed_17 : decode bcX1_feed 17 = .ok (.lload_n 1, 1) := dk_31 (dk_at dksX1_feed_0 17 rfl rfl)
theorem dX1_feed_18 : decode bcX1_feed 18 = .ok (.goto 16, 3) := dk_167 0 16 (dk_at dksX1_feed_0 18 rfl rfl)
theorem dX1_feed_21 : decode bcX1_feed 21 = .ok (.iload 7, 2) := dk_21 7 (dk_at dksX1_feed_0 21 rfl rfl)
theorem dX1_feed_23 : decode bcX1_feed 23 = .ok (.bipush 16, 2) := dk_16 16 (dk_at dksX1_feed_1 0 rfl rfl)
theorem dX1_feed_25 : decode bcX1_feed 25 = .ok (.if_icmp .ge 7, 3) := dk_162 0 7 (dk_at dksX1_feed_1 2 rfl rfl)
theorem dX1_feed_28 : decode bcX1_feed 28 = .ok (.lload_n 3, 1) := dk_33 (dk_at dksX1_feed_1 5 rfl rfl)
theorem dX1_feed_29 : decode bcX1_feed 29 = .ok (.goto 5, 3) := dk_167 0 5 (dk_at dksX1_feed_1 6 rfl rfl)
theorem dX1_feed_32 : decode bcX1_feed 32 = .ok (.lload 5, 2) := dk_22 5 (dk_at dksX1_feed_1 9 rfl rfl)
theorem dX1_feed_34 : decode bcX1_feed 34 = .ok (.bipush 56, 2) := dk_16 56 (dk_at dksX1_feed_1 11 rfl rfl)
theorem dX1_feed_36 : decode bcX1_feed 36 = .ok (.bipush 8, 2) := dk_16 8 (dk_at dksX1_feed_1 13 rfl rfl)
theorem dX1_feed_38 : decode bcX1_feed 38 = .ok (.iload 7, 2) := dk_21 7 (dk_at dksX1_feed_1 15 rfl rfl)
theorem dX1_feed_40 : decode bcX1_feed 40 = .ok (.bipush 8, 2) := dk_16 8 (dk_at dksX1_feed_1 17 rfl rfl)
theorem dX1_feed_42 : decode bcX1_feed 42 = .ok (.irem, 1) := dk_112 (dk_at dksX1_feed_1 19 rfl rfl)
theorem dX1_feed_43 : decode bcX1_feed 43 = .ok (.imul, 1) := dk_104 (dk_at dksX1_feed_1 20 rfl rfl)
theorem dX1_feed_44 : decode bcX1_feed 44 = .ok (.isub, 1) := dk_100 (dk_at dksX1_feed_1 21 rfl rfl)
theorem dX1_feed_45 : decode bcX1_feed 45 = .ok (.lshr, 1) := dk_123 (dk_at dksX1_feed_1 22 rfl rfl)
theorem dX1_feed_46 : decode bcX1_feed 46 = .ok (.l2i, 1) := dk_136 (dk_at dksX1_feed_1 23 rfl rfl)
theorem dX1_feed_47 : decode bcX1_feed 47 = .ok (.sipush 255, 3) := dk_17 0 255 (dk_at dksX1_feed_2 0 rfl rfl)
theorem dX1_feed_50 : decode bcX1_feed 50 = .ok (.iand, 1) := dk_126 (dk_at dksX1_feed_2 3 rfl rfl)
theorem dX1_feed_51 : decode bcX1_feed 51 = .ok (.istore 8, 2) := dk_54 8 (dk_at dksX1_feed_2 4 rfl rfl)
theorem dX1_feed_53 : decode bcX1_feed 53 = .ok (.iload 8, 2) := dk_21 8 (dk_at dksX1_feed_2 6 rfl rfl)
theorem dX1_feed_55 : decode bcX1_feed 55 = .ok (.bipush 10, 2) := dk_16 10 (dk_at dksX1_feed_2 8 rfl rfl)
theorem dX1_feed_57 : decode bcX1_feed 57 = .ok (.if_icmp .eq 17, 3) := dk_159 0 17 (dk_at dksX1_feed_2 10 rfl rfl)
theorem dX1_feed_60 : decode bcX1_feed 60 = .ok (.iload 8, 2) := dk_21 8 (dk_at dksX1_feed_2 13 rfl rfl)
theorem dX1_feed_62 : decode bcX1_feed 62 = .ok (.bipush 32, 2) := dk_16 32 (dk_at dksX1_feed_2 15 rfl rfl)
theorem dX1_feed_64 : decode bcX1_feed 64 = .ok (.if_icmp .lt 39, 3) := dk_161 0 39 (dk_at dksX1_feed_2 17 rfl rfl)
theorem dX1_feed_67 : decode bcX1_feed 67 = .ok (.iload 8, 2) := dk_21 8 (dk_at dksX1_feed_2 20 rfl rfl)
theorem dX1_feed_69 : decode bcX1_feed 69 = .ok (.bipush 126, 2) := dk_16 126 (dk_at dksX1_feed_2 22 rfl rfl)
theorem dX1_feed_71 : decode bcX1_feed 71 = .ok (.if_icmp .gt 32, 3) := dk_163 0 32 (dk_at dksX1_feed_3 0 rfl rfl)
theorem dX1_feed_74 : decode bcX1_feed 74 = .ok (.aload_n 0, 1) := dk_42 (dk_at dksX1_feed_3 3 rfl rfl)
theorem dX1_feed_75 : decode bcX1_feed 75 = .ok (.getfield 103, 3) := dk_180 0 103 (dk_at dksX1_feed_3 4 rfl rfl)
theorem dX1_feed_78 : decode bcX1_feed 78 = .ok (.sipush 1000, 3) := dk_17 3 232 (dk_at dksX1_feed_3 7 rfl rfl)
theorem dX1_feed_81 : decode bcX1_feed 81 = .ok (.if_icmp .ge 22, 3) := dk_162 0 22 (dk_at dksX1_feed_3 10 rfl rfl)
theorem dX1_feed_84 : decode bcX1_feed 84 = .ok (.aload_n 0, 1) := dk_42 (dk_at dksX1_feed_3 13 rfl rfl)
theorem dX1_feed_85 : decode bcX1_feed 85 = .ok (.getfield 21, 3) := dk_180 0 21 (dk_at dksX1_feed_3 14 rfl rfl)
theorem dX1_feed_88 : decode bcX1_feed 88 = .ok (.aload_n 0, 1) := dk_42 (dk_at dksX1_feed_3 17 rfl rfl)
theorem dX1_feed_89 : decode bcX1_feed 89 = .ok (.dup, 1) := dk_89 (dk_at dksX1_feed_3 18 rfl rfl)
theorem dX1_feed_90 : decode bcX1_feed 90 = .ok (.getfield 103, 3) := dk_180 0 103 (dk_at dksX1_feed_3 19 rfl rfl)
theorem dX1_feed_93 : decode bcX1_feed 93 = .ok (.dup_x1, 1) := dk_90 (dk_at dksX1_feed_3 22 rfl rfl)
theorem dX1_feed_94 : decode bcX1_feed 94 = .ok (.iconst 1, 1) := dk_4 (dk_at dksX1_feed_3 23 rfl rfl)
theorem dX1_feed_95 : decode bcX1_feed 95 = .ok (.iadd, 1) := dk_96 (dk_at dksX1_feed_4 0 rfl rfl)
theorem dX1_feed_96 : decode bcX1_feed 96 = .ok (.putfield 103, 3) := dk_181 0 103 (dk_at dksX1_feed_4 1 rfl rfl)
theorem dX1_feed_99 : decode bcX1_feed 99 = .ok (.iload 8, 2) := dk_21 8 (dk_at dksX1_feed_4 4 rfl rfl)
theorem dX1_feed_101 : decode bcX1_feed 101 = .ok (.i2b, 1) := dk_145 (dk_at dksX1_feed_4 6 rfl rfl)
theorem dX1_feed_102 : decode bcX1_feed 102 = .ok (.bastore, 1) := dk_84 (dk_at dksX1_feed_4 7 rfl rfl)
theorem dX1_feed_103 : decode bcX1_feed 103 = .ok (.iinc 7 1, 3) := dk_132 7 1 (dk_at dksX1_feed_4 8 rfl rfl)
theorem dX1_feed_106 : decode bcX1_feed 106 = .ok (.goto (-103), 3) := dk_167 255 153 (dk_at dksX1_feed_4 11 rfl rfl)
theorem dX1_feed_109 : decode bcX1_feed 109 = .ok (.aload_n 0, 1) := dk_42 (dk_at dksX1_feed_4 14 rfl rfl)
theorem dX1_feed_110 : decode bcX1_feed 110 = .ok (.getfield 103, 3) := dk_180 0 103 (dk_at dksX1_feed_4 15 rfl rfl)
theorem dX1_feed_113 : decode bcX1_feed 113 = .ok (.ireturn, 1) := dk_172 (dk_at dksX1_feed_4 18 rfl rfl)
abbrev SX1_feed (pc : Nat) (i : xI) : Prop := Snd "SwollenHouse" "feed" prog_1_method_8_code 9 (Option.some Jvm.ClassFile.FieldType.int) [] pc i
theorem oX1_feed_0 : SX1_feed 0 (i_const (.int (nI 0)) 1) := snd_iconst dX1_feed_0 (by decide)
theorem oX1_feed_1 : SX1_feed 1 (i_istore 7 3) := snd_istore dX1_feed_1 (by decide)
theorem oX1_feed_3 : SX1_feed 3 (i_iload 7 5) := snd_iload dX1_feed_3
theorem oX1_feed_5 : SX1_feed 5 (i_const (.int (nI 24)) 7) := snd_bipush dX1_feed_5 (by decide)
theorem oX1_feed_7 : SX1_feed 7 (i_if2 (fun x y => y ≤ x) 109 10) := snd_icmp_ge dX1_feed_7 (by decide)
theorem oX1_feed_10 : SX1_feed 10 (i_iload 7 12) := snd_iload dX1_feed_10
theorem oX1_feed_12 : SX1_feed 12 (i_const (.int (nI 8)) 14) := snd_bipush dX1_feed_12 (by decide)
theorem oX1_feed_14 : SX1_feed 14 (i_if2 (fun x y => y ≤ x) 21 17) := snd_icmp_ge dX1_feed_14 (by decide)
theorem oX1_feed_17 : SX1_feed 17 (i_lload 1 18) := snd_lload_n dX1_feed_17 rfl
theorem oX1_feed_18 : SX1_feed 18 (i_goto 34) := snd_goto dX1_feed_18 (by decide)
theorem oX1_feed_21 : SX1_feed 21 (i_iload 7 23) := snd_iload dX1_feed_21
theorem oX1_feed_23 : SX1_feed 23 (i_const (.int (nI 16)) 25) := snd_bipush dX1_feed_23 (by decide)
theorem oX1_feed_25 : SX1_feed 25 (i_if2 (fun x y => y ≤ x) 32 28) := snd_icmp_ge dX1_feed_25 (by decide)
theorem oX1_feed_28 : SX1_feed 28 (i_lload 3 29) := snd_lload_n dX1_feed_28 rfl
theorem oX1_feed_29 : SX1_feed 29 (i_goto 34) := snd_goto dX1_feed_29 (by decide)
theorem oX1_feed_32 : SX1_feed 32 (i_lload 5 34) := snd_lload dX1_feed_32
theorem oX1_feed_34 : SX1_feed 34 (i_const (.int (nI 56)) 36) := snd_bipush dX1_feed_34 (by decide)
theorem oX1_feed_36 : SX1_feed 36 (i_const (.int (nI 8)) 38) := snd_bipush dX1_feed_36 (by decide)
theorem oX1_feed_38 : SX1_feed 38 (i_iload 7 40) := snd_iload dX1_feed_38
theorem oX1_feed_40 : SX1_feed 40 (i_const (.int (nI 8)) 42) := snd_bipush dX1_feed_40 (by decide)
theorem oX1_feed_42 : SX1_feed 42 (i_iz (fun x y => x - x / y * y) 43) := snd_irem dX1_feed_42
theorem oX1_feed_43 : SX1_feed 43 (i_ii (fun x y => x * y) 44) := snd_imul dX1_feed_43
theorem oX1_feed_44 : SX1_feed 44 (i_ii (fun x y => x - y) 45) := snd_isub dX1_feed_44
theorem oX1_feed_45 : SX1_feed 45 (i_li (fun x y => x >>> (y.toInt64 &&& 63)) 46) := snd_lshr dX1_feed_45
theorem oX1_feed_46 : SX1_feed 46 (i_l2i 47) := snd_l2i dX1_feed_46
theorem oX1_feed_47 : SX1_feed 47 (i_const (.int (nI 255)) 50) := snd_sipush dX1_feed_47 (by decide)
theorem oX1_feed_50 : SX1_feed 50 (i_ii (fun x y => x &&& y) 51) := snd_iand dX1_feed_50
theorem oX1_feed_51 : SX1_feed 51 (i_istore 8 53) := snd_istore dX1_feed_51 (by decide)
theorem oX1_feed_53 : SX1_feed 53 (i_iload 8 55) := snd_iload dX1_feed_53
theorem oX1_feed_55 : SX1_feed 55 (i_const (.int (nI 10)) 57) := snd_bipush dX1_feed_55 (by decide)
theorem oX1_feed_57 : SX1_feed 57 (i_if2 (fun x y => x = y) 74 60) := snd_icmp_eq dX1_feed_57 (by decide)
theorem oX1_feed_60 : SX1_feed 60 (i_iload 8 62) := snd_iload dX1_feed_60
theorem oX1_feed_62 : SX1_feed 62 (i_const (.int (nI 32)) 64) := snd_bipush dX1_feed_62 (by decide)
theorem oX1_feed_64 : SX1_feed 64 (i_if2 (fun x y => x < y) 103 67) := snd_icmp_lt dX1_feed_64 (by decide)
theorem oX1_feed_67 : SX1_feed 67 (i_iload 8 69) := snd_iload dX1_feed_67
theorem oX1_feed_69 : SX1_feed 69 (i_const (.int (nI 126)) 71) := snd_bipush dX1_feed_69 (by decide)
theorem oX1_feed_71 : SX1_feed 71 (i_if2 (fun x y => y < x) 103 74) := snd_icmp_gt dX1_feed_71 (by decide)
theorem oX1_feed_74 : SX1_feed 74 (i_aload 0 75) := snd_aload_n dX1_feed_74 rfl
theorem oX1_feed_75 : SX1_feed 75 (i_getf 0 7 78) := snd_getf dX1_feed_75 rfl (by decide) in_X1 (Or.inl q353) (Or.inl rfl) (by decide)
theorem oX1_feed_78 : SX1_feed 78 (i_const (.int (nI 1000)) 81) := snd_sipush dX1_feed_78 (by decide)
theorem oX1_feed_81 : SX1_feed 81 (i_if2 (fun x y => y ≤ x) 103 84) := snd_icmp_ge dX1_feed_81 (by decide)
theorem oX1_feed_84 : SX1_feed 84 (i_aload 0 85) := snd_aload_n dX1_feed_84 rfl
theorem oX1_feed_85 : SX1_feed 85 (i_getf 0 0 88) := snd_getf dX1_feed_85 rfl (by decide) in_X1 (Or.inl q345) (Or.inl rfl) (by decide)
theorem oX1_feed_88 : SX1_feed 88 (i_aload 0 89) := snd_aload_n dX1_feed_88 rfl
theorem oX1_feed_89 : SX1_feed 89 (i_dup 90) := snd_dup dX1_feed_89
theorem oX1_feed_90 : SX1_feed 90 (i_getf 0 7 93) := snd_getf dX1_feed_90 rfl (by decide) in_X1 (Or.inl q353) (Or.inl rfl) (by decide)
theorem oX1_feed_93 : SX1_feed 93 (i_dup_x1 94) := snd_dup_x1 dX1_feed_93
theorem oX1_feed_94 : SX1_feed 94 (i_const (.int (nI 1)) 95) := snd_iconst dX1_feed_94 (by decide)
theorem oX1_feed_95 : SX1_feed 95 (i_ii (fun x y => x + y) 96) := snd_iadd dX1_feed_95
theorem oX1_feed_96 : SX1_feed 96 (i_putfi 0 7 99) := snd_putfi dX1_feed_96 rfl (by decide) in_X1 tyX1 tyX1_ok nmX1 (Or.inl ⟨rfl, q353⟩) (Or.inl rfl) rfl
theorem oX1_feed_99 : SX1_feed 99 (i_iload 8 101) := snd_iload dX1_feed_99
theorem oX1_feed_101 : SX1_feed 101 (i_i1 (fun x => x.toInt8.toInt32) 102) := snd_i2b dX1_feed_101
theorem oX1_feed_102 : SX1_feed 102 (i_si (fun v => vp_nar .byte v) 1 103) := snd_si1 dX1_feed_102
theorem oX1_feed_103 : SX1_feed 103 (i_iinc 7 (nI 1) 106) := snd_iinc dX1_feed_103 (by decide) (by decide)
theorem oX1_feed_106 : SX1_feed 106 (i_goto 3) := snd_goto dX1_feed_106 (by decide)
theorem oX1_feed_109 : SX1_feed 109 (i_aload 0 110) := snd_aload_n dX1_feed_109 rfl
theorem oX1_feed_110 : SX1_feed 110 (i_getf 0 7 113) := snd_getf dX1_feed_110 rfl (by decide) in_X1 (Or.inl q353) (Or.inl rfl) (by decide)
theorem oX1_feed_113 : SX1_feed 113 (i_iret) := snd_iret dX1_feed_113 rfl
theorem okX1_feed : ∀ q ∈ cX1_feed, SX1_feed q.1 q.2 := List.forall_mem_cons.mpr ⟨oX1_feed_0, List.forall_mem_cons.mpr ⟨oX1_feed_1, List.forall_mem_cons.mpr ⟨oX1_feed_3, List.forall_mem_cons.mpr ⟨oX1_feed_5, List.forall_mem_cons.mpr ⟨oX1_feed_7, List.forall_mem_cons.mpr ⟨oX1_feed_10, List.forall_mem_cons.mpr ⟨oX1_feed_12, List.forall_mem_cons.mpr ⟨oX1_feed_14, List.forall_mem_cons.mpr ⟨oX1_feed_17, List.forall_mem_cons.mpr ⟨oX1_feed_18, List.forall_mem_cons.mpr ⟨oX1_feed_21, List.forall_mem_cons.mpr ⟨oX1_feed_23, List.forall_mem_cons.mpr ⟨oX1_feed_25, List.forall_mem_cons.mpr ⟨oX1_feed_28, List.forall_mem_cons.mpr ⟨oX1_feed_29, List.forall_mem_cons.mpr ⟨oX1_feed_32, List.forall_mem_cons.mpr ⟨oX1_feed_34, List.forall_mem_cons.mpr ⟨oX1_feed_36, List.forall_mem_cons.mpr ⟨oX1_feed_38, List.forall_mem_cons.mpr ⟨oX1_feed_40, List.forall_mem_cons.mpr ⟨oX1_feed_42, List.forall_mem_cons.mpr ⟨oX1_feed_43, List.forall_mem_cons.mpr ⟨oX1_feed_44, List.forall_mem_cons.mpr ⟨oX1_feed_45, List.forall_mem_cons.mpr ⟨oX1_feed_46, List.forall_mem_cons.mpr ⟨oX1_feed_47, List.forall_mem_cons.mpr ⟨oX1_feed_50, List.forall_mem_cons.mpr ⟨oX1_feed_51, List.forall_mem_cons.mpr ⟨oX1_feed_53, List.forall_mem_cons.mpr ⟨oX1_feed_55, List.forall_mem_cons.mpr ⟨oX1_feed_57, List.forall_mem_cons.mpr ⟨oX1_feed_60, List.forall_mem_cons.mpr ⟨oX1_feed_62, List.forall_mem_cons.mpr ⟨oX1_feed_64, List.forall_mem_cons.mpr ⟨oX1_feed_67, List.forall_mem_cons.mpr ⟨oX1_feed_69, List.forall_mem_cons.mpr ⟨oX1_feed_71, List.forall_mem_cons.mpr ⟨oX1_feed_74, List.forall_mem_cons.mpr ⟨oX1_feed_75, List.forall_mem_cons.mpr ⟨oX1_feed_78, List.forall_mem_cons.mpr ⟨oX1_feed_81, List.forall_mem_cons.mpr ⟨oX1_feed_84, List.forall_mem_cons.mpr ⟨oX1_feed_85, List.forall_mem_cons.mpr ⟨oX1_feed_88, List.forall_mem_cons.mpr ⟨oX1_feed_89, List.forall_mem_cons.mpr ⟨oX1_feed_90, List.forall_mem_cons.mpr ⟨oX1_feed_93, List.forall_mem_cons.mpr ⟨oX1_feed_94, List.forall_mem_cons.mpr ⟨oX1_feed_95, List.forall_mem_cons.mpr ⟨oX1_feed_96, List.forall_mem_cons.mpr ⟨oX1_feed_99, List.forall_mem_cons.mpr ⟨oX1_feed_101, List.forall_mem_cons.mpr ⟨oX1_feed_102, List.forall_mem_cons.mpr ⟨oX1_feed_103, List.forall_mem_cons.mpr ⟨oX1_feed_106, List.forall_mem_cons.mpr ⟨oX1_feed_109, List.forall_mem_cons.mpr ⟨oX1_feed_110, List.forall_mem_cons.mpr ⟨oX1_feed_113, fun _ h => absurd h List.not_mem_nil⟩⟩⟩⟩⟩⟩⟩⟩⟩⟩⟩⟩⟩⟩⟩⟩⟩⟩⟩⟩⟩⟩⟩⟩⟩⟩⟩⟩⟩⟩⟩⟩⟩⟩⟩⟩⟩⟩⟩⟩⟩⟩⟩⟩⟩⟩⟩⟩⟩⟩⟩⟩⟩⟩⟩⟩⟩⟩
def dkwX1_house_3 : List UInt8 := [180, 0, 95, 27, 1, 83, 132, 1, 1, 167, 255, 241, 3, 172]
abbrev dktX1_house_3 : List UInt8 := dkwX1_house_3 ++ []
def dkwX1_house_2 : List UInt8 := [3, 181, 0, 121, 42, 3, 181, 0, 124, 42, 3, 181, 0, 127, 3, 60, 27, 7, 162, 0, 16, 42]
abbrev dktX1_house_2 : List UInt8 := dkwX1_house_2 ++ dktX1_house_3
def dkwX1_house_1 : List UInt8 := [42, 180, 0, 51, 42, 180, 0, 35, 182, 0, 99, 42, 187, 0, 39, 89, 3, 183, 0, 41, 181, 0, 44, 42]
abbrev dktX1_house_1 : List UInt8 := dkwX1_house_1 ++ dktX1_house_2
def dkwX1_house_0 : List UInt8 := [42, 182, 0, 110, 42, 42, 180, 0, 28, 182, 0, 113, 181, 0, 35, 167, 0, 9, 76, 43, 180, 0, 118, 172]
abbrev dktX1_house_0 : List UInt8 := dkwX1_house_0 ++ dktX1_house_1
theorem dksX1_house_0 : bcX1_house.data.toList.drop 0 = dktX1_house_0 := by decide +kernel
theorem dksX1_house_1 : bcX1_house.data.toList.drop 24 = dktX1_house_1 := dk_seg dksX1_house_0 24 rfl rfl
theorem dksX1_house_2 : bcX1_house.data.toList.drop 48 = dktX1_house_2 := dk_seg dksX1_house_1 24 rfl rfl
theorem dksX1_house_3 : bcX1_house.data.toList.drop 70 = dktX1_house_3 := dk_seg dksX1_house_2 22 rfl rfl
theorem dX1_house_0 : decode bcX1_house 0 = .ok (.aload_n 0, 1) := dk_42 (dk_at dksX1_house_0 0 rfl rfl)
theorem dX1_house_1 : decode bcX1_house 1 = .ok (.invokevirtual 110, 3) := dk_182 0 110 (dk_at dksX1_house_0 1 rfl rfl)
theorem dX1_house_4 : decode bcX1_house 4 = .ok (.aload_n 0, 1) := dk_42 (dk_at dksX1_house_0 4 rfl rfl)
theorem dX1_house_5 : decode bcX1_house 5 = .ok (.aload_n 0, 1) := dk_42 (dk_at dksX1_house_0 5 rfl rfl)
theorem dX1_house_6 : decode bcX1_house 6 = .ok (.getfield 28, 3) := dk_180 0 28 (dk_at dksX1_house_0 6 rfl rfl)
theorem dX1_house_9 : decode bcX1_house 9 = .ok (.invokevirtual 113, 3) := dk_182 0 113 (dk_at dksX1_house_0 9 rfl rfl)
theorem dX1_house_12 : decode bcX1_house 12 = .ok (.putfield 35, 3) := dk_181 0 35 (dk_at dksX1_house_0 12 rfl rfl)
theorem dX1_house_15 : decode bcX1_house 15 = .ok (.goto 9, 3) := dk_167 0 9 (dk_at dksX1_house_0 15 rfl rfl)
theorem dX1_house_18 : decode bcX1_house 18 = .ok (.astore_n 1, 1) := dk_76 (dk_at dksX1_house_0 18 rfl rfl)
theorem dX1_house_19 : decode bcX1_house 19 = .ok (.aload_n 1, 1) := dk_43 (dk_at dksX1_house_0 19 rfl rfl)
theorem dX1_house_20 : decode bcX1_house 20 = .ok (.getfield 118, 3) := dk_180 0 118 (dk_at dksX1_house_0 20 rfl rfl)
theorem dX1_house_23 : decode bcX1_house 23 = .ok (.ireturn, 1) := dk_172 (dk_at dksX1_house_0 23 rfl rfl)
theorem dX1_house_24 : decode bcX1_house 24 = .ok (.aload_n 0, 1) := dk_42 (dk_at dksX1_house_1 0 rfl rfl)
theorem dX1_house_25 : decode bcX1_house 25 = .ok (.getfield 51, 3) := dk_180 0 51 (dk_at dksX1_house_1 1 rfl rfl)
theorem dX1_house_28 : decode bcX1_house 28 = .ok (.aload_n 0, 1) := dk_42 (dk_at dksX1_house_1 4 rfl rfl)
theorem dX1_house_29 : decode bcX1_house 29 = .ok (.getfield 35, 3) := dk_180 0 35 (dk_at dksX1_house_1 5 rfl rfl)
theorem dX1_house_32 : decode bcX1_house 32 = .ok (.invokevirtual 99, 3) := dk_182 0 99 (dk_at dksX1_house_1 8 rfl rfl)
theorem dX1_house_35 : decode bcX1_house 35 = .ok (.aload_n 0, 1) := dk_42 (dk_at dksX1_house_1 11 rfl rfl)
theorem dX1_house_36 : decode bcX1_house 36 = .ok (.new 39, 3) := dk_187 0 39 (dk_at dksX1_house_1 12 rfl rfl)
theorem dX1_house_39 : decode bcX1_house 39 = .ok (.dup, 1) := dk_89 (dk_at dksX1_house_1 15 rfl rfl)
theorem dX1_house_40 : decode bcX1_house 40 = .ok (.iconst 0, 1) := dk_3 (dk_at dksX1_house_1 16 rfl rfl)
theorem dX1_house_41 : decode bcX1_house 41 = .ok (.invokespecial 41, 3) := dk_183 0 41 (dk_at dksX1_house_1 17 rfl rfl)
theorem dX1_house_44 : decode bcX1_house 44 = .ok (.putfield 44, 3) := dk_181 0 44 (dk_at dksX1_house_1 20 rfl rfl)
theorem dX1_house_47 : decode bcX1_house 47 = .ok (.aload_n 0, 1) := dk_42 (dk_at dksX1_house_1 23 rfl rfl)
theorem dX1_house_48 : decode bcX1_house 48 = .ok (.iconst 0, 1) := dk_3 (dk_at dksX1_house_2 0 rfl rfl)
theorem dX1_house_49 : decode bcX1_house 49 = .ok (.putfield 121, 3) := dk_181 0 121 (dk_at dksX1_house_2 1 rfl rfl)
theorem dX1_house_52 : decode bcX1_house 52 = .ok (.aload_n 0, 1) := dk_42 (dk_at dksX1_house_2 4 rfl rfl)
theorem dX1_house_53 : decode bcX1_house 53 = .ok (.iconst 0, 1) := dk_3 (dk_at dksX1_house_2 5 rfl rfl)
theorem dX1_house_54 : decode bcX1_house 54 = .ok (.putfield 124, 3) := dk_181 0 124 (dk_at dksX1_house_2 6 rfl rfl)
theorem dX1_house_57 : decode bcX1_house 57 = .ok (.aload_n 0, 1) := dk_42 (dk_at dksX1_house_2 9 rfl rfl)
theorem dX1_house_58 : decode bcX1_house 58 = .ok (.iconst 0, 1) := dk_3 (dk_at dksX1_house_2 10 rfl rfl)
theorem dX1_house_59 : decode bcX1_house 59 = .ok (.putfield 127, 3) := dk_181 0 127 (dk_at dksX1_house_2 11 rfl rfl)
theorem dX1_house_62 : decode bcX1_house 62 = .ok (.iconst 0, 1) := dk_3 (dk_at dksX1_house_2 14 rfl rfl)
theorem dX1_house_63 : decode bcX1_house 63 = .ok (.istore_n 1, 1) := dk_60 (dk_at dksX1_house_2 15 rfl rfl)
theorem dX1_house_64 : decode bcX1_house 64 = .ok (.iload_n 1, 1) := dk_27 (dk_at dksX1_house_2 16 rfl rfl)
theorem dX1_house_65 : decode bcX1_house 65 = .ok (.iconst 4, 1) := dk_7 (dk_at dksX1_house_2 17 rfl rfl)
theorem dX1_house_66 : decode bcX1_house 66 = .ok (.if_icmp .ge 16, 3) := dk_162 0 16 (dk_at dksX1_house_2 18 rfl rfl)
theorem dX1_house_69 : decode bcX1_house 69 = .ok (.aload_n 0, 1) := dk_42 (dk_at dksX1_house_2 21 rfl rfl)
theorem dX1_house_70 : decode bcX1_house 70 = .ok (.getfield 95, 3) := dk_180 0 95 (dk_at dksX1_house_3 0 rfl rfl)
theorem dX1_house_73 : decode bcX1_house 73 = .ok (.iload_n 1, 1) := dk_27 (dk_at dksX1_house_3 3 rfl rfl)
theorem dX1_house_74 : decode bcX1_house 74 = .ok (.aconst_null, 1) := dk_1 (dk_at dksX1_house_3 4 rfl rfl)
theorem dX1_house_75 : decode bcX1_house 75 = .ok (.aastore, 1) := dk_83 (dk_at dksX1_house_3 5 rfl rfl)
theorem dX1_house_76 : decode bcX1_house 76 = .ok (.iinc 1 1, 3) := dk_132 1 1 (dk_at dksX1_house_3 6 rfl rfl)
theorem dX1_house_79 : decode bcX1_house 79 = .ok (.goto (-15), 3) := dk_167 255 241 (dk_at dksX1_house_3 9 rfl rfl)
theorem dX1_house_82 : decode bcX1_house 82 = .ok (.iconst 0, 1) := dk_3 (dk_at dksX1_house_3 12 rfl rfl)
theorem dX1_house_83 : decode bcX1_house 83 = .ok (.ireturn, 1) := dk_172 (dk_at dksX1_house_3 13 rfl rfl)
abbrev SX1_house (pc : Nat) (i : xI) : Prop := Snd "SwollenHouse" "house" prog_1_method_10_code 2 (Option.some Jvm.ClassFile.FieldType.int) [((4 : Nat), (15 : Nat), (18 : Nat), (116 : Nat))] pc i
theorem oX1_house_0 : SX1_house 0 (i_aload 0 1) := snd_aload_n dX1_house_0 rfl
theorem oX1_house_1 : SX1_house 1 (i_cvv 0 91 0 4) := snd_cvv rfl infX1_reads (by decide) rfl (xVm_V dX1_house_1 rfl q423 q425 qs0 q127 q426 pdX1_reads)
theorem oX1_house_4 : SX1_house 4 (i_aload 0 5) := snd_aload_n dX1_house_4 rfl
theorem oX1_house_5 : SX1_house 5 (i_aload 0 6) := snd_aload_n dX1_house_5 rfl
theorem oX1_house_6 : SX1_house 6 (i_getf 0 1 9) := snd_getf dX1_house_6 rfl (by decide) in_X1 (Or.inl q346) (Or.inl rfl) (by decide)
theorem oX1_house_9 : SX1_house 9 (i_cvh [5] 18 1 199 0 12) := snd_cvh rfl rfl (by decide) rfl q422 okch_5 infX2_house (by decide) rfl (xVm_V dX1_house_9 rfl q532 q533 q534 q128 q535 pdX2_house)
theorem oX1_house_12 : SX1_house 12 (i_putfr 0 2 15) := snd_putfr dX1_house_12 rfl (by decide) in_X1 tyX1 tyX1_ok nmX1 (Or.inl ⟨rfl, q348⟩) (Or.inl rfl) (Or.inl ⟨_, rfl⟩)
theorem oX1_house_15 : SX1_house 15 (i_goto 24) := snd_goto dX1_house_15 (by decide)
theorem oX1_house_18 : SX1_house 18 (i_astore 1 19) := snd_astore_n dX1_house_18 rfl (by decide)
theorem oX1_house_19 : SX1_house 19 (i_aload 1 20) := snd_aload_n dX1_house_19 rfl
theorem oX1_house_20 : SX1_house 20 (i_getf 5 6 23) := snd_getf dX1_house_20 rfl (by decide) in_X6 (Or.inr ⟨_, q620⟩) (Or.inl rfl) (by decide)
theorem oX1_house_23 : SX1_house 23 (i_iret) := snd_iret dX1_house_23 rfl
theorem oX1_house_24 : SX1_house 24 (i_aload 0 25) := snd_aload_n dX1_house_24 rfl
theorem oX1_house_25 : SX1_house 25 (i_getf 0 4 28) := snd_getf dX1_house_25 rfl (by decide) in_X1 (Or.inl q350) (Or.inl rfl) (by decide)
theorem oX1_house_28 : SX1_house 28 (i_aload 0 29) := snd_aload_n dX1_house_28 rfl
theorem oX1_house_29 : SX1_house 29 (i_getf 0 2 32) := snd_getf dX1_house_29 rfl (by decide) in_X1 (Or.inl q348) (Or.inl rfl) (by decide)
theorem oX1_house_32 : SX1_house 32 (i_cvv 3 237 1 35) := snd_cvv rfl infX4_begin (by decide) rfl (xVm_V dX1_house_32 rfl q319 q320 q321 q133 q322 pdX4_begin)
theorem oX1_house_35 : SX1_house 35 (i_aload 0 36) := snd_aload_n dX1_house_35 rfl
theorem oX1_house_36 : SX1_house 36 (i_new 21 3 zJ2 39) := snd_new dX1_house_36 rfl in_J2 tyJ2 tyJ2_ok (by decide) q280 q218 q132
theorem oX1_house_39 : SX1_house 39 (i_dup 40) := snd_dup dX1_house_39
theorem oX1_house_40 : SX1_house 40 (i_const (.int (nI 0)) 41) := snd_iconst dX1_house_40 (by decide)
theorem oX1_house_41 : SX1_house 41 (i_ci [21] 31 1 44) := snd_ci rfl infJ2_init (by decide) (xcls_ok _ (by decide)) (xIm_I dX1_house_41 rfl q281 q220 q132 q221 pdJ2_init)
theorem oX1_house_44 : SX1_house 44 (i_putfr 0 3 47) := snd_putfr dX1_house_44 rfl (by decide) in_X1 tyX1 tyX1_ok nmX1 (Or.inl ⟨rfl, q349⟩) (Or.inl rfl) (Or.inl ⟨_, rfl⟩)
theorem oX1_house_47 : SX1_house 47 (i_aload 0 48) := snd_aload_n dX1_house_47 rfl
theorem oX1_house_48 : SX1_house 48 (i_const (.int (nI 0)) 49) := snd_iconst dX1_house_48 (by decide)
theorem oX1_house_49 : SX1_house 49 (i_putfi 0 15 52) := snd_putfi dX1_house_49 rfl (by decide) in_X1 tyX1 tyX1_ok nmX1 (Or.inl ⟨rfl, q361⟩) (Or.inl rfl) rfl
theorem oX1_house_52 : SX1_house 52 (i_aload 0 53) := snd_aload_n dX1_house_52 rfl
theorem oX1_house_53 : SX1_house 53 (i_const (.int (nI 0)) 54) := snd_iconst dX1_house_53 (by decide)
theorem oX1_house_54 : SX1_house 54 (i_putfi 0 19 57) := snd_putfi dX1_house_54 rfl (by decide) in_X1 tyX1 tyX1_ok nmX1 (Or.inl ⟨rfl, q365⟩) (Or.inl rfl) rfl
theorem oX1_house_57 : SX1_house 57 (i_aload 0 58) := snd_aload_n dX1_house_57 rfl
theorem oX1_house_58 : SX1_house 58 (i_const (.int (nI 0)) 59) := snd_iconst dX1_house_58 (by decide)
theorem oX1_house_59 : SX1_house 59 (i_putfi 0 9 62) := snd_putfi dX1_house_59 rfl (by decide) in_X1 tyX1 tyX1_ok nmX1 (Or.inl ⟨rfl, q355⟩) (Or.inl rfl) rfl
theorem oX1_house_62 : SX1_house 62 (i_const (.int (nI 0)) 63) := snd_iconst dX1_house_62 (by decide)
theorem oX1_house_63 : SX1_house 63 (i_istore 1 64) := snd_istore_n dX1_house_63 rfl (by decide)
theorem oX1_house_64 : SX1_house 64 (i_iload 1 65) := snd_iload_n dX1_house_64 rfl
theorem oX1_house_65 : SX1_house 65 (i_const (.int (nI 4)) 66) := snd_iconst dX1_house_65 (by decide)
theorem oX1_house_66 : SX1_house 66 (i_if2 (fun x y => y ≤ x) 82 69) := snd_icmp_ge dX1_house_66 (by decide)
theorem oX1_house_69 : SX1_house 69 (i_aload 0 70) := snd_aload_n dX1_house_69 rfl
theorem oX1_house_70 : SX1_house 70 (i_getf 0 21 73) := snd_getf dX1_house_70 rfl (by decide) in_X1 (Or.inl q367) (Or.inl rfl) (by decide)
theorem oX1_house_73 : SX1_house 73 (i_iload 1 74) := snd_iload_n dX1_house_73 rfl
theorem oX1_house_74 : SX1_house 74 (i_const .null 75) := snd_null dX1_house_74
theorem oX1_house_75 : SX1_house 75 (i_sq [20] 7 76) := snd_sq dX1_house_75 (by decide) rfl okcs_7
theorem oX1_house_76 : SX1_house 76 (i_iinc 1 (nI 1) 79) := snd_iinc dX1_house_76 (by decide) (by decide)
theorem oX1_house_79 : SX1_house 79 (i_goto 64) := snd_goto dX1_house_79 (by decide)
theorem oX1_house_82 : SX1_house 82 (i_const (.int (nI 0)) 83) := snd_iconst dX1_house_82 (by decide)
theorem oX1_house_83 : SX1_house 83 (i_iret) := snd_iret dX1_house_83 rfl
theorem okX1_house : ∀ q ∈ cX1_house, SX1_house q.1 q.2 := List.forall_mem_cons.mpr ⟨oX1_house_0, List.forall_mem_cons.mpr ⟨oX1_house_1, List.forall_mem_cons.mpr ⟨oX1_house_4, List.forall_mem_cons.mpr ⟨oX1_house_5, List.forall_mem_cons.mpr ⟨oX1_house_6, List.forall_mem_cons.mpr ⟨oX1_house_9, List.forall_mem_cons.mpr ⟨oX1_house_12, List.forall_mem_cons.mpr ⟨oX1_house_15, List.forall_mem_cons.mpr ⟨oX1_house_18, List.forall_mem_cons.mpr ⟨oX1_house_19, List.forall_mem_cons.mpr ⟨oX1_house_20, List.forall_mem_cons.mpr ⟨oX1_house_23, List.forall_mem_cons.mpr ⟨oX1_house_24, List.forall_mem_cons.mpr ⟨oX1_house_25, List.forall_mem_cons.mpr ⟨oX1_house_28, List.forall_mem_cons.mpr ⟨oX1_house_29, List.forall_mem_cons.mpr ⟨oX1_house_32, List.forall_mem_cons.mpr ⟨oX1_house_35, List.forall_mem_cons.mpr ⟨oX1_house_36, List.forall_mem_cons.mpr ⟨oX1_house_39, List.forall_mem_cons.mpr ⟨oX1_house_40, List.forall_mem_cons.mpr ⟨oX1_house_41, List.forall_mem_cons.mpr ⟨oX1_house_44, List.forall_mem_cons.mpr ⟨oX1_house_47, List.forall_mem_cons.mpr ⟨oX1_house_48, List.forall_mem_cons.mpr ⟨oX1_house_49, List.forall_mem_cons.mpr ⟨oX1_house_52, List.forall_mem_cons.mpr ⟨oX1_house_53, List.forall_mem_cons.mpr ⟨oX1_house_54, List.forall_mem_cons.mpr ⟨oX1_house_57, List.forall_mem_cons.mpr ⟨oX1_house_58, List.forall_mem_cons.mpr ⟨oX1_house_59, List.forall_mem_cons.mpr ⟨oX1_house_62, List.forall_mem_cons.mpr ⟨oX1_house_63, List.forall_mem_cons.mpr ⟨oX1_house_64, List.forall_mem_cons.mpr ⟨oX1_house_65, List.forall_mem_cons.mpr ⟨oX1_house_66, List.forall_mem_cons.mpr ⟨oX1_house_69, List.forall_mem_cons.mpr ⟨oX1_house_70, List.forall_mem_cons.mpr ⟨oX1_house_73, List.forall_mem_cons.mpr ⟨oX1_house_74, List.forall_mem_cons.mpr ⟨oX1_house_75, List.forall_mem_cons.mpr ⟨oX1_house_76, List.forall_mem_cons.mpr ⟨oX1_house_79, List.forall_mem_cons.mpr ⟨oX1_house_82, List.forall_mem_cons.mpr ⟨oX1_house_83, fun _ h => absurd h List.not_mem_nil⟩⟩⟩⟩⟩⟩⟩⟩⟩⟩⟩⟩⟩⟩⟩⟩⟩⟩⟩⟩⟩⟩⟩⟩⟩⟩⟩⟩⟩⟩⟩⟩⟩⟩⟩⟩⟩⟩⟩⟩⟩⟩⟩⟩⟩⟩
def dkwX1_reads_0 : List UInt8 := [42, 180, 0, 28, 42, 180, 0, 21, 42, 180, 0, 103, 182, 0, 107, 42, 3, 181, 0, 103, 177]
abbrev dktX1_reads_0 : List UInt8 := dkwX1_reads_0 ++ []
theorem dksX1_reads_0 : bcX1_reads.data.toList.drop 0 = dktX1_reads_0 := by decide +kernel
theorem dX1_reads_0 : decode bcX1_reads 0 = .ok (.aload_n 0, 1) := dk_42 (dk_at dksX1_reads_0 0 rfl rfl)
theorem dX1_reads_1 : decode bcX1_reads 1 = .ok (.getfield 28, 3) := dk_180 0 28 (dk_at dksX1_reads_0 1 rfl rfl)
theorem dX1_reads_4 : decode bcX1_reads 4 = .ok (.aload_n 0, 1) := dk_42 (dk_at dksX1_reads_0 4 rfl rfl)
theorem dX1_reads_5 : decode bcX1_reads 5 = .ok (.getfield 21, 3) := dk_180 0 21 (dk_at dksX1_reads_0 5 rfl rfl)
theorem dX1_reads_8 : decode bcX1_reads 8 = .ok (.aload_n 0, 1) := dk_42 (dk_at dksX1_reads_0 8 rfl rfl)
theorem dX1_reads_9 : decode bcX1_reads 9 = .ok (.getfield 103, 3) := dk_180 0 103 (dk_at dksX1_reads_0 9 rfl rfl)
theorem dX1_reads_12 : decode bcX1_reads 12 = .ok (.invokevirtual 107, 3) := dk_182 0 107 (dk_at dksX1_reads_0 12 rfl rfl)
theorem dX1_reads_15 : decode bcX1_reads 15 = .ok (.aload_n 0, 1) := dk_42 (dk_at dksX1_reads_0 15 rfl rfl)
theorem dX1_reads_16 : decode bcX1_reads 16 = .ok (.iconst 0, 1) := dk_3 (dk_at dksX1_reads_0 16 rfl rfl)
theorem dX1_reads_17 : decode bcX1_reads 17 = .ok (.putfield 103, 3) := dk_181 0 103 (dk_at dksX1_reads_0 17 rfl rfl)
theorem dX1_reads_20 : decode bcX1_reads 20 = .ok (.return_, 1) := dk_177 (dk_at dksX1_reads_0 20 rfl rfl)
abbrev SX1_reads (pc : Nat) (i : xI) : Prop := Snd "SwollenHouse" "reads" prog_1_method_9_code 1 (Option.none : Option Jvm.ClassFile.FieldType) [] pc i
theorem oX1_reads_0 : SX1_reads 0 (i_aload 0 1) := snd_aload_n dX1_reads_0 rfl
theorem oX1_reads_1 : SX1_reads 1 (i_getf 0 1 4) := snd_getf dX1_reads_1 rfl (by decide) in_X1 (Or.inl q346) (Or.inl rfl) (by decide)
theorem oX1_reads_4 : SX1_reads 4 (i_aload 0 5) := snd_aload_n dX1_reads_4 rfl
theorem oX1_reads_5 : SX1_reads 5 (i_getf 0 0 8) := snd_getf dX1_reads_5 rfl (by decide) in_X1 (Or.inl q345) (Or.inl rfl) (by decide)
theorem oX1_reads_8 : SX1_reads 8 (i_aload 0 9) := snd_aload_n dX1_reads_8 rfl
theorem oX1_reads_9 : SX1_reads 9 (i_getf 0 7 12) := snd_getf dX1_reads_9 rfl (by decide) in_X1 (Or.inl q353) (Or.inl rfl) (by decide)
theorem oX1_reads_12 : SX1_reads 12 (i_cvv 1 194 2 15) := snd_cvv rfl infX2_begin (by decide) rfl (xVm_V dX1_reads_12 rfl q427 q428 q429 q128 q430 pdX2_begin)
theorem oX1_reads_15 : SX1_reads 15 (i_aload 0 16) := snd_aload_n dX1_reads_15 rfl
theorem oX1_reads_16 : SX1_reads 16 (i_const (.int (nI 0)) 17) := snd_iconst dX1_reads_16 (by decide)
theorem oX1_reads_17 : SX1_reads 17 (i_putfi 0 7 20) := snd_putfi dX1_reads_17 rfl (by decide) in_X1 tyX1 tyX1_ok nmX1 (Or.inl ⟨rfl, q353⟩) (Or.inl rfl) rfl
theorem oX1_reads_20 : SX1_reads 20 (i_vret) := snd_vret dX1_reads_20 rfl
theorem okX1_reads : ∀ q ∈ cX1_reads, SX1_reads q.1 q.2 := List.forall_mem_cons.mpr ⟨oX1_reads_0, List.forall_mem_cons.mpr ⟨oX1_reads_1, List.forall_mem_cons.mpr ⟨oX1_reads_4, List.forall_mem_cons.mpr ⟨oX1_reads_5, List.forall_mem_cons.mpr ⟨oX1_reads_8, List.forall_mem_cons.mpr ⟨oX1_reads_9, List.forall_mem_cons.mpr ⟨oX1_reads_12, List.forall_mem_cons.mpr ⟨oX1_reads_15, List.forall_mem_cons.mpr ⟨oX1_reads_16, List.forall_mem_cons.mpr ⟨oX1_reads_17, List.forall_mem_cons.mpr ⟨oX1_reads_20, fun _ h => absurd h List.not_mem_nil⟩⟩⟩⟩⟩⟩⟩⟩⟩⟩⟩
def dkwX1_in_0 : List UInt8 := [26, 27, 161, 0, 12, 26, 28, 163, 0, 7, 4, 167, 0, 4, 3, 172]
abbrev dktX1_in_0 : List UInt8 := dkwX1_in_0 ++ []
theorem dksX1_in_0 : bcX1_in.data.toList.drop 0 = dktX1_in_0 := by decide +kernel
theorem dX1_in_0 : decode bcX1_in 0 = .ok (.iload_n 0, 1) := dk_26 (dk_at dksX1_in_0 0 rfl rfl)
theorem dX1_in_1 : decode bcX1_in 1 = .ok (.iload_n 1, 1) := dk_27 (dk_at dksX1_in_0 1 rfl rfl)
theorem dX1_in_2 : decode bcX1_in 2 = .ok (.if_icmp .lt 12, 3) := dk_161 0 12 (dk_at dksX1_in_0 2 rfl rfl)
theorem dX1_in_5 : decode bcX1_in 5 = .ok (.iload_n 0, 1) := dk_26 (dk_at dksX1_in_0 5 rfl rfl)
theorem dX1_in_6 : decode bcX1_in 6 = .ok (.iload_n 2, 1) := dk_28 (dk_at dksX1_in_0 6 rfl rfl)
theorem dX1_in_7 : decode bcX1_in 7 = .ok (.if_icmp .gt 7, 3) := dk_163 0 7 (dk_at dksX1_in_0 7 rfl rfl)
theorem dX1_in_10 : decode bcX1_in 10 = .ok (.iconst 1, 1) := dk_4 (dk_at dksX1_in_0 10 rfl rfl)
theorem dX1_in_11 : decode bcX1_in 11 = .ok (.goto 4, 3) := dk_167 0 4 (dk_at dksX1_in_0 11 rfl rfl)
theorem dX1_in_14 : decode bcX1_in 14 = .ok (.iconst 0, 1) := dk_3 (dk_at dksX1_in_0 14 rfl rfl)
theorem dX1_in_15 : decode bcX1_in 15 = .ok (.ireturn, 1) := dk_172 (dk_at dksX1_in_0 15 rfl rfl)
abbrev SX1_in (pc : Nat) (i : xI) : Prop := Snd "SwollenHouse" "in" prog_1_method_1_code 3 (Option.some Jvm.ClassFile.FieldType.boolean) [] pc i
theorem oX1_in_0 : SX1_in 0 (i_iload 0 1) := snd_iload_n dX1_in_0 rfl
theorem oX1_in_1 : SX1_in 1 (i_iload 1 2) := snd_iload_n dX1_in_1 rfl
theorem oX1_in_2 : SX1_in 2 (i_if2 (fun x y => x < y) 14 5) := snd_icmp_lt dX1_in_2 (by decide)
theorem oX1_in_5 : SX1_in 5 (i_iload 0 6) := snd_iload_n dX1_in_5 rfl
theorem oX1_in_6 : SX1_in 6 (i_iload 2 7) := snd_iload_n dX1_in_6 rfl
theorem oX1_in_7 : SX1_in 7 (i_if2 (fun x y => y < x) 14 10) := snd_icmp_gt dX1_in_7 (by decide)
theorem oX1_in_10 : SX1_in 10 (i_const (.int (nI 1)) 11) := snd_iconst dX1_in_10 (by decide)
theorem oX1_in_11 : SX1_in 11 (i_goto 15) := snd_goto dX1_in_11 (by decide)
theorem oX1_in_14 : SX1_in 14 (i_const (.int (nI 0)) 15) := snd_iconst dX1_in_14 (by decide)
theorem oX1_in_15 : SX1_in 15 (i_zret) := snd_zret dX1_in_15 rfl
theorem okX1_in : ∀ q ∈ cX1_in, SX1_in q.1 q.2 := List.forall_mem_cons.mpr ⟨oX1_in_0, List.forall_mem_cons.mpr ⟨oX1_in_1, List.forall_mem_cons.mpr ⟨oX1_in_2, List.forall_mem_cons.mpr ⟨oX1_in_5, List.forall_mem_cons.mpr ⟨oX1_in_6, List.forall_mem_cons.mpr ⟨oX1_in_7, List.forall_mem_cons.mpr ⟨oX1_in_10, List.forall_mem_cons.mpr ⟨oX1_in_11, List.forall_mem_cons.mpr ⟨oX1_in_14, List.forall_mem_cons.mpr ⟨oX1_in_15, fun _ h => absurd h List.not_mem_nil⟩⟩⟩⟩⟩⟩⟩⟩⟩⟩
def dkwX1_days_1 : List UInt8 := [180, 0, 118, 172, 3, 172]
abbrev dktX1_days_1 : List UInt8 := dkwX1_days_1 ++ []
def dkwX1_days_0 : List UInt8 := [42, 182, 0, 110, 42, 42, 180, 0, 28, 42, 180, 0, 35, 182, 0, 130, 181, 0, 44, 167, 0, 9, 76, 43]
abbrev dktX1_days_0 : List UInt8 := dkwX1_days_0 ++ dktX1_days_1
theorem dksX1_days_0 : bcX1_days.data.toList.drop 0 = dktX1_days_0 := by decide +kernel
theorem dksX1_days_1 : bcX1_days.data.toList.drop 24 = dktX1_days_1 := dk_seg dksX1_days_0 24 rfl rfl
theorem dX1_days_0 : decode bcX1_days 0 = .ok (.aload_n 0, 1) := dk_42 (dk_at dksX1_days_0 0 rfl rfl)
theorem dX1_days_1 : decode bcX1_days 1 = .ok (.invokevirtual 110, 3) := dk_182 0 110 (dk_at dksX1_days_0 1 rfl rfl)
theorem dX1_days_4 : decode bcX1_days 4 = .ok (.aload_n 0, 1) := dk_42 (dk_at dksX1_days_0 4 rfl rfl)
theorem dX1_days_5 : decode bcX1_days 5 = .ok (.aload_n 0, 1) := dk_42 (dk_at dksX1_days_0 5 rfl rfl)
theorem dX1_days_6 : decode bcX1_days 6 = .ok (.getfield 28, 3) := dk_180 0 28 (dk_at dksX1_days_0 6 rfl rfl)
theorem dX1_days_9 : decode bcX1_days 9 = .ok (.aload_n 0, 1) := dk_42 (dk_at dksX1_days_0 9 rfl rfl)
theorem dX1_days_10 : decode bcX1_days 10 = .ok (.getfield 35, 3) := dk_180 0 35 (dk_at dksX1_days_0 10 rfl rfl)
theorem dX1_days_13 : decode bcX1_days 13 = .ok (.invokevirtual 130, 3) := dk_182 0 130 (dk_at dksX1_days_0 13 rfl rfl)
theorem dX1_days_16 : decode bcX1_days 16 = .ok (.putfield 44, 3) := dk_181 0 44 (dk_at dksX1_days_0 16 rfl rfl)
theorem dX1_days_19 : decode bcX1_days 19 = .ok (.goto 9, 3) := dk_167 0 9 (dk_at dksX1_days_0 19 rfl rfl)
theorem dX1_days_22 : decode bcX1_days 22 = .ok (.astore_n 1, 1) := dk_76 (dk_at dksX1_days_0 22 rfl rfl)
theorem dX1_days_23 : decode bcX1_days 23 = .ok (.aload_n 1, 1) := dk_43 (dk_at dksX1_days_0 23 rfl rfl)
theorem dX1_days_24 : decode bcX1_days 24 = .ok (.getfield 118, 3) := dk_180 0 118 (dk_at dksX1_days_1 0 rfl rfl)
theorem dX1_days_27 : decode bcX1_days 27 = .ok (.ireturn, 1) := dk_172 (dk_at dksX1_days_1 3 rfl rfl)
theorem dX1_days_28 : decode bcX1_days 28 = .ok (.iconst 0, 1) := dk_3 (dk_at dksX1_days_1 4 rfl rfl)
theorem dX1_days_29 : decode bcX1_days 29 = .ok (.ireturn, 1) := dk_172 (dk_at dksX1_days_1 5 rfl rfl)
abbrev SX1_days (pc : Nat) (i : xI) : Prop := Snd "SwollenHouse" "days" prog_1_method_11_code 2 (Option.some Jvm.ClassFile.FieldType.int) [((4 : Nat), (19 : Nat), (22 : Nat), (116 : Nat))] pc i
theorem oX1_days_0 : SX1_days 0 (i_aload 0 1) := snd_aload_n dX1_days_0 rfl
theorem oX1_days_1 : SX1_days 1 (i_cvv 0 91 0 4) := snd_cvv rfl infX1_reads (by decide) rfl (xVm_V dX1_days_1 rfl q423 q425 qs0 q127 q426 pdX1_reads)
theorem oX1_days_4 : SX1_days 4 (i_aload 0 5) := snd_aload_n dX1_days_4 rfl
theorem oX1_days_5 : SX1_days 5 (i_aload 0 6) := snd_aload_n dX1_days_5 rfl
theorem oX1_days_6 : SX1_days 6 (i_getf 0 1 9) := snd_getf dX1_days_6 rfl (by decide) in_X1 (Or.inl q346) (Or.inl rfl) (by decide)
theorem oX1_days_9 : SX1_days 9 (i_aload 0 10) := snd_aload_n dX1_days_9 rfl
theorem oX1_days_10 : SX1_days 10 (i_getf 0 2 13) := snd_getf dX1_days_10 rfl (by decide) in_X1 (Or.inl q348) (Or.inl rfl) (by decide)
theorem oX1_days_13 : SX1_days 13 (i_cvh [5] 22 1 221 1 16) := snd_cvh rfl rfl (by decide) rfl q422 okch_5 infX2_days (by decide) rfl (xVm_V dX1_days_13 rfl q1068 q1069 q1070 q128 q1071 pdX2_days)
theorem oX1_days_16 : SX1_days 16 (i_putfr 0 3 19) := snd_putfr dX1_days_16 rfl (by decide) in_X1 tyX1 tyX1_ok nmX1 (Or.inl ⟨rfl, q349⟩) (Or.inl rfl) (Or.inl ⟨_, rfl⟩)
theorem oX1_days_19 : SX1_days 19 (i_goto 28) := snd_goto dX1_days_19 (by decide)
theorem oX1_days_22 : SX1_days 22 (i_astore 1 23) := snd_astore_n dX1_days_22 rfl (by decide)
theorem oX1_days_23 : SX1_days 23 (i_aload 1 24) := snd_aload_n dX1_days_23 rfl
theorem oX1_days_24 : SX1_days 24 (i_getf 5 6 27) := snd_getf dX1_days_24 rfl (by decide) in_X6 (Or.inr ⟨_, q620⟩) (Or.inl rfl) (by decide)
theorem oX1_days_27 : SX1_days 27 (i_iret) := snd_iret dX1_days_27 rfl
theorem oX1_days_28 : SX1_days 28 (i_const (.int (nI 0)) 29) := snd_iconst dX1_days_28 (by decide)
theorem oX1_days_29 : SX1_days 29 (i_iret) := snd_iret dX1_days_29 rfl
theorem okX1_days : ∀ q ∈ cX1_days, SX1_days q.1 q.2 := List.forall_mem_cons.mpr ⟨oX1_days_0, List.forall_mem_cons.mpr ⟨oX1_days_1, List.forall_mem_cons.mpr ⟨oX1_days_4, List.forall_mem_cons.mpr ⟨oX1_days_5, List.forall_mem_cons.mpr ⟨oX1_days_6, List.forall_mem_cons.mpr ⟨oX1_days_9, List.forall_mem_cons.mpr ⟨oX1_days_10, List.forall_mem_cons.mpr ⟨oX1_days_13, List.forall_mem_cons.mpr ⟨oX1_days_16, List.forall_mem_cons.mpr ⟨oX1_days_19, List.forall_mem_cons.mpr ⟨oX1_days_22, List.forall_mem_cons.mpr ⟨oX1_days_23, List.forall_mem_cons.mpr ⟨oX1_days_24, List.forall_mem_cons.mpr ⟨oX1_days_27, List.forall_mem_cons.mpr ⟨oX1_days_28, List.forall_mem_cons.mpr ⟨oX1_days_29, fun _ h => absurd h List.not_mem_nil⟩⟩⟩⟩⟩⟩⟩⟩⟩⟩⟩⟩⟩⟩⟩⟩
def dkwX1_door_5 : List UInt8 := [153, 0, 7, 4, 167, 0, 4, 3, 172, 16, 254, 172]
abbrev dktX1_door_5 : List UInt8 := dkwX1_door_5 ++ []
def dkwX1_door_4 : List UInt8 := [27, 46, 172, 42, 180, 0, 51, 180, 0, 247, 27, 122, 4, 126, 172, 42, 180, 0, 51, 27, 182, 0, 219]
abbrev dktX1_door_4 : List UInt8 := dkwX1_door_4 ++ dktX1_door_5
def dkwX1_door_3 : List UInt8 := [180, 0, 167, 182, 0, 244, 172, 42, 180, 0, 51, 180, 0, 195, 27, 46, 172, 42, 180, 0, 51, 180, 0, 176]
abbrev dktX1_door_3 : List UInt8 := dkwX1_door_3 ++ dktX1_door_4
def dkwX1_door_2 : List UInt8 := [42, 27, 182, 0, 163, 180, 0, 238, 172, 42, 27, 182, 0, 163, 180, 0, 241, 172, 42, 27, 182, 0, 163]
abbrev dktX1_door_2 : List UInt8 := dkwX1_door_2 ++ dktX1_door_3
def dkwX1_door_1 : List UInt8 := [170, 0, 0, 0, 0, 0, 0, 123, 0, 0, 0, 0, 0, 0, 0, 6, 0, 0, 0, 44, 0, 0, 0, 53, 0, 0, 0, 62, 0, 0, 0, 74, 0, 0, 0, 84, 0, 0, 0, 94, 0, 0, 0, 106]
abbrev dktX1_door_1 : List UInt8 := dkwX1_door_1 ++ dktX1_door_2
def dkwX1_door_0 : List UInt8 := [42, 27, 182, 0, 226, 154, 0, 6, 16, 254, 172, 28]
abbrev dktX1_door_0 : List UInt8 := dkwX1_door_0 ++ dktX1_door_1
theorem dksX1_door_0 : bcX1_door.data.toList.drop 0 = dktX1_door_0 := by decide +kernel
theorem dksX1_door_1 : bcX1_door.data.toList.drop 12 = dktX1_door_1 := dk_seg dksX1_door_0 12 rfl rfl
theorem dksX1_door_2 : bcX1_door.data.toList.drop 56 = dktX1_door_2 := dk_seg dksX1_door_1 44 rfl rfl
theorem dksX1_door_3 : bcX1_door.data.toList.drop 79 = dktX1_door_3 := dk_seg dksX1_door_2 23 rfl rfl
theorem dksX1_door_4 : bcX1_door.data.toList.drop 103 = dktX1_door_4 := dk_seg dksX1_door_3 24 rfl rfl
theorem dksX1_door_5 : bcX1_door.data.toList.drop 126 = dktX1_door_5 := dk_seg dksX1_door_4 23 rfl rfl
theorem dX1_door_0 : decode bcX1_door 0 = .ok (.aload_n 0, 1) := dk_42 (dk_at dksX1_door_0 0 rfl rfl)
theorem dX1_door_1 : decode bcX1_door 1 = .ok (.iload_n 1, 1) := dk_27 (dk_at dksX1_door_0 1 rfl rfl)
theorem dX1_door_2 : decode bcX1_door 2 = .ok (.invokevirtual 226, 3) := dk_182 0 226 (dk_at dksX1_door_0 2 rfl rfl)
theorem dX1_door_5 : decode bcX1_door 5 = .ok (.ifCond .ne 6, 3) := dk_154 0 6 (dk_at dksX1_door_0 5 rfl rfl)
theorem dX1_door_8 : decode bcX1_door 8 = .ok (.bipush (-2), 2) := dk_16 254 (dk_at dksX1_door_0 8 rfl rfl)
theorem dX1_door_10 : decode bcX1_door 10 = .ok (.ireturn, 1) := dk_172 (dk_at dksX1_door_0 10 rfl rfl)
theorem dX1_door_11 : decode bcX1_door 11 = .ok (.iload_n 2, 1) := dk_28 (dk_at dksX1_door_0 11 rfl rfl)
theorem dX1_door_12 : decode bcX1_door 12 = .ok (.tableswitch 123 0 6 #[44, 53, 62, 74, 84, 94, 106], 44) := by decide +kernel
theorem dX1_door_56 : decode bcX1_door 56 = .ok (.aload_n 0, 1) := dk_42 (dk_at dksX1_door_2 0 rfl rfl)
theorem dX1_door_57 : decode bcX1_door 57 = .ok (.iload_n 1, 1) := dk_27 (dk_at dksX1_door_2 1 rfl rfl)
theorem dX1_door_58 : decode bcX1_door 58 = .ok (.invokevirtual 163, 3) := dk_182 0 163 (dk_at dksX1_door_2 2 rfl rfl)
theorem dX1_door_61 : decode bcX1_door 61 = .ok (.getfield 238, 3) := dk_180 0 238 (dk_at dksX1_door_2 5 rfl rfl)
theorem dX1_door_64 : decode bcX1_door 64 = .ok (.ireturn, 1) := dk_172 (dk_at dksX1_door_2 8 rfl rfl)
theorem dX1_door_65 : decode bcX1_door 65 = .ok (.aload_n 0, 1) := dk_42 (dk_at dksX1_door_2 9 rfl rfl)
theorem dX1_door_66 : decode bcX1_door 66 = .ok (.iload_n 1, 1) := dk_27 (dk_at dksX1_door_2 10 rfl rfl)
theorem dX1_door_67 : decode bcX1_door 67 = .ok (.invokevirtual 163, 3) := dk_182 0 163 (dk_at dksX1_door_2 11 rfl rfl)
theorem dX1_door_70 : decode bcX1_door 70 = .ok (.getfield 241, 3) := dk_180 0 241 (dk_at dksX1_door_2 14 rfl rfl)
theorem dX1_door_73 : decode bcX1_door 73 = .ok (.ireturn, 1) := dk_172 (dk_at dksX1_door_2 17 rfl rfl)
theorem dX1_door_74 : decode bcX1_door 74 = .ok (.aload_n 0, 1) := dk_42 (dk_at dksX1_door_2 18 rfl rfl)
theorem dX1_door_75 : decode bcX1_door 75 = .ok (.iload_n 1, 1) := dk_27 (dk_at dksX1_door_2 19 rfl rfl)
theorem dX1_door_76 : decode bcX1_door 76 = .ok (.invokevirtual 163, 3) := dk_182 0 163 (dk_at dksX1_door_2 20 rfl rfl)
theorem dX1_door_79 : decode bcX1_door 79 = .ok (.getfield 167, 3) := dk_180 0 167 (dk_at dksX1_door_3 0 rfl rfl)
theorem dX1_door_82 : decode bcX1_door 82 = .ok (.invokevirtual 244, 3) := dk_182 0 244 (dk_at dksX1_door_3 3 rfl rfl)
theorem dX1_door_85 : decode bcX1_door 85 = .ok (.ireturn, 1) := dk_172 (dk_at dksX1_door_3 6 rfl rfl)
theorem dX1_door_86 : decode bcX1_door 86 = .ok (.aload_n 0, 1) := dk_42 (dk_at dksX1_door_3 7 rfl rfl)
theorem dX1_door_87 : decode bcX1_door 87 = .ok (.getfield 51, 3) := dk_180 0 51 (dk_at dksX1_door_3 8 rfl rfl)
theorem dX1_door_90 : decode bcX1_door 90 = .ok (.getfield 195, 3) := dk_180 0 195 (dk_at dksX1_door_3 11 rfl rfl)
theorem dX1_door_93 : decode bcX1_door 93 = .ok (.iload_n 1, 1) := dk_27 (dk_at dksX1_door_3 14 rfl rfl)
theorem dX1_door_94 : decode bcX1_door 94 = .ok (.iaload, 1) := dk_46 (dk_at dksX1_door_3 15 rfl rfl)
theorem dX1_door_95 : decode bcX1_door 95 = .ok (.ireturn, 1) := dk_172 (dk_at dksX1_door_3 16 rfl rfl)
theorem dX1_door_96 : decode bcX1_door 96 = .ok (.aload_n 0, 1) := dk_42 (dk_at dksX1_door_3 17 rfl rfl)
theorem dX1_door_97 : decode bcX1_door 97 = .ok (.getfield 51, 3) := dk_180 0 51 (dk_at dksX1_door_3 18 rfl rfl)
theorem dX1_door_100 : decode bcX1_door 100 = .ok (.getfield 176, 3) := dk_180 0 176 (dk_at dksX1_door_3 21 rfl rfl)
theorem dX1_door_103 : decode bcX1_door 103 = .ok (.iload_n 1, 1) := dk_27 (dk_at dksX1_door_4 0 rfl rfl)
theorem dX1_door_104 : decode bcX1_door 104 = .ok (.iaload, 1) := dk_46 (dk_at dksX1_door_4 1 rfl rfl)
theorem dX1_door_105 : decode bcX1_door 105 = .ok (.ireturn, 1) := dk_172 (dk_at dksX1_door_4 2 rfl rfl)
theorem dX1_door_106 : decode bcX1_door 106 = .ok (.aload_n 0, 1) := dk_42 (dk_at dksX1_door_4 3 rfl rfl)
theorem dX1_door_107 : decode bcX1_door 107 = .ok (.getfield 51, 3) := dk_180 0 51 (dk_at dksX1_door_4 4 rfl rfl)
theorem dX1_door_110 : decode bcX1_door 110 = .ok (.getfield 247, 3) := dk_180 0 247 (dk_at dksX1_door_4 7 rfl rfl)
theorem dX1_door_113 : decode bcX1_door 113 = .ok (.iload_n 1, 1) := dk_27 (dk_at dksX1_door_4 10 rfl rfl)
theorem dX1_door_114 : decode bcX1_door 114 = .ok (.ishr, 1) := dk_122 (dk_at dksX1_door_4 11 rfl rfl)
theorem dX1_door_115 : decode bcX1_door 115 = .ok (.iconst 1, 1) := dk_4 (dk_at dksX1_door_4 12 rfl rfl)
theorem dX1_door_116 : decode bcX1_door 116 = .ok (.iand, 1) := dk_126 (dk_at dksX1_door_4 13 rfl rfl)
theorem dX1_door_117 : decode bcX1_door 117 = .ok (.ireturn, 1) := dk_172 (dk_at dksX1_door_4 14 rfl rfl)
theorem dX1_door_118 : decode bcX1_door 118 = .ok (.aload_n 0, 1) := dk_42 (dk_at dksX1_door_4 15 rfl rfl)
theorem dX1_door_119 : decode bcX1_door 119 = .ok (.getfield 51, 3) := dk_180 0 51 (dk_at dksX1_door_4 16 rfl rfl)
theorem dX1_door_122 : decode bcX1_door 122 = .ok (.iload_n 1, 1) := dk_27 (dk_at dksX1_door_4 19 rfl rfl)
theorem dX1_door_123 : decode bcX1_door 123 = .ok (.invokevirtual 219, 3) := dk_182 0 219 (dk_at dksX1_door_4 20 rfl rfl)
theorem dX1_door_126 : decode bcX1_door 126 = .ok (.ifCond .eq 7, 3) := dk_153 0 7 (dk_at dksX1_door_5 0 rfl rfl)
theorem dX1_door_129 : decode bcX1_door 129 = .ok (.iconst 1, 1) := dk_4 (dk_at dksX1_door_5 3 rfl rfl)
theorem dX1_door_130 : decode bcX1_door 130 = .ok (.goto 4, 3) := dk_167 0 4 (dk_at dksX1_door_5 4 rfl rfl)
theorem dX1_door_133 : decode bcX1_door 133 = .ok (.iconst 0, 1) := dk_3 (dk_at dksX1_door_5 7 rfl rfl)
theorem dX1_door_134 : decode bcX1_door 134 = .ok (.ireturn, 1) := dk_172 (dk_at dksX1_door_5 8 rfl rfl)
theorem dX1_door_135 : decode bcX1_door 135 = .ok (.bipush (-2), 2) := dk_16 254 (dk_at dksX1_door_5 9 rfl rfl)
theorem dX1_door_137 : decode bcX1_door 137 = .ok (.ireturn, 1) := dk_172 (dk_at dksX1_door_5 11 rfl rfl)
abbrev SX1_door (pc : Nat) (i : xI) : Prop := Snd "SwollenHouse" "door" prog_1_method_27_code 3 (Option.some Jvm.ClassFile.FieldType.int) [] pc i
theorem oX1_door_0 : SX1_door 0 (i_aload 0 1) := snd_aload_n dX1_door_0 rfl
theorem oX1_door_1 : SX1_door 1 (i_iload 1 2) := snd_iload_n dX1_door_1 rfl
theorem oX1_door_2 : SX1_door 2 (i_cv 0 95 1 5) := snd_cv rfl infX1_isDoor (by decide) rfl (xVm_V dX1_door_2 rfl q1136 q1138 qs29 q127 q1139 pdX1_isDoor)
theorem oX1_door_5 : SX1_door 5 (i_if1 (fun x => ¬ x = 0) 11 8) := snd_if_ne dX1_door_5 (by decide)
theorem oX1_door_8 : SX1_door 8 (i_const (.int (-2)) 10) := snd_bipush dX1_door_8 (by decide)
theorem oX1_door_10 : SX1_door 10 (i_iret) := snd_iret dX1_door_10 rfl
theorem oX1_door_11 : SX1_door 11 (i_iload 2 12) := snd_iload_n dX1_door_11 rfl
theorem oX1_door_12 : SX1_door 12 (i_tsw 0 [56, 65, 74, 86, 96, 106, 118] 135) := snd_tsw dX1_door_12 (by decide) (by decide) (by decide)
theorem oX1_door_56 : SX1_door 56 (i_aload 0 57) := snd_aload_n dX1_door_56 rfl
theorem oX1_door_57 : SX1_door 57 (i_iload 1 58) := snd_iload_n dX1_door_57 rfl
theorem oX1_door_58 : SX1_door 58 (i_cv 0 97 1 61) := snd_cv rfl infX1_door_2 (by decide) rfl (xVm_V dX1_door_58 rfl q1146 q1148 qs31 q127 q1149 pdX1_door_2)
theorem oX1_door_61 : SX1_door 61 (i_getf 6 0 64) := snd_getf dX1_door_61 rfl (by decide) in_X7 (Or.inr ⟨_, q911⟩) (Or.inl rfl) (by decide)
theorem oX1_door_64 : SX1_door 64 (i_iret) := snd_iret dX1_door_64 rfl
theorem oX1_door_65 : SX1_door 65 (i_aload 0 66) := snd_aload_n dX1_door_65 rfl
theorem oX1_door_66 : SX1_door 66 (i_iload 1 67) := snd_iload_n dX1_door_66 rfl
theorem oX1_door_67 : SX1_door 67 (i_cv 0 97 1 70) := snd_cv rfl infX1_door_2 (by decide) rfl (xVm_V dX1_door_67 rfl q1146 q1148 qs31 q127 q1149 pdX1_door_2)
theorem oX1_door_70 : SX1_door 70 (i_getf 6 1 73) := snd_getf dX1_door_70 rfl (by decide) in_X7 (Or.inr ⟨_, q913⟩) (Or.inl rfl) (by decide)
theorem oX1_door_73 : SX1_door 73 (i_iret) := snd_iret dX1_door_73 rfl
theorem oX1_door_74 : SX1_door 74 (i_aload 0 75) := snd_aload_n dX1_door_74 rfl
theorem oX1_door_75 : SX1_door 75 (i_iload 1 76) := snd_iload_n dX1_door_75 rfl
theorem oX1_door_76 : SX1_door 76 (i_cv 0 97 1 79) := snd_cv rfl infX1_door_2 (by decide) rfl (xVm_V dX1_door_76 rfl q1146 q1148 qs31 q127 q1149 pdX1_door_2)
theorem oX1_door_79 : SX1_door 79 (i_getf 6 2 82) := snd_getf dX1_door_79 rfl (by decide) in_X7 (Or.inr ⟨_, q914⟩) (Or.inl rfl) (by decide)
theorem oX1_door_82 : SX1_door 82 (i_ca [(7, 372), (8, 167), (9, 172), (10, 177)] 0 85) := snd_ca rfl (lk_cons ⟨_, _, _, _, _, _, infX9_kind, by decide, rfl, xVm_A dX1_door_82 q1152 q1154 q1161 q1162 q153 q1163 q1153 pdx0⟩ (lk_cons ⟨_, _, _, _, _, _, infX10_kind, by decide, rfl, xVm_A dX1_door_82 q1152 q1154 q1164 q1165 q154 q1166 q1153 pdx0⟩ (lk_cons ⟨_, _, _, _, _, _, infX11_kind, by decide, rfl, xVm_A dX1_door_82 q1152 q1154 q1155 q1156 q155 q1157 q1153 pdx0⟩ (lk_cons ⟨_, _, _, _, _, _, infX12_kind, by decide, rfl, xVm_A dX1_door_82 q1152 q1154 q1158 q1159 q156 q1160 q1153 pdx0⟩ (lk_nil)))))
theorem oX1_door_85 : SX1_door 85 (i_iret) := snd_iret dX1_door_85 rfl
theorem oX1_door_86 : SX1_door 86 (i_aload 0 87) := snd_aload_n dX1_door_86 rfl
theorem oX1_door_87 : SX1_door 87 (i_getf 0 4 90) := snd_getf dX1_door_87 rfl (by decide) in_X1 (Or.inl q350) (Or.inl rfl) (by decide)
theorem oX1_door_90 : SX1_door 90 (i_getf 3 1 93) := snd_getf dX1_door_90 rfl (by decide) in_X4 (Or.inr ⟨_, q294⟩) (Or.inl rfl) (by decide)
theorem oX1_door_93 : SX1_door 93 (i_iload 1 94) := snd_iload_n dX1_door_93 rfl
theorem oX1_door_94 : SX1_door 94 (i_ai 0 95) := snd_ai0 dX1_door_94
theorem oX1_door_95 : SX1_door 95 (i_iret) := snd_iret dX1_door_95 rfl
theorem oX1_door_96 : SX1_door 96 (i_aload 0 97) := snd_aload_n dX1_door_96 rfl
theorem oX1_door_97 : SX1_door 97 (i_getf 0 4 100) := snd_getf dX1_door_97 rfl (by decide) in_X1 (Or.inl q350) (Or.inl rfl) (by decide)
theorem oX1_door_100 : SX1_door 100 (i_getf 3 0 103) := snd_getf dX1_door_100 rfl (by decide) in_X4 (Or.inr ⟨_, q290⟩) (Or.inl rfl) (by decide)
theorem oX1_door_103 : SX1_door 103 (i_iload 1 104) := snd_iload_n dX1_door_103 rfl
theorem oX1_door_104 : SX1_door 104 (i_ai 0 105) := snd_ai0 dX1_door_104
theorem oX1_door_105 : SX1_door 105 (i_iret) := snd_iret dX1_door_105 rfl
theorem oX1_door_106 : SX1_door 106 (i_aload 0 107) := snd_aload_n dX1_door_106 rfl
theorem oX1_door_107 : SX1_door 107 (i_getf 0 4 110) := snd_getf dX1_door_107 rfl (by decide) in_X1 (Or.inl q350) (Or.inl rfl) (by decide)
theorem oX1_door_110 : SX1_door 110 (i_getf 3 3 113) := snd_getf dX1_door_110 rfl (by decide) in_X4 (Or.inr ⟨_, q299⟩) (Or.inl rfl) (by decide)
theorem oX1_door_113 : SX1_door 113 (i_iload 1 114) := snd_iload_n dX1_door_113 rfl
theorem oX1_door_114 : SX1_door 114 (i_ii (fun x y => x >>> (y &&& 31)) 115) := snd_ishr dX1_door_114
theorem oX1_door_115 : SX1_door 115 (i_const (.int (nI 1)) 116) := snd_iconst dX1_door_115 (by decide)
theorem oX1_door_116 : SX1_door 116 (i_ii (fun x y => x &&& y) 117) := snd_iand dX1_door_116
theorem oX1_door_117 : SX1_door 117 (i_iret) := snd_iret dX1_door_117 rfl
theorem oX1_door_118 : SX1_door 118 (i_aload 0 119) := snd_aload_n dX1_door_118 rfl
theorem oX1_door_119 : SX1_door 119 (i_getf 0 4 122) := snd_getf dX1_door_119 rfl (by decide) in_X1 (Or.inl q350) (Or.inl rfl) (by decide)
theorem oX1_door_122 : SX1_door 122 (i_iload 1 123) := snd_iload_n dX1_door_122 rfl
theorem oX1_door_123 : SX1_door 123 (i_cv 3 238 1 126) := snd_cv rfl infX4_sticks (by decide) rfl (xVm_V dX1_door_123 rfl q1167 q1168 q1169 q133 q1170 pdX4_sticks)
theorem oX1_door_126 : SX1_door 126 (i_if1 (fun x => x = 0) 133 129) := snd_if_eq dX1_door_126 (by decide)
theorem oX1_door_129 : SX1_door 129 (i_const (.int (nI 1)) 130) := snd_iconst dX1_door_129 (by decide)
theorem oX1_door_130 : SX1_door 130 (i_goto 134) := snd_goto dX1_door_130 (by decide)
theorem oX1_door_133 : SX1_door 133 (i_const (.int (nI 0)) 134) := snd_iconst dX1_door_133 (by decide)
theorem oX1_door_134 : SX1_door 134 (i_iret) := snd_iret dX1_door_134 rfl
theorem oX1_door_135 : SX1_door 135 (i_const (.int (-2)) 137) := snd_bipush dX1_door_135 (by decide)
theorem oX1_door_137 : SX1_door 137 (i_iret) := snd_iret dX1_door_137 rfl
theorem okX1_door : ∀ q ∈ cX1_door, SX1_door q.1 q.2 := List.forall_mem_cons.mpr ⟨oX1_door_0, List.forall_mem_cons.mpr ⟨oX1_door_1, List.forall_mem_cons.mpr ⟨oX1_door_2, List.forall_mem_cons.mpr ⟨oX1_door_5, List.forall_mem_cons.mpr ⟨oX1_door_8, List.forall_mem_cons.mpr ⟨oX1_door_10, List.forall_mem_cons.mpr ⟨oX1_door_11, List.forall_mem_cons.mpr ⟨oX1_door_12, List.forall_mem_cons.mpr ⟨oX1_door_56, List.forall_mem_cons.mpr ⟨oX1_door_57, List.forall_mem_cons.mpr ⟨oX1_door_58, List.forall_mem_cons.mpr ⟨oX1_door_61, List.forall_mem_cons.mpr ⟨oX1_door_64, List.forall_mem_cons.mpr ⟨oX1_door_65, List.forall_mem_cons.mpr ⟨oX1_door_66, List.forall_mem_cons.mpr ⟨oX1_door_67, List.forall_mem_cons.mpr ⟨oX1_door_70, List.forall_mem_cons.mpr ⟨oX1_door_73, List.forall_mem_cons.mpr ⟨oX1_door_74, List.forall_mem_cons.mpr ⟨oX1_door_75, List.forall_mem_cons.mpr ⟨oX1_door_76, List.forall_mem_cons.mpr ⟨oX1_door_79, List.forall_mem_cons.mpr ⟨oX1_door_82, List.forall_mem_cons.mpr ⟨oX1_door_85, List.forall_mem_cons.mpr ⟨oX1_door_86, List.forall_mem_cons.mpr ⟨oX1_door_87, List.forall_mem_cons.mpr ⟨oX1_door_90, List.forall_mem_cons.mpr ⟨oX1_door_93, List.forall_mem_cons.mpr ⟨oX1_door_94, List.forall_mem_cons.mpr ⟨oX1_door_95, List.forall_mem_cons.mpr ⟨oX1_door_96, List.forall_mem_cons.mpr ⟨oX1_door_97, List.forall_mem_cons.mpr ⟨oX1_door_100, List.forall_mem_cons.mpr ⟨oX1_door_103, List.forall_mem_cons.mpr ⟨oX1_door_104, List.forall_mem_cons.mpr ⟨oX1_door_105, List.forall_mem_cons.mpr ⟨oX1_door_106, List.forall_mem_cons.mpr ⟨oX1_door_107, List.forall_mem_cons.mpr ⟨oX1_door_110, List.forall_mem_cons.mpr ⟨oX1_door_113, List.forall_mem_cons.mpr ⟨oX1_door_114, List.forall_mem_cons.mpr ⟨oX1_door_115, List.forall_mem_cons.mpr ⟨oX1_door_116, List.forall_mem_cons.mpr ⟨oX1_door_117, List.forall_mem_cons.mpr ⟨oX1_door_118, List.forall_mem_cons.mpr ⟨oX1_door_119, List.forall_mem_cons.mpr ⟨oX1_door_122, List.forall_mem_cons.mpr ⟨oX1_door_123, List.forall_mem_cons.mpr ⟨oX1_door_126, List.forall_mem_cons.mpr ⟨oX1_door_129, List.forall_mem_cons.mpr ⟨oX1_door_130, List.forall_mem_cons.mpr ⟨oX1_door_133, List.forall_mem_cons.mpr ⟨oX1_door_134, List.forall_mem_cons.mpr ⟨oX1_door_135, List.forall_mem_cons.mpr ⟨oX1_door_137, fun _ h => absurd h List.not_mem_nil⟩⟩⟩⟩⟩⟩⟩⟩⟩⟩⟩⟩⟩⟩⟩⟩⟩⟩⟩⟩⟩⟩⟩⟩⟩⟩⟩⟩⟩⟩⟩⟩⟩⟩⟩⟩⟩⟩⟩⟩⟩⟩⟩⟩⟩⟩⟩⟩⟩⟩⟩⟩⟩⟩⟩
def dkwX1_isDoor_0 : List UInt8 := [27, 3, 42, 182, 0, 159, 4, 100, 184, 0, 155, 172]
abbrev dktX1_isDoor_0 : List UInt8 := dkwX1_isDoor_0 ++ []
theorem dksX1_isDoor_0 : bcX1_isDoor.data.toList.drop 0 = dktX1_isDoor_0 := by decide +kernel
theorem dX1_isDoor_0 : decode bcX1_isDoor 0 = .ok (.iload_n 1, 1) := dk_27 (dk_at dksX1_isDoor_0 0 rfl rfl)
theorem dX1_isDoor_1 : decode bcX1_isDoor 1 = .ok (.iconst 0, 1) := dk_3 (dk_at dksX1_isDoor_0 1 rfl rfl)
theorem dX1_isDoor_2 : decode bcX1_isDoor 2 = .ok (.aload_n 0, 1) := dk_42 (dk_at dksX1_isDoor_0 2 rfl rfl)
theorem dX1_isDoor_3 : decode bcX1_isDoor 3 = .ok (.invokevirtual 159, 3) := dk_182 0 159 (dk_at dksX1_isDoor_0 3 rfl rfl)
theorem dX1_isDoor_6 : decode bcX1_isDoor 6 = .ok (.iconst 1, 1) := dk_4 (dk_at dksX1_isDoor_0 6 rfl rfl)
theorem dX1_isDoor_7 : decode bcX1_isDoor 7 = .ok (.isub, 1) := dk_100 (dk_at dksX1_isDoor_0 7 rfl rfl)
theorem dX1_isDoor_8 : decode bcX1_isDoor 8 = .ok (.invokestatic 155, 3) := dk_184 0 155 (dk_at dksX1_isDoor_0 8 rfl rfl)
theorem dX1_isDoor_11 : decode bcX1_isDoor 11 = .ok (.ireturn, 1) := dk_172 (dk_at dksX1_isDoor_0 11 rfl rfl)
abbrev SX1_isDoor (pc : Nat) (i : xI) : Prop := Snd "SwollenHouse" "isDoor" prog_1_method_17_code 2 (Option.some Jvm.ClassFile.FieldType.boolean) [] pc i
theorem oX1_isDoor_0 : SX1_isDoor 0 (i_iload 1 1) := snd_iload_n dX1_isDoor_0 rfl
theorem oX1_isDoor_1 : SX1_isDoor 1 (i_const (.int (nI 0)) 2) := snd_iconst dX1_isDoor_1 (by decide)
theorem oX1_isDoor_2 : SX1_isDoor 2 (i_aload 0 3) := snd_aload_n dX1_isDoor_2 rfl
theorem oX1_isDoor_3 : SX1_isDoor 3 (i_cv 0 96 0 6) := snd_cv rfl infX1_doors (by decide) rfl (xVm_V dX1_isDoor_3 rfl q1140 q1142 qs30 q127 q1143 pdX1_doors)
theorem oX1_isDoor_6 : SX1_isDoor 6 (i_const (.int (nI 1)) 7) := snd_iconst dX1_isDoor_6 (by decide)
theorem oX1_isDoor_7 : SX1_isDoor 7 (i_ii (fun x y => x - y) 8) := snd_isub dX1_isDoor_7
theorem oX1_isDoor_8 : SX1_isDoor 8 (i_cs 92 3 11) := snd_cs rfl infX1_in (by decide) (xSm_S dX1_isDoor_8 q1145 q982 q127 q983 pdX1_in)
theorem oX1_isDoor_11 : SX1_isDoor 11 (i_zret) := snd_zret dX1_isDoor_11 rfl
theorem okX1_isDoor : ∀ q ∈ cX1_isDoor, SX1_isDoor q.1 q.2 := List.forall_mem_cons.mpr ⟨oX1_isDoor_0, List.forall_mem_cons.mpr ⟨oX1_isDoor_1, List.forall_mem_cons.mpr ⟨oX1_isDoor_2, List.forall_mem_cons.mpr ⟨oX1_isDoor_3, List.forall_mem_cons.mpr ⟨oX1_isDoor_6, List.forall_mem_cons.mpr ⟨oX1_isDoor_7, List.forall_mem_cons.mpr ⟨oX1_isDoor_8, List.forall_mem_cons.mpr ⟨oX1_isDoor_11, fun _ h => absurd h List.not_mem_nil⟩⟩⟩⟩⟩⟩⟩⟩
def dkwX1_doors_0 : List UInt8 := [42, 180, 0, 35, 180, 0, 141, 182, 0, 137, 172]
abbrev dktX1_doors_0 : List UInt8 := dkwX1_doors_0 ++ []
theorem dksX1_doors_0 : bcX1_doors.data.toList.drop 0 = dktX1_doors_0 := by decide +kernel
theorem dX1_doors_0 : decode bcX1_doors 0 = .ok (.aload_n 0, 1) := dk_42 (dk_at dksX1_doors_0 0 rfl rfl)
theorem dX1_doors_1 : decode bcX1_doors 1 = .ok (.getfield 35, 3) := dk_180 0 35 (dk_at dksX1_doors_0 1 rfl rfl)
theorem dX1_doors_4 : decode bcX1_doors 4 = .ok (.getfield 141, 3) := dk_180 0 141 (dk_at dksX1_doors_0 4 rfl rfl)
theorem dX1_doors_7 : decode bcX1_doors 7 = .ok (.invokevirtual 137, 3) := dk_182 0 137 (dk_at dksX1_doors_0 7 rfl rfl)
theorem dX1_doors_10 : decode bcX1_doors 10 = .ok (.ireturn, 1) := dk_172 (dk_at dksX1_doors_0 10 rfl rfl)
abbrev SX1_doors (pc : Nat) (i : xI) : Prop := Snd "SwollenHouse" "doors" prog_1_method_13_code 1 (Option.some Jvm.ClassFile.FieldType.int) [] pc i
theorem oX1_doors_0 : SX1_doors 0 (i_aload 0 1) := snd_aload_n dX1_doors_0 rfl
theorem oX1_doors_1 : SX1_doors 1 (i_getf 0 2 4) := snd_getf dX1_doors_1 rfl (by decide) in_X1 (Or.inl q348) (Or.inl rfl) (by decide)
theorem oX1_doors_4 : SX1_doors 4 (i_getf 2 2 7) := snd_getf dX1_doors_4 rfl (by decide) in_X3 (Or.inr ⟨_, q253⟩) (Or.inl rfl) (by decide)
theorem oX1_doors_7 : SX1_doors 7 (i_cv 21 32 0 10) := snd_cv rfl infJ2_size (by decide) rfl (xVm_V dX1_doors_7 rfl q1144 q324 q325 q132 q326 pdJ2_size)
theorem oX1_doors_10 : SX1_doors 10 (i_iret) := snd_iret dX1_doors_10 rfl
theorem okX1_doors : ∀ q ∈ cX1_doors, SX1_doors q.1 q.2 := List.forall_mem_cons.mpr ⟨oX1_doors_0, List.forall_mem_cons.mpr ⟨oX1_doors_1, List.forall_mem_cons.mpr ⟨oX1_doors_4, List.forall_mem_cons.mpr ⟨oX1_doors_7, List.forall_mem_cons.mpr ⟨oX1_doors_10, fun _ h => absurd h List.not_mem_nil⟩⟩⟩⟩⟩
def dkwX1_door_2_0 : List UInt8 := [42, 180, 0, 35, 180, 0, 141, 27, 182, 0, 144, 192, 0, 148, 176]
abbrev dktX1_door_2_0 : List UInt8 := dkwX1_door_2_0 ++ []
theorem dksX1_door_2_0 : bcX1_door_2.data.toList.drop 0 = dktX1_door_2_0 := by decide +kernel
theorem dX1_door_2_0 : decode bcX1_door_2 0 = .ok (.aload_n 0, 1) := dk_42 (dk_at dksX1_door_2_0 0 rfl rfl)
theorem dX1_door_2_1 : decode bcX1_door_2 1 = .ok (.getfield 35, 3) := dk_180 0 35 (dk_at dksX1_door_2_0 1 rfl rfl)
theorem dX1_door_2_4 : decode bcX1_door_2 4 = .ok (.getfield 141, 3) := dk_180 0 141 (dk_at dksX1_door_2_0 4 rfl rfl)
theorem dX1_door_2_7 : decode bcX1_door_2 7 = .ok (.iload_n 1, 1) := dk_27 (dk_at dksX1_door_2_0 7 rfl rfl)
theorem dX1_door_2_8 : decode bcX1_door_2 8 = .ok (.invokevirtual 144, 3) := dk_182 0 144 (dk_at dksX1_door_2_0 8 rfl rfl)
theorem dX1_door_2_11 : decode bcX1_door_2 11 = .ok (.checkcast 148, 3) := dk_192 0 148 (dk_at dksX1_door_2_0 11 rfl rfl)
theorem dX1_door_2_14 : decode bcX1_door_2 14 = .ok (.areturn, 1) := dk_176 (dk_at dksX1_door_2_0 14 rfl rfl)
abbrev SX1_door_2 (pc : Nat) (i : xI) : Prop := Snd "SwollenHouse" "door" prog_1_method_14_code 2 (Option.some (Jvm.ClassFile.FieldType.object "SwollenHouse$Door")) [] pc i
theorem oX1_door_2_0 : SX1_door_2 0 (i_aload 0 1) := snd_aload_n dX1_door_2_0 rfl
theorem oX1_door_2_1 : SX1_door_2 1 (i_getf 0 2 4) := snd_getf dX1_door_2_1 rfl (by decide) in_X1 (Or.inl q348) (Or.inl rfl) (by decide)
theorem oX1_door_2_4 : SX1_door_2 4 (i_getf 2 2 7) := snd_getf dX1_door_2_4 rfl (by decide) in_X3 (Or.inr ⟨_, q253⟩) (Or.inl rfl) (by decide)
theorem oX1_door_2_7 : SX1_door_2 7 (i_iload 1 8) := snd_iload_n dX1_door_2_7 rfl
theorem oX1_door_2_8 : SX1_door_2 8 (i_cv 21 33 1 11) := snd_cv rfl infJ2_get (by decide) rfl (xVm_V dX1_door_2_8 rfl q1150 q328 q329 q132 q330 pdJ2_get)
theorem oX1_door_2_11 : SX1_door_2 11 (i_cast [6] 14) := snd_cast dX1_door_2_11 q1151 okct_X7
theorem oX1_door_2_14 : SX1_door_2 14 (i_aret) := snd_aret dX1_door_2_14 rfl (Or.inl ⟨_, rfl⟩)
theorem okX1_door_2 : ∀ q ∈ cX1_door_2, SX1_door_2 q.1 q.2 := List.forall_mem_cons.mpr ⟨oX1_door_2_0, List.forall_mem_cons.mpr ⟨oX1_door_2_1, List.forall_mem_cons.mpr ⟨oX1_door_2_4, List.forall_mem_cons.mpr ⟨oX1_door_2_7, List.forall_mem_cons.mpr ⟨oX1_door_2_8, List.forall_mem_cons.mpr ⟨oX1_door_2_11, List.forall_mem_cons.mpr ⟨oX1_door_2_14, fun _ h => absurd h List.not_mem_nil⟩⟩⟩⟩⟩⟩⟩
def dkwX1_isIn_0 : List UInt8 := [26, 27, 122, 4, 126, 4, 160, 0, 7, 4, 167, 0, 4, 3, 172]
abbrev dktX1_isIn_0 : List UInt8 := dkwX1_isIn_0 ++ []
theorem dksX1_isIn_0 : bcX1_isIn.data.toList.drop 0 = dktX1_isIn_0 := by decide +kernel
theorem dX1_isIn_0 : decode bcX1_isIn 0 = .ok (.iload_n 0, 1) := dk_26 (dk_at dksX1_isIn_0 0 rfl rfl)
theorem dX1_isIn_1 : decode bcX1_isIn 1 = .ok (.iload_n 1, 1) := dk_27 (dk_at dksX1_isIn_0 1 rfl rfl)
theorem dX1_isIn_2 : decode bcX1_isIn 2 = .ok (.ishr, 1) := dk_122 (dk_at dksX1_isIn_0 2 rfl rfl)
theorem dX1_isIn_3 : decode bcX1_isIn 3 = .ok (.iconst 1, 1) := dk_4 (dk_at dksX1_isIn_0 3 rfl rfl)
theorem dX1_isIn_4 : decode bcX1_isIn 4 = .ok (.iand, 1) := dk_126 (dk_at dksX1_isIn_0 4 rfl rfl)
theorem dX1_isIn_5 : decode bcX1_isIn 5 = .ok (.iconst 1, 1) := dk_4 (dk_at dksX1_isIn_0 5 rfl rfl)
theorem dX1_isIn_6 : decode bcX1_isIn 6 = .ok (.if_icmp .ne 7, 3) := dk_160 0 7 (dk_at dksX1_isIn_0 6 rfl rfl)
theorem dX1_isIn_9 : decode bcX1_isIn 9 = .ok (.iconst 1, 1) := dk_4 (dk_at dksX1_isIn_0 9 rfl rfl)
theorem dX1_isIn_10 : decode bcX1_isIn 10 = .ok (.goto 4, 3) := dk_167 0 4 (dk_at dksX1_isIn_0 10 rfl rfl)
theorem dX1_isIn_13 : decode bcX1_isIn 13 = .ok (.iconst 0, 1) := dk_3 (dk_at dksX1_isIn_0 13 rfl rfl)
theorem dX1_isIn_14 : decode bcX1_isIn 14 = .ok (.ireturn, 1) := dk_172 (dk_at dksX1_isIn_0 14 rfl rfl)
abbrev SX1_isIn (pc : Nat) (i : xI) : Prop := Snd "SwollenHouse" "isIn" prog_1_method_3_code 2 (Option.some Jvm.ClassFile.FieldType.boolean) [] pc i
theorem oX1_isIn_0 : SX1_isIn 0 (i_iload 0 1) := snd_iload_n dX1_isIn_0 rfl
theorem oX1_isIn_1 : SX1_isIn 1 (i_iload 1 2) := snd_iload_n dX1_isIn_1 rfl
theorem oX1_isIn_2 : SX1_isIn 2 (i_ii (fun x y => x >>> (y &&& 31)) 3) := snd_ishr dX1_isIn_2
theorem oX1_isIn_3 : SX1_isIn 3 (i_const (.int (nI 1)) 4) := snd_iconst dX1_isIn_3 (by decide)
theorem oX1_isIn_4 : SX1_isIn 4 (i_ii (fun x y => x &&& y) 5) := snd_iand dX1_isIn_4
theorem oX1_isIn_5 : SX1_isIn 5 (i_const (.int (nI 1)) 6) := snd_iconst dX1_isIn_5 (by decide)
theorem oX1_isIn_6 : SX1_isIn 6 (i_if2 (fun x y => ¬ x = y) 13 9) := snd_icmp_ne dX1_isIn_6 (by decide)
theorem oX1_isIn_9 : SX1_isIn 9 (i_const (.int (nI 1)) 10) := snd_iconst dX1_isIn_9 (by decide)
theorem oX1_isIn_10 : SX1_isIn 10 (i_goto 14) := snd_goto dX1_isIn_10 (by decide)
theorem oX1_isIn_13 : SX1_isIn 13 (i_const (.int (nI 0)) 14) := snd_iconst dX1_isIn_13 (by decide)
theorem oX1_isIn_14 : SX1_isIn 14 (i_zret) := snd_zret dX1_isIn_14 rfl
theorem okX1_isIn : ∀ q ∈ cX1_isIn, SX1_isIn q.1 q.2 := List.forall_mem_cons.mpr ⟨oX1_isIn_0, List.forall_mem_cons.mpr ⟨oX1_isIn_1, List.forall_mem_cons.mpr ⟨oX1_isIn_2, List.forall_mem_cons.mpr ⟨oX1_isIn_3, List.forall_mem_cons.mpr ⟨oX1_isIn_4, List.forall_mem_cons.mpr ⟨oX1_isIn_5, List.forall_mem_cons.mpr ⟨oX1_isIn_6, List.forall_mem_cons.mpr ⟨oX1_isIn_9, List.forall_mem_cons.mpr ⟨oX1_isIn_10, List.forall_mem_cons.mpr ⟨oX1_isIn_13, List.forall_mem_cons.mpr ⟨oX1_isIn_14, fun _ h => absurd h List.not_mem_nil⟩⟩⟩⟩⟩⟩⟩⟩⟩⟩⟩
def dkwX1_person_0 : List UInt8 := [42, 27, 182, 0, 250, 153, 0, 15, 42, 180, 0, 51, 180, 0, 229, 27, 46, 167, 0, 4, 2, 172]
abbrev dktX1_person_0 : List UInt8 := dkwX1_person_0 ++ []
theorem dksX1_person_0 : bcX1_person.data.toList.drop 0 = dktX1_person_0 := by decide +kernel
theorem dX1_person_0 : decode bcX1_person 0 = .ok (.aload_n 0, 1) := dk_42 (dk_at dksX1_person_0 0 rfl rfl)
theorem dX1_person_1 : decode bcX1_person 1 = .ok (.iload_n 1, 1) := dk_27 (dk_at dksX1_person_0 1 rfl rfl)
theorem dX1_person_2 : decode bcX1_person 2 = .ok (.invokevirtual 250, 3) := dk_182 0 250 (dk_at dksX1_person_0 2 rfl rfl)
theorem dX1_person_5 : decode bcX1_person 5 = .ok (.ifCond .eq 15, 3) := dk_153 0 15 (dk_at dksX1_person_0 5 rfl rfl)
theorem dX1_person_8 : decode bcX1_person 8 = .ok (.aload_n 0, 1) := dk_42 (dk_at dksX1_person_0 8 rfl rfl)
theorem dX1_person_9 : decode bcX1_person 9 = .ok (.getfield 51, 3) := dk_180 0 51 (dk_at dksX1_person_0 9 rfl rfl)
theorem dX1_person_12 : decode bcX1_person 12 = .ok (.getfield 229, 3) := dk_180 0 229 (dk_at dksX1_person_0 12 rfl rfl)
theorem dX1_person_15 : decode bcX1_person 15 = .ok (.iload_n 1, 1) := dk_27 (dk_at dksX1_person_0 15 rfl rfl)
theorem dX1_person_16 : decode bcX1_person 16 = .ok (.iaload, 1) := dk_46 (dk_at dksX1_person_0 16 rfl rfl)
theorem dX1_person_17 : decode bcX1_person 17 = .ok (.goto 4, 3) := dk_167 0 4 (dk_at dksX1_person_0 17 rfl rfl)
theorem dX1_person_20 : decode bcX1_person 20 = .ok (.iconst (-1), 1) := dk_2 (dk_at dksX1_person_0 20 rfl rfl)
theorem dX1_person_21 : decode bcX1_person 21 = .ok (.ireturn, 1) := dk_172 (dk_at dksX1_person_0 21 rfl rfl)
abbrev SX1_person (pc : Nat) (i : xI) : Prop := Snd "SwollenHouse" "person" prog_1_method_28_code 2 (Option.some Jvm.ClassFile.FieldType.int) [] pc i
theorem oX1_person_0 : SX1_person 0 (i_aload 0 1) := snd_aload_n dX1_person_0 rfl
theorem oX1_person_1 : SX1_person 1 (i_iload 1 2) := snd_iload_n dX1_person_1 rfl
theorem oX1_person_2 : SX1_person 2 (i_cv 0 100 1 5) := snd_cv rfl infX1_isPerson (by decide) rfl (xVm_V dX1_person_2 rfl q1178 q1180 qs32 q127 q1181 pdX1_isPerson)
theorem oX1_person_5 : SX1_person 5 (i_if1 (fun x => x = 0) 20 8) := snd_if_eq dX1_person_5 (by decide)
theorem oX1_person_8 : SX1_person 8 (i_aload 0 9) := snd_aload_n dX1_person_8 rfl
theorem oX1_person_9 : SX1_person 9 (i_getf 0 4 12) := snd_getf dX1_person_9 rfl (by decide) in_X1 (Or.inl q350) (Or.inl rfl) (by decide)
theorem oX1_person_12 : SX1_person 12 (i_getf 3 2 15) := snd_getf dX1_person_12 rfl (by decide) in_X4 (Or.inr ⟨_, q296⟩) (Or.inl rfl) (by decide)
theorem oX1_person_15 : SX1_person 15 (i_iload 1 16) := snd_iload_n dX1_person_15 rfl
theorem oX1_person_16 : SX1_person 16 (i_ai 0 17) := snd_ai0 dX1_person_16
theorem oX1_person_17 : SX1_person 17 (i_goto 21) := snd_goto dX1_person_17 (by decide)
theorem oX1_person_20 : SX1_person 20 (i_const (.int (-1)) 21) := snd_iconst dX1_person_20 (by decide)
theorem oX1_person_21 : SX1_person 21 (i_iret) := snd_iret dX1_person_21 rfl
theorem okX1_person : ∀ q ∈ cX1_person, SX1_person q.1 q.2 := List.forall_mem_cons.mpr ⟨oX1_person_0, List.forall_mem_cons.mpr ⟨oX1_person_1, List.forall_mem_cons.mpr ⟨oX1_person_2, List.forall_mem_cons.mpr ⟨oX1_person_5, List.forall_mem_cons.mpr ⟨oX1_person_8, List.forall_mem_cons.mpr ⟨oX1_person_9, List.forall_mem_cons.mpr ⟨oX1_person_12, List.forall_mem_cons.mpr ⟨oX1_person_15, List.forall_mem_cons.mpr ⟨oX1_person_16, List.forall_mem_cons.mpr ⟨oX1_person_17, List.forall_mem_cons.mpr ⟨oX1_person_20, List.forall_mem_cons.mpr ⟨oX1_person_21, fun _ h => absurd h List.not_mem_nil⟩⟩⟩⟩⟩⟩⟩⟩⟩⟩⟩⟩
def dkwX1_isPerson_0 : List UInt8 := [27, 3, 42, 182, 0, 161, 4, 100, 184, 0, 155, 172]
abbrev dktX1_isPerson_0 : List UInt8 := dkwX1_isPerson_0 ++ []
theorem dksX1_isPerson_0 : bcX1_isPerson.data.toList.drop 0 = dktX1_isPerson_0 := by decide +kernel
theorem dX1_isPerson_0 : decode bcX1_isPerson 0 = .ok (.iload_n 1, 1) := dk_27 (dk_at dksX1_isPerson_0 0 rfl rfl)
theorem dX1_isPerson_1 : decode bcX1_isPerson 1 = .ok (.iconst 0, 1) := dk_3 (dk_at dksX1_isPerson_0 1 rfl rfl)
theorem dX1_isPerson_2 : decode bcX1_isPerson 2 = .ok (.aload_n 0, 1) := dk_42 (dk_at dksX1_isPerson_0 2 rfl rfl)
theorem dX1_isPerson_3 : decode bcX1_isPerson 3 = .ok (.invokevirtual 161, 3) := dk_182 0 161 (dk_at dksX1_isPerson_0 3 rfl rfl)
theorem dX1_isPerson_6 : decode bcX1_isPerson 6 = .ok (.iconst 1, 1) := dk_4 (dk_at dksX1_isPerson_0 6 rfl rfl)
theorem dX1_isPerson_7 : decode bcX1_isPerson 7 = .ok (.isub, 1) := dk_100 (dk_at dksX1_isPerson_0 7 rfl rfl)
theorem dX1_isPerson_8 : decode bcX1_isPerson 8 = .ok (.invokestatic 155, 3) := dk_184 0 155 (dk_at dksX1_isPerson_0 8 rfl rfl)
theorem dX1_isPerson_11 : decode bcX1_isPerson 11 = .ok (.ireturn, 1) := dk_172 (dk_at dksX1_isPerson_0 11 rfl rfl)
abbrev SX1_isPerson (pc : Nat) (i : xI) : Prop := Snd "SwollenHouse" "isPerson" prog_1_method_18_code 2 (Option.some Jvm.ClassFile.FieldType.boolean) [] pc i
theorem oX1_isPerson_0 : SX1_isPerson 0 (i_iload 1 1) := snd_iload_n dX1_isPerson_0 rfl
theorem oX1_isPerson_1 : SX1_isPerson 1 (i_const (.int (nI 0)) 2) := snd_iconst dX1_isPerson_1 (by decide)
theorem oX1_isPerson_2 : SX1_isPerson 2 (i_aload 0 3) := snd_aload_n dX1_isPerson_2 rfl
theorem oX1_isPerson_3 : SX1_isPerson 3 (i_cv 0 101 0 6) := snd_cv rfl infX1_people (by decide) rfl (xVm_V dX1_isPerson_3 rfl q1182 q1184 qs33 q127 q1185 pdX1_people)
theorem oX1_isPerson_6 : SX1_isPerson 6 (i_const (.int (nI 1)) 7) := snd_iconst dX1_isPerson_6 (by decide)
theorem oX1_isPerson_7 : SX1_isPerson 7 (i_ii (fun x y => x - y) 8) := snd_isub dX1_isPerson_7
theorem oX1_isPerson_8 : SX1_isPerson 8 (i_cs 92 3 11) := snd_cs rfl infX1_in (by decide) (xSm_S dX1_isPerson_8 q1145 q982 q127 q983 pdX1_in)
theorem oX1_isPerson_11 : SX1_isPerson 11 (i_zret) := snd_zret dX1_isPerson_11 rfl
theorem okX1_isPerson : ∀ q ∈ cX1_isPerson, SX1_isPerson q.1 q.2 := List.forall_mem_cons.mpr ⟨oX1_isPerson_0, List.forall_mem_cons.mpr ⟨oX1_isPerson_1, List.forall_mem_cons.mpr ⟨oX1_isPerson_2, List.forall_mem_cons.mpr ⟨oX1_isPerson_3, List.forall_mem_cons.mpr ⟨oX1_isPerson_6, List.forall_mem_cons.mpr ⟨oX1_isPerson_7, List.forall_mem_cons.mpr ⟨oX1_isPerson_8, List.forall_mem_cons.mpr ⟨oX1_isPerson_11, fun _ h => absurd h List.not_mem_nil⟩⟩⟩⟩⟩⟩⟩⟩
def dkwX1_people_0 : List UInt8 := [42, 180, 0, 35, 180, 0, 150, 182, 0, 137, 172]
abbrev dktX1_people_0 : List UInt8 := dkwX1_people_0 ++ []
theorem dksX1_people_0 : bcX1_people.data.toList.drop 0 = dktX1_people_0 := by decide +kernel
theorem dX1_people_0 : decode bcX1_people 0 = .ok (.aload_n 0, 1) := dk_42 (dk_at dksX1_people_0 0 rfl rfl)
theorem dX1_people_1 : decode bcX1_people 1 = .ok (.getfield 35, 3) := dk_180 0 35 (dk_at dksX1_people_0 1 rfl rfl)
theorem dX1_people_4 : decode bcX1_people 4 = .ok (.getfield 150, 3) := dk_180 0 150 (dk_at dksX1_people_0 4 rfl rfl)
theorem dX1_people_7 : decode bcX1_people 7 = .ok (.invokevirtual 137, 3) := dk_182 0 137 (dk_at dksX1_people_0 7 rfl rfl)
theorem dX1_people_10 : decode bcX1_people 10 = .ok (.ireturn, 1) := dk_172 (dk_at dksX1_people_0 10 rfl rfl)
abbrev SX1_people (pc : Nat) (i : xI) : Prop := Snd "SwollenHouse" "people" prog_1_method_15_code 1 (Option.some Jvm.ClassFile.FieldType.int) [] pc i
theorem oX1_people_0 : SX1_people 0 (i_aload 0 1) := snd_aload_n dX1_people_0 rfl
theorem oX1_people_1 : SX1_people 1 (i_getf 0 2 4) := snd_getf dX1_people_1 rfl (by decide) in_X1 (Or.inl q348) (Or.inl rfl) (by decide)
theorem oX1_people_4 : SX1_people 4 (i_getf 2 1 7) := snd_getf dX1_people_4 rfl (by decide) in_X3 (Or.inr ⟨_, q250⟩) (Or.inl rfl) (by decide)
theorem oX1_people_7 : SX1_people 7 (i_cv 21 32 0 10) := snd_cv rfl infJ2_size (by decide) rfl (xVm_V dX1_people_7 rfl q1144 q324 q325 q132 q326 pdJ2_size)
theorem oX1_people_10 : SX1_people 10 (i_iret) := snd_iret dX1_people_10 rfl
theorem okX1_people : ∀ q ∈ cX1_people, SX1_people q.1 q.2 := List.forall_mem_cons.mpr ⟨oX1_people_0, List.forall_mem_cons.mpr ⟨oX1_people_1, List.forall_mem_cons.mpr ⟨oX1_people_4, List.forall_mem_cons.mpr ⟨oX1_people_7, List.forall_mem_cons.mpr ⟨oX1_people_10, fun _ h => absurd h List.not_mem_nil⟩⟩⟩⟩⟩
def dkwX1_day_0 : List UInt8 := [42, 182, 1, 0, 42, 42, 180, 0, 51, 182, 0, 216, 42, 42, 180, 0, 51, 182, 0, 222, 172]
abbrev dktX1_day_0 : List UInt8 := dkwX1_day_0 ++ []
theorem dksX1_day_0 : bcX1_day.data.toList.drop 0 = dktX1_day_0 := by decide +kernel
theorem dX1_day_0 : decode bcX1_day 0 = .ok (.aload_n 0, 1) := dk_42 (dk_at dksX1_day_0 0 rfl rfl)
theorem dX1_day_1 : decode bcX1_day 1 = .ok (.invokevirtual 256, 3) := dk_182 1 0 (dk_at dksX1_day_0 1 rfl rfl)
theorem dX1_day_4 : decode bcX1_day 4 = .ok (.aload_n 0, 1) := dk_42 (dk_at dksX1_day_0 4 rfl rfl)
theorem dX1_day_5 : decode bcX1_day 5 = .ok (.aload_n 0, 1) := dk_42 (dk_at dksX1_day_0 5 rfl rfl)
theorem dX1_day_6 : decode bcX1_day 6 = .ok (.getfield 51, 3) := dk_180 0 51 (dk_at dksX1_day_0 6 rfl rfl)
theorem dX1_day_9 : decode bcX1_day 9 = .ok (.invokevirtual 216, 3) := dk_182 0 216 (dk_at dksX1_day_0 9 rfl rfl)
theorem dX1_day_12 : decode bcX1_day 12 = .ok (.aload_n 0, 1) := dk_42 (dk_at dksX1_day_0 12 rfl rfl)
theorem dX1_day_13 : decode bcX1_day 13 = .ok (.aload_n 0, 1) := dk_42 (dk_at dksX1_day_0 13 rfl rfl)
theorem dX1_day_14 : decode bcX1_day 14 = .ok (.getfield 51, 3) := dk_180 0 51 (dk_at dksX1_day_0 14 rfl rfl)
theorem dX1_day_17 : decode bcX1_day 17 = .ok (.invokevirtual 222, 3) := dk_182 0 222 (dk_at dksX1_day_0 17 rfl rfl)
theorem dX1_day_20 : decode bcX1_day 20 = .ok (.ireturn, 1) := dk_172 (dk_at dksX1_day_0 20 rfl rfl)
abbrev SX1_day (pc : Nat) (i : xI) : Prop := Snd "SwollenHouse" "day" prog_1_method_30_code 1 (Option.some Jvm.ClassFile.FieldType.int) [] pc i
theorem oX1_day_0 : SX1_day 0 (i_aload 0 1) := snd_aload_n dX1_day_0 rfl
theorem oX1_day_1 : SX1_day 1 (i_cvv 0 103 0 4) := snd_cvv rfl infX1_keeps (by decide) rfl (xVm_V dX1_day_1 rfl q1190 q1192 qs34 q127 q1193 pdX1_keeps)
theorem oX1_day_4 : SX1_day 4 (i_aload 0 5) := snd_aload_n dX1_day_4 rfl
theorem oX1_day_5 : SX1_day 5 (i_aload 0 6) := snd_aload_n dX1_day_5 rfl
theorem oX1_day_6 : SX1_day 6 (i_getf 0 4 9) := snd_getf dX1_day_6 rfl (by decide) in_X1 (Or.inl q350) (Or.inl rfl) (by decide)
theorem oX1_day_9 : SX1_day 9 (i_cvv 0 104 1 12) := snd_cvv rfl infX1_passes (by decide) rfl (xVm_V dX1_day_9 rfl q1198 q1200 qs35 q127 q1201 pdX1_passes)
theorem oX1_day_12 : SX1_day 12 (i_aload 0 13) := snd_aload_n dX1_day_12 rfl
theorem oX1_day_13 : SX1_day 13 (i_aload 0 14) := snd_aload_n dX1_day_13 rfl
theorem oX1_day_14 : SX1_day 14 (i_getf 0 4 17) := snd_getf dX1_day_14 rfl (by decide) in_X1 (Or.inl q350) (Or.inl rfl) (by decide)
theorem oX1_day_17 : SX1_day 17 (i_cv 0 108 1 20) := snd_cv rfl infX1_sticking (by decide) rfl (xVm_V dX1_day_17 rfl q1281 q1283 qs38 q127 q1284 pdX1_sticking)
theorem oX1_day_20 : SX1_day 20 (i_iret) := snd_iret dX1_day_20 rfl
theorem okX1_day : ∀ q ∈ cX1_day, SX1_day q.1 q.2 := List.forall_mem_cons.mpr ⟨oX1_day_0, List.forall_mem_cons.mpr ⟨oX1_day_1, List.forall_mem_cons.mpr ⟨oX1_day_4, List.forall_mem_cons.mpr ⟨oX1_day_5, List.forall_mem_cons.mpr ⟨oX1_day_6, List.forall_mem_cons.mpr ⟨oX1_day_9, List.forall_mem_cons.mpr ⟨oX1_day_12, List.forall_mem_cons.mpr ⟨oX1_day_13, List.forall_mem_cons.mpr ⟨oX1_day_14, List.forall_mem_cons.mpr ⟨oX1_day_17, List.forall_mem_cons.mpr ⟨oX1_day_20, fun _ h => absurd h List.not_mem_nil⟩⟩⟩⟩⟩⟩⟩⟩⟩⟩⟩
def dkwX1_keeps_4 : List UInt8 := [180, 0, 62, 42, 89, 180, 0, 127, 90, 4, 96, 181, 0, 127, 50, 42, 180, 0, 51, 182, 0, 253, 177]
abbrev dktX1_keeps_4 : List UInt8 := dkwX1_keeps_4 ++ []
def dkwX1_keeps_3 : List UInt8 := [180, 0, 127, 50, 199, 0, 19, 42, 180, 0, 62, 42, 180, 0, 127, 187, 0, 48, 89, 183, 0, 50, 83, 42]
abbrev dktX1_keeps_3 : List UInt8 := dkwX1_keeps_3 ++ dktX1_keeps_4
def dkwX1_keeps_2 : List UInt8 := [180, 0, 62, 16, 15, 43, 83, 42, 89, 180, 0, 127, 4, 100, 181, 0, 127, 42, 180, 0, 62, 42]
abbrev dktX1_keeps_2 : List UInt8 := dkwX1_keeps_2 ++ dktX1_keeps_3
def dkwX1_keeps_1 : List UInt8 := [162, 0, 23, 42, 180, 0, 62, 28, 42, 180, 0, 62, 28, 4, 96, 50, 83, 132, 2, 1, 167, 255, 231, 42]
abbrev dktX1_keeps_1 : List UInt8 := dkwX1_keeps_1 ++ dktX1_keeps_2
def dkwX1_keeps_0 : List UInt8 := [42, 180, 0, 127, 16, 16, 160, 0, 58, 42, 180, 0, 62, 3, 50, 76, 3, 61, 28, 4, 96, 16, 16]
abbrev dktX1_keeps_0 : List UInt8 := dkwX1_keeps_0 ++ dktX1_keeps_1
theorem dksX1_keeps_0 : bcX1_keeps.data.toList.drop 0 = dktX1_keeps_0 := by decide +kernel
theorem dksX1_keeps_1 : bcX1_keeps.data.toList.drop 23 = dktX1_keeps_1 := dk_seg dksX1_keeps_0 23 rfl rfl
theorem dksX1_keeps_2 : bcX1_keeps.data.toList.drop 47 = dktX1_keeps_2 := dk_seg dksX1_keeps_1 24 rfl rfl
theorem dksX1_keeps_3 : bcX1_keeps.data.toList.drop 69 = dktX1_keeps_3 := dk_seg dksX1_keeps_2 22 rfl rfl
theorem dksX1_keeps_4 : bcX1_keeps.data.toList.drop 93 = dktX1_keeps_4 := dk_seg dksX1_keeps_3 24 rfl rfl
theorem dX1_keeps_0 : decode bcX1_keeps 0 = .ok (.aload_n 0, 1) := dk_42 (dk_at dksX1_keeps_0 0 rfl rfl)
theorem dX1_keeps_1 : decode bcX1_keeps 1 = .ok (.getfield 127, 3) := dk_180 0 127 (dk_at dksX1_keeps_0 1 rfl rfl)
theorem dX1_keeps_4 : decode bcX1_keeps 4 = .ok (.bipush 16, 2) := dk_16 16 (dk_at dksX1_keeps_0 4 rfl rfl)
theorem dX1_keeps_6 : decode bcX1_keeps 6 = .ok (.if_icmp .ne 58, 3) := dk_160 0 58 (dk_at dksX1_keeps_0 6 rfl rfl)
theorem dX1_keeps_9 : decode bcX1_keeps 9 = .ok (.aload_n 0, 1) := dk_42 (dk_at dksX1_keeps_0 9 rfl rfl)
theorem dX1_keeps_10 : decode bcX1_keeps 10 = .ok (.getfield 62, 3) := dk_180 0 62 (dk_at dksX1_keeps_0 10 rfl rfl)
theorem dX1_keeps_13 : decode bcX1_keeps 13 = .ok (.iconst 0, 1) := dk_3 (dk_at dksX1_keeps_0 13 rfl rfl)
theorem dX1_keeps_14 : decode bcX1_keeps 14 = .ok (.aaload, 1) := dk_50 (dk_at dksX1_keeps_0 14 rfl rfl)
theorem dX1_keeps_15 : decode bcX1_keeps 15 = .ok (.astore_n 1, 1) := dk_76 (dk_at dksX1_keeps_0 15 rfl rfl)
theorem dX1_keeps_16 : decode bcX1_keeps 16 = .ok (.iconst 0, 1) := dk_3 (dk_at dksX1_keeps_0 16 rfl rfl)
theorem dX1_keeps_17 : decode bcX1_keeps 17 = .ok (.istore_n 2, 1) := dk_61 (dk_at dksX1_keeps_0 17 rfl rfl)
theorem dX1_keeps_18 : decode bcX1_keeps 18 = .ok (.iload_n 2, 1) := dk_28 (dk_at dksX1_keeps_0 18 rfl rfl)
theorem dX1_keeps_19 : decode bcX1_keeps 19 = .ok (.iconst 1, 1) := dk_4 (dk_at dksX1_keeps_0 19 rfl rfl)
theorem dX1_keeps_20 : decode bcX1_keeps 20 = .ok (.iadd, 1) := dk_96 (dk_at dksX1_keeps_0 20 rfl rfl)
theorem dX1_keeps_21 : decode bcX1_keeps 21 = .ok (.bipush 16, 2) := dk_16 16 (dk_at dksX1_keeps_0 21 rfl rfl)
theorem dX1_keeps_23 : decode bcX1_keeps 23 = .ok (.if_icmp .ge 23, 3) := dk_162 0 23 (dk_at dksX1_keeps_1 0 rfl rfl)
theorem dX1_keeps_26 : decode bcX1_keeps 26 = .ok (.aload_n 0, 1) := dk_42 (dk_at dksX1_keeps_1 3 rfl rfl)
theorem dX1_keeps_27 : decode bcX1_keeps 27 = .ok (.getfield 62, 3) := dk_180 0 62 (dk_at dksX1_keeps_1 4 rfl rfl)
theorem dX1_keeps_30 : decode bcX1_keeps 30 = .ok (.iload_n 2, 1) := dk_28 (dk_at dksX1_keeps_1 7 rfl rfl)
theorem dX1_keeps_31 : decode bcX1_keeps 31 = .ok (.aload_n 0, 1) := dk_42 (dk_at dksX1_keeps_1 8 rfl rfl)
theorem dX1_keeps_32 : decode bcX1_keeps 32 = .ok (.getfield 62, 3) := dk_180 0 62 (dk_at dksX1_keeps_1 9 rfl rfl)
theorem dX1_keeps_35 : decode bcX1_keeps 35 = .ok (.iload_n 2, 1) := dk_28 (dk_at dksX1_keeps_1 12 rfl rfl)
theorem dX1_keeps_36 : decode bcX1_keeps 36 = .ok (.iconst 1, 1) := dk_4 (dk_at dksX1_keeps_1 13 rfl rfl)
theorem dX1_keeps_37 : decode bcX1_keeps 37 = .ok (.iadd, 1) := dk_96 (dk_at dksX1_keeps_1 14 rfl rfl)
theorem dX1_keeps_38 : decode bcX1_keeps 38 = .ok (.aaload, 1) := dk_50 (dk_at dksX1_keeps_1 15 rfl rfl)
theorem dX1_keeps_39 : decode bcX1_keeps 39 = .ok (.aastore, 1) := dk_83 (dk_at dksX1_keeps_1 16 rfl rfl)
theorem dX1_keeps_40 : decode bcX1_keeps 40 = .ok (.iinc 2 1, 3) := dk_132 2 1 (dk_at dksX1_keeps_1 17 rfl rfl)
theorem dX1_keeps_43 : decode bcX1_keeps 43 = .ok (.goto (-25), 3) := dk_167 255 231 (dk_at dksX1_keeps_1 20 rfl rfl)
theorem dX1_keeps_46 : decode bcX1_keeps 46 = .ok (.aload_n 0, 1) := dk_42 (dk_at dksX1_keeps_1 23 rfl rfl)
theorem dX1_keeps_47 : decode bcX1_keeps 47 = .ok (.getfield 62, 3) := dk_180 0 62 (dk_at dksX1_keeps_2 0 rfl rfl)
theorem dX1_keeps_50 : decode bcX1_keeps 50 = .ok (.bipush 15, 2) := dk_16 15 (dk_at dksX1_keeps_2 3 rfl rfl)
theorem dX1_keeps_52 : decode bcX1_keeps 52 = .ok (.aload_n 1, 1) := dk_43 (dk_at dksX1_keeps_2 5 rfl rfl)
theorem dX1_keeps_53 : decode bcX1_keeps 53 = .ok (.aastore, 1) := dk_83 (dk_at dksX1_keeps_2 6 rfl rfl)
theorem dX1_keeps_54 : decode bcX1_keeps 54 = .ok (.aload_n 0, 1) := dk_42 (dk_at dksX1_keeps_2 7 rfl rfl)
theorem dX1_keeps_55 : decode bcX1_keeps 55 = .ok (.dup, 1) := dk_89 (dk_at dksX1_keeps_2 8 rfl rfl)
theorem dX1_keeps_56 : decode bcX1_keeps 56 = .ok (.getfield 127, 3) := dk_180 0 127 (dk_at dksX1_keeps_2 9 rfl rfl)
theorem dX1_keeps_59 : decode bcX1_keeps 59 = .ok (.iconst 1, 1) := dk_4 (dk_at dksX1_keeps_2 12 rfl rfl)
theorem dX1_keeps_60 : decode bcX1_keeps 60 = .ok (.isub, 1) := dk_100 (dk_at dksX1_keeps_2 13 rfl rfl)
theorem dX1_keeps_61 : decode bcX1_keeps 61 = .ok (.putfield 127, 3) := dk_181 0 127 (dk_at dksX1_keeps_2 14 rfl rfl)
theorem dX1_keeps_64 : decode bcX1_keeps 64 = .ok (.aload_n 0, 1) := dk_42 (dk_at dksX1_keeps_2 17 rfl rfl)
theorem dX1_keeps_65 : decode bcX1_keeps 65 = .ok (.getfield 62, 3) := dk_180 0 62 (dk_at dksX1_keeps_2 18 rfl rfl)
theorem dX1_keeps_68 : decode bcX1_keeps 68 = .ok (.aload_n 0, 1) := dk_42 (dk_at dksX1_keeps_2 21 rfl rfl)
theorem dX1_keeps_69 : decode bcX1_keeps 69 = .ok (.getfield 127, 3) := dk_180 0 127 (dk_at dksX1_keeps_3 0 rfl rfl)
theorem dX1_keeps_72 : decode bcX1_keeps 72 = .ok (.aaload, 1) := dk_50 (dk_at dksX1_keeps_3 3 rfl rfl)
theorem dX1_keeps_73 : decode bcX1_keeps 73 = .ok (.ifnonnull 19, 3) := dk_199 0 19 (dk_at dksX1_keeps_3 4 rfl rfl)
theorem dX1_keeps_76 : decode bcX1_keeps 76 = .ok (.aload_n 0, 1) := dk_42 (dk_at dksX1_keeps_3 7 rfl rfl)
theorem dX1_keeps_77 : decode bcX1_keeps 77 = .ok (.getfield 62, 3) := dk_180 0 62 (dk_at dksX1_keeps_3 8 rfl rfl)
theorem dX1_keeps_80 : decode bcX1_keeps 80 = .ok (.aload_n 0, 1) := dk_42 (dk_at dksX1_keeps_3 11 rfl rfl)
theorem dX1_keeps_81 : decode bcX1_keeps 81 = .ok (.getfield 127, 3) := dk_180 0 127 (dk_at dksX1_keeps_3 12 rfl rfl)
theorem dX1_keeps_84 : decode bcX1_keeps 84 = .ok (.new 48, 3) := dk_187 0 48 (dk_at dksX1_keeps_3 15 rfl rfl)
theorem dX1_keeps_87 : decode bcX1_keeps 87 = .ok (.dup, 1) := dk_89 (dk_at dksX1_keeps_3 18 rfl rfl)
theorem dX1_keeps_88 : decode bcX1_keeps 88 = .ok (.invokespecial 50, 3) := dk_183 0 50 (dk_at dksX1_keeps_3 19 rfl rfl)
theorem dX1_keeps_91 : decode bcX1_keeps 91 = .ok (.aastore, 1) := dk_83 (dk_at dksX1_keeps_3 22 rfl rfl)
theorem dX1_keeps_92 : decode bcX1_keeps 92 = .ok (.aload_n 0, 1) := dk_42 (dk_at dksX1_keeps_3 23 rfl rfl)
theorem dX1_keeps_93 : decode bcX1_keeps 93 = .ok (.getfield 62, 3) := dk_180 0 62 (dk_at dksX1_keeps_4 0 rfl rfl)
theorem dX1_keeps_96 : decode bcX1_keeps 96 = .ok (.aload_n 0, 1) := dk_42 (dk_at dksX1_keeps_4 3 rfl rfl)
theorem dX1_keeps_97 : decode bcX1_keeps 97 = .ok (.dup, 1) := dk_89 (dk_at dksX1_keeps_4 4 rfl rfl)
theorem dX1_keeps_98 : decode bcX1_keeps 98 = .ok (.getfield 127, 3) := dk_180 0 127 (dk_at dksX1_keeps_4 5 rfl rfl)
theorem dX1_keeps_101 : decode bcX1_keeps 101 = .ok (.dup_x1, 1) := dk_90 (dk_at dksX1_keeps_4 8 rfl rfl)
theorem dX1_keeps_102 : decode bcX1_keeps 102 = .ok (.iconst 1, 1) := dk_4 (dk_at dksX1_keeps_4 9 rfl rfl)
theorem dX1_keeps_103 : decode bcX1_keeps 103 = .ok (.iadd, 1) := dk_96 (dk_at dksX1_keeps_4 10 rfl rfl)
theorem dX1_keeps_104 : decode bcX1_keeps 104 = .ok (.putfield 127, 3) := dk_181 0 127 (dk_at dksX1_keeps_4 11 rfl rfl)
theorem dX1_keeps_107 : decode bcX1_keeps 107 = .ok (.aaload, 1) := dk_50 (dk_at dksX1_keeps_4 14 rfl rfl)
theorem dX1_keeps_108 : decode bcX1_keeps 108 = .ok (.aload_n 0, 1) := dk_42 (dk_at dksX1_keeps_4 15 rfl rfl)
theorem dX1_keeps_109 : decode bcX1_keeps 109 = .ok (.getfield 51, 3) := dk_180 0 51 (dk_at dksX1_keeps_4 16 rfl rfl)
theorem dX1_keeps_112 : decode bcX1_keeps 112 = .ok (.invokevirtual 253, 3) := dk_182 0 253 (dk_at dksX1_keeps_4 19 rfl rfl)
theorem dX1_keeps_115 : decode bcX1_keeps 115 = .ok (.return_, 1) := dk_177 (dk_at dksX1_keeps_4 22 rfl rfl)
abbrev SX1_keeps (pc : Nat) (i : xI) : Prop := Snd "SwollenHouse" "keeps" prog_1_method_29_code 3 (Option.none : Option Jvm.ClassFile.FieldType) [] pc i
theorem oX1_keeps_0 : SX1_keeps 0 (i_aload 0 1) := snd_aload_n dX1_keeps_0 rfl
theorem oX1_keeps_1 : SX1_keeps 1 (i_getf 0 9 4) := snd_getf dX1_keeps_1 rfl (by decide) in_X1 (Or.inl q355) (Or.inl rfl) (by decide)
theorem oX1_keeps_4 : SX1_keeps 4 (i_const (.int (nI 16)) 6) := snd_bipush dX1_keeps_4 (by decide)
theorem oX1_keeps_6 : SX1_keeps 6 (i_if2 (fun x y => ¬ x = y) 64 9) := snd_icmp_ne dX1_keeps_6 (by decide)
theorem oX1_keeps_9 : SX1_keeps 9 (i_aload 0 10) := snd_aload_n dX1_keeps_9 rfl
theorem oX1_keeps_10 : SX1_keeps 10 (i_getf 0 8 13) := snd_getf dX1_keeps_10 rfl (by decide) in_X1 (Or.inl q354) (Or.inl rfl) (by decide)
theorem oX1_keeps_13 : SX1_keeps 13 (i_const (.int (nI 0)) 14) := snd_iconst dX1_keeps_13 (by decide)
theorem oX1_keeps_14 : SX1_keeps 14 (i_aq 5 15) := snd_aq dX1_keeps_14 (fun _ => rfl) rfl
theorem oX1_keeps_15 : SX1_keeps 15 (i_astore 1 16) := snd_astore_n dX1_keeps_15 rfl (by decide)
theorem oX1_keeps_16 : SX1_keeps 16 (i_const (.int (nI 0)) 17) := snd_iconst dX1_keeps_16 (by decide)
theorem oX1_keeps_17 : SX1_keeps 17 (i_istore 2 18) := snd_istore_n dX1_keeps_17 rfl (by decide)
theorem oX1_keeps_18 : SX1_keeps 18 (i_iload 2 19) := snd_iload_n dX1_keeps_18 rfl
theorem oX1_keeps_19 : SX1_keeps 19 (i_const (.int (nI 1)) 20) := snd_iconst dX1_keeps_19 (by decide)
theorem oX1_keeps_20 : SX1_keeps 20 (i_ii (fun x y => x + y) 21) := snd_iadd dX1_keeps_20
theorem oX1_keeps_21 : SX1_keeps 21 (i_const (.int (nI 16)) 23) := snd_bipush dX1_keeps_21 (by decide)
theorem oX1_keeps_23 : SX1_keeps 23 (i_if2 (fun x y => y ≤ x) 46 26) := snd_icmp_ge dX1_keeps_23 (by decide)
theorem oX1_keeps_26 : SX1_keeps 26 (i_aload 0 27) := snd_aload_n dX1_keeps_26 rfl
theorem oX1_keeps_27 : SX1_keeps 27 (i_getf 0 8 30) := snd_getf dX1_keeps_27 rfl (by decide) in_X1 (Or.inl q354) (Or.inl rfl) (by decide)
theorem oX1_keeps_30 : SX1_keeps 30 (i_iload 2 31) := snd_iload_n dX1_keeps_30 rfl
theorem oX1_keeps_31 : SX1_keeps 31 (i_aload 0 32) := snd_aload_n dX1_keeps_31 rfl
theorem oX1_keeps_32 : SX1_keeps 32 (i_getf 0 8 35) := snd_getf dX1_keeps_32 rfl (by decide) in_X1 (Or.inl q354) (Or.inl rfl) (by decide)
theorem oX1_keeps_35 : SX1_keeps 35 (i_iload 2 36) := snd_iload_n dX1_keeps_35 rfl
theorem oX1_keeps_36 : SX1_keeps 36 (i_const (.int (nI 1)) 37) := snd_iconst dX1_keeps_36 (by decide)
theorem oX1_keeps_37 : SX1_keeps 37 (i_ii (fun x y => x + y) 38) := snd_iadd dX1_keeps_37
theorem oX1_keeps_38 : SX1_keeps 38 (i_aq 5 39) := snd_aq dX1_keeps_38 (fun _ => rfl) rfl
theorem oX1_keeps_39 : SX1_keeps 39 (i_sq [3] 5 40) := snd_sq dX1_keeps_39 (by decide) rfl okcs_5
theorem oX1_keeps_40 : SX1_keeps 40 (i_iinc 2 (nI 1) 43) := snd_iinc dX1_keeps_40 (by decide) (by decide)
theorem oX1_keeps_43 : SX1_keeps 43 (i_goto 18) := snd_goto dX1_keeps_43 (by decide)
theorem oX1_keeps_46 : SX1_keeps 46 (i_aload 0 47) := snd_aload_n dX1_keeps_46 rfl
theorem oX1_keeps_47 : SX1_keeps 47 (i_getf 0 8 50) := snd_getf dX1_keeps_47 rfl (by decide) in_X1 (Or.inl q354) (Or.inl rfl) (by decide)
theorem oX1_keeps_50 : SX1_keeps 50 (i_const (.int (nI 15)) 52) := snd_bipush dX1_keeps_50 (by decide)
theorem oX1_keeps_52 : SX1_keeps 52 (i_aload 1 53) := snd_aload_n dX1_keeps_52 rfl
theorem oX1_keeps_53 : SX1_keeps 53 (i_sq [3] 5 54) := snd_sq dX1_keeps_53 (by decide) rfl okcs_5
theorem oX1_keeps_54 : SX1_keeps 54 (i_aload 0 55) := snd_aload_n dX1_keeps_54 rfl
theorem oX1_keeps_55 : SX1_keeps 55 (i_dup 56) := snd_dup dX1_keeps_55
theorem oX1_keeps_56 : SX1_keeps 56 (i_getf 0 9 59) := snd_getf dX1_keeps_56 rfl (by decide) in_X1 (Or.inl q355) (Or.inl rfl) (by decide)
theorem oX1_keeps_59 : SX1_keeps 59 (i_const (.int (nI 1)) 60) := snd_iconst dX1_keeps_59 (by decide)
theorem oX1_keeps_60 : SX1_keeps 60 (i_ii (fun x y => x - y) 61) := snd_isub dX1_keeps_60
theorem oX1_keeps_61 : SX1_keeps 61 (i_putfi 0 9 64) := snd_putfi dX1_keeps_61 rfl (by decide) in_X1 tyX1 tyX1_ok nmX1 (Or.inl ⟨rfl, q355⟩) (Or.inl rfl) rfl
theorem oX1_keeps_64 : SX1_keeps 64 (i_aload 0 65) := snd_aload_n dX1_keeps_64 rfl
theorem oX1_keeps_65 : SX1_keeps 65 (i_getf 0 8 68) := snd_getf dX1_keeps_65 rfl (by decide) in_X1 (Or.inl q354) (Or.inl rfl) (by decide)
theorem oX1_keeps_68 : SX1_keeps 68 (i_aload 0 69) := snd_aload_n dX1_keeps_68 rfl
theorem oX1_keeps_69 : SX1_keeps 69 (i_getf 0 9 72) := snd_getf dX1_keeps_69 rfl (by decide) in_X1 (Or.inl q355) (Or.inl rfl) (by decide)
theorem oX1_keeps_72 : SX1_keeps 72 (i_aq 5 73) := snd_aq dX1_keeps_72 (fun _ => rfl) rfl
theorem oX1_keeps_73 : SX1_keeps 73 (i_ifnonnull 92 76) := snd_ifnonnull dX1_keeps_73 (by decide)
theorem oX1_keeps_76 : SX1_keeps 76 (i_aload 0 77) := snd_aload_n dX1_keeps_76 rfl
theorem oX1_keeps_77 : SX1_keeps 77 (i_getf 0 8 80) := snd_getf dX1_keeps_77 rfl (by decide) in_X1 (Or.inl q354) (Or.inl rfl) (by decide)
theorem oX1_keeps_80 : SX1_keeps 80 (i_aload 0 81) := snd_aload_n dX1_keeps_80 rfl
theorem oX1_keeps_81 : SX1_keeps 81 (i_getf 0 9 84) := snd_getf dX1_keeps_81 rfl (by decide) in_X1 (Or.inl q355) (Or.inl rfl) (by decide)
theorem oX1_keeps_84 : SX1_keeps 84 (i_new 3 5 zX4 87) := snd_new dX1_keeps_84 rfl in_X4 tyX4 tyX4_ok (by decide) q282 q283 q133
theorem oX1_keeps_87 : SX1_keeps 87 (i_dup 88) := snd_dup dX1_keeps_87
theorem oX1_keeps_88 : SX1_keeps 88 (i_ci [3] 236 0 91) := snd_ci rfl infX4_init (by decide) (xcls_ok _ (by decide)) (xIm_N dX1_keeps_88 rfl q284 q285 q133 q286 pdX4_init)
theorem oX1_keeps_91 : SX1_keeps 91 (i_sq [3] 5 92) := snd_sq dX1_keeps_91 (by decide) rfl okcs_5
theorem oX1_keeps_92 : SX1_keeps 92 (i_aload 0 93) := snd_aload_n dX1_keeps_92 rfl
theorem oX1_keeps_93 : SX1_keeps 93 (i_getf 0 8 96) := snd_getf dX1_keeps_93 rfl (by decide) in_X1 (Or.inl q354) (Or.inl rfl) (by decide)
theorem oX1_keeps_96 : SX1_keeps 96 (i_aload 0 97) := snd_aload_n dX1_keeps_96 rfl
theorem oX1_keeps_97 : SX1_keeps 97 (i_dup 98) := snd_dup dX1_keeps_97
theorem oX1_keeps_98 : SX1_keeps 98 (i_getf 0 9 101) := snd_getf dX1_keeps_98 rfl (by decide) in_X1 (Or.inl q355) (Or.inl rfl) (by decide)
theorem oX1_keeps_101 : SX1_keeps 101 (i_dup_x1 102) := snd_dup_x1 dX1_keeps_101
theorem oX1_keeps_102 : SX1_keeps 102 (i_const (.int (nI 1)) 103) := snd_iconst dX1_keeps_102 (by decide)
theorem oX1_keeps_103 : SX1_keeps 103 (i_ii (fun x y => x + y) 104) := snd_iadd dX1_keeps_103
theorem oX1_keeps_104 : SX1_keeps 104 (i_putfi 0 9 107) := snd_putfi dX1_keeps_104 rfl (by decide) in_X1 tyX1 tyX1_ok nmX1 (Or.inl ⟨rfl, q355⟩) (Or.inl rfl) rfl
theorem oX1_keeps_107 : SX1_keeps 107 (i_aq 5 108) := snd_aq dX1_keeps_107 (fun _ => rfl) rfl
theorem oX1_keeps_108 : SX1_keeps 108 (i_aload 0 109) := snd_aload_n dX1_keeps_108 rfl
theorem oX1_keeps_109 : SX1_keeps 109 (i_getf 0 4 112) := snd_getf dX1_keeps_109 rfl (by decide) in_X1 (Or.inl q350) (Or.inl rfl) (by decide)
theorem oX1_keeps_112 : SX1_keeps 112 (i_cvv 3 239 1 115) := snd_cvv rfl infX4_be (by decide) rfl (xVm_V dX1_keeps_112 rfl q1194 q1195 q1196 q133 q1197 pdX4_be)
theorem oX1_keeps_115 : SX1_keeps 115 (i_vret) := snd_vret dX1_keeps_115 rfl
theorem okX1_keeps : ∀ q ∈ cX1_keeps, SX1_keeps q.1 q.2 := List.forall_mem_cons.mpr ⟨oX1_keeps_0, List.forall_mem_cons.mpr ⟨oX1_keeps_1, List.forall_mem_cons.mpr ⟨oX1_keeps_4, List.forall_mem_cons.mpr ⟨oX1_keeps_6, List.forall_mem_cons.mpr ⟨oX1_keeps_9, List.forall_mem_cons.mpr ⟨oX1_keeps_10, List.forall_mem_cons.mpr ⟨oX1_keeps_13, List.forall_mem_cons.mpr ⟨oX1_keeps_14, List.forall_mem_cons.mpr ⟨oX1_keeps_15, List.forall_mem_cons.mpr ⟨oX1_keeps_16, List.forall_mem_cons.mpr ⟨oX1_keeps_17, List.forall_mem_cons.mpr ⟨oX1_keeps_18, List.forall_mem_cons.mpr ⟨oX1_keeps_19, List.forall_mem_cons.mpr ⟨oX1_keeps_20, List.forall_mem_cons.mpr ⟨oX1_keeps_21, List.forall_mem_cons.mpr ⟨oX1_keeps_23, List.forall_mem_cons.mpr ⟨oX1_keeps_26, List.forall_mem_cons.mpr ⟨oX1_keeps_27, List.forall_mem_cons.mpr ⟨oX1_keeps_30, List.forall_mem_cons.mpr ⟨oX1_keeps_31, List.forall_mem_cons.mpr ⟨oX1_keeps_32, List.forall_mem_cons.mpr ⟨oX1_keeps_35, List.forall_mem_cons.mpr ⟨oX1_keeps_36, List.forall_mem_cons.mpr ⟨oX1_keeps_37, List.forall_mem_cons.mpr ⟨oX1_keeps_38, List.forall_mem_cons.mpr ⟨oX1_keeps_39, List.forall_mem_cons.mpr ⟨oX1_keeps_40, List.forall_mem_cons.mpr ⟨oX1_keeps_43, List.forall_mem_cons.mpr ⟨oX1_keeps_46, List.forall_mem_cons.mpr ⟨oX1_keeps_47, List.forall_mem_cons.mpr ⟨oX1_keeps_50, List.forall_mem_cons.mpr ⟨oX1_keeps_52, List.forall_mem_cons.mpr ⟨oX1_keeps_53, List.forall_mem_cons.mpr ⟨oX1_keeps_54, List.forall_mem_cons.mpr ⟨oX1_keeps_55, List.forall_mem_cons.mpr ⟨oX1_keeps_56, List.forall_mem_cons.mpr ⟨oX1_keeps_59, List.forall_mem_cons.mpr ⟨oX1_keeps_60, List.forall_mem_cons.mpr ⟨oX1_keeps_61, List.forall_mem_cons.mpr ⟨oX1_keeps_64, List.forall_mem_cons.mpr ⟨oX1_keeps_65, List.forall_mem_cons.mpr ⟨oX1_keeps_68, List.forall_mem_cons.mpr ⟨oX1_keeps_69, List.forall_mem_cons.mpr ⟨oX1_keeps_72, List.forall_mem_cons.mpr ⟨oX1_keeps_73, List.forall_mem_cons.mpr ⟨oX1_keeps_76, List.forall_mem_cons.mpr ⟨oX1_keeps_77, List.forall_mem_cons.mpr ⟨oX1_keeps_80, List.forall_mem_cons.mpr ⟨oX1_keeps_81, List.forall_mem_cons.mpr ⟨oX1_keeps_84, List.forall_mem_cons.mpr ⟨oX1_keeps_87, List.forall_mem_cons.mpr ⟨oX1_keeps_88, List.forall_mem_cons.mpr ⟨oX1_keeps_91, List.forall_mem_cons.mpr ⟨oX1_keeps_92, List.forall_mem_cons.mpr ⟨oX1_keeps_93, List.forall_mem_cons.mpr ⟨oX1_keeps_96, List.forall_mem_cons.mpr ⟨oX1_keeps_97, List.forall_mem_cons.mpr ⟨oX1_keeps_98, List.forall_mem_cons.mpr ⟨oX1_keeps_101, List.forall_mem_cons.mpr ⟨oX1_keeps_102, List.forall_mem_cons.mpr ⟨oX1_keeps_103, List.forall_mem_cons.mpr ⟨oX1_keeps_104, List.forall_mem_cons.mpr ⟨oX1_keeps_107, List.forall_mem_cons.mpr ⟨oX1_keeps_108, List.forall_mem_cons.mpr ⟨oX1_keeps_109, List.forall_mem_cons.mpr ⟨oX1_keeps_112, List.forall_mem_cons.mpr ⟨oX1_keeps_115, fun _ h => absurd h List.not_mem_nil⟩⟩⟩⟩⟩⟩⟩⟩⟩⟩⟩⟩⟩⟩⟩⟩⟩⟩⟩⟩⟩⟩⟩⟩⟩⟩⟩⟩⟩⟩⟩⟩⟩⟩⟩⟩⟩⟩⟩⟩⟩⟩⟩⟩⟩⟩⟩⟩⟩⟩⟩⟩⟩⟩⟩⟩⟩⟩⟩⟩⟩⟩⟩⟩⟩⟩⟩
def dkwX1_passes_0 : List UInt8 := [42, 43, 42, 180, 0, 35, 43, 180, 0, 189, 182, 0, 208, 182, 0, 212, 177]
abbrev dktX1_passes_0 : List UInt8 := dkwX1_passes_0 ++ []
theorem dksX1_passes_0 : bcX1_passes.data.toList.drop 0 = dktX1_passes_0 := by decide +kernel
theorem dX1_passes_0 : decode bcX1_passes 0 = .ok (.aload_n 0, 1) := dk_42 (dk_at dksX1_passes_0 0 rfl rfl)
theorem dX1_passes_1 : decode bcX1_passes 1 = .ok (.aload_n 1, 1) := dk_43 (dk_at dksX1_passes_0 1 rfl rfl)
theorem dX1_passes_2 : decode bcX1_passes 2 = .ok (.aload_n 0, 1) := dk_42 (dk_at dksX1_passes_0 2 rfl rfl)
theorem dX1_passes_3 : decode bcX1_passes 3 = .ok (.getfield 35, 3) := dk_180 0 35 (dk_at dksX1_passes_0 3 rfl rfl)
theorem dX1_passes_6 : decode bcX1_passes 6 = .ok (.aload_n 1, 1) := dk_43 (dk_at dksX1_passes_0 6 rfl rfl)
theorem dX1_passes_7 : decode bcX1_passes 7 = .ok (.getfield 189, 3) := dk_180 0 189 (dk_at dksX1_passes_0 7 rfl rfl)
theorem dX1_passes_10 : decode bcX1_passes 10 = .ok (.invokevirtual 208, 3) := dk_182 0 208 (dk_at dksX1_passes_0 10 rfl rfl)
theorem dX1_passes_13 : decode bcX1_passes 13 = .ok (.invokevirtual 212, 3) := dk_182 0 212 (dk_at dksX1_passes_0 13 rfl rfl)
theorem dX1_passes_16 : decode bcX1_passes 16 = .ok (.return_, 1) := dk_177 (dk_at dksX1_passes_0 16 rfl rfl)
abbrev SX1_passes (pc : Nat) (i : xI) : Prop := Snd "SwollenHouse" "passes" prog_1_method_21_code 2 (Option.none : Option Jvm.ClassFile.FieldType) [] pc i
theorem oX1_passes_0 : SX1_passes 0 (i_aload 0 1) := snd_aload_n dX1_passes_0 rfl
theorem oX1_passes_1 : SX1_passes 1 (i_aload 1 2) := snd_aload_n dX1_passes_1 rfl
theorem oX1_passes_2 : SX1_passes 2 (i_aload 0 3) := snd_aload_n dX1_passes_2 rfl
theorem oX1_passes_3 : SX1_passes 3 (i_getf 0 2 6) := snd_getf dX1_passes_3 rfl (by decide) in_X1 (Or.inl q348) (Or.inl rfl) (by decide)
theorem oX1_passes_6 : SX1_passes 6 (i_aload 1 7) := snd_aload_n dX1_passes_6 rfl
theorem oX1_passes_7 : SX1_passes 7 (i_getf 3 4 10) := snd_getf dX1_passes_7 rfl (by decide) in_X4 (Or.inr ⟨_, q302⟩) (Or.inl rfl) (by decide)
theorem oX1_passes_10 : SX1_passes 10 (i_cv 2 235 1 13) := snd_cv rfl infX3_damp (by decide) rfl (xVm_V dX1_passes_10 rfl q1202 q1203 q1204 q129 q1205 pdX3_damp)
theorem oX1_passes_13 : SX1_passes 13 (i_cvv 0 105 2 16) := snd_cvv rfl infX1_passes_2 (by decide) rfl (xVm_V dX1_passes_13 rfl q1206 q1208 qs36 q127 q1209 pdX1_passes_2)
theorem oX1_passes_16 : SX1_passes 16 (i_vret) := snd_vret dX1_passes_16 rfl
theorem okX1_passes : ∀ q ∈ cX1_passes, SX1_passes q.1 q.2 := List.forall_mem_cons.mpr ⟨oX1_passes_0, List.forall_mem_cons.mpr ⟨oX1_passes_1, List.forall_mem_cons.mpr ⟨oX1_passes_2, List.forall_mem_cons.mpr ⟨oX1_passes_3, List.forall_mem_cons.mpr ⟨oX1_passes_6, List.forall_mem_cons.mpr ⟨oX1_passes_7, List.forall_mem_cons.mpr ⟨oX1_passes_10, List.forall_mem_cons.mpr ⟨oX1_passes_13, List.forall_mem_cons.mpr ⟨oX1_passes_16, fun _ h => absurd h List.not_mem_nil⟩⟩⟩⟩⟩⟩⟩⟩⟩
def dkwX1_passes_2_4 : List UInt8 := [43, 89, 180, 0, 189, 4, 96, 181, 0, 189, 177]
abbrev dktX1_passes_2_4 : List UInt8 := dkwX1_passes_2_4 ++ []
def dkwX1_passes_2_3 : List UInt8 := [29, 3, 43, 180, 0, 176, 29, 46, 25, 4, 182, 0, 186, 100, 184, 0, 7, 79, 132, 3, 1, 167, 255, 167]
abbrev dktX1_passes_2_3 : List UInt8 := dkwX1_passes_2_3 ++ dktX1_passes_2_4
def dkwX1_passes_2_2 : List UInt8 := [182, 0, 179, 96, 184, 0, 1, 79, 167, 0, 34, 28, 25, 4, 182, 0, 183, 162, 0, 25, 43, 180, 0, 176]
abbrev dktX1_passes_2_2 : List UInt8 := dkwX1_passes_2_2 ++ dktX1_passes_2_3
def dkwX1_passes_2_1 : List UInt8 := [182, 0, 171, 164, 0, 31, 43, 180, 0, 176, 29, 16, 30, 43, 180, 0, 176, 29, 46, 42, 43, 29, 28]
abbrev dktX1_passes_2_1 : List UInt8 := dkwX1_passes_2_1 ++ dktX1_passes_2_2
def dkwX1_passes_2_0 : List UInt8 := [3, 62, 29, 42, 182, 0, 159, 162, 0, 87, 42, 29, 182, 0, 163, 180, 0, 167, 58, 4, 28, 25, 4]
abbrev dktX1_passes_2_0 : List UInt8 := dkwX1_passes_2_0 ++ dktX1_passes_2_1
theorem dksX1_passes_2_0 : bcX1_passes_2.data.toList.drop 0 = dktX1_passes_2_0 := by decide +kernel
theorem dksX1_passes_2_1 : bcX1_passes_2.data.toList.drop 23 = dktX1_passes_2_1 := dk_seg dksX1_passes_2_0 23 rfl rfl
theorem dksX1_passes_2_2 : bcX1_passes_2.data.toList.drop 46 = dktX1_passes_2_2 := dk_seg dksX1_passes_2_1 23 rfl rfl
theorem dksX1_passes_2_3 : bcX1_passes_2.data.toList.drop 70 = dktX1_passes_2_3 := dk_seg dksX1_passes_2_2 24 rfl rfl
theorem dksX1_passes_2_4 : bcX1_passes_2.data.toList.drop 94 = dktX1_passes_2_4 := dk_seg dksX1_passes_2_3 24 rfl rfl
theorem dX1_passes_2_0 : decode bcX1_passes_2 0 = .ok (.iconst 0, 1) := dk_3 (dk_at dksX1_passes_2_0 0 rfl rfl)
theorem dX1_passes_2_1 : decode bcX1_passes_2 1 = .ok (.istore_n 3, 1) := dk_62 (dk_at dksX1_passes_2_0 1 rfl rfl)
theorem dX1_passes_2_2 : decode bcX1_passes_2 2 = .ok (.iload_n 3, 1) := dk_29 (dk_at dksX1_passes_2_0 2 rfl rfl)
theorem dX1_passes_2_3 : decode bcX1_passes_2 3 = .ok (.aload_n 0, 1) := dk_42 (dk_at dksX1_passes_2_0 3 rfl rfl)
theorem dX1_passes_2_4 : decode bcX1_passes_2 4 = .ok (.invokevirtual 159, 3) := dk_182 0 159 (dk_at dksX1_passes_2_0 4 rfl rfl)
theorem dX1_passes_2_7 : decode bcX1_passes_2 7 = .ok (.if_icmp .ge 87, 3) := dk_162 0 87 (dk_at dksX1_passes_2_0 7 rfl rfl)
theorem dX1_passes_2_10 : decode bcX1_passes_2 10 = .ok (.aload_n 0, 1) := dk_42 (dk_at dksX1_passes_2_0 10 rfl rfl)
theorem dX1_passes_2_11 : decode bcX1_passes_2 11 = .ok (.iload_n 3, 1) := dk_29 (dk_at dksX1_passes_2_0 11 rfl rfl)
theorem dX1_passes_2_12 : decode bcX1_passes_2 12 = .ok (.invokevirtual 163, 3) := dk_182 0 163 (dk_at dksX1_passes_2_0 12 rfl rfl)
theorem dX1_passes_2_15 : decode bcX1_passes_2 15 = .ok (.getfield 167, 3) := dk_180 0 167 (dk_at dksX1_passes_2_0 15 rfl rfl)
theorem dX1_passes_2_18 : decode bcX1_passes_2 18 = .ok (.astore 4, 2) := dk_58 4 (dk_at dksX1_passes_2_0 18 rfl rfl)
theorem dX1_passes_2_20 : decode bcX1_passes_2 20 = .ok (.iload_n 2, 1) := dk_28 (dk_at dksX1_passes_2_0 20 rfl rfl)
theorem dX1_passes_2_21 : decode bcX1_passes_2 21 = .ok (.aload 4, 2) := dk_25 4 (dk_at dksX1_passes_2_0 21 rfl rfl)
theorem dX1_passes_2_23 : decode bcX1_passes_2 23 = .ok (.invokevirtual 171, 3) := dk_182 0 171 (dk_at dksX1_passes_2_1 0 rfl rfl)
theorem dX1_passes_2_26 : decode bcX1_passes_2 26 = .ok (.if_icmp .le 31, 3) := dk_164 0 31 (dk_at dksX1_passes_2_1 3 rfl rfl)
theorem dX1_passes_2_29 : decode bcX1_passes_2 29 = .ok (.aload_n 1, 1) := dk_43 (dk_at dksX1_passes_2_1 6 rfl rfl)
theorem dX1_passes_2_30 : decode bcX1_passes_2 30 = .ok (.getfield 176, 3) := dk_180 0 176 (dk_at dksX1_passes_2_1 7 rfl rfl)
theorem dX1_passes_2_33 : decode bcX1_passes_2 33 = .ok (.iload_n 3, 1) := dk_29 (dk_at dksX1_passes_2_1 10 rfl rfl)
theorem dX1_passes_2_34 : decode bcX1_passes_2 34 = .ok (.bipush 30, 2) := dk_16 30 (dk_at dksX1_passes_2_1 11 rfl rfl)
theorem dX1_passes_2_36 : decode bcX1_passes_2 36 = .ok (.aload_n 1, 1) := dk_43 (dk_at dksX1_passes_2_1 13 rfl rfl)
theorem dX1_passes_2_37 : decode bcX1_passes_2 37 = .ok (.getfield 176, 3) := dk_180 0 176 (dk_at dksX1_passes_2_1 14 rfl rfl)
theorem dX1_passes_2_40 : decode bcX1_passes_2 40 = .ok (.iload_n 3, 1) := dk_29 (dk_at dksX1_passes_2_1 17 rfl rfl)
theorem dX1_passes_2_41 : decode bcX1_passes_2 41 = .ok (.iaload, 1) := dk_46 (dk_at dksX1_passes_2_1 18 rfl rfl)
theorem dX1_passes_2_42 : decode bcX1_passes_2 42 = .ok (.aload_n 0, 1) := dk_42 (dk_at dksX1_passes_2_1 19 rfl rfl)
theorem dX1_passes_2_43 : decode bcX1_passes_2 43 = .ok (.aload_n 1, 1) := dk_43 (dk_at dksX1_passes_2_1 20 rfl rfl)
theorem dX1_passes_2_44 : decode bcX1_passes_2 44 = .ok (.iload_n 3, 1) := dk_29 (dk_at dksX1_passes_2_1 21 rfl rfl)
theorem dX1_passes_2_45 : decode bcX1_passes_2 45 = .ok (.iload_n 2, 1) := dk_28 (dk_at dksX1_passes_2_1 22 rfl rfl)
theorem dX1_passes_2_46 : decode bcX1_passes_2 46 = .ok (.invokevirtual 179, 3) := dk_182 0 179 (dk_at dksX1_passes_2_2 0 rfl rfl)
theorem dX1_passes_2_49 : decode bcX1_passes_2 49 = .ok (.iadd, 1) := dk_96 (dk_at dksX1_passes_2_2 3 rfl rfl)
theorem dX1_passes_2_50 : decode bcX1_passes_2 50 = .ok (.invokestatic 1, 3) := dk_184 0 1 (dk_at dksX1_passes_2_2 4 rfl rfl)
theorem dX1_passes_2_53 : decode bcX1_passes_2 53 = .ok (.iastore, 1) := dk_79 (dk_at dksX1_passes_2_2 7 rfl rfl)
theorem dX1_passes_2_54 : decode bcX1_passes_2 54 = .ok (.goto 34, 3) := dk_167 0 34 (dk_at dksX1_passes_2_2 8 rfl rfl)
theorem dX1_passes_2_57 : decode bcX1_passes_2 57 = .ok (.iload_n 2, 1) := dk_28 (dk_at dksX1_passes_2_2 11 rfl rfl)
theorem dX1_passes_2_58 : decode bcX1_passes_2 58 = .ok (.aload 4, 2) := dk_25 4 (dk_at dksX1_passes_2_2 12 rfl rfl)
theorem dX1_passes_2_60 : decode bcX1_passes_2 60 = .ok (.invokevirtual 183, 3) := dk_182 0 183 (dk_at dksX1_passes_2_2 14 rfl rfl)
theorem dX1_passes_2_63 : decode bcX1_passes_2 63 = .ok (.if_icmp .ge 25, 3) := dk_162 0 25 (dk_at dksX1_passes_2_2 17 rfl rfl)
theorem dX1_passes_2_66 : decode bcX1_passes_2 66 = .ok (.aload_n 1, 1) := dk_43 (dk_at dksX1_passes_2_2 20 rfl rfl)
theorem dX1_passes_2_67 : decode bcX1_passes_2 67 = .ok (.getfield 176, 3) := dk_180 0 176 (dk_at dksX1_passes_2_2 21 rfl rfl)
theorem dX1_passes_2_70 : decode bcX1_passes_2 70 = .ok (.iload_n 3, 1) := dk_29 (dk_at dksX1_passes_2_3 0 rfl rfl)
theorem dX1_passes_2_71 : decode bcX1_passes_2 71 = .ok (.iconst 0, 1) := dk_3 (dk_at dksX1_passes_2_3 1 rfl rfl)
theorem dX1_passes_2_72 : decode bcX1_passes_2 72 = .ok (.aload_n 1, 1) := dk_43 (dk_at dksX1_passes_2_3 2 rfl rfl)
theorem dX1_passes_2_73 : decode bcX1_passes_2 73 = .ok (.getfield 176, 3) := dk_180 0 176 (dk_at dksX1_passes_2_3 3 rfl rfl)
theorem dX1_passes_2_76 : decode bcX1_passes_2 76 = .ok (.iload_n 3, 1) := dk_29 (dk_at dksX1_passes_2_3 6 rfl rfl)
theorem dX1_passes_2_77 : decode bcX1_passes_2 77 = .ok (.iaload, 1) := dk_46 (dk_at dksX1_passes_2_3 7 rfl rfl)
theorem dX1_passes_2_78 : decode bcX1_passes_2 78 = .ok (.aload 4, 2) := dk_25 4 (dk_at dksX1_passes_2_3 8 rfl rfl)
theorem dX1_passes_2_80 : decode bcX1_passes_2 80 = .ok (.invokevirtual 186, 3) := dk_182 0 186 (dk_at dksX1_passes_2_3 10 rfl rfl)
theorem dX1_passes_2_83 : decode bcX1_passes_2 83 = .ok (.isub, 1) := dk_100 (dk_at dksX1_passes_2_3 13 rfl rfl)
theorem dX1_passes_2_84 : decode bcX1_passes_2 84 = .ok (.invokestatic 7, 3) := dk_184 0 7 (dk_at dksX1_passes_2_3 14 rfl rfl)
theorem dX1_passes_2_87 : decode bcX1_passes_2 87 = .ok (.iastore, 1) := dk_79 (dk_at dksX1_passes_2_3 17 rfl rfl)
theorem dX1_passes_2_88 : decode bcX1_passes_2 88 = .ok (.iinc 3 1, 3) := dk_132 3 1 (dk_at dksX1_passes_2_3 18 rfl rfl)
theorem dX1_passes_2_91 : decode bcX1_passes_2 91 = .ok (.goto (-89), 3) := dk_167 255 167 (dk_at dksX1_passes_2_3 21 rfl rfl)
theorem dX1_passes_2_94 : decode bcX1_passes_2 94 = .ok (.aload_n 1, 1) := dk_43 (dk_at dksX1_passes_2_4 0 rfl rfl)
theorem dX1_passes_2_95 : decode bcX1_passes_2 95 = .ok (.dup, 1) := dk_89 (dk_at dksX1_passes_2_4 1 rfl rfl)
theorem dX1_passes_2_96 : decode bcX1_passes_2 96 = .ok (.getfield 189, 3) := dk_180 0 189 (dk_at dksX1_passes_2_4 2 rfl rfl)
theorem dX1_passes_2_99 : decode bcX1_passes_2 99 = .ok (.iconst 1, 1) := dk_4 (dk_at dksX1_passes_2_4 5 rfl rfl)
theorem dX1_passes_2_100 : decode bcX1_passes_2 100 = .ok (.iadd, 1) := dk_96 (dk_at dksX1_passes_2_4 6 rfl rfl)
theorem dX1_passes_2_101 : decode bcX1_passes_2 101 = .ok (.putfield 189, 3) := dk_181 0 189 (dk_at dksX1_passes_2_4 7 rfl rfl)
theorem dX1_passes_2_104 : decode bcX1_passes_2 104 = .ok (.return_, 1) := dk_177 (dk_at dksX1_passes_2_4 10 rfl rfl)
abbrev SX1_passes_2 (pc : Nat) (i : xI) : Prop := Snd "SwollenHouse" "passes" prog_1_method_19_code 5 (Option.none : Option Jvm.ClassFile.FieldType) [] pc i
theorem oX1_passes_2_0 : SX1_passes_2 0 (i_const (.int (nI 0)) 1) := snd_iconst dX1_passes_2_0 (by decide)
theorem oX1_passes_2_1 : SX1_passes_2 1 (i_istore 3 2) := snd_istore_n dX1_passes_2_1 rfl (by decide)
theorem oX1_passes_2_2 : SX1_passes_2 2 (i_iload 3 3) := snd_iload_n dX1_passes_2_2 rfl
theorem oX1_passes_2_3 : SX1_passes_2 3 (i_aload 0 4) := snd_aload_n dX1_passes_2_3 rfl
theorem oX1_passes_2_4 : SX1_passes_2 4 (i_cv 0 96 0 7) := snd_cv rfl infX1_doors (by decide) rfl (xVm_V dX1_passes_2_4 rfl q1140 q1142 qs30 q127 q1143 pdX1_doors)
theorem oX1_passes_2_7 : SX1_passes_2 7 (i_if2 (fun x y => y ≤ x) 94 10) := snd_icmp_ge dX1_passes_2_7 (by decide)
theorem oX1_passes_2_10 : SX1_passes_2 10 (i_aload 0 11) := snd_aload_n dX1_passes_2_10 rfl
theorem oX1_passes_2_11 : SX1_passes_2 11 (i_iload 3 12) := snd_iload_n dX1_passes_2_11 rfl
theorem oX1_passes_2_12 : SX1_passes_2 12 (i_cv 0 97 1 15) := snd_cv rfl infX1_door_2 (by decide) rfl (xVm_V dX1_passes_2_12 rfl q1146 q1148 qs31 q127 q1149 pdX1_door_2)
theorem oX1_passes_2_15 : SX1_passes_2 15 (i_getf 6 2 18) := snd_getf dX1_passes_2_15 rfl (by decide) in_X7 (Or.inr ⟨_, q914⟩) (Or.inl rfl) (by decide)
theorem oX1_passes_2_18 : SX1_passes_2 18 (i_astore 4 20) := snd_astore dX1_passes_2_18 (by decide)
theorem oX1_passes_2_20 : SX1_passes_2 20 (i_iload 2 21) := snd_iload_n dX1_passes_2_20 rfl
theorem oX1_passes_2_21 : SX1_passes_2 21 (i_aload 4 23) := snd_aload dX1_passes_2_21
theorem oX1_passes_2_23 : SX1_passes_2 23 (i_ca [(7, 373), (8, 168), (9, 173), (10, 178)] 0 26) := snd_ca rfl (lk_cons ⟨_, _, _, _, _, _, infX9_upper, by decide, rfl, xVm_A dX1_passes_2_23 q1210 q1212 q1219 q1220 q153 q1221 q1211 pdx1⟩ (lk_cons ⟨_, _, _, _, _, _, infX10_upper, by decide, rfl, xVm_A dX1_passes_2_23 q1210 q1212 q1222 q1223 q154 q1224 q1211 pdx1⟩ (lk_cons ⟨_, _, _, _, _, _, infX11_upper, by decide, rfl, xVm_A dX1_passes_2_23 q1210 q1212 q1213 q1214 q155 q1215 q1211 pdx1⟩ (lk_cons ⟨_, _, _, _, _, _, infX12_upper, by decide, rfl, xVm_A dX1_passes_2_23 q1210 q1212 q1216 q1217 q156 q1218 q1211 pdx1⟩ (lk_nil)))))
theorem oX1_passes_2_26 : SX1_passes_2 26 (i_if2 (fun x y => x ≤ y) 57 29) := snd_icmp_le dX1_passes_2_26 (by decide)
theorem oX1_passes_2_29 : SX1_passes_2 29 (i_aload 1 30) := snd_aload_n dX1_passes_2_29 rfl
theorem oX1_passes_2_30 : SX1_passes_2 30 (i_getf 3 0 33) := snd_getf dX1_passes_2_30 rfl (by decide) in_X4 (Or.inr ⟨_, q290⟩) (Or.inl rfl) (by decide)
theorem oX1_passes_2_33 : SX1_passes_2 33 (i_iload 3 34) := snd_iload_n dX1_passes_2_33 rfl
theorem oX1_passes_2_34 : SX1_passes_2 34 (i_const (.int (nI 30)) 36) := snd_bipush dX1_passes_2_34 (by decide)
theorem oX1_passes_2_36 : SX1_passes_2 36 (i_aload 1 37) := snd_aload_n dX1_passes_2_36 rfl
theorem oX1_passes_2_37 : SX1_passes_2 37 (i_getf 3 0 40) := snd_getf dX1_passes_2_37 rfl (by decide) in_X4 (Or.inr ⟨_, q290⟩) (Or.inl rfl) (by decide)
theorem oX1_passes_2_40 : SX1_passes_2 40 (i_iload 3 41) := snd_iload_n dX1_passes_2_40 rfl
theorem oX1_passes_2_41 : SX1_passes_2 41 (i_ai 0 42) := snd_ai0 dX1_passes_2_41
theorem oX1_passes_2_42 : SX1_passes_2 42 (i_aload 0 43) := snd_aload_n dX1_passes_2_42 rfl
theorem oX1_passes_2_43 : SX1_passes_2 43 (i_aload 1 44) := snd_aload_n dX1_passes_2_43 rfl
theorem oX1_passes_2_44 : SX1_passes_2 44 (i_iload 3 45) := snd_iload_n dX1_passes_2_44 rfl
theorem oX1_passes_2_45 : SX1_passes_2 45 (i_iload 2 46) := snd_iload_n dX1_passes_2_45 rfl
theorem oX1_passes_2_46 : SX1_passes_2 46 (i_cv 0 106 3 49) := snd_cv rfl infX1_swells (by decide) rfl (xVm_V dX1_passes_2_46 rfl q1225 q1227 qs37 q127 q1228 pdX1_swells)
theorem oX1_passes_2_49 : SX1_passes_2 49 (i_ii (fun x y => x + y) 50) := snd_iadd dX1_passes_2_49
theorem oX1_passes_2_50 : SX1_passes_2 50 (i_cs 63 2 53) := snd_cs rfl infJ7_min (by decide) (xSm_S dX1_passes_2_50 q1249 q478 q139 q479 pdJ7_min)
theorem oX1_passes_2_53 : SX1_passes_2 53 (i_si (fun v => v) 0 54) := snd_si0 dX1_passes_2_53
theorem oX1_passes_2_54 : SX1_passes_2 54 (i_goto 88) := snd_goto dX1_passes_2_54 (by decide)
theorem oX1_passes_2_57 : SX1_passes_2 57 (i_iload 2 58) := snd_iload_n dX1_passes_2_57 rfl
theorem oX1_passes_2_58 : SX1_passes_2 58 (i_aload 4 60) := snd_aload dX1_passes_2_58
theorem oX1_passes_2_60 : SX1_passes_2 60 (i_ca [(7, 374), (8, 169), (9, 174), (10, 179)] 0 63) := snd_ca rfl (lk_cons ⟨_, _, _, _, _, _, infX9_lower, by decide, rfl, xVm_A dX1_passes_2_60 q1251 q1253 q1260 q1261 q153 q1262 q1252 pdx2⟩ (lk_cons ⟨_, _, _, _, _, _, infX10_lower, by decide, rfl, xVm_A dX1_passes_2_60 q1251 q1253 q1263 q1264 q154 q1265 q1252 pdx2⟩ (lk_cons ⟨_, _, _, _, _, _, infX11_lower, by decide, rfl, xVm_A dX1_passes_2_60 q1251 q1253 q1254 q1255 q155 q1256 q1252 pdx2⟩ (lk_cons ⟨_, _, _, _, _, _, infX12_lower, by decide, rfl, xVm_A dX1_passes_2_60 q1251 q1253 q1257 q1258 q156 q1259 q1252 pdx2⟩ (lk_nil)))))
theorem oX1_passes_2_63 : SX1_passes_2 63 (i_if2 (fun x y => y ≤ x) 88 66) := snd_icmp_ge dX1_passes_2_63 (by decide)
theorem oX1_passes_2_66 : SX1_passes_2 66 (i_aload 1 67) := snd_aload_n dX1_passes_2_66 rfl
theorem oX1_passes_2_67 : SX1_passes_2 67 (i_getf 3 0 70) := snd_getf dX1_passes_2_67 rfl (by decide) in_X4 (Or.inr ⟨_, q290⟩) (Or.inl rfl) (by decide)
theorem oX1_passes_2_70 : SX1_passes_2 70 (i_iload 3 71) := snd_iload_n dX1_passes_2_70 rfl
theorem oX1_passes_2_71 : SX1_passes_2 71 (i_const (.int (nI 0)) 72) := snd_iconst dX1_passes_2_71 (by decide)
theorem oX1_passes_2_72 : SX1_passes_2 72 (i_aload 1 73) := snd_aload_n dX1_passes_2_72 rfl
theorem oX1_passes_2_73 : SX1_passes_2 73 (i_getf 3 0 76) := snd_getf dX1_passes_2_73 rfl (by decide) in_X4 (Or.inr ⟨_, q290⟩) (Or.inl rfl) (by decide)
theorem oX1_passes_2_76 : SX1_passes_2 76 (i_iload 3 77) := snd_iload_n dX1_passes_2_76 rfl
theorem oX1_passes_2_77 : SX1_passes_2 77 (i_ai 0 78) := snd_ai0 dX1_passes_2_77
theorem oX1_passes_2_78 : SX1_passes_2 78 (i_aload 4 80) := snd_aload dX1_passes_2_78
theorem oX1_passes_2_80 : SX1_passes_2 80 (i_ca [(7, 375), (8, 170), (9, 175), (10, 180)] 0 83) := snd_ca rfl (lk_cons ⟨_, _, _, _, _, _, infX9_shrinks, by decide, rfl, xVm_A dX1_passes_2_80 q1266 q1268 q1275 q1276 q153 q1277 q1267 pdx3⟩ (lk_cons ⟨_, _, _, _, _, _, infX10_shrinks, by decide, rfl, xVm_A dX1_passes_2_80 q1266 q1268 q1278 q1279 q154 q1280 q1267 pdx3⟩ (lk_cons ⟨_, _, _, _, _, _, infX11_shrinks, by decide, rfl, xVm_A dX1_passes_2_80 q1266 q1268 q1269 q1270 q155 q1271 q1267 pdx3⟩ (lk_cons ⟨_, _, _, _, _, _, infX12_shrinks, by decide, rfl, xVm_A dX1_passes_2_80 q1266 q1268 q1272 q1273 q156 q1274 q1267 pdx3⟩ (lk_nil)))))
theorem oX1_passes_2_83 : SX1_passes_2 83 (i_ii (fun x y => x - y) 84) := snd_isub dX1_passes_2_83
theorem oX1_passes_2_84 : SX1_passes_2 84 (i_cs 62 2 87) := snd_cs rfl infJ7_max (by decide) (xSm_S dX1_passes_2_84 q1250 q475 q139 q476 pdJ7_max)
theorem oX1_passes_2_87 : SX1_passes_2 87 (i_si (fun v => v) 0 88) := snd_si0 dX1_passes_2_87
theorem oX1_passes_2_88 : SX1_passes_2 88 (i_iinc 3 (nI 1) 91) := snd_iinc dX1_passes_2_88 (by decide) (by decide)
theorem oX1_passes_2_91 : SX1_passes_2 91 (i_goto 2) := snd_goto dX1_passes_2_91 (by decide)
theorem oX1_passes_2_94 : SX1_passes_2 94 (i_aload 1 95) := snd_aload_n dX1_passes_2_94 rfl
theorem oX1_passes_2_95 : SX1_passes_2 95 (i_dup 96) := snd_dup dX1_passes_2_95
theorem oX1_passes_2_96 : SX1_passes_2 96 (i_getf 3 4 99) := snd_getf dX1_passes_2_96 rfl (by decide) in_X4 (Or.inr ⟨_, q302⟩) (Or.inl rfl) (by decide)
theorem oX1_passes_2_99 : SX1_passes_2 99 (i_const (.int (nI 1)) 100) := snd_iconst dX1_passes_2_99 (by decide)
theorem oX1_passes_2_100 : SX1_passes_2 100 (i_ii (fun x y => x + y) 101) := snd_iadd dX1_passes_2_100
theorem oX1_passes_2_101 : SX1_passes_2 101 (i_putfi 3 4 104) := snd_putfi dX1_passes_2_101 rfl (by decide) in_X4 tyX4 tyX4_ok nmX4 (Or.inr (Or.inr ⟨rfl, _, q302⟩)) (Or.inl rfl) rfl
theorem oX1_passes_2_104 : SX1_passes_2 104 (i_vret) := snd_vret dX1_passes_2_104 rfl
theorem okX1_passes_2 : ∀ q ∈ cX1_passes_2, SX1_passes_2 q.1 q.2 := List.forall_mem_cons.mpr ⟨oX1_passes_2_0, List.forall_mem_cons.mpr ⟨oX1_passes_2_1, List.forall_mem_cons.mpr ⟨oX1_passes_2_2, List.forall_mem_cons.mpr ⟨oX1_passes_2_3, List.forall_mem_cons.mpr ⟨oX1_passes_2_4, List.forall_mem_cons.mpr ⟨oX1_passes_2_7, List.forall_mem_cons.mpr ⟨oX1_passes_2_10, List.forall_mem_cons.mpr ⟨oX1_passes_2_11, List.forall_mem_cons.mpr ⟨oX1_passes_2_12, List.forall_mem_cons.mpr ⟨oX1_passes_2_15, List.forall_mem_cons.mpr ⟨oX1_passes_2_18, List.forall_mem_cons.mpr ⟨oX1_passes_2_20, List.forall_mem_cons.mpr ⟨oX1_passes_2_21, List.forall_mem_cons.mpr ⟨oX1_passes_2_23, List.forall_mem_cons.mpr ⟨oX1_passes_2_26, List.forall_mem_cons.mpr ⟨oX1_passes_2_29, List.forall_mem_cons.mpr ⟨oX1_passes_2_30, List.forall_mem_cons.mpr ⟨oX1_passes_2_33, List.forall_mem_cons.mpr ⟨oX1_passes_2_34, List.forall_mem_cons.mpr ⟨oX1_passes_2_36, List.forall_mem_cons.mpr ⟨oX1_passes_2_37, List.forall_mem_cons.mpr ⟨oX1_passes_2_40, List.forall_mem_cons.mpr ⟨oX1_passes_2_41, List.forall_mem_cons.mpr ⟨oX1_passes_2_42, List.forall_mem_cons.mpr ⟨oX1_passes_2_43, List.forall_mem_cons.mpr ⟨oX1_passes_2_44, List.forall_mem_cons.mpr ⟨oX1_passes_2_45, List.forall_mem_cons.mpr ⟨oX1_passes_2_46, List.forall_mem_cons.mpr ⟨oX1_passes_2_49, List.forall_mem_cons.mpr ⟨oX1_passes_2_50, List.forall_mem_cons.mpr ⟨oX1_passes_2_53, List.forall_mem_cons.mpr ⟨oX1_passes_2_54, List.forall_mem_cons.mpr ⟨oX1_passes_2_57, List.forall_mem_cons.mpr ⟨oX1_passes_2_58, List.forall_mem_cons.mpr ⟨oX1_passes_2_60, List.forall_mem_cons.mpr ⟨oX1_passes_2_63, List.forall_mem_cons.mpr ⟨oX1_passes_2_66, List.forall_mem_cons.mpr ⟨oX1_passes_2_67, List.forall_mem_cons.mpr ⟨oX1_passes_2_70, List.forall_mem_cons.mpr ⟨oX1_passes_2_71, List.forall_mem_cons.mpr ⟨oX1_passes_2_72, List.forall_mem_cons.mpr ⟨oX1_passes_2_73, List.forall_mem_cons.mpr ⟨oX1_passes_2_76, List.forall_mem_cons.mpr ⟨oX1_passes_2_77, List.forall_mem_cons.mpr ⟨oX1_passes_2_78, List.forall_mem_cons.mpr ⟨oX1_passes_2_80, List.forall_mem_cons.mpr ⟨oX1_passes_2_83, List.forall_mem_cons.mpr ⟨oX1_passes_2_84, List.forall_mem_cons.mpr ⟨oX1_passes_2_87, List.forall_mem_cons.mpr ⟨oX1_passes_2_88, List.forall_mem_cons.mpr ⟨oX1_passes_2_91, List.forall_mem_cons.mpr ⟨oX1_passes_2_94, List.forall_mem_cons.mpr ⟨oX1_passes_2_95, List.forall_mem_cons.mpr ⟨oX1_passes_2_96, List.forall_mem_cons.mpr ⟨oX1_passes_2_99, List.forall_mem_cons.mpr ⟨oX1_passes_2_100, List.forall_mem_cons.mpr ⟨oX1_passes_2_101, List.forall_mem_cons.mpr ⟨oX1_passes_2_104, fun _ h => absurd h List.not_mem_nil⟩⟩⟩⟩⟩⟩⟩⟩⟩⟩⟩⟩⟩⟩⟩⟩⟩⟩⟩⟩⟩⟩⟩⟩⟩⟩⟩⟩⟩⟩⟩⟩⟩⟩⟩⟩⟩⟩⟩⟩⟩⟩⟩⟩⟩⟩⟩⟩⟩⟩⟩⟩⟩⟩⟩⟩⟩⟩
def dkwX1_swells_3 : List UInt8 := [184, 0, 204, 172]
abbrev dktX1_swells_3 : List UInt8 := dkwX1_swells_3 ++ []
def dkwX1_swells_2 : List UInt8 := [43, 180, 0, 189, 79, 42, 180, 0, 35, 180, 0, 192, 42, 180, 0, 58, 182, 0, 198, 3, 16, 9]
abbrev dktX1_swells_2 : List UInt8 := dkwX1_swells_2 ++ dktX1_swells_3
def dkwX1_swells_1 : List UInt8 := [43, 180, 0, 176, 28, 46, 79, 42, 180, 0, 58, 5, 43, 180, 0, 195, 28, 46, 79, 42, 180, 0, 58, 6]
abbrev dktX1_swells_1 : List UInt8 := dkwX1_swells_1 ++ dktX1_swells_2
def dkwX1_swells_0 : List UInt8 := [42, 180, 0, 35, 180, 0, 192, 199, 0, 5, 4, 172, 42, 180, 0, 58, 3, 29, 79, 42, 180, 0, 58, 4]
abbrev dktX1_swells_0 : List UInt8 := dkwX1_swells_0 ++ dktX1_swells_1
theorem dksX1_swells_0 : bcX1_swells.data.toList.drop 0 = dktX1_swells_0 := by decide +kernel
theorem dksX1_swells_1 : bcX1_swells.data.toList.drop 24 = dktX1_swells_1 := dk_seg dksX1_swells_0 24 rfl rfl
theorem dksX1_swells_2 : bcX1_swells.data.toList.drop 48 = dktX1_swells_2 := dk_seg dksX1_swells_1 24 rfl rfl
theorem dksX1_swells_3 : bcX1_swells.data.toList.drop 70 = dktX1_swells_3 := dk_seg dksX1_swells_2 22 rfl rfl
theorem dX1_swells_0 : decode bcX1_swells 0 = .ok (.aload_n 0, 1) := dk_42 (dk_at dksX1_swells_0 0 rfl rfl)
theorem dX1_swells_1 : decode bcX1_swells 1 = .ok (.getfield 35, 3) := dk_180 0 35 (dk_at dksX1_swells_0 1 rfl rfl)
theorem dX1_swells_4 : decode bcX1_swells 4 = .ok (.getfield 192, 3) := dk_180 0 192 (dk_at dksX1_swells_0 4 rfl rfl)
theorem dX1_swells_7 : decode bcX1_swells 7 = .ok (.ifnonnull 5, 3) := dk_199 0 5 (dk_at dksX1_swells_0 7 rfl rfl)
theorem dX1_swells_10 : decode bcX1_swells 10 = .ok (.iconst 1, 1) := dk_4 (dk_at dksX1_swells_0 10 rfl rfl)
theorem dX1_swells_11 : decode bcX1_swells 11 = .ok (.ireturn, 1) := dk_172 (dk_at dksX1_swells_0 11 rfl rfl)
theorem dX1_swells_12 : decode bcX1_swells 12 = .ok (.aload_n 0, 1) := dk_42 (dk_at dksX1_swells_0 12 rfl rfl)
theorem dX1_swells_13 : decode bcX1_swells 13 = .ok (.getfield 58, 3) := dk_180 0 58 (dk_at dksX1_swells_0 13 rfl rfl)
theorem dX1_swells_16 : decode bcX1_swells 16 = .ok (.iconst 0, 1) := dk_3 (dk_at dksX1_swells_0 16 rfl rfl)
theorem dX1_swells_17 : decode bcX1_swells 17 = .ok (.iload_n 3, 1) := dk_29 (dk_at dksX1_swells_0 17 rfl rfl)
theorem dX1_swells_18 : decode bcX1_swells 18 = .ok (.iastore, 1) := dk_79 (dk_at dksX1_swells_0 18 rfl rfl)
theorem dX1_swells_19 : decode bcX1_swells 19 = .ok (.aload_n 0, 1) := dk_42 (dk_at dksX1_swells_0 19 rfl rfl)
theorem dX1_swells_20 : decode bcX1_swells 20 = .ok (.getfield 58, 3) := dk_180 0 58 (dk_at dksX1_swells_0 20 rfl rfl)
theorem dX1_swells_23 : decode bcX1_swells 23 = .ok (.iconst 1, 1) := dk_4 (dk_at dksX1_swells_0 23 rfl rfl)
theorem dX1_swells_24 : decode bcX1_swells 24 = .ok (.aload_n 1, 1) := dk_43 (dk_at dksX1_swells_1 0 rfl rfl)
theorem dX1_swells_25 : decode bcX1_swells 25 = .ok (.getfield 176, 3) := dk_180 0 176 (dk_at dksX1_swells_1 1 rfl rfl)
theorem dX1_swells_28 : decode bcX1_swells 28 = .ok (.iload_n 2, 1) := dk_28 (dk_at dksX1_swells_1 4 rfl rfl)
theorem dX1_swells_29 : decode bcX1_swells 29 = .ok (.iaload, 1) := dk_46 (dk_at dksX1_swells_1 5 rfl rfl)
theorem dX1_swells_30 : decode bcX1_swells 30 = .ok (.iastore, 1) := dk_79 (dk_at dksX1_swells_1 6 rfl rfl)
theorem dX1_swells_31 : decode bcX1_swells 31 = .ok (.aload_n 0, 1) := dk_42 (dk_at dksX1_swells_1 7 rfl rfl)
theorem dX1_swells_32 : decode bcX1_swells 32 = .ok (.getfield 58, 3) := dk_180 0 58 (dk_at dksX1_swells_1 8 rfl rfl)
theorem dX1_swells_35 : decode bcX1_swells 35 = .ok (.iconst 2, 1) := dk_5 (dk_at dksX1_swells_1 11 rfl rfl)
theorem dX1_swells_36 : decode bcX1_swells 36 = .ok (.aload_n 1, 1) := dk_43 (dk_at dksX1_swells_1 12 rfl rfl)
theorem dX1_swells_37 : decode bcX1_swells 37 = .ok (.getfield 195, 3) := dk_180 0 195 (dk_at dksX1_swells_1 13 rfl rfl)
theorem dX1_swells_40 : decode bcX1_swells 40 = .ok (.iload_n 2, 1) := dk_28 (dk_at dksX1_swells_1 16 rfl rfl)
theorem dX1_swells_41 : decode bcX1_swells 41 = .ok (.iaload, 1) := dk_46 (dk_at dksX1_swells_1 17 rfl rfl)
theorem dX1_swells_42 : decode bcX1_swells 42 = .ok (.iastore, 1) := dk_79 (dk_at dksX1_swells_1 18 rfl rfl)
theorem dX1_swells_43 : decode bcX1_swells 43 = .ok (.aload_n 0, 1) := dk_42 (dk_at dksX1_swells_1 19 rfl rfl)
theorem dX1_swells_44 : decode bcX1_swells 44 = .ok (.getfield 58, 3) := dk_180 0 58 (dk_at dksX1_swells_1 20 rfl rfl)
theorem dX1_swells_47 : decode bcX1_swells 47 = .ok (.iconst 3, 1) := dk_6 (dk_at dksX1_swells_1 23 rfl rfl)
theorem dX1_swells_48 : decode bcX1_swells 48 = .ok (.aload_n 1, 1) := dk_43 (dk_at dksX1_swells_2 0 rfl rfl)
theorem dX1_swells_49 : decode bcX1_swells 49 = .ok (.getfield 189, 3) := dk_180 0 189 (dk_at dksX1_swells_2 1 rfl rfl)
theorem dX1_swells_52 : decode bcX1_swells 52 = .ok (.iastore, 1) := dk_79 (dk_at dksX1_swells_2 4 rfl rfl)
theorem dX1_swells_53 : decode bcX1_swells 53 = .ok (.aload_n 0, 1) := dk_42 (dk_at dksX1_swells_2 5 rfl rfl)
theorem dX1_swells_54 : decode bcX1_swells 54 = .ok (.getfield 35, 3) := dk_180 0 35 (dk_at dksX1_swells_2 6 rfl rfl)
theorem dX1_swells_57 : decode bcX1_swells 57 = .ok (.getfield 192, 3) := dk_180 0 192 (dk_at dksX1_swells_2 9 rfl rfl)
theorem dX1_swells_60 : decode bcX1_swells 60 = .ok (.aload_n 0, 1) := dk_42 (dk_at dksX1_swells_2 12 rfl rfl)
theorem dX1_swells_61 : decode bcX1_swells 61 = .ok (.getfield 58, 3) := dk_180 0 58 (dk_at dksX1_swells_2 13 rfl rfl)
theorem dX1_swells_64 : decode bcX1_swells 64 = .ok (.invokevirtual 198, 3) := dk_182 0 198 (dk_at dksX1_swells_2 16 rfl rfl)
theorem dX1_swells_67 : decode bcX1_swells 67 = .ok (.iconst 0, 1) := dk_3 (dk_at dksX1_swells_2 19 rfl rfl)
theorem dX1_swells_68 : decode bcX1_swells 68 = .ok (.bipush 9, 2) := dk_16 9 (dk_at dksX1_swells_2 20 rfl rfl)
theorem dX1_swells_70 : decode bcX1_swells 70 = .ok (.invokestatic 204, 3) := dk_184 0 204 (dk_at dksX1_swells_3 0 rfl rfl)
theorem dX1_swells_73 : decode bcX1_swells 73 = .ok (.ireturn, 1) := dk_172 (dk_at dksX1_swells_3 3 rfl rfl)
abbrev SX1_swells (pc : Nat) (i : xI) : Prop := Snd "SwollenHouse" "swells" prog_1_method_20_code 4 (Option.some Jvm.ClassFile.FieldType.int) [] pc i
theorem oX1_swells_0 : SX1_swells 0 (i_aload 0 1) := snd_aload_n dX1_swells_0 rfl
theorem oX1_swells_1 : SX1_swells 1 (i_getf 0 2 4) := snd_getf dX1_swells_1 rfl (by decide) in_X1 (Or.inl q348) (Or.inl rfl) (by decide)
theorem oX1_swells_4 : SX1_swells 4 (i_getf 2 6 7) := snd_getf dX1_swells_4 rfl (by decide) in_X3 (Or.inr ⟨_, q262⟩) (Or.inl rfl) (by decide)
theorem oX1_swells_7 : SX1_swells 7 (i_ifnonnull 12 10) := snd_ifnonnull dX1_swells_7 (by decide)
theorem oX1_swells_10 : SX1_swells 10 (i_const (.int (nI 1)) 11) := snd_iconst dX1_swells_10 (by decide)
theorem oX1_swells_11 : SX1_swells 11 (i_iret) := snd_iret dX1_swells_11 rfl
theorem oX1_swells_12 : SX1_swells 12 (i_aload 0 13) := snd_aload_n dX1_swells_12 rfl
theorem oX1_swells_13 : SX1_swells 13 (i_getf 0 6 16) := snd_getf dX1_swells_13 rfl (by decide) in_X1 (Or.inl q352) (Or.inl rfl) (by decide)
theorem oX1_swells_16 : SX1_swells 16 (i_const (.int (nI 0)) 17) := snd_iconst dX1_swells_16 (by decide)
theorem oX1_swells_17 : SX1_swells 17 (i_iload 3 18) := snd_iload_n dX1_swells_17 rfl
theorem oX1_swells_18 : SX1_swells 18 (i_si (fun v => v) 0 19) := snd_si0 dX1_swells_18
theorem oX1_swells_19 : SX1_swells 19 (i_aload 0 20) := snd_aload_n dX1_swells_19 rfl
theorem oX1_swells_20 : SX1_swells 20 (i_getf 0 6 23) := snd_getf dX1_swells_20 rfl (by decide) in_X1 (Or.inl q352) (Or.inl rfl) (by decide)
theorem oX1_swells_23 : SX1_swells 23 (i_const (.int (nI 1)) 24) := snd_iconst dX1_swells_23 (by decide)
theorem oX1_swells_24 : SX1_swells 24 (i_aload 1 25) := snd_aload_n dX1_swells_24 rfl
theorem oX1_swells_25 : SX1_swells 25 (i_getf 3 0 28) := snd_getf dX1_swells_25 rfl (by decide) in_X4 (Or.inr ⟨_, q290⟩) (Or.inl rfl) (by decide)
theorem oX1_swells_28 : SX1_swells 28 (i_iload 2 29) := snd_iload_n dX1_swells_28 rfl
theorem oX1_swells_29 : SX1_swells 29 (i_ai 0 30) := snd_ai0 dX1_swells_29
theorem oX1_swells_30 : SX1_swells 30 (i_si (fun v => v) 0 31) := snd_si0 dX1_swells_30
theorem oX1_swells_31 : SX1_swells 31 (i_aload 0 32) := snd_aload_n dX1_swells_31 rfl
theorem oX1_swells_32 : SX1_swells 32 (i_getf 0 6 35) := snd_getf dX1_swells_32 rfl (by decide) in_X1 (Or.inl q352) (Or.inl rfl) (by decide)
theorem oX1_swells_35 : SX1_swells 35 (i_const (.int (nI 2)) 36) := snd_iconst dX1_swells_35 (by decide)
theorem oX1_swells_36 : SX1_swells 36 (i_aload 1 37) := snd_aload_n dX1_swells_36 rfl
theorem oX1_swells_37 : SX1_swells 37 (i_getf 3 1 40) := snd_getf dX1_swells_37 rfl (by decide) in_X4 (Or.inr ⟨_, q294⟩) (Or.inl rfl) (by decide)
theorem oX1_swells_40 : SX1_swells 40 (i_iload 2 41) := snd_iload_n dX1_swells_40 rfl
theorem oX1_swells_41 : SX1_swells 41 (i_ai 0 42) := snd_ai0 dX1_swells_41
theorem oX1_swells_42 : SX1_swells 42 (i_si (fun v => v) 0 43) := snd_si0 dX1_swells_42
theorem oX1_swells_43 : SX1_swells 43 (i_aload 0 44) := snd_aload_n dX1_swells_43 rfl
theorem oX1_swells_44 : SX1_swells 44 (i_getf 0 6 47) := snd_getf dX1_swells_44 rfl (by decide) in_X1 (Or.inl q352) (Or.inl rfl) (by decide)
theorem oX1_swells_47 : SX1_swells 47 (i_const (.int (nI 3)) 48) := snd_iconst dX1_swells_47 (by decide)
theorem oX1_swells_48 : SX1_swells 48 (i_aload 1 49) := snd_aload_n dX1_swells_48 rfl
theorem oX1_swells_49 : SX1_swells 49 (i_getf 3 4 52) := snd_getf dX1_swells_49 rfl (by decide) in_X4 (Or.inr ⟨_, q302⟩) (Or.inl rfl) (by decide)
theorem oX1_swells_52 : SX1_swells 52 (i_si (fun v => v) 0 53) := snd_si0 dX1_swells_52
theorem oX1_swells_53 : SX1_swells 53 (i_aload 0 54) := snd_aload_n dX1_swells_53 rfl
theorem oX1_swells_54 : SX1_swells 54 (i_getf 0 2 57) := snd_getf dX1_swells_54 rfl (by decide) in_X1 (Or.inl q348) (Or.inl rfl) (by decide)
theorem oX1_swells_57 : SX1_swells 57 (i_getf 2 6 60) := snd_getf dX1_swells_57 rfl (by decide) in_X3 (Or.inr ⟨_, q262⟩) (Or.inl rfl) (by decide)
theorem oX1_swells_60 : SX1_swells 60 (i_aload 0 61) := snd_aload_n dX1_swells_60 rfl
theorem oX1_swells_61 : SX1_swells 61 (i_getf 0 6 64) := snd_getf dX1_swells_61 rfl (by decide) in_X1 (Or.inl q352) (Or.inl rfl) (by decide)
theorem oX1_swells_64 : SX1_swells 64 (i_ca [(11, 183), (12, 185), (13, 187), (14, 189)] 1 67) := snd_ca rfl (lk_cons ⟨_, _, _, _, _, _, infX14_worked, by decide, rfl, xVm_A dX1_swells_64 q1229 q1231 q1235 q1236 q158 q1237 q1230 pdx4⟩ (lk_cons ⟨_, _, _, _, _, _, infX15_worked, by decide, rfl, xVm_A dX1_swells_64 q1229 q1231 q1232 q1233 q159 q1234 q1230 pdx4⟩ (lk_cons ⟨_, _, _, _, _, _, infX16_worked, by decide, rfl, xVm_A dX1_swells_64 q1229 q1231 q1238 q1239 q160 q1240 q1230 pdx4⟩ (lk_cons ⟨_, _, _, _, _, _, infX17_worked, by decide, rfl, xVm_A dX1_swells_64 q1229 q1231 q1245 q1242 q161 q1243 q1230 pdx4⟩ (lk_nil)))))
theorem oX1_swells_67 : SX1_swells 67 (i_const (.int (nI 0)) 68) := snd_iconst dX1_swells_67 (by decide)
theorem oX1_swells_68 : SX1_swells 68 (i_const (.int (nI 9)) 70) := snd_bipush dX1_swells_68 (by decide)
theorem oX1_swells_70 : SX1_swells 70 (i_cs 107 3 73) := snd_cs rfl infX1_between (by decide) (xSm_S dX1_swells_70 q1246 q1247 q127 q1248 pdX1_between)
theorem oX1_swells_73 : SX1_swells 73 (i_iret) := snd_iret dX1_swells_73 rfl
theorem okX1_swells : ∀ q ∈ cX1_swells, SX1_swells q.1 q.2 := List.forall_mem_cons.mpr ⟨oX1_swells_0, List.forall_mem_cons.mpr ⟨oX1_swells_1, List.forall_mem_cons.mpr ⟨oX1_swells_4, List.forall_mem_cons.mpr ⟨oX1_swells_7, List.forall_mem_cons.mpr ⟨oX1_swells_10, List.forall_mem_cons.mpr ⟨oX1_swells_11, List.forall_mem_cons.mpr ⟨oX1_swells_12, List.forall_mem_cons.mpr ⟨oX1_swells_13, List.forall_mem_cons.mpr ⟨oX1_swells_16, List.forall_mem_cons.mpr ⟨oX1_swells_17, List.forall_mem_cons.mpr ⟨oX1_swells_18, List.forall_mem_cons.mpr ⟨oX1_swells_19, List.forall_mem_cons.mpr ⟨oX1_swells_20, List.forall_mem_cons.mpr ⟨oX1_swells_23, List.forall_mem_cons.mpr ⟨oX1_swells_24, List.forall_mem_cons.mpr ⟨oX1_swells_25, List.forall_mem_cons.mpr ⟨oX1_swells_28, List.forall_mem_cons.mpr ⟨oX1_swells_29, List.forall_mem_cons.mpr ⟨oX1_swells_30, List.forall_mem_cons.mpr ⟨oX1_swells_31, List.forall_mem_cons.mpr ⟨oX1_swells_32, List.forall_mem_cons.mpr ⟨oX1_swells_35, List.forall_mem_cons.mpr ⟨oX1_swells_36, List.forall_mem_cons.mpr ⟨oX1_swells_37, List.forall_mem_cons.mpr ⟨oX1_swells_40, List.forall_mem_cons.mpr ⟨oX1_swells_41, List.forall_mem_cons.mpr ⟨oX1_swells_42, List.forall_mem_cons.mpr ⟨oX1_swells_43, List.forall_mem_cons.mpr ⟨oX1_swells_44, List.forall_mem_cons.mpr ⟨oX1_swells_47, List.forall_mem_cons.mpr ⟨oX1_swells_48, List.forall_mem_cons.mpr ⟨oX1_swells_49, List.forall_mem_cons.mpr ⟨oX1_swells_52, List.forall_mem_cons.mpr ⟨oX1_swells_53, List.forall_mem_cons.mpr ⟨oX1_swells_54, List.forall_mem_cons.mpr ⟨oX1_swells_57, List.forall_mem_cons.mpr ⟨oX1_swells_60, List.forall_mem_cons.mpr ⟨oX1_swells_61, List.forall_mem_cons.mpr ⟨oX1_swells_64, List.forall_mem_cons.mpr ⟨oX1_swells_67, List.forall_mem_cons.mpr ⟨oX1_swells_68, List.forall_mem_cons.mpr ⟨oX1_swells_70, List.forall_mem_cons.mpr ⟨oX1_swells_73, fun _ h => absurd h List.not_mem_nil⟩⟩⟩⟩⟩⟩⟩⟩⟩⟩⟩⟩⟩⟩⟩⟩⟩⟩⟩⟩⟩⟩⟩⟩⟩⟩⟩⟩⟩⟩⟩⟩⟩⟩⟩⟩⟩⟩⟩⟩⟩⟩⟩
def dkwX1_between_0 : List UInt8 := [27, 28, 26, 184, 0, 1, 184, 0, 7, 172]
abbrev dktX1_between_0 : List UInt8 := dkwX1_between_0 ++ []
theorem dksX1_between_0 : bcX1_between.data.toList.drop 0 = dktX1_between_0 := by decide +kernel
theorem dX1_between_0 : decode bcX1_between 0 = .ok (.iload_n 1, 1) := dk_27 (dk_at dksX1_between_0 0 rfl rfl)
theorem dX1_between_1 : decode bcX1_between 1 = .ok (.iload_n 2, 1) := dk_28 (dk_at dksX1_between_0 1 rfl rfl)
theorem dX1_between_2 : decode bcX1_between 2 = .ok (.iload_n 0, 1) := dk_26 (dk_at dksX1_between_0 2 rfl rfl)
theorem dX1_between_3 : decode bcX1_between 3 = .ok (.invokestatic 1, 3) := dk_184 0 1 (dk_at dksX1_between_0 3 rfl rfl)
theorem dX1_between_6 : decode bcX1_between 6 = .ok (.invokestatic 7, 3) := dk_184 0 7 (dk_at dksX1_between_0 6 rfl rfl)
theorem dX1_between_9 : decode bcX1_between 9 = .ok (.ireturn, 1) := dk_172 (dk_at dksX1_between_0 9 rfl rfl)
abbrev SX1_between (pc : Nat) (i : xI) : Prop := Snd "SwollenHouse" "between" prog_1_method_2_code 3 (Option.some Jvm.ClassFile.FieldType.int) [] pc i
theorem oX1_between_0 : SX1_between 0 (i_iload 1 1) := snd_iload_n dX1_between_0 rfl
theorem oX1_between_1 : SX1_between 1 (i_iload 2 2) := snd_iload_n dX1_between_1 rfl
theorem oX1_between_2 : SX1_between 2 (i_iload 0 3) := snd_iload_n dX1_between_2 rfl
theorem oX1_between_3 : SX1_between 3 (i_cs 63 2 6) := snd_cs rfl infJ7_min (by decide) (xSm_S dX1_between_3 q1249 q478 q139 q479 pdJ7_min)
theorem oX1_between_6 : SX1_between 6 (i_cs 62 2 9) := snd_cs rfl infJ7_max (by decide) (xSm_S dX1_between_6 q1250 q475 q139 q476 pdJ7_max)
theorem oX1_between_9 : SX1_between 9 (i_iret) := snd_iret dX1_between_9 rfl
theorem okX1_between : ∀ q ∈ cX1_between, SX1_between q.1 q.2 := List.forall_mem_cons.mpr ⟨oX1_between_0, List.forall_mem_cons.mpr ⟨oX1_between_1, List.forall_mem_cons.mpr ⟨oX1_between_2, List.forall_mem_cons.mpr ⟨oX1_between_3, List.forall_mem_cons.mpr ⟨oX1_between_6, List.forall_mem_cons.mpr ⟨oX1_between_9, fun _ h => absurd h List.not_mem_nil⟩⟩⟩⟩⟩⟩
def dkwX1_sticking_1 : List UInt8 := [128, 61, 132, 3, 1, 167, 255, 231, 28, 172]
abbrev dktX1_sticking_1 : List UInt8 := dkwX1_sticking_1 ++ []
def dkwX1_sticking_0 : List UInt8 := [3, 61, 3, 62, 29, 42, 182, 0, 159, 162, 0, 23, 43, 29, 182, 0, 219, 153, 0, 9, 28, 4, 29, 120]
abbrev dktX1_sticking_0 : List UInt8 := dkwX1_sticking_0 ++ dktX1_sticking_1
theorem dksX1_sticking_0 : bcX1_sticking.data.toList.drop 0 = dktX1_sticking_0 := by decide +kernel
theorem dksX1_sticking_1 : bcX1_sticking.data.toList.drop 24 = dktX1_sticking_1 := dk_seg dksX1_sticking_0 24 rfl rfl
theorem dX1_sticking_0 : decode bcX1_sticking 0 = .ok (.iconst 0, 1) := dk_3 (dk_at dksX1_sticking_0 0 rfl rfl)
theorem dX1_sticking_1 : decode bcX1_sticking 1 = .ok (.istore_n 2, 1) := dk_61 (dk_at dksX1_sticking_0 1 rfl rfl)
theorem dX1_sticking_2 : decode bcX1_sticking 2 = .ok (.iconst 0, 1) := dk_3 (dk_at dksX1_sticking_0 2 rfl rfl)
theorem dX1_sticking_3 : decode bcX1_sticking 3 = .ok (.istore_n 3, 1) := dk_62 (dk_at dksX1_sticking_0 3 rfl rfl)
theorem dX1_sticking_4 : decode bcX1_sticking 4 = .ok (.iload_n 3, 1) := dk_29 (dk_at dksX1_sticking_0 4 rfl rfl)
theorem dX1_sticking_5 : decode bcX1_sticking 5 = .ok (.aload_n 0, 1) := dk_42 (dk_at dksX1_sticking_0 5 rfl rfl)
theorem dX1_sticking_6 : decode bcX1_sticking 6 = .ok (.invokevirtual 159, 3) := dk_182 0 159 (dk_at dksX1_sticking_0 6 rfl rfl)
theorem dX1_sticking_9 : decode bcX1_sticking 9 = .ok (.if_icmp .ge 23, 3) := dk_162 0 23 (dk_at dksX1_sticking_0 9 rfl rfl)
theorem dX1_sticking_12 : decode bcX1_sticking 12 = .ok (.aload_n 1, 1) := dk_43 (dk_at dksX1_sticking_0 12 rfl rfl)
theorem dX1_sticking_13 : decode bcX1_sticking 13 = .ok (.iload_n 3, 1) := dk_29 (dk_at dksX1_sticking_0 13 rfl rfl)
theorem dX1_sticking_14 : decode bcX1_sticking 14 = .ok (.invokevirtual 219, 3) := dk_182 0 219 (dk_at dksX1_sticking_0 14 rfl rfl)
theorem dX1_sticking_17 : decode bcX1_sticking 17 = .ok (.ifCond .eq 9, 3) := dk_153 0 9 (dk_at dksX1_sticking_0 17 rfl rfl)
theorem dX1_sticking_20 : decode bcX1_sticking 20 = .ok (.iload_n 2, 1) := dk_28 (dk_at dksX1_sticking_0 20 rfl rfl)
theorem dX1_sticking_21 : decode bcX1_sticking 21 = .ok (.iconst 1, 1) := dk_4 (dk_at dksX1_sticking_0 21 rfl rfl)
theorem dX1_sticking_22 : decode bcX1_sticking 22 = .ok (.iload_n 3, 1) := dk_29 (dk_at dksX1_sticking_0 22 rfl rfl)
theorem dX1_sticking_23 : decode bcX1_sticking 23 = .ok (.ishl, 1) := dk_120 (dk_at dksX1_sticking_0 23 rfl rfl)
theorem dX1_sticking_24 : decode bcX1_sticking 24 = .ok (.ior, 1) := dk_128 (dk_at dksX1_sticking_1 0 rfl rfl)
theorem dX1_sticking_25 : decode bcX1_sticking 25 = .ok (.istore_n 2, 1) := dk_61 (dk_at dksX1_sticking_1 1 rfl rfl)
theorem dX1_sticking_26 : decode bcX1_sticking 26 = .ok (.iinc 3 1, 3) := dk_132 3 1 (dk_at dksX1_sticking_1 2 rfl rfl)
theorem dX1_sticking_29 : decode bcX1_sticking 29 = .ok (.goto (-25), 3) := dk_167 255 231 (dk_at dksX1_sticking_1 5 rfl rfl)
theorem dX1_sticking_32 : decode bcX1_sticking 32 = .ok (.iload_n 2, 1) := dk_28 (dk_at dksX1_sticking_1 8 rfl rfl)
theorem dX1_sticking_33 : decode bcX1_sticking 33 = .ok (.ireturn, 1) := dk_172 (dk_at dksX1_sticking_1 9 rfl rfl)
abbrev SX1_sticking (pc : Nat) (i : xI) : Prop := Snd "SwollenHouse" "sticking" prog_1_method_23_code 4 (Option.some Jvm.ClassFile.FieldType.int) [] pc i
theorem oX1_sticking_0 : SX1_sticking 0 (i_const (.int (nI 0)) 1) := snd_iconst dX1_sticking_0 (by decide)
theorem oX1_sticking_1 : SX1_sticking 1 (i_istore 2 2) := snd_istore_n dX1_sticking_1 rfl (by decide)
theorem oX1_sticking_2 : SX1_sticking 2 (i_const (.int (nI 0)) 3) := snd_iconst dX1_sticking_2 (by decide)
theorem oX1_sticking_3 : SX1_sticking 3 (i_istore 3 4) := snd_istore_n dX1_sticking_3 rfl (by decide)
theorem oX1_sticking_4 : SX1_sticking 4 (i_iload 3 5) := snd_iload_n dX1_sticking_4 rfl
theorem oX1_sticking_5 : SX1_sticking 5 (i_aload 0 6) := snd_aload_n dX1_sticking_5 rfl
theorem oX1_sticking_6 : SX1_sticking 6 (i_cv 0 96 0 9) := snd_cv rfl infX1_doors (by decide) rfl (xVm_V dX1_sticking_6 rfl q1140 q1142 qs30 q127 q1143 pdX1_doors)
theorem oX1_sticking_9 : SX1_sticking 9 (i_if2 (fun x y => y ≤ x) 32 12) := snd_icmp_ge dX1_sticking_9 (by decide)
theorem oX1_sticking_12 : SX1_sticking 12 (i_aload 1 13) := snd_aload_n dX1_sticking_12 rfl
theorem oX1_sticking_13 : SX1_sticking 13 (i_iload 3 14) := snd_iload_n dX1_sticking_13 rfl
theorem oX1_sticking_14 : SX1_sticking 14 (i_cv 3 238 1 17) := snd_cv rfl infX4_sticks (by decide) rfl (xVm_V dX1_sticking_14 rfl q1167 q1168 q1169 q133 q1170 pdX4_sticks)
theorem oX1_sticking_17 : SX1_sticking 17 (i_if1 (fun x => x = 0) 26 20) := snd_if_eq dX1_sticking_17 (by decide)
theorem oX1_sticking_20 : SX1_sticking 20 (i_iload 2 21) := snd_iload_n dX1_sticking_20 rfl
theorem oX1_sticking_21 : SX1_sticking 21 (i_const (.int (nI 1)) 22) := snd_iconst dX1_sticking_21 (by decide)
theorem oX1_sticking_22 : SX1_sticking 22 (i_iload 3 23) := snd_iload_n dX1_sticking_22 rfl
theorem oX1_sticking_23 : SX1_sticking 23 (i_ii (fun x y => x <<< (y &&& 31)) 24) := snd_ishl dX1_sticking_23
theorem oX1_sticking_24 : SX1_sticking 24 (i_ii (fun x y => x ||| y) 25) := snd_ior dX1_sticking_24
theorem oX1_sticking_25 : SX1_sticking 25 (i_istore 2 26) := snd_istore_n dX1_sticking_25 rfl (by decide)
theorem oX1_sticking_26 : SX1_sticking 26 (i_iinc 3 (nI 1) 29) := snd_iinc dX1_sticking_26 (by decide) (by decide)
theorem oX1_sticking_29 : SX1_sticking 29 (i_goto 4) := snd_goto dX1_sticking_29 (by decide)
theorem oX1_sticking_32 : SX1_sticking 32 (i_iload 2 33) := snd_iload_n dX1_sticking_32 rfl
theorem oX1_sticking_33 : SX1_sticking 33 (i_iret) := snd_iret dX1_sticking_33 rfl
theorem okX1_sticking : ∀ q ∈ cX1_sticking, SX1_sticking q.1 q.2 := List.forall_mem_cons.mpr ⟨oX1_sticking_0, List.forall_mem_cons.mpr ⟨oX1_sticking_1, List.forall_mem_cons.mpr ⟨oX1_sticking_2, List.forall_mem_cons.mpr ⟨oX1_sticking_3, List.forall_mem_cons.mpr ⟨oX1_sticking_4, List.forall_mem_cons.mpr ⟨oX1_sticking_5, List.forall_mem_cons.mpr ⟨oX1_sticking_6, List.forall_mem_cons.mpr ⟨oX1_sticking_9, List.forall_mem_cons.mpr ⟨oX1_sticking_12, List.forall_mem_cons.mpr ⟨oX1_sticking_13, List.forall_mem_cons.mpr ⟨oX1_sticking_14, List.forall_mem_cons.mpr ⟨oX1_sticking_17, List.forall_mem_cons.mpr ⟨oX1_sticking_20, List.forall_mem_cons.mpr ⟨oX1_sticking_21, List.forall_mem_cons.mpr ⟨oX1_sticking_22, List.forall_mem_cons.mpr ⟨oX1_sticking_23, List.forall_mem_cons.mpr ⟨oX1_sticking_24, List.forall_mem_cons.mpr ⟨oX1_sticking_25, List.forall_mem_cons.mpr ⟨oX1_sticking_26, List.forall_mem_cons.mpr ⟨oX1_sticking_29, List.forall_mem_cons.mpr ⟨oX1_sticking_32, List.forall_mem_cons.mpr ⟨oX1_sticking_33, fun _ h => absurd h List.not_mem_nil⟩⟩⟩⟩⟩⟩⟩⟩⟩⟩⟩⟩⟩⟩⟩⟩⟩⟩⟩⟩⟩⟩
def dkwX1_walk_3 : List UInt8 := [46, 172]
abbrev dktX1_walk_3 : List UInt8 := dkwX1_walk_3 ++ []
def dkwX1_walk_2 : List UInt8 := [172, 42, 182, 1, 0, 42, 42, 180, 0, 51, 27, 28, 182, 1, 3, 87, 42, 180, 0, 51, 180, 0, 229, 27]
abbrev dktX1_walk_2 : List UInt8 := dkwX1_walk_2 ++ dktX1_walk_3
def dkwX1_walk_1 : List UInt8 := [154, 0, 23, 42, 28, 182, 0, 163, 42, 180, 0, 51, 180, 0, 229, 27, 46, 182, 0, 232, 154, 0, 5, 2]
abbrev dktX1_walk_1 : List UInt8 := dkwX1_walk_1 ++ dktX1_walk_2
def dkwX1_walk_0 : List UInt8 := [42, 27, 182, 0, 250, 153, 0, 42, 42, 28, 182, 0, 226, 153, 0, 34, 42, 180, 0, 51, 28, 182, 0, 219]
abbrev dktX1_walk_0 : List UInt8 := dkwX1_walk_0 ++ dktX1_walk_1
theorem dksX1_walk_0 : bcX1_walk.data.toList.drop 0 = dktX1_walk_0 := by decide +kernel
theorem dksX1_walk_1 : bcX1_walk.data.toList.drop 24 = dktX1_walk_1 := dk_seg dksX1_walk_0 24 rfl rfl
theorem dksX1_walk_2 : bcX1_walk.data.toList.drop 48 = dktX1_walk_2 := dk_seg dksX1_walk_1 24 rfl rfl
theorem dksX1_walk_3 : bcX1_walk.data.toList.drop 72 = dktX1_walk_3 := dk_seg dksX1_walk_2 24 rfl rfl
theorem dX1_walk_0 : decode bcX1_walk 0 = .ok (.aload_n 0, 1) := dk_42 (dk_at dksX1_walk_0 0 rfl rfl)
theorem dX1_walk_1 : decode bcX1_walk 1 = .ok (.iload_n 1, 1) := dk_27 (dk_at dksX1_walk_0 1 rfl rfl)
theorem dX1_walk_2 : decode bcX1_walk 2 = .ok (.invokevirtual 250, 3) := dk_182 0 250 (dk_at dksX1_walk_0 2 rfl rfl)
theorem dX1_walk_5 : decode bcX1_walk 5 = .ok (.ifCond .eq 42, 3) := dk_153 0 42 (dk_at dksX1_walk_0 5 rfl rfl)
theorem dX1_walk_8 : decode bcX1_walk 8 = .ok (.aload_n 0, 1) := dk_42 (dk_at dksX1_walk_0 8 rfl rfl)
theorem dX1_walk_9 : decode bcX1_walk 9 = .ok (.iload_n 2, 1) := dk_28 (dk_at dksX1_walk_0 9 rfl rfl)
theorem dX1_walk_10 : decode bcX1_walk 10 = .ok (.invokevirtual 226, 3) := dk_182 0 226 (dk_at dksX1_walk_0 10 rfl rfl)
theorem dX1_walk_13 : decode bcX1_walk 13 = .ok (.ifCond .eq 34, 3) := dk_153 0 34 (dk_at dksX1_walk_0 13 rfl rfl)
theorem dX1_walk_16 : decode bcX1_walk 16 = .ok (.aload_n 0, 1) := dk_42 (dk_at dksX1_walk_0 16 rfl rfl)
theorem dX1_walk_17 : decode bcX1_walk 17 = .ok (.getfield 51, 3) := dk_180 0 51 (dk_at dksX1_walk_0 17 rfl rfl)
theorem dX1_walk_20 : decode bcX1_walk 20 = .ok (.iload_n 2, 1) := dk_28 (dk_at dksX1_walk_0 20 rfl rfl)
theorem dX1_walk_21 : decode bcX1_walk 21 = .ok (.invokevirtual 219, 3) := dk_182 0 219 (dk_at dksX1_walk_0 21 rfl rfl)
theorem dX1_walk_24 : decode bcX1_walk 24 = .ok (.ifCond .ne 23, 3) := dk_154 0 23 (dk_at dksX1_walk_1 0 rfl rfl)
theorem dX1_walk_27 : decode bcX1_walk 27 = .ok (.aload_n 0, 1) := dk_42 (dk_at dksX1_walk_1 3 rfl rfl)
theorem dX1_walk_28 : decode bcX1_walk 28 = .ok (.iload_n 2, 1) := dk_28 (dk_at dksX1_walk_1 4 rfl rfl)
theorem dX1_walk_29 : decode bcX1_walk 29 = .ok (.invokevirtual 163, 3) := dk_182 0 163 (dk_at dksX1_walk_1 5 rfl rfl)
theorem dX1_walk_32 : decode bcX1_walk 32 = .ok (.aload_n 0, 1) := dk_42 (dk_at dksX1_walk_1 8 rfl rfl)
theorem dX1_walk_33 : decode bcX1_walk 33 = .ok (.getfield 51, 3) := dk_180 0 51 (dk_at dksX1_walk_1 9 rfl rfl)
theorem dX1_walk_36 : decode bcX1_walk 36 = .ok (.getfield 229, 3) := dk_180 0 229 (dk_at dksX1_walk_1 12 rfl rfl)
theorem dX1_walk_39 : decode bcX1_walk 39 = .ok (.iload_n 1, 1) := dk_27 (dk_at dksX1_walk_1 15 rfl rfl)
theorem dX1_walk_40 : decode bcX1_walk 40 = .ok (.iaload, 1) := dk_46 (dk_at dksX1_walk_1 16 rfl rfl)
theorem dX1_walk_41 : decode bcX1_walk 41 = .ok (.invokevirtual 232, 3) := dk_182 0 232 (dk_at dksX1_walk_1 17 rfl rfl)
theorem dX1_walk_44 : decode bcX1_walk 44 = .ok (.ifCond .ne 5, 3) := dk_154 0 5 (dk_at dksX1_walk_1 20 rfl rfl)
theorem dX1_walk_47 : decode bcX1_walk 47 = .ok (.iconst (-1), 1) := dk_2 (dk_at dksX1_walk_1 23 rfl rfl)
theorem dX1_walk_48 : decode bcX1_walk 48 = .ok (.ireturn, 1) := dk_172 (dk_at dksX1_walk_2 0 rfl rfl)
theorem dX1_walk_49 : decode bcX1_walk 49 = .ok (.aload_n 0, 1) := dk_42 (dk_at dksX1_walk_2 1 rfl rfl)
theorem dX1_walk_50 : decode bcX1_walk 50 = .ok (.invokevirtual 256, 3) := dk_182 1 0 (dk_at dksX1_walk_2 2 rfl rfl)
theorem dX1_walk_53 : decode bcX1_walk 53 = .ok (.aload_n 0, 1) := dk_42 (dk_at dksX1_walk_2 5 rfl rfl)
theorem dX1_walk_54 : decode bcX1_walk 54 = .ok (.aload_n 0, 1) := dk_42 (dk_at dksX1_walk_2 6 rfl rfl)
theorem dX1_walk_55 : decode bcX1_walk 55 = .ok (.getfield 51, 3) := dk_180 0 51 (dk_at dksX1_walk_2 7 rfl rfl)
theorem dX1_walk_58 : decode bcX1_walk 58 = .ok (.iload_n 1, 1) := dk_27 (dk_at dksX1_walk_2 10 rfl rfl)
theorem dX1_walk_59 : decode bcX1_walk 59 = .ok (.iload_n 2, 1) := dk_28 (dk_at dksX1_walk_2 11 rfl rfl)
theorem dX1_walk_60 : decode bcX1_walk 60 = .ok (.invokevirtual 259, 3) := dk_182 1 3 (dk_at dksX1_walk_2 12 rfl rfl)
theorem dX1_walk_63 : decode bcX1_walk 63 = .ok (.pop, 1) := dk_87 (dk_at dksX1_walk_2 15 rfl rfl)
theorem dX1_walk_64 : decode bcX1_walk 64 = .ok (.aload_n 0, 1) := dk_42 (dk_at dksX1_walk_2 16 rfl rfl)
theorem dX1_walk_65 : decode bcX1_walk 65 = .ok (.getfield 51, 3) := dk_180 0 51 (dk_at dksX1_walk_2 17 rfl rfl)
theorem dX1_walk_68 : decode bcX1_walk 68 = .ok (.getfield 229, 3) := dk_180 0 229 (dk_at dksX1_walk_2 20 rfl rfl)
theorem dX1_walk_71 : decode bcX1_walk 71 = .ok (.iload_n 1, 1) := dk_27 (dk_at dksX1_walk_2 23 rfl rfl)
theorem dX1_walk_72 : decode bcX1_walk 72 = .ok (.iaload, 1) := dk_46 (dk_at dksX1_walk_3 0 rfl rfl)
theorem dX1_walk_73 : decode bcX1_walk 73 = .ok (.ireturn, 1) := dk_172 (dk_at dksX1_walk_3 1 rfl rfl)
abbrev SX1_walk (pc : Nat) (i : xI) : Prop := Snd "SwollenHouse" "walk" prog_1_method_31_code 3 (Option.some Jvm.ClassFile.FieldType.int) [] pc i
theorem oX1_walk_0 : SX1_walk 0 (i_aload 0 1) := snd_aload_n dX1_walk_0 rfl
theorem oX1_walk_1 : SX1_walk 1 (i_iload 1 2) := snd_iload_n dX1_walk_1 rfl
theorem oX1_walk_2 : SX1_walk 2 (i_cv 0 100 1 5) := snd_cv rfl infX1_isPerson (by decide) rfl (xVm_V dX1_walk_2 rfl q1178 q1180 qs32 q127 q1181 pdX1_isPerson)
theorem oX1_walk_5 : SX1_walk 5 (i_if1 (fun x => x = 0) 47 8) := snd_if_eq dX1_walk_5 (by decide)
theorem oX1_walk_8 : SX1_walk 8 (i_aload 0 9) := snd_aload_n dX1_walk_8 rfl
theorem oX1_walk_9 : SX1_walk 9 (i_iload 2 10) := snd_iload_n dX1_walk_9 rfl
theorem oX1_walk_10 : SX1_walk 10 (i_cv 0 95 1 13) := snd_cv rfl infX1_isDoor (by decide) rfl (xVm_V dX1_walk_10 rfl q1136 q1138 qs29 q127 q1139 pdX1_isDoor)
theorem oX1_walk_13 : SX1_walk 13 (i_if1 (fun x => x = 0) 47 16) := snd_if_eq dX1_walk_13 (by decide)
theorem oX1_walk_16 : SX1_walk 16 (i_aload 0 17) := snd_aload_n dX1_walk_16 rfl
theorem oX1_walk_17 : SX1_walk 17 (i_getf 0 4 20) := snd_getf dX1_walk_17 rfl (by decide) in_X1 (Or.inl q350) (Or.inl rfl) (by decide)
theorem oX1_walk_20 : SX1_walk 20 (i_iload 2 21) := snd_iload_n dX1_walk_20 rfl
theorem oX1_walk_21 : SX1_walk 21 (i_cv 3 238 1 24) := snd_cv rfl infX4_sticks (by decide) rfl (xVm_V dX1_walk_21 rfl q1167 q1168 q1169 q133 q1170 pdX4_sticks)
theorem oX1_walk_24 : SX1_walk 24 (i_if1 (fun x => ¬ x = 0) 47 27) := snd_if_ne dX1_walk_24 (by decide)
theorem oX1_walk_27 : SX1_walk 27 (i_aload 0 28) := snd_aload_n dX1_walk_27 rfl
theorem oX1_walk_28 : SX1_walk 28 (i_iload 2 29) := snd_iload_n dX1_walk_28 rfl
theorem oX1_walk_29 : SX1_walk 29 (i_cv 0 97 1 32) := snd_cv rfl infX1_door_2 (by decide) rfl (xVm_V dX1_walk_29 rfl q1146 q1148 qs31 q127 q1149 pdX1_door_2)
theorem oX1_walk_32 : SX1_walk 32 (i_aload 0 33) := snd_aload_n dX1_walk_32 rfl
theorem oX1_walk_33 : SX1_walk 33 (i_getf 0 4 36) := snd_getf dX1_walk_33 rfl (by decide) in_X1 (Or.inl q350) (Or.inl rfl) (by decide)
theorem oX1_walk_36 : SX1_walk 36 (i_getf 3 2 39) := snd_getf dX1_walk_36 rfl (by decide) in_X4 (Or.inr ⟨_, q296⟩) (Or.inl rfl) (by decide)
theorem oX1_walk_39 : SX1_walk 39 (i_iload 1 40) := snd_iload_n dX1_walk_39 rfl
theorem oX1_walk_40 : SX1_walk 40 (i_ai 0 41) := snd_ai0 dX1_walk_40
theorem oX1_walk_41 : SX1_walk 41 (i_cv 6 367 1 44) := snd_cv rfl infX7_isOf (by decide) rfl (xVm_V dX1_walk_41 rfl q1289 q901 q902 q151 q903 pdX7_isOf)
theorem oX1_walk_44 : SX1_walk 44 (i_if1 (fun x => ¬ x = 0) 49 47) := snd_if_ne dX1_walk_44 (by decide)
theorem oX1_walk_47 : SX1_walk 47 (i_const (.int (-1)) 48) := snd_iconst dX1_walk_47 (by decide)
theorem oX1_walk_48 : SX1_walk 48 (i_iret) := snd_iret dX1_walk_48 rfl
theorem oX1_walk_49 : SX1_walk 49 (i_aload 0 50) := snd_aload_n dX1_walk_49 rfl
theorem oX1_walk_50 : SX1_walk 50 (i_cvv 0 103 0 53) := snd_cvv rfl infX1_keeps (by decide) rfl (xVm_V dX1_walk_50 rfl q1190 q1192 qs34 q127 q1193 pdX1_keeps)
theorem oX1_walk_53 : SX1_walk 53 (i_aload 0 54) := snd_aload_n dX1_walk_53 rfl
theorem oX1_walk_54 : SX1_walk 54 (i_aload 0 55) := snd_aload_n dX1_walk_54 rfl
theorem oX1_walk_55 : SX1_walk 55 (i_getf 0 4 58) := snd_getf dX1_walk_55 rfl (by decide) in_X1 (Or.inl q350) (Or.inl rfl) (by decide)
theorem oX1_walk_58 : SX1_walk 58 (i_iload 1 59) := snd_iload_n dX1_walk_58 rfl
theorem oX1_walk_59 : SX1_walk 59 (i_iload 2 60) := snd_iload_n dX1_walk_59 rfl
theorem oX1_walk_60 : SX1_walk 60 (i_cv 0 110 3 63) := snd_cv rfl infX1_isWalked (by decide) rfl (xVm_V dX1_walk_60 rfl q1290 q1292 qs39 q127 q1293 pdX1_isWalked)
theorem oX1_walk_63 : SX1_walk 63 (i_pop 64) := snd_pop dX1_walk_63
theorem oX1_walk_64 : SX1_walk 64 (i_aload 0 65) := snd_aload_n dX1_walk_64 rfl
theorem oX1_walk_65 : SX1_walk 65 (i_getf 0 4 68) := snd_getf dX1_walk_65 rfl (by decide) in_X1 (Or.inl q350) (Or.inl rfl) (by decide)
theorem oX1_walk_68 : SX1_walk 68 (i_getf 3 2 71) := snd_getf dX1_walk_68 rfl (by decide) in_X4 (Or.inr ⟨_, q296⟩) (Or.inl rfl) (by decide)
theorem oX1_walk_71 : SX1_walk 71 (i_iload 1 72) := snd_iload_n dX1_walk_71 rfl
theorem oX1_walk_72 : SX1_walk 72 (i_ai 0 73) := snd_ai0 dX1_walk_72
theorem oX1_walk_73 : SX1_walk 73 (i_iret) := snd_iret dX1_walk_73 rfl
theorem okX1_walk : ∀ q ∈ cX1_walk, SX1_walk q.1 q.2 := List.forall_mem_cons.mpr ⟨oX1_walk_0, List.forall_mem_cons.mpr ⟨oX1_walk_1, List.forall_mem_cons.mpr ⟨oX1_walk_2, List.forall_mem_cons.mpr ⟨oX1_walk_5, List.forall_mem_cons.mpr ⟨oX1_walk_8, List.forall_mem_cons.mpr ⟨oX1_walk_9, List.forall_mem_cons.mpr ⟨oX1_walk_10, List.forall_mem_cons.mpr ⟨oX1_walk_13, List.forall_mem_cons.mpr ⟨oX1_walk_16, List.forall_mem_cons.mpr ⟨oX1_walk_17, List.forall_mem_cons.mpr ⟨oX1_walk_20, List.forall_mem_cons.mpr ⟨oX1_walk_21, List.forall_mem_cons.mpr ⟨oX1_walk_24, List.forall_mem_cons.mpr ⟨oX1_walk_27, List.forall_mem_cons.mpr ⟨oX1_walk_28, List.forall_mem_cons.mpr ⟨oX1_walk_29, List.forall_mem_cons.mpr ⟨oX1_walk_32, List.forall_mem_cons.mpr ⟨oX1_walk_33, List.forall_mem_cons.mpr ⟨oX1_walk_36, List.forall_mem_cons.mpr ⟨oX1_walk_39, List.forall_mem_cons.mpr ⟨oX1_walk_40, List.forall_mem_cons.mpr ⟨oX1_walk_41, List.forall_mem_cons.mpr ⟨oX1_walk_44, List.forall_mem_cons.mpr ⟨oX1_walk_47, List.forall_mem_cons.mpr ⟨oX1_walk_48, List.forall_mem_cons.mpr ⟨oX1_walk_49, List.forall_mem_cons.mpr ⟨oX1_walk_50, List.forall_mem_cons.mpr ⟨oX1_walk_53, List.forall_mem_cons.mpr ⟨oX1_walk_54, List.forall_mem_cons.mpr ⟨oX1_walk_55, List.forall_mem_cons.mpr ⟨oX1_walk_58, List.forall_mem_cons.mpr ⟨oX1_walk_59, List.forall_mem_cons.mpr ⟨oX1_walk_60, List.forall_mem_cons.mpr ⟨oX1_walk_63, List.forall_mem_cons.mpr ⟨oX1_walk_64, List.forall_mem_cons.mpr ⟨oX1_walk_65, List.forall_mem_cons.mpr ⟨oX1_walk_68, List.forall_mem_cons.mpr ⟨oX1_walk_71, List.forall_mem_cons.mpr ⟨oX1_walk_72, List.forall_mem_cons.mpr ⟨oX1_walk_73, fun _ h => absurd h List.not_mem_nil⟩⟩⟩⟩⟩⟩⟩⟩⟩⟩⟩⟩⟩⟩⟩⟩⟩⟩⟩⟩⟩⟩⟩⟩⟩⟩⟩⟩⟩⟩⟩⟩⟩⟩⟩⟩⟩⟩⟩⟩
def dkwX1_isWalked_2 : List UInt8 := [180, 0, 229, 28, 46, 182, 0, 235, 79, 4, 172]
abbrev dktX1_isWalked_2 : List UInt8 := dkwX1_isWalked_2 ++ []
def dkwX1_isWalked_1 : List UInt8 := [180, 0, 229, 28, 46, 182, 0, 232, 154, 0, 5, 3, 172, 43, 180, 0, 229, 28, 42, 29, 182, 0, 163, 43]
abbrev dktX1_isWalked_1 : List UInt8 := dkwX1_isWalked_1 ++ dktX1_isWalked_2
def dkwX1_isWalked_0 : List UInt8 := [42, 29, 182, 0, 226, 153, 0, 28, 43, 29, 182, 0, 219, 154, 0, 20, 42, 29, 182, 0, 163, 43]
abbrev dktX1_isWalked_0 : List UInt8 := dkwX1_isWalked_0 ++ dktX1_isWalked_1
theorem dksX1_isWalked_0 : bcX1_isWalked.data.toList.drop 0 = dktX1_isWalked_0 := by decide +kernel
theorem dksX1_isWalked_1 : bcX1_isWalked.data.toList.drop 22 = dktX1_isWalked_1 := dk_seg dksX1_isWalked_0 22 rfl rfl
theorem dksX1_isWalked_2 : bcX1_isWalked.data.toList.drop 46 = dktX1_isWalked_2 := dk_seg dksX1_isWalked_1 24 rfl rfl
theorem dX1_isWalked_0 : decode bcX1_isWalked 0 = .ok (.aload_n 0, 1) := dk_42 (dk_at dksX1_isWalked_0 0 rfl rfl)
theorem dX1_isWalked_1 : decode bcX1_isWalked 1 = .ok (.iload_n 3, 1) := dk_29 (dk_at dksX1_isWalked_0 1 rfl rfl)
theorem dX1_isWalked_2 : decode bcX1_isWalked 2 = .ok (.invokevirtual 226, 3) := dk_182 0 226 (dk_at dksX1_isWalked_0 2 rfl rfl)
theorem dX1_isWalked_5 : decode bcX1_isWalked 5 = .ok (.ifCond .eq 28, 3) := dk_153 0 28 (dk_at dksX1_isWalked_0 5 rfl rfl)
theorem dX1_isWalked_8 : decode bcX1_isWalked 8 = .ok (.aload_n 1, 1) := dk_43 (dk_at dksX1_isWalked_0 8 rfl rfl)
theorem dX1_isWalked_9 : decode bcX1_isWalked 9 = .ok (.iload_n 3, 1) := dk_29 (dk_at dksX1_isWalked_0 9 rfl rfl)
theorem dX1_isWalked_10 : decode bcX1_isWalked 10 = .ok (.invokevirtual 219, 3) := dk_182 0 219 (dk_at dksX1_isWalked_0 10 rfl rfl)
theorem dX1_isWalked_13 : decode bcX1_isWalked 13 = .ok (.ifCond .ne 20, 3) := dk_154 0 20 (dk_at dksX1_isWalked_0 13 rfl rfl)
theorem dX1_isWalked_16 : decode bcX1_isWalked 16 = .ok (.aload_n 0, 1) := dk_42 (dk_at dksX1_isWalked_0 16 rfl rfl)
theorem dX1_isWalked_17 : decode bcX1_isWalked 17 = .ok (.iload_n 3, 1) := dk_29 (dk_at dksX1_isWalked_0 17 rfl rfl)
theorem dX1_isWalked_18 : decode bcX1_isWalked 18 = .ok (.invokevirtual 163, 3) := dk_182 0 163 (dk_at dksX1_isWalked_0 18 rfl rfl)
theorem dX1_isWalked_21 : decode bcX1_isWalked 21 = .ok (.aload_n 1, 1) := dk_43 (dk_at dksX1_isWalked_0 21 rfl rfl)
theorem dX1_isWalked_22 : decode bcX1_isWalked 22 = .ok (.getfield 229, 3) := dk_180 0 229 (dk_at dksX1_isWalked_1 0 rfl rfl)
theorem dX1_isWalked_25 : decode bcX1_isWalked 25 = .ok (.iload_n 2, 1) := dk_28 (dk_at dksX1_isWalked_1 3 rfl rfl)
theorem dX1_isWalked_26 : decode bcX1_isWalked 26 = .ok (.iaload, 1) := dk_46 (dk_at dksX1_isWalked_1 4 rfl rfl)
theorem dX1_isWalked_27 : decode bcX1_isWalked 27 = .ok (.invokevirtual 232, 3) := dk_182 0 232 (dk_at dksX1_isWalked_1 5 rfl rfl)
theorem dX1_isWalked_30 : decode bcX1_isWalked 30 = .ok (.ifCond .ne 5, 3) := dk_154 0 5 (dk_at dksX1_isWalked_1 8 rfl rfl)
theorem dX1_isWalked_33 : decode bcX1_isWalked 33 = .ok (.iconst 0, 1) := dk_3 (dk_at dksX1_isWalked_1 11 rfl rfl)
theorem dX1_isWalked_34 : decode bcX1_isWalked 34 = .ok (.ireturn, 1) := dk_172 (dk_at dksX1_isWalked_1 12 rfl rfl)
theorem dX1_isWalked_35 : decode bcX1_isWalked 35 = .ok (.aload_n 1, 1) := dk_43 (dk_at dksX1_isWalked_1 13 rfl rfl)
theorem dX1_isWalked_36 : decode bcX1_isWalked 36 = .ok (.getfield 229, 3) := dk_180 0 229 (dk_at dksX1_isWalked_1 14 rfl rfl)
theorem dX1_isWalked_39 : decode bcX1_isWalked 39 = .ok (.iload_n 2, 1) := dk_28 (dk_at dksX1_isWalked_1 17 rfl rfl)
theorem dX1_isWalked_40 : decode bcX1_isWalked 40 = .ok (.aload_n 0, 1) := dk_42 (dk_at dksX1_isWalked_1 18 rfl rfl)
theorem dX1_isWalked_41 : decode bcX1_isWalked 41 = .ok (.iload_n 3, 1) := dk_29 (dk_at dksX1_isWalked_1 19 rfl rfl)
theorem dX1_isWalked_42 : decode bcX1_isWalked 42 = .ok (.invokevirtual 163, 3) := dk_182 0 163 (dk_at dksX1_isWalked_1 20 rfl rfl)
theorem dX1_isWalked_45 : decode bcX1_isWalked 45 = .ok (.aload_n 1, 1) := dk_43 (dk_at dksX1_isWalked_1 23 rfl rfl)
theorem dX1_isWalked_46 : decode bcX1_isWalked 46 = .ok (.getfield 229, 3) := dk_180 0 229 (dk_at dksX1_isWalked_2 0 rfl rfl)
theorem dX1_isWalked_49 : decode bcX1_isWalked 49 = .ok (.iload_n 2, 1) := dk_28 (dk_at dksX1_isWalked_2 3 rfl rfl)
theorem dX1_isWalked_50 : decode bcX1_isWalked 50 = .ok (.iaload, 1) := dk_46 (dk_at dksX1_isWalked_2 4 rfl rfl)
theorem dX1_isWalked_51 : decode bcX1_isWalked 51 = .ok (.invokevirtual 235, 3) := dk_182 0 235 (dk_at dksX1_isWalked_2 5 rfl rfl)
theorem dX1_isWalked_54 : decode bcX1_isWalked 54 = .ok (.iastore, 1) := dk_79 (dk_at dksX1_isWalked_2 8 rfl rfl)
theorem dX1_isWalked_55 : decode bcX1_isWalked 55 = .ok (.iconst 1, 1) := dk_4 (dk_at dksX1_isWalked_2 9 rfl rfl)
theorem dX1_isWalked_56 : decode bcX1_isWalked 56 = .ok (.ireturn, 1) := dk_172 (dk_at dksX1_isWalked_2 10 rfl rfl)
abbrev SX1_isWalked (pc : Nat) (i : xI) : Prop := Snd "SwollenHouse" "isWalked" prog_1_method_25_code 4 (Option.some Jvm.ClassFile.FieldType.boolean) [] pc i
theorem oX1_isWalked_0 : SX1_isWalked 0 (i_aload 0 1) := snd_aload_n dX1_isWalked_0 rfl
theorem oX1_isWalked_1 : SX1_isWalked 1 (i_iload 3 2) := snd_iload_n dX1_isWalked_1 rfl
theorem oX1_isWalked_2 : SX1_isWalked 2 (i_cv 0 95 1 5) := snd_cv rfl infX1_isDoor (by decide) rfl (xVm_V dX1_isWalked_2 rfl q1136 q1138 qs29 q127 q1139 pdX1_isDoor)
theorem oX1_isWalked_5 : SX1_isWalked 5 (i_if1 (fun x => x = 0) 33 8) := snd_if_eq dX1_isWalked_5 (by decide)
theorem oX1_isWalked_8 : SX1_isWalked 8 (i_aload 1 9) := snd_aload_n dX1_isWalked_8 rfl
theorem oX1_isWalked_9 : SX1_isWalked 9 (i_iload 3 10) := snd_iload_n dX1_isWalked_9 rfl
theorem oX1_isWalked_10 : SX1_isWalked 10 (i_cv 3 238 1 13) := snd_cv rfl infX4_sticks (by decide) rfl (xVm_V dX1_isWalked_10 rfl q1167 q1168 q1169 q133 q1170 pdX4_sticks)
theorem oX1_isWalked_13 : SX1_isWalked 13 (i_if1 (fun x => ¬ x = 0) 33 16) := snd_if_ne dX1_isWalked_13 (by decide)
theorem oX1_isWalked_16 : SX1_isWalked 16 (i_aload 0 17) := snd_aload_n dX1_isWalked_16 rfl
theorem oX1_isWalked_17 : SX1_isWalked 17 (i_iload 3 18) := snd_iload_n dX1_isWalked_17 rfl
theorem oX1_isWalked_18 : SX1_isWalked 18 (i_cv 0 97 1 21) := snd_cv rfl infX1_door_2 (by decide) rfl (xVm_V dX1_isWalked_18 rfl q1146 q1148 qs31 q127 q1149 pdX1_door_2)
theorem oX1_isWalked_21 : SX1_isWalked 21 (i_aload 1 22) := snd_aload_n dX1_isWalked_21 rfl
theorem oX1_isWalked_22 : SX1_isWalked 22 (i_getf 3 2 25) := snd_getf dX1_isWalked_22 rfl (by decide) in_X4 (Or.inr ⟨_, q296⟩) (Or.inl rfl) (by decide)
theorem oX1_isWalked_25 : SX1_isWalked 25 (i_iload 2 26) := snd_iload_n dX1_isWalked_25 rfl
theorem oX1_isWalked_26 : SX1_isWalked 26 (i_ai 0 27) := snd_ai0 dX1_isWalked_26
theorem oX1_isWalked_27 : SX1_isWalked 27 (i_cv 6 367 1 30) := snd_cv rfl infX7_isOf (by decide) rfl (xVm_V dX1_isWalked_27 rfl q1289 q901 q902 q151 q903 pdX7_isOf)
theorem oX1_isWalked_30 : SX1_isWalked 30 (i_if1 (fun x => ¬ x = 0) 35 33) := snd_if_ne dX1_isWalked_30 (by decide)
theorem oX1_isWalked_33 : SX1_isWalked 33 (i_const (.int (nI 0)) 34) := snd_iconst dX1_isWalked_33 (by decide)
theorem oX1_isWalked_34 : SX1_isWalked 34 (i_zret) := snd_zret dX1_isWalked_34 rfl
theorem oX1_isWalked_35 : SX1_isWalked 35 (i_aload 1 36) := snd_aload_n dX1_isWalked_35 rfl
theorem oX1_isWalked_36 : SX1_isWalked 36 (i_getf 3 2 39) := snd_getf dX1_isWalked_36 rfl (by decide) in_X4 (Or.inr ⟨_, q296⟩) (Or.inl rfl) (by decide)
theorem oX1_isWalked_39 : SX1_isWalked 39 (i_iload 2 40) := snd_iload_n dX1_isWalked_39 rfl
theorem oX1_isWalked_40 : SX1_isWalked 40 (i_aload 0 41) := snd_aload_n dX1_isWalked_40 rfl
theorem oX1_isWalked_41 : SX1_isWalked 41 (i_iload 3 42) := snd_iload_n dX1_isWalked_41 rfl
theorem oX1_isWalked_42 : SX1_isWalked 42 (i_cv 0 97 1 45) := snd_cv rfl infX1_door_2 (by decide) rfl (xVm_V dX1_isWalked_42 rfl q1146 q1148 qs31 q127 q1149 pdX1_door_2)
theorem oX1_isWalked_45 : SX1_isWalked 45 (i_aload 1 46) := snd_aload_n dX1_isWalked_45 rfl
theorem oX1_isWalked_46 : SX1_isWalked 46 (i_getf 3 2 49) := snd_getf dX1_isWalked_46 rfl (by decide) in_X4 (Or.inr ⟨_, q296⟩) (Or.inl rfl) (by decide)
theorem oX1_isWalked_49 : SX1_isWalked 49 (i_iload 2 50) := snd_iload_n dX1_isWalked_49 rfl
theorem oX1_isWalked_50 : SX1_isWalked 50 (i_ai 0 51) := snd_ai0 dX1_isWalked_50
theorem oX1_isWalked_51 : SX1_isWalked 51 (i_cv 6 369 1 54) := snd_cv rfl infX7_beyond (by decide) rfl (xVm_V dX1_isWalked_51 rfl q1294 q1295 q1296 q151 q1297 pdX7_beyond)
theorem oX1_isWalked_54 : SX1_isWalked 54 (i_si (fun v => v) 0 55) := snd_si0 dX1_isWalked_54
theorem oX1_isWalked_55 : SX1_isWalked 55 (i_const (.int (nI 1)) 56) := snd_iconst dX1_isWalked_55 (by decide)
theorem oX1_isWalked_56 : SX1_isWalked 56 (i_zret) := snd_zret dX1_isWalked_56 rfl
theorem okX1_isWalked : ∀ q ∈ cX1_isWalked, SX1_isWalked q.1 q.2 := List.forall_mem_cons.mpr ⟨oX1_isWalked_0, List.forall_mem_cons.mpr ⟨oX1_isWalked_1, List.forall_mem_cons.mpr ⟨oX1_isWalked_2, List.forall_mem_cons.mpr ⟨oX1_isWalked_5, List.forall_mem_cons.mpr ⟨oX1_isWalked_8, List.forall_mem_cons.mpr ⟨oX1_isWalked_9, List.forall_mem_cons.mpr ⟨oX1_isWalked_10, List.forall_mem_cons.mpr ⟨oX1_isWalked_13, List.forall_mem_cons.mpr ⟨oX1_isWalked_16, List.forall_mem_cons.mpr ⟨oX1_isWalked_17, List.forall_mem_cons.mpr ⟨oX1_isWalked_18, List.forall_mem_cons.mpr ⟨oX1_isWalked_21, List.forall_mem_cons.mpr ⟨oX1_isWalked_22, List.forall_mem_cons.mpr ⟨oX1_isWalked_25, List.forall_mem_cons.mpr ⟨oX1_isWalked_26, List.forall_mem_cons.mpr ⟨oX1_isWalked_27, List.forall_mem_cons.mpr ⟨oX1_isWalked_30, List.forall_mem_cons.mpr ⟨oX1_isWalked_33, List.forall_mem_cons.mpr ⟨oX1_isWalked_34, List.forall_mem_cons.mpr ⟨oX1_isWalked_35, List.forall_mem_cons.mpr ⟨oX1_isWalked_36, List.forall_mem_cons.mpr ⟨oX1_isWalked_39, List.forall_mem_cons.mpr ⟨oX1_isWalked_40, List.forall_mem_cons.mpr ⟨oX1_isWalked_41, List.forall_mem_cons.mpr ⟨oX1_isWalked_42, List.forall_mem_cons.mpr ⟨oX1_isWalked_45, List.forall_mem_cons.mpr ⟨oX1_isWalked_46, List.forall_mem_cons.mpr ⟨oX1_isWalked_49, List.forall_mem_cons.mpr ⟨oX1_isWalked_50, List.forall_mem_cons.mpr ⟨oX1_isWalked_51, List.forall_mem_cons.mpr ⟨oX1_isWalked_54, List.forall_mem_cons.mpr ⟨oX1_isWalked_55, List.forall_mem_cons.mpr ⟨oX1_isWalked_56, fun _ h => absurd h List.not_mem_nil⟩⟩⟩⟩⟩⟩⟩⟩⟩⟩⟩⟩⟩⟩⟩⟩⟩⟩⟩⟩⟩⟩⟩⟩⟩⟩⟩⟩⟩⟩⟩⟩⟩
def dkwX1_plane_1 : List UInt8 := [182, 1, 0, 42, 180, 0, 51, 180, 0, 195, 27, 92, 46, 4, 96, 91, 79, 172]
abbrev dktX1_plane_1 : List UInt8 := dkwX1_plane_1 ++ []
def dkwX1_plane_0 : List UInt8 := [42, 27, 182, 0, 226, 153, 0, 14, 42, 180, 0, 51, 27, 182, 1, 7, 154, 0, 5, 2, 172, 42]
abbrev dktX1_plane_0 : List UInt8 := dkwX1_plane_0 ++ dktX1_plane_1
theorem dksX1_plane_0 : bcX1_plane.data.toList.drop 0 = dktX1_plane_0 := by decide +kernel
theorem dksX1_plane_1 : bcX1_plane.data.toList.drop 22 = dktX1_plane_1 := dk_seg dksX1_plane_0 22 rfl rfl
theorem dX1_plane_0 : decode bcX1_plane 0 = .ok (.aload_n 0, 1) := dk_42 (dk_at dksX1_plane_0 0 rfl rfl)
theorem dX1_plane_1 : decode bcX1_plane 1 = .ok (.iload_n 1, 1) := dk_27 (dk_at dksX1_plane_0 1 rfl rfl)
theorem dX1_plane_2 : decode bcX1_plane 2 = .ok (.invokevirtual 226, 3) := dk_182 0 226 (dk_at dksX1_plane_0 2 rfl rfl)
theorem dX1_plane_5 : decode bcX1_plane 5 = .ok (.ifCond .eq 14, 3) := dk_153 0 14 (dk_at dksX1_plane_0 5 rfl rfl)
theorem dX1_plane_8 : decode bcX1_plane 8 = .ok (.aload_n 0, 1) := dk_42 (dk_at dksX1_plane_0 8 rfl rfl)
theorem dX1_plane_9 : decode bcX1_plane 9 = .ok (.getfield 51, 3) := dk_180 0 51 (dk_at dksX1_plane_0 9 rfl rfl)
theorem dX1_plane_12 : decode bcX1_plane 12 = .ok (.iload_n 1, 1) := dk_27 (dk_at dksX1_plane_0 12 rfl rfl)
theorem dX1_plane_13 : decode bcX1_plane 13 = .ok (.invokevirtual 263, 3) := dk_182 1 7 (dk_at dksX1_plane_0 13 rfl rfl)
theorem dX1_plane_16 : decode bcX1_plane 16 = .ok (.ifCond .ne 5, 3) := dk_154 0 5 (dk_at dksX1_plane_0 16 rfl rfl)
theorem dX1_plane_19 : decode bcX1_plane 19 = .ok (.iconst (-1), 1) := dk_2 (dk_at dksX1_plane_0 19 rfl rfl)
theorem dX1_plane_20 : decode bcX1_plane 20 = .ok (.ireturn, 1) := dk_172 (dk_at dksX1_plane_0 20 rfl rfl)
theorem dX1_plane_21 : decode bcX1_plane 21 = .ok (.aload_n 0, 1) := dk_42 (dk_at dksX1_plane_0 21 rfl rfl)
theorem dX1_plane_22 : decode bcX1_plane 22 = .ok (.invokevirtual 256, 3) := dk_182 1 0 (dk_at dksX1_plane_1 0 rfl rfl)
theorem dX1_plane_25 : decode bcX1_plane 25 = .ok (.aload_n 0, 1) := dk_42 (dk_at dksX1_plane_1 3 rfl rfl)
theorem dX1_plane_26 : decode bcX1_plane 26 = .ok (.getfield 51, 3) := dk_180 0 51 (dk_at dksX1_plane_1 4 rfl rfl)
theorem dX1_plane_29 : decode bcX1_plane 29 = .ok (.getfield 195, 3) := dk_180 0 195 (dk_at dksX1_plane_1 7 rfl rfl)
theorem dX1_plane_32 : decode bcX1_plane 32 = .ok (.iload_n 1, 1) := dk_27 (dk_at dksX1_plane_1 10 rfl rfl)
theorem dX1_plane_33 : decode bcX1_plane 33 = .ok (.dup2, 1) := dk_92 (dk_at dksX1_plane_1 11 rfl rfl)
theorem dX1_plane_34 : decode bcX1_plane 34 = .ok (.iaload, 1) := dk_46 (dk_at dksX1_plane_1 12 rfl rfl)
theorem dX1_plane_35 : decode bcX1_plane 35 = .ok (.iconst 1, 1) := dk_4 (dk_at dksX1_plane_1 13 rfl rfl)
theorem dX1_plane_36 : decode bcX1_plane 36 = .ok (.iadd, 1) := dk_96 (dk_at dksX1_plane_1 14 rfl rfl)
theorem dX1_plane_37 : decode bcX1_plane 37 = .ok (.dup_x2, 1) := dk_91 (dk_at dksX1_plane_1 15 rfl rfl)
theorem dX1_plane_38 : decode bcX1_plane 38 = .ok (.iastore, 1) := dk_79 (dk_at dksX1_plane_1 16 rfl rfl)
theorem dX1_plane_39 : decode bcX1_plane 39 = .ok (.ireturn, 1) := dk_172 (dk_at dksX1_plane_1 17 rfl rfl)
abbrev SX1_plane (pc : Nat) (i : xI) : Prop := Snd "SwollenHouse" "plane" prog_1_method_32_code 2 (Option.some Jvm.ClassFile.FieldType.int) [] pc i
theorem oX1_plane_0 : SX1_plane 0 (i_aload 0 1) := snd_aload_n dX1_plane_0 rfl
theorem oX1_plane_1 : SX1_plane 1 (i_iload 1 2) := snd_iload_n dX1_plane_1 rfl
theorem oX1_plane_2 : SX1_plane 2 (i_cv 0 95 1 5) := snd_cv rfl infX1_isDoor (by decide) rfl (xVm_V dX1_plane_2 rfl q1136 q1138 qs29 q127 q1139 pdX1_isDoor)
theorem oX1_plane_5 : SX1_plane 5 (i_if1 (fun x => x = 0) 19 8) := snd_if_eq dX1_plane_5 (by decide)
theorem oX1_plane_8 : SX1_plane 8 (i_aload 0 9) := snd_aload_n dX1_plane_8 rfl
theorem oX1_plane_9 : SX1_plane 9 (i_getf 0 4 12) := snd_getf dX1_plane_9 rfl (by decide) in_X1 (Or.inl q350) (Or.inl rfl) (by decide)
theorem oX1_plane_12 : SX1_plane 12 (i_iload 1 13) := snd_iload_n dX1_plane_12 rfl
theorem oX1_plane_13 : SX1_plane 13 (i_cv 3 240 1 16) := snd_cv rfl infX4_canPlane (by decide) rfl (xVm_V dX1_plane_13 rfl q1302 q1303 q1304 q133 q1305 pdX4_canPlane)
theorem oX1_plane_16 : SX1_plane 16 (i_if1 (fun x => ¬ x = 0) 21 19) := snd_if_ne dX1_plane_16 (by decide)
theorem oX1_plane_19 : SX1_plane 19 (i_const (.int (-1)) 20) := snd_iconst dX1_plane_19 (by decide)
theorem oX1_plane_20 : SX1_plane 20 (i_iret) := snd_iret dX1_plane_20 rfl
theorem oX1_plane_21 : SX1_plane 21 (i_aload 0 22) := snd_aload_n dX1_plane_21 rfl
theorem oX1_plane_22 : SX1_plane 22 (i_cvv 0 103 0 25) := snd_cvv rfl infX1_keeps (by decide) rfl (xVm_V dX1_plane_22 rfl q1190 q1192 qs34 q127 q1193 pdX1_keeps)
theorem oX1_plane_25 : SX1_plane 25 (i_aload 0 26) := snd_aload_n dX1_plane_25 rfl
theorem oX1_plane_26 : SX1_plane 26 (i_getf 0 4 29) := snd_getf dX1_plane_26 rfl (by decide) in_X1 (Or.inl q350) (Or.inl rfl) (by decide)
theorem oX1_plane_29 : SX1_plane 29 (i_getf 3 1 32) := snd_getf dX1_plane_29 rfl (by decide) in_X4 (Or.inr ⟨_, q294⟩) (Or.inl rfl) (by decide)
theorem oX1_plane_32 : SX1_plane 32 (i_iload 1 33) := snd_iload_n dX1_plane_32 rfl
theorem oX1_plane_33 : SX1_plane 33 (i_dup2 34) := snd_dup2 dX1_plane_33
theorem oX1_plane_34 : SX1_plane 34 (i_ai 0 35) := snd_ai0 dX1_plane_34
theorem oX1_plane_35 : SX1_plane 35 (i_const (.int (nI 1)) 36) := snd_iconst dX1_plane_35 (by decide)
theorem oX1_plane_36 : SX1_plane 36 (i_ii (fun x y => x + y) 37) := snd_iadd dX1_plane_36
theorem oX1_plane_37 : SX1_plane 37 (i_dup_x2 38) := snd_dup_x2 dX1_plane_37
theorem oX1_plane_38 : SX1_plane 38 (i_si (fun v => v) 0 39) := snd_si0 dX1_plane_38
theorem oX1_plane_39 : SX1_plane 39 (i_iret) := snd_iret dX1_plane_39 rfl
theorem okX1_plane : ∀ q ∈ cX1_plane, SX1_plane q.1 q.2 := List.forall_mem_cons.mpr ⟨oX1_plane_0, List.forall_mem_cons.mpr ⟨oX1_plane_1, List.forall_mem_cons.mpr ⟨oX1_plane_2, List.forall_mem_cons.mpr ⟨oX1_plane_5, List.forall_mem_cons.mpr ⟨oX1_plane_8, List.forall_mem_cons.mpr ⟨oX1_plane_9, List.forall_mem_cons.mpr ⟨oX1_plane_12, List.forall_mem_cons.mpr ⟨oX1_plane_13, List.forall_mem_cons.mpr ⟨oX1_plane_16, List.forall_mem_cons.mpr ⟨oX1_plane_19, List.forall_mem_cons.mpr ⟨oX1_plane_20, List.forall_mem_cons.mpr ⟨oX1_plane_21, List.forall_mem_cons.mpr ⟨oX1_plane_22, List.forall_mem_cons.mpr ⟨oX1_plane_25, List.forall_mem_cons.mpr ⟨oX1_plane_26, List.forall_mem_cons.mpr ⟨oX1_plane_29, List.forall_mem_cons.mpr ⟨oX1_plane_32, List.forall_mem_cons.mpr ⟨oX1_plane_33, List.forall_mem_cons.mpr ⟨oX1_plane_34, List.forall_mem_cons.mpr ⟨oX1_plane_35, List.forall_mem_cons.mpr ⟨oX1_plane_36, List.forall_mem_cons.mpr ⟨oX1_plane_37, List.forall_mem_cons.mpr ⟨oX1_plane_38, List.forall_mem_cons.mpr ⟨oX1_plane_39, fun _ h => absurd h List.not_mem_nil⟩⟩⟩⟩⟩⟩⟩⟩⟩⟩⟩⟩⟩⟩⟩⟩⟩⟩⟩⟩⟩⟩⟩⟩
def dkwX1_wedge_2 : List UInt8 := [180, 0, 247, 27, 122, 4, 126, 172]
abbrev dktX1_wedge_2 : List UInt8 := dkwX1_wedge_2 ++ []
def dkwX1_wedge_1 : List UInt8 := [182, 1, 0, 42, 180, 0, 51, 89, 180, 0, 247, 4, 27, 120, 130, 181, 0, 247, 42, 180, 0, 51]
abbrev dktX1_wedge_1 : List UInt8 := dkwX1_wedge_1 ++ dktX1_wedge_2
def dkwX1_wedge_0 : List UInt8 := [42, 27, 182, 0, 226, 153, 0, 14, 42, 180, 0, 51, 27, 182, 1, 10, 154, 0, 5, 2, 172, 42]
abbrev dktX1_wedge_0 : List UInt8 := dkwX1_wedge_0 ++ dktX1_wedge_1
theorem dksX1_wedge_0 : bcX1_wedge.data.toList.drop 0 = dktX1_wedge_0 := by decide +kernel
theorem dksX1_wedge_1 : bcX1_wedge.data.toList.drop 22 = dktX1_wedge_1 := dk_seg dksX1_wedge_0 22 rfl rfl
theorem dksX1_wedge_2 : bcX1_wedge.data.toList.drop 44 = dktX1_wedge_2 := dk_seg dksX1_wedge_1 22 rfl rfl
theorem dX1_wedge_0 : decode bcX1_wedge 0 = .ok (.aload_n 0, 1) := dk_42 (dk_at dksX1_wedge_0 0 rfl rfl)
theorem dX1_wedge_1 : decode bcX1_wedge 1 = .ok (.iload_n 1, 1) := dk_27 (dk_at dksX1_wedge_0 1 rfl rfl)
theorem dX1_wedge_2 : decode bcX1_wedge 2 = .ok (.invokevirtual 226, 3) := dk_182 0 226 (dk_at dksX1_wedge_0 2 rfl rfl)
theorem dX1_wedge_5 : decode bcX1_wedge 5 = .ok (.ifCond .eq 14, 3) := dk_153 0 14 (dk_at dksX1_wedge_0 5 rfl rfl)
theorem dX1_wedge_8 : decode bcX1_wedge 8 = .ok (.aload_n 0, 1) := dk_42 (dk_at dksX1_wedge_0 8 rfl rfl)
theorem dX1_wedge_9 : decode bcX1_wedge 9 = .ok (.getfield 51, 3) := dk_180 0 51 (dk_at dksX1_wedge_0 9 rfl rfl)
theorem dX1_wedge_12 : decode bcX1_wedge 12 = .ok (.iload_n 1, 1) := dk_27 (dk_at dksX1_wedge_0 12 rfl rfl)
theorem dX1_wedge_13 : decode bcX1_wedge 13 = .ok (.invokevirtual 266, 3) := dk_182 1 10 (dk_at dksX1_wedge_0 13 rfl rfl)
theorem dX1_wedge_16 : decode bcX1_wedge 16 = .ok (.ifCond .ne 5, 3) := dk_154 0 5 (dk_at dksX1_wedge_0 16 rfl rfl)
theorem dX1_wedge_19 : decode bcX1_wedge 19 = .ok (.iconst (-1), 1) := dk_2 (dk_at dksX1_wedge_0 19 rfl rfl)
theorem dX1_wedge_20 : decode bcX1_wedge 20 = .ok (.ireturn, 1) := dk_172 (dk_at dksX1_wedge_0 20 rfl rfl)
theorem dX1_wedge_21 : decode bcX1_wedge 21 = .ok (.aload_n 0, 1) := dk_42 (dk_at dksX1_wedge_0 21 rfl rfl)
theorem dX1_wedge_22 : decode bcX1_wedge 22 = .ok (.invokevirtual 256, 3) := dk_182 1 0 (dk_at dksX1_wedge_1 0 rfl rfl)
theorem dX1_wedge_25 : decode bcX1_wedge 25 = .ok (.aload_n 0, 1) := dk_42 (dk_at dksX1_wedge_1 3 rfl rfl)
theorem dX1_wedge_26 : decode bcX1_wedge 26 = .ok (.getfield 51, 3) := dk_180 0 51 (dk_at dksX1_wedge_1 4 rfl rfl)
theorem dX1_wedge_29 : decode bcX1_wedge 29 = .ok (.dup, 1) := dk_89 (dk_at dksX1_wedge_1 7 rfl rfl)
theorem dX1_wedge_30 : decode bcX1_wedge 30 = .ok (.getfield 247, 3) := dk_180 0 247 (dk_at dksX1_wedge_1 8 rfl rfl)
theorem dX1_wedge_33 : decode bcX1_wedge 33 = .ok (.iconst 1, 1) := dk_4 (dk_at dksX1_wedge_1 11 rfl rfl)
theorem dX1_wedge_34 : decode bcX1_wedge 34 = .ok (.iload_n 1, 1) := dk_27 (dk_at dksX1_wedge_1 12 rfl rfl)
theorem dX1_wedge_35 : decode bcX1_wedge 35 = .ok (.ishl, 1) := dk_120 (dk_at dksX1_wedge_1 13 rfl rfl)
theorem dX1_wedge_36 : decode bcX1_wedge 36 = .ok (.ixor, 1) := dk_130 (dk_at dksX1_wedge_1 14 rfl rfl)
theorem dX1_wedge_37 : decode bcX1_wedge 37 = .ok (.putfield 247, 3) := dk_181 0 247 (dk_at dksX1_wedge_1 15 rfl rfl)
theorem dX1_wedge_40 : decode bcX1_wedge 40 = .ok (.aload_n 0, 1) := dk_42 (dk_at dksX1_wedge_1 18 rfl rfl)
theorem dX1_wedge_41 : decode bcX1_wedge 41 = .ok (.getfield 51, 3) := dk_180 0 51 (dk_at dksX1_wedge_1 19 rfl rfl)
theorem dX1_wedge_44 : decode bcX1_wedge 44 = .ok (.getfield 247, 3) := dk_180 0 247 (dk_at dksX1_wedge_2 0 rfl rfl)
theorem dX1_wedge_47 : decode bcX1_wedge 47 = .ok (.iload_n 1, 1) := dk_27 (dk_at dksX1_wedge_2 3 rfl rfl)
theorem dX1_wedge_48 : decode bcX1_wedge 48 = .ok (.ishr, 1) := dk_122 (dk_at dksX1_wedge_2 4 rfl rfl)
theorem dX1_wedge_49 : decode bcX1_wedge 49 = .ok (.iconst 1, 1) := dk_4 (dk_at dksX1_wedge_2 5 rfl rfl)
theorem dX1_wedge_50 : decode bcX1_wedge 50 = .ok (.iand, 1) := dk_126 (dk_at dksX1_wedge_2 6 rfl rfl)
theorem dX1_wedge_51 : decode bcX1_wedge 51 = .ok (.ireturn, 1) := dk_172 (dk_at dksX1_wedge_2 7 rfl rfl)
abbrev SX1_wedge (pc : Nat) (i : xI) : Prop := Snd "SwollenHouse" "wedge" prog_1_method_33_code 2 (Option.some Jvm.ClassFile.FieldType.int) [] pc i
theorem oX1_wedge_0 : SX1_wedge 0 (i_aload 0 1) := snd_aload_n dX1_wedge_0 rfl
theorem oX1_wedge_1 : SX1_wedge 1 (i_iload 1 2) := snd_iload_n dX1_wedge_1 rfl
theorem oX1_wedge_2 : SX1_wedge 2 (i_cv 0 95 1 5) := snd_cv rfl infX1_isDoor (by decide) rfl (xVm_V dX1_wedge_2 rfl q1136 q1138 qs29 q127 q1139 pdX1_isDoor)
theorem oX1_wedge_5 : SX1_wedge 5 (i_if1 (fun x => x = 0) 19 8) := snd_if_eq dX1_wedge_5 (by decide)
theorem oX1_wedge_8 : SX1_wedge 8 (i_aload 0 9) := snd_aload_n dX1_wedge_8 rfl
theorem oX1_wedge_9 : SX1_wedge 9 (i_getf 0 4 12) := snd_getf dX1_wedge_9 rfl (by decide) in_X1 (Or.inl q350) (Or.inl rfl) (by decide)
theorem oX1_wedge_12 : SX1_wedge 12 (i_iload 1 13) := snd_iload_n dX1_wedge_12 rfl
theorem oX1_wedge_13 : SX1_wedge 13 (i_cv 3 241 1 16) := snd_cv rfl infX4_canWedge (by decide) rfl (xVm_V dX1_wedge_13 rfl q1310 q1311 q1312 q133 q1313 pdX4_canWedge)
theorem oX1_wedge_16 : SX1_wedge 16 (i_if1 (fun x => ¬ x = 0) 21 19) := snd_if_ne dX1_wedge_16 (by decide)
theorem oX1_wedge_19 : SX1_wedge 19 (i_const (.int (-1)) 20) := snd_iconst dX1_wedge_19 (by decide)
theorem oX1_wedge_20 : SX1_wedge 20 (i_iret) := snd_iret dX1_wedge_20 rfl
theorem oX1_wedge_21 : SX1_wedge 21 (i_aload 0 22) := snd_aload_n dX1_wedge_21 rfl
theorem oX1_wedge_22 : SX1_wedge 22 (i_cvv 0 103 0 25) := snd_cvv rfl infX1_keeps (by decide) rfl (xVm_V dX1_wedge_22 rfl q1190 q1192 qs34 q127 q1193 pdX1_keeps)
theorem oX1_wedge_25 : SX1_wedge 25 (i_aload 0 26) := snd_aload_n dX1_wedge_25 rfl
theorem oX1_wedge_26 : SX1_wedge 26 (i_getf 0 4 29) := snd_getf dX1_wedge_26 rfl (by decide) in_X1 (Or.inl q350) (Or.inl rfl) (by decide)
theorem oX1_wedge_29 : SX1_wedge 29 (i_dup 30) := snd_dup dX1_wedge_29
theorem oX1_wedge_30 : SX1_wedge 30 (i_getf 3 3 33) := snd_getf dX1_wedge_30 rfl (by decide) in_X4 (Or.inr ⟨_, q299⟩) (Or.inl rfl) (by decide)
theorem oX1_wedge_33 : SX1_wedge 33 (i_const (.int (nI 1)) 34) := snd_iconst dX1_wedge_33 (by decide)
theorem oX1_wedge_34 : SX1_wedge 34 (i_iload 1 35) := snd_iload_n dX1_wedge_34 rfl
theorem oX1_wedge_35 : SX1_wedge 35 (i_ii (fun x y => x <<< (y &&& 31)) 36) := snd_ishl dX1_wedge_35
theorem oX1_wedge_36 : SX1_wedge 36 (i_ii (fun x y => x ^^^ y) 37) := snd_ixor dX1_wedge_36
theorem oX1_wedge_37 : SX1_wedge 37 (i_putfi 3 3 40) := snd_putfi dX1_wedge_37 rfl (by decide) in_X4 tyX4 tyX4_ok nmX4 (Or.inr (Or.inr ⟨rfl, _, q299⟩)) (Or.inl rfl) rfl
theorem oX1_wedge_40 : SX1_wedge 40 (i_aload 0 41) := snd_aload_n dX1_wedge_40 rfl
theorem oX1_wedge_41 : SX1_wedge 41 (i_getf 0 4 44) := snd_getf dX1_wedge_41 rfl (by decide) in_X1 (Or.inl q350) (Or.inl rfl) (by decide)
theorem oX1_wedge_44 : SX1_wedge 44 (i_getf 3 3 47) := snd_getf dX1_wedge_44 rfl (by decide) in_X4 (Or.inr ⟨_, q299⟩) (Or.inl rfl) (by decide)
theorem oX1_wedge_47 : SX1_wedge 47 (i_iload 1 48) := snd_iload_n dX1_wedge_47 rfl
theorem oX1_wedge_48 : SX1_wedge 48 (i_ii (fun x y => x >>> (y &&& 31)) 49) := snd_ishr dX1_wedge_48
theorem oX1_wedge_49 : SX1_wedge 49 (i_const (.int (nI 1)) 50) := snd_iconst dX1_wedge_49 (by decide)
theorem oX1_wedge_50 : SX1_wedge 50 (i_ii (fun x y => x &&& y) 51) := snd_iand dX1_wedge_50
theorem oX1_wedge_51 : SX1_wedge 51 (i_iret) := snd_iret dX1_wedge_51 rfl
theorem okX1_wedge : ∀ q ∈ cX1_wedge, SX1_wedge q.1 q.2 := List.forall_mem_cons.mpr ⟨oX1_wedge_0, List.forall_mem_cons.mpr ⟨oX1_wedge_1, List.forall_mem_cons.mpr ⟨oX1_wedge_2, List.forall_mem_cons.mpr ⟨oX1_wedge_5, List.forall_mem_cons.mpr ⟨oX1_wedge_8, List.forall_mem_cons.mpr ⟨oX1_wedge_9, List.forall_mem_cons.mpr ⟨oX1_wedge_12, List.forall_mem_cons.mpr ⟨oX1_wedge_13, List.forall_mem_cons.mpr ⟨oX1_wedge_16, List.forall_mem_cons.mpr ⟨oX1_wedge_19, List.forall_mem_cons.mpr ⟨oX1_wedge_20, List.forall_mem_cons.mpr ⟨oX1_wedge_21, List.forall_mem_cons.mpr ⟨oX1_wedge_22, List.forall_mem_cons.mpr ⟨oX1_wedge_25, List.forall_mem_cons.mpr ⟨oX1_wedge_26, List.forall_mem_cons.mpr ⟨oX1_wedge_29, List.forall_mem_cons.mpr ⟨oX1_wedge_30, List.forall_mem_cons.mpr ⟨oX1_wedge_33, List.forall_mem_cons.mpr ⟨oX1_wedge_34, List.forall_mem_cons.mpr ⟨oX1_wedge_35, List.forall_mem_cons.mpr ⟨oX1_wedge_36, List.forall_mem_cons.mpr ⟨oX1_wedge_37, List.forall_mem_cons.mpr ⟨oX1_wedge_40, List.forall_mem_cons.mpr ⟨oX1_wedge_41, List.forall_mem_cons.mpr ⟨oX1_wedge_44, List.forall_mem_cons.mpr ⟨oX1_wedge_47, List.forall_mem_cons.mpr ⟨oX1_wedge_48, List.forall_mem_cons.mpr ⟨oX1_wedge_49, List.forall_mem_cons.mpr ⟨oX1_wedge_50, List.forall_mem_cons.mpr ⟨oX1_wedge_51, fun _ h => absurd h List.not_mem_nil⟩⟩⟩⟩⟩⟩⟩⟩⟩⟩⟩⟩⟩⟩⟩⟩⟩⟩⟩⟩⟩⟩⟩⟩⟩⟩⟩⟩⟩⟩
def dkwX1_force_2 : List UInt8 := [180, 0, 51, 180, 0, 195, 27, 46, 172]
abbrev dktX1_force_2 : List UInt8 := dkwX1_force_2 ++ []
def dkwX1_force_1 : List UInt8 := [182, 1, 0, 42, 180, 0, 51, 180, 0, 195, 27, 42, 180, 0, 51, 180, 0, 176, 27, 46, 79, 42]
abbrev dktX1_force_1 : List UInt8 := dkwX1_force_1 ++ dktX1_force_2
def dkwX1_force_0 : List UInt8 := [42, 27, 182, 0, 226, 153, 0, 14, 42, 180, 0, 51, 27, 182, 1, 13, 154, 0, 5, 2, 172, 42]
abbrev dktX1_force_0 : List UInt8 := dkwX1_force_0 ++ dktX1_force_1
theorem dksX1_force_0 : bcX1_force.data.toList.drop 0 = dktX1_force_0 := by decide +kernel
theorem dksX1_force_1 : bcX1_force.data.toList.drop 22 = dktX1_force_1 := dk_seg dksX1_force_0 22 rfl rfl
theorem dksX1_force_2 : bcX1_force.data.toList.drop 44 = dktX1_force_2 := dk_seg dksX1_force_1 22 rfl rfl
theorem dX1_force_0 : decode bcX1_force 0 = .ok (.aload_n 0, 1) := dk_42 (dk_at dksX1_force_0 0 rfl rfl)
theorem dX1_force_1 : decode bcX1_force 1 = .ok (.iload_n 1, 1) := dk_27 (dk_at dksX1_force_0 1 rfl rfl)
theorem dX1_force_2 : decode bcX1_force 2 = .ok (.invokevirtual 226, 3) := dk_182 0 226 (dk_at dksX1_force_0 2 rfl rfl)
theorem dX1_force_5 : decode bcX1_force 5 = .ok (.ifCond .eq 14, 3) := dk_153 0 14 (dk_at dksX1_force_0 5 rfl rfl)
theorem dX1_force_8 : decode bcX1_force 8 = .ok (.aload_n 0, 1) := dk_42 (dk_at dksX1_force_0 8 rfl rfl)
theorem dX1_force_9 : decode bcX1_force 9 = .ok (.getfield 51, 3) := dk_180 0 51 (dk_at dksX1_force_0 9 rfl rfl)
theorem dX1_force_12 : decode bcX1_force 12 = .ok (.iload_n 1, 1) := dk_27 (dk_at dksX1_force_0 12 rfl rfl)
theorem dX1_force_13 : decode bcX1_force 13 = .ok (.invokevirtual 269, 3) := dk_182 1 13 (dk_at dksX1_force_0 13 rfl rfl)
theorem dX1_force_16 : decode bcX1_force 16 = .ok (.ifCond .ne 5, 3) := dk_154 0 5 (dk_at dksX1_force_0 16 rfl rfl)
theorem dX1_force_19 : decode bcX1_force 19 = .ok (.iconst (-1), 1) := dk_2 (dk_at dksX1_force_0 19 rfl rfl)
theorem dX1_force_20 : decode bcX1_force 20 = .ok (.ireturn, 1) := dk_172 (dk_at dksX1_force_0 20 rfl rfl)
theorem dX1_force_21 : decode bcX1_force 21 = .ok (.aload_n 0, 1) := dk_42 (dk_at dksX1_force_0 21 rfl rfl)
theorem dX1_force_22 : decode bcX1_force 22 = .ok (.invokevirtual 256, 3) := dk_182 1 0 (dk_at dksX1_force_1 0 rfl rfl)
theorem dX1_force_25 : decode bcX1_force 25 = .ok (.aload_n 0, 1) := dk_42 (dk_at dksX1_force_1 3 rfl rfl)
theorem dX1_force_26 : decode bcX1_force 26 = .ok (.getfield 51, 3) := dk_180 0 51 (dk_at dksX1_force_1 4 rfl rfl)
theorem dX1_force_29 : decode bcX1_force 29 = .ok (.getfield 195, 3) := dk_180 0 195 (dk_at dksX1_force_1 7 rfl rfl)
theorem dX1_force_32 : decode bcX1_force 32 = .ok (.iload_n 1, 1) := dk_27 (dk_at dksX1_force_1 10 rfl rfl)
theorem dX1_force_33 : decode bcX1_force 33 = .ok (.aload_n 0, 1) := dk_42 (dk_at dksX1_force_1 11 rfl rfl)
theorem dX1_force_34 : decode bcX1_force 34 = .ok (.getfield 51, 3) := dk_180 0 51 (dk_at dksX1_force_1 12 rfl rfl)
theorem dX1_force_37 : decode bcX1_force 37 = .ok (.getfield 176, 3) := dk_180 0 176 (dk_at dksX1_force_1 15 rfl rfl)
theorem dX1_force_40 : decode bcX1_force 40 = .ok (.iload_n 1, 1) := dk_27 (dk_at dksX1_force_1 18 rfl rfl)
theorem dX1_force_41 : decode bcX1_force 41 = .ok (.iaload, 1) := dk_46 (dk_at dksX1_force_1 19 rfl rfl)
theorem dX1_force_42 : decode bcX1_force 42 = .ok (.iastore, 1) := dk_79 (dk_at dksX1_force_1 20 rfl rfl)
theorem dX1_force_43 : decode bcX1_force 43 = .ok (.aload_n 0, 1) := dk_42 (dk_at dksX1_force_1 21 rfl rfl)
theorem dX1_force_44 : decode bcX1_force 44 = .ok (.getfield 51, 3) := dk_180 0 51 (dk_at dksX1_force_2 0 rfl rfl)
theorem dX1_force_47 : decode bcX1_force 47 = .ok (.getfield 195, 3) := dk_180 0 195 (dk_at dksX1_force_2 3 rfl rfl)
theorem dX1_force_50 : decode bcX1_force 50 = .ok (.iload_n 1, 1) := dk_27 (dk_at dksX1_force_2 6 rfl rfl)
theorem dX1_force_51 : decode bcX1_force 51 = .ok (.iaload, 1) := dk_46 (dk_at dksX1_force_2 7 rfl rfl)
theorem dX1_force_52 : decode bcX1_force 52 = .ok (.ireturn, 1) := dk_172 (dk_at dksX1_force_2 8 rfl rfl)
abbrev SX1_force (pc : Nat) (i : xI) : Prop := Snd "SwollenHouse" "force" prog_1_method_34_code 2 (Option.some Jvm.ClassFile.FieldType.int) [] pc i
theorem oX1_force_0 : SX1_force 0 (i_aload 0 1) := snd_aload_n dX1_force_0 rfl
theorem oX1_force_1 : SX1_force 1 (i_iload 1 2) := snd_iload_n dX1_force_1 rfl
theorem oX1_force_2 : SX1_force 2 (i_cv 0 95 1 5) := snd_cv rfl infX1_isDoor (by decide) rfl (xVm_V dX1_force_2 rfl q1136 q1138 qs29 q127 q1139 pdX1_isDoor)
theorem oX1_force_5 : SX1_force 5 (i_if1 (fun x => x = 0) 19 8) := snd_if_eq dX1_force_5 (by decide)
theorem oX1_force_8 : SX1_force 8 (i_aload 0 9) := snd_aload_n dX1_force_8 rfl
theorem oX1_force_9 : SX1_force 9 (i_getf 0 4 12) := snd_getf dX1_force_9 rfl (by decide) in_X1 (Or.inl q350) (Or.inl rfl) (by decide)
theorem oX1_force_12 : SX1_force 12 (i_iload 1 13) := snd_iload_n dX1_force_12 rfl
theorem oX1_force_13 : SX1_force 13 (i_cv 3 242 1 16) := snd_cv rfl infX4_canForce (by decide) rfl (xVm_V dX1_force_13 rfl q1319 q1320 q1321 q133 q1322 pdX4_canForce)
theorem oX1_force_16 : SX1_force 16 (i_if1 (fun x => ¬ x = 0) 21 19) := snd_if_ne dX1_force_16 (by decide)
theorem oX1_force_19 : SX1_force 19 (i_const (.int (-1)) 20) := snd_iconst dX1_force_19 (by decide)
theorem oX1_force_20 : SX1_force 20 (i_iret) := snd_iret dX1_force_20 rfl
theorem oX1_force_21 : SX1_force 21 (i_aload 0 22) := snd_aload_n dX1_force_21 rfl
theorem oX1_force_22 : SX1_force 22 (i_cvv 0 103 0 25) := snd_cvv rfl infX1_keeps (by decide) rfl (xVm_V dX1_force_22 rfl q1190 q1192 qs34 q127 q1193 pdX1_keeps)
theorem oX1_force_25 : SX1_force 25 (i_aload 0 26) := snd_aload_n dX1_force_25 rfl
theorem oX1_force_26 : SX1_force 26 (i_getf 0 4 29) := snd_getf dX1_force_26 rfl (by decide) in_X1 (Or.inl q350) (Or.inl rfl) (by decide)
theorem oX1_force_29 : SX1_force 29 (i_getf 3 1 32) := snd_getf dX1_force_29 rfl (by decide) in_X4 (Or.inr ⟨_, q294⟩) (Or.inl rfl) (by decide)
theorem oX1_force_32 : SX1_force 32 (i_iload 1 33) := snd_iload_n dX1_force_32 rfl
theorem oX1_force_33 : SX1_force 33 (i_aload 0 34) := snd_aload_n dX1_force_33 rfl
theorem oX1_force_34 : SX1_force 34 (i_getf 0 4 37) := snd_getf dX1_force_34 rfl (by decide) in_X1 (Or.inl q350) (Or.inl rfl) (by decide)
theorem oX1_force_37 : SX1_force 37 (i_getf 3 0 40) := snd_getf dX1_force_37 rfl (by decide) in_X4 (Or.inr ⟨_, q290⟩) (Or.inl rfl) (by decide)
theorem oX1_force_40 : SX1_force 40 (i_iload 1 41) := snd_iload_n dX1_force_40 rfl
theorem oX1_force_41 : SX1_force 41 (i_ai 0 42) := snd_ai0 dX1_force_41
theorem oX1_force_42 : SX1_force 42 (i_si (fun v => v) 0 43) := snd_si0 dX1_force_42
theorem oX1_force_43 : SX1_force 43 (i_aload 0 44) := snd_aload_n dX1_force_43 rfl
theorem oX1_force_44 : SX1_force 44 (i_getf 0 4 47) := snd_getf dX1_force_44 rfl (by decide) in_X1 (Or.inl q350) (Or.inl rfl) (by decide)
theorem oX1_force_47 : SX1_force 47 (i_getf 3 1 50) := snd_getf dX1_force_47 rfl (by decide) in_X4 (Or.inr ⟨_, q294⟩) (Or.inl rfl) (by decide)
theorem oX1_force_50 : SX1_force 50 (i_iload 1 51) := snd_iload_n dX1_force_50 rfl
theorem oX1_force_51 : SX1_force 51 (i_ai 0 52) := snd_ai0 dX1_force_51
theorem oX1_force_52 : SX1_force 52 (i_iret) := snd_iret dX1_force_52 rfl
theorem okX1_force : ∀ q ∈ cX1_force, SX1_force q.1 q.2 := List.forall_mem_cons.mpr ⟨oX1_force_0, List.forall_mem_cons.mpr ⟨oX1_force_1, List.forall_mem_cons.mpr ⟨oX1_force_2, List.forall_mem_cons.mpr ⟨oX1_force_5, List.forall_mem_cons.mpr ⟨oX1_force_8, List.forall_mem_cons.mpr ⟨oX1_force_9, List.forall_mem_cons.mpr ⟨oX1_force_12, List.forall_mem_cons.mpr ⟨oX1_force_13, List.forall_mem_cons.mpr ⟨oX1_force_16, List.forall_mem_cons.mpr ⟨oX1_force_19, List.forall_mem_cons.mpr ⟨oX1_force_20, List.forall_mem_cons.mpr ⟨oX1_force_21, List.forall_mem_cons.mpr ⟨oX1_force_22, List.forall_mem_cons.mpr ⟨oX1_force_25, List.forall_mem_cons.mpr ⟨oX1_force_26, List.forall_mem_cons.mpr ⟨oX1_force_29, List.forall_mem_cons.mpr ⟨oX1_force_32, List.forall_mem_cons.mpr ⟨oX1_force_33, List.forall_mem_cons.mpr ⟨oX1_force_34, List.forall_mem_cons.mpr ⟨oX1_force_37, List.forall_mem_cons.mpr ⟨oX1_force_40, List.forall_mem_cons.mpr ⟨oX1_force_41, List.forall_mem_cons.mpr ⟨oX1_force_42, List.forall_mem_cons.mpr ⟨oX1_force_43, List.forall_mem_cons.mpr ⟨oX1_force_44, List.forall_mem_cons.mpr ⟨oX1_force_47, List.forall_mem_cons.mpr ⟨oX1_force_50, List.forall_mem_cons.mpr ⟨oX1_force_51, List.forall_mem_cons.mpr ⟨oX1_force_52, fun _ h => absurd h List.not_mem_nil⟩⟩⟩⟩⟩⟩⟩⟩⟩⟩⟩⟩⟩⟩⟩⟩⟩⟩⟩⟩⟩⟩⟩⟩⟩⟩⟩⟩⟩
def dkwX1_undo_1 : List UInt8 := [90, 181, 0, 127, 50, 182, 0, 253, 4, 172]
abbrev dktX1_undo_1 : List UInt8 := dkwX1_undo_1 ++ []
def dkwX1_undo_0 : List UInt8 := [42, 180, 0, 127, 154, 0, 5, 3, 172, 42, 180, 0, 51, 42, 180, 0, 62, 42, 89, 180, 0, 127, 4, 100]
abbrev dktX1_undo_0 : List UInt8 := dkwX1_undo_0 ++ dktX1_undo_1
theorem dksX1_undo_0 : bcX1_undo.data.toList.drop 0 = dktX1_undo_0 := by decide +kernel
theorem dksX1_undo_1 : bcX1_undo.data.toList.drop 24 = dktX1_undo_1 := dk_seg dksX1_undo_0 24 rfl rfl
theorem dX1_undo_0 : decode bcX1_undo 0 = .ok (.aload_n 0, 1) := dk_42 (dk_at dksX1_undo_0 0 rfl rfl)
theorem dX1_undo_1 : decode bcX1_undo 1 = .ok (.getfield 127, 3) := dk_180 0 127 (dk_at dksX1_undo_0 1 rfl rfl)
theorem dX1_undo_4 : decode bcX1_undo 4 = .ok (.ifCond .ne 5, 3) := dk_154 0 5 (dk_at dksX1_undo_0 4 rfl rfl)
theorem dX1_undo_7 : decode bcX1_undo 7 = .ok (.iconst 0, 1) := dk_3 (dk_at dksX1_undo_0 7 rfl rfl)
theorem dX1_undo_8 : decode bcX1_undo 8 = .ok (.ireturn, 1) := dk_172 (dk_at dksX1_undo_0 8 rfl rfl)
theorem dX1_undo_9 : decode bcX1_undo 9 = .ok (.aload_n 0, 1) := dk_42 (dk_at dksX1_undo_0 9 rfl rfl)
theorem dX1_undo_10 : decode bcX1_undo 10 = .ok (.getfield 51, 3) := dk_180 0 51 (dk_at dksX1_undo_0 10 rfl rfl)
theorem dX1_undo_13 : decode bcX1_undo 13 = .ok (.aload_n 0, 1) := dk_42 (dk_at dksX1_undo_0 13 rfl rfl)
theorem dX1_undo_14 : decode bcX1_undo 14 = .ok (.getfield 62, 3) := dk_180 0 62 (dk_at dksX1_undo_0 14 rfl rfl)
theorem dX1_undo_17 : decode bcX1_undo 17 = .ok (.aload_n 0, 1) := dk_42 (dk_at dksX1_undo_0 17 rfl rfl)
theorem dX1_undo_18 : decode bcX1_undo 18 = .ok (.dup, 1) := dk_89 (dk_at dksX1_undo_0 18 rfl rfl)
theorem dX1_undo_19 : decode bcX1_undo 19 = .ok (.getfield 127, 3) := dk_180 0 127 (dk_at dksX1_undo_0 19 rfl rfl)
theorem dX1_undo_22 : decode bcX1_undo 22 = .ok (.iconst 1, 1) := dk_4 (dk_at dksX1_undo_0 22 rfl rfl)
theorem dX1_undo_23 : decode bcX1_undo 23 = .ok (.isub, 1) := dk_100 (dk_at dksX1_undo_0 23 rfl rfl)
theorem dX1_undo_24 : decode bcX1_undo 24 = .ok (.dup_x1, 1) := dk_90 (dk_at dksX1_undo_1 0 rfl rfl)
theorem dX1_undo_25 : decode bcX1_undo 25 = .ok (.putfield 127, 3) := dk_181 0 127 (dk_at dksX1_undo_1 1 rfl rfl)
theorem dX1_undo_28 : decode bcX1_undo 28 = .ok (.aaload, 1) := dk_50 (dk_at dksX1_undo_1 4 rfl rfl)
theorem dX1_undo_29 : decode bcX1_undo 29 = .ok (.invokevirtual 253, 3) := dk_182 0 253 (dk_at dksX1_undo_1 5 rfl rfl)
theorem dX1_undo_32 : decode bcX1_undo 32 = .ok (.iconst 1, 1) := dk_4 (dk_at dksX1_undo_1 8 rfl rfl)
theorem dX1_undo_33 : decode bcX1_undo 33 = .ok (.ireturn, 1) := dk_172 (dk_at dksX1_undo_1 9 rfl rfl)
abbrev SX1_undo (pc : Nat) (i : xI) : Prop := Snd "SwollenHouse" "undo" prog_1_method_35_code 1 (Option.some Jvm.ClassFile.FieldType.boolean) [] pc i
theorem oX1_undo_0 : SX1_undo 0 (i_aload 0 1) := snd_aload_n dX1_undo_0 rfl
theorem oX1_undo_1 : SX1_undo 1 (i_getf 0 9 4) := snd_getf dX1_undo_1 rfl (by decide) in_X1 (Or.inl q355) (Or.inl rfl) (by decide)
theorem oX1_undo_4 : SX1_undo 4 (i_if1 (fun x => ¬ x = 0) 9 7) := snd_if_ne dX1_undo_4 (by decide)
theorem oX1_undo_7 : SX1_undo 7 (i_const (.int (nI 0)) 8) := snd_iconst dX1_undo_7 (by decide)
theorem oX1_undo_8 : SX1_undo 8 (i_zret) := snd_zret dX1_undo_8 rfl
theorem oX1_undo_9 : SX1_undo 9 (i_aload 0 10) := snd_aload_n dX1_undo_9 rfl
theorem oX1_undo_10 : SX1_undo 10 (i_getf 0 4 13) := snd_getf dX1_undo_10 rfl (by decide) in_X1 (Or.inl q350) (Or.inl rfl) (by decide)
theorem oX1_undo_13 : SX1_undo 13 (i_aload 0 14) := snd_aload_n dX1_undo_13 rfl
theorem oX1_undo_14 : SX1_undo 14 (i_getf 0 8 17) := snd_getf dX1_undo_14 rfl (by decide) in_X1 (Or.inl q354) (Or.inl rfl) (by decide)
theorem oX1_undo_17 : SX1_undo 17 (i_aload 0 18) := snd_aload_n dX1_undo_17 rfl
theorem oX1_undo_18 : SX1_undo 18 (i_dup 19) := snd_dup dX1_undo_18
theorem oX1_undo_19 : SX1_undo 19 (i_getf 0 9 22) := snd_getf dX1_undo_19 rfl (by decide) in_X1 (Or.inl q355) (Or.inl rfl) (by decide)
theorem oX1_undo_22 : SX1_undo 22 (i_const (.int (nI 1)) 23) := snd_iconst dX1_undo_22 (by decide)
theorem oX1_undo_23 : SX1_undo 23 (i_ii (fun x y => x - y) 24) := snd_isub dX1_undo_23
theorem oX1_undo_24 : SX1_undo 24 (i_dup_x1 25) := snd_dup_x1 dX1_undo_24
theorem oX1_undo_25 : SX1_undo 25 (i_putfi 0 9 28) := snd_putfi dX1_undo_25 rfl (by decide) in_X1 tyX1 tyX1_ok nmX1 (Or.inl ⟨rfl, q355⟩) (Or.inl rfl) rfl
theorem oX1_undo_28 : SX1_undo 28 (i_aq 5 29) := snd_aq dX1_undo_28 (fun _ => rfl) rfl
theorem oX1_undo_29 : SX1_undo 29 (i_cvv 3 239 1 32) := snd_cvv rfl infX4_be (by decide) rfl (xVm_V dX1_undo_29 rfl q1194 q1195 q1196 q133 q1197 pdX4_be)
theorem oX1_undo_32 : SX1_undo 32 (i_const (.int (nI 1)) 33) := snd_iconst dX1_undo_32 (by decide)
theorem oX1_undo_33 : SX1_undo 33 (i_zret) := snd_zret dX1_undo_33 rfl
theorem okX1_undo : ∀ q ∈ cX1_undo, SX1_undo q.1 q.2 := List.forall_mem_cons.mpr ⟨oX1_undo_0, List.forall_mem_cons.mpr ⟨oX1_undo_1, List.forall_mem_cons.mpr ⟨oX1_undo_4, List.forall_mem_cons.mpr ⟨oX1_undo_7, List.forall_mem_cons.mpr ⟨oX1_undo_8, List.forall_mem_cons.mpr ⟨oX1_undo_9, List.forall_mem_cons.mpr ⟨oX1_undo_10, List.forall_mem_cons.mpr ⟨oX1_undo_13, List.forall_mem_cons.mpr ⟨oX1_undo_14, List.forall_mem_cons.mpr ⟨oX1_undo_17, List.forall_mem_cons.mpr ⟨oX1_undo_18, List.forall_mem_cons.mpr ⟨oX1_undo_19, List.forall_mem_cons.mpr ⟨oX1_undo_22, List.forall_mem_cons.mpr ⟨oX1_undo_23, List.forall_mem_cons.mpr ⟨oX1_undo_24, List.forall_mem_cons.mpr ⟨oX1_undo_25, List.forall_mem_cons.mpr ⟨oX1_undo_28, List.forall_mem_cons.mpr ⟨oX1_undo_29, List.forall_mem_cons.mpr ⟨oX1_undo_32, List.forall_mem_cons.mpr ⟨oX1_undo_33, fun _ h => absurd h List.not_mem_nil⟩⟩⟩⟩⟩⟩⟩⟩⟩⟩⟩⟩⟩⟩⟩⟩⟩⟩⟩⟩
def dkwX1_judged_5 : List UInt8 := [182, 0, 222, 184, 1, 25, 172]
abbrev dktX1_judged_5 : List UInt8 := dkwX1_judged_5 ++ []
def dkwX1_judged_4 : List UInt8 := [27, 154, 0, 7, 28, 167, 0, 23, 27, 4, 160, 0, 7, 29, 167, 0, 14, 42, 42, 180, 0, 55]
abbrev dktX1_judged_4 : List UInt8 := dkwX1_judged_4 ++ dktX1_judged_5
def dkwX1_judged_3 : List UInt8 := [29, 156, 0, 17, 42, 42, 180, 0, 55, 182, 1, 22, 153, 0, 6, 21, 4, 62, 132, 4, 1, 167, 255, 193]
abbrev dktX1_judged_3 : List UInt8 := dkwX1_judged_3 ++ dktX1_judged_4
def dkwX1_judged_2 : List UInt8 := [182, 0, 144, 192, 1, 16, 42, 42, 180, 0, 55, 182, 1, 18, 154, 0, 10, 28, 156, 0, 6, 21, 4, 61]
abbrev dktX1_judged_2 : List UInt8 := dkwX1_judged_2 ++ dktX1_judged_3
def dkwX1_judged_1 : List UInt8 := [61, 2, 62, 3, 54, 4, 21, 4, 42, 180, 0, 44, 182, 0, 137, 162, 0, 57, 42, 180, 0, 44, 21, 4]
abbrev dktX1_judged_1 : List UInt8 := dkwX1_judged_1 ++ dktX1_judged_2
def dkwX1_judged_0 : List UInt8 := [27, 3, 5, 184, 0, 155, 154, 0, 6, 16, 254, 172, 42, 180, 0, 55, 42, 180, 0, 35, 182, 0, 99, 2]
abbrev dktX1_judged_0 : List UInt8 := dkwX1_judged_0 ++ dktX1_judged_1
theorem dksX1_judged_0 : bcX1_judged.data.toList.drop 0 = dktX1_judged_0 := by decide +kernel
theorem dksX1_judged_1 : bcX1_judged.data.toList.drop 24 = dktX1_judged_1 := dk_seg dksX1_judged_0 24 rfl rfl
theorem dksX1_judged_2 : bcX1_judged.data.toList.drop 48 = dktX1_judged_2 := dk_seg dksX1_judged_1 24 rfl rfl
theorem dksX1_judged_3 : bcX1_judged.data.toList.drop 72 = dktX1_judged_3 := dk_seg dksX1_judged_2 24 rfl rfl
theorem dksX1_judged_4 : bcX1_judged.data.toList.drop 96 = dktX1_judged_4 := dk_seg dksX1_judged_3 24 rfl rfl
theorem dksX1_judged_5 : bcX1_judged.data.toList.drop 118 = dktX1_judged_5 := dk_seg dksX1_judged_4 22 rfl rfl
theorem dX1_judged_0 : decode bcX1_judged 0 = .ok (.iload_n 1, 1) := dk_27 (dk_at dksX1_judged_0 0 rfl rfl)
theorem dX1_judged_1 : decode bcX1_judged 1 = .ok (.iconst 0, 1) := dk_3 (dk_at dksX1_judged_0 1 rfl rfl)
theorem dX1_judged_2 : decode bcX1_judged 2 = .ok (.iconst 2, 1) := dk_5 (dk_at dksX1_judged_0 2 rfl rfl)
theorem dX1_judged_3 : decode bcX1_judged 3 = .ok (.invokestatic 155, 3) := dk_184 0 155 (dk_at dksX1_judged_0 3 rfl rfl)
theorem dX1_judged_6 : decode bcX1_judged 6 = .ok (.ifCond .ne 6, 3) := dk_154 0 6 (dk_at dksX1_judged_0 6 rfl rfl)
theorem dX1_judged_9 : decode bcX1_judged 9 = .ok (.bipush (-2), 2) := dk_16 254 (dk_at dksX1_judged_0 9 rfl rfl)
theorem dX1_judged_11 : decode bcX1_judged 11 = .ok (.ireturn, 1) := dk_172 (dk_at dksX1_judged_0 11 rfl rfl)
theorem dX1_judged_12 : decode bcX1_judged 12 = .ok (.aload_n 0, 1) := dk_42 (dk_at dksX1_judged_0 12 rfl rfl)
theorem dX1_judged_13 : decode bcX1_judged 13 = .ok (.getfield 55, 3) := dk_180 0 55 (dk_at dksX1_judged_0 13 rfl rfl)
theorem dX1_judged_16 : decode bcX1_judged 16 = .ok (.aload_n 0, 1) := dk_42 (dk_at dksX1_judged_0 16 rfl rfl)
theorem dX1_judged_17 : decode bcX1_judged 17 = .ok (.getfield 35, 3) := dk_180 0 35 (dk_at dksX1_judged_0 17 rfl rfl)
theorem dX1_judged_20 : decode bcX1_judged 20 = .ok (.invokevirtual 99, 3) := dk_182 0 99 (dk_at dksX1_judged_0 20 rfl rfl)
theorem dX1_judged_23 : decode bcX1_judged 23 = .ok (.iconst (-1), 1) := dk_2 (dk_at dksX1_judged_0 23 rfl rfl)
theorem dX1_judged_24 : decode bcX1_judged 24 = .ok (.istore_n 2, 1) := dk_61 (dk_at dksX1_judged_1 0 rfl rfl)
theorem dX1_judged_25 : decode bcX1_judged 25 = .ok (.iconst (-1), 1) := dk_2 (dk_at dksX1_judged_1 1 rfl rfl)
theorem dX1_judged_26 : decode bcX1_judged 26 = .ok (.istore_n 3, 1) := dk_62 (dk_at dksX1_judged_1 2 rfl rfl)
theorem dX1_judged_27 : decode bcX1_judged 27 = .ok (.iconst 0, 1) := dk_3 (dk_at dksX1_judged_1 3 rfl rfl)
theorem dX1_judged_28 : decode bcX1_judged 28 = .ok (.istore 4, 2) := dk_54 4 (dk_at dksX1_judged_1 4 rfl rfl)
theorem dX1_judged_30 : decode bcX1_judged 30 = .ok (.iload 4, 2) := dk_21 4 (dk_at dksX1_judged_1 6 rfl rfl)
theorem dX1_judged_32 : decode bcX1_judged 32 = .ok (.aload_n 0, 1) := dk_42 (dk_at dksX1_judged_1 8 rfl rfl)
theorem dX1_judged_33 : decode bcX1_judged 33 = .ok (.getfield 44, 3) := dk_180 0 44 (dk_at dksX1_judged_1 9 rfl rfl)
theorem dX1_judged_36 : decode bcX1_judged 36 = .ok (.invokevirtual 137, 3) := dk_182 0 137 (dk_at dksX1_judged_1 12 rfl rfl)
theorem dX1_judged_39 : decode bcX1_judged 39 = .ok (.if_icmp .ge 57, 3) := dk_162 0 57 (dk_at dksX1_judged_1 15 rfl rfl)
theorem dX1_judged_42 : decode bcX1_judged 42 = .ok (.aload_n 0, 1) := dk_42 (dk_at dksX1_judged_1 18 rfl rfl)
theorem dX1_judged_43 : decode bcX1_judged 43 = .ok (.getfield 44, 3) := dk_180 0 44 (dk_at dksX1_judged_1 19 rfl rfl)
theorem dX1_judged_46 : decode bcX1_judged 46 = .ok (.iload 4, 2) := dk_21 4 (dk_at dksX1_judged_1 22 rfl rfl)
theorem dX1_judged_48 : decode bcX1_judged 48 = .ok (.invokevirtual 144, 3) := dk_182 0 144 (dk_at dksX1_judged_2 0 rfl rfl)
theorem dX1_judged_51 : decode bcX1_judged 51 = .ok (.checkcast 272, 3) := dk_192 1 16 (dk_at dksX1_judged_2 3 rfl rfl)
theorem dX1_judged_54 : decode bcX1_judged 54 = .ok (.aload_n 0, 1) := dk_42 (dk_at dksX1_judged_2 6 rfl rfl)
theorem dX1_judged_55 : decode bcX1_judged 55 = .ok (.aload_n 0, 1) := dk_42 (dk_at dksX1_judged_2 7 rfl rfl)
theorem dX1_judged_56 : decode bcX1_judged 56 = .ok (.getfield 55, 3) := dk_180 0 55 (dk_at dksX1_judged_2 8 rfl rfl)
theorem dX1_judged_59 : decode bcX1_judged 59 = .ok (.invokevirtual 274, 3) := dk_182 1 18 (dk_at dksX1_judged_2 11 rfl rfl)
theorem dX1_judged_62 : decode bcX1_judged 62 = .ok (.ifCond .ne 10, 3) := dk_154 0 10 (dk_at dksX1_judged_2 14 rfl rfl)
theorem dX1_judged_65 : decode bcX1_judged 65 = .ok (.iload_n 2, 1) := dk_28 (dk_at dksX1_judged_2 17 rfl rfl)
theorem dX1_judged_66 : decode bcX1_judged 66 = .ok (.ifCond .ge 6, 3) := dk_156 0 6 (dk_at dksX1_judged_2 18 rfl rfl)
theorem dX1_judged_69 : decode bcX1_judged 69 = .ok (.iload 4, 2) := dk_21 4 (dk_at dksX1_judged_2 21 rfl rfl)
theorem dX1_judged_71 : decode bcX1_judged 71 = .ok (.istore_n 2, 1) := dk_61 (dk_at dksX1_judged_2 23 rfl rfl)
theorem dX1_judged_72 : decode bcX1_judged 72 = .ok (.iload_n 3, 1) := dk_29 (dk_at dksX1_judged_3 0 rfl rfl)
theorem dX1_judged_73 : decode bcX1_judged 73 = .ok (.ifCond .ge 17, 3) := dk_156 0 17 (dk_at dksX1_judged_3 1 rfl rfl)
theorem dX1_judged_76 : decode bcX1_judged 76 = .ok (.aload_n 0, 1) := dk_42 (dk_at dksX1_judged_3 4 rfl rfl)
theorem dX1_judged_77 : decode bcX1_judged 77 = .ok (.aload_n 0, 1) := dk_42 (dk_at dksX1_judged_3 5 rfl rfl)
theorem dX1_judged_78 : decode bcX1_judged 78 = .ok (.getfield 55, 3) := dk_180 0 55 (dk_at dksX1_judged_3 6 rfl rfl)
theorem dX1_judged_81 : decode bcX1_judged 81 = .ok (.invokevirtual 278, 3) := dk_182 1 22 (dk_at dksX1_judged_3 9 rfl rfl)
theorem dX1_judged_84 : decode bcX1_judged 84 = .ok (.ifCond .eq 6, 3) := dk_153 0 6 (dk_at dksX1_judged_3 12 rfl rfl)
theorem dX1_judged_87 : decode bcX1_judged 87 = .ok (.iload 4, 2) := dk_21 4 (dk_at dksX1_judged_3 15 rfl rfl)
theorem dX1_judged_89 : decode bcX1_judged 89 = .ok (.istore_n 3, 1) := dk_62 (dk_at dksX1_judged_3 17 rfl rfl)
theorem dX1_judged_90 : decode bcX1_judged 90 = .ok (.iinc 4 1, 3) := dk_132 4 1 (dk_at dksX1_judged_3 18 rfl rfl)
theorem dX1_judged_93 : decode bcX1_judged 93 = .ok (.goto (-63), 3) := dk_167 255 193 (dk_at dksX1_judged_3 21 rfl rfl)
theorem dX1_judged_96 : decode bcX1_judged 96 = .ok (.iload_n 1, 1) := dk_27 (dk_at dksX1_judged_4 0 rfl rfl)
theorem dX1_judged_97 : decode bcX1_judged 97 = .ok (.ifCond .ne 7, 3) := dk_154 0 7 (dk_at dksX1_judged_4 1 rfl rfl)
theorem dX1_judged_100 : decode bcX1_judged 100 = .ok (.iload_n 2, 1) := dk_28 (dk_at dksX1_judged_4 4 rfl rfl)
theorem dX1_judged_101 : decode bcX1_judged 101 = .ok (.goto 23, 3) := dk_167 0 23 (dk_at dksX1_judged_4 5 rfl rfl)
theorem dX1_judged_104 : decode bcX1_judged 104 = .ok (.iload_n 1, 1) := dk_27 (dk_at dksX1_judged_4 8 rfl rfl)
theorem dX1_judged_105 : decode bcX1_judged 105 = .ok (.iconst 1, 1) := dk_4 (dk_at dksX1_judged_4 9 rfl rfl)
theorem dX1_judged_106 : decode bcX1_judged 106 = .ok (.if_icmp .ne 7, 3) := dk_160 0 7 (dk_at dksX1_judged_4 10 rfl rfl)
theorem dX1_judged_109 : decode bcX1_judged 109 = .ok (.iload_n 3, 1) := dk_29 (dk_at dksX1_judged_4 13 rfl rfl)
theorem dX1_judged_110 : decode bcX1_judged 110 = .ok (.goto 14, 3) := dk_167 0 14 (dk_at dksX1_judged_4 14 rfl rfl)
theorem dX1_judged_113 : decode bcX1_judged 113 = .ok (.aload_n 0, 1) := dk_42 (dk_at dksX1_judged_4 17 rfl rfl)
theorem dX1_judged_114 : decode bcX1_judged 114 = .ok (.aload_n 0, 1) := dk_42 (dk_at dksX1_judged_4 18 rfl rfl)
theorem dX1_judged_115 : decode bcX1_judged 115 = .ok (.getfield 55, 3) := dk_180 0 55 (dk_at dksX1_judged_4 19 rfl rfl)
theorem dX1_judged_118 : decode bcX1_judged 118 = .ok (.invokevirtual 222, 3) := dk_182 0 222 (dk_at dksX1_judged_5 0 rfl rfl)
theorem dX1_judged_121 : decode bcX1_judged 121 = .ok (.invokestatic 281, 3) := dk_184 1 25 (dk_at dksX1_judged_5 3 rfl rfl)
theorem dX1_judged_124 : decode bcX1_judged 124 = .ok (.ireturn, 1) := dk_172 (dk_at dksX1_judged_5 6 rfl rfl)
abbrev SX1_judged (pc : Nat) (i : xI) : Prop := Snd "SwollenHouse" "judged" prog_1_method_36_code 5 (Option.some Jvm.ClassFile.FieldType.int) [] pc i
theorem oX1_judged_0 : SX1_judged 0 (i_iload 1 1) := snd_iload_n dX1_judged_0 rfl
theorem oX1_judged_1 : SX1_judged 1 (i_const (.int (nI 0)) 2) := snd_iconst dX1_judged_1 (by decide)
theorem oX1_judged_2 : SX1_judged 2 (i_const (.int (nI 2)) 3) := snd_iconst dX1_judged_2 (by decide)
theorem oX1_judged_3 : SX1_judged 3 (i_cs 92 3 6) := snd_cs rfl infX1_in (by decide) (xSm_S dX1_judged_3 q1145 q982 q127 q983 pdX1_in)
theorem oX1_judged_6 : SX1_judged 6 (i_if1 (fun x => ¬ x = 0) 12 9) := snd_if_ne dX1_judged_6 (by decide)
theorem oX1_judged_9 : SX1_judged 9 (i_const (.int (-2)) 11) := snd_bipush dX1_judged_9 (by decide)
theorem oX1_judged_11 : SX1_judged 11 (i_iret) := snd_iret dX1_judged_11 rfl
theorem oX1_judged_12 : SX1_judged 12 (i_aload 0 13) := snd_aload_n dX1_judged_12 rfl
theorem oX1_judged_13 : SX1_judged 13 (i_getf 0 5 16) := snd_getf dX1_judged_13 rfl (by decide) in_X1 (Or.inl q351) (Or.inl rfl) (by decide)
theorem oX1_judged_16 : SX1_judged 16 (i_aload 0 17) := snd_aload_n dX1_judged_16 rfl
theorem oX1_judged_17 : SX1_judged 17 (i_getf 0 2 20) := snd_getf dX1_judged_17 rfl (by decide) in_X1 (Or.inl q348) (Or.inl rfl) (by decide)
theorem oX1_judged_20 : SX1_judged 20 (i_cvv 3 237 1 23) := snd_cvv rfl infX4_begin (by decide) rfl (xVm_V dX1_judged_20 rfl q319 q320 q321 q133 q322 pdX4_begin)
theorem oX1_judged_23 : SX1_judged 23 (i_const (.int (-1)) 24) := snd_iconst dX1_judged_23 (by decide)
theorem oX1_judged_24 : SX1_judged 24 (i_istore 2 25) := snd_istore_n dX1_judged_24 rfl (by decide)
theorem oX1_judged_25 : SX1_judged 25 (i_const (.int (-1)) 26) := snd_iconst dX1_judged_25 (by decide)
theorem oX1_judged_26 : SX1_judged 26 (i_istore 3 27) := snd_istore_n dX1_judged_26 rfl (by decide)
theorem oX1_judged_27 : SX1_judged 27 (i_const (.int (nI 0)) 28) := snd_iconst dX1_judged_27 (by decide)
theorem oX1_judged_28 : SX1_judged 28 (i_istore 4 30) := snd_istore dX1_judged_28 (by decide)
theorem oX1_judged_30 : SX1_judged 30 (i_iload 4 32) := snd_iload dX1_judged_30
theorem oX1_judged_32 : SX1_judged 32 (i_aload 0 33) := snd_aload_n dX1_judged_32 rfl
theorem oX1_judged_33 : SX1_judged 33 (i_getf 0 3 36) := snd_getf dX1_judged_33 rfl (by decide) in_X1 (Or.inl q349) (Or.inl rfl) (by decide)
theorem oX1_judged_36 : SX1_judged 36 (i_cv 21 32 0 39) := snd_cv rfl infJ2_size (by decide) rfl (xVm_V dX1_judged_36 rfl q1144 q324 q325 q132 q326 pdJ2_size)
theorem oX1_judged_39 : SX1_judged 39 (i_if2 (fun x y => y ≤ x) 96 42) := snd_icmp_ge dX1_judged_39 (by decide)
theorem oX1_judged_42 : SX1_judged 42 (i_aload 0 43) := snd_aload_n dX1_judged_42 rfl
theorem oX1_judged_43 : SX1_judged 43 (i_getf 0 3 46) := snd_getf dX1_judged_43 rfl (by decide) in_X1 (Or.inl q349) (Or.inl rfl) (by decide)
theorem oX1_judged_46 : SX1_judged 46 (i_iload 4 48) := snd_iload dX1_judged_46
theorem oX1_judged_48 : SX1_judged 48 (i_cv 21 33 1 51) := snd_cv rfl infJ2_get (by decide) rfl (xVm_V dX1_judged_48 rfl q1150 q328 q329 q132 q330 pdJ2_get)
theorem oX1_judged_51 : SX1_judged 51 (i_cast [15, 16, 17, 18, 19] 54) := snd_cast dX1_judged_51 q1331 okct_X18
theorem oX1_judged_54 : SX1_judged 54 (i_aload 0 55) := snd_aload_n dX1_judged_54 rfl
theorem oX1_judged_55 : SX1_judged 55 (i_aload 0 56) := snd_aload_n dX1_judged_55 rfl
theorem oX1_judged_56 : SX1_judged 56 (i_getf 0 5 59) := snd_getf dX1_judged_56 rfl (by decide) in_X1 (Or.inl q351) (Or.inl rfl) (by decide)
theorem oX1_judged_59 : SX1_judged 59 (i_ca [(15, 192), (16, 224), (17, 226), (18, 228), (19, 230)] 2 62) := snd_ca rfl (lk_cons ⟨_, _, _, _, _, _, infX19_isDone, by decide, rfl, xVm_A dX1_judged_59 q1332 q1334 q1340 q1341 q163 q1342 q1333 pdx5⟩ (lk_cons ⟨_, _, _, _, _, _, infX20_isDone, by decide, rfl, xVm_A dX1_judged_59 q1332 q1334 q1350 q1351 q164 q1352 q1333 pdx5⟩ (lk_cons ⟨_, _, _, _, _, _, infX21_isDone, by decide, rfl, xVm_A dX1_judged_59 q1332 q1334 q1345 q1346 q165 q1347 q1333 pdx5⟩ (lk_cons ⟨_, _, _, _, _, _, infX22_isDone, by decide, rfl, xVm_A dX1_judged_59 q1332 q1334 q1354 q1355 q166 q1356 q1333 pdx5⟩ (lk_cons ⟨_, _, _, _, _, _, infX23_isDone, by decide, rfl, xVm_A dX1_judged_59 q1332 q1334 q1335 q1336 q167 q1337 q1333 pdx5⟩ (lk_nil))))))
theorem oX1_judged_62 : SX1_judged 62 (i_if1 (fun x => ¬ x = 0) 72 65) := snd_if_ne dX1_judged_62 (by decide)
theorem oX1_judged_65 : SX1_judged 65 (i_iload 2 66) := snd_iload_n dX1_judged_65 rfl
theorem oX1_judged_66 : SX1_judged 66 (i_if1 (fun x => 0 ≤ x) 72 69) := snd_if_ge dX1_judged_66 (by decide)
theorem oX1_judged_69 : SX1_judged 69 (i_iload 4 71) := snd_iload dX1_judged_69
theorem oX1_judged_71 : SX1_judged 71 (i_istore 2 72) := snd_istore_n dX1_judged_71 rfl (by decide)
theorem oX1_judged_72 : SX1_judged 72 (i_iload 3 73) := snd_iload_n dX1_judged_72 rfl
theorem oX1_judged_73 : SX1_judged 73 (i_if1 (fun x => 0 ≤ x) 90 76) := snd_if_ge dX1_judged_73 (by decide)
theorem oX1_judged_76 : SX1_judged 76 (i_aload 0 77) := snd_aload_n dX1_judged_76 rfl
theorem oX1_judged_77 : SX1_judged 77 (i_aload 0 78) := snd_aload_n dX1_judged_77 rfl
theorem oX1_judged_78 : SX1_judged 78 (i_getf 0 5 81) := snd_getf dX1_judged_78 rfl (by decide) in_X1 (Or.inl q351) (Or.inl rfl) (by decide)
theorem oX1_judged_81 : SX1_judged 81 (i_cv 0 116 1 84) := snd_cv rfl infX1_shut (by decide) rfl (xVm_V dX1_judged_81 rfl q1359 q1361 qs40 q127 q1362 pdX1_shut)
theorem oX1_judged_84 : SX1_judged 84 (i_if1 (fun x => x = 0) 90 87) := snd_if_eq dX1_judged_84 (by decide)
theorem oX1_judged_87 : SX1_judged 87 (i_iload 4 89) := snd_iload dX1_judged_87
theorem oX1_judged_89 : SX1_judged 89 (i_istore 3 90) := snd_istore_n dX1_judged_89 rfl (by decide)
theorem oX1_judged_90 : SX1_judged 90 (i_iinc 4 (nI 1) 93) := snd_iinc dX1_judged_90 (by decide) (by decide)
theorem oX1_judged_93 : SX1_judged 93 (i_goto 30) := snd_goto dX1_judged_93 (by decide)
theorem oX1_judged_96 : SX1_judged 96 (i_iload 1 97) := snd_iload_n dX1_judged_96 rfl
theorem oX1_judged_97 : SX1_judged 97 (i_if1 (fun x => ¬ x = 0) 104 100) := snd_if_ne dX1_judged_97 (by decide)
theorem oX1_judged_100 : SX1_judged 100 (i_iload 2 101) := snd_iload_n dX1_judged_100 rfl
theorem oX1_judged_101 : SX1_judged 101 (i_goto 124) := snd_goto dX1_judged_101 (by decide)
theorem oX1_judged_104 : SX1_judged 104 (i_iload 1 105) := snd_iload_n dX1_judged_104 rfl
theorem oX1_judged_105 : SX1_judged 105 (i_const (.int (nI 1)) 106) := snd_iconst dX1_judged_105 (by decide)
theorem oX1_judged_106 : SX1_judged 106 (i_if2 (fun x y => ¬ x = y) 113 109) := snd_icmp_ne dX1_judged_106 (by decide)
theorem oX1_judged_109 : SX1_judged 109 (i_iload 3 110) := snd_iload_n dX1_judged_109 rfl
theorem oX1_judged_110 : SX1_judged 110 (i_goto 124) := snd_goto dX1_judged_110 (by decide)
theorem oX1_judged_113 : SX1_judged 113 (i_aload 0 114) := snd_aload_n dX1_judged_113 rfl
theorem oX1_judged_114 : SX1_judged 114 (i_aload 0 115) := snd_aload_n dX1_judged_114 rfl
theorem oX1_judged_115 : SX1_judged 115 (i_getf 0 5 118) := snd_getf dX1_judged_115 rfl (by decide) in_X1 (Or.inl q351) (Or.inl rfl) (by decide)
theorem oX1_judged_118 : SX1_judged 118 (i_cv 0 108 1 121) := snd_cv rfl infX1_sticking (by decide) rfl (xVm_V dX1_judged_118 rfl q1281 q1283 qs38 q127 q1284 pdX1_sticking)
theorem oX1_judged_121 : SX1_judged 121 (i_cs 28 1 124) := snd_cs rfl infJ17_bitCount (by decide) (xSm_S dX1_judged_121 q1363 q1364 q168 q1365 pdJ17_bitCount)
theorem oX1_judged_124 : SX1_judged 124 (i_iret) := snd_iret dX1_judged_124 rfl
theorem okX1_judged : ∀ q ∈ cX1_judged, SX1_judged q.1 q.2 := List.forall_mem_cons.mpr ⟨oX1_judged_0, List.forall_mem_cons.mpr ⟨oX1_judged_1, List.forall_mem_cons.mpr ⟨oX1_judged_2, List.forall_mem_cons.mpr ⟨oX1_judged_3, List.forall_mem_cons.mpr ⟨oX1_judged_6, List.forall_mem_cons.mpr ⟨oX1_judged_9, List.forall_mem_cons.mpr ⟨oX1_judged_11, List.forall_mem_cons.mpr ⟨oX1_judged_12, List.forall_mem_cons.mpr ⟨oX1_judged_13, List.forall_mem_cons.mpr ⟨oX1_judged_16, List.forall_mem_cons.mpr ⟨oX1_judged_17, List.forall_mem_cons.mpr ⟨oX1_judged_20, List.forall_mem_cons.mpr ⟨oX1_judged_23, List.forall_mem_cons.mpr ⟨oX1_judged_24, List.forall_mem_cons.mpr ⟨oX1_judged_25, List.forall_mem_cons.mpr ⟨oX1_judged_26, List.forall_mem_cons.mpr ⟨oX1_judged_27, List.forall_mem_cons.mpr ⟨oX1_judged_28, List.forall_mem_cons.mpr ⟨oX1_judged_30, List.forall_mem_cons.mpr ⟨oX1_judged_32, List.forall_mem_cons.mpr ⟨oX1_judged_33, List.forall_mem_cons.mpr ⟨oX1_judged_36, List.forall_mem_cons.mpr ⟨oX1_judged_39, List.forall_mem_cons.mpr ⟨oX1_judged_42, List.forall_mem_cons.mpr ⟨oX1_judged_43, List.forall_mem_cons.mpr ⟨oX1_judged_46, List.forall_mem_cons.mpr ⟨oX1_judged_48, List.forall_mem_cons.mpr ⟨oX1_judged_51, List.forall_mem_cons.mpr ⟨oX1_judged_54, List.forall_mem_cons.mpr ⟨oX1_judged_55, List.forall_mem_cons.mpr ⟨oX1_judged_56, List.forall_mem_cons.mpr ⟨oX1_judged_59, List.forall_mem_cons.mpr ⟨oX1_judged_62, List.forall_mem_cons.mpr ⟨oX1_judged_65, List.forall_mem_cons.mpr ⟨oX1_judged_66, List.forall_mem_cons.mpr ⟨oX1_judged_69, List.forall_mem_cons.mpr ⟨oX1_judged_71, List.forall_mem_cons.mpr ⟨oX1_judged_72, List.forall_mem_cons.mpr ⟨oX1_judged_73, List.forall_mem_cons.mpr ⟨oX1_judged_76, List.forall_mem_cons.mpr ⟨oX1_judged_77, List.forall_mem_cons.mpr ⟨oX1_judged_78, List.forall_mem_cons.mpr ⟨oX1_judged_81, List.forall_mem_cons.mpr ⟨oX1_judged_84, List.forall_mem_cons.mpr ⟨oX1_judged_87, List.forall_mem_cons.mpr ⟨oX1_judged_89, List.forall_mem_cons.mpr ⟨oX1_judged_90, List.forall_mem_cons.mpr ⟨oX1_judged_93, List.forall_mem_cons.mpr ⟨oX1_judged_96, List.forall_mem_cons.mpr ⟨oX1_judged_97, List.forall_mem_cons.mpr ⟨oX1_judged_100, List.forall_mem_cons.mpr ⟨oX1_judged_101, List.forall_mem_cons.mpr ⟨oX1_judged_104, List.forall_mem_cons.mpr ⟨oX1_judged_105, List.forall_mem_cons.mpr ⟨oX1_judged_106, List.forall_mem_cons.mpr ⟨oX1_judged_109, List.forall_mem_cons.mpr ⟨oX1_judged_110, List.forall_mem_cons.mpr ⟨oX1_judged_113, List.forall_mem_cons.mpr ⟨oX1_judged_114, List.forall_mem_cons.mpr ⟨oX1_judged_115, List.forall_mem_cons.mpr ⟨oX1_judged_118, List.forall_mem_cons.mpr ⟨oX1_judged_121, List.forall_mem_cons.mpr ⟨oX1_judged_124, fun _ h => absurd h List.not_mem_nil⟩⟩⟩⟩⟩⟩⟩⟩⟩⟩⟩⟩⟩⟩⟩⟩⟩⟩⟩⟩⟩⟩⟩⟩⟩⟩⟩⟩⟩⟩⟩⟩⟩⟩⟩⟩⟩⟩⟩⟩⟩⟩⟩⟩⟩⟩⟩⟩⟩⟩⟩⟩⟩⟩⟩⟩⟩⟩⟩⟩⟩⟩⟩
def dkwX1_shut_3 : List UInt8 := [2, 130, 126, 154, 0, 9, 28, 4, 29, 120, 128, 61, 132, 3, 1, 167, 255, 173, 28, 172]
abbrev dktX1_shut_3 : List UInt8 := dkwX1_shut_3 ++ []
def dkwX1_shut_2 : List UInt8 := [21, 5, 120, 128, 54, 4, 132, 5, 1, 167, 255, 217, 21, 4, 153, 0, 22, 21, 4, 42, 43, 182, 0, 222]
abbrev dktX1_shut_2 : List UInt8 := dkwX1_shut_2 ++ dktX1_shut_3
def dkwX1_shut_1 : List UInt8 := [162, 0, 36, 42, 21, 5, 182, 0, 163, 43, 180, 0, 229, 29, 46, 182, 0, 232, 153, 0, 12, 21, 4, 4]
abbrev dktX1_shut_1 : List UInt8 := dkwX1_shut_1 ++ dktX1_shut_2
def dkwX1_shut_0 : List UInt8 := [3, 61, 3, 62, 29, 42, 182, 0, 161, 162, 0, 81, 3, 54, 4, 3, 54, 5, 21, 5, 42, 182, 0, 159]
abbrev dktX1_shut_0 : List UInt8 := dkwX1_shut_0 ++ dktX1_shut_1
theorem dksX1_shut_0 : bcX1_shut.data.toList.drop 0 = dktX1_shut_0 := by decide +kernel
theorem dksX1_shut_1 : bcX1_shut.data.toList.drop 24 = dktX1_shut_1 := dk_seg dksX1_shut_0 24 rfl rfl
theorem dksX1_shut_2 : bcX1_shut.data.toList.drop 48 = dktX1_shut_2 := dk_seg dksX1_shut_1 24 rfl rfl
theorem dksX1_shut_3 : bcX1_shut.data.toList.drop 72 = dktX1_shut_3 := dk_seg dksX1_shut_2 24 rfl rfl
theorem dX1_shut_0 : decode bcX1_shut 0 = .ok (.iconst 0, 1) := dk_3 (dk_at dksX1_shut_0 0 rfl rfl)
theorem dX1_shut_1 : decode bcX1_shut 1 = .ok (.istore_n 2, 1) := dk_61 (dk_at dksX1_shut_0 1 rfl rfl)
theorem dX1_shut_2 : decode bcX1_shut 2 = .ok (.iconst 0, 1) := dk_3 (dk_at dksX1_shut_0 2 rfl rfl)
theorem dX1_shut_3 : decode bcX1_shut 3 = .ok (.istore_n 3, 1) := dk_62 (dk_at dksX1_shut_0 3 rfl rfl)
theorem dX1_shut_4 : decode bcX1_shut 4 = .ok (.iload_n 3, 1) := dk_29 (dk_at dksX1_shut_0 4 rfl rfl)
theorem dX1_shut_5 : decode bcX1_shut 5 = .ok (.aload_n 0, 1) := dk_42 (dk_at dksX1_shut_0 5 rfl rfl)
theorem dX1_shut_6 : decode bcX1_shut 6 = .ok (.invokevirtual 161, 3) := dk_182 0 161 (dk_at dksX1_shut_0 6 rfl rfl)
theorem dX1_shut_9 : decode bcX1_shut 9 = .ok (.if_icmp .ge 81, 3) := dk_162 0 81 (dk_at dksX1_shut_0 9 rfl rfl)
theorem dX1_shut_12 : decode bcX1_shut 12 = .ok (.iconst 0, 1) := dk_3 (dk_at dksX1_shut_0 12 rfl rfl)
theorem dX1_shut_13 : decode bcX1_shut 13 = .ok (.istore 4, 2) := dk_54 4 (dk_at dksX1_shut_0 13 rfl rfl)
theorem dX1_shut_15 : decode bcX1_shut 15 = .ok (.iconst 0, 1) := dk_3 (dk_at dksX1_shut_0 15 rfl rfl)
theorem dX1_shut_16 : decode bcX1_shut 16 = .ok (.istore 5, 2) := dk_54 5 (dk_at dksX1_shut_0 16 rfl rfl)
theorem dX1_shut_18 : decode bcX1_shut 18 = .ok (.iload 5, 2) := dk_21 5 (dk_at dksX1_shut_0 18 rfl rfl)
theorem dX1_shut_20 : decode bcX1_shut 20 = .ok (.aload_n 0, 1) := dk_42 (dk_at dksX1_shut_0 20 rfl rfl)
theorem dX1_shut_21 : decode bcX1_shut 21 = .ok (.invokevirtual 159, 3) := dk_182 0 159 (dk_at dksX1_shut_0 21 rfl rfl)
theorem dX1_shut_24 : decode bcX1_shut 24 = .ok (.if_icmp .ge 36, 3) := dk_162 0 36 (dk_at dksX1_shut_1 0 rfl rfl)
theorem dX1_shut_27 : decode bcX1_shut 27 = .ok (.aload_n 0, 1) := dk_42 (dk_at dksX1_shut_1 3 rfl rfl)
theorem dX1_shut_28 : decode bcX1_shut 28 = .ok (.iload 5, 2) := dk_21 5 (dk_at dksX1_shut_1 4 rfl rfl)
theorem dX1_shut_30 : decode bcX1_shut 30 = .ok (.invokevirtual 163, 3) := dk_182 0 163 (dk_at dksX1_shut_1 6 rfl rfl)
theorem dX1_shut_33 : decode bcX1_shut 33 = .ok (.aload_n 1, 1) := dk_43 (dk_at dksX1_shut_1 9 rfl rfl)
theorem dX1_shut_34 : decode bcX1_shut 34 = .ok (.getfield 229, 3) := dk_180 0 229 (dk_at dksX1_shut_1 10 rfl rfl)
theorem dX1_shut_37 : decode bcX1_shut 37 = .ok (.iload_n 3, 1) := dk_29 (dk_at dksX1_shut_1 13 rfl rfl)
theorem dX1_shut_38 : decode bcX1_shut 38 = .ok (.iaload, 1) := dk_46 (dk_at dksX1_shut_1 14 rfl rfl)
theorem dX1_shut_39 : decode bcX1_shut 39 = .ok (.invokevirtual 232, 3) := dk_182 0 232 (dk_at dksX1_shut_1 15 rfl rfl)
theorem dX1_shut_42 : decode bcX1_shut 42 = .ok (.ifCond .eq 12, 3) := dk_153 0 12 (dk_at dksX1_shut_1 18 rfl rfl)
theorem dX1_shut_45 : decode bcX1_shut 45 = .ok (.iload 4, 2) := dk_21 4 (dk_at dksX1_shut_1 21 rfl rfl)
theorem dX1_shut_47 : decode bcX1_shut 47 = .ok (.iconst 1, 1) := dk_4 (dk_at dksX1_shut_1 23 rfl rfl)
theorem dX1_shut_48 : decode bcX1_shut 48 = .ok (.iload 5, 2) := dk_21 5 (dk_at dksX1_shut_2 0 rfl rfl)
theorem dX1_shut_50 : decode bcX1_shut 50 = .ok (.ishl, 1) := dk_120 (dk_at dksX1_shut_2 2 rfl rfl)
theorem dX1_shut_51 : decode bcX1_shut 51 = .ok (.ior, 1) := dk_128 (dk_at dksX1_shut_2 3 rfl rfl)
theorem dX1_shut_52 : decode bcX1_shut 52 = .ok (.istore 4, 2) := dk_54 4 (dk_at dksX1_shut_2 4 rfl rfl)
theorem dX1_shut_54 : decode bcX1_shut 54 = .ok (.iinc 5 1, 3) := dk_132 5 1 (dk_at dksX1_shut_2 6 rfl rfl)
theorem dX1_shut_57 : decode bcX1_shut 57 = .ok (.goto (-39), 3) := dk_167 255 217 (dk_at dksX1_shut_2 9 rfl rfl)
theorem dX1_shut_60 : decode bcX1_shut 60 = .ok (.iload 4, 2) := dk_21 4 (dk_at dksX1_shut_2 12 rfl rfl)
theorem dX1_shut_62 : decode bcX1_shut 62 = .ok (.ifCond .eq 22, 3) := dk_153 0 22 (dk_at dksX1_shut_2 14 rfl rfl)
theorem dX1_shut_65 : decode bcX1_shut 65 = .ok (.iload 4, 2) := dk_21 4 (dk_at dksX1_shut_2 17 rfl rfl)
theorem dX1_shut_67 : decode bcX1_shut 67 = .ok (.aload_n 0, 1) := dk_42 (dk_at dksX1_shut_2 19 rfl rfl)
theorem dX1_shut_68 : decode bcX1_shut 68 = .ok (.aload_n 1, 1) := dk_43 (dk_at dksX1_shut_2 20 rfl rfl)
theorem dX1_shut_69 : decode bcX1_shut 69 = .ok (.invokevirtual 222, 3) := dk_182 0 222 (dk_at dksX1_shut_2 21 rfl rfl)
theorem dX1_shut_72 : decode bcX1_shut 72 = .ok (.iconst (-1), 1) := dk_2 (dk_at dksX1_shut_3 0 rfl rfl)
theorem dX1_shut_73 : decode bcX1_shut 73 = .ok (.ixor, 1) := dk_130 (dk_at dksX1_shut_3 1 rfl rfl)
theorem dX1_shut_74 : decode bcX1_shut 74 = .ok (.iand, 1) := dk_126 (dk_at dksX1_shut_3 2 rfl rfl)
theorem dX1_shut_75 : decode bcX1_shut 75 = .ok (.ifCond .ne 9, 3) := dk_154 0 9 (dk_at dksX1_shut_3 3 rfl rfl)
theorem dX1_shut_78 : decode bcX1_shut 78 = .ok (.iload_n 2, 1) := dk_28 (dk_at dksX1_shut_3 6 rfl rfl)
theorem dX1_shut_79 : decode bcX1_shut 79 = .ok (.iconst 1, 1) := dk_4 (dk_at dksX1_shut_3 7 rfl rfl)
theorem dX1_shut_80 : decode bcX1_shut 80 = .ok (.iload_n 3, 1) := dk_29 (dk_at dksX1_shut_3 8 rfl rfl)
theorem dX1_shut_81 : decode bcX1_shut 81 = .ok (.ishl, 1) := dk_120 (dk_at dksX1_shut_3 9 rfl rfl)
theorem dX1_shut_82 : decode bcX1_shut 82 = .ok (.ior, 1) := dk_128 (dk_at dksX1_shut_3 10 rfl rfl)
theorem dX1_shut_83 : decode bcX1_shut 83 = .ok (.istore_n 2, 1) := dk_61 (dk_at dksX1_shut_3 11 rfl rfl)
theorem dX1_shut_84 : decode bcX1_shut 84 = .ok (.iinc 3 1, 3) := dk_132 3 1 (dk_at dksX1_shut_3 12 rfl rfl)
theorem dX1_shut_87 : decode bcX1_shut 87 = .ok (.goto (-83), 3) := dk_167 255 173 (dk_at dksX1_shut_3 15 rfl rfl)
theorem dX1_shut_90 : decode bcX1_shut 90 = .ok (.iload_n 2, 1) := dk_28 (dk_at dksX1_shut_3 18 rfl rfl)
theorem dX1_shut_91 : decode bcX1_shut 91 = .ok (.ireturn, 1) := dk_172 (dk_at dksX1_shut_3 19 rfl rfl)
abbrev SX1_shut (pc : Nat) (i : xI) : Prop := Snd "SwollenHouse" "shut" prog_1_method_26_code 6 (Option.some Jvm.ClassFile.FieldType.int) [] pc i
theorem oX1_shut_0 : SX1_shut 0 (i_const (.int (nI 0)) 1) := snd_iconst dX1_shut_0 (by decide)
theorem oX1_shut_1 : SX1_shut 1 (i_istore 2 2) := snd_istore_n dX1_shut_1 rfl (by decide)
theorem oX1_shut_2 : SX1_shut 2 (i_const (.int (nI 0)) 3) := snd_iconst dX1_shut_2 (by decide)
theorem oX1_shut_3 : SX1_shut 3 (i_istore 3 4) := snd_istore_n dX1_shut_3 rfl (by decide)
theorem oX1_shut_4 : SX1_shut 4 (i_iload 3 5) := snd_iload_n dX1_shut_4 rfl
theorem oX1_shut_5 : SX1_shut 5 (i_aload 0 6) := snd_aload_n dX1_shut_5 rfl
theorem oX1_shut_6 : SX1_shut 6 (i_cv 0 101 0 9) := snd_cv rfl infX1_people (by decide) rfl (xVm_V dX1_shut_6 rfl q1182 q1184 qs33 q127 q1185 pdX1_people)
theorem oX1_shut_9 : SX1_shut 9 (i_if2 (fun x y => y ≤ x) 90 12) := snd_icmp_ge dX1_shut_9 (by decide)
theorem oX1_shut_12 : SX1_shut 12 (i_const (.int (nI 0)) 13) := snd_iconst dX1_shut_12 (by decide)
theorem oX1_shut_13 : SX1_shut 13 (i_istore 4 15) := snd_istore dX1_shut_13 (by decide)
theorem oX1_shut_15 : SX1_shut 15 (i_const (.int (nI 0)) 16) := snd_iconst dX1_shut_15 (by decide)
theorem oX1_shut_16 : SX1_shut 16 (i_istore 5 18) := snd_istore dX1_shut_16 (by decide)
theorem oX1_shut_18 : SX1_shut 18 (i_iload 5 20) := snd_iload dX1_shut_18
theorem oX1_shut_20 : SX1_shut 20 (i_aload 0 21) := snd_aload_n dX1_shut_20 rfl
theorem oX1_shut_21 : SX1_shut 21 (i_cv 0 96 0 24) := snd_cv rfl infX1_doors (by decide) rfl (xVm_V dX1_shut_21 rfl q1140 q1142 qs30 q127 q1143 pdX1_doors)
theorem oX1_shut_24 : SX1_shut 24 (i_if2 (fun x y => y ≤ x) 60 27) := snd_icmp_ge dX1_shut_24 (by decide)
theorem oX1_shut_27 : SX1_shut 27 (i_aload 0 28) := snd_aload_n dX1_shut_27 rfl
theorem oX1_shut_28 : SX1_shut 28 (i_iload 5 30) := snd_iload dX1_shut_28
theorem oX1_shut_30 : SX1_shut 30 (i_cv 0 97 1 33) := snd_cv rfl infX1_door_2 (by decide) rfl (xVm_V dX1_shut_30 rfl q1146 q1148 qs31 q127 q1149 pdX1_door_2)
theorem oX1_shut_33 : SX1_shut 33 (i_aload 1 34) := snd_aload_n dX1_shut_33 rfl
theorem oX1_shut_34 : SX1_shut 34 (i_getf 3 2 37) := snd_getf dX1_shut_34 rfl (by decide) in_X4 (Or.inr ⟨_, q296⟩) (Or.inl rfl) (by decide)
theorem oX1_shut_37 : SX1_shut 37 (i_iload 3 38) := snd_iload_n dX1_shut_37 rfl
theorem oX1_shut_38 : SX1_shut 38 (i_ai 0 39) := snd_ai0 dX1_shut_38
theorem oX1_shut_39 : SX1_shut 39 (i_cv 6 367 1 42) := snd_cv rfl infX7_isOf (by decide) rfl (xVm_V dX1_shut_39 rfl q1289 q901 q902 q151 q903 pdX7_isOf)
theorem oX1_shut_42 : SX1_shut 42 (i_if1 (fun x => x = 0) 54 45) := snd_if_eq dX1_shut_42 (by decide)
theorem oX1_shut_45 : SX1_shut 45 (i_iload 4 47) := snd_iload dX1_shut_45
theorem oX1_shut_47 : SX1_shut 47 (i_const (.int (nI 1)) 48) := snd_iconst dX1_shut_47 (by decide)
theorem oX1_shut_48 : SX1_shut 48 (i_iload 5 50) := snd_iload dX1_shut_48
theorem oX1_shut_50 : SX1_shut 50 (i_ii (fun x y => x <<< (y &&& 31)) 51) := snd_ishl dX1_shut_50
theorem oX1_shut_51 : SX1_shut 51 (i_ii (fun x y => x ||| y) 52) := snd_ior dX1_shut_51
theorem oX1_shut_52 : SX1_shut 52 (i_istore 4 54) := snd_istore dX1_shut_52 (by decide)
theorem oX1_shut_54 : SX1_shut 54 (i_iinc 5 (nI 1) 57) := snd_iinc dX1_shut_54 (by decide) (by decide)
theorem oX1_shut_57 : SX1_shut 57 (i_goto 18) := snd_goto dX1_shut_57 (by decide)
theorem oX1_shut_60 : SX1_shut 60 (i_iload 4 62) := snd_iload dX1_shut_60
theorem oX1_shut_62 : SX1_shut 62 (i_if1 (fun x => x = 0) 84 65) := snd_if_eq dX1_shut_62 (by decide)
theorem oX1_shut_65 : SX1_shut 65 (i_iload 4 67) := snd_iload dX1_shut_65
theorem oX1_shut_67 : SX1_shut 67 (i_aload 0 68) := snd_aload_n dX1_shut_67 rfl
theorem oX1_shut_68 : SX1_shut 68 (i_aload 1 69) := snd_aload_n dX1_shut_68 rfl
theorem oX1_shut_69 : SX1_shut 69 (i_cv 0 108 1 72) := snd_cv rfl infX1_sticking (by decide) rfl (xVm_V dX1_shut_69 rfl q1281 q1283 qs38 q127 q1284 pdX1_sticking)
theorem oX1_shut_72 : SX1_shut 72 (i_const (.int (-1)) 73) := snd_iconst dX1_shut_72 (by decide)
theorem oX1_shut_73 : SX1_shut 73 (i_ii (fun x y => x ^^^ y) 74) := snd_ixor dX1_shut_73
theorem oX1_shut_74 : SX1_shut 74 (i_ii (fun x y => x &&& y) 75) := snd_iand dX1_shut_74
theorem oX1_shut_75 : SX1_shut 75 (i_if1 (fun x => ¬ x = 0) 84 78) := snd_if_ne dX1_shut_75 (by decide)
theorem oX1_shut_78 : SX1_shut 78 (i_iload 2 79) := snd_iload_n dX1_shut_78 rfl
theorem oX1_shut_79 : SX1_shut 79 (i_const (.int (nI 1)) 80) := snd_iconst dX1_shut_79 (by decide)
theorem oX1_shut_80 : SX1_shut 80 (i_iload 3 81) := snd_iload_n dX1_shut_80 rfl
theorem oX1_shut_81 : SX1_shut 81 (i_ii (fun x y => x <<< (y &&& 31)) 82) := snd_ishl dX1_shut_81
theorem oX1_shut_82 : SX1_shut 82 (i_ii (fun x y => x ||| y) 83) := snd_ior dX1_shut_82
theorem oX1_shut_83 : SX1_shut 83 (i_istore 2 84) := snd_istore_n dX1_shut_83 rfl (by decide)
theorem oX1_shut_84 : SX1_shut 84 (i_iinc 3 (nI 1) 87) := snd_iinc dX1_shut_84 (by decide) (by decide)
theorem oX1_shut_87 : SX1_shut 87 (i_goto 4) := snd_goto dX1_shut_87 (by decide)
theorem oX1_shut_90 : SX1_shut 90 (i_iload 2 91) := snd_iload_n dX1_shut_90 rfl
theorem oX1_shut_91 : SX1_shut 91 (i_iret) := snd_iret dX1_shut_91 rfl
theorem okX1_shut : ∀ q ∈ cX1_shut, SX1_shut q.1 q.2 := List.forall_mem_cons.mpr ⟨oX1_shut_0, List.forall_mem_cons.mpr ⟨oX1_shut_1, List.forall_mem_cons.mpr ⟨oX1_shut_2, List.forall_mem_cons.mpr ⟨oX1_shut_3, List.forall_mem_cons.mpr ⟨oX1_shut_4, List.forall_mem_cons.mpr ⟨oX1_shut_5, List.forall_mem_cons.mpr ⟨oX1_shut_6, List.forall_mem_cons.mpr ⟨oX1_shut_9, List.forall_mem_cons.mpr ⟨oX1_shut_12, List.forall_mem_cons.mpr ⟨oX1_shut_13, List.forall_mem_cons.mpr ⟨oX1_shut_15, List.forall_mem_cons.mpr ⟨oX1_shut_16, List.forall_mem_cons.mpr ⟨oX1_shut_18, List.forall_mem_cons.mpr ⟨oX1_shut_20, List.forall_mem_cons.mpr ⟨oX1_shut_21, List.forall_mem_cons.mpr ⟨oX1_shut_24, List.forall_mem_cons.mpr ⟨oX1_shut_27, List.forall_mem_cons.mpr ⟨oX1_shut_28, List.forall_mem_cons.mpr ⟨oX1_shut_30, List.forall_mem_cons.mpr ⟨oX1_shut_33, List.forall_mem_cons.mpr ⟨oX1_shut_34, List.forall_mem_cons.mpr ⟨oX1_shut_37, List.forall_mem_cons.mpr ⟨oX1_shut_38, List.forall_mem_cons.mpr ⟨oX1_shut_39, List.forall_mem_cons.mpr ⟨oX1_shut_42, List.forall_mem_cons.mpr ⟨oX1_shut_45, List.forall_mem_cons.mpr ⟨oX1_shut_47, List.forall_mem_cons.mpr ⟨oX1_shut_48, List.forall_mem_cons.mpr ⟨oX1_shut_50, List.forall_mem_cons.mpr ⟨oX1_shut_51, List.forall_mem_cons.mpr ⟨oX1_shut_52, List.forall_mem_cons.mpr ⟨oX1_shut_54, List.forall_mem_cons.mpr ⟨oX1_shut_57, List.forall_mem_cons.mpr ⟨oX1_shut_60, List.forall_mem_cons.mpr ⟨oX1_shut_62, List.forall_mem_cons.mpr ⟨oX1_shut_65, List.forall_mem_cons.mpr ⟨oX1_shut_67, List.forall_mem_cons.mpr ⟨oX1_shut_68, List.forall_mem_cons.mpr ⟨oX1_shut_69, List.forall_mem_cons.mpr ⟨oX1_shut_72, List.forall_mem_cons.mpr ⟨oX1_shut_73, List.forall_mem_cons.mpr ⟨oX1_shut_74, List.forall_mem_cons.mpr ⟨oX1_shut_75, List.forall_mem_cons.mpr ⟨oX1_shut_78, List.forall_mem_cons.mpr ⟨oX1_shut_79, List.forall_mem_cons.mpr ⟨oX1_shut_80, List.forall_mem_cons.mpr ⟨oX1_shut_81, List.forall_mem_cons.mpr ⟨oX1_shut_82, List.forall_mem_cons.mpr ⟨oX1_shut_83, List.forall_mem_cons.mpr ⟨oX1_shut_84, List.forall_mem_cons.mpr ⟨oX1_shut_87, List.forall_mem_cons.mpr ⟨oX1_shut_90, List.forall_mem_cons.mpr ⟨oX1_shut_91, fun _ h => absurd h List.not_mem_nil⟩⟩⟩⟩⟩⟩⟩⟩⟩⟩⟩⟩⟩⟩⟩⟩⟩⟩⟩⟩⟩⟩⟩⟩⟩⟩⟩⟩⟩⟩⟩⟩⟩⟩⟩⟩⟩⟩⟩⟩⟩⟩⟩⟩⟩⟩⟩⟩⟩⟩⟩⟩⟩
def dkwX1_shut_2_0 : List UInt8 := [42, 42, 180, 0, 51, 182, 1, 22, 172]
abbrev dktX1_shut_2_0 : List UInt8 := dkwX1_shut_2_0 ++ []
theorem dksX1_shut_2_0 : bcX1_shut_2.data.toList.drop 0 = dktX1_shut_2_0 := by decide +kernel
theorem dX1_shut_2_0 : decode bcX1_shut_2 0 = .ok (.aload_n 0, 1) := dk_42 (dk_at dksX1_shut_2_0 0 rfl rfl)
theorem dX1_shut_2_1 : decode bcX1_shut_2 1 = .ok (.aload_n 0, 1) := dk_42 (dk_at dksX1_shut_2_0 1 rfl rfl)
theorem dX1_shut_2_2 : decode bcX1_shut_2 2 = .ok (.getfield 51, 3) := dk_180 0 51 (dk_at dksX1_shut_2_0 2 rfl rfl)
theorem dX1_shut_2_5 : decode bcX1_shut_2 5 = .ok (.invokevirtual 278, 3) := dk_182 1 22 (dk_at dksX1_shut_2_0 5 rfl rfl)
theorem dX1_shut_2_8 : decode bcX1_shut_2 8 = .ok (.ireturn, 1) := dk_172 (dk_at dksX1_shut_2_0 8 rfl rfl)
abbrev SX1_shut_2 (pc : Nat) (i : xI) : Prop := Snd "SwollenHouse" "shut" prog_1_method_37_code 1 (Option.some Jvm.ClassFile.FieldType.int) [] pc i
theorem oX1_shut_2_0 : SX1_shut_2 0 (i_aload 0 1) := snd_aload_n dX1_shut_2_0 rfl
theorem oX1_shut_2_1 : SX1_shut_2 1 (i_aload 0 2) := snd_aload_n dX1_shut_2_1 rfl
theorem oX1_shut_2_2 : SX1_shut_2 2 (i_getf 0 4 5) := snd_getf dX1_shut_2_2 rfl (by decide) in_X1 (Or.inl q350) (Or.inl rfl) (by decide)
theorem oX1_shut_2_5 : SX1_shut_2 5 (i_cv 0 116 1 8) := snd_cv rfl infX1_shut (by decide) rfl (xVm_V dX1_shut_2_5 rfl q1359 q1361 qs40 q127 q1362 pdX1_shut)
theorem oX1_shut_2_8 : SX1_shut_2 8 (i_iret) := snd_iret dX1_shut_2_8 rfl
theorem okX1_shut_2 : ∀ q ∈ cX1_shut_2, SX1_shut_2 q.1 q.2 := List.forall_mem_cons.mpr ⟨oX1_shut_2_0, List.forall_mem_cons.mpr ⟨oX1_shut_2_1, List.forall_mem_cons.mpr ⟨oX1_shut_2_2, List.forall_mem_cons.mpr ⟨oX1_shut_2_5, List.forall_mem_cons.mpr ⟨oX1_shut_2_8, fun _ h => absurd h List.not_mem_nil⟩⟩⟩⟩⟩
def dkwX1_range_1 : List UInt8 := [2, 172]
abbrev dktX1_range_1 : List UInt8 := dkwX1_range_1 ++ []
def dkwX1_range_0 : List UInt8 := [42, 27, 182, 1, 37, 153, 0, 19, 42, 27, 42, 42, 180, 0, 51, 182, 1, 40, 182, 1, 43, 167, 0, 4]
abbrev dktX1_range_0 : List UInt8 := dkwX1_range_0 ++ dktX1_range_1
theorem dksX1_range_0 : bcX1_range.data.toList.drop 0 = dktX1_range_0 := by decide +kernel
theorem dksX1_range_1 : bcX1_range.data.toList.drop 24 = dktX1_range_1 := dk_seg dksX1_range_0 24 rfl rfl
theorem dX1_range_0 : decode bcX1_range 0 = .ok (.aload_n 0, 1) := dk_42 (dk_at dksX1_range_0 0 rfl rfl)
theorem dX1_range_1 : decode bcX1_range 1 = .ok (.iload_n 1, 1) := dk_27 (dk_at dksX1_range_0 1 rfl rfl)
theorem dX1_range_2 : decode bcX1_range 2 = .ok (.invokevirtual 293, 3) := dk_182 1 37 (dk_at dksX1_range_0 2 rfl rfl)
theorem dX1_range_5 : decode bcX1_range 5 = .ok (.ifCond .eq 19, 3) := dk_153 0 19 (dk_at dksX1_range_0 5 rfl rfl)
theorem dX1_range_8 : decode bcX1_range 8 = .ok (.aload_n 0, 1) := dk_42 (dk_at dksX1_range_0 8 rfl rfl)
theorem dX1_range_9 : decode bcX1_range 9 = .ok (.iload_n 1, 1) := dk_27 (dk_at dksX1_range_0 9 rfl rfl)
theorem dX1_range_10 : decode bcX1_range 10 = .ok (.aload_n 0, 1) := dk_42 (dk_at dksX1_range_0 10 rfl rfl)
theorem dX1_range_11 : decode bcX1_range 11 = .ok (.aload_n 0, 1) := dk_42 (dk_at dksX1_range_0 11 rfl rfl)
theorem dX1_range_12 : decode bcX1_range 12 = .ok (.getfield 51, 3) := dk_180 0 51 (dk_at dksX1_range_0 12 rfl rfl)
theorem dX1_range_15 : decode bcX1_range 15 = .ok (.invokevirtual 296, 3) := dk_182 1 40 (dk_at dksX1_range_0 15 rfl rfl)
theorem dX1_range_18 : decode bcX1_range 18 = .ok (.invokevirtual 299, 3) := dk_182 1 43 (dk_at dksX1_range_0 18 rfl rfl)
theorem dX1_range_21 : decode bcX1_range 21 = .ok (.goto 4, 3) := dk_167 0 4 (dk_at dksX1_range_0 21 rfl rfl)
theorem dX1_range_24 : decode bcX1_range 24 = .ok (.iconst (-1), 1) := dk_2 (dk_at dksX1_range_1 0 rfl rfl)
theorem dX1_range_25 : decode bcX1_range 25 = .ok (.ireturn, 1) := dk_172 (dk_at dksX1_range_1 1 rfl rfl)
abbrev SX1_range (pc : Nat) (i : xI) : Prop := Snd "SwollenHouse" "range" prog_1_method_40_code 2 (Option.some Jvm.ClassFile.FieldType.int) [] pc i
theorem oX1_range_0 : SX1_range 0 (i_aload 0 1) := snd_aload_n dX1_range_0 rfl
theorem oX1_range_1 : SX1_range 1 (i_iload 1 2) := snd_iload_n dX1_range_1 rfl
theorem oX1_range_2 : SX1_range 2 (i_cv 0 119 1 5) := snd_cv rfl infX1_isRoom (by decide) rfl (xVm_V dX1_range_2 rfl q1377 q1379 qs41 q127 q1380 pdX1_isRoom)
theorem oX1_range_5 : SX1_range 5 (i_if1 (fun x => x = 0) 24 8) := snd_if_eq dX1_range_5 (by decide)
theorem oX1_range_8 : SX1_range 8 (i_aload 0 9) := snd_aload_n dX1_range_8 rfl
theorem oX1_range_9 : SX1_range 9 (i_iload 1 10) := snd_iload_n dX1_range_9 rfl
theorem oX1_range_10 : SX1_range 10 (i_aload 0 11) := snd_aload_n dX1_range_10 rfl
theorem oX1_range_11 : SX1_range 11 (i_aload 0 12) := snd_aload_n dX1_range_11 rfl
theorem oX1_range_12 : SX1_range 12 (i_getf 0 4 15) := snd_getf dX1_range_12 rfl (by decide) in_X1 (Or.inl q350) (Or.inl rfl) (by decide)
theorem oX1_range_15 : SX1_range 15 (i_cv 0 121 1 18) := snd_cv rfl infX1_open (by decide) rfl (xVm_V dX1_range_15 rfl q1385 q1387 qs43 q127 q1388 pdX1_open)
theorem oX1_range_18 : SX1_range 18 (i_cv 0 122 2 21) := snd_cv rfl infX1_range_2 (by decide) rfl (xVm_V dX1_range_18 rfl q1389 q1391 qs44 q127 q1392 pdX1_range_2)
theorem oX1_range_21 : SX1_range 21 (i_goto 25) := snd_goto dX1_range_21 (by decide)
theorem oX1_range_24 : SX1_range 24 (i_const (.int (-1)) 25) := snd_iconst dX1_range_24 (by decide)
theorem oX1_range_25 : SX1_range 25 (i_iret) := snd_iret dX1_range_25 rfl
theorem okX1_range : ∀ q ∈ cX1_range, SX1_range q.1 q.2 := List.forall_mem_cons.mpr ⟨oX1_range_0, List.forall_mem_cons.mpr ⟨oX1_range_1, List.forall_mem_cons.mpr ⟨oX1_range_2, List.forall_mem_cons.mpr ⟨oX1_range_5, List.forall_mem_cons.mpr ⟨oX1_range_8, List.forall_mem_cons.mpr ⟨oX1_range_9, List.forall_mem_cons.mpr ⟨oX1_range_10, List.forall_mem_cons.mpr ⟨oX1_range_11, List.forall_mem_cons.mpr ⟨oX1_range_12, List.forall_mem_cons.mpr ⟨oX1_range_15, List.forall_mem_cons.mpr ⟨oX1_range_18, List.forall_mem_cons.mpr ⟨oX1_range_21, List.forall_mem_cons.mpr ⟨oX1_range_24, List.forall_mem_cons.mpr ⟨oX1_range_25, fun _ h => absurd h List.not_mem_nil⟩⟩⟩⟩⟩⟩⟩⟩⟩⟩⟩⟩⟩⟩
def dkwX1_isRoom_0 : List UInt8 := [27, 3, 42, 182, 0, 153, 4, 100, 184, 0, 155, 172]
abbrev dktX1_isRoom_0 : List UInt8 := dkwX1_isRoom_0 ++ []
theorem dksX1_isRoom_0 : bcX1_isRoom.data.toList.drop 0 = dktX1_isRoom_0 := by decide +kernel
theorem dX1_isRoom_0 : decode bcX1_isRoom 0 = .ok (.iload_n 1, 1) := dk_27 (dk_at dksX1_isRoom_0 0 rfl rfl)
theorem dX1_isRoom_1 : decode bcX1_isRoom 1 = .ok (.iconst 0, 1) := dk_3 (dk_at dksX1_isRoom_0 1 rfl rfl)
theorem dX1_isRoom_2 : decode bcX1_isRoom 2 = .ok (.aload_n 0, 1) := dk_42 (dk_at dksX1_isRoom_0 2 rfl rfl)
theorem dX1_isRoom_3 : decode bcX1_isRoom 3 = .ok (.invokevirtual 153, 3) := dk_182 0 153 (dk_at dksX1_isRoom_0 3 rfl rfl)
theorem dX1_isRoom_6 : decode bcX1_isRoom 6 = .ok (.iconst 1, 1) := dk_4 (dk_at dksX1_isRoom_0 6 rfl rfl)
theorem dX1_isRoom_7 : decode bcX1_isRoom 7 = .ok (.isub, 1) := dk_100 (dk_at dksX1_isRoom_0 7 rfl rfl)
theorem dX1_isRoom_8 : decode bcX1_isRoom 8 = .ok (.invokestatic 155, 3) := dk_184 0 155 (dk_at dksX1_isRoom_0 8 rfl rfl)
theorem dX1_isRoom_11 : decode bcX1_isRoom 11 = .ok (.ireturn, 1) := dk_172 (dk_at dksX1_isRoom_0 11 rfl rfl)
abbrev SX1_isRoom (pc : Nat) (i : xI) : Prop := Snd "SwollenHouse" "isRoom" prog_1_method_16_code 2 (Option.some Jvm.ClassFile.FieldType.boolean) [] pc i
theorem oX1_isRoom_0 : SX1_isRoom 0 (i_iload 1 1) := snd_iload_n dX1_isRoom_0 rfl
theorem oX1_isRoom_1 : SX1_isRoom 1 (i_const (.int (nI 0)) 2) := snd_iconst dX1_isRoom_1 (by decide)
theorem oX1_isRoom_2 : SX1_isRoom 2 (i_aload 0 3) := snd_aload_n dX1_isRoom_2 rfl
theorem oX1_isRoom_3 : SX1_isRoom 3 (i_cv 0 120 0 6) := snd_cv rfl infX1_rooms (by decide) rfl (xVm_V dX1_isRoom_3 rfl q1381 q1383 qs42 q127 q1384 pdX1_rooms)
theorem oX1_isRoom_6 : SX1_isRoom 6 (i_const (.int (nI 1)) 7) := snd_iconst dX1_isRoom_6 (by decide)
theorem oX1_isRoom_7 : SX1_isRoom 7 (i_ii (fun x y => x - y) 8) := snd_isub dX1_isRoom_7
theorem oX1_isRoom_8 : SX1_isRoom 8 (i_cs 92 3 11) := snd_cs rfl infX1_in (by decide) (xSm_S dX1_isRoom_8 q1145 q982 q127 q983 pdX1_in)
theorem oX1_isRoom_11 : SX1_isRoom 11 (i_zret) := snd_zret dX1_isRoom_11 rfl
theorem okX1_isRoom : ∀ q ∈ cX1_isRoom, SX1_isRoom q.1 q.2 := List.forall_mem_cons.mpr ⟨oX1_isRoom_0, List.forall_mem_cons.mpr ⟨oX1_isRoom_1, List.forall_mem_cons.mpr ⟨oX1_isRoom_2, List.forall_mem_cons.mpr ⟨oX1_isRoom_3, List.forall_mem_cons.mpr ⟨oX1_isRoom_6, List.forall_mem_cons.mpr ⟨oX1_isRoom_7, List.forall_mem_cons.mpr ⟨oX1_isRoom_8, List.forall_mem_cons.mpr ⟨oX1_isRoom_11, fun _ h => absurd h List.not_mem_nil⟩⟩⟩⟩⟩⟩⟩⟩
def dkwX1_rooms_0 : List UInt8 := [42, 180, 0, 35, 180, 0, 134, 182, 0, 137, 172]
abbrev dktX1_rooms_0 : List UInt8 := dkwX1_rooms_0 ++ []
theorem dksX1_rooms_0 : bcX1_rooms.data.toList.drop 0 = dktX1_rooms_0 := by decide +kernel
theorem dX1_rooms_0 : decode bcX1_rooms 0 = .ok (.aload_n 0, 1) := dk_42 (dk_at dksX1_rooms_0 0 rfl rfl)
theorem dX1_rooms_1 : decode bcX1_rooms 1 = .ok (.getfield 35, 3) := dk_180 0 35 (dk_at dksX1_rooms_0 1 rfl rfl)
theorem dX1_rooms_4 : decode bcX1_rooms 4 = .ok (.getfield 134, 3) := dk_180 0 134 (dk_at dksX1_rooms_0 4 rfl rfl)
theorem dX1_rooms_7 : decode bcX1_rooms 7 = .ok (.invokevirtual 137, 3) := dk_182 0 137 (dk_at dksX1_rooms_0 7 rfl rfl)
theorem dX1_rooms_10 : decode bcX1_rooms 10 = .ok (.ireturn, 1) := dk_172 (dk_at dksX1_rooms_0 10 rfl rfl)
abbrev SX1_rooms (pc : Nat) (i : xI) : Prop := Snd "SwollenHouse" "rooms" prog_1_method_12_code 1 (Option.some Jvm.ClassFile.FieldType.int) [] pc i
theorem oX1_rooms_0 : SX1_rooms 0 (i_aload 0 1) := snd_aload_n dX1_rooms_0 rfl
theorem oX1_rooms_1 : SX1_rooms 1 (i_getf 0 2 4) := snd_getf dX1_rooms_1 rfl (by decide) in_X1 (Or.inl q348) (Or.inl rfl) (by decide)
theorem oX1_rooms_4 : SX1_rooms 4 (i_getf 2 0 7) := snd_getf dX1_rooms_4 rfl (by decide) in_X3 (Or.inr ⟨_, q246⟩) (Or.inl rfl) (by decide)
theorem oX1_rooms_7 : SX1_rooms 7 (i_cv 21 32 0 10) := snd_cv rfl infJ2_size (by decide) rfl (xVm_V dX1_rooms_7 rfl q1144 q324 q325 q132 q326 pdJ2_size)
theorem oX1_rooms_10 : SX1_rooms 10 (i_iret) := snd_iret dX1_rooms_10 rfl
theorem okX1_rooms : ∀ q ∈ cX1_rooms, SX1_rooms q.1 q.2 := List.forall_mem_cons.mpr ⟨oX1_rooms_0, List.forall_mem_cons.mpr ⟨oX1_rooms_1, List.forall_mem_cons.mpr ⟨oX1_rooms_4, List.forall_mem_cons.mpr ⟨oX1_rooms_7, List.forall_mem_cons.mpr ⟨oX1_rooms_10, fun _ h => absurd h List.not_mem_nil⟩⟩⟩⟩⟩
def dkwX1_open_0 : List UInt8 := [4, 42, 182, 0, 159, 120, 4, 100, 42, 43, 182, 0, 222, 2, 130, 126, 172]
abbrev dktX1_open_0 : List UInt8 := dkwX1_open_0 ++ []
theorem dksX1_open_0 : bcX1_open.data.toList.drop 0 = dktX1_open_0 := by decide +kernel
theorem dX1_open_0 : decode bcX1_open 0 = .ok (.iconst 1, 1) := dk_4 (dk_at dksX1_open_0 0 rfl rfl)
theorem dX1_open_1 : decode bcX1_open 1 = .ok (.aload_n 0, 1) := dk_42 (dk_at dksX1_open_0 1 rfl rfl)
theorem dX1_open_2 : decode bcX1_open 2 = .ok (.invokevirtual 159, 3) := dk_182 0 159 (dk_at dksX1_open_0 2 rfl rfl)
theorem dX1_open_5 : decode bcX1_open 5 = .ok (.ishl, 1) := dk_120 (dk_at dksX1_open_0 5 rfl rfl)
theorem dX1_open_6 : decode bcX1_open 6 = .ok (.iconst 1, 1) := dk_4 (dk_at dksX1_open_0 6 rfl rfl)
theorem dX1_open_7 : decode bcX1_open 7 = .ok (.isub, 1) := dk_100 (dk_at dksX1_open_0 7 rfl rfl)
theorem dX1_open_8 : decode bcX1_open 8 = .ok (.aload_n 0, 1) := dk_42 (dk_at dksX1_open_0 8 rfl rfl)
theorem dX1_open_9 : decode bcX1_open 9 = .ok (.aload_n 1, 1) := dk_43 (dk_at dksX1_open_0 9 rfl rfl)
theorem dX1_open_10 : decode bcX1_open 10 = .ok (.invokevirtual 222, 3) := dk_182 0 222 (dk_at dksX1_open_0 10 rfl rfl)
theorem dX1_open_13 : decode bcX1_open 13 = .ok (.iconst (-1), 1) := dk_2 (dk_at dksX1_open_0 13 rfl rfl)
theorem dX1_open_14 : decode bcX1_open 14 = .ok (.ixor, 1) := dk_130 (dk_at dksX1_open_0 14 rfl rfl)
theorem dX1_open_15 : decode bcX1_open 15 = .ok (.iand, 1) := dk_126 (dk_at dksX1_open_0 15 rfl rfl)
theorem dX1_open_16 : decode bcX1_open 16 = .ok (.ireturn, 1) := dk_172 (dk_at dksX1_open_0 16 rfl rfl)
abbrev SX1_open (pc : Nat) (i : xI) : Prop := Snd "SwollenHouse" "open" prog_1_method_24_code 2 (Option.some Jvm.ClassFile.FieldType.int) [] pc i
theorem oX1_open_0 : SX1_open 0 (i_const (.int (nI 1)) 1) := snd_iconst dX1_open_0 (by decide)
theorem oX1_open_1 : SX1_open 1 (i_aload 0 2) := snd_aload_n dX1_open_1 rfl
theorem oX1_open_2 : SX1_open 2 (i_cv 0 96 0 5) := snd_cv rfl infX1_doors (by decide) rfl (xVm_V dX1_open_2 rfl q1140 q1142 qs30 q127 q1143 pdX1_doors)
theorem oX1_open_5 : SX1_open 5 (i_ii (fun x y => x <<< (y &&& 31)) 6) := snd_ishl dX1_open_5
theorem oX1_open_6 : SX1_open 6 (i_const (.int (nI 1)) 7) := snd_iconst dX1_open_6 (by decide)
theorem oX1_open_7 : SX1_open 7 (i_ii (fun x y => x - y) 8) := snd_isub dX1_open_7
theorem oX1_open_8 : SX1_open 8 (i_aload 0 9) := snd_aload_n dX1_open_8 rfl
theorem oX1_open_9 : SX1_open 9 (i_aload 1 10) := snd_aload_n dX1_open_9 rfl
theorem oX1_open_10 : SX1_open 10 (i_cv 0 108 1 13) := snd_cv rfl infX1_sticking (by decide) rfl (xVm_V dX1_open_10 rfl q1281 q1283 qs38 q127 q1284 pdX1_sticking)
theorem oX1_open_13 : SX1_open 13 (i_const (.int (-1)) 14) := snd_iconst dX1_open_13 (by decide)
theorem oX1_open_14 : SX1_open 14 (i_ii (fun x y => x ^^^ y) 15) := snd_ixor dX1_open_14
theorem oX1_open_15 : SX1_open 15 (i_ii (fun x y => x &&& y) 16) := snd_iand dX1_open_15
theorem oX1_open_16 : SX1_open 16 (i_iret) := snd_iret dX1_open_16 rfl
theorem okX1_open : ∀ q ∈ cX1_open, SX1_open q.1 q.2 := List.forall_mem_cons.mpr ⟨oX1_open_0, List.forall_mem_cons.mpr ⟨oX1_open_1, List.forall_mem_cons.mpr ⟨oX1_open_2, List.forall_mem_cons.mpr ⟨oX1_open_5, List.forall_mem_cons.mpr ⟨oX1_open_6, List.forall_mem_cons.mpr ⟨oX1_open_7, List.forall_mem_cons.mpr ⟨oX1_open_8, List.forall_mem_cons.mpr ⟨oX1_open_9, List.forall_mem_cons.mpr ⟨oX1_open_10, List.forall_mem_cons.mpr ⟨oX1_open_13, List.forall_mem_cons.mpr ⟨oX1_open_14, List.forall_mem_cons.mpr ⟨oX1_open_15, List.forall_mem_cons.mpr ⟨oX1_open_16, fun _ h => absurd h List.not_mem_nil⟩⟩⟩⟩⟩⟩⟩⟩⟩⟩⟩⟩⟩
def dkwX1_range_2_1 : List UInt8 := [167, 255, 239, 29, 172]
abbrev dktX1_range_2_1 : List UInt8 := dkwX1_range_2_1 ++ []
def dkwX1_range_2_0 : List UInt8 := [4, 27, 120, 62, 3, 54, 4, 21, 4, 16, 7, 162, 0, 16, 42, 29, 28, 182, 1, 34, 62, 132, 4, 1]
abbrev dktX1_range_2_0 : List UInt8 := dkwX1_range_2_0 ++ dktX1_range_2_1
theorem dksX1_range_2_0 : bcX1_range_2.data.toList.drop 0 = dktX1_range_2_0 := by decide +kernel
theorem dksX1_range_2_1 : bcX1_range_2.data.toList.drop 24 = dktX1_range_2_1 := dk_seg dksX1_range_2_0 24 rfl rfl
theorem dX1_range_2_0 : decode bcX1_range_2 0 = .ok (.iconst 1, 1) := dk_4 (dk_at dksX1_range_2_0 0 rfl rfl)
theorem dX1_range_2_1 : decode bcX1_range_2 1 = .ok (.iload_n 1, 1) := dk_27 (dk_at dksX1_range_2_0 1 rfl rfl)
theorem dX1_range_2_2 : decode bcX1_range_2 2 = .ok (.ishl, 1) := dk_120 (dk_at dksX1_range_2_0 2 rfl rfl)
theorem dX1_range_2_3 : decode bcX1_range_2 3 = .ok (.istore_n 3, 1) := dk_62 (dk_at dksX1_range_2_0 3 rfl rfl)
theorem dX1_range_2_4 : decode bcX1_range_2 4 = .ok (.iconst 0, 1) := dk_3 (dk_at dksX1_range_2_0 4 rfl rfl)
theorem dX1_range_2_5 : decode bcX1_range_2 5 = .ok (.istore 4, 2) := dk_54 4 (dk_at dksX1_range_2_0 5 rfl rfl)
theorem dX1_range_2_7 : decode bcX1_range_2 7 = .ok (.iload 4, 2) := dk_21 4 (dk_at dksX1_range_2_0 7 rfl rfl)
theorem dX1_range_2_9 : decode bcX1_range_2 9 = .ok (.bipush 7, 2) := dk_16 7 (dk_at dksX1_range_2_0 9 rfl rfl)
theorem dX1_range_2_11 : decode bcX1_range_2 11 = .ok (.if_icmp .ge 16, 3) := dk_162 0 16 (dk_at dksX1_range_2_0 11 rfl rfl)
theorem dX1_range_2_14 : decode bcX1_range_2 14 = .ok (.aload_n 0, 1) := dk_42 (dk_at dksX1_range_2_0 14 rfl rfl)
theorem dX1_range_2_15 : decode bcX1_range_2 15 = .ok (.iload_n 3, 1) := dk_29 (dk_at dksX1_range_2_0 15 rfl rfl)
theorem dX1_range_2_16 : decode bcX1_range_2 16 = .ok (.iload_n 2, 1) := dk_28 (dk_at dksX1_range_2_0 16 rfl rfl)
theorem dX1_range_2_17 : decode bcX1_range_2 17 = .ok (.invokevirtual 290, 3) := dk_182 1 34 (dk_at dksX1_range_2_0 17 rfl rfl)
theorem dX1_range_2_20 : decode bcX1_range_2 20 = .ok (.istore_n 3, 1) := dk_62 (dk_at dksX1_range_2_0 20 rfl rfl)
theorem dX1_range_2_21 : decode bcX1_range_2 21 = .ok (.iinc 4 1, 3) := dk_132 4 1 (dk_at dksX1_range_2_0 21 rfl rfl)
theorem dX1_range_2_24 : decode bcX1_range_2 24 = .ok (.goto (-17), 3) := dk_167 255 239 (dk_at dksX1_range_2_1 0 rfl rfl)
theorem dX1_range_2_27 : decode bcX1_range_2 27 = .ok (.iload_n 3, 1) := dk_29 (dk_at dksX1_range_2_1 3 rfl rfl)
theorem dX1_range_2_28 : decode bcX1_range_2 28 = .ok (.ireturn, 1) := dk_172 (dk_at dksX1_range_2_1 4 rfl rfl)
abbrev SX1_range_2 (pc : Nat) (i : xI) : Prop := Snd "SwollenHouse" "range" prog_1_method_39_code 5 (Option.some Jvm.ClassFile.FieldType.int) [] pc i
theorem oX1_range_2_0 : SX1_range_2 0 (i_const (.int (nI 1)) 1) := snd_iconst dX1_range_2_0 (by decide)
theorem oX1_range_2_1 : SX1_range_2 1 (i_iload 1 2) := snd_iload_n dX1_range_2_1 rfl
theorem oX1_range_2_2 : SX1_range_2 2 (i_ii (fun x y => x <<< (y &&& 31)) 3) := snd_ishl dX1_range_2_2
theorem oX1_range_2_3 : SX1_range_2 3 (i_istore 3 4) := snd_istore_n dX1_range_2_3 rfl (by decide)
theorem oX1_range_2_4 : SX1_range_2 4 (i_const (.int (nI 0)) 5) := snd_iconst dX1_range_2_4 (by decide)
theorem oX1_range_2_5 : SX1_range_2 5 (i_istore 4 7) := snd_istore dX1_range_2_5 (by decide)
theorem oX1_range_2_7 : SX1_range_2 7 (i_iload 4 9) := snd_iload dX1_range_2_7
theorem oX1_range_2_9 : SX1_range_2 9 (i_const (.int (nI 7)) 11) := snd_bipush dX1_range_2_9 (by decide)
theorem oX1_range_2_11 : SX1_range_2 11 (i_if2 (fun x y => y ≤ x) 27 14) := snd_icmp_ge dX1_range_2_11 (by decide)
theorem oX1_range_2_14 : SX1_range_2 14 (i_aload 0 15) := snd_aload_n dX1_range_2_14 rfl
theorem oX1_range_2_15 : SX1_range_2 15 (i_iload 3 16) := snd_iload_n dX1_range_2_15 rfl
theorem oX1_range_2_16 : SX1_range_2 16 (i_iload 2 17) := snd_iload_n dX1_range_2_16 rfl
theorem oX1_range_2_17 : SX1_range_2 17 (i_cv 0 123 2 20) := snd_cv rfl infX1_next (by decide) rfl (xVm_V dX1_range_2_17 rfl q1393 q1395 qs45 q127 q1396 pdX1_next)
theorem oX1_range_2_20 : SX1_range_2 20 (i_istore 3 21) := snd_istore_n dX1_range_2_20 rfl (by decide)
theorem oX1_range_2_21 : SX1_range_2 21 (i_iinc 4 (nI 1) 24) := snd_iinc dX1_range_2_21 (by decide) (by decide)
theorem oX1_range_2_24 : SX1_range_2 24 (i_goto 7) := snd_goto dX1_range_2_24 (by decide)
theorem oX1_range_2_27 : SX1_range_2 27 (i_iload 3 28) := snd_iload_n dX1_range_2_27 rfl
theorem oX1_range_2_28 : SX1_range_2 28 (i_iret) := snd_iret dX1_range_2_28 rfl
theorem okX1_range_2 : ∀ q ∈ cX1_range_2, SX1_range_2 q.1 q.2 := List.forall_mem_cons.mpr ⟨oX1_range_2_0, List.forall_mem_cons.mpr ⟨oX1_range_2_1, List.forall_mem_cons.mpr ⟨oX1_range_2_2, List.forall_mem_cons.mpr ⟨oX1_range_2_3, List.forall_mem_cons.mpr ⟨oX1_range_2_4, List.forall_mem_cons.mpr ⟨oX1_range_2_5, List.forall_mem_cons.mpr ⟨oX1_range_2_7, List.forall_mem_cons.mpr ⟨oX1_range_2_9, List.forall_mem_cons.mpr ⟨oX1_range_2_11, List.forall_mem_cons.mpr ⟨oX1_range_2_14, List.forall_mem_cons.mpr ⟨oX1_range_2_15, List.forall_mem_cons.mpr ⟨oX1_range_2_16, List.forall_mem_cons.mpr ⟨oX1_range_2_17, List.forall_mem_cons.mpr ⟨oX1_range_2_20, List.forall_mem_cons.mpr ⟨oX1_range_2_21, List.forall_mem_cons.mpr ⟨oX1_range_2_24, List.forall_mem_cons.mpr ⟨oX1_range_2_27, List.forall_mem_cons.mpr ⟨oX1_range_2_28, fun _ h => absurd h List.not_mem_nil⟩⟩⟩⟩⟩⟩⟩⟩⟩⟩⟩⟩⟩⟩⟩⟩⟩⟩
def dkwX1_next_4 : List UInt8 := [172]
abbrev dktX1_next_4 : List UInt8 := dkwX1_next_4 ++ []
def dkwX1_next_3 : List UInt8 := [153, 0, 17, 29, 4, 42, 21, 4, 182, 0, 163, 180, 0, 238, 120, 128, 62, 132, 4, 1, 167, 255, 172, 29]
abbrev dktX1_next_3 : List UInt8 := dkwX1_next_3 ++ dktX1_next_4
def dkwX1_next_2 : List UInt8 := [182, 0, 163, 180, 0, 241, 120, 128, 62, 27, 42, 21, 4, 182, 0, 163, 180, 0, 241, 184, 1, 30]
abbrev dktX1_next_2 : List UInt8 := dkwX1_next_2 ++ dktX1_next_3
def dkwX1_next_1 : List UInt8 := [167, 0, 63, 27, 42, 21, 4, 182, 0, 163, 180, 0, 238, 184, 1, 30, 153, 0, 17, 29, 4, 42, 21, 4]
abbrev dktX1_next_1 : List UInt8 := dkwX1_next_1 ++ dktX1_next_2
def dkwX1_next_0 : List UInt8 := [27, 62, 3, 54, 4, 21, 4, 42, 182, 0, 159, 162, 0, 81, 28, 21, 4, 184, 1, 30, 154, 0, 6]
abbrev dktX1_next_0 : List UInt8 := dkwX1_next_0 ++ dktX1_next_1
theorem dksX1_next_0 : bcX1_next.data.toList.drop 0 = dktX1_next_0 := by decide +kernel
theorem dksX1_next_1 : bcX1_next.data.toList.drop 23 = dktX1_next_1 := dk_seg dksX1_next_0 23 rfl rfl
theorem dksX1_next_2 : bcX1_next.data.toList.drop 47 = dktX1_next_2 := dk_seg dksX1_next_1 24 rfl rfl
theorem dksX1_next_3 : bcX1_next.data.toList.drop 69 = dktX1_next_3 := dk_seg dksX1_next_2 22 rfl rfl
theorem dksX1_next_4 : bcX1_next.data.toList.drop 93 = dktX1_next_4 := dk_seg dksX1_next_3 24 rfl rfl
theorem dX1_next_0 : decode bcX1_next 0 = .ok (.iload_n 1, 1) := dk_27 (dk_at dksX1_next_0 0 rfl rfl)
theorem dX1_next_1 : decode bcX1_next 1 = .ok (.istore_n 3, 1) := dk_62 (dk_at dksX1_next_0 1 rfl rfl)
theorem dX1_next_2 : decode bcX1_next 2 = .ok (.iconst 0, 1) := dk_3 (dk_at dksX1_next_0 2 rfl rfl)
theorem dX1_next_3 : decode bcX1_next 3 = .ok (.istore 4, 2) := dk_54 4 (dk_at dksX1_next_0 3 rfl rfl)
theorem dX1_next_5 : decode bcX1_next 5 = .ok (.iload 4, 2) := dk_21 4 (dk_at dksX1_next_0 5 rfl rfl)
theorem dX1_next_7 : decode bcX1_next 7 = .ok (.aload_n 0, 1) := dk_42 (dk_at dksX1_next_0 7 rfl rfl)
theorem dX1_next_8 : decode bcX1_next 8 = .ok (.invokevirtual 159, 3) := dk_182 0 159 (dk_at dksX1_next_0 8 rfl rfl)
theorem dX1_next_11 : decode bcX1_next 11 = .ok (.if_icmp .ge 81, 3) := dk_162 0 81 (dk_at dksX1_next_0 11 rfl rfl)
theorem dX1_next_14 : decode bcX1_next 14 = .ok (.iload_n 2, 1) := dk_28 (dk_at dksX1_next_0 14 rfl rfl)
theorem dX1_next_15 : decode bcX1_next 15 = .ok (.iload 4, 2) := dk_21 4 (dk_at dksX1_next_0 15 rfl rfl)
theorem dX1_next_17 : decode bcX1_next 17 = .ok (.invokestatic 286, 3) := dk_184 1 30 (dk_at dksX1_next_0 17 rfl rfl)
theorem dX1_next_20 : decode bcX1_next 20 = .ok (.ifCond .ne 6, 3) := dk_154 0 6 (dk_at dksX1_next_0 20 rfl rfl)
theorem dX1_next_23 : decode bcX1_next 23 = .ok (.goto 63, 3) := dk_167 0 63 (dk_at dksX1_next_1 0 rfl rfl)
theorem dX1_next_26 : decode bcX1_next 26 = .ok (.iload_n 1, 1) := dk_27 (dk_at dksX1_next_1 3 rfl rfl)
theorem dX1_next_27 : decode bcX1_next 27 = .ok (.aload_n 0, 1) := dk_42 (dk_at dksX1_next_1 4 rfl rfl)
theorem dX1_next_28 : decode bcX1_next 28 = .ok (.iload 4, 2) := dk_21 4 (dk_at dksX1_next_1 5 rfl rfl)
theorem dX1_next_30 : decode bcX1_next 30 = .ok (.invokevirtual 163, 3) := dk_182 0 163 (dk_at dksX1_next_1 7 rfl rfl)
theorem dX1_next_33 : decode bcX1_next 33 = .ok (.getfield 238, 3) := dk_180 0 238 (dk_at dksX1_next_1 10 rfl rfl)
theorem dX1_next_36 : decode bcX1_next 36 = .ok (.invokestatic 286, 3) := dk_184 1 30 (dk_at dksX1_next_1 13 rfl rfl)
theorem dX1_next_39 : decode bcX1_next 39 = .ok (.ifCond .eq 17, 3) := dk_153 0 17 (dk_at dksX1_next_1 16 rfl rfl)
theorem dX1_next_42 : decode bcX1_next 42 = .ok (.iload_n 3, 1) := dk_29 (dk_at dksX1_next_1 19 rfl rfl)
theorem dX1_next_43 : decode bcX1_next 43 = .ok (.iconst 1, 1) := dk_4 (dk_at dksX1_next_1 20 rfl rfl)
theorem dX1_next_44 : decode bcX1_next 44 = .ok (.aload_n 0, 1) := dk_42 (dk_at dksX1_next_1 21 rfl rfl)
theorem dX1_next_45 : decode bcX1_next 45 = .ok (.iload 4, 2) := dk_21 4 (dk_at dksX1_next_1 22 rfl rfl)
theorem dX1_next_47 : decode bcX1_next 47 = .ok (.invokevirtual 163, 3) := dk_182 0 163 (dk_at dksX1_next_2 0 rfl rfl)
theorem dX1_next_50 : decode bcX1_next 50 = .ok (.getfield 241, 3) := dk_180 0 241 (dk_at dksX1_next_2 3 rfl rfl)
theorem dX1_next_53 : decode bcX1_next 53 = .ok (.ishl, 1) := dk_120 (dk_at dksX1_next_2 6 rfl rfl)
theorem dX1_next_54 : decode bcX1_next 54 = .ok (.ior, 1) := dk_128 (dk_at dksX1_next_2 7 rfl rfl)
theorem dX1_next_55 : decode bcX1_next 55 = .ok (.istore_n 3, 1) := dk_62 (dk_at dksX1_next_2 8 rfl rfl)
theorem dX1_next_56 : decode bcX1_next 56 = .ok (.iload_n 1, 1) := dk_27 (dk_at dksX1_next_2 9 rfl rfl)
theorem dX1_next_57 : decode bcX1_next 57 = .ok (.aload_n 0, 1) := dk_42 (dk_at dksX1_next_2 10 rfl rfl)
theorem dX1_next_58 : decode bcX1_next 58 = .ok (.iload 4, 2) := dk_21 4 (dk_at dksX1_next_2 11 rfl rfl)
theorem dX1_next_60 : decode bcX1_next 60 = .ok (.invokevirtual 163, 3) := dk_182 0 163 (dk_at dksX1_next_2 13 rfl rfl)
theorem dX1_next_63 : decode bcX1_next 63 = .ok (.getfield 241, 3) := dk_180 0 241 (dk_at dksX1_next_2 16 rfl rfl)
theorem dX1_next_66 : decode bcX1_next 66 = .ok (.invokestatic 286, 3) := dk_184 1 30 (dk_at dksX1_next_2 19 rfl rfl)
theorem dX1_next_69 : decode bcX1_next 69 = .ok (.ifCond .eq 17, 3) := dk_153 0 17 (dk_at dksX1_next_3 0 rfl rfl)
theorem dX1_next_72 : decode bcX1_next 72 = .ok (.iload_n 3, 1) := dk_29 (dk_at dksX1_next_3 3 rfl rfl)
theorem dX1_next_73 : decode bcX1_next 73 = .ok (.iconst 1, 1) := dk_4 (dk_at dksX1_next_3 4 rfl rfl)
theorem dX1_next_74 : decode bcX1_next 74 = .ok (.aload_n 0, 1) := dk_42 (dk_at dksX1_next_3 5 rfl rfl)
theorem dX1_next_75 : decode bcX1_next 75 = .ok (.iload 4, 2) := dk_21 4 (dk_at dksX1_next_3 6 rfl rfl)
theorem dX1_next_77 : decode bcX1_next 77 = .ok (.invokevirtual 163, 3) := dk_182 0 163 (dk_at dksX1_next_3 8 rfl rfl)
theorem dX1_next_80 : decode bcX1_next 80 = .ok (.getfield 238, 3) := dk_180 0 238 (dk_at dksX1_next_3 11 rfl rfl)
theorem dX1_next_83 : decode bcX1_next 83 = .ok (.ishl, 1) := dk_120 (dk_at dksX1_next_3 14 rfl rfl)
theorem dX1_next_84 : decode bcX1_next 84 = .ok (.ior, 1) := dk_128 (dk_at dksX1_next_3 15 rfl rfl)
theorem dX1_next_85 : decode bcX1_next 85 = .ok (.istore_n 3, 1) := dk_62 (dk_at dksX1_next_3 16 rfl rfl)
theorem dX1_next_86 : decode bcX1_next 86 = .ok (.iinc 4 1, 3) := dk_132 4 1 (dk_at dksX1_next_3 17 rfl rfl)
theorem dX1_next_89 : decode bcX1_next 89 = .ok (.goto (-84), 3) := dk_167 255 172 (dk_at dksX1_next_3 20 rfl rfl)
theorem dX1_next_92 : decode bcX1_next 92 = .ok (.iload_n 3, 1) := dk_29 (dk_at dksX1_next_3 23 rfl rfl)
theorem dX1_next_93 : decode bcX1_next 93 = .ok (.ireturn, 1) := dk_172 (dk_at dksX1_next_4 0 rfl rfl)
abbrev SX1_next (pc : Nat) (i : xI) : Prop := Snd "SwollenHouse" "next" prog_1_method_38_code 5 (Option.some Jvm.ClassFile.FieldType.int) [] pc i
theorem oX1_next_0 : SX1_next 0 (i_iload 1 1) := snd_iload_n dX1_next_0 rfl
theorem oX1_next_1 : SX1_next 1 (i_istore 3 2) := snd_istore_n dX1_next_1 rfl (by decide)
theorem oX1_next_2 : SX1_next 2 (i_const (.int (nI 0)) 3) := snd_iconst dX1_next_2 (by decide)
theorem oX1_next_3 : SX1_next 3 (i_istore 4 5) := snd_istore dX1_next_3 (by decide)
theorem oX1_next_5 : SX1_next 5 (i_iload 4 7) := snd_iload dX1_next_5
theorem oX1_next_7 : SX1_next 7 (i_aload 0 8) := snd_aload_n dX1_next_7 rfl
theorem oX1_next_8 : SX1_next 8 (i_cv 0 96 0 11) := snd_cv rfl infX1_doors (by decide) rfl (xVm_V dX1_next_8 rfl q1140 q1142 qs30 q127 q1143 pdX1_doors)
theorem oX1_next_11 : SX1_next 11 (i_if2 (fun x y => y ≤ x) 92 14) := snd_icmp_ge dX1_next_11 (by decide)
theorem oX1_next_14 : SX1_next 14 (i_iload 2 15) := snd_iload_n dX1_next_14 rfl
theorem oX1_next_15 : SX1_next 15 (i_iload 4 17) := snd_iload dX1_next_15
theorem oX1_next_17 : SX1_next 17 (i_cs 98 2 20) := snd_cs rfl infX1_isIn (by decide) (xSm_S dX1_next_17 q1397 q1172 q127 q1173 pdX1_isIn)
theorem oX1_next_20 : SX1_next 20 (i_if1 (fun x => ¬ x = 0) 26 23) := snd_if_ne dX1_next_20 (by decide)
theorem oX1_next_23 : SX1_next 23 (i_goto 86) := snd_goto dX1_next_23 (by decide)
theorem oX1_next_26 : SX1_next 26 (i_iload 1 27) := snd_iload_n dX1_next_26 rfl
theorem oX1_next_27 : SX1_next 27 (i_aload 0 28) := snd_aload_n dX1_next_27 rfl
theorem oX1_next_28 : SX1_next 28 (i_iload 4 30) := snd_iload dX1_next_28
theorem oX1_next_30 : SX1_next 30 (i_cv 0 97 1 33) := snd_cv rfl infX1_door_2 (by decide) rfl (xVm_V dX1_next_30 rfl q1146 q1148 qs31 q127 q1149 pdX1_door_2)
theorem oX1_next_33 : SX1_next 33 (i_getf 6 0 36) := snd_getf dX1_next_33 rfl (by decide) in_X7 (Or.inr ⟨_, q911⟩) (Or.inl rfl) (by decide)
theorem oX1_next_36 : SX1_next 36 (i_cs 98 2 39) := snd_cs rfl infX1_isIn (by decide) (xSm_S dX1_next_36 q1397 q1172 q127 q1173 pdX1_isIn)
theorem oX1_next_39 : SX1_next 39 (i_if1 (fun x => x = 0) 56 42) := snd_if_eq dX1_next_39 (by decide)
theorem oX1_next_42 : SX1_next 42 (i_iload 3 43) := snd_iload_n dX1_next_42 rfl
theorem oX1_next_43 : SX1_next 43 (i_const (.int (nI 1)) 44) := snd_iconst dX1_next_43 (by decide)
theorem oX1_next_44 : SX1_next 44 (i_aload 0 45) := snd_aload_n dX1_next_44 rfl
theorem oX1_next_45 : SX1_next 45 (i_iload 4 47) := snd_iload dX1_next_45
theorem oX1_next_47 : SX1_next 47 (i_cv 0 97 1 50) := snd_cv rfl infX1_door_2 (by decide) rfl (xVm_V dX1_next_47 rfl q1146 q1148 qs31 q127 q1149 pdX1_door_2)
theorem oX1_next_50 : SX1_next 50 (i_getf 6 1 53) := snd_getf dX1_next_50 rfl (by decide) in_X7 (Or.inr ⟨_, q913⟩) (Or.inl rfl) (by decide)
theorem oX1_next_53 : SX1_next 53 (i_ii (fun x y => x <<< (y &&& 31)) 54) := snd_ishl dX1_next_53
theorem oX1_next_54 : SX1_next 54 (i_ii (fun x y => x ||| y) 55) := snd_ior dX1_next_54
theorem oX1_next_55 : SX1_next 55 (i_istore 3 56) := snd_istore_n dX1_next_55 rfl (by decide)
theorem oX1_next_56 : SX1_next 56 (i_iload 1 57) := snd_iload_n dX1_next_56 rfl
theorem oX1_next_57 : SX1_next 57 (i_aload 0 58) := snd_aload_n dX1_next_57 rfl
theorem oX1_next_58 : SX1_next 58 (i_iload 4 60) := snd_iload dX1_next_58
theorem oX1_next_60 : SX1_next 60 (i_cv 0 97 1 63) := snd_cv rfl infX1_door_2 (by decide) rfl (xVm_V dX1_next_60 rfl q1146 q1148 qs31 q127 q1149 pdX1_door_2)
theorem oX1_next_63 : SX1_next 63 (i_getf 6 1 66) := snd_getf dX1_next_63 rfl (by decide) in_X7 (Or.inr ⟨_, q913⟩) (Or.inl rfl) (by decide)
theorem oX1_next_66 : SX1_next 66 (i_cs 98 2 69) := snd_cs rfl infX1_isIn (by decide) (xSm_S dX1_next_66 q1397 q1172 q127 q1173 pdX1_isIn)
theorem oX1_next_69 : SX1_next 69 (i_if1 (fun x => x = 0) 86 72) := snd_if_eq dX1_next_69 (by decide)
theorem oX1_next_72 : SX1_next 72 (i_iload 3 73) := snd_iload_n dX1_next_72 rfl
theorem oX1_next_73 : SX1_next 73 (i_const (.int (nI 1)) 74) := snd_iconst dX1_next_73 (by decide)
theorem oX1_next_74 : SX1_next 74 (i_aload 0 75) := snd_aload_n dX1_next_74 rfl
theorem oX1_next_75 : SX1_next 75 (i_iload 4 77) := snd_iload dX1_next_75
theorem oX1_next_77 : SX1_next 77 (i_cv 0 97 1 80) := snd_cv rfl infX1_door_2 (by decide) rfl (xVm_V dX1_next_77 rfl q1146 q1148 qs31 q127 q1149 pdX1_door_2)
theorem oX1_next_80 : SX1_next 80 (i_getf 6 0 83) := snd_getf dX1_next_80 rfl (by decide) in_X7 (Or.inr ⟨_, q911⟩) (Or.inl rfl) (by decide)
theorem oX1_next_83 : SX1_next 83 (i_ii (fun x y => x <<< (y &&& 31)) 84) := snd_ishl dX1_next_83
theorem oX1_next_84 : SX1_next 84 (i_ii (fun x y => x ||| y) 85) := snd_ior dX1_next_84
theorem oX1_next_85 : SX1_next 85 (i_istore 3 86) := snd_istore_n dX1_next_85 rfl (by decide)
theorem oX1_next_86 : SX1_next 86 (i_iinc 4 (nI 1) 89) := snd_iinc dX1_next_86 (by decide) (by decide)
theorem oX1_next_89 : SX1_next 89 (i_goto 5) := snd_goto dX1_next_89 (by decide)
theorem oX1_next_92 : SX1_next 92 (i_iload 3 93) := snd_iload_n dX1_next_92 rfl
theorem oX1_next_93 : SX1_next 93 (i_iret) := snd_iret dX1_next_93 rfl
theorem okX1_next : ∀ q ∈ cX1_next, SX1_next q.1 q.2 := List.forall_mem_cons.mpr ⟨oX1_next_0, List.forall_mem_cons.mpr ⟨oX1_next_1, List.forall_mem_cons.mpr ⟨oX1_next_2, List.forall_mem_cons.mpr ⟨oX1_next_3, List.forall_mem_cons.mpr ⟨oX1_next_5, List.forall_mem_cons.mpr ⟨oX1_next_7, List.forall_mem_cons.mpr ⟨oX1_next_8, List.forall_mem_cons.mpr ⟨oX1_next_11, List.forall_mem_cons.mpr ⟨oX1_next_14, List.forall_mem_cons.mpr ⟨oX1_next_15, List.forall_mem_cons.mpr ⟨oX1_next_17, List.forall_mem_cons.mpr ⟨oX1_next_20, List.forall_mem_cons.mpr ⟨oX1_next_23, List.forall_mem_cons.mpr ⟨oX1_next_26, List.forall_mem_cons.mpr ⟨oX1_next_27, List.forall_mem_cons.mpr ⟨oX1_next_28, List.forall_mem_cons.mpr ⟨oX1_next_30, List.forall_mem_cons.mpr ⟨oX1_next_33, List.forall_mem_cons.mpr ⟨oX1_next_36, List.forall_mem_cons.mpr ⟨oX1_next_39, List.forall_mem_cons.mpr ⟨oX1_next_42, List.forall_mem_cons.mpr ⟨oX1_next_43, List.forall_mem_cons.mpr ⟨oX1_next_44, List.forall_mem_cons.mpr ⟨oX1_next_45, List.forall_mem_cons.mpr ⟨oX1_next_47, List.forall_mem_cons.mpr ⟨oX1_next_50, List.forall_mem_cons.mpr ⟨oX1_next_53, List.forall_mem_cons.mpr ⟨oX1_next_54, List.forall_mem_cons.mpr ⟨oX1_next_55, List.forall_mem_cons.mpr ⟨oX1_next_56, List.forall_mem_cons.mpr ⟨oX1_next_57, List.forall_mem_cons.mpr ⟨oX1_next_58, List.forall_mem_cons.mpr ⟨oX1_next_60, List.forall_mem_cons.mpr ⟨oX1_next_63, List.forall_mem_cons.mpr ⟨oX1_next_66, List.forall_mem_cons.mpr ⟨oX1_next_69, List.forall_mem_cons.mpr ⟨oX1_next_72, List.forall_mem_cons.mpr ⟨oX1_next_73, List.forall_mem_cons.mpr ⟨oX1_next_74, List.forall_mem_cons.mpr ⟨oX1_next_75, List.forall_mem_cons.mpr ⟨oX1_next_77, List.forall_mem_cons.mpr ⟨oX1_next_80, List.forall_mem_cons.mpr ⟨oX1_next_83, List.forall_mem_cons.mpr ⟨oX1_next_84, List.forall_mem_cons.mpr ⟨oX1_next_85, List.forall_mem_cons.mpr ⟨oX1_next_86, List.forall_mem_cons.mpr ⟨oX1_next_89, List.forall_mem_cons.mpr ⟨oX1_next_92, List.forall_mem_cons.mpr ⟨oX1_next_93, fun _ h => absurd h List.not_mem_nil⟩⟩⟩⟩⟩⟩⟩⟩⟩⟩⟩⟩⟩⟩⟩⟩⟩⟩⟩⟩⟩⟩⟩⟩⟩⟩⟩⟩⟩⟩⟩⟩⟩⟩⟩⟩⟩⟩⟩⟩⟩⟩⟩⟩⟩⟩⟩⟩⟩
def dkwX1_company_0 : List UInt8 := [42, 27, 182, 0, 250, 153, 0, 11, 42, 27, 182, 1, 46, 167, 0, 4, 2, 172]
abbrev dktX1_company_0 : List UInt8 := dkwX1_company_0 ++ []
theorem dksX1_company_0 : bcX1_company.data.toList.drop 0 = dktX1_company_0 := by decide +kernel
theorem dX1_company_0 : decode bcX1_company 0 = .ok (.aload_n 0, 1) := dk_42 (dk_at dksX1_company_0 0 rfl rfl)
theorem dX1_company_1 : decode bcX1_company 1 = .ok (.iload_n 1, 1) := dk_27 (dk_at dksX1_company_0 1 rfl rfl)
theorem dX1_company_2 : decode bcX1_company 2 = .ok (.invokevirtual 250, 3) := dk_182 0 250 (dk_at dksX1_company_0 2 rfl rfl)
theorem dX1_company_5 : decode bcX1_company 5 = .ok (.ifCond .eq 11, 3) := dk_153 0 11 (dk_at dksX1_company_0 5 rfl rfl)
theorem dX1_company_8 : decode bcX1_company 8 = .ok (.aload_n 0, 1) := dk_42 (dk_at dksX1_company_0 8 rfl rfl)
theorem dX1_company_9 : decode bcX1_company 9 = .ok (.iload_n 1, 1) := dk_27 (dk_at dksX1_company_0 9 rfl rfl)
theorem dX1_company_10 : decode bcX1_company 10 = .ok (.invokevirtual 302, 3) := dk_182 1 46 (dk_at dksX1_company_0 10 rfl rfl)
theorem dX1_company_13 : decode bcX1_company 13 = .ok (.goto 4, 3) := dk_167 0 4 (dk_at dksX1_company_0 13 rfl rfl)
theorem dX1_company_16 : decode bcX1_company 16 = .ok (.iconst (-1), 1) := dk_2 (dk_at dksX1_company_0 16 rfl rfl)
theorem dX1_company_17 : decode bcX1_company 17 = .ok (.ireturn, 1) := dk_172 (dk_at dksX1_company_0 17 rfl rfl)
abbrev SX1_company (pc : Nat) (i : xI) : Prop := Snd "SwollenHouse" "company" prog_1_method_42_code 2 (Option.some Jvm.ClassFile.FieldType.int) [] pc i
theorem oX1_company_0 : SX1_company 0 (i_aload 0 1) := snd_aload_n dX1_company_0 rfl
theorem oX1_company_1 : SX1_company 1 (i_iload 1 2) := snd_iload_n dX1_company_1 rfl
theorem oX1_company_2 : SX1_company 2 (i_cv 0 100 1 5) := snd_cv rfl infX1_isPerson (by decide) rfl (xVm_V dX1_company_2 rfl q1178 q1180 qs32 q127 q1181 pdX1_isPerson)
theorem oX1_company_5 : SX1_company 5 (i_if1 (fun x => x = 0) 16 8) := snd_if_eq dX1_company_5 (by decide)
theorem oX1_company_8 : SX1_company 8 (i_aload 0 9) := snd_aload_n dX1_company_8 rfl
theorem oX1_company_9 : SX1_company 9 (i_iload 1 10) := snd_iload_n dX1_company_9 rfl
theorem oX1_company_10 : SX1_company 10 (i_cv 0 125 1 13) := snd_cv rfl infX1_companyOf (by decide) rfl (xVm_V dX1_company_10 rfl q1402 q1404 qs46 q127 q1405 pdX1_companyOf)
theorem oX1_company_13 : SX1_company 13 (i_goto 17) := snd_goto dX1_company_13 (by decide)
theorem oX1_company_16 : SX1_company 16 (i_const (.int (-1)) 17) := snd_iconst dX1_company_16 (by decide)
theorem oX1_company_17 : SX1_company 17 (i_iret) := snd_iret dX1_company_17 rfl
theorem okX1_company : ∀ q ∈ cX1_company, SX1_company q.1 q.2 := List.forall_mem_cons.mpr ⟨oX1_company_0, List.forall_mem_cons.mpr ⟨oX1_company_1, List.forall_mem_cons.mpr ⟨oX1_company_2, List.forall_mem_cons.mpr ⟨oX1_company_5, List.forall_mem_cons.mpr ⟨oX1_company_8, List.forall_mem_cons.mpr ⟨oX1_company_9, List.forall_mem_cons.mpr ⟨oX1_company_10, List.forall_mem_cons.mpr ⟨oX1_company_13, List.forall_mem_cons.mpr ⟨oX1_company_16, List.forall_mem_cons.mpr ⟨oX1_company_17, fun _ h => absurd h List.not_mem_nil⟩⟩⟩⟩⟩⟩⟩⟩⟩⟩
def dkwX1_companyOf_3 : List UInt8 := [167, 255, 214, 28, 172]
abbrev dktX1_companyOf_3 : List UInt8 := dkwX1_companyOf_3 ++ []
def dkwX1_companyOf_2 : List UInt8 := [180, 0, 229, 21, 4, 46, 184, 1, 30, 153, 0, 10, 28, 4, 21, 4, 120, 128, 61, 132, 4, 1]
abbrev dktX1_companyOf_2 : List UInt8 := dkwX1_companyOf_2 ++ dktX1_companyOf_3
def dkwX1_companyOf_1 : List UInt8 := [3, 54, 4, 21, 4, 42, 182, 0, 161, 162, 0, 39, 21, 4, 27, 159, 0, 27, 29, 42, 180, 0, 51]
abbrev dktX1_companyOf_1 : List UInt8 := dkwX1_companyOf_1 ++ dktX1_companyOf_2
def dkwX1_companyOf_0 : List UInt8 := [3, 61, 42, 42, 180, 0, 51, 180, 0, 229, 27, 46, 42, 42, 180, 0, 51, 182, 1, 40, 182, 1, 43, 62]
abbrev dktX1_companyOf_0 : List UInt8 := dkwX1_companyOf_0 ++ dktX1_companyOf_1
theorem dksX1_companyOf_0 : bcX1_companyOf.data.toList.drop 0 = dktX1_companyOf_0 := by decide +kernel
theorem dksX1_companyOf_1 : bcX1_companyOf.data.toList.drop 24 = dktX1_companyOf_1 := dk_seg dksX1_companyOf_0 24 rfl rfl
theorem dksX1_companyOf_2 : bcX1_companyOf.data.toList.drop 47 = dktX1_companyOf_2 := dk_seg dksX1_companyOf_1 23 rfl rfl
theorem dksX1_companyOf_3 : bcX1_companyOf.data.toList.drop 69 = dktX1_companyOf_3 := dk_seg dksX1_companyOf_2 22 rfl rfl
theorem dX1_companyOf_0 : decode bcX1_companyOf 0 = .ok (.iconst 0, 1) := dk_3 (dk_at dksX1_companyOf_0 0 rfl rfl)
theorem dX1_companyOf_1 : decode bcX1_companyOf 1 = .ok (.istore_n 2, 1) := dk_61 (dk_at dksX1_companyOf_0 1 rfl rfl)
theorem dX1_companyOf_2 : decode bcX1_companyOf 2 = .ok (.aload_n 0, 1) := dk_42 (dk_at dksX1_companyOf_0 2 rfl rfl)
theorem dX1_companyOf_3 : decode bcX1_companyOf 3 = .ok (.aload_n 0, 1) := dk_42 (dk_at dksX1_companyOf_0 3 rfl rfl)
theorem dX1_companyOf_4 : decode bcX1_companyOf 4 = .ok (.getfield 51, 3) := dk_180 0 51 (dk_at dksX1_companyOf_0 4 rfl rfl)
theorem dX1_companyOf_7 : decode bcX1_companyOf 7 = .ok (.getfield 229, 3) := dk_180 0 229 (dk_at dksX1_companyOf_0 7 rfl rfl)
theorem dX1_companyOf_10 : decode bcX1_companyOf 10 = .ok (.iload_n 1, 1) := dk_27 (dk_at dksX1_companyOf_0 10 rfl rfl)
theorem dX1_companyOf_11 : decode bcX1_companyOf 11 = .ok (.iaload, 1) := dk_46 (dk_at dksX1_companyOf_0 11 rfl rfl)
theorem dX1_companyOf_12 : decode bcX1_companyOf 12 = .ok (.aload_n 0, 1) := dk_42 (dk_at dksX1_companyOf_0 12 rfl rfl)
theorem dX1_companyOf_13 : decode bcX1_companyOf 13 = .ok (.aload_n 0, 1) := dk_42 (dk_at dksX1_companyOf_0 13 rfl rfl)
theorem dX1_companyOf_14 : decode bcX1_companyOf 14 = .ok (.getfield 51, 3) := dk_180 0 51 (dk_at dksX1_companyOf_0 14 rfl rfl)
theorem dX1_companyOf_17 : decode bcX1_companyOf 17 = .ok (.invokevirtual 296, 3) := dk_182 1 40 (dk_at dksX1_companyOf_0 17 rfl rfl)
theorem dX1_companyOf_20 : decode bcX1_companyOf 20 = .ok (.invokevirtual 299, 3) := dk_182 1 43 (dk_at dksX1_companyOf_0 20 rfl rfl)
theorem dX1_companyOf_23 : decode bcX1_companyOf 23 = .ok (.istore_n 3, 1) := dk_62 (dk_at dksX1_companyOf_0 23 rfl rfl)
theorem dX1_companyOf_24 : decode bcX1_companyOf 24 = .ok (.iconst 0, 1) := dk_3 (dk_at dksX1_companyOf_1 0 rfl rfl)
theorem dX1_companyOf_25 : decode bcX1_companyOf 25 = .ok (.istore 4, 2) := dk_54 4 (dk_at dksX1_companyOf_1 1 rfl rfl)
theorem dX1_companyOf_27 : decode bcX1_companyOf 27 = .ok (.iload 4, 2) := dk_21 4 (dk_at dksX1_companyOf_1 3 rfl rfl)
theorem dX1_companyOf_29 : decode bcX1_companyOf 29 = .ok (.aload_n 0, 1) := dk_42 (dk_at dksX1_companyOf_1 5 rfl rfl)
theorem dX1_companyOf_30 : decode bcX1_companyOf 30 = .ok (.invokevirtual 161, 3) := dk_182 0 161 (dk_at dksX1_companyOf_1 6 rfl rfl)
theorem dX1_companyOf_33 : decode bcX1_companyOf 33 = .ok (.if_icmp .ge 39, 3) := dk_162 0 39 (dk_at dksX1_companyOf_1 9 rfl rfl)
theorem dX1_companyOf_36 : decode bcX1_companyOf 36 = .ok (.iload 4, 2) := dk_21 4 (dk_at dksX1_companyOf_1 12 rfl rfl)
theorem dX1_companyOf_38 : decode bcX1_companyOf 38 = .ok (.iload_n 1, 1) := dk_27 (dk_at dksX1_companyOf_1 14 rfl rfl)
theorem dX1_companyOf_39 : decode bcX1_companyOf 39 = .ok (.if_icmp .eq 27, 3) := dk_159 0 27 (dk_at dksX1_companyOf_1 15 rfl rfl)
theorem dX1_companyOf_42 : decode bcX1_companyOf 42 = .ok (.iload_n 3, 1) := dk_29 (dk_at dksX1_companyOf_1 18 rfl rfl)
theorem dX1_companyOf_43 : decode bcX1_companyOf 43 = .ok (.aload_n 0, 1) := dk_42 (dk_at dksX1_companyOf_1 19 rfl rfl)
theorem dX1_companyOf_44 : decode bcX1_companyOf 44 = .ok (.getfield 51, 3) := dk_180 0 51 (dk_at dksX1_companyOf_1 20 rfl rfl)
theorem dX1_companyOf_47 : decode bcX1_companyOf 47 = .ok (.getfield 229, 3) := dk_180 0 229 (dk_at dksX1_companyOf_2 0 rfl rfl)
theorem dX1_companyOf_50 : decode bcX1_companyOf 50 = .ok (.iload 4, 2) := dk_21 4 (dk_at dksX1_companyOf_2 3 rfl rfl)
theorem dX1_companyOf_52 : decode bcX1_companyOf 52 = .ok (.iaload, 1) := dk_46 (dk_at dksX1_companyOf_2 5 rfl rfl)
theorem dX1_companyOf_53 : decode bcX1_companyOf 53 = .ok (.invokestatic 286, 3) := dk_184 1 30 (dk_at dksX1_companyOf_2 6 rfl rfl)
theorem dX1_companyOf_56 : decode bcX1_companyOf 56 = .ok (.ifCond .eq 10, 3) := dk_153 0 10 (dk_at dksX1_companyOf_2 9 rfl rfl)
theorem dX1_companyOf_59 : decode bcX1_companyOf 59 = .ok (.iload_n 2, 1) := dk_28 (dk_at dksX1_companyOf_2 12 rfl rfl)
theorem dX1_companyOf_60 : decode bcX1_companyOf 60 = .ok (.iconst 1, 1) := dk_4 (dk_at dksX1_companyOf_2 13 rfl rfl)
theorem dX1_companyOf_61 : decode bcX1_companyOf 61 = .ok (.iload 4, 2) := dk_21 4 (dk_at dksX1_companyOf_2 14 rfl rfl)
theorem dX1_companyOf_63 : decode bcX1_companyOf 63 = .ok (.ishl, 1) := dk_120 (dk_at dksX1_companyOf_2 16 rfl rfl)
theorem dX1_companyOf_64 : decode bcX1_companyOf 64 = .ok (.ior, 1) := dk_128 (dk_at dksX1_companyOf_2 17 rfl rfl)
theorem dX1_companyOf_65 : decode bcX1_companyOf 65 = .ok (.istore_n 2, 1) := dk_61 (dk_at dksX1_companyOf_2 18 rfl rfl)
theorem dX1_companyOf_66 : decode bcX1_companyOf 66 = .ok (.iinc 4 1, 3) := dk_132 4 1 (dk_at dksX1_companyOf_2 19 rfl rfl)
theorem dX1_companyOf_69 : decode bcX1_companyOf 69 = .ok (.goto (-42), 3) := dk_167 255 214 (dk_at dksX1_companyOf_3 0 rfl rfl)
theorem dX1_companyOf_72 : decode bcX1_companyOf 72 = .ok (.iload_n 2, 1) := dk_28 (dk_at dksX1_companyOf_3 3 rfl rfl)
theorem dX1_companyOf_73 : decode bcX1_companyOf 73 = .ok (.ireturn, 1) := dk_172 (dk_at dksX1_companyOf_3 4 rfl rfl)
abbrev SX1_companyOf (pc : Nat) (i : xI) : Prop := Snd "SwollenHouse" "companyOf" prog_1_method_41_code 5 (Option.some Jvm.ClassFile.FieldType.int) [] pc i
theorem oX1_companyOf_0 : SX1_companyOf 0 (i_const (.int (nI 0)) 1) := snd_iconst dX1_companyOf_0 (by decide)
theorem oX1_companyOf_1 : SX1_companyOf 1 (i_istore 2 2) := snd_istore_n dX1_companyOf_1 rfl (by decide)
theorem oX1_companyOf_2 : SX1_companyOf 2 (i_aload 0 3) := snd_aload_n dX1_companyOf_2 rfl
theorem oX1_companyOf_3 : SX1_companyOf 3 (i_aload 0 4) := snd_aload_n dX1_companyOf_3 rfl
theorem oX1_companyOf_4 : SX1_companyOf 4 (i_getf 0 4 7) := snd_getf dX1_companyOf_4 rfl (by decide) in_X1 (Or.inl q350) (Or.inl rfl) (by decide)
theorem oX1_companyOf_7 : SX1_companyOf 7 (i_getf 3 2 10) := snd_getf dX1_companyOf_7 rfl (by decide) in_X4 (Or.inr ⟨_, q296⟩) (Or.inl rfl) (by decide)
theorem oX1_companyOf_10 : SX1_companyOf 10 (i_iload 1 11) := snd_iload_n dX1_companyOf_10 rfl
theorem oX1_companyOf_11 : SX1_companyOf 11 (i_ai 0 12) := snd_ai0 dX1_companyOf_11
theorem oX1_companyOf_12 : SX1_companyOf 12 (i_aload 0 13) := snd_aload_n dX1_companyOf_12 rfl
theorem oX1_companyOf_13 : SX1_companyOf 13 (i_aload 0 14) := snd_aload_n dX1_companyOf_13 rfl
theorem oX1_companyOf_14 : SX1_companyOf 14 (i_getf 0 4 17) := snd_getf dX1_companyOf_14 rfl (by decide) in_X1 (Or.inl q350) (Or.inl rfl) (by decide)
theorem oX1_companyOf_17 : SX1_companyOf 17 (i_cv 0 121 1 20) := snd_cv rfl infX1_open (by decide) rfl (xVm_V dX1_companyOf_17 rfl q1385 q1387 qs43 q127 q1388 pdX1_open)
theorem oX1_companyOf_20 : SX1_companyOf 20 (i_cv 0 122 2 23) := snd_cv rfl infX1_range_2 (by decide) rfl (xVm_V dX1_companyOf_20 rfl q1389 q1391 qs44 q127 q1392 pdX1_range_2)
theorem oX1_companyOf_23 : SX1_companyOf 23 (i_istore 3 24) := snd_istore_n dX1_companyOf_23 rfl (by decide)
theorem oX1_companyOf_24 : SX1_companyOf 24 (i_const (.int (nI 0)) 25) := snd_iconst dX1_companyOf_24 (by decide)
theorem oX1_companyOf_25 : SX1_companyOf 25 (i_istore 4 27) := snd_istore dX1_companyOf_25 (by decide)
theorem oX1_companyOf_27 : SX1_companyOf 27 (i_iload 4 29) := snd_iload dX1_companyOf_27
theorem oX1_companyOf_29 : SX1_companyOf 29 (i_aload 0 30) := snd_aload_n dX1_companyOf_29 rfl
theorem oX1_companyOf_30 : SX1_companyOf 30 (i_cv 0 101 0 33) := snd_cv rfl infX1_people (by decide) rfl (xVm_V dX1_companyOf_30 rfl q1182 q1184 qs33 q127 q1185 pdX1_people)
theorem oX1_companyOf_33 : SX1_companyOf 33 (i_if2 (fun x y => y ≤ x) 72 36) := snd_icmp_ge dX1_companyOf_33 (by decide)
theorem oX1_companyOf_36 : SX1_companyOf 36 (i_iload 4 38) := snd_iload dX1_companyOf_36
theorem oX1_companyOf_38 : SX1_companyOf 38 (i_iload 1 39) := snd_iload_n dX1_companyOf_38 rfl
theorem oX1_companyOf_39 : SX1_companyOf 39 (i_if2 (fun x y => x = y) 66 42) := snd_icmp_eq dX1_companyOf_39 (by decide)
theorem oX1_companyOf_42 : SX1_companyOf 42 (i_iload 3 43) := snd_iload_n dX1_companyOf_42 rfl
theorem oX1_companyOf_43 : SX1_companyOf 43 (i_aload 0 44) := snd_aload_n dX1_companyOf_43 rfl
theorem oX1_companyOf_44 : SX1_companyOf 44 (i_getf 0 4 47) := snd_getf dX1_companyOf_44 rfl (by decide) in_X1 (Or.inl q350) (Or.inl rfl) (by decide)
theorem oX1_companyOf_47 : SX1_companyOf 47 (i_getf 3 2 50) := snd_getf dX1_companyOf_47 rfl (by decide) in_X4 (Or.inr ⟨_, q296⟩) (Or.inl rfl) (by decide)
theorem oX1_companyOf_50 : SX1_companyOf 50 (i_iload 4 52) := snd_iload dX1_companyOf_50
theorem oX1_companyOf_52 : SX1_companyOf 52 (i_ai 0 53) := snd_ai0 dX1_companyOf_52
theorem oX1_companyOf_53 : SX1_companyOf 53 (i_cs 98 2 56) := snd_cs rfl infX1_isIn (by decide) (xSm_S dX1_companyOf_53 q1397 q1172 q127 q1173 pdX1_isIn)
theorem oX1_companyOf_56 : SX1_companyOf 56 (i_if1 (fun x => x = 0) 66 59) := snd_if_eq dX1_companyOf_56 (by decide)
theorem oX1_companyOf_59 : SX1_companyOf 59 (i_iload 2 60) := snd_iload_n dX1_companyOf_59 rfl
theorem oX1_companyOf_60 : SX1_companyOf 60 (i_const (.int (nI 1)) 61) := snd_iconst dX1_companyOf_60 (by decide)
theorem oX1_companyOf_61 : SX1_companyOf 61 (i_iload 4 63) := snd_iload dX1_companyOf_61
theorem oX1_companyOf_63 : SX1_companyOf 63 (i_ii (fun x y => x <<< (y &&& 31)) 64) := snd_ishl dX1_companyOf_63
theorem oX1_companyOf_64 : SX1_companyOf 64 (i_ii (fun x y => x ||| y) 65) := snd_ior dX1_companyOf_64
theorem oX1_companyOf_65 : SX1_companyOf 65 (i_istore 2 66) := snd_istore_n dX1_companyOf_65 rfl (by decide)
theorem oX1_companyOf_66 : SX1_companyOf 66 (i_iinc 4 (nI 1) 69) := snd_iinc dX1_companyOf_66 (by decide) (by decide)
theorem oX1_companyOf_69 : SX1_companyOf 69 (i_goto 27) := snd_goto dX1_companyOf_69 (by decide)
theorem oX1_companyOf_72 : SX1_companyOf 72 (i_iload 2 73) := snd_iload_n dX1_companyOf_72 rfl
theorem oX1_companyOf_73 : SX1_companyOf 73 (i_iret) := snd_iret dX1_companyOf_73 rfl
theorem okX1_companyOf : ∀ q ∈ cX1_companyOf, SX1_companyOf q.1 q.2 := List.forall_mem_cons.mpr ⟨oX1_companyOf_0, List.forall_mem_cons.mpr ⟨oX1_companyOf_1, List.forall_mem_cons.mpr ⟨oX1_companyOf_2, List.forall_mem_cons.mpr ⟨oX1_companyOf_3, List.forall_mem_cons.mpr ⟨oX1_companyOf_4, List.forall_mem_cons.mpr ⟨oX1_companyOf_7, List.forall_mem_cons.mpr ⟨oX1_companyOf_10, List.forall_mem_cons.mpr ⟨oX1_companyOf_11, List.forall_mem_cons.mpr ⟨oX1_companyOf_12, List.forall_mem_cons.mpr ⟨oX1_companyOf_13, List.forall_mem_cons.mpr ⟨oX1_companyOf_14, List.forall_mem_cons.mpr ⟨oX1_companyOf_17, List.forall_mem_cons.mpr ⟨oX1_companyOf_20, List.forall_mem_cons.mpr ⟨oX1_companyOf_23, List.forall_mem_cons.mpr ⟨oX1_companyOf_24, List.forall_mem_cons.mpr ⟨oX1_companyOf_25, List.forall_mem_cons.mpr ⟨oX1_companyOf_27, List.forall_mem_cons.mpr ⟨oX1_companyOf_29, List.forall_mem_cons.mpr ⟨oX1_companyOf_30, List.forall_mem_cons.mpr ⟨oX1_companyOf_33, List.forall_mem_cons.mpr ⟨oX1_companyOf_36, List.forall_mem_cons.mpr ⟨oX1_companyOf_38, List.forall_mem_cons.mpr ⟨oX1_companyOf_39, List.forall_mem_cons.mpr ⟨oX1_companyOf_42, List.forall_mem_cons.mpr ⟨oX1_companyOf_43, List.forall_mem_cons.mpr ⟨oX1_companyOf_44, List.forall_mem_cons.mpr ⟨oX1_companyOf_47, List.forall_mem_cons.mpr ⟨oX1_companyOf_50, List.forall_mem_cons.mpr ⟨oX1_companyOf_52, List.forall_mem_cons.mpr ⟨oX1_companyOf_53, List.forall_mem_cons.mpr ⟨oX1_companyOf_56, List.forall_mem_cons.mpr ⟨oX1_companyOf_59, List.forall_mem_cons.mpr ⟨oX1_companyOf_60, List.forall_mem_cons.mpr ⟨oX1_companyOf_61, List.forall_mem_cons.mpr ⟨oX1_companyOf_63, List.forall_mem_cons.mpr ⟨oX1_companyOf_64, List.forall_mem_cons.mpr ⟨oX1_companyOf_65, List.forall_mem_cons.mpr ⟨oX1_companyOf_66, List.forall_mem_cons.mpr ⟨oX1_companyOf_69, List.forall_mem_cons.mpr ⟨oX1_companyOf_72, List.forall_mem_cons.mpr ⟨oX1_companyOf_73, fun _ h => absurd h List.not_mem_nil⟩⟩⟩⟩⟩⟩⟩⟩⟩⟩⟩⟩⟩⟩⟩⟩⟩⟩⟩⟩⟩⟩⟩⟩⟩⟩⟩⟩⟩⟩⟩⟩⟩⟩⟩⟩⟩⟩⟩⟩⟩
def dkwX1_parts_2 : List UInt8 := [132, 3, 1, 167, 255, 215, 27, 172]
abbrev dktX1_parts_2 : List UInt8 := dkwX1_parts_2 ++ []
def dkwX1_parts_1 : List UInt8 := [167, 0, 22, 28, 42, 29, 42, 42, 180, 0, 51, 182, 1, 40, 182, 1, 43, 128, 61, 132, 1, 1]
abbrev dktX1_parts_1 : List UInt8 := dkwX1_parts_1 ++ dktX1_parts_2
def dkwX1_parts_0 : List UInt8 := [3, 60, 3, 61, 3, 62, 29, 42, 182, 0, 153, 162, 0, 39, 28, 29, 184, 1, 30, 153, 0, 6]
abbrev dktX1_parts_0 : List UInt8 := dkwX1_parts_0 ++ dktX1_parts_1
theorem dksX1_parts_0 : bcX1_parts.data.toList.drop 0 = dktX1_parts_0 := by decide +kernel
theorem dksX1_parts_1 : bcX1_parts.data.toList.drop 22 = dktX1_parts_1 := dk_seg dksX1_parts_0 22 rfl rfl
theorem dksX1_parts_2 : bcX1_parts.data.toList.drop 44 = dktX1_parts_2 := dk_seg dksX1_parts_1 22 rfl rfl
theorem dX1_parts_0 : decode bcX1_parts 0 = .ok (.iconst 0, 1) := dk_3 (dk_at dksX1_parts_0 0 rfl rfl)
theorem dX1_parts_1 : decode bcX1_parts 1 = .ok (.istore_n 1, 1) := dk_60 (dk_at dksX1_parts_0 1 rfl rfl)
theorem dX1_parts_2 : decode bcX1_parts 2 = .ok (.iconst 0, 1) := dk_3 (dk_at dksX1_parts_0 2 rfl rfl)
theorem dX1_parts_3 : decode bcX1_parts 3 = .ok (.istore_n 2, 1) := dk_61 (dk_at dksX1_parts_0 3 rfl rfl)
theorem dX1_parts_4 : decode bcX1_parts 4 = .ok (.iconst 0, 1) := dk_3 (dk_at dksX1_parts_0 4 rfl rfl)
theorem dX1_parts_5 : decode bcX1_parts 5 = .ok (.istore_n 3, 1) := dk_62 (dk_at dksX1_parts_0 5 rfl rfl)
theorem dX1_parts_6 : decode bcX1_parts 6 = .ok (.iload_n 3, 1) := dk_29 (dk_at dksX1_parts_0 6 rfl rfl)
theorem dX1_parts_7 : decode bcX1_parts 7 = .ok (.aload_n 0, 1) := dk_42 (dk_at dksX1_parts_0 7 rfl rfl)
theorem dX1_parts_8 : decode bcX1_parts 8 = .ok (.invokevirtual 153, 3) := dk_182 0 153 (dk_at dksX1_parts_0 8 rfl rfl)
theorem dX1_parts_11 : decode bcX1_parts 11 = .ok (.if_icmp .ge 39, 3) := dk_162 0 39 (dk_at dksX1_parts_0 11 rfl rfl)
theorem dX1_parts_14 : decode bcX1_parts 14 = .ok (.iload_n 2, 1) := dk_28 (dk_at dksX1_parts_0 14 rfl rfl)
theorem dX1_parts_15 : decode bcX1_parts 15 = .ok (.iload_n 3, 1) := dk_29 (dk_at dksX1_parts_0 15 rfl rfl)
theorem dX1_parts_16 : decode bcX1_parts 16 = .ok (.invokestatic 286, 3) := dk_184 1 30 (dk_at dksX1_parts_0 16 rfl rfl)
theorem dX1_parts_19 : decode bcX1_parts 19 = .ok (.ifCond .eq 6, 3) := dk_153 0 6 (dk_at dksX1_parts_0 19 rfl rfl)
theorem dX1_parts_22 : decode bcX1_parts 22 = .ok (.goto 22, 3) := dk_167 0 22 (dk_at dksX1_parts_1 0 rfl rfl)
theorem dX1_parts_25 : decode bcX1_parts 25 = .ok (.iload_n 2, 1) := dk_28 (dk_at dksX1_parts_1 3 rfl rfl)
theorem dX1_parts_26 : decode bcX1_parts 26 = .ok (.aload_n 0, 1) := dk_42 (dk_at dksX1_parts_1 4 rfl rfl)
theorem dX1_parts_27 : decode bcX1_parts 27 = .ok (.iload_n 3, 1) := dk_29 (dk_at dksX1_parts_1 5 rfl rfl)
theorem dX1_parts_28 : decode bcX1_parts 28 = .ok (.aload_n 0, 1) := dk_42 (dk_at dksX1_parts_1 6 rfl rfl)
theorem dX1_parts_29 : decode bcX1_parts 29 = .ok (.aload_n 0, 1) := dk_42 (dk_at dksX1_parts_1 7 rfl rfl)
theorem dX1_parts_30 : decode bcX1_parts 30 = .ok (.getfield 51, 3) := dk_180 0 51 (dk_at dksX1_parts_1 8 rfl rfl)
theorem dX1_parts_33 : decode bcX1_parts 33 = .ok (.invokevirtual 296, 3) := dk_182 1 40 (dk_at dksX1_parts_1 11 rfl rfl)
theorem dX1_parts_36 : decode bcX1_parts 36 = .ok (.invokevirtual 299, 3) := dk_182 1 43 (dk_at dksX1_parts_1 14 rfl rfl)
theorem dX1_parts_39 : decode bcX1_parts 39 = .ok (.ior, 1) := dk_128 (dk_at dksX1_parts_1 17 rfl rfl)
theorem dX1_parts_40 : decode bcX1_parts 40 = .ok (.istore_n 2, 1) := dk_61 (dk_at dksX1_parts_1 18 rfl rfl)
theorem dX1_parts_41 : decode bcX1_parts 41 = .ok (.iinc 1 1, 3) := dk_132 1 1 (dk_at dksX1_parts_1 19 rfl rfl)
theorem dX1_parts_44 : decode bcX1_parts 44 = .ok (.iinc 3 1, 3) := dk_132 3 1 (dk_at dksX1_parts_2 0 rfl rfl)
theorem dX1_parts_47 : decode bcX1_parts 47 = .ok (.goto (-41), 3) := dk_167 255 215 (dk_at dksX1_parts_2 3 rfl rfl)
theorem dX1_parts_50 : decode bcX1_parts 50 = .ok (.iload_n 1, 1) := dk_27 (dk_at dksX1_parts_2 6 rfl rfl)
theorem dX1_parts_51 : decode bcX1_parts 51 = .ok (.ireturn, 1) := dk_172 (dk_at dksX1_parts_2 7 rfl rfl)
abbrev SX1_parts (pc : Nat) (i : xI) : Prop := Snd "SwollenHouse" "parts" prog_1_method_43_code 4 (Option.some Jvm.ClassFile.FieldType.int) [] pc i
theorem oX1_parts_0 : SX1_parts 0 (i_const (.int (nI 0)) 1) := snd_iconst dX1_parts_0 (by decide)
theorem oX1_parts_1 : SX1_parts 1 (i_istore 1 2) := snd_istore_n dX1_parts_1 rfl (by decide)
theorem oX1_parts_2 : SX1_parts 2 (i_const (.int (nI 0)) 3) := snd_iconst dX1_parts_2 (by decide)
theorem oX1_parts_3 : SX1_parts 3 (i_istore 2 4) := snd_istore_n dX1_parts_3 rfl (by decide)
theorem oX1_parts_4 : SX1_parts 4 (i_const (.int (nI 0)) 5) := snd_iconst dX1_parts_4 (by decide)
theorem oX1_parts_5 : SX1_parts 5 (i_istore 3 6) := snd_istore_n dX1_parts_5 rfl (by decide)
theorem oX1_parts_6 : SX1_parts 6 (i_iload 3 7) := snd_iload_n dX1_parts_6 rfl
theorem oX1_parts_7 : SX1_parts 7 (i_aload 0 8) := snd_aload_n dX1_parts_7 rfl
theorem oX1_parts_8 : SX1_parts 8 (i_cv 0 120 0 11) := snd_cv rfl infX1_rooms (by decide) rfl (xVm_V dX1_parts_8 rfl q1381 q1383 qs42 q127 q1384 pdX1_rooms)
theorem oX1_parts_11 : SX1_parts 11 (i_if2 (fun x y => y ≤ x) 50 14) := snd_icmp_ge dX1_parts_11 (by decide)
theorem oX1_parts_14 : SX1_parts 14 (i_iload 2 15) := snd_iload_n dX1_parts_14 rfl
theorem oX1_parts_15 : SX1_parts 15 (i_iload 3 16) := snd_iload_n dX1_parts_15 rfl
theorem oX1_parts_16 : SX1_parts 16 (i_cs 98 2 19) := snd_cs rfl infX1_isIn (by decide) (xSm_S dX1_parts_16 q1397 q1172 q127 q1173 pdX1_isIn)
theorem oX1_parts_19 : SX1_parts 19 (i_if1 (fun x => x = 0) 25 22) := snd_if_eq dX1_parts_19 (by decide)
theorem oX1_parts_22 : SX1_parts 22 (i_goto 44) := snd_goto dX1_parts_22 (by decide)
theorem oX1_parts_25 : SX1_parts 25 (i_iload 2 26) := snd_iload_n dX1_parts_25 rfl
theorem oX1_parts_26 : SX1_parts 26 (i_aload 0 27) := snd_aload_n dX1_parts_26 rfl
theorem oX1_parts_27 : SX1_parts 27 (i_iload 3 28) := snd_iload_n dX1_parts_27 rfl
theorem oX1_parts_28 : SX1_parts 28 (i_aload 0 29) := snd_aload_n dX1_parts_28 rfl
theorem oX1_parts_29 : SX1_parts 29 (i_aload 0 30) := snd_aload_n dX1_parts_29 rfl
theorem oX1_parts_30 : SX1_parts 30 (i_getf 0 4 33) := snd_getf dX1_parts_30 rfl (by decide) in_X1 (Or.inl q350) (Or.inl rfl) (by decide)
theorem oX1_parts_33 : SX1_parts 33 (i_cv 0 121 1 36) := snd_cv rfl infX1_open (by decide) rfl (xVm_V dX1_parts_33 rfl q1385 q1387 qs43 q127 q1388 pdX1_open)
theorem oX1_parts_36 : SX1_parts 36 (i_cv 0 122 2 39) := snd_cv rfl infX1_range_2 (by decide) rfl (xVm_V dX1_parts_36 rfl q1389 q1391 qs44 q127 q1392 pdX1_range_2)
theorem oX1_parts_39 : SX1_parts 39 (i_ii (fun x y => x ||| y) 40) := snd_ior dX1_parts_39
theorem oX1_parts_40 : SX1_parts 40 (i_istore 2 41) := snd_istore_n dX1_parts_40 rfl (by decide)
theorem oX1_parts_41 : SX1_parts 41 (i_iinc 1 (nI 1) 44) := snd_iinc dX1_parts_41 (by decide) (by decide)
theorem oX1_parts_44 : SX1_parts 44 (i_iinc 3 (nI 1) 47) := snd_iinc dX1_parts_44 (by decide) (by decide)
theorem oX1_parts_47 : SX1_parts 47 (i_goto 6) := snd_goto dX1_parts_47 (by decide)
theorem oX1_parts_50 : SX1_parts 50 (i_iload 1 51) := snd_iload_n dX1_parts_50 rfl
theorem oX1_parts_51 : SX1_parts 51 (i_iret) := snd_iret dX1_parts_51 rfl
theorem okX1_parts : ∀ q ∈ cX1_parts, SX1_parts q.1 q.2 := List.forall_mem_cons.mpr ⟨oX1_parts_0, List.forall_mem_cons.mpr ⟨oX1_parts_1, List.forall_mem_cons.mpr ⟨oX1_parts_2, List.forall_mem_cons.mpr ⟨oX1_parts_3, List.forall_mem_cons.mpr ⟨oX1_parts_4, List.forall_mem_cons.mpr ⟨oX1_parts_5, List.forall_mem_cons.mpr ⟨oX1_parts_6, List.forall_mem_cons.mpr ⟨oX1_parts_7, List.forall_mem_cons.mpr ⟨oX1_parts_8, List.forall_mem_cons.mpr ⟨oX1_parts_11, List.forall_mem_cons.mpr ⟨oX1_parts_14, List.forall_mem_cons.mpr ⟨oX1_parts_15, List.forall_mem_cons.mpr ⟨oX1_parts_16, List.forall_mem_cons.mpr ⟨oX1_parts_19, List.forall_mem_cons.mpr ⟨oX1_parts_22, List.forall_mem_cons.mpr ⟨oX1_parts_25, List.forall_mem_cons.mpr ⟨oX1_parts_26, List.forall_mem_cons.mpr ⟨oX1_parts_27, List.forall_mem_cons.mpr ⟨oX1_parts_28, List.forall_mem_cons.mpr ⟨oX1_parts_29, List.forall_mem_cons.mpr ⟨oX1_parts_30, List.forall_mem_cons.mpr ⟨oX1_parts_33, List.forall_mem_cons.mpr ⟨oX1_parts_36, List.forall_mem_cons.mpr ⟨oX1_parts_39, List.forall_mem_cons.mpr ⟨oX1_parts_40, List.forall_mem_cons.mpr ⟨oX1_parts_41, List.forall_mem_cons.mpr ⟨oX1_parts_44, List.forall_mem_cons.mpr ⟨oX1_parts_47, List.forall_mem_cons.mpr ⟨oX1_parts_50, List.forall_mem_cons.mpr ⟨oX1_parts_51, fun _ h => absurd h List.not_mem_nil⟩⟩⟩⟩⟩⟩⟩⟩⟩⟩⟩⟩⟩⟩⟩⟩⟩⟩⟩⟩⟩⟩⟩⟩⟩⟩⟩⟩⟩⟩
def dkwX1_alone_1 : List UInt8 := [128, 60, 132, 2, 1, 167, 255, 231, 27, 172]
abbrev dktX1_alone_1 : List UInt8 := dkwX1_alone_1 ++ []
def dkwX1_alone_0 : List UInt8 := [3, 60, 3, 61, 28, 42, 182, 0, 161, 162, 0, 23, 42, 28, 182, 1, 46, 154, 0, 9, 27, 4, 28, 120]
abbrev dktX1_alone_0 : List UInt8 := dkwX1_alone_0 ++ dktX1_alone_1
theorem dksX1_alone_0 : bcX1_alone.data.toList.drop 0 = dktX1_alone_0 := by decide +kernel
theorem dksX1_alone_1 : bcX1_alone.data.toList.drop 24 = dktX1_alone_1 := dk_seg dksX1_alone_0 24 rfl rfl
theorem dX1_alone_0 : decode bcX1_alone 0 = .ok (.iconst 0, 1) := dk_3 (dk_at dksX1_alone_0 0 rfl rfl)
theorem dX1_alone_1 : decode bcX1_alone 1 = .ok (.istore_n 1, 1) := dk_60 (dk_at dksX1_alone_0 1 rfl rfl)
theorem dX1_alone_2 : decode bcX1_alone 2 = .ok (.iconst 0, 1) := dk_3 (dk_at dksX1_alone_0 2 rfl rfl)
theorem dX1_alone_3 : decode bcX1_alone 3 = .ok (.istore_n 2, 1) := dk_61 (dk_at dksX1_alone_0 3 rfl rfl)
theorem dX1_alone_4 : decode bcX1_alone 4 = .ok (.iload_n 2, 1) := dk_28 (dk_at dksX1_alone_0 4 rfl rfl)
theorem dX1_alone_5 : decode bcX1_alone 5 = .ok (.aload_n 0, 1) := dk_42 (dk_at dksX1_alone_0 5 rfl rfl)
theorem dX1_alone_6 : decode bcX1_alone 6 = .ok (.invokevirtual 161, 3) := dk_182 0 161 (dk_at dksX1_alone_0 6 rfl rfl)
theorem dX1_alone_9 : decode bcX1_alone 9 = .ok (.if_icmp .ge 23, 3) := dk_162 0 23 (dk_at dksX1_alone_0 9 rfl rfl)
theorem dX1_alone_12 : decode bcX1_alone 12 = .ok (.aload_n 0, 1) := dk_42 (dk_at dksX1_alone_0 12 rfl rfl)
theorem dX1_alone_13 : decode bcX1_alone 13 = .ok (.iload_n 2, 1) := dk_28 (dk_at dksX1_alone_0 13 rfl rfl)
theorem dX1_alone_14 : decode bcX1_alone 14 = .ok (.invokevirtual 302, 3) := dk_182 1 46 (dk_at dksX1_alone_0 14 rfl rfl)
theorem dX1_alone_17 : decode bcX1_alone 17 = .ok (.ifCond .ne 9, 3) := dk_154 0 9 (dk_at dksX1_alone_0 17 rfl rfl)
theorem dX1_alone_20 : decode bcX1_alone 20 = .ok (.iload_n 1, 1) := dk_27 (dk_at dksX1_alone_0 20 rfl rfl)
theorem dX1_alone_21 : decode bcX1_alone 21 = .ok (.iconst 1, 1) := dk_4 (dk_at dksX1_alone_0 21 rfl rfl)
theorem dX1_alone_22 : decode bcX1_alone 22 = .ok (.iload_n 2, 1) := dk_28 (dk_at dksX1_alone_0 22 rfl rfl)
theorem dX1_alone_23 : decode bcX1_alone 23 = .ok (.ishl, 1) := dk_120 (dk_at dksX1_alone_0 23 rfl rfl)
theorem dX1_alone_24 : decode bcX1_alone 24 = .ok (.ior, 1) := dk_128 (dk_at dksX1_alone_1 0 rfl rfl)
theorem dX1_alone_25 : decode bcX1_alone 25 = .ok (.istore_n 1, 1) := dk_60 (dk_at dksX1_alone_1 1 rfl rfl)
theorem dX1_alone_26 : decode bcX1_alone 26 = .ok (.iinc 2 1, 3) := dk_132 2 1 (dk_at dksX1_alone_1 2 rfl rfl)
theorem dX1_alone_29 : decode bcX1_alone 29 = .ok (.goto (-25), 3) := dk_167 255 231 (dk_at dksX1_alone_1 5 rfl rfl)
theorem dX1_alone_32 : decode bcX1_alone 32 = .ok (.iload_n 1, 1) := dk_27 (dk_at dksX1_alone_1 8 rfl rfl)
theorem dX1_alone_33 : decode bcX1_alone 33 = .ok (.ireturn, 1) := dk_172 (dk_at dksX1_alone_1 9 rfl rfl)
abbrev SX1_alone (pc : Nat) (i : xI) : Prop := Snd "SwollenHouse" "alone" prog_1_method_44_code 3 (Option.some Jvm.ClassFile.FieldType.int) [] pc i
theorem oX1_alone_0 : SX1_alone 0 (i_const (.int (nI 0)) 1) := snd_iconst dX1_alone_0 (by decide)
theorem oX1_alone_1 : SX1_alone 1 (i_istore 1 2) := snd_istore_n dX1_alone_1 rfl (by decide)
theorem oX1_alone_2 : SX1_alone 2 (i_const (.int (nI 0)) 3) := snd_iconst dX1_alone_2 (by decide)
theorem oX1_alone_3 : SX1_alone 3 (i_istore 2 4) := snd_istore_n dX1_alone_3 rfl (by decide)
theorem oX1_alone_4 : SX1_alone 4 (i_iload 2 5) := snd_iload_n dX1_alone_4 rfl
theorem oX1_alone_5 : SX1_alone 5 (i_aload 0 6) := snd_aload_n dX1_alone_5 rfl
theorem oX1_alone_6 : SX1_alone 6 (i_cv 0 101 0 9) := snd_cv rfl infX1_people (by decide) rfl (xVm_V dX1_alone_6 rfl q1182 q1184 qs33 q127 q1185 pdX1_people)
theorem oX1_alone_9 : SX1_alone 9 (i_if2 (fun x y => y ≤ x) 32 12) := snd_icmp_ge dX1_alone_9 (by decide)
theorem oX1_alone_12 : SX1_alone 12 (i_aload 0 13) := snd_aload_n dX1_alone_12 rfl
theorem oX1_alone_13 : SX1_alone 13 (i_iload 2 14) := snd_iload_n dX1_alone_13 rfl
theorem oX1_alone_14 : SX1_alone 14 (i_cv 0 125 1 17) := snd_cv rfl infX1_companyOf (by decide) rfl (xVm_V dX1_alone_14 rfl q1402 q1404 qs46 q127 q1405 pdX1_companyOf)
theorem oX1_alone_17 : SX1_alone 17 (i_if1 (fun x => ¬ x = 0) 26 20) := snd_if_ne dX1_alone_17 (by decide)
theorem oX1_alone_20 : SX1_alone 20 (i_iload 1 21) := snd_iload_n dX1_alone_20 rfl
theorem oX1_alone_21 : SX1_alone 21 (i_const (.int (nI 1)) 22) := snd_iconst dX1_alone_21 (by decide)
theorem oX1_alone_22 : SX1_alone 22 (i_iload 2 23) := snd_iload_n dX1_alone_22 rfl
theorem oX1_alone_23 : SX1_alone 23 (i_ii (fun x y => x <<< (y &&& 31)) 24) := snd_ishl dX1_alone_23
theorem oX1_alone_24 : SX1_alone 24 (i_ii (fun x y => x ||| y) 25) := snd_ior dX1_alone_24
theorem oX1_alone_25 : SX1_alone 25 (i_istore 1 26) := snd_istore_n dX1_alone_25 rfl (by decide)
theorem oX1_alone_26 : SX1_alone 26 (i_iinc 2 (nI 1) 29) := snd_iinc dX1_alone_26 (by decide) (by decide)
theorem oX1_alone_29 : SX1_alone 29 (i_goto 4) := snd_goto dX1_alone_29 (by decide)
theorem oX1_alone_32 : SX1_alone 32 (i_iload 1 33) := snd_iload_n dX1_alone_32 rfl
theorem oX1_alone_33 : SX1_alone 33 (i_iret) := snd_iret dX1_alone_33 rfl
theorem okX1_alone : ∀ q ∈ cX1_alone, SX1_alone q.1 q.2 := List.forall_mem_cons.mpr ⟨oX1_alone_0, List.forall_mem_cons.mpr ⟨oX1_alone_1, List.forall_mem_cons.mpr ⟨oX1_alone_2, List.forall_mem_cons.mpr ⟨oX1_alone_3, List.forall_mem_cons.mpr ⟨oX1_alone_4, List.forall_mem_cons.mpr ⟨oX1_alone_5, List.forall_mem_cons.mpr ⟨oX1_alone_6, List.forall_mem_cons.mpr ⟨oX1_alone_9, List.forall_mem_cons.mpr ⟨oX1_alone_12, List.forall_mem_cons.mpr ⟨oX1_alone_13, List.forall_mem_cons.mpr ⟨oX1_alone_14, List.forall_mem_cons.mpr ⟨oX1_alone_17, List.forall_mem_cons.mpr ⟨oX1_alone_20, List.forall_mem_cons.mpr ⟨oX1_alone_21, List.forall_mem_cons.mpr ⟨oX1_alone_22, List.forall_mem_cons.mpr ⟨oX1_alone_23, List.forall_mem_cons.mpr ⟨oX1_alone_24, List.forall_mem_cons.mpr ⟨oX1_alone_25, List.forall_mem_cons.mpr ⟨oX1_alone_26, List.forall_mem_cons.mpr ⟨oX1_alone_29, List.forall_mem_cons.mpr ⟨oX1_alone_32, List.forall_mem_cons.mpr ⟨oX1_alone_33, fun _ h => absurd h List.not_mem_nil⟩⟩⟩⟩⟩⟩⟩⟩⟩⟩⟩⟩⟩⟩⟩⟩⟩⟩⟩⟩⟩⟩
def dkwX1_bride_2 : List UInt8 := [167, 0, 8, 29, 60, 21, 4, 61, 132, 3, 1, 167, 255, 205, 27, 172]
abbrev dktX1_bride_2 : List UInt8 := dkwX1_bride_2 ++ []
def dkwX1_bride_1 : List UInt8 := [46, 42, 42, 180, 0, 51, 182, 1, 40, 182, 1, 43, 184, 1, 25, 54, 4, 21, 4, 28, 161, 0, 6]
abbrev dktX1_bride_1 : List UInt8 := dkwX1_bride_1 ++ dktX1_bride_2
def dkwX1_bride_0 : List UInt8 := [2, 60, 16, 8, 61, 3, 62, 29, 42, 182, 0, 161, 162, 0, 49, 42, 42, 180, 0, 51, 180, 0, 229, 29]
abbrev dktX1_bride_0 : List UInt8 := dkwX1_bride_0 ++ dktX1_bride_1
theorem dksX1_bride_0 : bcX1_bride.data.toList.drop 0 = dktX1_bride_0 := by decide +kernel
theorem dksX1_bride_1 : bcX1_bride.data.toList.drop 24 = dktX1_bride_1 := dk_seg dksX1_bride_0 24 rfl rfl
theorem dksX1_bride_2 : bcX1_bride.data.toList.drop 47 = dktX1_bride_2 := dk_seg dksX1_bride_1 23 rfl rfl
theorem dX1_bride_0 : decode bcX1_bride 0 = .ok (.iconst (-1), 1) := dk_2 (dk_at dksX1_bride_0 0 rfl rfl)
theorem dX1_bride_1 : decode bcX1_bride 1 = .ok (.istore_n 1, 1) := dk_60 (dk_at dksX1_bride_0 1 rfl rfl)
theorem dX1_bride_2 : decode bcX1_bride 2 = .ok (.bipush 8, 2) := dk_16 8 (dk_at dksX1_bride_0 2 rfl rfl)
theorem dX1_bride_4 : decode bcX1_bride 4 = .ok (.istore_n 2, 1) := dk_61 (dk_at dksX1_bride_0 4 rfl rfl)
theorem dX1_bride_5 : decode bcX1_bride 5 = .ok (.iconst 0, 1) := dk_3 (dk_at dksX1_bride_0 5 rfl rfl)
theorem dX1_bride_6 : decode bcX1_bride 6 = .ok (.istore_n 3, 1) := dk_62 (dk_at dksX1_bride_0 6 rfl rfl)
theorem dX1_bride_7 : decode bcX1_bride 7 = .ok (.iload_n 3, 1) := dk_29 (dk_at dksX1_bride_0 7 rfl rfl)
theorem dX1_bride_8 : decode bcX1_bride 8 = .ok (.aload_n 0, 1) := dk_42 (dk_at dksX1_bride_0 8 rfl rfl)
theorem dX1_bride_9 : decode bcX1_bride 9 = .ok (.invokevirtual 161, 3) := dk_182 0 161 (dk_at dksX1_bride_0 9 rfl rfl)
theorem dX1_bride_12 : decode bcX1_bride 12 = .ok (.if_icmp .ge 49, 3) := dk_162 0 49 (dk_at dksX1_bride_0 12 rfl rfl)
theorem dX1_bride_15 : decode bcX1_bride 15 = .ok (.aload_n 0, 1) := dk_42 (dk_at dksX1_bride_0 15 rfl rfl)
theorem dX1_bride_16 : decode bcX1_bride 16 = .ok (.aload_n 0, 1) := dk_42 (dk_at dksX1_bride_0 16 rfl rfl)
theorem dX1_bride_17 : decode bcX1_bride 17 = .ok (.getfield 51, 3) := dk_180 0 51 (dk_at dksX1_bride_0 17 rfl rfl)
theorem dX1_bride_20 : decode bcX1_bride 20 = .ok (.getfield 229, 3) := dk_180 0 229 (dk_at dksX1_bride_0 20 rfl rfl)
theorem dX1_bride_23 : decode bcX1_bride 23 = .ok (.iload_n 3, 1) := dk_29 (dk_at dksX1_bride_0 23 rfl rfl)
theorem dX1_bride_24 : decode bcX1_bride 24 = .ok (.iaload, 1) := dk_46 (dk_at dksX1_bride_1 0 rfl rfl)
theorem dX1_bride_25 : decode bcX1_bride 25 = .ok (.aload_n 0, 1) := dk_42 (dk_at dksX1_bride_1 1 rfl rfl)
theorem dX1_bride_26 : decode bcX1_bride 26 = .ok (.aload_n 0, 1) := dk_42 (dk_at dksX1_bride_1 2 rfl rfl)
theorem dX1_bride_27 : decode bcX1_bride 27 = .ok (.getfield 51, 3) := dk_180 0 51 (dk_at dksX1_bride_1 3 rfl rfl)
theorem dX1_bride_30 : decode bcX1_bride 30 = .ok (.invokevirtual 296, 3) := dk_182 1 40 (dk_at dksX1_bride_1 6 rfl rfl)
theorem dX1_bride_33 : decode bcX1_bride 33 = .ok (.invokevirtual 299, 3) := dk_182 1 43 (dk_at dksX1_bride_1 9 rfl rfl)
theorem dX1_bride_36 : decode bcX1_bride 36 = .ok (.invokestatic 281, 3) := dk_184 1 25 (dk_at dksX1_bride_1 12 rfl rfl)
theorem dX1_bride_39 : decode bcX1_bride 39 = .ok (.istore 4, 2) := dk_54 4 (dk_at dksX1_bride_1 15 rfl rfl)
theorem dX1_bride_41 : decode bcX1_bride 41 = .ok (.iload 4, 2) := dk_21 4 (dk_at dksX1_bride_1 17 rfl rfl)
theorem dX1_bride_43 : decode bcX1_bride 43 = .ok (.iload_n 2, 1) := dk_28 (dk_at dksX1_bride_1 19 rfl rfl)
theorem dX1_bride_44 : decode bcX1_bride 44 = .ok (.if_icmp .lt 6, 3) := dk_161 0 6 (dk_at dksX1_bride_1 20 rfl rfl)
theorem dX1_bride_47 : decode bcX1_bride 47 = .ok (.goto 8, 3) := dk_167 0 8 (dk_at dksX1_bride_2 0 rfl rfl)
theorem dX1_bride_50 : decode bcX1_bride 50 = .ok (.iload_n 3, 1) := dk_29 (dk_at dksX1_bride_2 3 rfl rfl)
theorem dX1_bride_51 : decode bcX1_bride 51 = .ok (.istore_n 1, 1) := dk_60 (dk_at dksX1_bride_2 4 rfl rfl)
theorem dX1_bride_52 : decode bcX1_bride 52 = .ok (.iload 4, 2) := dk_21 4 (dk_at dksX1_bride_2 5 rfl rfl)
theorem dX1_bride_54 : decode bcX1_bride 54 = .ok (.istore_n 2, 1) := dk_61 (dk_at dksX1_bride_2 7 rfl rfl)
theorem dX1_bride_55 : decode bcX1_bride 55 = .ok (.iinc 3 1, 3) := dk_132 3 1 (dk_at dksX1_bride_2 8 rfl rfl)
theorem dX1_bride_58 : decode bcX1_bride 58 = .ok (.goto (-51), 3) := dk_167 255 205 (dk_at dksX1_bride_2 11 rfl rfl)
theorem dX1_bride_61 : decode bcX1_bride 61 = .ok (.iload_n 1, 1) := dk_27 (dk_at dksX1_bride_2 14 rfl rfl)
theorem dX1_bride_62 : decode bcX1_bride 62 = .ok (.ireturn, 1) := dk_172 (dk_at dksX1_bride_2 15 rfl rfl)
abbrev SX1_bride (pc : Nat) (i : xI) : Prop := Snd "SwollenHouse" "bride" prog_1_method_45_code 5 (Option.some Jvm.ClassFile.FieldType.int) [] pc i
theorem oX1_bride_0 : SX1_bride 0 (i_const (.int (-1)) 1) := snd_iconst dX1_bride_0 (by decide)
theorem oX1_bride_1 : SX1_bride 1 (i_istore 1 2) := snd_istore_n dX1_bride_1 rfl (by decide)
theorem oX1_bride_2 : SX1_bride 2 (i_const (.int (nI 8)) 4) := snd_bipush dX1_bride_2 (by decide)
theorem oX1_bride_4 : SX1_bride 4 (i_istore 2 5) := snd_istore_n dX1_bride_4 rfl (by decide)
theorem oX1_bride_5 : SX1_bride 5 (i_const (.int (nI 0)) 6) := snd_iconst dX1_bride_5 (by decide)
theorem oX1_bride_6 : SX1_bride 6 (i_istore 3 7) := snd_istore_n dX1_bride_6 rfl (by decide)
theorem oX1_bride_7 : SX1_bride 7 (i_iload 3 8) := snd_iload_n dX1_bride_7 rfl
theorem oX1_bride_8 : SX1_bride 8 (i_aload 0 9) := snd_aload_n dX1_bride_8 rfl
theorem oX1_bride_9 : SX1_bride 9 (i_cv 0 101 0 12) := snd_cv rfl infX1_people (by decide) rfl (xVm_V dX1_bride_9 rfl q1182 q1184 qs33 q127 q1185 pdX1_people)
theorem oX1_bride_12 : SX1_bride 12 (i_if2 (fun x y => y ≤ x) 61 15) := snd_icmp_ge dX1_bride_12 (by decide)
theorem oX1_bride_15 : SX1_bride 15 (i_aload 0 16) := snd_aload_n dX1_bride_15 rfl
theorem oX1_bride_16 : SX1_bride 16 (i_aload 0 17) := snd_aload_n dX1_bride_16 rfl
theorem oX1_bride_17 : SX1_bride 17 (i_getf 0 4 20) := snd_getf dX1_bride_17 rfl (by decide) in_X1 (Or.inl q350) (Or.inl rfl) (by decide)
theorem oX1_bride_20 : SX1_bride 20 (i_getf 3 2 23) := snd_getf dX1_bride_20 rfl (by decide) in_X4 (Or.inr ⟨_, q296⟩) (Or.inl rfl) (by decide)
theorem oX1_bride_23 : SX1_bride 23 (i_iload 3 24) := snd_iload_n dX1_bride_23 rfl
theorem oX1_bride_24 : SX1_bride 24 (i_ai 0 25) := snd_ai0 dX1_bride_24
theorem oX1_bride_25 : SX1_bride 25 (i_aload 0 26) := snd_aload_n dX1_bride_25 rfl
theorem oX1_bride_26 : SX1_bride 26 (i_aload 0 27) := snd_aload_n dX1_bride_26 rfl
theorem oX1_bride_27 : SX1_bride 27 (i_getf 0 4 30) := snd_getf dX1_bride_27 rfl (by decide) in_X1 (Or.inl q350) (Or.inl rfl) (by decide)
theorem oX1_bride_30 : SX1_bride 30 (i_cv 0 121 1 33) := snd_cv rfl infX1_open (by decide) rfl (xVm_V dX1_bride_30 rfl q1385 q1387 qs43 q127 q1388 pdX1_open)
theorem oX1_bride_33 : SX1_bride 33 (i_cv 0 122 2 36) := snd_cv rfl infX1_range_2 (by decide) rfl (xVm_V dX1_bride_33 rfl q1389 q1391 qs44 q127 q1392 pdX1_range_2)
theorem oX1_bride_36 : SX1_bride 36 (i_cs 28 1 39) := snd_cs rfl infJ17_bitCount (by decide) (xSm_S dX1_bride_36 q1363 q1364 q168 q1365 pdJ17_bitCount)
theorem oX1_bride_39 : SX1_bride 39 (i_istore 4 41) := snd_istore dX1_bride_39 (by decide)
theorem oX1_bride_41 : SX1_bride 41 (i_iload 4 43) := snd_iload dX1_bride_41
theorem oX1_bride_43 : SX1_bride 43 (i_iload 2 44) := snd_iload_n dX1_bride_43 rfl
theorem oX1_bride_44 : SX1_bride 44 (i_if2 (fun x y => x < y) 50 47) := snd_icmp_lt dX1_bride_44 (by decide)
theorem oX1_bride_47 : SX1_bride 47 (i_goto 55) := snd_goto dX1_bride_47 (by decide)
theorem oX1_bride_50 : SX1_bride 50 (i_iload 3 51) := snd_iload_n dX1_bride_50 rfl
theorem oX1_bride_51 : SX1_bride 51 (i_istore 1 52) := snd_istore_n dX1_bride_51 rfl (by decide)
theorem oX1_bride_52 : SX1_bride 52 (i_iload 4 54) := snd_iload dX1_bride_52
theorem oX1_bride_54 : SX1_bride 54 (i_istore 2 55) := snd_istore_n dX1_bride_54 rfl (by decide)
theorem oX1_bride_55 : SX1_bride 55 (i_iinc 3 (nI 1) 58) := snd_iinc dX1_bride_55 (by decide) (by decide)
theorem oX1_bride_58 : SX1_bride 58 (i_goto 7) := snd_goto dX1_bride_58 (by decide)
theorem oX1_bride_61 : SX1_bride 61 (i_iload 1 62) := snd_iload_n dX1_bride_61 rfl
theorem oX1_bride_62 : SX1_bride 62 (i_iret) := snd_iret dX1_bride_62 rfl
theorem okX1_bride : ∀ q ∈ cX1_bride, SX1_bride q.1 q.2 := List.forall_mem_cons.mpr ⟨oX1_bride_0, List.forall_mem_cons.mpr ⟨oX1_bride_1, List.forall_mem_cons.mpr ⟨oX1_bride_2, List.forall_mem_cons.mpr ⟨oX1_bride_4, List.forall_mem_cons.mpr ⟨oX1_bride_5, List.forall_mem_cons.mpr ⟨oX1_bride_6, List.forall_mem_cons.mpr ⟨oX1_bride_7, List.forall_mem_cons.mpr ⟨oX1_bride_8, List.forall_mem_cons.mpr ⟨oX1_bride_9, List.forall_mem_cons.mpr ⟨oX1_bride_12, List.forall_mem_cons.mpr ⟨oX1_bride_15, List.forall_mem_cons.mpr ⟨oX1_bride_16, List.forall_mem_cons.mpr ⟨oX1_bride_17, List.forall_mem_cons.mpr ⟨oX1_bride_20, List.forall_mem_cons.mpr ⟨oX1_bride_23, List.forall_mem_cons.mpr ⟨oX1_bride_24, List.forall_mem_cons.mpr ⟨oX1_bride_25, List.forall_mem_cons.mpr ⟨oX1_bride_26, List.forall_mem_cons.mpr ⟨oX1_bride_27, List.forall_mem_cons.mpr ⟨oX1_bride_30, List.forall_mem_cons.mpr ⟨oX1_bride_33, List.forall_mem_cons.mpr ⟨oX1_bride_36, List.forall_mem_cons.mpr ⟨oX1_bride_39, List.forall_mem_cons.mpr ⟨oX1_bride_41, List.forall_mem_cons.mpr ⟨oX1_bride_43, List.forall_mem_cons.mpr ⟨oX1_bride_44, List.forall_mem_cons.mpr ⟨oX1_bride_47, List.forall_mem_cons.mpr ⟨oX1_bride_50, List.forall_mem_cons.mpr ⟨oX1_bride_51, List.forall_mem_cons.mpr ⟨oX1_bride_52, List.forall_mem_cons.mpr ⟨oX1_bride_54, List.forall_mem_cons.mpr ⟨oX1_bride_55, List.forall_mem_cons.mpr ⟨oX1_bride_58, List.forall_mem_cons.mpr ⟨oX1_bride_61, List.forall_mem_cons.mpr ⟨oX1_bride_62, fun _ h => absurd h List.not_mem_nil⟩⟩⟩⟩⟩⟩⟩⟩⟩⟩⟩⟩⟩⟩⟩⟩⟩⟩⟩⟩⟩⟩⟩⟩⟩⟩⟩⟩⟩⟩⟩⟩⟩⟩⟩
def dkwX1_deep_2 : List UInt8 := [132, 3, 1, 167, 255, 222, 29, 172]
abbrev dktX1_deep_2 : List UInt8 := dkwX1_deep_2 ++ []
def dkwX1_deep_1 : List UInt8 := [182, 1, 40, 182, 1, 34, 28, 159, 0, 23, 42, 28, 42, 42, 180, 0, 51, 182, 1, 40, 182, 1, 34, 61]
abbrev dktX1_deep_1 : List UInt8 := dkwX1_deep_1 ++ dktX1_deep_2
def dkwX1_deep_0 : List UInt8 := [42, 27, 182, 1, 37, 154, 0, 5, 2, 172, 4, 27, 120, 61, 3, 62, 42, 28, 42, 42, 180, 0, 51]
abbrev dktX1_deep_0 : List UInt8 := dkwX1_deep_0 ++ dktX1_deep_1
theorem dksX1_deep_0 : bcX1_deep.data.toList.drop 0 = dktX1_deep_0 := by decide +kernel
theorem dksX1_deep_1 : bcX1_deep.data.toList.drop 23 = dktX1_deep_1 := dk_seg dksX1_deep_0 23 rfl rfl
theorem dksX1_deep_2 : bcX1_deep.data.toList.drop 47 = dktX1_deep_2 := dk_seg dksX1_deep_1 24 rfl rfl
theorem dX1_deep_0 : decode bcX1_deep 0 = .ok (.aload_n 0, 1) := dk_42 (dk_at dksX1_deep_0 0 rfl rfl)
theorem dX1_deep_1 : decode bcX1_deep 1 = .ok (.iload_n 1, 1) := dk_27 (dk_at dksX1_deep_0 1 rfl rfl)
theorem dX1_deep_2 : decode bcX1_deep 2 = .ok (.invokevirtual 293, 3) := dk_182 1 37 (dk_at dksX1_deep_0 2 rfl rfl)
theorem dX1_deep_5 : decode bcX1_deep 5 = .ok (.ifCond .ne 5, 3) := dk_154 0 5 (dk_at dksX1_deep_0 5 rfl rfl)
theorem dX1_deep_8 : decode bcX1_deep 8 = .ok (.iconst (-1), 1) := dk_2 (dk_at dksX1_deep_0 8 rfl rfl)
theorem dX1_deep_9 : decode bcX1_deep 9 = .ok (.ireturn, 1) := dk_172 (dk_at dksX1_deep_0 9 rfl rfl)
theorem dX1_deep_10 : decode bcX1_deep 10 = .ok (.iconst 1, 1) := dk_4 (dk_at dksX1_deep_0 10 rfl rfl)
theorem dX1_deep_11 : decode bcX1_deep 11 = .ok (.iload_n 1, 1) := dk_27 (dk_at dksX1_deep_0 11 rfl rfl)
theorem dX1_deep_12 : decode bcX1_deep 12 = .ok (.ishl, 1) := dk_120 (dk_at dksX1_deep_0 12 rfl rfl)
theorem dX1_deep_13 : decode bcX1_deep 13 = .ok (.istore_n 2, 1) := dk_61 (dk_at dksX1_deep_0 13 rfl rfl)
theorem dX1_deep_14 : decode bcX1_deep 14 = .ok (.iconst 0, 1) := dk_3 (dk_at dksX1_deep_0 14 rfl rfl)
theorem dX1_deep_15 : decode bcX1_deep 15 = .ok (.istore_n 3, 1) := dk_62 (dk_at dksX1_deep_0 15 rfl rfl)
theorem dX1_deep_16 : decode bcX1_deep 16 = .ok (.aload_n 0, 1) := dk_42 (dk_at dksX1_deep_0 16 rfl rfl)
theorem dX1_deep_17 : decode bcX1_deep 17 = .ok (.iload_n 2, 1) := dk_28 (dk_at dksX1_deep_0 17 rfl rfl)
theorem dX1_deep_18 : decode bcX1_deep 18 = .ok (.aload_n 0, 1) := dk_42 (dk_at dksX1_deep_0 18 rfl rfl)
theorem dX1_deep_19 : decode bcX1_deep 19 = .ok (.aload_n 0, 1) := dk_42 (dk_at dksX1_deep_0 19 rfl rfl)
theorem dX1_deep_20 : decode bcX1_deep 20 = .ok (.getfield 51, 3) := dk_180 0 51 (dk_at dksX1_deep_0 20 rfl rfl)
theorem dX1_deep_23 : decode bcX1_deep 23 = .ok (.invokevirtual 296, 3) := dk_182 1 40 (dk_at dksX1_deep_1 0 rfl rfl)
theorem dX1_deep_26 : decode bcX1_deep 26 = .ok (.invokevirtual 290, 3) := dk_182 1 34 (dk_at dksX1_deep_1 3 rfl rfl)
theorem dX1_deep_29 : decode bcX1_deep 29 = .ok (.iload_n 2, 1) := dk_28 (dk_at dksX1_deep_1 6 rfl rfl)
theorem dX1_deep_30 : decode bcX1_deep 30 = .ok (.if_icmp .eq 23, 3) := dk_159 0 23 (dk_at dksX1_deep_1 7 rfl rfl)
theorem dX1_deep_33 : decode bcX1_deep 33 = .ok (.aload_n 0, 1) := dk_42 (dk_at dksX1_deep_1 10 rfl rfl)
theorem dX1_deep_34 : decode bcX1_deep 34 = .ok (.iload_n 2, 1) := dk_28 (dk_at dksX1_deep_1 11 rfl rfl)
theorem dX1_deep_35 : decode bcX1_deep 35 = .ok (.aload_n 0, 1) := dk_42 (dk_at dksX1_deep_1 12 rfl rfl)
theorem dX1_deep_36 : decode bcX1_deep 36 = .ok (.aload_n 0, 1) := dk_42 (dk_at dksX1_deep_1 13 rfl rfl)
theorem dX1_deep_37 : decode bcX1_deep 37 = .ok (.getfield 51, 3) := dk_180 0 51 (dk_at dksX1_deep_1 14 rfl rfl)
theorem dX1_deep_40 : decode bcX1_deep 40 = .ok (.invokevirtual 296, 3) := dk_182 1 40 (dk_at dksX1_deep_1 17 rfl rfl)
theorem dX1_deep_43 : decode bcX1_deep 43 = .ok (.invokevirtual 290, 3) := dk_182 1 34 (dk_at dksX1_deep_1 20 rfl rfl)
theorem dX1_deep_46 : decode bcX1_deep 46 = .ok (.istore_n 2, 1) := dk_61 (dk_at dksX1_deep_1 23 rfl rfl)
theorem dX1_deep_47 : decode bcX1_deep 47 = .ok (.iinc 3 1, 3) := dk_132 3 1 (dk_at dksX1_deep_2 0 rfl rfl)
theorem dX1_deep_50 : decode bcX1_deep 50 = .ok (.goto (-34), 3) := dk_167 255 222 (dk_at dksX1_deep_2 3 rfl rfl)
theorem dX1_deep_53 : decode bcX1_deep 53 = .ok (.iload_n 3, 1) := dk_29 (dk_at dksX1_deep_2 6 rfl rfl)
theorem dX1_deep_54 : decode bcX1_deep 54 = .ok (.ireturn, 1) := dk_172 (dk_at dksX1_deep_2 7 rfl rfl)
abbrev SX1_deep (pc : Nat) (i : xI) : Prop := Snd "SwollenHouse" "deep" prog_1_method_46_code 4 (Option.some Jvm.ClassFile.FieldType.int) [] pc i
theorem oX1_deep_0 : SX1_deep 0 (i_aload 0 1) := snd_aload_n dX1_deep_0 rfl
theorem oX1_deep_1 : SX1_deep 1 (i_iload 1 2) := snd_iload_n dX1_deep_1 rfl
theorem oX1_deep_2 : SX1_deep 2 (i_cv 0 119 1 5) := snd_cv rfl infX1_isRoom (by decide) rfl (xVm_V dX1_deep_2 rfl q1377 q1379 qs41 q127 q1380 pdX1_isRoom)
theorem oX1_deep_5 : SX1_deep 5 (i_if1 (fun x => ¬ x = 0) 10 8) := snd_if_ne dX1_deep_5 (by decide)
theorem oX1_deep_8 : SX1_deep 8 (i_const (.int (-1)) 9) := snd_iconst dX1_deep_8 (by decide)
theorem oX1_deep_9 : SX1_deep 9 (i_iret) := snd_iret dX1_deep_9 rfl
theorem oX1_deep_10 : SX1_deep 10 (i_const (.int (nI 1)) 11) := snd_iconst dX1_deep_10 (by decide)
theorem oX1_deep_11 : SX1_deep 11 (i_iload 1 12) := snd_iload_n dX1_deep_11 rfl
theorem oX1_deep_12 : SX1_deep 12 (i_ii (fun x y => x <<< (y &&& 31)) 13) := snd_ishl dX1_deep_12
theorem oX1_deep_13 : SX1_deep 13 (i_istore 2 14) := snd_istore_n dX1_deep_13 rfl (by decide)
theorem oX1_deep_14 : SX1_deep 14 (i_const (.int (nI 0)) 15) := snd_iconst dX1_deep_14 (by decide)
theorem oX1_deep_15 : SX1_deep 15 (i_istore 3 16) := snd_istore_n dX1_deep_15 rfl (by decide)
theorem oX1_deep_16 : SX1_deep 16 (i_aload 0 17) := snd_aload_n dX1_deep_16 rfl
theorem oX1_deep_17 : SX1_deep 17 (i_iload 2 18) := snd_iload_n dX1_deep_17 rfl
theorem oX1_deep_18 : SX1_deep 18 (i_aload 0 19) := snd_aload_n dX1_deep_18 rfl
theorem oX1_deep_19 : SX1_deep 19 (i_aload 0 20) := snd_aload_n dX1_deep_19 rfl
theorem oX1_deep_20 : SX1_deep 20 (i_getf 0 4 23) := snd_getf dX1_deep_20 rfl (by decide) in_X1 (Or.inl q350) (Or.inl rfl) (by decide)
theorem oX1_deep_23 : SX1_deep 23 (i_cv 0 121 1 26) := snd_cv rfl infX1_open (by decide) rfl (xVm_V dX1_deep_23 rfl q1385 q1387 qs43 q127 q1388 pdX1_open)
theorem oX1_deep_26 : SX1_deep 26 (i_cv 0 123 2 29) := snd_cv rfl infX1_next (by decide) rfl (xVm_V dX1_deep_26 rfl q1393 q1395 qs45 q127 q1396 pdX1_next)
theorem oX1_deep_29 : SX1_deep 29 (i_iload 2 30) := snd_iload_n dX1_deep_29 rfl
theorem oX1_deep_30 : SX1_deep 30 (i_if2 (fun x y => x = y) 53 33) := snd_icmp_eq dX1_deep_30 (by decide)
theorem oX1_deep_33 : SX1_deep 33 (i_aload 0 34) := snd_aload_n dX1_deep_33 rfl
theorem oX1_deep_34 : SX1_deep 34 (i_iload 2 35) := snd_iload_n dX1_deep_34 rfl
theorem oX1_deep_35 : SX1_deep 35 (i_aload 0 36) := snd_aload_n dX1_deep_35 rfl
theorem oX1_deep_36 : SX1_deep 36 (i_aload 0 37) := snd_aload_n dX1_deep_36 rfl
theorem oX1_deep_37 : SX1_deep 37 (i_getf 0 4 40) := snd_getf dX1_deep_37 rfl (by decide) in_X1 (Or.inl q350) (Or.inl rfl) (by decide)
theorem oX1_deep_40 : SX1_deep 40 (i_cv 0 121 1 43) := snd_cv rfl infX1_open (by decide) rfl (xVm_V dX1_deep_40 rfl q1385 q1387 qs43 q127 q1388 pdX1_open)
theorem oX1_deep_43 : SX1_deep 43 (i_cv 0 123 2 46) := snd_cv rfl infX1_next (by decide) rfl (xVm_V dX1_deep_43 rfl q1393 q1395 qs45 q127 q1396 pdX1_next)
theorem oX1_deep_46 : SX1_deep 46 (i_istore 2 47) := snd_istore_n dX1_deep_46 rfl (by decide)
theorem oX1_deep_47 : SX1_deep 47 (i_iinc 3 (nI 1) 50) := snd_iinc dX1_deep_47 (by decide) (by decide)
theorem oX1_deep_50 : SX1_deep 50 (i_goto 16) := snd_goto dX1_deep_50 (by decide)
theorem oX1_deep_53 : SX1_deep 53 (i_iload 3 54) := snd_iload_n dX1_deep_53 rfl
theorem oX1_deep_54 : SX1_deep 54 (i_iret) := snd_iret dX1_deep_54 rfl
theorem okX1_deep : ∀ q ∈ cX1_deep, SX1_deep q.1 q.2 := List.forall_mem_cons.mpr ⟨oX1_deep_0, List.forall_mem_cons.mpr ⟨oX1_deep_1, List.forall_mem_cons.mpr ⟨oX1_deep_2, List.forall_mem_cons.mpr ⟨oX1_deep_5, List.forall_mem_cons.mpr ⟨oX1_deep_8, List.forall_mem_cons.mpr ⟨oX1_deep_9, List.forall_mem_cons.mpr ⟨oX1_deep_10, List.forall_mem_cons.mpr ⟨oX1_deep_11, List.forall_mem_cons.mpr ⟨oX1_deep_12, List.forall_mem_cons.mpr ⟨oX1_deep_13, List.forall_mem_cons.mpr ⟨oX1_deep_14, List.forall_mem_cons.mpr ⟨oX1_deep_15, List.forall_mem_cons.mpr ⟨oX1_deep_16, List.forall_mem_cons.mpr ⟨oX1_deep_17, List.forall_mem_cons.mpr ⟨oX1_deep_18, List.forall_mem_cons.mpr ⟨oX1_deep_19, List.forall_mem_cons.mpr ⟨oX1_deep_20, List.forall_mem_cons.mpr ⟨oX1_deep_23, List.forall_mem_cons.mpr ⟨oX1_deep_26, List.forall_mem_cons.mpr ⟨oX1_deep_29, List.forall_mem_cons.mpr ⟨oX1_deep_30, List.forall_mem_cons.mpr ⟨oX1_deep_33, List.forall_mem_cons.mpr ⟨oX1_deep_34, List.forall_mem_cons.mpr ⟨oX1_deep_35, List.forall_mem_cons.mpr ⟨oX1_deep_36, List.forall_mem_cons.mpr ⟨oX1_deep_37, List.forall_mem_cons.mpr ⟨oX1_deep_40, List.forall_mem_cons.mpr ⟨oX1_deep_43, List.forall_mem_cons.mpr ⟨oX1_deep_46, List.forall_mem_cons.mpr ⟨oX1_deep_47, List.forall_mem_cons.mpr ⟨oX1_deep_50, List.forall_mem_cons.mpr ⟨oX1_deep_53, List.forall_mem_cons.mpr ⟨oX1_deep_54, fun _ h => absurd h List.not_mem_nil⟩⟩⟩⟩⟩⟩⟩⟩⟩⟩⟩⟩⟩⟩⟩⟩⟩⟩⟩⟩⟩⟩⟩⟩⟩⟩⟩⟩⟩⟩⟩⟩⟩
def dkwX1_later_1 : List UInt8 := [42, 180, 0, 51, 182, 0, 253, 42, 28, 182, 1, 49, 42, 180, 0, 55, 180, 0, 176, 27, 46, 172]
abbrev dktX1_later_1 : List UInt8 := dkwX1_later_1 ++ []
def dkwX1_later_0 : List UInt8 := [42, 27, 182, 0, 226, 153, 0, 13, 28, 3, 16, 60, 184, 0, 155, 154, 0, 5, 2, 172, 42, 180, 0, 55]
abbrev dktX1_later_0 : List UInt8 := dkwX1_later_0 ++ dktX1_later_1
theorem dksX1_later_0 : bcX1_later.data.toList.drop 0 = dktX1_later_0 := by decide +kernel
theorem dksX1_later_1 : bcX1_later.data.toList.drop 24 = dktX1_later_1 := dk_seg dksX1_later_0 24 rfl rfl
theorem dX1_later_0 : decode bcX1_later 0 = .ok (.aload_n 0, 1) := dk_42 (dk_at dksX1_later_0 0 rfl rfl)
theorem dX1_later_1 : decode bcX1_later 1 = .ok (.iload_n 1, 1) := dk_27 (dk_at dksX1_later_0 1 rfl rfl)
theorem dX1_later_2 : decode bcX1_later 2 = .ok (.invokevirtual 226, 3) := dk_182 0 226 (dk_at dksX1_later_0 2 rfl rfl)
theorem dX1_later_5 : decode bcX1_later 5 = .ok (.ifCond .eq 13, 3) := dk_153 0 13 (dk_at dksX1_later_0 5 rfl rfl)
theorem dX1_later_8 : decode bcX1_later 8 = .ok (.iload_n 2, 1) := dk_28 (dk_at dksX1_later_0 8 rfl rfl)
theorem dX1_later_9 : decode bcX1_later 9 = .ok (.iconst 0, 1) := dk_3 (dk_at dksX1_later_0 9 rfl rfl)
theorem dX1_later_10 : decode bcX1_later 10 = .ok (.bipush 60, 2) := dk_16 60 (dk_at dksX1_later_0 10 rfl rfl)
theorem dX1_later_12 : decode bcX1_later 12 = .ok (.invokestatic 155, 3) := dk_184 0 155 (dk_at dksX1_later_0 12 rfl rfl)
theorem dX1_later_15 : decode bcX1_later 15 = .ok (.ifCond .ne 5, 3) := dk_154 0 5 (dk_at dksX1_later_0 15 rfl rfl)
theorem dX1_later_18 : decode bcX1_later 18 = .ok (.iconst (-1), 1) := dk_2 (dk_at dksX1_later_0 18 rfl rfl)
theorem dX1_later_19 : decode bcX1_later 19 = .ok (.ireturn, 1) := dk_172 (dk_at dksX1_later_0 19 rfl rfl)
theorem dX1_later_20 : decode bcX1_later 20 = .ok (.aload_n 0, 1) := dk_42 (dk_at dksX1_later_0 20 rfl rfl)
theorem dX1_later_21 : decode bcX1_later 21 = .ok (.getfield 55, 3) := dk_180 0 55 (dk_at dksX1_later_0 21 rfl rfl)
theorem dX1_later_24 : decode bcX1_later 24 = .ok (.aload_n 0, 1) := dk_42 (dk_at dksX1_later_1 0 rfl rfl)
theorem dX1_later_25 : decode bcX1_later 25 = .ok (.getfield 51, 3) := dk_180 0 51 (dk_at dksX1_later_1 1 rfl rfl)
theorem dX1_later_28 : decode bcX1_later 28 = .ok (.invokevirtual 253, 3) := dk_182 0 253 (dk_at dksX1_later_1 4 rfl rfl)
theorem dX1_later_31 : decode bcX1_later 31 = .ok (.aload_n 0, 1) := dk_42 (dk_at dksX1_later_1 7 rfl rfl)
theorem dX1_later_32 : decode bcX1_later 32 = .ok (.iload_n 2, 1) := dk_28 (dk_at dksX1_later_1 8 rfl rfl)
theorem dX1_later_33 : decode bcX1_later 33 = .ok (.invokevirtual 305, 3) := dk_182 1 49 (dk_at dksX1_later_1 9 rfl rfl)
theorem dX1_later_36 : decode bcX1_later 36 = .ok (.aload_n 0, 1) := dk_42 (dk_at dksX1_later_1 12 rfl rfl)
theorem dX1_later_37 : decode bcX1_later 37 = .ok (.getfield 55, 3) := dk_180 0 55 (dk_at dksX1_later_1 13 rfl rfl)
theorem dX1_later_40 : decode bcX1_later 40 = .ok (.getfield 176, 3) := dk_180 0 176 (dk_at dksX1_later_1 16 rfl rfl)
theorem dX1_later_43 : decode bcX1_later 43 = .ok (.iload_n 1, 1) := dk_27 (dk_at dksX1_later_1 19 rfl rfl)
theorem dX1_later_44 : decode bcX1_later 44 = .ok (.iaload, 1) := dk_46 (dk_at dksX1_later_1 20 rfl rfl)
theorem dX1_later_45 : decode bcX1_later 45 = .ok (.ireturn, 1) := dk_172 (dk_at dksX1_later_1 21 rfl rfl)
abbrev SX1_later (pc : Nat) (i : xI) : Prop := Snd "SwollenHouse" "later" prog_1_method_47_code 3 (Option.some Jvm.ClassFile.FieldType.int) [] pc i
theorem oX1_later_0 : SX1_later 0 (i_aload 0 1) := snd_aload_n dX1_later_0 rfl
theorem oX1_later_1 : SX1_later 1 (i_iload 1 2) := snd_iload_n dX1_later_1 rfl
theorem oX1_later_2 : SX1_later 2 (i_cv 0 95 1 5) := snd_cv rfl infX1_isDoor (by decide) rfl (xVm_V dX1_later_2 rfl q1136 q1138 qs29 q127 q1139 pdX1_isDoor)
theorem oX1_later_5 : SX1_later 5 (i_if1 (fun x => x = 0) 18 8) := snd_if_eq dX1_later_5 (by decide)
theorem oX1_later_8 : SX1_later 8 (i_iload 2 9) := snd_iload_n dX1_later_8 rfl
theorem oX1_later_9 : SX1_later 9 (i_const (.int (nI 0)) 10) := snd_iconst dX1_later_9 (by decide)
theorem oX1_later_10 : SX1_later 10 (i_const (.int (nI 60)) 12) := snd_bipush dX1_later_10 (by decide)
theorem oX1_later_12 : SX1_later 12 (i_cs 92 3 15) := snd_cs rfl infX1_in (by decide) (xSm_S dX1_later_12 q1145 q982 q127 q983 pdX1_in)
theorem oX1_later_15 : SX1_later 15 (i_if1 (fun x => ¬ x = 0) 20 18) := snd_if_ne dX1_later_15 (by decide)
theorem oX1_later_18 : SX1_later 18 (i_const (.int (-1)) 19) := snd_iconst dX1_later_18 (by decide)
theorem oX1_later_19 : SX1_later 19 (i_iret) := snd_iret dX1_later_19 rfl
theorem oX1_later_20 : SX1_later 20 (i_aload 0 21) := snd_aload_n dX1_later_20 rfl
theorem oX1_later_21 : SX1_later 21 (i_getf 0 5 24) := snd_getf dX1_later_21 rfl (by decide) in_X1 (Or.inl q351) (Or.inl rfl) (by decide)
theorem oX1_later_24 : SX1_later 24 (i_aload 0 25) := snd_aload_n dX1_later_24 rfl
theorem oX1_later_25 : SX1_later 25 (i_getf 0 4 28) := snd_getf dX1_later_25 rfl (by decide) in_X1 (Or.inl q350) (Or.inl rfl) (by decide)
theorem oX1_later_28 : SX1_later 28 (i_cvv 3 239 1 31) := snd_cvv rfl infX4_be (by decide) rfl (xVm_V dX1_later_28 rfl q1194 q1195 q1196 q133 q1197 pdX4_be)
theorem oX1_later_31 : SX1_later 31 (i_aload 0 32) := snd_aload_n dX1_later_31 rfl
theorem oX1_later_32 : SX1_later 32 (i_iload 2 33) := snd_iload_n dX1_later_32 rfl
theorem oX1_later_33 : SX1_later 33 (i_cvv 0 131 1 36) := snd_cvv rfl infX1_goesOn (by decide) rfl (xVm_V dX1_later_33 rfl q1426 q1428 qs47 q127 q1429 pdX1_goesOn)
theorem oX1_later_36 : SX1_later 36 (i_aload 0 37) := snd_aload_n dX1_later_36 rfl
theorem oX1_later_37 : SX1_later 37 (i_getf 0 5 40) := snd_getf dX1_later_37 rfl (by decide) in_X1 (Or.inl q351) (Or.inl rfl) (by decide)
theorem oX1_later_40 : SX1_later 40 (i_getf 3 0 43) := snd_getf dX1_later_40 rfl (by decide) in_X4 (Or.inr ⟨_, q290⟩) (Or.inl rfl) (by decide)
theorem oX1_later_43 : SX1_later 43 (i_iload 1 44) := snd_iload_n dX1_later_43 rfl
theorem oX1_later_44 : SX1_later 44 (i_ai 0 45) := snd_ai0 dX1_later_44
theorem oX1_later_45 : SX1_later 45 (i_iret) := snd_iret dX1_later_45 rfl
theorem okX1_later : ∀ q ∈ cX1_later, SX1_later q.1 q.2 := List.forall_mem_cons.mpr ⟨oX1_later_0, List.forall_mem_cons.mpr ⟨oX1_later_1, List.forall_mem_cons.mpr ⟨oX1_later_2, List.forall_mem_cons.mpr ⟨oX1_later_5, List.forall_mem_cons.mpr ⟨oX1_later_8, List.forall_mem_cons.mpr ⟨oX1_later_9, List.forall_mem_cons.mpr ⟨oX1_later_10, List.forall_mem_cons.mpr ⟨oX1_later_12, List.forall_mem_cons.mpr ⟨oX1_later_15, List.forall_mem_cons.mpr ⟨oX1_later_18, List.forall_mem_cons.mpr ⟨oX1_later_19, List.forall_mem_cons.mpr ⟨oX1_later_20, List.forall_mem_cons.mpr ⟨oX1_later_21, List.forall_mem_cons.mpr ⟨oX1_later_24, List.forall_mem_cons.mpr ⟨oX1_later_25, List.forall_mem_cons.mpr ⟨oX1_later_28, List.forall_mem_cons.mpr ⟨oX1_later_31, List.forall_mem_cons.mpr ⟨oX1_later_32, List.forall_mem_cons.mpr ⟨oX1_later_33, List.forall_mem_cons.mpr ⟨oX1_later_36, List.forall_mem_cons.mpr ⟨oX1_later_37, List.forall_mem_cons.mpr ⟨oX1_later_40, List.forall_mem_cons.mpr ⟨oX1_later_43, List.forall_mem_cons.mpr ⟨oX1_later_44, List.forall_mem_cons.mpr ⟨oX1_later_45, fun _ h => absurd h List.not_mem_nil⟩⟩⟩⟩⟩⟩⟩⟩⟩⟩⟩⟩⟩⟩⟩⟩⟩⟩⟩⟩⟩⟩⟩⟩⟩
def dkwX1_goesOn_0 : List UInt8 := [3, 61, 28, 27, 162, 0, 17, 42, 42, 180, 0, 55, 182, 0, 216, 132, 2, 1, 167, 255, 240, 177]
abbrev dktX1_goesOn_0 : List UInt8 := dkwX1_goesOn_0 ++ []
theorem dksX1_goesOn_0 : bcX1_goesOn.data.toList.drop 0 = dktX1_goesOn_0 := by decide +kernel
theorem dX1_goesOn_0 : decode bcX1_goesOn 0 = .ok (.iconst 0, 1) := dk_3 (dk_at dksX1_goesOn_0 0 rfl rfl)
theorem dX1_goesOn_1 : decode bcX1_goesOn 1 = .ok (.istore_n 2, 1) := dk_61 (dk_at dksX1_goesOn_0 1 rfl rfl)
theorem dX1_goesOn_2 : decode bcX1_goesOn 2 = .ok (.iload_n 2, 1) := dk_28 (dk_at dksX1_goesOn_0 2 rfl rfl)
theorem dX1_goesOn_3 : decode bcX1_goesOn 3 = .ok (.iload_n 1, 1) := dk_27 (dk_at dksX1_goesOn_0 3 rfl rfl)
theorem dX1_goesOn_4 : decode bcX1_goesOn 4 = .ok (.if_icmp .ge 17, 3) := dk_162 0 17 (dk_at dksX1_goesOn_0 4 rfl rfl)
theorem dX1_goesOn_7 : decode bcX1_goesOn 7 = .ok (.aload_n 0, 1) := dk_42 (dk_at dksX1_goesOn_0 7 rfl rfl)
theorem dX1_goesOn_8 : decode bcX1_goesOn 8 = .ok (.aload_n 0, 1) := dk_42 (dk_at dksX1_goesOn_0 8 rfl rfl)
theorem dX1_goesOn_9 : decode bcX1_goesOn 9 = .ok (.getfield 55, 3) := dk_180 0 55 (dk_at dksX1_goesOn_0 9 rfl rfl)
theorem dX1_goesOn_12 : decode bcX1_goesOn 12 = .ok (.invokevirtual 216, 3) := dk_182 0 216 (dk_at dksX1_goesOn_0 12 rfl rfl)
theorem dX1_goesOn_15 : decode bcX1_goesOn 15 = .ok (.iinc 2 1, 3) := dk_132 2 1 (dk_at dksX1_goesOn_0 15 rfl rfl)
theorem dX1_goesOn_18 : decode bcX1_goesOn 18 = .ok (.goto (-16), 3) := dk_167 255 240 (dk_at dksX1_goesOn_0 18 rfl rfl)
theorem dX1_goesOn_21 : decode bcX1_goesOn 21 = .ok (.return_, 1) := dk_177 (dk_at dksX1_goesOn_0 21 rfl rfl)
abbrev SX1_goesOn (pc : Nat) (i : xI) : Prop := Snd "SwollenHouse" "goesOn" prog_1_method_22_code 3 (Option.none : Option Jvm.ClassFile.FieldType) [] pc i
theorem oX1_goesOn_0 : SX1_goesOn 0 (i_const (.int (nI 0)) 1) := snd_iconst dX1_goesOn_0 (by decide)
theorem oX1_goesOn_1 : SX1_goesOn 1 (i_istore 2 2) := snd_istore_n dX1_goesOn_1 rfl (by decide)
theorem oX1_goesOn_2 : SX1_goesOn 2 (i_iload 2 3) := snd_iload_n dX1_goesOn_2 rfl
theorem oX1_goesOn_3 : SX1_goesOn 3 (i_iload 1 4) := snd_iload_n dX1_goesOn_3 rfl
theorem oX1_goesOn_4 : SX1_goesOn 4 (i_if2 (fun x y => y ≤ x) 21 7) := snd_icmp_ge dX1_goesOn_4 (by decide)
theorem oX1_goesOn_7 : SX1_goesOn 7 (i_aload 0 8) := snd_aload_n dX1_goesOn_7 rfl
theorem oX1_goesOn_8 : SX1_goesOn 8 (i_aload 0 9) := snd_aload_n dX1_goesOn_8 rfl
theorem oX1_goesOn_9 : SX1_goesOn 9 (i_getf 0 5 12) := snd_getf dX1_goesOn_9 rfl (by decide) in_X1 (Or.inl q351) (Or.inl rfl) (by decide)
theorem oX1_goesOn_12 : SX1_goesOn 12 (i_cvv 0 104 1 15) := snd_cvv rfl infX1_passes (by decide) rfl (xVm_V dX1_goesOn_12 rfl q1198 q1200 qs35 q127 q1201 pdX1_passes)
theorem oX1_goesOn_15 : SX1_goesOn 15 (i_iinc 2 (nI 1) 18) := snd_iinc dX1_goesOn_15 (by decide) (by decide)
theorem oX1_goesOn_18 : SX1_goesOn 18 (i_goto 2) := snd_goto dX1_goesOn_18 (by decide)
theorem oX1_goesOn_21 : SX1_goesOn 21 (i_vret) := snd_vret dX1_goesOn_21 rfl
theorem okX1_goesOn : ∀ q ∈ cX1_goesOn, SX1_goesOn q.1 q.2 := List.forall_mem_cons.mpr ⟨oX1_goesOn_0, List.forall_mem_cons.mpr ⟨oX1_goesOn_1, List.forall_mem_cons.mpr ⟨oX1_goesOn_2, List.forall_mem_cons.mpr ⟨oX1_goesOn_3, List.forall_mem_cons.mpr ⟨oX1_goesOn_4, List.forall_mem_cons.mpr ⟨oX1_goesOn_7, List.forall_mem_cons.mpr ⟨oX1_goesOn_8, List.forall_mem_cons.mpr ⟨oX1_goesOn_9, List.forall_mem_cons.mpr ⟨oX1_goesOn_12, List.forall_mem_cons.mpr ⟨oX1_goesOn_15, List.forall_mem_cons.mpr ⟨oX1_goesOn_18, List.forall_mem_cons.mpr ⟨oX1_goesOn_21, fun _ h => absurd h List.not_mem_nil⟩⟩⟩⟩⟩⟩⟩⟩⟩⟩⟩⟩
def dkwX1_closes_0 : List UInt8 := [42, 27, 182, 0, 226, 153, 0, 12, 42, 27, 4, 182, 1, 52, 167, 0, 4, 2, 172]
abbrev dktX1_closes_0 : List UInt8 := dkwX1_closes_0 ++ []
theorem dksX1_closes_0 : bcX1_closes.data.toList.drop 0 = dktX1_closes_0 := by decide +kernel
theorem dX1_closes_0 : decode bcX1_closes 0 = .ok (.aload_n 0, 1) := dk_42 (dk_at dksX1_closes_0 0 rfl rfl)
theorem dX1_closes_1 : decode bcX1_closes 1 = .ok (.iload_n 1, 1) := dk_27 (dk_at dksX1_closes_0 1 rfl rfl)
theorem dX1_closes_2 : decode bcX1_closes 2 = .ok (.invokevirtual 226, 3) := dk_182 0 226 (dk_at dksX1_closes_0 2 rfl rfl)
theorem dX1_closes_5 : decode bcX1_closes 5 = .ok (.ifCond .eq 12, 3) := dk_153 0 12 (dk_at dksX1_closes_0 5 rfl rfl)
theorem dX1_closes_8 : decode bcX1_closes 8 = .ok (.aload_n 0, 1) := dk_42 (dk_at dksX1_closes_0 8 rfl rfl)
theorem dX1_closes_9 : decode bcX1_closes 9 = .ok (.iload_n 1, 1) := dk_27 (dk_at dksX1_closes_0 9 rfl rfl)
theorem dX1_closes_10 : decode bcX1_closes 10 = .ok (.iconst 1, 1) := dk_4 (dk_at dksX1_closes_0 10 rfl rfl)
theorem dX1_closes_11 : decode bcX1_closes 11 = .ok (.invokevirtual 308, 3) := dk_182 1 52 (dk_at dksX1_closes_0 11 rfl rfl)
theorem dX1_closes_14 : decode bcX1_closes 14 = .ok (.goto 4, 3) := dk_167 0 4 (dk_at dksX1_closes_0 14 rfl rfl)
theorem dX1_closes_17 : decode bcX1_closes 17 = .ok (.iconst (-1), 1) := dk_2 (dk_at dksX1_closes_0 17 rfl rfl)
theorem dX1_closes_18 : decode bcX1_closes 18 = .ok (.ireturn, 1) := dk_172 (dk_at dksX1_closes_0 18 rfl rfl)
abbrev SX1_closes (pc : Nat) (i : xI) : Prop := Snd "SwollenHouse" "closes" prog_1_method_49_code 2 (Option.some Jvm.ClassFile.FieldType.int) [] pc i
theorem oX1_closes_0 : SX1_closes 0 (i_aload 0 1) := snd_aload_n dX1_closes_0 rfl
theorem oX1_closes_1 : SX1_closes 1 (i_iload 1 2) := snd_iload_n dX1_closes_1 rfl
theorem oX1_closes_2 : SX1_closes 2 (i_cv 0 95 1 5) := snd_cv rfl infX1_isDoor (by decide) rfl (xVm_V dX1_closes_2 rfl q1136 q1138 qs29 q127 q1139 pdX1_isDoor)
theorem oX1_closes_5 : SX1_closes 5 (i_if1 (fun x => x = 0) 17 8) := snd_if_eq dX1_closes_5 (by decide)
theorem oX1_closes_8 : SX1_closes 8 (i_aload 0 9) := snd_aload_n dX1_closes_8 rfl
theorem oX1_closes_9 : SX1_closes 9 (i_iload 1 10) := snd_iload_n dX1_closes_9 rfl
theorem oX1_closes_10 : SX1_closes 10 (i_const (.int (nI 1)) 11) := snd_iconst dX1_closes_10 (by decide)
theorem oX1_closes_11 : SX1_closes 11 (i_cv 0 133 2 14) := snd_cv rfl infX1_comes (by decide) rfl (xVm_V dX1_closes_11 rfl q1434 q1436 qs48 q127 q1437 pdX1_comes)
theorem oX1_closes_14 : SX1_closes 14 (i_goto 18) := snd_goto dX1_closes_14 (by decide)
theorem oX1_closes_17 : SX1_closes 17 (i_const (.int (-1)) 18) := snd_iconst dX1_closes_17 (by decide)
theorem oX1_closes_18 : SX1_closes 18 (i_iret) := snd_iret dX1_closes_18 rfl
theorem okX1_closes : ∀ q ∈ cX1_closes, SX1_closes q.1 q.2 := List.forall_mem_cons.mpr ⟨oX1_closes_0, List.forall_mem_cons.mpr ⟨oX1_closes_1, List.forall_mem_cons.mpr ⟨oX1_closes_2, List.forall_mem_cons.mpr ⟨oX1_closes_5, List.forall_mem_cons.mpr ⟨oX1_closes_8, List.forall_mem_cons.mpr ⟨oX1_closes_9, List.forall_mem_cons.mpr ⟨oX1_closes_10, List.forall_mem_cons.mpr ⟨oX1_closes_11, List.forall_mem_cons.mpr ⟨oX1_closes_14, List.forall_mem_cons.mpr ⟨oX1_closes_17, List.forall_mem_cons.mpr ⟨oX1_closes_18, fun _ h => absurd h List.not_mem_nil⟩⟩⟩⟩⟩⟩⟩⟩⟩⟩⟩
def dkwX1_comes_2 : List UInt8 := [172]
abbrev dktX1_comes_2 : List UInt8 := dkwX1_comes_2 ++ []
def dkwX1_comes_1 : List UInt8 := [182, 0, 219, 28, 160, 0, 5, 29, 172, 42, 42, 180, 0, 55, 182, 0, 216, 132, 3, 1, 167, 255, 225, 2]
abbrev dktX1_comes_1 : List UInt8 := dkwX1_comes_1 ++ dktX1_comes_2
def dkwX1_comes_0 : List UInt8 := [42, 180, 0, 55, 42, 180, 0, 51, 182, 0, 253, 3, 62, 29, 16, 60, 163, 0, 31, 42, 180, 0, 55, 27]
abbrev dktX1_comes_0 : List UInt8 := dkwX1_comes_0 ++ dktX1_comes_1
theorem dksX1_comes_0 : bcX1_comes.data.toList.drop 0 = dktX1_comes_0 := by decide +kernel
theorem dksX1_comes_1 : bcX1_comes.data.toList.drop 24 = dktX1_comes_1 := dk_seg dksX1_comes_0 24 rfl rfl
theorem dksX1_comes_2 : bcX1_comes.data.toList.drop 48 = dktX1_comes_2 := dk_seg dksX1_comes_1 24 rfl rfl
theorem dX1_comes_0 : decode bcX1_comes 0 = .ok (.aload_n 0, 1) := dk_42 (dk_at dksX1_comes_0 0 rfl rfl)
theorem dX1_comes_1 : decode bcX1_comes 1 = .ok (.getfield 55, 3) := dk_180 0 55 (dk_at dksX1_comes_0 1 rfl rfl)
theorem dX1_comes_4 : decode bcX1_comes 4 = .ok (.aload_n 0, 1) := dk_42 (dk_at dksX1_comes_0 4 rfl rfl)
theorem dX1_comes_5 : decode bcX1_comes 5 = .ok (.getfield 51, 3) := dk_180 0 51 (dk_at dksX1_comes_0 5 rfl rfl)
theorem dX1_comes_8 : decode bcX1_comes 8 = .ok (.invokevirtual 253, 3) := dk_182 0 253 (dk_at dksX1_comes_0 8 rfl rfl)
theorem dX1_comes_11 : decode bcX1_comes 11 = .ok (.iconst 0, 1) := dk_3 (dk_at dksX1_comes_0 11 rfl rfl)
theorem dX1_comes_12 : decode bcX1_comes 12 = .ok (.istore_n 3, 1) := dk_62 (dk_at dksX1_comes_0 12 rfl rfl)
theorem dX1_comes_13 : decode bcX1_comes 13 = .ok (.iload_n 3, 1) := dk_29 (dk_at dksX1_comes_0 13 rfl rfl)
theorem dX1_comes_14 : decode bcX1_comes 14 = .ok (.bipush 60, 2) := dk_16 60 (dk_at dksX1_comes_0 14 rfl rfl)
theorem dX1_comes_16 : decode bcX1_comes 16 = .ok (.if_icmp .gt 31, 3) := dk_163 0 31 (dk_at dksX1_comes_0 16 rfl rfl)
theorem dX1_comes_19 : decode bcX1_comes 19 = .ok (.aload_n 0, 1) := dk_42 (dk_at dksX1_comes_0 19 rfl rfl)
theorem dX1_comes_20 : decode bcX1_comes 20 = .ok (.getfield 55, 3) := dk_180 0 55 (dk_at dksX1_comes_0 20 rfl rfl)
theorem dX1_comes_23 : decode bcX1_comes 23 = .ok (.iload_n 1, 1) := dk_27 (dk_at dksX1_comes_0 23 rfl rfl)
theorem dX1_comes_24 : decode bcX1_comes 24 = .ok (.invokevirtual 219, 3) := dk_182 0 219 (dk_at dksX1_comes_1 0 rfl rfl)
theorem dX1_comes_27 : decode bcX1_comes 27 = .ok (.iload_n 2, 1) := dk_28 (dk_at dksX1_comes_1 3 rfl rfl)
theorem dX1_comes_28 : decode bcX1_comes 28 = .ok (.if_icmp .ne 5, 3) := dk_160 0 5 (dk_at dksX1_comes_1 4 rfl rfl)
theorem dX1_comes_31 : decode bcX1_comes 31 = .ok (.iload_n 3, 1) := dk_29 (dk_at dksX1_comes_1 7 rfl rfl)
theorem dX1_comes_32 : decode bcX1_comes 32 = .ok (.ireturn, 1) := dk_172 (dk_at dksX1_comes_1 8 rfl rfl)
theorem dX1_comes_33 : decode bcX1_comes 33 = .ok (.aload_n 0, 1) := dk_42 (dk_at dksX1_comes_1 9 rfl rfl)
theorem dX1_comes_34 : decode bcX1_comes 34 = .ok (.aload_n 0, 1) := dk_42 (dk_at dksX1_comes_1 10 rfl rfl)
theorem dX1_comes_35 : decode bcX1_comes 35 = .ok (.getfield 55, 3) := dk_180 0 55 (dk_at dksX1_comes_1 11 rfl rfl)
theorem dX1_comes_38 : decode bcX1_comes 38 = .ok (.invokevirtual 216, 3) := dk_182 0 216 (dk_at dksX1_comes_1 14 rfl rfl)
theorem dX1_comes_41 : decode bcX1_comes 41 = .ok (.iinc 3 1, 3) := dk_132 3 1 (dk_at dksX1_comes_1 17 rfl rfl)
theorem dX1_comes_44 : decode bcX1_comes 44 = .ok (.goto (-31), 3) := dk_167 255 225 (dk_at dksX1_comes_1 20 rfl rfl)
theorem dX1_comes_47 : decode bcX1_comes 47 = .ok (.iconst (-1), 1) := dk_2 (dk_at dksX1_comes_1 23 rfl rfl)
theorem dX1_comes_48 : decode bcX1_comes 48 = .ok (.ireturn, 1) := dk_172 (dk_at dksX1_comes_2 0 rfl rfl)
abbrev SX1_comes (pc : Nat) (i : xI) : Prop := Snd "SwollenHouse" "comes" prog_1_method_48_code 4 (Option.some Jvm.ClassFile.FieldType.int) [] pc i
theorem oX1_comes_0 : SX1_comes 0 (i_aload 0 1) := snd_aload_n dX1_comes_0 rfl
theorem oX1_comes_1 : SX1_comes 1 (i_getf 0 5 4) := snd_getf dX1_comes_1 rfl (by decide) in_X1 (Or.inl q351) (Or.inl rfl) (by decide)
theorem oX1_comes_4 : SX1_comes 4 (i_aload 0 5) := snd_aload_n dX1_comes_4 rfl
theorem oX1_comes_5 : SX1_comes 5 (i_getf 0 4 8) := snd_getf dX1_comes_5 rfl (by decide) in_X1 (Or.inl q350) (Or.inl rfl) (by decide)
theorem oX1_comes_8 : SX1_comes 8 (i_cvv 3 239 1 11) := snd_cvv rfl infX4_be (by decide) rfl (xVm_V dX1_comes_8 rfl q1194 q1195 q1196 q133 q1197 pdX4_be)
theorem oX1_comes_11 : SX1_comes 11 (i_const (.int (nI 0)) 12) := snd_iconst dX1_comes_11 (by decide)
theorem oX1_comes_12 : SX1_comes 12 (i_istore 3 13) := snd_istore_n dX1_comes_12 rfl (by decide)
theorem oX1_comes_13 : SX1_comes 13 (i_iload 3 14) := snd_iload_n dX1_comes_13 rfl
theorem oX1_comes_14 : SX1_comes 14 (i_const (.int (nI 60)) 16) := snd_bipush dX1_comes_14 (by decide)
theorem oX1_comes_16 : SX1_comes 16 (i_if2 (fun x y => y < x) 47 19) := snd_icmp_gt dX1_comes_16 (by decide)
theorem oX1_comes_19 : SX1_comes 19 (i_aload 0 20) := snd_aload_n dX1_comes_19 rfl
theorem oX1_comes_20 : SX1_comes 20 (i_getf 0 5 23) := snd_getf dX1_comes_20 rfl (by decide) in_X1 (Or.inl q351) (Or.inl rfl) (by decide)
theorem oX1_comes_23 : SX1_comes 23 (i_iload 1 24) := snd_iload_n dX1_comes_23 rfl
theorem oX1_comes_24 : SX1_comes 24 (i_cv 3 238 1 27) := snd_cv rfl infX4_sticks (by decide) rfl (xVm_V dX1_comes_24 rfl q1167 q1168 q1169 q133 q1170 pdX4_sticks)
theorem oX1_comes_27 : SX1_comes 27 (i_iload 2 28) := snd_iload_n dX1_comes_27 rfl
theorem oX1_comes_28 : SX1_comes 28 (i_if2 (fun x y => ¬ x = y) 33 31) := snd_icmp_ne dX1_comes_28 (by decide)
theorem oX1_comes_31 : SX1_comes 31 (i_iload 3 32) := snd_iload_n dX1_comes_31 rfl
theorem oX1_comes_32 : SX1_comes 32 (i_iret) := snd_iret dX1_comes_32 rfl
theorem oX1_comes_33 : SX1_comes 33 (i_aload 0 34) := snd_aload_n dX1_comes_33 rfl
theorem oX1_comes_34 : SX1_comes 34 (i_aload 0 35) := snd_aload_n dX1_comes_34 rfl
theorem oX1_comes_35 : SX1_comes 35 (i_getf 0 5 38) := snd_getf dX1_comes_35 rfl (by decide) in_X1 (Or.inl q351) (Or.inl rfl) (by decide)
theorem oX1_comes_38 : SX1_comes 38 (i_cvv 0 104 1 41) := snd_cvv rfl infX1_passes (by decide) rfl (xVm_V dX1_comes_38 rfl q1198 q1200 qs35 q127 q1201 pdX1_passes)
theorem oX1_comes_41 : SX1_comes 41 (i_iinc 3 (nI 1) 44) := snd_iinc dX1_comes_41 (by decide) (by decide)
theorem oX1_comes_44 : SX1_comes 44 (i_goto 13) := snd_goto dX1_comes_44 (by decide)
theorem oX1_comes_47 : SX1_comes 47 (i_const (.int (-1)) 48) := snd_iconst dX1_comes_47 (by decide)
theorem oX1_comes_48 : SX1_comes 48 (i_iret) := snd_iret dX1_comes_48 rfl
theorem okX1_comes : ∀ q ∈ cX1_comes, SX1_comes q.1 q.2 := List.forall_mem_cons.mpr ⟨oX1_comes_0, List.forall_mem_cons.mpr ⟨oX1_comes_1, List.forall_mem_cons.mpr ⟨oX1_comes_4, List.forall_mem_cons.mpr ⟨oX1_comes_5, List.forall_mem_cons.mpr ⟨oX1_comes_8, List.forall_mem_cons.mpr ⟨oX1_comes_11, List.forall_mem_cons.mpr ⟨oX1_comes_12, List.forall_mem_cons.mpr ⟨oX1_comes_13, List.forall_mem_cons.mpr ⟨oX1_comes_14, List.forall_mem_cons.mpr ⟨oX1_comes_16, List.forall_mem_cons.mpr ⟨oX1_comes_19, List.forall_mem_cons.mpr ⟨oX1_comes_20, List.forall_mem_cons.mpr ⟨oX1_comes_23, List.forall_mem_cons.mpr ⟨oX1_comes_24, List.forall_mem_cons.mpr ⟨oX1_comes_27, List.forall_mem_cons.mpr ⟨oX1_comes_28, List.forall_mem_cons.mpr ⟨oX1_comes_31, List.forall_mem_cons.mpr ⟨oX1_comes_32, List.forall_mem_cons.mpr ⟨oX1_comes_33, List.forall_mem_cons.mpr ⟨oX1_comes_34, List.forall_mem_cons.mpr ⟨oX1_comes_35, List.forall_mem_cons.mpr ⟨oX1_comes_38, List.forall_mem_cons.mpr ⟨oX1_comes_41, List.forall_mem_cons.mpr ⟨oX1_comes_44, List.forall_mem_cons.mpr ⟨oX1_comes_47, List.forall_mem_cons.mpr ⟨oX1_comes_48, fun _ h => absurd h List.not_mem_nil⟩⟩⟩⟩⟩⟩⟩⟩⟩⟩⟩⟩⟩⟩⟩⟩⟩⟩⟩⟩⟩⟩⟩⟩⟩⟩
def dkwX1_gives_0 : List UInt8 := [42, 27, 182, 0, 226, 153, 0, 12, 42, 27, 3, 182, 1, 52, 167, 0, 4, 2, 172]
abbrev dktX1_gives_0 : List UInt8 := dkwX1_gives_0 ++ []
theorem dksX1_gives_0 : bcX1_gives.data.toList.drop 0 = dktX1_gives_0 := by decide +kernel
theorem dX1_gives_0 : decode bcX1_gives 0 = .ok (.aload_n 0, 1) := dk_42 (dk_at dksX1_gives_0 0 rfl rfl)
theorem dX1_gives_1 : decode bcX1_gives 1 = .ok (.iload_n 1, 1) := dk_27 (dk_at dksX1_gives_0 1 rfl rfl)
theorem dX1_gives_2 : decode bcX1_gives 2 = .ok (.invokevirtual 226, 3) := dk_182 0 226 (dk_at dksX1_gives_0 2 rfl rfl)
theorem dX1_gives_5 : decode bcX1_gives 5 = .ok (.ifCond .eq 12, 3) := dk_153 0 12 (dk_at dksX1_gives_0 5 rfl rfl)
theorem dX1_gives_8 : decode bcX1_gives 8 = .ok (.aload_n 0, 1) := dk_42 (dk_at dksX1_gives_0 8 rfl rfl)
theorem dX1_gives_9 : decode bcX1_gives 9 = .ok (.iload_n 1, 1) := dk_27 (dk_at dksX1_gives_0 9 rfl rfl)
theorem dX1_gives_10 : decode bcX1_gives 10 = .ok (.iconst 0, 1) := dk_3 (dk_at dksX1_gives_0 10 rfl rfl)
theorem dX1_gives_11 : decode bcX1_gives 11 = .ok (.invokevirtual 308, 3) := dk_182 1 52 (dk_at dksX1_gives_0 11 rfl rfl)
theorem dX1_gives_14 : decode bcX1_gives 14 = .ok (.goto 4, 3) := dk_167 0 4 (dk_at dksX1_gives_0 14 rfl rfl)
theorem dX1_gives_17 : decode bcX1_gives 17 = .ok (.iconst (-1), 1) := dk_2 (dk_at dksX1_gives_0 17 rfl rfl)
theorem dX1_gives_18 : decode bcX1_gives 18 = .ok (.ireturn, 1) := dk_172 (dk_at dksX1_gives_0 18 rfl rfl)
abbrev SX1_gives (pc : Nat) (i : xI) : Prop := Snd "SwollenHouse" "gives" prog_1_method_50_code 2 (Option.some Jvm.ClassFile.FieldType.int) [] pc i
theorem oX1_gives_0 : SX1_gives 0 (i_aload 0 1) := snd_aload_n dX1_gives_0 rfl
theorem oX1_gives_1 : SX1_gives 1 (i_iload 1 2) := snd_iload_n dX1_gives_1 rfl
theorem oX1_gives_2 : SX1_gives 2 (i_cv 0 95 1 5) := snd_cv rfl infX1_isDoor (by decide) rfl (xVm_V dX1_gives_2 rfl q1136 q1138 qs29 q127 q1139 pdX1_isDoor)
theorem oX1_gives_5 : SX1_gives 5 (i_if1 (fun x => x = 0) 17 8) := snd_if_eq dX1_gives_5 (by decide)
theorem oX1_gives_8 : SX1_gives 8 (i_aload 0 9) := snd_aload_n dX1_gives_8 rfl
theorem oX1_gives_9 : SX1_gives 9 (i_iload 1 10) := snd_iload_n dX1_gives_9 rfl
theorem oX1_gives_10 : SX1_gives 10 (i_const (.int (nI 0)) 11) := snd_iconst dX1_gives_10 (by decide)
theorem oX1_gives_11 : SX1_gives 11 (i_cv 0 133 2 14) := snd_cv rfl infX1_comes (by decide) rfl (xVm_V dX1_gives_11 rfl q1434 q1436 qs48 q127 q1437 pdX1_comes)
theorem oX1_gives_14 : SX1_gives 14 (i_goto 18) := snd_goto dX1_gives_14 (by decide)
theorem oX1_gives_17 : SX1_gives 17 (i_const (.int (-1)) 18) := snd_iconst dX1_gives_17 (by decide)
theorem oX1_gives_18 : SX1_gives 18 (i_iret) := snd_iret dX1_gives_18 rfl
theorem okX1_gives : ∀ q ∈ cX1_gives, SX1_gives q.1 q.2 := List.forall_mem_cons.mpr ⟨oX1_gives_0, List.forall_mem_cons.mpr ⟨oX1_gives_1, List.forall_mem_cons.mpr ⟨oX1_gives_2, List.forall_mem_cons.mpr ⟨oX1_gives_5, List.forall_mem_cons.mpr ⟨oX1_gives_8, List.forall_mem_cons.mpr ⟨oX1_gives_9, List.forall_mem_cons.mpr ⟨oX1_gives_10, List.forall_mem_cons.mpr ⟨oX1_gives_11, List.forall_mem_cons.mpr ⟨oX1_gives_14, List.forall_mem_cons.mpr ⟨oX1_gives_17, List.forall_mem_cons.mpr ⟨oX1_gives_18, fun _ h => absurd h List.not_mem_nil⟩⟩⟩⟩⟩⟩⟩⟩⟩⟩⟩
def dkwX1_calm_1 : List UInt8 := [182, 0, 222, 154, 0, 5, 27, 172, 42, 42, 180, 0, 55, 182, 0, 216, 132, 1, 1, 167, 255, 226, 2, 172]
abbrev dktX1_calm_1 : List UInt8 := dkwX1_calm_1 ++ []
def dkwX1_calm_0 : List UInt8 := [42, 180, 0, 55, 42, 180, 0, 51, 182, 0, 253, 3, 60, 27, 16, 60, 163, 0, 30, 42, 42, 180, 0, 55]
abbrev dktX1_calm_0 : List UInt8 := dkwX1_calm_0 ++ dktX1_calm_1
theorem dksX1_calm_0 : bcX1_calm.data.toList.drop 0 = dktX1_calm_0 := by decide +kernel
theorem dksX1_calm_1 : bcX1_calm.data.toList.drop 24 = dktX1_calm_1 := dk_seg dksX1_calm_0 24 rfl rfl
theorem dX1_calm_0 : decode bcX1_calm 0 = .ok (.aload_n 0, 1) := dk_42 (dk_at dksX1_calm_0 0 rfl rfl)
theorem dX1_calm_1 : decode bcX1_calm 1 = .ok (.getfield 55, 3) := dk_180 0 55 (dk_at dksX1_calm_0 1 rfl rfl)
theorem dX1_calm_4 : decode bcX1_calm 4 = .ok (.aload_n 0, 1) := dk_42 (dk_at dksX1_calm_0 4 rfl rfl)
theorem dX1_calm_5 : decode bcX1_calm 5 = .ok (.getfield 51, 3) := dk_180 0 51 (dk_at dksX1_calm_0 5 rfl rfl)
theorem dX1_calm_8 : decode bcX1_calm 8 = .ok (.invokevirtual 253, 3) := dk_182 0 253 (dk_at dksX1_calm_0 8 rfl rfl)
theorem dX1_calm_11 : decode bcX1_calm 11 = .ok (.iconst 0, 1) := dk_3 (dk_at dksX1_calm_0 11 rfl rfl)
theorem dX1_calm_12 : decode bcX1_calm 12 = .ok (.istore_n 1, 1) := dk_60 (dk_at dksX1_calm_0 12 rfl rfl)
theorem dX1_calm_13 : decode bcX1_calm 13 = .ok (.iload_n 1, 1) := dk_27 (dk_at dksX1_calm_0 13 rfl rfl)
theorem dX1_calm_14 : decode bcX1_calm 14 = .ok (.bipush 60, 2) := dk_16 60 (dk_at dksX1_calm_0 14 rfl rfl)
theorem dX1_calm_16 : decode bcX1_calm 16 = .ok (.if_icmp .gt 30, 3) := dk_163 0 30 (dk_at dksX1_calm_0 16 rfl rfl)
theorem dX1_calm_19 : decode bcX1_calm 19 = .ok (.aload_n 0, 1) := dk_42 (dk_at dksX1_calm_0 19 rfl rfl)
theorem dX1_calm_20 : decode bcX1_calm 20 = .ok (.aload_n 0, 1) := dk_42 (dk_at dksX1_calm_0 20 rfl rfl)
theorem dX1_calm_21 : decode bcX1_calm 21 = .ok (.getfield 55, 3) := dk_180 0 55 (dk_at dksX1_calm_0 21 rfl rfl)
theorem dX1_calm_24 : decode bcX1_calm 24 = .ok (.invokevirtual 222, 3) := dk_182 0 222 (dk_at dksX1_calm_1 0 rfl rfl)
theorem dX1_calm_27 : decode bcX1_calm 27 = .ok (.ifCond .ne 5, 3) := dk_154 0 5 (dk_at dksX1_calm_1 3 rfl rfl)
theorem dX1_calm_30 : decode bcX1_calm 30 = .ok (.iload_n 1, 1) := dk_27 (dk_at dksX1_calm_1 6 rfl rfl)
theorem dX1_calm_31 : decode bcX1_calm 31 = .ok (.ireturn, 1) := dk_172 (dk_at dksX1_calm_1 7 rfl rfl)
theorem dX1_calm_32 : decode bcX1_calm 32 = .ok (.aload_n 0, 1) := dk_42 (dk_at dksX1_calm_1 8 rfl rfl)
theorem dX1_calm_33 : decode bcX1_calm 33 = .ok (.aload_n 0, 1) := dk_42 (dk_at dksX1_calm_1 9 rfl rfl)
theorem dX1_calm_34 : decode bcX1_calm 34 = .ok (.getfield 55, 3) := dk_180 0 55 (dk_at dksX1_calm_1 10 rfl rfl)
theorem dX1_calm_37 : decode bcX1_calm 37 = .ok (.invokevirtual 216, 3) := dk_182 0 216 (dk_at dksX1_calm_1 13 rfl rfl)
theorem dX1_calm_40 : decode bcX1_calm 40 = .ok (.iinc 1 1, 3) := dk_132 1 1 (dk_at dksX1_calm_1 16 rfl rfl)
theorem dX1_calm_43 : decode bcX1_calm 43 = .ok (.goto (-30), 3) := dk_167 255 226 (dk_at dksX1_calm_1 19 rfl rfl)
theorem dX1_calm_46 : decode bcX1_calm 46 = .ok (.iconst (-1), 1) := dk_2 (dk_at dksX1_calm_1 22 rfl rfl)
theorem dX1_calm_47 : decode bcX1_calm 47 = .ok (.ireturn, 1) := dk_172 (dk_at dksX1_calm_1 23 rfl rfl)
abbrev SX1_calm (pc : Nat) (i : xI) : Prop := Snd "SwollenHouse" "calm" prog_1_method_51_code 2 (Option.some Jvm.ClassFile.FieldType.int) [] pc i
theorem oX1_calm_0 : SX1_calm 0 (i_aload 0 1) := snd_aload_n dX1_calm_0 rfl
theorem oX1_calm_1 : SX1_calm 1 (i_getf 0 5 4) := snd_getf dX1_calm_1 rfl (by decide) in_X1 (Or.inl q351) (Or.inl rfl) (by decide)
theorem oX1_calm_4 : SX1_calm 4 (i_aload 0 5) := snd_aload_n dX1_calm_4 rfl
theorem oX1_calm_5 : SX1_calm 5 (i_getf 0 4 8) := snd_getf dX1_calm_5 rfl (by decide) in_X1 (Or.inl q350) (Or.inl rfl) (by decide)
theorem oX1_calm_8 : SX1_calm 8 (i_cvv 3 239 1 11) := snd_cvv rfl infX4_be (by decide) rfl (xVm_V dX1_calm_8 rfl q1194 q1195 q1196 q133 q1197 pdX4_be)
theorem oX1_calm_11 : SX1_calm 11 (i_const (.int (nI 0)) 12) := snd_iconst dX1_calm_11 (by decide)
theorem oX1_calm_12 : SX1_calm 12 (i_istore 1 13) := snd_istore_n dX1_calm_12 rfl (by decide)
theorem oX1_calm_13 : SX1_calm 13 (i_iload 1 14) := snd_iload_n dX1_calm_13 rfl
theorem oX1_calm_14 : SX1_calm 14 (i_const (.int (nI 60)) 16) := snd_bipush dX1_calm_14 (by decide)
theorem oX1_calm_16 : SX1_calm 16 (i_if2 (fun x y => y < x) 46 19) := snd_icmp_gt dX1_calm_16 (by decide)
theorem oX1_calm_19 : SX1_calm 19 (i_aload 0 20) := snd_aload_n dX1_calm_19 rfl
theorem oX1_calm_20 : SX1_calm 20 (i_aload 0 21) := snd_aload_n dX1_calm_20 rfl
theorem oX1_calm_21 : SX1_calm 21 (i_getf 0 5 24) := snd_getf dX1_calm_21 rfl (by decide) in_X1 (Or.inl q351) (Or.inl rfl) (by decide)
theorem oX1_calm_24 : SX1_calm 24 (i_cv 0 108 1 27) := snd_cv rfl infX1_sticking (by decide) rfl (xVm_V dX1_calm_24 rfl q1281 q1283 qs38 q127 q1284 pdX1_sticking)
theorem oX1_calm_27 : SX1_calm 27 (i_if1 (fun x => ¬ x = 0) 32 30) := snd_if_ne dX1_calm_27 (by decide)
theorem oX1_calm_30 : SX1_calm 30 (i_iload 1 31) := snd_iload_n dX1_calm_30 rfl
theorem oX1_calm_31 : SX1_calm 31 (i_iret) := snd_iret dX1_calm_31 rfl
theorem oX1_calm_32 : SX1_calm 32 (i_aload 0 33) := snd_aload_n dX1_calm_32 rfl
theorem oX1_calm_33 : SX1_calm 33 (i_aload 0 34) := snd_aload_n dX1_calm_33 rfl
theorem oX1_calm_34 : SX1_calm 34 (i_getf 0 5 37) := snd_getf dX1_calm_34 rfl (by decide) in_X1 (Or.inl q351) (Or.inl rfl) (by decide)
theorem oX1_calm_37 : SX1_calm 37 (i_cvv 0 104 1 40) := snd_cvv rfl infX1_passes (by decide) rfl (xVm_V dX1_calm_37 rfl q1198 q1200 qs35 q127 q1201 pdX1_passes)
theorem oX1_calm_40 : SX1_calm 40 (i_iinc 1 (nI 1) 43) := snd_iinc dX1_calm_40 (by decide) (by decide)
theorem oX1_calm_43 : SX1_calm 43 (i_goto 13) := snd_goto dX1_calm_43 (by decide)
theorem oX1_calm_46 : SX1_calm 46 (i_const (.int (-1)) 47) := snd_iconst dX1_calm_46 (by decide)
theorem oX1_calm_47 : SX1_calm 47 (i_iret) := snd_iret dX1_calm_47 rfl
theorem okX1_calm : ∀ q ∈ cX1_calm, SX1_calm q.1 q.2 := List.forall_mem_cons.mpr ⟨oX1_calm_0, List.forall_mem_cons.mpr ⟨oX1_calm_1, List.forall_mem_cons.mpr ⟨oX1_calm_4, List.forall_mem_cons.mpr ⟨oX1_calm_5, List.forall_mem_cons.mpr ⟨oX1_calm_8, List.forall_mem_cons.mpr ⟨oX1_calm_11, List.forall_mem_cons.mpr ⟨oX1_calm_12, List.forall_mem_cons.mpr ⟨oX1_calm_13, List.forall_mem_cons.mpr ⟨oX1_calm_14, List.forall_mem_cons.mpr ⟨oX1_calm_16, List.forall_mem_cons.mpr ⟨oX1_calm_19, List.forall_mem_cons.mpr ⟨oX1_calm_20, List.forall_mem_cons.mpr ⟨oX1_calm_21, List.forall_mem_cons.mpr ⟨oX1_calm_24, List.forall_mem_cons.mpr ⟨oX1_calm_27, List.forall_mem_cons.mpr ⟨oX1_calm_30, List.forall_mem_cons.mpr ⟨oX1_calm_31, List.forall_mem_cons.mpr ⟨oX1_calm_32, List.forall_mem_cons.mpr ⟨oX1_calm_33, List.forall_mem_cons.mpr ⟨oX1_calm_34, List.forall_mem_cons.mpr ⟨oX1_calm_37, List.forall_mem_cons.mpr ⟨oX1_calm_40, List.forall_mem_cons.mpr ⟨oX1_calm_43, List.forall_mem_cons.mpr ⟨oX1_calm_46, List.forall_mem_cons.mpr ⟨oX1_calm_47, fun _ h => absurd h List.not_mem_nil⟩⟩⟩⟩⟩⟩⟩⟩⟩⟩⟩⟩⟩⟩⟩⟩⟩⟩⟩⟩⟩⟩⟩⟩⟩
def dkwX1_hard_2 : List UInt8 := [42, 180, 0, 55, 182, 0, 216, 132, 3, 1, 167, 255, 215, 27, 172]
abbrev dktX1_hard_2 : List UInt8 := dkwX1_hard_2 ++ []
def dkwX1_hard_1 : List UInt8 := [42, 180, 0, 55, 182, 0, 222, 184, 1, 25, 54, 4, 21, 4, 28, 164, 0, 8, 21, 4, 61, 29, 60, 42]
abbrev dktX1_hard_1 : List UInt8 := dkwX1_hard_1 ++ dktX1_hard_2
def dkwX1_hard_0 : List UInt8 := [3, 60, 2, 61, 42, 180, 0, 55, 42, 180, 0, 51, 182, 0, 253, 3, 62, 29, 16, 60, 163, 0, 41, 42]
abbrev dktX1_hard_0 : List UInt8 := dkwX1_hard_0 ++ dktX1_hard_1
theorem dksX1_hard_0 : bcX1_hard.data.toList.drop 0 = dktX1_hard_0 := by decide +kernel
theorem dksX1_hard_1 : bcX1_hard.data.toList.drop 24 = dktX1_hard_1 := dk_seg dksX1_hard_0 24 rfl rfl
theorem dksX1_hard_2 : bcX1_hard.data.toList.drop 48 = dktX1_hard_2 := dk_seg dksX1_hard_1 24 rfl rfl
theorem dX1_hard_0 : decode bcX1_hard 0 = .ok (.iconst 0, 1) := dk_3 (dk_at dksX1_hard_0 0 rfl rfl)
theorem dX1_hard_1 : decode bcX1_hard 1 = .ok (.istore_n 1, 1) := dk_60 (dk_at dksX1_hard_0 1 rfl rfl)
theorem dX1_hard_2 : decode bcX1_hard 2 = .ok (.iconst (-1), 1) := dk_2 (dk_at dksX1_hard_0 2 rfl rfl)
theorem dX1_hard_3 : decode bcX1_hard 3 = .ok (.istore_n 2, 1) := dk_61 (dk_at dksX1_hard_0 3 rfl rfl)
theorem dX1_hard_4 : decode bcX1_hard 4 = .ok (.aload_n 0, 1) := dk_42 (dk_at dksX1_hard_0 4 rfl rfl)
theorem dX1_hard_5 : decode bcX1_hard 5 = .ok (.getfield 55, 3) := dk_180 0 55 (dk_at dksX1_hard_0 5 rfl rfl)
theorem dX1_hard_8 : decode bcX1_hard 8 = .ok (.aload_n 0, 1) := dk_42 (dk_at dksX1_hard_0 8 rfl rfl)
theorem dX1_hard_9 : decode bcX1_hard 9 = .ok (.getfield 51, 3) := dk_180 0 51 (dk_at dksX1_hard_0 9 rfl rfl)
theorem dX1_hard_12 : decode bcX1_hard 12 = .ok (.invokevirtual 253, 3) := dk_182 0 253 (dk_at dksX1_hard_0 12 rfl rfl)
theorem dX1_hard_15 : decode bcX1_hard 15 = .ok (.iconst 0, 1) := dk_3 (dk_at dksX1_hard_0 15 rfl rfl)
theorem dX1_hard_16 : decode bcX1_hard 16 = .ok (.istore_n 3, 1) := dk_62 (dk_at dksX1_hard_0 16 rfl rfl)
theorem dX1_hard_17 : decode bcX1_hard 17 = .ok (.iload_n 3, 1) := dk_29 (dk_at dksX1_hard_0 17 rfl rfl)
theorem dX1_hard_18 : decode bcX1_hard 18 = .ok (.bipush 60, 2) := dk_16 60 (dk_at dksX1_hard_0 18 rfl rfl)
theorem dX1_hard_20 : decode bcX1_hard 20 = .ok (.if_icmp .gt 41, 3) := dk_163 0 41 (dk_at dksX1_hard_0 20 rfl rfl)
theorem dX1_hard_23 : decode bcX1_hard 23 = .ok (.aload_n 0, 1) := dk_42 (dk_at dksX1_hard_0 23 rfl rfl)
theorem dX1_hard_24 : decode bcX1_hard 24 = .ok (.aload_n 0, 1) := dk_42 (dk_at dksX1_hard_1 0 rfl rfl)
theorem dX1_hard_25 : decode bcX1_hard 25 = .ok (.getfield 55, 3) := dk_180 0 55 (dk_at dksX1_hard_1 1 rfl rfl)
theorem dX1_hard_28 : decode bcX1_hard 28 = .ok (.invokevirtual 222, 3) := dk_182 0 222 (dk_at dksX1_hard_1 4 rfl rfl)
theorem dX1_hard_31 : decode bcX1_hard 31 = .ok (.invokestatic 281, 3) := dk_184 1 25 (dk_at dksX1_hard_1 7 rfl rfl)
theorem dX1_hard_34 : decode bcX1_hard 34 = .ok (.istore 4, 2) := dk_54 4 (dk_at dksX1_hard_1 10 rfl rfl)
theorem dX1_hard_36 : decode bcX1_hard 36 = .ok (.iload 4, 2) := dk_21 4 (dk_at dksX1_hard_1 12 rfl rfl)
theorem dX1_hard_38 : decode bcX1_hard 38 = .ok (.iload_n 2, 1) := dk_28 (dk_at dksX1_hard_1 14 rfl rfl)
theorem dX1_hard_39 : decode bcX1_hard 39 = .ok (.if_icmp .le 8, 3) := dk_164 0 8 (dk_at dksX1_hard_1 15 rfl rfl)
theorem dX1_hard_42 : decode bcX1_hard 42 = .ok (.iload 4, 2) := dk_21 4 (dk_at dksX1_hard_1 18 rfl rfl)
theorem dX1_hard_44 : decode bcX1_hard 44 = .ok (.istore_n 2, 1) := dk_61 (dk_at dksX1_hard_1 20 rfl rfl)
theorem dX1_hard_45 : decode bcX1_hard 45 = .ok (.iload_n 3, 1) := dk_29 (dk_at dksX1_hard_1 21 rfl rfl)
theorem dX1_hard_46 : decode bcX1_hard 46 = .ok (.istore_n 1, 1) := dk_60 (dk_at dksX1_hard_1 22 rfl rfl)
theorem dX1_hard_47 : decode bcX1_hard 47 = .ok (.aload_n 0, 1) := dk_42 (dk_at dksX1_hard_1 23 rfl rfl)
theorem dX1_hard_48 : decode bcX1_hard 48 = .ok (.aload_n 0, 1) := dk_42 (dk_at dksX1_hard_2 0 rfl rfl)
theorem dX1_hard_49 : decode bcX1_hard 49 = .ok (.getfield 55, 3) := dk_180 0 55 (dk_at dksX1_hard_2 1 rfl rfl)
theorem dX1_hard_52 : decode bcX1_hard 52 = .ok (.invokevirtual 216, 3) := dk_182 0 216 (dk_at dksX1_hard_2 4 rfl rfl)
theorem dX1_hard_55 : decode bcX1_hard 55 = .ok (.iinc 3 1, 3) := dk_132 3 1 (dk_at dksX1_hard_2 7 rfl rfl)
theorem dX1_hard_58 : decode bcX1_hard 58 = .ok (.goto (-41), 3) := dk_167 255 215 (dk_at dksX1_hard_2 10 rfl rfl)
theorem dX1_hard_61 : decode bcX1_hard 61 = .ok (.iload_n 1, 1) := dk_27 (dk_at dksX1_hard_2 13 rfl rfl)
theorem dX1_hard_62 : decode bcX1_hard 62 = .ok (.ireturn, 1) := dk_172 (dk_at dksX1_hard_2 14 rfl rfl)
abbrev SX1_hard (pc : Nat) (i : xI) : Prop := Snd "SwollenHouse" "hard" prog_1_method_52_code 5 (Option.some Jvm.ClassFile.FieldType.int) [] pc i
theorem oX1_hard_0 : SX1_hard 0 (i_const (.int (nI 0)) 1) := snd_iconst dX1_hard_0 (by decide)
theorem oX1_hard_1 : SX1_hard 1 (i_istore 1 2) := snd_istore_n dX1_hard_1 rfl (by decide)
theorem oX1_hard_2 : SX1_hard 2 (i_const (.int (-1)) 3) := snd_iconst dX1_hard_2 (by decide)
theorem oX1_hard_3 : SX1_hard 3 (i_istore 2 4) := snd_istore_n dX1_hard_3 rfl (by decide)
theorem oX1_hard_4 : SX1_hard 4 (i_aload 0 5) := snd_aload_n dX1_hard_4 rfl
theorem oX1_hard_5 : SX1_hard 5 (i_getf 0 5 8) := snd_getf dX1_hard_5 rfl (by decide) in_X1 (Or.inl q351) (Or.inl rfl) (by decide)
theorem oX1_hard_8 : SX1_hard 8 (i_aload 0 9) := snd_aload_n dX1_hard_8 rfl
theorem oX1_hard_9 : SX1_hard 9 (i_getf 0 4 12) := snd_getf dX1_hard_9 rfl (by decide) in_X1 (Or.inl q350) (Or.inl rfl) (by decide)
theorem oX1_hard_12 : SX1_hard 12 (i_cvv 3 239 1 15) := snd_cvv rfl infX4_be (by decide) rfl (xVm_V dX1_hard_12 rfl q1194 q1195 q1196 q133 q1197 pdX4_be)
theorem oX1_hard_15 : SX1_hard 15 (i_const (.int (nI 0)) 16) := snd_iconst dX1_hard_15 (by decide)
theorem oX1_hard_16 : SX1_hard 16 (i_istore 3 17) := snd_istore_n dX1_hard_16 rfl (by decide)
theorem oX1_hard_17 : SX1_hard 17 (i_iload 3 18) := snd_iload_n dX1_hard_17 rfl
theorem oX1_hard_18 : SX1_hard 18 (i_const (.int (nI 60)) 20) := snd_bipush dX1_hard_18 (by decide)
theorem oX1_hard_20 : SX1_hard 20 (i_if2 (fun x y => y < x) 61 23) := snd_icmp_gt dX1_hard_20 (by decide)
theorem oX1_hard_23 : SX1_hard 23 (i_aload 0 24) := snd_aload_n dX1_hard_23 rfl
theorem oX1_hard_24 : SX1_hard 24 (i_aload 0 25) := snd_aload_n dX1_hard_24 rfl
theorem oX1_hard_25 : SX1_hard 25 (i_getf 0 5 28) := snd_getf dX1_hard_25 rfl (by decide) in_X1 (Or.inl q351) (Or.inl rfl) (by decide)
theorem oX1_hard_28 : SX1_hard 28 (i_cv 0 108 1 31) := snd_cv rfl infX1_sticking (by decide) rfl (xVm_V dX1_hard_28 rfl q1281 q1283 qs38 q127 q1284 pdX1_sticking)
theorem oX1_hard_31 : SX1_hard 31 (i_cs 28 1 34) := snd_cs rfl infJ17_bitCount (by decide) (xSm_S dX1_hard_31 q1363 q1364 q168 q1365 pdJ17_bitCount)
theorem oX1_hard_34 : SX1_hard 34 (i_istore 4 36) := snd_istore dX1_hard_34 (by decide)
theorem oX1_hard_36 : SX1_hard 36 (i_iload 4 38) := snd_iload dX1_hard_36
theorem oX1_hard_38 : SX1_hard 38 (i_iload 2 39) := snd_iload_n dX1_hard_38 rfl
theorem oX1_hard_39 : SX1_hard 39 (i_if2 (fun x y => x ≤ y) 47 42) := snd_icmp_le dX1_hard_39 (by decide)
theorem oX1_hard_42 : SX1_hard 42 (i_iload 4 44) := snd_iload dX1_hard_42
theorem oX1_hard_44 : SX1_hard 44 (i_istore 2 45) := snd_istore_n dX1_hard_44 rfl (by decide)
theorem oX1_hard_45 : SX1_hard 45 (i_iload 3 46) := snd_iload_n dX1_hard_45 rfl
theorem oX1_hard_46 : SX1_hard 46 (i_istore 1 47) := snd_istore_n dX1_hard_46 rfl (by decide)
theorem oX1_hard_47 : SX1_hard 47 (i_aload 0 48) := snd_aload_n dX1_hard_47 rfl
theorem oX1_hard_48 : SX1_hard 48 (i_aload 0 49) := snd_aload_n dX1_hard_48 rfl
theorem oX1_hard_49 : SX1_hard 49 (i_getf 0 5 52) := snd_getf dX1_hard_49 rfl (by decide) in_X1 (Or.inl q351) (Or.inl rfl) (by decide)
theorem oX1_hard_52 : SX1_hard 52 (i_cvv 0 104 1 55) := snd_cvv rfl infX1_passes (by decide) rfl (xVm_V dX1_hard_52 rfl q1198 q1200 qs35 q127 q1201 pdX1_passes)
theorem oX1_hard_55 : SX1_hard 55 (i_iinc 3 (nI 1) 58) := snd_iinc dX1_hard_55 (by decide) (by decide)
theorem oX1_hard_58 : SX1_hard 58 (i_goto 17) := snd_goto dX1_hard_58 (by decide)
theorem oX1_hard_61 : SX1_hard 61 (i_iload 1 62) := snd_iload_n dX1_hard_61 rfl
theorem oX1_hard_62 : SX1_hard 62 (i_iret) := snd_iret dX1_hard_62 rfl
theorem okX1_hard : ∀ q ∈ cX1_hard, SX1_hard q.1 q.2 := List.forall_mem_cons.mpr ⟨oX1_hard_0, List.forall_mem_cons.mpr ⟨oX1_hard_1, List.forall_mem_cons.mpr ⟨oX1_hard_2, List.forall_mem_cons.mpr ⟨oX1_hard_3, List.forall_mem_cons.mpr ⟨oX1_hard_4, List.forall_mem_cons.mpr ⟨oX1_hard_5, List.forall_mem_cons.mpr ⟨oX1_hard_8, List.forall_mem_cons.mpr ⟨oX1_hard_9, List.forall_mem_cons.mpr ⟨oX1_hard_12, List.forall_mem_cons.mpr ⟨oX1_hard_15, List.forall_mem_cons.mpr ⟨oX1_hard_16, List.forall_mem_cons.mpr ⟨oX1_hard_17, List.forall_mem_cons.mpr ⟨oX1_hard_18, List.forall_mem_cons.mpr ⟨oX1_hard_20, List.forall_mem_cons.mpr ⟨oX1_hard_23, List.forall_mem_cons.mpr ⟨oX1_hard_24, List.forall_mem_cons.mpr ⟨oX1_hard_25, List.forall_mem_cons.mpr ⟨oX1_hard_28, List.forall_mem_cons.mpr ⟨oX1_hard_31, List.forall_mem_cons.mpr ⟨oX1_hard_34, List.forall_mem_cons.mpr ⟨oX1_hard_36, List.forall_mem_cons.mpr ⟨oX1_hard_38, List.forall_mem_cons.mpr ⟨oX1_hard_39, List.forall_mem_cons.mpr ⟨oX1_hard_42, List.forall_mem_cons.mpr ⟨oX1_hard_44, List.forall_mem_cons.mpr ⟨oX1_hard_45, List.forall_mem_cons.mpr ⟨oX1_hard_46, List.forall_mem_cons.mpr ⟨oX1_hard_47, List.forall_mem_cons.mpr ⟨oX1_hard_48, List.forall_mem_cons.mpr ⟨oX1_hard_49, List.forall_mem_cons.mpr ⟨oX1_hard_52, List.forall_mem_cons.mpr ⟨oX1_hard_55, List.forall_mem_cons.mpr ⟨oX1_hard_58, List.forall_mem_cons.mpr ⟨oX1_hard_61, List.forall_mem_cons.mpr ⟨oX1_hard_62, fun _ h => absurd h List.not_mem_nil⟩⟩⟩⟩⟩⟩⟩⟩⟩⟩⟩⟩⟩⟩⟩⟩⟩⟩⟩⟩⟩⟩⟩⟩⟩⟩⟩⟩⟩⟩⟩⟩⟩⟩⟩
def dkwX1_arrives_1 : List UInt8 := [27, 46, 28, 182, 1, 56, 167, 0, 4, 2, 172]
abbrev dktX1_arrives_1 : List UInt8 := dkwX1_arrives_1 ++ []
def dkwX1_arrives_0 : List UInt8 := [42, 27, 182, 0, 250, 153, 0, 28, 42, 28, 182, 1, 37, 153, 0, 20, 42, 42, 180, 0, 51, 180, 0, 229]
abbrev dktX1_arrives_0 : List UInt8 := dkwX1_arrives_0 ++ dktX1_arrives_1
theorem dksX1_arrives_0 : bcX1_arrives.data.toList.drop 0 = dktX1_arrives_0 := by decide +kernel
theorem dksX1_arrives_1 : bcX1_arrives.data.toList.drop 24 = dktX1_arrives_1 := dk_seg dksX1_arrives_0 24 rfl rfl
theorem dX1_arrives_0 : decode bcX1_arrives 0 = .ok (.aload_n 0, 1) := dk_42 (dk_at dksX1_arrives_0 0 rfl rfl)
theorem dX1_arrives_1 : decode bcX1_arrives 1 = .ok (.iload_n 1, 1) := dk_27 (dk_at dksX1_arrives_0 1 rfl rfl)
theorem dX1_arrives_2 : decode bcX1_arrives 2 = .ok (.invokevirtual 250, 3) := dk_182 0 250 (dk_at dksX1_arrives_0 2 rfl rfl)
theorem dX1_arrives_5 : decode bcX1_arrives 5 = .ok (.ifCond .eq 28, 3) := dk_153 0 28 (dk_at dksX1_arrives_0 5 rfl rfl)
theorem dX1_arrives_8 : decode bcX1_arrives 8 = .ok (.aload_n 0, 1) := dk_42 (dk_at dksX1_arrives_0 8 rfl rfl)
theorem dX1_arrives_9 : decode bcX1_arrives 9 = .ok (.iload_n 2, 1) := dk_28 (dk_at dksX1_arrives_0 9 rfl rfl)
theorem dX1_arrives_10 : decode bcX1_arrives 10 = .ok (.invokevirtual 293, 3) := dk_182 1 37 (dk_at dksX1_arrives_0 10 rfl rfl)
theorem dX1_arrives_13 : decode bcX1_arrives 13 = .ok (.ifCond .eq 20, 3) := dk_153 0 20 (dk_at dksX1_arrives_0 13 rfl rfl)
theorem dX1_arrives_16 : decode bcX1_arrives 16 = .ok (.aload_n 0, 1) := dk_42 (dk_at dksX1_arrives_0 16 rfl rfl)
theorem dX1_arrives_17 : decode bcX1_arrives 17 = .ok (.aload_n 0, 1) := dk_42 (dk_at dksX1_arrives_0 17 rfl rfl)
theorem dX1_arrives_18 : decode bcX1_arrives 18 = .ok (.getfield 51, 3) := dk_180 0 51 (dk_at dksX1_arrives_0 18 rfl rfl)
theorem dX1_arrives_21 : decode bcX1_arrives 21 = .ok (.getfield 229, 3) := dk_180 0 229 (dk_at dksX1_arrives_0 21 rfl rfl)
theorem dX1_arrives_24 : decode bcX1_arrives 24 = .ok (.iload_n 1, 1) := dk_27 (dk_at dksX1_arrives_1 0 rfl rfl)
theorem dX1_arrives_25 : decode bcX1_arrives 25 = .ok (.iaload, 1) := dk_46 (dk_at dksX1_arrives_1 1 rfl rfl)
theorem dX1_arrives_26 : decode bcX1_arrives 26 = .ok (.iload_n 2, 1) := dk_28 (dk_at dksX1_arrives_1 2 rfl rfl)
theorem dX1_arrives_27 : decode bcX1_arrives 27 = .ok (.invokevirtual 312, 3) := dk_182 1 56 (dk_at dksX1_arrives_1 3 rfl rfl)
theorem dX1_arrives_30 : decode bcX1_arrives 30 = .ok (.goto 4, 3) := dk_167 0 4 (dk_at dksX1_arrives_1 6 rfl rfl)
theorem dX1_arrives_33 : decode bcX1_arrives 33 = .ok (.iconst (-1), 1) := dk_2 (dk_at dksX1_arrives_1 9 rfl rfl)
theorem dX1_arrives_34 : decode bcX1_arrives 34 = .ok (.ireturn, 1) := dk_172 (dk_at dksX1_arrives_1 10 rfl rfl)
abbrev SX1_arrives (pc : Nat) (i : xI) : Prop := Snd "SwollenHouse" "arrives" prog_1_method_54_code 3 (Option.some Jvm.ClassFile.FieldType.int) [] pc i
theorem oX1_arrives_0 : SX1_arrives 0 (i_aload 0 1) := snd_aload_n dX1_arrives_0 rfl
theorem oX1_arrives_1 : SX1_arrives 1 (i_iload 1 2) := snd_iload_n dX1_arrives_1 rfl
theorem oX1_arrives_2 : SX1_arrives 2 (i_cv 0 100 1 5) := snd_cv rfl infX1_isPerson (by decide) rfl (xVm_V dX1_arrives_2 rfl q1178 q1180 qs32 q127 q1181 pdX1_isPerson)
theorem oX1_arrives_5 : SX1_arrives 5 (i_if1 (fun x => x = 0) 33 8) := snd_if_eq dX1_arrives_5 (by decide)
theorem oX1_arrives_8 : SX1_arrives 8 (i_aload 0 9) := snd_aload_n dX1_arrives_8 rfl
theorem oX1_arrives_9 : SX1_arrives 9 (i_iload 2 10) := snd_iload_n dX1_arrives_9 rfl
theorem oX1_arrives_10 : SX1_arrives 10 (i_cv 0 119 1 13) := snd_cv rfl infX1_isRoom (by decide) rfl (xVm_V dX1_arrives_10 rfl q1377 q1379 qs41 q127 q1380 pdX1_isRoom)
theorem oX1_arrives_13 : SX1_arrives 13 (i_if1 (fun x => x = 0) 33 16) := snd_if_eq dX1_arrives_13 (by decide)
theorem oX1_arrives_16 : SX1_arrives 16 (i_aload 0 17) := snd_aload_n dX1_arrives_16 rfl
theorem oX1_arrives_17 : SX1_arrives 17 (i_aload 0 18) := snd_aload_n dX1_arrives_17 rfl
theorem oX1_arrives_18 : SX1_arrives 18 (i_getf 0 4 21) := snd_getf dX1_arrives_18 rfl (by decide) in_X1 (Or.inl q350) (Or.inl rfl) (by decide)
theorem oX1_arrives_21 : SX1_arrives 21 (i_getf 3 2 24) := snd_getf dX1_arrives_21 rfl (by decide) in_X4 (Or.inr ⟨_, q296⟩) (Or.inl rfl) (by decide)
theorem oX1_arrives_24 : SX1_arrives 24 (i_iload 1 25) := snd_iload_n dX1_arrives_24 rfl
theorem oX1_arrives_25 : SX1_arrives 25 (i_ai 0 26) := snd_ai0 dX1_arrives_25
theorem oX1_arrives_26 : SX1_arrives 26 (i_iload 2 27) := snd_iload_n dX1_arrives_26 rfl
theorem oX1_arrives_27 : SX1_arrives 27 (i_cv 0 138 2 30) := snd_cv rfl infX1_arrival (by decide) rfl (xVm_V dX1_arrives_27 rfl q1454 q1456 qs49 q127 q1457 pdX1_arrival)
theorem oX1_arrives_30 : SX1_arrives 30 (i_goto 34) := snd_goto dX1_arrives_30 (by decide)
theorem oX1_arrives_33 : SX1_arrives 33 (i_const (.int (-1)) 34) := snd_iconst dX1_arrives_33 (by decide)
theorem oX1_arrives_34 : SX1_arrives 34 (i_iret) := snd_iret dX1_arrives_34 rfl
theorem okX1_arrives : ∀ q ∈ cX1_arrives, SX1_arrives q.1 q.2 := List.forall_mem_cons.mpr ⟨oX1_arrives_0, List.forall_mem_cons.mpr ⟨oX1_arrives_1, List.forall_mem_cons.mpr ⟨oX1_arrives_2, List.forall_mem_cons.mpr ⟨oX1_arrives_5, List.forall_mem_cons.mpr ⟨oX1_arrives_8, List.forall_mem_cons.mpr ⟨oX1_arrives_9, List.forall_mem_cons.mpr ⟨oX1_arrives_10, List.forall_mem_cons.mpr ⟨oX1_arrives_13, List.forall_mem_cons.mpr ⟨oX1_arrives_16, List.forall_mem_cons.mpr ⟨oX1_arrives_17, List.forall_mem_cons.mpr ⟨oX1_arrives_18, List.forall_mem_cons.mpr ⟨oX1_arrives_21, List.forall_mem_cons.mpr ⟨oX1_arrives_24, List.forall_mem_cons.mpr ⟨oX1_arrives_25, List.forall_mem_cons.mpr ⟨oX1_arrives_26, List.forall_mem_cons.mpr ⟨oX1_arrives_27, List.forall_mem_cons.mpr ⟨oX1_arrives_30, List.forall_mem_cons.mpr ⟨oX1_arrives_33, List.forall_mem_cons.mpr ⟨oX1_arrives_34, fun _ h => absurd h List.not_mem_nil⟩⟩⟩⟩⟩⟩⟩⟩⟩⟩⟩⟩⟩⟩⟩⟩⟩⟩⟩
