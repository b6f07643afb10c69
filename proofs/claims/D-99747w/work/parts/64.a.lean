set_option maxRecDepth 100000
theorem infJ0_init : xinf[0]? = some (some (yJ0_init, prog_46_method_1_code, 1, (Option.none : Option Jvm.ClassFile.FieldType), [])) := rfl
theorem pdJ0_init : xPd yJ0_init 0 := by decide +kernel
theorem infJ1_init : xinf[1]? = some (some (yJ1_init, prog_47_method_1_code, 1, (Option.none : Option Jvm.ClassFile.FieldType), [])) := rfl
theorem pdJ1_init : xPd yJ1_init 0 := by decide +kernel
theorem infJ10_init_2 : xinf[3]? = some (some (yJ10_init_2, prog_43_method_5_code, 5, (Option.none : Option Jvm.ClassFile.FieldType), [])) := rfl
theorem pdJ10_init_2 : xPd yJ10_init_2 4 := by decide +kernel
theorem infJ11_init : xinf[4]? = some (some (yJ11_init, prog_33_method_5_code, 5, (Option.none : Option Jvm.ClassFile.FieldType), [])) := rfl
theorem pdJ11_init : xPd yJ11_init 4 := by decide +kernel
theorem infJ12_init : xinf[6]? = some (some (yJ12_init, prog_37_method_5_code, 5, (Option.none : Option Jvm.ClassFile.FieldType), [])) := rfl
theorem pdJ12_init : xPd yJ12_init 4 := by decide +kernel
theorem infJ13_init : xinf[8]? = some (some (yJ13_init, prog_27_method_2_code, 2, (Option.none : Option Jvm.ClassFile.FieldType), [])) := rfl
theorem pdJ13_init : xPd yJ13_init 1 := by decide +kernel
theorem infJ13_append : xinf[9]? = some (some (yJ13_append, prog_27_method_31_code, 2, (Option.some (Jvm.ClassFile.FieldType.object "java/lang/AbstractStringBuilder")), [])) := rfl
theorem pdJ13_append : xPd yJ13_append 1 := by decide +kernel
theorem infJ13_ensureCapacityInternal : xinf[10]? = some (some (yJ13_ensureCapacityInternal, prog_27_method_9_code, 3, (Option.none : Option Jvm.ClassFile.FieldType), [])) := rfl
theorem pdJ13_ensureCapacityInternal : xPd yJ13_ensureCapacityInternal 1 := by decide +kernel
theorem infJ13_isLatin1 : xinf[12]? = some (some (yJ13_isLatin1, prog_27_method_68_code, 1, (Option.some Jvm.ClassFile.FieldType.boolean), [])) := rfl
theorem pdJ13_isLatin1 : xPd yJ13_isLatin1 0 := by decide +kernel
theorem infJ13_getValue : xinf[14]? = some (some (yJ13_getValue, prog_27_method_64_code, 1, (Option.some (Jvm.ClassFile.FieldType.array Jvm.ClassFile.FieldType.byte)), [])) := rfl
theorem pdJ13_getValue : xPd yJ13_getValue 0 := by decide +kernel
theorem infJ13_length : xinf[15]? = some (some (yJ13_length, prog_27_method_6_code, 1, (Option.some Jvm.ClassFile.FieldType.int), [])) := rfl
theorem pdJ13_length : xPd yJ13_length 0 := by decide +kernel
theorem infJ14_init : xinf[16]? = some (some (yJ14_init, prog_39_method_2_code, 2, (Option.none : Option Jvm.ClassFile.FieldType), [])) := rfl
theorem pdJ14_init : xPd yJ14_init 1 := by decide +kernel
theorem infJ14_append : xinf[17]? = some (some (yJ14_append, prog_39_method_14_code, 2, (Option.some (Jvm.ClassFile.FieldType.object "java/lang/StringBuilder")), [])) := rfl
theorem pdJ14_append : xPd yJ14_append 1 := by decide +kernel
theorem infJ14_toString : xinf[18]? = some (some (yJ14_toString, prog_39_method_42_code, 1, (Option.some (Jvm.ClassFile.FieldType.object "java/lang/String")), [])) := rfl
theorem pdJ14_toString : xPd yJ14_toString 0 := by decide +kernel
theorem infJ14_length : xinf[19]? = some (some (yJ14_length, prog_39_method_93_code, 1, (Option.some Jvm.ClassFile.FieldType.int), [])) := rfl
theorem pdJ14_length : xPd yJ14_length 0 := by decide +kernel
theorem infJ15_newLength : xinf[20]? = some (some (yJ15_newLength, prog_56_method_27_code, 4, (Option.some Jvm.ClassFile.FieldType.int), [])) := rfl
theorem pdJ15_newLength : xPd yJ15_newLength 3 := by decide +kernel
theorem infJ16_copyOfRange : xinf[23]? = some (some (yJ16_copyOfRange, prog_49_method_132_code, 3, (Option.some (Jvm.ClassFile.FieldType.array Jvm.ClassFile.FieldType.byte)), [])) := rfl
theorem pdJ16_copyOfRange : xPd yJ16_copyOfRange 3 := by decide +kernel
theorem infJ16_copyOfRangeByte : xinf[24]? = some (some (yJ16_copyOfRangeByte, prog_49_method_133_code, 5, (Option.some (Jvm.ClassFile.FieldType.array Jvm.ClassFile.FieldType.byte)), [])) := rfl
theorem pdJ16_copyOfRangeByte : xPd yJ16_copyOfRangeByte 3 := by decide +kernel
theorem infJ16_checkLength : xinf[25]? = some (some (yJ16_checkLength, prog_49_method_131_code, 2, (Option.none : Option Jvm.ClassFile.FieldType), [])) := rfl
theorem pdJ16_checkLength : xPd yJ16_checkLength 2 := by decide +kernel
theorem infJ16_copyOf_2 : xinf[26]? = some (some (yJ16_copyOf_2, prog_49_method_119_code, 2, (Option.some (Jvm.ClassFile.FieldType.array (Jvm.ClassFile.FieldType.object "java/lang/Object"))), [])) := rfl
theorem pdJ16_copyOf_2 : xPd yJ16_copyOf_2 2 := by decide +kernel
theorem infJ16_copyOf_3 : xinf[27]? = some (some (yJ16_copyOf_3, prog_49_method_120_code, 4, (Option.some (Jvm.ClassFile.FieldType.array (Jvm.ClassFile.FieldType.object "java/lang/Object"))), [])) := rfl
theorem pdJ16_copyOf_3 : xPd yJ16_copyOf_3 3 := by decide +kernel
theorem infJ17_bitCount : xinf[28]? = some (some (yJ17_bitCount, prog_34_method_49_code, 1, (Option.some Jvm.ClassFile.FieldType.int), [])) := rfl
theorem pdJ17_bitCount : xPd yJ17_bitCount 1 := by decide +kernel
theorem infJ2_init : xinf[31]? = some (some (yJ2_init, prog_48_method_1_code, 2, (Option.none : Option Jvm.ClassFile.FieldType), [])) := rfl
theorem pdJ2_init : xPd yJ2_init 1 := by decide +kernel
theorem infJ2_size : xinf[32]? = some (some (yJ2_size, prog_48_method_8_code, 1, (Option.some Jvm.ClassFile.FieldType.int), [])) := rfl
theorem pdJ2_size : xPd yJ2_size 0 := by decide +kernel
theorem infJ2_get : xinf[33]? = some (some (yJ2_get, prog_48_method_20_code, 2, (Option.some (Jvm.ClassFile.FieldType.object "java/lang/Object")), [])) := rfl
theorem pdJ2_get : xPd yJ2_get 1 := by decide +kernel
theorem infJ2_elementData : xinf[34]? = some (some (yJ2_elementData, prog_48_method_18_code, 2, (Option.some (Jvm.ClassFile.FieldType.object "java/lang/Object")), [])) := rfl
theorem pdJ2_elementData : xPd yJ2_elementData 1 := by decide +kernel
theorem infJ2_add : xinf[35]? = some (some (yJ2_add, prog_48_method_25_code, 2, (Option.some Jvm.ClassFile.FieldType.boolean), [])) := rfl
theorem pdJ2_add : xPd yJ2_add 1 := by decide +kernel
theorem infJ2_add_2 : xinf[36]? = some (some (yJ2_add_2, prog_48_method_24_code, 4, (Option.none : Option Jvm.ClassFile.FieldType), [])) := rfl
theorem pdJ2_add_2 : xPd yJ2_add_2 3 := by decide +kernel
theorem infJ2_grow : xinf[37]? = some (some (yJ2_grow, prog_48_method_7_code, 1, (Option.some (Jvm.ClassFile.FieldType.array (Jvm.ClassFile.FieldType.object "java/lang/Object"))), [])) := rfl
theorem pdJ2_grow : xPd yJ2_grow 0 := by decide +kernel
theorem infJ2_grow_2 : xinf[38]? = some (some (yJ2_grow_2, prog_48_method_6_code, 4, (Option.some (Jvm.ClassFile.FieldType.array (Jvm.ClassFile.FieldType.object "java/lang/Object"))), [])) := rfl
theorem pdJ2_grow_2 : xPd yJ2_grow_2 1 := by decide +kernel
theorem infJ3_checkIndex : xinf[39]? = some (some (yJ3_checkIndex, prog_53_method_17_code, 2, (Option.some Jvm.ClassFile.FieldType.int), [])) := rfl
theorem pdJ3_checkIndex : xPd yJ3_checkIndex 2 := by decide +kernel
theorem infJ4_checkIndex : xinf[40]? = some (some (yJ4_checkIndex, prog_57_method_11_code, 3, (Option.some Jvm.ClassFile.FieldType.int), [])) := rfl
theorem pdJ4_checkIndex : xPd yJ4_checkIndex 3 := by decide +kernel
theorem infJ5_indexOf : xinf[43]? = some (some (yJ5_indexOf, prog_38_method_79_code, 2, (Option.some Jvm.ClassFile.FieldType.int), [])) := rfl
theorem pdJ5_indexOf : xPd yJ5_indexOf 1 := by decide +kernel
theorem infJ5_indexOf_2 : xinf[44]? = some (some (yJ5_indexOf_2, prog_38_method_80_code, 3, (Option.some Jvm.ClassFile.FieldType.int), [])) := rfl
theorem pdJ5_indexOf_2 : xPd yJ5_indexOf_2 2 := by decide +kernel
theorem infJ5_isLatin1 : xinf[45]? = some (some (yJ5_isLatin1, prog_38_method_154_code, 1, (Option.some Jvm.ClassFile.FieldType.boolean), [])) := rfl
theorem pdJ5_isLatin1 : xPd yJ5_isLatin1 0 := by decide +kernel
theorem infJ5_length : xinf[46]? = some (some (yJ5_length, prog_38_method_54_code, 1, (Option.some Jvm.ClassFile.FieldType.int), [])) := rfl
theorem pdJ5_length : xPd yJ5_length 0 := by decide +kernel
theorem infJ5_coder : xinf[47]? = some (some (yJ5_coder, prog_38_method_152_code, 1, (Option.some Jvm.ClassFile.FieldType.byte), [])) := rfl
theorem pdJ5_coder : xPd yJ5_coder 0 := by decide +kernel
theorem infJ5_charAt : xinf[49]? = some (some (yJ5_charAt, prog_38_method_56_code, 2, (Option.some Jvm.ClassFile.FieldType.char), [])) := rfl
theorem pdJ5_charAt : xPd yJ5_charAt 1 := by decide +kernel
theorem infJ5_checkIndex : xinf[50]? = some (some (yJ5_checkIndex, prog_38_method_155_code, 2, (Option.none : Option Jvm.ClassFile.FieldType), [])) := rfl
theorem pdJ5_checkIndex : xPd yJ5_checkIndex 2 := by decide +kernel
theorem infJ5_init : xinf[52]? = some (some (yJ5_init, prog_38_method_53_code, 2, (Option.none : Option Jvm.ClassFile.FieldType), [])) := rfl
theorem pdJ5_init : xPd yJ5_init 1 := by decide +kernel
theorem infJ5_init_2 : xinf[53]? = some (some (yJ5_init_2, prog_38_method_150_code, 5, (Option.none : Option Jvm.ClassFile.FieldType), [])) := rfl
theorem pdJ5_init_2 : xPd yJ5_init_2 2 := by decide +kernel
theorem infJ5_equals : xinf[54]? = some (some (yJ5_equals, prog_38_method_66_code, 3, (Option.some Jvm.ClassFile.FieldType.boolean), [])) := rfl
theorem pdJ5_equals : xPd yJ5_equals 1 := by decide +kernel
theorem infJ6_indexOf : xinf[55]? = some (some (yJ6_indexOf, prog_40_method_22_code, 4, (Option.some Jvm.ClassFile.FieldType.int), [])) := rfl
theorem pdJ6_indexOf : xPd yJ6_indexOf 4 := by decide +kernel
theorem infJ6_canEncode : xinf[56]? = some (some (yJ6_canEncode, prog_40_method_4_code, 1, (Option.some Jvm.ClassFile.FieldType.boolean), [])) := rfl
theorem pdJ6_canEncode : xPd yJ6_canEncode 1 := by decide +kernel
theorem infJ6_indexOfChar : xinf[57]? = some (some (yJ6_indexOfChar, prog_40_method_23_code, 6, (Option.some Jvm.ClassFile.FieldType.int), [])) := rfl
theorem pdJ6_indexOfChar : xPd yJ6_indexOfChar 4 := by decide +kernel
theorem infJ6_charAt : xinf[58]? = some (some (yJ6_charAt, prog_40_method_2_code, 2, (Option.some Jvm.ClassFile.FieldType.char), [])) := rfl
theorem pdJ6_charAt : xPd yJ6_charAt 2 := by decide +kernel
theorem infJ6_canEncode_2 : xinf[59]? = some (some (yJ6_canEncode_2, prog_40_method_3_code, 1, (Option.some Jvm.ClassFile.FieldType.boolean), [])) := rfl
theorem pdJ6_canEncode_2 : xPd yJ6_canEncode_2 1 := by decide +kernel
theorem infJ6_equals : xinf[61]? = some (some (yJ6_equals, prog_40_method_13_code, 3, (Option.some Jvm.ClassFile.FieldType.boolean), [])) := rfl
theorem pdJ6_equals : xPd yJ6_equals 2 := by decide +kernel
theorem infJ7_max : xinf[62]? = some (some (yJ7_max, prog_36_method_65_code, 2, (Option.some Jvm.ClassFile.FieldType.int), [])) := rfl
theorem pdJ7_max : xPd yJ7_max 2 := by decide +kernel
theorem infJ7_min : xinf[63]? = some (some (yJ7_min, prog_36_method_69_code, 2, (Option.some Jvm.ClassFile.FieldType.int), [])) := rfl
theorem pdJ7_min : xPd yJ7_min 2 := by decide +kernel
theorem infX0_rests : xinf[86]? = some (some (yX0_rests, method_3_code, 7, (Option.some Jvm.ClassFile.FieldType.int), [((0 : Nat), (14 : Nat), (17 : Nat), (13 : Nat))])) := rfl
theorem pdX0_rests : xPd yX0_rests 6 := by decide +kernel
theorem infX1_init : xinf[87]? = some (some (yX1_init, prog_1_method_7_code, 1, (Option.none : Option Jvm.ClassFile.FieldType), [])) := rfl
theorem pdX1_init : xPd yX1_init 0 := by decide +kernel
theorem infX1_copies : xinf[88]? = some (some (yX1_copies, prog_1_method_5_code, 3, (Option.none : Option Jvm.ClassFile.FieldType), [])) := rfl
theorem pdX1_copies : xPd yX1_copies 2 := by decide +kernel
theorem infX1_feed : xinf[89]? = some (some (yX1_feed, prog_1_method_8_code, 9, (Option.some Jvm.ClassFile.FieldType.int), [])) := rfl
theorem pdX1_feed : xPd yX1_feed 3 := by decide +kernel
theorem infX1_house : xinf[90]? = some (some (yX1_house, prog_1_method_10_code, 2, (Option.some Jvm.ClassFile.FieldType.int), [((4 : Nat), (15 : Nat), (18 : Nat), (116 : Nat))])) := rfl
theorem pdX1_house : xPd yX1_house 0 := by decide +kernel
theorem infX1_reads : xinf[91]? = some (some (yX1_reads, prog_1_method_9_code, 1, (Option.none : Option Jvm.ClassFile.FieldType), [])) := rfl
theorem pdX1_reads : xPd yX1_reads 0 := by decide +kernel
theorem infX1_in : xinf[92]? = some (some (yX1_in, prog_1_method_1_code, 3, (Option.some Jvm.ClassFile.FieldType.boolean), [])) := rfl
theorem pdX1_in : xPd yX1_in 3 := by decide +kernel
theorem infX1_days : xinf[93]? = some (some (yX1_days, prog_1_method_11_code, 2, (Option.some Jvm.ClassFile.FieldType.int), [((4 : Nat), (19 : Nat), (22 : Nat), (116 : Nat))])) := rfl
theorem pdX1_days : xPd yX1_days 0 := by decide +kernel
theorem infX1_door : xinf[94]? = some (some (yX1_door, prog_1_method_27_code, 3, (Option.some Jvm.ClassFile.FieldType.int), [])) := rfl
theorem pdX1_door : xPd yX1_door 2 := by decide +kernel
theorem infX1_isDoor : xinf[95]? = some (some (yX1_isDoor, prog_1_method_17_code, 2, (Option.some Jvm.ClassFile.FieldType.boolean), [])) := rfl
theorem pdX1_isDoor : xPd yX1_isDoor 1 := by decide +kernel
theorem infX1_doors : xinf[96]? = some (some (yX1_doors, prog_1_method_13_code, 1, (Option.some Jvm.ClassFile.FieldType.int), [])) := rfl
theorem pdX1_doors : xPd yX1_doors 0 := by decide +kernel
theorem infX1_door_2 : xinf[97]? = some (some (yX1_door_2, prog_1_method_14_code, 2, (Option.some (Jvm.ClassFile.FieldType.object "SwollenHouse$Door")), [])) := rfl
theorem pdX1_door_2 : xPd yX1_door_2 1 := by decide +kernel
theorem infX1_isIn : xinf[98]? = some (some (yX1_isIn, prog_1_method_3_code, 2, (Option.some Jvm.ClassFile.FieldType.boolean), [])) := rfl
theorem pdX1_isIn : xPd yX1_isIn 2 := by decide +kernel
theorem infX1_person : xinf[99]? = some (some (yX1_person, prog_1_method_28_code, 2, (Option.some Jvm.ClassFile.FieldType.int), [])) := rfl
theorem pdX1_person : xPd yX1_person 1 := by decide +kernel
theorem infX1_isPerson : xinf[100]? = some (some (yX1_isPerson, prog_1_method_18_code, 2, (Option.some Jvm.ClassFile.FieldType.boolean), [])) := rfl
theorem pdX1_isPerson : xPd yX1_isPerson 1 := by decide +kernel
theorem infX1_people : xinf[101]? = some (some (yX1_people, prog_1_method_15_code, 1, (Option.some Jvm.ClassFile.FieldType.int), [])) := rfl
theorem pdX1_people : xPd yX1_people 0 := by decide +kernel
theorem infX1_day : xinf[102]? = some (some (yX1_day, prog_1_method_30_code, 1, (Option.some Jvm.ClassFile.FieldType.int), [])) := rfl
theorem pdX1_day : xPd yX1_day 0 := by decide +kernel
theorem infX1_keeps : xinf[103]? = some (some (yX1_keeps, prog_1_method_29_code, 3, (Option.none : Option Jvm.ClassFile.FieldType), [])) := rfl
theorem pdX1_keeps : xPd yX1_keeps 0 := by decide +kernel
theorem infX1_passes : xinf[104]? = some (some (yX1_passes, prog_1_method_21_code, 2, (Option.none : Option Jvm.ClassFile.FieldType), [])) := rfl
theorem pdX1_passes : xPd yX1_passes 1 := by decide +kernel
theorem infX1_passes_2 : xinf[105]? = some (some (yX1_passes_2, prog_1_method_19_code, 5, (Option.none : Option Jvm.ClassFile.FieldType), [])) := rfl
theorem pdX1_passes_2 : xPd yX1_passes_2 2 := by decide +kernel
theorem infX1_swells : xinf[106]? = some (some (yX1_swells, prog_1_method_20_code, 4, (Option.some Jvm.ClassFile.FieldType.int), [])) := rfl
theorem pdX1_swells : xPd yX1_swells 3 := by decide +kernel
theorem infX1_between : xinf[107]? = some (some (yX1_between, prog_1_method_2_code, 3, (Option.some Jvm.ClassFile.FieldType.int), [])) := rfl
theorem pdX1_between : xPd yX1_between 3 := by decide +kernel
theorem infX1_sticking : xinf[108]? = some (some (yX1_sticking, prog_1_method_23_code, 4, (Option.some Jvm.ClassFile.FieldType.int), [])) := rfl
theorem pdX1_sticking : xPd yX1_sticking 1 := by decide +kernel
theorem infX1_walk : xinf[109]? = some (some (yX1_walk, prog_1_method_31_code, 3, (Option.some Jvm.ClassFile.FieldType.int), [])) := rfl
theorem pdX1_walk : xPd yX1_walk 2 := by decide +kernel
theorem infX1_isWalked : xinf[110]? = some (some (yX1_isWalked, prog_1_method_25_code, 4, (Option.some Jvm.ClassFile.FieldType.boolean), [])) := rfl
theorem pdX1_isWalked : xPd yX1_isWalked 3 := by decide +kernel
theorem infX1_plane : xinf[111]? = some (some (yX1_plane, prog_1_method_32_code, 2, (Option.some Jvm.ClassFile.FieldType.int), [])) := rfl
theorem pdX1_plane : xPd yX1_plane 1 := by decide +kernel
theorem infX1_wedge : xinf[112]? = some (some (yX1_wedge, prog_1_method_33_code, 2, (Option.some Jvm.ClassFile.FieldType.int), [])) := rfl
theorem pdX1_wedge : xPd yX1_wedge 1 := by decide +kernel
theorem infX1_force : xinf[113]? = some (some (yX1_force, prog_1_method_34_code, 2, (Option.some Jvm.ClassFile.FieldType.int), [])) := rfl
theorem pdX1_force : xPd yX1_force 1 := by decide +kernel
theorem infX1_undo : xinf[114]? = some (some (yX1_undo, prog_1_method_35_code, 1, (Option.some Jvm.ClassFile.FieldType.boolean), [])) := rfl
theorem pdX1_undo : xPd yX1_undo 0 := by decide +kernel
theorem infX1_judged : xinf[115]? = some (some (yX1_judged, prog_1_method_36_code, 5, (Option.some Jvm.ClassFile.FieldType.int), [])) := rfl
theorem pdX1_judged : xPd yX1_judged 1 := by decide +kernel
theorem infX1_shut : xinf[116]? = some (some (yX1_shut, prog_1_method_26_code, 6, (Option.some Jvm.ClassFile.FieldType.int), [])) := rfl
theorem pdX1_shut : xPd yX1_shut 1 := by decide +kernel
theorem infX1_shut_2 : xinf[117]? = some (some (yX1_shut_2, prog_1_method_37_code, 1, (Option.some Jvm.ClassFile.FieldType.int), [])) := rfl
theorem pdX1_shut_2 : xPd yX1_shut_2 0 := by decide +kernel
theorem infX1_range : xinf[118]? = some (some (yX1_range, prog_1_method_40_code, 2, (Option.some Jvm.ClassFile.FieldType.int), [])) := rfl
theorem pdX1_range : xPd yX1_range 1 := by decide +kernel
theorem infX1_isRoom : xinf[119]? = some (some (yX1_isRoom, prog_1_method_16_code, 2, (Option.some Jvm.ClassFile.FieldType.boolean), [])) := rfl
theorem pdX1_isRoom : xPd yX1_isRoom 1 := by decide +kernel
theorem infX1_rooms : xinf[120]? = some (some (yX1_rooms, prog_1_method_12_code, 1, (Option.some Jvm.ClassFile.FieldType.int), [])) := rfl
theorem pdX1_rooms : xPd yX1_rooms 0 := by decide +kernel
theorem infX1_open : xinf[121]? = some (some (yX1_open, prog_1_method_24_code, 2, (Option.some Jvm.ClassFile.FieldType.int), [])) := rfl
theorem pdX1_open : xPd yX1_open 1 := by decide +kernel
theorem infX1_range_2 : xinf[122]? = some (some (yX1_range_2, prog_1_method_39_code, 5, (Option.some Jvm.ClassFile.FieldType.int), [])) := rfl
theorem pdX1_range_2 : xPd yX1_range_2 2 := by decide +kernel
theorem infX1_next : xinf[123]? = some (some (yX1_next, prog_1_method_38_code, 5, (Option.some Jvm.ClassFile.FieldType.int), [])) := rfl
theorem pdX1_next : xPd yX1_next 2 := by decide +kernel
theorem infX1_company : xinf[124]? = some (some (yX1_company, prog_1_method_42_code, 2, (Option.some Jvm.ClassFile.FieldType.int), [])) := rfl
theorem pdX1_company : xPd yX1_company 1 := by decide +kernel
theorem infX1_companyOf : xinf[125]? = some (some (yX1_companyOf, prog_1_method_41_code, 5, (Option.some Jvm.ClassFile.FieldType.int), [])) := rfl
theorem pdX1_companyOf : xPd yX1_companyOf 1 := by decide +kernel
theorem infX1_parts : xinf[126]? = some (some (yX1_parts, prog_1_method_43_code, 4, (Option.some Jvm.ClassFile.FieldType.int), [])) := rfl
theorem pdX1_parts : xPd yX1_parts 0 := by decide +kernel
theorem infX1_alone : xinf[127]? = some (some (yX1_alone, prog_1_method_44_code, 3, (Option.some Jvm.ClassFile.FieldType.int), [])) := rfl
theorem pdX1_alone : xPd yX1_alone 0 := by decide +kernel
theorem infX1_bride : xinf[128]? = some (some (yX1_bride, prog_1_method_45_code, 5, (Option.some Jvm.ClassFile.FieldType.int), [])) := rfl
theorem pdX1_bride : xPd yX1_bride 0 := by decide +kernel
theorem infX1_deep : xinf[129]? = some (some (yX1_deep, prog_1_method_46_code, 4, (Option.some Jvm.ClassFile.FieldType.int), [])) := rfl
theorem pdX1_deep : xPd yX1_deep 1 := by decide +kernel
theorem infX1_later : xinf[130]? = some (some (yX1_later, prog_1_method_47_code, 3, (Option.some Jvm.ClassFile.FieldType.int), [])) := rfl
theorem pdX1_later : xPd yX1_later 2 := by decide +kernel
theorem infX1_goesOn : xinf[131]? = some (some (yX1_goesOn, prog_1_method_22_code, 3, (Option.none : Option Jvm.ClassFile.FieldType), [])) := rfl
theorem pdX1_goesOn : xPd yX1_goesOn 1 := by decide +kernel
theorem infX1_closes : xinf[132]? = some (some (yX1_closes, prog_1_method_49_code, 2, (Option.some Jvm.ClassFile.FieldType.int), [])) := rfl
theorem pdX1_closes : xPd yX1_closes 1 := by decide +kernel
theorem infX1_comes : xinf[133]? = some (some (yX1_comes, prog_1_method_48_code, 4, (Option.some Jvm.ClassFile.FieldType.int), [])) := rfl
theorem pdX1_comes : xPd yX1_comes 2 := by decide +kernel
theorem infX1_gives : xinf[134]? = some (some (yX1_gives, prog_1_method_50_code, 2, (Option.some Jvm.ClassFile.FieldType.int), [])) := rfl
theorem pdX1_gives : xPd yX1_gives 1 := by decide +kernel
theorem infX1_calm : xinf[135]? = some (some (yX1_calm, prog_1_method_51_code, 2, (Option.some Jvm.ClassFile.FieldType.int), [])) := rfl
theorem pdX1_calm : xPd yX1_calm 0 := by decide +kernel
theorem infX1_hard : xinf[136]? = some (some (yX1_hard, prog_1_method_52_code, 5, (Option.some Jvm.ClassFile.FieldType.int), [])) := rfl
theorem pdX1_hard : xPd yX1_hard 0 := by decide +kernel
theorem infX1_arrives : xinf[137]? = some (some (yX1_arrives, prog_1_method_54_code, 3, (Option.some Jvm.ClassFile.FieldType.int), [])) := rfl
theorem pdX1_arrives : xPd yX1_arrives 2 := by decide +kernel
theorem infX1_arrival : xinf[138]? = some (some (yX1_arrival, prog_1_method_53_code, 5, (Option.some Jvm.ClassFile.FieldType.int), [])) := rfl
theorem pdX1_arrival : xPd yX1_arrival 2 := by decide +kernel
theorem infX1_from : xinf[139]? = some (some (yX1_from, prog_1_method_55_code, 5, (Option.some Jvm.ClassFile.FieldType.int), [])) := rfl
theorem pdX1_from : xPd yX1_from 2 := by decide +kernel
theorem infX1_both : xinf[140]? = some (some (yX1_both, prog_1_method_56_code, 6, (Option.some Jvm.ClassFile.FieldType.int), [])) := rfl
theorem pdX1_both : xPd yX1_both 2 := by decide +kernel
theorem infX1_cut : xinf[141]? = some (some (yX1_cut, prog_1_method_57_code, 6, (Option.some Jvm.ClassFile.FieldType.int), [])) := rfl
theorem pdX1_cut : xPd yX1_cut 2 := by decide +kernel
theorem infX1_planed : xinf[142]? = some (some (yX1_planed, prog_1_method_60_code, 4, (Option.some Jvm.ClassFile.FieldType.int), [])) := rfl
theorem pdX1_planed : xPd yX1_planed 2 := by decide +kernel
theorem infX1_isPlaned : xinf[143]? = some (some (yX1_isPlaned, prog_1_method_59_code, 6, (Option.some Jvm.ClassFile.FieldType.boolean), [])) := rfl
theorem pdX1_isPlaned : xPd yX1_isPlaned 4 := by decide +kernel
theorem infX1_areTogether : xinf[144]? = some (some (yX1_areTogether, prog_1_method_58_code, 4, (Option.some Jvm.ClassFile.FieldType.boolean), [])) := rfl
theorem pdX1_areTogether : xPd yX1_areTogether 1 := by decide +kernel
theorem infX1_feel : xinf[145]? = some (some (yX1_feel, prog_1_method_61_code, 4, (Option.some Jvm.ClassFile.FieldType.boolean), [])) := rfl
theorem pdX1_feel : xPd yX1_feel 3 := by decide +kernel
theorem infX1_wets : xinf[146]? = some (some (yX1_wets, prog_1_method_63_code, 1, (Option.some Jvm.ClassFile.FieldType.int), [])) := rfl
theorem pdX1_wets : xPd yX1_wets 0 := by decide +kernel
theorem infX1_laysWets : xinf[147]? = some (some (yX1_laysWets, prog_1_method_62_code, 5, (Option.some Jvm.ClassFile.FieldType.int), [])) := rfl
theorem pdX1_laysWets : xPd yX1_laysWets 0 := by decide +kernel
theorem infX1_tries : xinf[148]? = some (some (yX1_tries, prog_1_method_64_code, 9, (Option.some Jvm.ClassFile.FieldType.int), [])) := rfl
theorem pdX1_tries : xPd yX1_tries 0 := by decide +kernel
theorem infX1_say : xinf[149]? = some (some (yX1_say, prog_1_method_65_code, 3, (Option.some Jvm.ClassFile.FieldType.boolean), [])) := rfl
theorem pdX1_say : xPd yX1_say 2 := by decide +kernel
theorem infX1_who : xinf[150]? = some (some (yX1_who, prog_1_method_66_code, 5, (Option.some Jvm.ClassFile.FieldType.int), [])) := rfl
theorem pdX1_who : xPd yX1_who 0 := by decide +kernel
theorem infX1_rattles : xinf[151]? = some (some (yX1_rattles, prog_1_method_67_code, 3, (Option.some Jvm.ClassFile.FieldType.int), [])) := rfl
theorem pdX1_rattles : xPd yX1_rattles 0 := by decide +kernel
theorem infX1_worst : xinf[152]? = some (some (yX1_worst, prog_1_method_68_code, 3, (Option.some Jvm.ClassFile.FieldType.int), [])) := rfl
theorem pdX1_worst : xPd yX1_worst 0 := by decide +kernel
theorem infX1_spared : xinf[153]? = some (some (yX1_spared, prog_1_method_69_code, 4, (Option.some Jvm.ClassFile.FieldType.int), [])) := rfl
theorem pdX1_spared : xPd yX1_spared 0 := by decide +kernel
theorem infX1_opened : xinf[154]? = some (some (yX1_opened, prog_1_method_71_code, 5, (Option.some Jvm.ClassFile.FieldType.int), [])) := rfl
theorem pdX1_opened : xPd yX1_opened 0 := by decide +kernel
theorem infX1_pairs : xinf[155]? = some (some (yX1_pairs, prog_1_method_70_code, 5, (Option.some Jvm.ClassFile.FieldType.int), [])) := rfl
theorem pdX1_pairs : xPd yX1_pairs 1 := by decide +kernel
theorem infX1_chance : xinf[156]? = some (some (yX1_chance, prog_1_method_72_code, 12, (Option.some Jvm.ClassFile.FieldType.int), [])) := rfl
theorem pdX1_chance : xPd yX1_chance 3 := by decide +kernel
theorem infX1_years : xinf[157]? = some (some (yX1_years, prog_1_method_77_code, 6, (Option.some Jvm.ClassFile.FieldType.int), [])) := rfl
theorem pdX1_years : xPd yX1_years 3 := by decide +kernel
theorem infX1_befalls : xinf[158]? = some (some (yX1_befalls, prog_1_method_76_code, 5, (Option.some Jvm.ClassFile.FieldType.boolean), [])) := rfl
theorem pdX1_befalls : xPd yX1_befalls 1 := by decide +kernel
theorem infX1_draws : xinf[159]? = some (some (yX1_draws, prog_1_method_75_code, 2, (Option.some Jvm.ClassFile.FieldType.int), [])) := rfl
theorem pdX1_draws : xPd yX1_draws 1 := by decide +kernel
theorem infX1_sum : xinf[160]? = some (some (yX1_sum, prog_1_method_6_code, 3, (Option.some Jvm.ClassFile.FieldType.int), [])) := rfl
theorem pdX1_sum : xPd yX1_sum 1 := by decide +kernel
theorem infX1_mark : xinf[161]? = some (some (yX1_mark, prog_1_method_78_code, 5, (Option.some Jvm.ClassFile.FieldType.boolean), [])) := rfl
theorem pdX1_mark : xPd yX1_mark 2 := by decide +kernel
theorem infX1_count : xinf[162]? = some (some (yX1_count, prog_1_method_79_code, 2, (Option.some Jvm.ClassFile.FieldType.int), [])) := rfl
theorem pdX1_count : xPd yX1_count 1 := by decide +kernel
theorem infX1_rests : xinf[163]? = some (some (yX1_rests, prog_1_method_74_code, 9, (Option.some Jvm.ClassFile.FieldType.int), [])) := rfl
theorem pdX1_rests : xPd yX1_rests 4 := by decide +kernel
theorem infX1_need : xinf[164]? = some (some (yX1_need, prog_1_method_4_code, 1, (Option.none : Option Jvm.ClassFile.FieldType), [])) := rfl
theorem pdX1_need : xPd yX1_need 1 := by decide +kernel
theorem infX1_gets : xinf[165]? = some (some (yX1_gets, prog_1_method_73_code, 5, (Option.some Jvm.ClassFile.FieldType.int), [])) := rfl
theorem pdX1_gets : xPd yX1_gets 5 := by decide +kernel
theorem infX10_init : xinf[166]? = some (some (yX10_init, prog_15_method_1_code, 1, (Option.none : Option Jvm.ClassFile.FieldType), [])) := rfl
theorem pdX10_init : xPd yX10_init 0 := by decide +kernel
theorem infX10_kind : xinf[167]? = some (some (yX10_kind, prog_15_method_2_code, 1, (Option.some Jvm.ClassFile.FieldType.int), [])) := rfl
theorem pdX10_kind : xPd yX10_kind 0 := by decide +kernel
theorem infX10_upper : xinf[168]? = some (some (yX10_upper, prog_15_method_3_code, 1, (Option.some Jvm.ClassFile.FieldType.int), [])) := rfl
theorem pdX10_upper : xPd yX10_upper 0 := by decide +kernel
theorem infX10_lower : xinf[169]? = some (some (yX10_lower, prog_15_method_4_code, 1, (Option.some Jvm.ClassFile.FieldType.int), [])) := rfl
theorem pdX10_lower : xPd yX10_lower 0 := by decide +kernel
theorem infX10_shrinks : xinf[170]? = some (some (yX10_shrinks, prog_15_method_5_code, 1, (Option.some Jvm.ClassFile.FieldType.int), [])) := rfl
theorem pdX10_shrinks : xPd yX10_shrinks 0 := by decide +kernel
theorem infX11_init : xinf[171]? = some (some (yX11_init, prog_3_method_1_code, 1, (Option.none : Option Jvm.ClassFile.FieldType), [])) := rfl
theorem pdX11_init : xPd yX11_init 0 := by decide +kernel
theorem infX11_kind : xinf[172]? = some (some (yX11_kind, prog_3_method_2_code, 1, (Option.some Jvm.ClassFile.FieldType.int), [])) := rfl
theorem pdX11_kind : xPd yX11_kind 0 := by decide +kernel
theorem infX11_upper : xinf[173]? = some (some (yX11_upper, prog_3_method_3_code, 1, (Option.some Jvm.ClassFile.FieldType.int), [])) := rfl
theorem pdX11_upper : xPd yX11_upper 0 := by decide +kernel
theorem infX11_lower : xinf[174]? = some (some (yX11_lower, prog_3_method_4_code, 1, (Option.some Jvm.ClassFile.FieldType.int), [])) := rfl
theorem pdX11_lower : xPd yX11_lower 0 := by decide +kernel
theorem infX11_shrinks : xinf[175]? = some (some (yX11_shrinks, prog_3_method_5_code, 1, (Option.some Jvm.ClassFile.FieldType.int), [])) := rfl
theorem pdX11_shrinks : xPd yX11_shrinks 0 := by decide +kernel
theorem infX12_init : xinf[176]? = some (some (yX12_init, prog_9_method_1_code, 1, (Option.none : Option Jvm.ClassFile.FieldType), [])) := rfl
theorem pdX12_init : xPd yX12_init 0 := by decide +kernel
theorem infX12_kind : xinf[177]? = some (some (yX12_kind, prog_9_method_2_code, 1, (Option.some Jvm.ClassFile.FieldType.int), [])) := rfl
theorem pdX12_kind : xPd yX12_kind 0 := by decide +kernel
theorem infX12_upper : xinf[178]? = some (some (yX12_upper, prog_9_method_3_code, 1, (Option.some Jvm.ClassFile.FieldType.int), [])) := rfl
theorem pdX12_upper : xPd yX12_upper 0 := by decide +kernel
theorem infX12_lower : xinf[179]? = some (some (yX12_lower, prog_9_method_4_code, 1, (Option.some Jvm.ClassFile.FieldType.int), [])) := rfl
theorem pdX12_lower : xPd yX12_lower 0 := by decide +kernel
theorem infX12_shrinks : xinf[180]? = some (some (yX12_shrinks, prog_9_method_5_code, 1, (Option.some Jvm.ClassFile.FieldType.int), [])) := rfl
theorem pdX12_shrinks : xPd yX12_shrinks 0 := by decide +kernel
theorem infX13_init : xinf[181]? = some (some (yX13_init, prog_4_method_1_code, 1, (Option.none : Option Jvm.ClassFile.FieldType), [])) := rfl
theorem pdX13_init : xPd yX13_init 0 := by decide +kernel
theorem infX14_init : xinf[182]? = some (some (yX14_init, prog_7_method_1_code, 2, (Option.none : Option Jvm.ClassFile.FieldType), [])) := rfl
theorem pdX14_init : xPd yX14_init 1 := by decide +kernel
theorem infX14_worked : xinf[183]? = some (some (yX14_worked, prog_7_method_2_code, 2, (Option.some Jvm.ClassFile.FieldType.int), [])) := rfl
theorem pdX14_worked : xPd yX14_worked 1 := by decide +kernel
theorem infX15_init : xinf[184]? = some (some (yX15_init, prog_5_method_1_code, 2, (Option.none : Option Jvm.ClassFile.FieldType), [])) := rfl
theorem pdX15_init : xPd yX15_init 1 := by decide +kernel
theorem infX15_worked : xinf[185]? = some (some (yX15_worked, prog_5_method_2_code, 2, (Option.some Jvm.ClassFile.FieldType.int), [])) := rfl
theorem pdX15_worked : xPd yX15_worked 1 := by decide +kernel
theorem infX16_init : xinf[186]? = some (some (yX16_init, prog_12_method_1_code, 2, (Option.none : Option Jvm.ClassFile.FieldType), [])) := rfl
theorem pdX16_init : xPd yX16_init 1 := by decide +kernel
theorem infX16_worked : xinf[187]? = some (some (yX16_worked, prog_12_method_2_code, 2, (Option.some Jvm.ClassFile.FieldType.int), [])) := rfl
theorem pdX16_worked : xPd yX16_worked 1 := by decide +kernel
theorem infX17_init : xinf[188]? = some (some (yX17_init, prog_19_method_1_code, 4, (Option.none : Option Jvm.ClassFile.FieldType), [])) := rfl
theorem pdX17_init : xPd yX17_init 3 := by decide +kernel
theorem infX17_worked : xinf[189]? = some (some (yX17_worked, prog_19_method_2_code, 4, (Option.some Jvm.ClassFile.FieldType.int), [])) := rfl
theorem pdX17_worked : xPd yX17_worked 1 := by decide +kernel
theorem infX18_init : xinf[190]? = some (some (yX18_init, prog_10_method_1_code, 1, (Option.none : Option Jvm.ClassFile.FieldType), [])) := rfl
theorem pdX18_init : xPd yX18_init 0 := by decide +kernel
theorem infX19_init : xinf[191]? = some (some (yX19_init, prog_14_method_1_code, 1, (Option.none : Option Jvm.ClassFile.FieldType), [])) := rfl
theorem pdX19_init : xPd yX19_init 0 := by decide +kernel
theorem infX19_isDone : xinf[192]? = some (some (yX19_isDone, prog_14_method_2_code, 3, (Option.some Jvm.ClassFile.FieldType.boolean), [])) := rfl
theorem pdX19_isDone : xPd yX19_isDone 2 := by decide +kernel
theorem infX2_init : xinf[193]? = some (some (yX2_init, prog_17_method_1_code, 1, (Option.none : Option Jvm.ClassFile.FieldType), [])) := rfl
theorem pdX2_init : xPd yX2_init 0 := by decide +kernel
theorem infX2_begin : xinf[194]? = some (some (yX2_begin, prog_17_method_2_code, 3, (Option.none : Option Jvm.ClassFile.FieldType), [])) := rfl
theorem pdX2_begin : xPd yX2_begin 2 := by decide +kernel
theorem infX2_next : xinf[195]? = some (some (yX2_next, prog_17_method_6_code, 1, (Option.none : Option Jvm.ClassFile.FieldType), [])) := rfl
theorem pdX2_next : xPd yX2_next 0 := by decide +kernel
theorem infX2_at : xinf[196]? = some (some (yX2_at, prog_17_method_3_code, 2, (Option.some Jvm.ClassFile.FieldType.int), [])) := rfl
theorem pdX2_at : xPd yX2_at 1 := by decide +kernel
theorem infX2_isLetter : xinf[197]? = some (some (yX2_isLetter, prog_17_method_4_code, 1, (Option.some Jvm.ClassFile.FieldType.boolean), [])) := rfl
theorem pdX2_isLetter : xPd yX2_isLetter 1 := by decide +kernel
theorem infX2_isDigit : xinf[198]? = some (some (yX2_isDigit, prog_17_method_5_code, 1, (Option.some Jvm.ClassFile.FieldType.boolean), [])) := rfl
theorem pdX2_isDigit : xPd yX2_isDigit 1 := by decide +kernel
theorem infX2_house : xinf[199]? = some (some (yX2_house, prog_17_method_21_code, 2, (Option.some (Jvm.ClassFile.FieldType.object "SwollenHouse$House")), [])) := rfl
theorem pdX2_house : xPd yX2_house 0 := by decide +kernel
theorem infX2_which : xinf[200]? = some (some (yX2_which, prog_17_method_8_code, 7, (Option.some Jvm.ClassFile.FieldType.int), [])) := rfl
theorem pdX2_which : xPd yX2_which 1 := by decide +kernel
theorem infX2_wrong : xinf[201]? = some (some (yX2_wrong, prog_17_method_7_code, 2, (Option.some (Jvm.ClassFile.FieldType.object "SwollenHouse$Wrong")), [])) := rfl
theorem pdX2_wrong : xPd yX2_wrong 1 := by decide +kernel
theorem infX2_isFull : xinf[202]? = some (some (yX2_isFull, prog_17_method_20_code, 2, (Option.some Jvm.ClassFile.FieldType.boolean), [])) := rfl
theorem pdX2_isFull : xPd yX2_isFull 1 := by decide +kernel
theorem infX2_line : xinf[203]? = some (some (yX2_line, prog_17_method_22_code, 3, (Option.none : Option Jvm.ClassFile.FieldType), [])) := rfl
theorem pdX2_line : xPd yX2_line 1 := by decide +kernel
theorem infX2_fresh : xinf[204]? = some (some (yX2_fresh, prog_17_method_14_code, 2, (Option.some (Jvm.ClassFile.FieldType.object "java/lang/String")), [])) := rfl
theorem pdX2_fresh : xPd yX2_fresh 0 := by decide +kernel
theorem infX2_name : xinf[205]? = some (some (yX2_name, prog_17_method_13_code, 3, (Option.some (Jvm.ClassFile.FieldType.object "java/lang/String")), [])) := rfl
theorem pdX2_name : xPd yX2_name 0 := by decide +kernel
theorem infX2_door : xinf[206]? = some (some (yX2_door, prog_17_method_23_code, 5, (Option.some (Jvm.ClassFile.FieldType.object "SwollenHouse$Door")), [])) := rfl
theorem pdX2_door : xPd yX2_door 0 := by decide +kernel
theorem infX2_passed : xinf[207]? = some (some (yX2_passed, prog_17_method_19_code, 3, (Option.some Jvm.ClassFile.FieldType.int), [])) := rfl
theorem pdX2_passed : xPd yX2_passed 1 := by decide +kernel
theorem infX2_told : xinf[208]? = some (some (yX2_told, prog_17_method_18_code, 3, (Option.some Jvm.ClassFile.FieldType.int), [])) := rfl
theorem pdX2_told : xPd yX2_told 1 := by decide +kernel
theorem infX2_one : xinf[209]? = some (some (yX2_one, prog_17_method_16_code, 3, (Option.some Jvm.ClassFile.FieldType.int), [])) := rfl
theorem pdX2_one : xPd yX2_one 1 := by decide +kernel
theorem infX2_number : xinf[210]? = some (some (yX2_number, prog_17_method_15_code, 4, (Option.some Jvm.ClassFile.FieldType.int), [])) := rfl
theorem pdX2_number : xPd yX2_number 3 := by decide +kernel
theorem infX2_need : xinf[211]? = some (some (yX2_need, prog_17_method_9_code, 2, (Option.none : Option Jvm.ClassFile.FieldType), [])) := rfl
theorem pdX2_need : xPd yX2_need 1 := by decide +kernel
theorem infX2_number_2 : xinf[212]? = some (some (yX2_number_2, prog_17_method_12_code, 4, (Option.some Jvm.ClassFile.FieldType.int), [])) := rfl
theorem pdX2_number_2 : xPd yX2_number_2 2 := by decide +kernel
theorem infX2_ahead : xinf[213]? = some (some (yX2_ahead, prog_17_method_17_code, 5, (Option.some Jvm.ClassFile.FieldType.int), [])) := rfl
theorem pdX2_ahead : xPd yX2_ahead 2 := by decide +kernel
theorem infX2_isSign : xinf[214]? = some (some (yX2_isSign, prog_17_method_10_code, 2, (Option.some Jvm.ClassFile.FieldType.boolean), [])) := rfl
theorem pdX2_isSign : xPd yX2_isSign 1 := by decide +kernel
theorem infX2_expression : xinf[215]? = some (some (yX2_expression, prog_17_method_26_code, 3, (Option.some (Jvm.ClassFile.FieldType.object "SwollenHouse$Expression")), [])) := rfl
theorem pdX2_expression : xPd yX2_expression 0 := by decide +kernel
theorem infX2_test : xinf[216]? = some (some (yX2_test, prog_17_method_27_code, 3, (Option.some (Jvm.ClassFile.FieldType.object "SwollenHouse$Expression")), [])) := rfl
theorem pdX2_test : xPd yX2_test 0 := by decide +kernel
theorem infX2_sum : xinf[217]? = some (some (yX2_sum, prog_17_method_28_code, 3, (Option.some (Jvm.ClassFile.FieldType.object "SwollenHouse$Expression")), [])) := rfl
theorem pdX2_sum : xPd yX2_sum 0 := by decide +kernel
theorem infX2_product : xinf[218]? = some (some (yX2_product, prog_17_method_29_code, 2, (Option.some (Jvm.ClassFile.FieldType.object "SwollenHouse$Expression")), [])) := rfl
theorem pdX2_product : xPd yX2_product 0 := by decide +kernel
theorem infX2_part : xinf[219]? = some (some (yX2_part, prog_17_method_30_code, 5, (Option.some (Jvm.ClassFile.FieldType.object "SwollenHouse$Expression")), [])) := rfl
theorem pdX2_part : xPd yX2_part 0 := by decide +kernel
theorem infX2_need_2 : xinf[220]? = some (some (yX2_need_2, prog_17_method_11_code, 2, (Option.none : Option Jvm.ClassFile.FieldType), [])) := rfl
theorem pdX2_need_2 : xPd yX2_need_2 1 := by decide +kernel
theorem infX2_days : xinf[221]? = some (some (yX2_days, prog_17_method_24_code, 4, (Option.some (Jvm.ClassFile.FieldType.object "java/util/ArrayList")), [])) := rfl
theorem pdX2_days : xPd yX2_days 1 := by decide +kernel
theorem infX2_done : xinf[222]? = some (some (yX2_done, prog_17_method_25_code, 3, (Option.some (Jvm.ClassFile.FieldType.object "SwollenHouse$Line")), [])) := rfl
theorem pdX2_done : xPd yX2_done 1 := by decide +kernel
theorem infX20_init : xinf[223]? = some (some (yX20_init, prog_20_method_1_code, 3, (Option.none : Option Jvm.ClassFile.FieldType), [])) := rfl
theorem pdX20_init : xPd yX20_init 2 := by decide +kernel
theorem infX20_isDone : xinf[224]? = some (some (yX20_isDone, prog_20_method_2_code, 3, (Option.some Jvm.ClassFile.FieldType.boolean), [])) := rfl
theorem pdX20_isDone : xPd yX20_isDone 2 := by decide +kernel
theorem infX21_init : xinf[225]? = some (some (yX21_init, prog_16_method_1_code, 2, (Option.none : Option Jvm.ClassFile.FieldType), [])) := rfl
theorem pdX21_init : xPd yX21_init 1 := by decide +kernel
theorem infX21_isDone : xinf[226]? = some (some (yX21_isDone, prog_16_method_2_code, 3, (Option.some Jvm.ClassFile.FieldType.boolean), [])) := rfl
theorem pdX21_isDone : xPd yX21_isDone 2 := by decide +kernel
theorem infX22_init : xinf[227]? = some (some (yX22_init, prog_21_method_1_code, 2, (Option.none : Option Jvm.ClassFile.FieldType), [])) := rfl
theorem pdX22_init : xPd yX22_init 1 := by decide +kernel
theorem infX22_isDone : xinf[228]? = some (some (yX22_isDone, prog_21_method_2_code, 3, (Option.some Jvm.ClassFile.FieldType.boolean), [])) := rfl
theorem pdX22_isDone : xPd yX22_isDone 2 := by decide +kernel
theorem infX23_init : xinf[229]? = some (some (yX23_init, prog_6_method_1_code, 2, (Option.none : Option Jvm.ClassFile.FieldType), [])) := rfl
theorem pdX23_init : xPd yX23_init 1 := by decide +kernel
theorem infX23_isDone : xinf[230]? = some (some (yX23_isDone, prog_6_method_2_code, 3, (Option.some Jvm.ClassFile.FieldType.boolean), [])) := rfl
theorem pdX23_isDone : xPd yX23_isDone 2 := by decide +kernel
theorem infX24_init : xinf[231]? = some (some (yX24_init, prog_11_method_1_code, 1, (Option.none : Option Jvm.ClassFile.FieldType), [])) := rfl
theorem pdX24_init : xPd yX24_init 0 := by decide +kernel
theorem infX3_init : xinf[232]? = some (some (yX3_init, prog_8_method_1_code, 1, (Option.none : Option Jvm.ClassFile.FieldType), [])) := rfl
theorem pdX3_init : xPd yX3_init 0 := by decide +kernel
theorem infX3_place : xinf[233]? = some (some (yX3_place, prog_8_method_2_code, 3, (Option.some Jvm.ClassFile.FieldType.int), [])) := rfl
theorem pdX3_place : xPd yX3_place 2 := by decide +kernel
theorem infX3_areJoined : xinf[234]? = some (some (yX3_areJoined, prog_8_method_3_code, 4, (Option.some Jvm.ClassFile.FieldType.boolean), [])) := rfl
theorem pdX3_areJoined : xPd yX3_areJoined 2 := by decide +kernel
theorem infX3_damp : xinf[235]? = some (some (yX3_damp, prog_8_method_4_code, 2, (Option.some Jvm.ClassFile.FieldType.int), [])) := rfl
theorem pdX3_damp : xPd yX3_damp 1 := by decide +kernel
theorem infX4_init : xinf[236]? = some (some (yX4_init, prog_18_method_1_code, 1, (Option.none : Option Jvm.ClassFile.FieldType), [])) := rfl
theorem pdX4_init : xPd yX4_init 0 := by decide +kernel
theorem infX4_begin : xinf[237]? = some (some (yX4_begin, prog_18_method_3_code, 3, (Option.none : Option Jvm.ClassFile.FieldType), [])) := rfl
theorem pdX4_begin : xPd yX4_begin 1 := by decide +kernel
theorem infX4_sticks : xinf[238]? = some (some (yX4_sticks, prog_18_method_4_code, 2, (Option.some Jvm.ClassFile.FieldType.boolean), [])) := rfl
theorem pdX4_sticks : xPd yX4_sticks 1 := by decide +kernel
theorem infX4_be : xinf[239]? = some (some (yX4_be, prog_18_method_2_code, 2, (Option.none : Option Jvm.ClassFile.FieldType), [])) := rfl
theorem pdX4_be : xPd yX4_be 1 := by decide +kernel
theorem infX4_canPlane : xinf[240]? = some (some (yX4_canPlane, prog_18_method_5_code, 2, (Option.some Jvm.ClassFile.FieldType.boolean), [])) := rfl
theorem pdX4_canPlane : xPd yX4_canPlane 1 := by decide +kernel
theorem infX4_canWedge : xinf[241]? = some (some (yX4_canWedge, prog_18_method_6_code, 2, (Option.some Jvm.ClassFile.FieldType.boolean), [])) := rfl
theorem pdX4_canWedge : xPd yX4_canWedge 1 := by decide +kernel
theorem infX4_canForce : xinf[242]? = some (some (yX4_canForce, prog_18_method_7_code, 2, (Option.some Jvm.ClassFile.FieldType.boolean), [])) := rfl
theorem pdX4_canForce : xPd yX4_canForce 1 := by decide +kernel
theorem infX5_thrown : xinf[243]? = some (some (yX5_thrown, prog_25_method_1_code, 1, (Option.some Jvm.ClassFile.FieldType.int), [])) := rfl
theorem pdX5_thrown : xPd yX5_thrown 0 := by decide +kernel
theorem infX5_feed : xinf[244]? = some (some (yX5_feed, prog_25_method_2_code, 7, (Option.some Jvm.ClassFile.FieldType.int), [])) := rfl
theorem pdX5_feed : xPd yX5_feed 3 := by decide +kernel
theorem infX5_lay : xinf[245]? = some (some (yX5_lay, prog_25_method_3_code, 5, (Option.none : Option Jvm.ClassFile.FieldType), [])) := rfl
theorem pdX5_lay : xPd yX5_lay 1 := by decide +kernel
theorem infX5_init : xinf[246]? = some (some (yX5_init, prog_25_method_4_code, 1, (Option.none : Option Jvm.ClassFile.FieldType), [])) := rfl
theorem pdX5_init : xPd yX5_init 0 := by decide +kernel
theorem infX5_standsAsAlways : xinf[247]? = some (some (yX5_standsAsAlways, prog_25_method_18_code, 3, (Option.none : Option Jvm.ClassFile.FieldType), [])) := rfl
theorem pdX5_standsAsAlways : xPd yX5_standsAsAlways 1 := by decide +kernel
theorem infX5_begins : xinf[248]? = some (some (yX5_begins, prog_25_method_43_code, 2, (Option.none : Option Jvm.ClassFile.FieldType), [])) := rfl
theorem pdX5_begins : xPd yX5_begins 0 := by decide +kernel
theorem infX5_starts : xinf[249]? = some (some (yX5_starts, prog_25_method_42_code, 3, (Option.none : Option Jvm.ClassFile.FieldType), [])) := rfl
theorem pdX5_starts : xPd yX5_starts 1 := by decide +kernel
theorem infX5_doors : xinf[250]? = some (some (yX5_doors, prog_25_method_46_code, 1, (Option.some Jvm.ClassFile.FieldType.int), [])) := rfl
theorem pdX5_doors : xPd yX5_doors 0 := by decide +kernel
theorem infX5_doorOf : xinf[251]? = some (some (yX5_doorOf, prog_25_method_48_code, 3, (Option.some Jvm.ClassFile.FieldType.int), [])) := rfl
theorem pdX5_doorOf : xPd yX5_doorOf 2 := by decide +kernel
theorem infX5_persons : xinf[252]? = some (some (yX5_persons, prog_25_method_47_code, 1, (Option.some Jvm.ClassFile.FieldType.int), [])) := rfl
theorem pdX5_persons : xPd yX5_persons 0 := by decide +kernel
theorem infX5_house : xinf[253]? = some (some (yX5_house, prog_25_method_26_code, 2, (Option.some Jvm.ClassFile.FieldType.int), [])) := rfl
theorem pdX5_house : xPd yX5_house 0 := by decide +kernel
theorem infX5_cutAll : xinf[254]? = some (some (yX5_cutAll, prog_25_method_9_code, 7, (Option.none : Option Jvm.ClassFile.FieldType), [])) := rfl
theorem pdX5_cutAll : xPd yX5_cutAll 0 := by decide +kernel
theorem infX5_isLetter : xinf[255]? = some (some (yX5_isLetter, prog_25_method_5_code, 1, (Option.some Jvm.ClassFile.FieldType.boolean), [])) := rfl
theorem pdX5_isLetter : xPd yX5_isLetter 1 := by decide +kernel
theorem infX5_rank : xinf[256]? = some (some (yX5_rank, prog_25_method_7_code, 1, (Option.some Jvm.ClassFile.FieldType.int), [])) := rfl
theorem pdX5_rank : xPd yX5_rank 1 := by decide +kernel
theorem infX5_isDigit : xinf[257]? = some (some (yX5_isDigit, prog_25_method_6_code, 1, (Option.some Jvm.ClassFile.FieldType.boolean), [])) := rfl
theorem pdX5_isDigit : xPd yX5_isDigit 1 := by decide +kernel
theorem infX5_isSignOf : xinf[258]? = some (some (yX5_isSignOf, prog_25_method_8_code, 1, (Option.some Jvm.ClassFile.FieldType.boolean), [])) := rfl
theorem pdX5_isSignOf : xPd yX5_isSignOf 1 := by decide +kernel
theorem infX5_readLine : xinf[259]? = some (some (yX5_readLine, prog_25_method_27_code, 3, (Option.none : Option Jvm.ClassFile.FieldType), [])) := rfl
theorem pdX5_readLine : xPd yX5_readLine 0 := by decide +kernel
theorem infX5_isWord : xinf[260]? = some (some (yX5_isWord, prog_25_method_12_code, 2, (Option.some Jvm.ClassFile.FieldType.boolean), [])) := rfl
theorem pdX5_isWord : xPd yX5_isWord 1 := by decide +kernel
theorem infX5_readName : xinf[261]? = some (some (yX5_readName, prog_25_method_28_code, 5, (Option.none : Option Jvm.ClassFile.FieldType), [])) := rfl
theorem pdX5_readName : xPd yX5_readName 3 := by decide +kernel
theorem infX5_wrong : xinf[262]? = some (some (yX5_wrong, prog_25_method_10_code, 2, (Option.none : Option Jvm.ClassFile.FieldType), [])) := rfl
theorem pdX5_wrong : xPd yX5_wrong 1 := by decide +kernel
theorem infX5_isName : xinf[263]? = some (some (yX5_isName, prog_25_method_23_code, 1, (Option.some Jvm.ClassFile.FieldType.boolean), [])) := rfl
theorem pdX5_isName : xPd yX5_isName 0 := by decide +kernel
theorem infX5_wordHere : xinf[264]? = some (some (yX5_wordHere, prog_25_method_21_code, 5, (Option.some Jvm.ClassFile.FieldType.int), [])) := rfl
theorem pdX5_wordHere : xPd yX5_wordHere 2 := by decide +kernel
theorem infX5_nameAt : xinf[265]? = some (some (yX5_nameAt, prog_25_method_24_code, 3, (Option.some Jvm.ClassFile.FieldType.int), [])) := rfl
theorem pdX5_nameAt : xPd yX5_nameAt 1 := by decide +kernel
theorem infX5_readDoor : xinf[266]? = some (some (yX5_readDoor, prog_25_method_29_code, 8, (Option.none : Option Jvm.ClassFile.FieldType), [])) := rfl
theorem pdX5_readDoor : xPd yX5_readDoor 0 := by decide +kernel
theorem infX5_takeTold : xinf[267]? = some (some (yX5_takeTold, prog_25_method_25_code, 5, (Option.some Jvm.ClassFile.FieldType.int), [])) := rfl
theorem pdX5_takeTold : xPd yX5_takeTold 3 := by decide +kernel
theorem infX5_within : xinf[268]? = some (some (yX5_within, prog_25_method_17_code, 3, (Option.some Jvm.ClassFile.FieldType.boolean), [])) := rfl
theorem pdX5_within : xPd yX5_within 3 := by decide +kernel
theorem infX5_takeOne : xinf[269]? = some (some (yX5_takeOne, prog_25_method_22_code, 4, (Option.some Jvm.ClassFile.FieldType.int), [])) := rfl
theorem pdX5_takeOne : xPd yX5_takeOne 2 := by decide +kernel
theorem infX5_takeAfter : xinf[270]? = some (some (yX5_takeAfter, prog_25_method_20_code, 4, (Option.some Jvm.ClassFile.FieldType.int), [])) := rfl
theorem pdX5_takeAfter : xPd yX5_takeAfter 3 := by decide +kernel
theorem infX5_takeWord : xinf[271]? = some (some (yX5_takeWord, prog_25_method_16_code, 2, (Option.none : Option Jvm.ClassFile.FieldType), [])) := rfl
theorem pdX5_takeWord : xPd yX5_takeWord 1 := by decide +kernel
theorem infX5_hasWord : xinf[272]? = some (some (yX5_hasWord, prog_25_method_15_code, 3, (Option.some Jvm.ClassFile.FieldType.boolean), [])) := rfl
theorem pdX5_hasWord : xPd yX5_hasWord 1 := by decide +kernel
theorem infX5_takeNumber : xinf[273]? = some (some (yX5_takeNumber, prog_25_method_19_code, 3, (Option.some Jvm.ClassFile.FieldType.int), [])) := rfl
theorem pdX5_takeNumber : xPd yX5_takeNumber 2 := by decide +kernel
theorem infX5_readOnce : xinf[274]? = some (some (yX5_readOnce, prog_25_method_30_code, 2, (Option.none : Option Jvm.ClassFile.FieldType), [])) := rfl
theorem pdX5_readOnce : xPd yX5_readOnce 0 := by decide +kernel
theorem infX5_readDamp : xinf[275]? = some (some (yX5_readDamp, prog_25_method_31_code, 3, (Option.none : Option Jvm.ClassFile.FieldType), [])) := rfl
theorem pdX5_readDamp : xPd yX5_readDamp 0 := by decide +kernel
theorem infX5_whole : xinf[276]? = some (some (yX5_whole, prog_25_method_34_code, 3, (Option.none : Option Jvm.ClassFile.FieldType), [])) := rfl
theorem pdX5_whole : xPd yX5_whole 1 := by decide +kernel
theorem infX5_test : xinf[277]? = some (some (yX5_test, prog_25_method_35_code, 3, (Option.none : Option Jvm.ClassFile.FieldType), [])) := rfl
theorem pdX5_test : xPd yX5_test 1 := by decide +kernel
theorem infX5_sums : xinf[278]? = some (some (yX5_sums, prog_25_method_36_code, 3, (Option.none : Option Jvm.ClassFile.FieldType), [])) := rfl
theorem pdX5_sums : xPd yX5_sums 1 := by decide +kernel
theorem infX5_products : xinf[279]? = some (some (yX5_products, prog_25_method_37_code, 2, (Option.none : Option Jvm.ClassFile.FieldType), [])) := rfl
theorem pdX5_products : xPd yX5_products 1 := by decide +kernel
theorem infX5_takePart : xinf[280]? = some (some (yX5_takePart, prog_25_method_38_code, 4, (Option.none : Option Jvm.ClassFile.FieldType), [])) := rfl
theorem pdX5_takePart : xPd yX5_takePart 1 := by decide +kernel
theorem infX5_isSign : xinf[281]? = some (some (yX5_isSign, prog_25_method_11_code, 2, (Option.some Jvm.ClassFile.FieldType.boolean), [])) := rfl
theorem pdX5_isSign : xPd yX5_isSign 1 := by decide +kernel
theorem infX5_emit : xinf[282]? = some (some (yX5_emit, prog_25_method_33_code, 3, (Option.none : Option Jvm.ClassFile.FieldType), [])) := rfl
theorem pdX5_emit : xPd yX5_emit 2 := by decide +kernel
theorem infX5_hasSign : xinf[283]? = some (some (yX5_hasSign, prog_25_method_14_code, 3, (Option.some Jvm.ClassFile.FieldType.boolean), [])) := rfl
theorem pdX5_hasSign : xPd yX5_hasSign 1 := by decide +kernel
theorem infX5_takeSign : xinf[284]? = some (some (yX5_takeSign, prog_25_method_13_code, 2, (Option.none : Option Jvm.ClassFile.FieldType), [])) := rfl
theorem pdX5_takeSign : xPd yX5_takeSign 1 := by decide +kernel
theorem infX5_days : xinf[285]? = some (some (yX5_days, prog_25_method_32_code, 4, (Option.some Jvm.ClassFile.FieldType.int), [])) := rfl
theorem pdX5_days : xPd yX5_days 0 := by decide +kernel
theorem infX5_door : xinf[286]? = some (some (yX5_door, prog_25_method_67_code, 3, (Option.some Jvm.ClassFile.FieldType.int), [])) := rfl
theorem pdX5_door : xPd yX5_door 2 := by decide +kernel
theorem infX5_isDoor : xinf[287]? = some (some (yX5_isDoor, prog_25_method_50_code, 2, (Option.some Jvm.ClassFile.FieldType.boolean), [])) := rfl
theorem pdX5_isDoor : xPd yX5_isDoor 1 := by decide +kernel
theorem infX5_isWedged : xinf[288]? = some (some (yX5_isWedged, prog_25_method_54_code, 3, (Option.some Jvm.ClassFile.FieldType.boolean), [])) := rfl
theorem pdX5_isWedged : xPd yX5_isWedged 2 := by decide +kernel
theorem infX5_doesStick : xinf[289]? = some (some (yX5_doesStick, prog_25_method_55_code, 3, (Option.some Jvm.ClassFile.FieldType.boolean), [])) := rfl
theorem pdX5_doesStick : xPd yX5_doesStick 2 := by decide +kernel
theorem infX5_overOf : xinf[290]? = some (some (yX5_overOf, prog_25_method_53_code, 3, (Option.some Jvm.ClassFile.FieldType.int), [])) := rfl
theorem pdX5_overOf : xPd yX5_overOf 2 := by decide +kernel
theorem infX5_person : xinf[291]? = some (some (yX5_person, prog_25_method_68_code, 2, (Option.some Jvm.ClassFile.FieldType.int), [])) := rfl
theorem pdX5_person : xPd yX5_person 1 := by decide +kernel
theorem infX5_isPerson : xinf[292]? = some (some (yX5_isPerson, prog_25_method_51_code, 2, (Option.some Jvm.ClassFile.FieldType.boolean), [])) := rfl
theorem pdX5_isPerson : xPd yX5_isPerson 1 := by decide +kernel
theorem infX5_day : xinf[293]? = some (some (yX5_day, prog_25_method_69_code, 1, (Option.some Jvm.ClassFile.FieldType.int), [])) := rfl
theorem pdX5_day : xPd yX5_day 0 := by decide +kernel
theorem infX5_keeps : xinf[294]? = some (some (yX5_keeps, prog_25_method_44_code, 2, (Option.none : Option Jvm.ClassFile.FieldType), [])) := rfl
theorem pdX5_keeps : xPd yX5_keeps 0 := by decide +kernel
theorem infX5_copies : xinf[295]? = some (some (yX5_copies, prog_25_method_41_code, 5, (Option.none : Option Jvm.ClassFile.FieldType), [])) := rfl
theorem pdX5_copies : xPd yX5_copies 3 := by decide +kernel
theorem infX5_passes : xinf[296]? = some (some (yX5_passes, prog_25_method_59_code, 2, (Option.none : Option Jvm.ClassFile.FieldType), [])) := rfl
theorem pdX5_passes : xPd yX5_passes 1 := by decide +kernel
theorem infX5_dampOn : xinf[297]? = some (some (yX5_dampOn, prog_25_method_52_code, 2, (Option.some Jvm.ClassFile.FieldType.int), [])) := rfl
theorem pdX5_dampOn : xPd yX5_dampOn 1 := by decide +kernel
theorem infX5_passes_2 : xinf[298]? = some (some (yX5_passes_2, prog_25_method_58_code, 5, (Option.none : Option Jvm.ClassFile.FieldType), [])) := rfl
theorem pdX5_passes_2 : xPd yX5_passes_2 2 := by decide +kernel
theorem infX5_moves : xinf[299]? = some (some (yX5_moves, prog_25_method_57_code, 8, (Option.some Jvm.ClassFile.FieldType.int), [])) := rfl
theorem pdX5_moves : xPd yX5_moves 3 := by decide +kernel
theorem infX5_worthAt : xinf[300]? = some (some (yX5_worthAt, prog_25_method_39_code, 5, (Option.some Jvm.ClassFile.FieldType.int), [])) := rfl
theorem pdX5_worthAt : xPd yX5_worthAt 1 := by decide +kernel
theorem infX5_both : xinf[301]? = some (some (yX5_both, prog_25_method_40_code, 3, (Option.some Jvm.ClassFile.FieldType.int), [])) := rfl
theorem pdX5_both : xPd yX5_both 3 := by decide +kernel
theorem infX5_sticking : xinf[302]? = some (some (yX5_sticking, prog_25_method_56_code, 4, (Option.some Jvm.ClassFile.FieldType.int), [])) := rfl
theorem pdX5_sticking : xPd yX5_sticking 1 := by decide +kernel
theorem infX5_walk : xinf[303]? = some (some (yX5_walk, prog_25_method_70_code, 3, (Option.some Jvm.ClassFile.FieldType.int), [])) := rfl
theorem pdX5_walk : xPd yX5_walk 2 := by decide +kernel
theorem infX5_mayWalk : xinf[304]? = some (some (yX5_mayWalk, prog_25_method_61_code, 4, (Option.some Jvm.ClassFile.FieldType.boolean), [])) := rfl
theorem pdX5_mayWalk : xPd yX5_mayWalk 3 := by decide +kernel
theorem infX5_behind : xinf[305]? = some (some (yX5_behind, prog_25_method_60_code, 3, (Option.some Jvm.ClassFile.FieldType.int), [])) := rfl
theorem pdX5_behind : xPd yX5_behind 2 := by decide +kernel
theorem infX5_walks : xinf[306]? = some (some (yX5_walks, prog_25_method_64_code, 4, (Option.none : Option Jvm.ClassFile.FieldType), [])) := rfl
theorem pdX5_walks : xPd yX5_walks 3 := by decide +kernel
theorem infX5_plane : xinf[307]? = some (some (yX5_plane, prog_25_method_71_code, 2, (Option.some Jvm.ClassFile.FieldType.int), [])) := rfl
theorem pdX5_plane : xPd yX5_plane 1 := by decide +kernel
theorem infX5_wedge : xinf[308]? = some (some (yX5_wedge, prog_25_method_72_code, 2, (Option.some Jvm.ClassFile.FieldType.int), [])) := rfl
theorem pdX5_wedge : xPd yX5_wedge 1 := by decide +kernel
theorem infX5_mayWedge : xinf[309]? = some (some (yX5_mayWedge, prog_25_method_63_code, 3, (Option.some Jvm.ClassFile.FieldType.boolean), [])) := rfl
theorem pdX5_mayWedge : xPd yX5_mayWedge 2 := by decide +kernel
theorem infX5_force : xinf[310]? = some (some (yX5_force, prog_25_method_73_code, 2, (Option.some Jvm.ClassFile.FieldType.int), [])) := rfl
theorem pdX5_force : xPd yX5_force 1 := by decide +kernel
theorem infX5_mayForce : xinf[311]? = some (some (yX5_mayForce, prog_25_method_62_code, 3, (Option.some Jvm.ClassFile.FieldType.boolean), [])) := rfl
theorem pdX5_mayForce : xPd yX5_mayForce 2 := by decide +kernel
theorem infX5_undo : xinf[312]? = some (some (yX5_undo, prog_25_method_74_code, 1, (Option.some Jvm.ClassFile.FieldType.boolean), [])) := rfl
theorem pdX5_undo : xPd yX5_undo 0 := by decide +kernel
theorem infX5_judged : xinf[313]? = some (some (yX5_judged, prog_25_method_76_code, 9, (Option.some Jvm.ClassFile.FieldType.int), [])) := rfl
theorem pdX5_judged : xPd yX5_judged 1 := by decide +kernel
theorem infX5_can : xinf[314]? = some (some (yX5_can, prog_25_method_75_code, 4, (Option.some Jvm.ClassFile.FieldType.boolean), [])) := rfl
theorem pdX5_can : xPd yX5_can 3 := by decide +kernel
theorem infX5_shutIn : xinf[315]? = some (some (yX5_shutIn, prog_25_method_77_code, 8, (Option.some Jvm.ClassFile.FieldType.int), [])) := rfl
theorem pdX5_shutIn : xPd yX5_shutIn 1 := by decide +kernel
theorem infX5_bits : xinf[316]? = some (some (yX5_bits, prog_25_method_65_code, 3, (Option.some Jvm.ClassFile.FieldType.int), [])) := rfl
theorem pdX5_bits : xPd yX5_bits 1 := by decide +kernel
theorem infX5_shut : xinf[317]? = some (some (yX5_shut, prog_25_method_78_code, 1, (Option.some Jvm.ClassFile.FieldType.int), [])) := rfl
theorem pdX5_shut : xPd yX5_shut 0 := by decide +kernel
theorem infX5_range : xinf[318]? = some (some (yX5_range, prog_25_method_82_code, 2, (Option.some Jvm.ClassFile.FieldType.int), [])) := rfl
theorem pdX5_range : xPd yX5_range 1 := by decide +kernel
theorem infX5_isRoom : xinf[319]? = some (some (yX5_isRoom, prog_25_method_49_code, 2, (Option.some Jvm.ClassFile.FieldType.boolean), [])) := rfl
theorem pdX5_isRoom : xPd yX5_isRoom 1 := by decide +kernel
theorem infX5_rooms : xinf[320]? = some (some (yX5_rooms, prog_25_method_45_code, 1, (Option.some Jvm.ClassFile.FieldType.int), [])) := rfl
theorem pdX5_rooms : xPd yX5_rooms 0 := by decide +kernel
theorem infX5_openNow : xinf[321]? = some (some (yX5_openNow, prog_25_method_81_code, 2, (Option.some Jvm.ClassFile.FieldType.int), [])) := rfl
theorem pdX5_openNow : xPd yX5_openNow 1 := by decide +kernel
theorem infX5_rangeBy : xinf[322]? = some (some (yX5_rangeBy, prog_25_method_80_code, 5, (Option.some Jvm.ClassFile.FieldType.int), [])) := rfl
theorem pdX5_rangeBy : xPd yX5_rangeBy 2 := by decide +kernel
theorem infX5_onFrom : xinf[323]? = some (some (yX5_onFrom, prog_25_method_79_code, 8, (Option.some Jvm.ClassFile.FieldType.int), [])) := rfl
theorem pdX5_onFrom : xPd yX5_onFrom 2 := by decide +kernel
theorem infX5_company : xinf[324]? = some (some (yX5_company, prog_25_method_84_code, 2, (Option.some Jvm.ClassFile.FieldType.int), [])) := rfl
theorem pdX5_company : xPd yX5_company 1 := by decide +kernel
theorem infX5_companyBy : xinf[325]? = some (some (yX5_companyBy, prog_25_method_83_code, 6, (Option.some Jvm.ClassFile.FieldType.int), [])) := rfl
theorem pdX5_companyBy : xPd yX5_companyBy 2 := by decide +kernel
theorem infX5_alone : xinf[326]? = some (some (yX5_alone, prog_25_method_85_code, 3, (Option.some Jvm.ClassFile.FieldType.int), [])) := rfl
theorem pdX5_alone : xPd yX5_alone 0 := by decide +kernel
theorem infX5_bride : xinf[327]? = some (some (yX5_bride, prog_25_method_86_code, 5, (Option.some Jvm.ClassFile.FieldType.int), [])) := rfl
theorem pdX5_bride : xPd yX5_bride 0 := by decide +kernel
theorem infX5_parts : xinf[328]? = some (some (yX5_parts, prog_25_method_87_code, 3, (Option.some Jvm.ClassFile.FieldType.int), [])) := rfl
theorem pdX5_parts : xPd yX5_parts 0 := by decide +kernel
theorem infX5_deep : xinf[329]? = some (some (yX5_deep, prog_25_method_88_code, 4, (Option.some Jvm.ClassFile.FieldType.int), [])) := rfl
theorem pdX5_deep : xPd yX5_deep 1 := by decide +kernel
theorem infX5_spared : xinf[330]? = some (some (yX5_spared, prog_25_method_89_code, 6, (Option.some Jvm.ClassFile.FieldType.int), [])) := rfl
theorem pdX5_spared : xPd yX5_spared 0 := by decide +kernel
theorem infX5_opened : xinf[331]? = some (some (yX5_opened, prog_25_method_91_code, 6, (Option.some Jvm.ClassFile.FieldType.int), [])) := rfl
theorem pdX5_opened : xPd yX5_opened 0 := by decide +kernel
theorem infX5_pairsBy : xinf[332]? = some (some (yX5_pairsBy, prog_25_method_90_code, 4, (Option.some Jvm.ClassFile.FieldType.int), [])) := rfl
theorem pdX5_pairsBy : xPd yX5_pairsBy 1 := by decide +kernel
theorem infX5_cut : xinf[333]? = some (some (yX5_cut, prog_25_method_92_code, 7, (Option.some Jvm.ClassFile.FieldType.int), [])) := rfl
theorem pdX5_cut : xPd yX5_cut 2 := by decide +kernel
theorem infX5_rattles : xinf[334]? = some (some (yX5_rattles, prog_25_method_93_code, 3, (Option.some Jvm.ClassFile.FieldType.int), [])) := rfl
theorem pdX5_rattles : xPd yX5_rattles 0 := by decide +kernel
theorem infX5_worst : xinf[335]? = some (some (yX5_worst, prog_25_method_94_code, 5, (Option.some Jvm.ClassFile.FieldType.int), [])) := rfl
theorem pdX5_worst : xPd yX5_worst 0 := by decide +kernel
theorem infX5_later : xinf[336]? = some (some (yX5_later, prog_25_method_96_code, 4, (Option.some Jvm.ClassFile.FieldType.int), [])) := rfl
theorem pdX5_later : xPd yX5_later 2 := by decide +kernel
theorem infX5_triesNow : xinf[337]? = some (some (yX5_triesNow, prog_25_method_95_code, 1, (Option.none : Option Jvm.ClassFile.FieldType), [])) := rfl
theorem pdX5_triesNow : xPd yX5_triesNow 0 := by decide +kernel
theorem infX5_closes : xinf[338]? = some (some (yX5_closes, prog_25_method_98_code, 2, (Option.some Jvm.ClassFile.FieldType.int), [])) := rfl
theorem pdX5_closes : xPd yX5_closes 1 := by decide +kernel
theorem infX5_behindHow : xinf[339]? = some (some (yX5_behindHow, prog_25_method_97_code, 5, (Option.some Jvm.ClassFile.FieldType.int), [])) := rfl
theorem pdX5_behindHow : xPd yX5_behindHow 2 := by decide +kernel
theorem infX5_gives : xinf[340]? = some (some (yX5_gives, prog_25_method_99_code, 2, (Option.some Jvm.ClassFile.FieldType.int), [])) := rfl
theorem pdX5_gives : xPd yX5_gives 1 := by decide +kernel
theorem infX5_calm : xinf[341]? = some (some (yX5_calm, prog_25_method_100_code, 1, (Option.some Jvm.ClassFile.FieldType.int), [])) := rfl
theorem pdX5_calm : xPd yX5_calm 0 := by decide +kernel
theorem infX5_hard : xinf[342]? = some (some (yX5_hard, prog_25_method_101_code, 5, (Option.some Jvm.ClassFile.FieldType.int), [])) := rfl
theorem pdX5_hard : xPd yX5_hard 0 := by decide +kernel
theorem infX5_arrives : xinf[343]? = some (some (yX5_arrives, prog_25_method_104_code, 3, (Option.some Jvm.ClassFile.FieldType.int), [])) := rfl
theorem pdX5_arrives : xPd yX5_arrives 2 := by decide +kernel
theorem infX5_opensThen : xinf[344]? = some (some (yX5_opensThen, prog_25_method_102_code, 2, (Option.none : Option Jvm.ClassFile.FieldType), [])) := rfl
theorem pdX5_opensThen : xPd yX5_opensThen 0 := by decide +kernel
theorem infX5_arrivesBy : xinf[345]? = some (some (yX5_arrivesBy, prog_25_method_103_code, 5, (Option.some Jvm.ClassFile.FieldType.int), [])) := rfl
theorem pdX5_arrivesBy : xPd yX5_arrivesBy 2 := by decide +kernel
theorem infX5_from : xinf[346]? = some (some (yX5_from, prog_25_method_105_code, 6, (Option.some Jvm.ClassFile.FieldType.int), [])) := rfl
theorem pdX5_from : xPd yX5_from 2 := by decide +kernel
theorem infX5_both_2 : xinf[347]? = some (some (yX5_both_2, prog_25_method_106_code, 6, (Option.some Jvm.ClassFile.FieldType.int), [])) := rfl
theorem pdX5_both_2 : xPd yX5_both_2 2 := by decide +kernel
theorem infX5_planed : xinf[348]? = some (some (yX5_planed, prog_25_method_109_code, 4, (Option.some Jvm.ClassFile.FieldType.int), [])) := rfl
theorem pdX5_planed : xPd yX5_planed 2 := by decide +kernel
theorem infX5_doesPlane : xinf[349]? = some (some (yX5_doesPlane, prog_25_method_108_code, 7, (Option.some Jvm.ClassFile.FieldType.boolean), [])) := rfl
theorem pdX5_doesPlane : xPd yX5_doesPlane 4 := by decide +kernel
theorem infX5_areOne : xinf[350]? = some (some (yX5_areOne, prog_25_method_107_code, 4, (Option.some Jvm.ClassFile.FieldType.boolean), [])) := rfl
theorem pdX5_areOne : xPd yX5_areOne 1 := by decide +kernel
theorem infX5_feel : xinf[351]? = some (some (yX5_feel, prog_25_method_110_code, 5, (Option.some Jvm.ClassFile.FieldType.boolean), [])) := rfl
theorem pdX5_feel : xPd yX5_feel 3 := by decide +kernel
theorem infX5_wets : xinf[352]? = some (some (yX5_wets, prog_25_method_112_code, 1, (Option.some Jvm.ClassFile.FieldType.int), [])) := rfl
theorem pdX5_wets : xPd yX5_wets 0 := by decide +kernel
theorem infX5_wetsNow : xinf[353]? = some (some (yX5_wetsNow, prog_25_method_111_code, 6, (Option.some Jvm.ClassFile.FieldType.int), [])) := rfl
theorem pdX5_wetsNow : xPd yX5_wetsNow 0 := by decide +kernel
theorem infX5_tries : xinf[354]? = some (some (yX5_tries, prog_25_method_113_code, 9, (Option.some Jvm.ClassFile.FieldType.int), [])) := rfl
theorem pdX5_tries : xPd yX5_tries 0 := by decide +kernel
theorem infX5_say : xinf[355]? = some (some (yX5_say, prog_25_method_114_code, 4, (Option.some Jvm.ClassFile.FieldType.boolean), [])) := rfl
theorem pdX5_say : xPd yX5_say 2 := by decide +kernel
theorem infX5_who : xinf[356]? = some (some (yX5_who, prog_25_method_115_code, 6, (Option.some Jvm.ClassFile.FieldType.int), [])) := rfl
theorem pdX5_who : xPd yX5_who 0 := by decide +kernel
theorem infX5_chance : xinf[357]? = some (some (yX5_chance, prog_25_method_116_code, 13, (Option.some Jvm.ClassFile.FieldType.int), [])) := rfl
theorem pdX5_chance : xPd yX5_chance 3 := by decide +kernel
theorem infX5_rests : xinf[358]? = some (some (yX5_rests, prog_25_method_118_code, 12, (Option.some Jvm.ClassFile.FieldType.int), [])) := rfl
theorem pdX5_rests : xPd yX5_rests 4 := by decide +kernel
theorem infX5_getsBy : xinf[359]? = some (some (yX5_getsBy, prog_25_method_117_code, 5, (Option.some Jvm.ClassFile.FieldType.int), [])) := rfl
theorem pdX5_getsBy : xPd yX5_getsBy 5 := by decide +kernel
theorem infX5_years : xinf[360]? = some (some (yX5_years, prog_25_method_121_code, 6, (Option.some Jvm.ClassFile.FieldType.int), [])) := rfl
theorem pdX5_years : xPd yX5_years 3 := by decide +kernel
theorem infX5_drawsDeed : xinf[361]? = some (some (yX5_drawsDeed, prog_25_method_120_code, 4, (Option.some Jvm.ClassFile.FieldType.boolean), [])) := rfl
theorem pdX5_drawsDeed : xPd yX5_drawsDeed 0 := by decide +kernel
theorem infX5_draw : xinf[362]? = some (some (yX5_draw, prog_25_method_119_code, 2, (Option.some Jvm.ClassFile.FieldType.int), [])) := rfl
theorem pdX5_draw : xPd yX5_draw 1 := by decide +kernel
theorem infX5_sumOf : xinf[363]? = some (some (yX5_sumOf, prog_25_method_66_code, 5, (Option.some Jvm.ClassFile.FieldType.int), [])) := rfl
theorem pdX5_sumOf : xPd yX5_sumOf 2 := by decide +kernel
theorem infX5_mark : xinf[364]? = some (some (yX5_mark, prog_25_method_122_code, 3, (Option.some Jvm.ClassFile.FieldType.boolean), [])) := rfl
theorem pdX5_mark : xPd yX5_mark 2 := by decide +kernel
theorem infX5_count : xinf[365]? = some (some (yX5_count, prog_25_method_123_code, 2, (Option.some Jvm.ClassFile.FieldType.int), [])) := rfl
theorem pdX5_count : xPd yX5_count 1 := by decide +kernel
theorem infX6_init : xinf[366]? = some (some (yX6_init, prog_23_method_1_code, 3, (Option.none : Option Jvm.ClassFile.FieldType), [])) := rfl
theorem pdX6_init : xPd yX6_init 2 := by decide +kernel
theorem infX7_isOf : xinf[367]? = some (some (yX7_isOf, prog_2_method_2_code, 2, (Option.some Jvm.ClassFile.FieldType.boolean), [])) := rfl
theorem pdX7_isOf : xPd yX7_isOf 1 := by decide +kernel
theorem infX7_init : xinf[368]? = some (some (yX7_init, prog_2_method_1_code, 3, (Option.none : Option Jvm.ClassFile.FieldType), [])) := rfl
theorem pdX7_init : xPd yX7_init 2 := by decide +kernel
theorem infX7_beyond : xinf[369]? = some (some (yX7_beyond, prog_2_method_3_code, 2, (Option.some Jvm.ClassFile.FieldType.int), [])) := rfl
theorem pdX7_beyond : xPd yX7_beyond 1 := by decide +kernel
theorem infX8_init : xinf[370]? = some (some (yX8_init, prog_22_method_1_code, 1, (Option.none : Option Jvm.ClassFile.FieldType), [])) := rfl
theorem pdX8_init : xPd yX8_init 0 := by decide +kernel
theorem infX9_init : xinf[371]? = some (some (yX9_init, prog_13_method_1_code, 1, (Option.none : Option Jvm.ClassFile.FieldType), [])) := rfl
theorem pdX9_init : xPd yX9_init 0 := by decide +kernel
theorem infX9_kind : xinf[372]? = some (some (yX9_kind, prog_13_method_2_code, 1, (Option.some Jvm.ClassFile.FieldType.int), [])) := rfl
theorem pdX9_kind : xPd yX9_kind 0 := by decide +kernel
theorem infX9_upper : xinf[373]? = some (some (yX9_upper, prog_13_method_3_code, 1, (Option.some Jvm.ClassFile.FieldType.int), [])) := rfl
theorem pdX9_upper : xPd yX9_upper 0 := by decide +kernel
theorem infX9_lower : xinf[374]? = some (some (yX9_lower, prog_13_method_4_code, 1, (Option.some Jvm.ClassFile.FieldType.int), [])) := rfl
theorem pdX9_lower : xPd yX9_lower 0 := by decide +kernel
theorem infX9_shrinks : xinf[375]? = some (some (yX9_shrinks, prog_13_method_5_code, 1, (Option.some Jvm.ClassFile.FieldType.int), [])) := rfl
theorem pdX9_shrinks : xPd yX9_shrinks 0 := by decide +kernel
theorem pdx0 : xPd ({ cls := "SwollenHouse$Wood", name := "kind", desc := "()I" } : Jvm.MethodName) 0 := by decide +kernel
theorem pdx1 : xPd ({ cls := "SwollenHouse$Wood", name := "upper", desc := "()I" } : Jvm.MethodName) 0 := by decide +kernel
theorem pdx2 : xPd ({ cls := "SwollenHouse$Wood", name := "lower", desc := "()I" } : Jvm.MethodName) 0 := by decide +kernel
theorem pdx3 : xPd ({ cls := "SwollenHouse$Wood", name := "shrinks", desc := "()I" } : Jvm.MethodName) 0 := by decide +kernel
theorem pdx4 : xPd ({ cls := "SwollenHouse$Expression", name := "worked", desc := "([I)I" } : Jvm.MethodName) 1 := by decide +kernel
theorem pdx5 : xPd ({ cls := "SwollenHouse$Line", name := "isDone", desc := "(LSwollenHouse;LSwollenHouse$State;)Z" } : Jvm.MethodName) 2 := by decide +kernel
