set_option maxRecDepth 100000
theorem dX9_upper_0 : decode bcX9_upper 0 = .ok (.bipush 6, 2) := by decide +kernel
theorem dX9_upper_2 : decode bcX9_upper 2 = .ok (.ireturn, 1) := by decide +kernel
abbrev SX9_upper (pc : Nat) (i : xI) : Prop := Snd "SwollenHouse$Oak" "upper" prog_13_method_3_code 1 (Option.some Jvm.ClassFile.FieldType.int) [] pc i
theorem oX9_upper_0 : SX9_upper 0 (i_const (.int (nI 6)) 2) := snd_bipush dX9_upper_0 (by decide)
theorem oX9_upper_2 : SX9_upper 2 (i_iret) := snd_iret dX9_upper_2 rfl
theorem okX9_upper : ∀ q ∈ cX9_upper, SX9_upper q.1 q.2 := List.forall_mem_cons.mpr ⟨oX9_upper_0, List.forall_mem_cons.mpr ⟨oX9_upper_2, fun _ h => absurd h List.not_mem_nil⟩⟩
theorem dX9_lower_0 : decode bcX9_lower 0 = .ok (.iconst 2, 1) := by decide +kernel
theorem dX9_lower_1 : decode bcX9_lower 1 = .ok (.ireturn, 1) := by decide +kernel
abbrev SX9_lower (pc : Nat) (i : xI) : Prop := Snd "SwollenHouse$Oak" "lower" prog_13_method_4_code 1 (Option.some Jvm.ClassFile.FieldType.int) [] pc i
theorem oX9_lower_0 : SX9_lower 0 (i_const (.int (nI 2)) 1) := snd_iconst dX9_lower_0 (by decide)
theorem oX9_lower_1 : SX9_lower 1 (i_iret) := snd_iret dX9_lower_1 rfl
theorem okX9_lower : ∀ q ∈ cX9_lower, SX9_lower q.1 q.2 := List.forall_mem_cons.mpr ⟨oX9_lower_0, List.forall_mem_cons.mpr ⟨oX9_lower_1, fun _ h => absurd h List.not_mem_nil⟩⟩
theorem dX9_shrinks_0 : decode bcX9_shrinks 0 = .ok (.iconst 1, 1) := by decide +kernel
theorem dX9_shrinks_1 : decode bcX9_shrinks 1 = .ok (.ireturn, 1) := by decide +kernel
abbrev SX9_shrinks (pc : Nat) (i : xI) : Prop := Snd "SwollenHouse$Oak" "shrinks" prog_13_method_5_code 1 (Option.some Jvm.ClassFile.FieldType.int) [] pc i
theorem oX9_shrinks_0 : SX9_shrinks 0 (i_const (.int (nI 1)) 1) := snd_iconst dX9_shrinks_0 (by decide)
theorem oX9_shrinks_1 : SX9_shrinks 1 (i_iret) := snd_iret dX9_shrinks_1 rfl
theorem okX9_shrinks : ∀ q ∈ cX9_shrinks, SX9_shrinks q.1 q.2 := List.forall_mem_cons.mpr ⟨oX9_shrinks_0, List.forall_mem_cons.mpr ⟨oX9_shrinks_1, fun _ h => absurd h List.not_mem_nil⟩⟩
