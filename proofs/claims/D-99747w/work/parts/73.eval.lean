set_option maxRecDepth 100000
/-! WHAT SWELLS: a code, worked on a pile (own work) -/
def op2 (c : Nat) (a b : Int32) : Int32 := if c = 4 then a + b else if c = 5 then a - b else if c = 6 then a * b else if c = 7 then bI (decide (a < b)) else if c = 8 then bI (decide (a = b)) else if c = 9 then bI (decide (¬ a = 0 ∧ ¬ b = 0)) else bI (decide (¬ a = 0 ∨ ¬ b = 0))
def rstep (f : Nat → Int32) (q : Nat × Int32) (st : List Int32) : Option (List Int32) := if q.1 = 1 then some (q.2 :: st) else if q.1 = 2 then (if q.2 < 0 ∨ 4 ≤ q.2.toNatClampNeg then none else some (f q.2.toNatClampNeg :: st)) else if q.1 = 3 then (match st with
  | x :: r => some (bI (decide (x = 0)) :: r)
  | [] => none) else if 4 ≤ q.1 ∧ q.1 ≤ 10 then (match st with
  | y :: x :: r => some (op2 q.1 x y :: r)
  | _ => none) else none
def rpn (f : Nat → Int32) : List (Nat × Int32) → List Int32 → Option (List Int32)
  | [], st => some st
  | q :: c, st => match rstep f q st with
    | some st' => rpn f c st'
    | none => none
theorem rpn_app {f : Nat → Int32} : ∀ (c c' : List (Nat × Int32)) (st : List Int32), rpn f (c ++ c') st = (match rpn f c st with | some st' => rpn f c' st' | none => none) := by
  intro c
  induction c with
  | nil => intro c' st; rfl
  | cons q c ih =>
    intro c' st
    show (match rstep f q st with | some st' => rpn f (c ++ c') st' | none => none) = _
    rw [rpn]
    cases rstep f q st with
    | none => rfl
    | some st' => exact ih c' st'
theorem m_both {D c : Nat} {a b : Int32} {h : xH} (h4 : 4 ≤ c) (h10 : c ≤ 10) : evD (D + 1) 301 [.int (nI c), .int a, .int b] h = some (.inl (some (.int (op2 c a b))), h) := by
  rw [vX5_both]
  rcases (show c = 4 ∨ c = 5 ∨ c = 6 ∨ c = 7 ∨ c = 8 ∨ c = 9 ∨ c = 10 by omega) with rfl | rfl | rfl | rfl | rfl | rfl | rfl
  · simp only [eX5_both_0, eX5_both_1, show xsw 4 [40, 44, 48, 52, 63, 74] 88 (nI 4) = 40 from rfl, eX5_both_40, eX5_both_41, eX5_both_42, eX5_both_43, eX5_both_44, eX5_both_45, eX5_both_46, eX5_both_47, eX5_both_48, eX5_both_49, eX5_both_50, eX5_both_51, eX5_both_52, eX5_both_53, eX5_both_54, eX5_both_57, eX5_both_58, eX5_both_61, eX5_both_62, eX5_both_63, eX5_both_64, eX5_both_65, eX5_both_68, eX5_both_69, eX5_both_72, eX5_both_73, eX5_both_74, eX5_both_75, eX5_both_78, eX5_both_79, eX5_both_82, eX5_both_83, eX5_both_86, eX5_both_87, eX5_both_88, eX5_both_89, eX5_both_92, eX5_both_93, eX5_both_96, eX5_both_97, eX5_both_100, eX5_both_101]
    rfl
  · simp only [eX5_both_0, eX5_both_1, show xsw 4 [40, 44, 48, 52, 63, 74] 88 (nI 5) = 44 from rfl, eX5_both_40, eX5_both_41, eX5_both_42, eX5_both_43, eX5_both_44, eX5_both_45, eX5_both_46, eX5_both_47, eX5_both_48, eX5_both_49, eX5_both_50, eX5_both_51, eX5_both_52, eX5_both_53, eX5_both_54, eX5_both_57, eX5_both_58, eX5_both_61, eX5_both_62, eX5_both_63, eX5_both_64, eX5_both_65, eX5_both_68, eX5_both_69, eX5_both_72, eX5_both_73, eX5_both_74, eX5_both_75, eX5_both_78, eX5_both_79, eX5_both_82, eX5_both_83, eX5_both_86, eX5_both_87, eX5_both_88, eX5_both_89, eX5_both_92, eX5_both_93, eX5_both_96, eX5_both_97, eX5_both_100, eX5_both_101]
    rfl
  · simp only [eX5_both_0, eX5_both_1, show xsw 4 [40, 44, 48, 52, 63, 74] 88 (nI 6) = 48 from rfl, eX5_both_40, eX5_both_41, eX5_both_42, eX5_both_43, eX5_both_44, eX5_both_45, eX5_both_46, eX5_both_47, eX5_both_48, eX5_both_49, eX5_both_50, eX5_both_51, eX5_both_52, eX5_both_53, eX5_both_54, eX5_both_57, eX5_both_58, eX5_both_61, eX5_both_62, eX5_both_63, eX5_both_64, eX5_both_65, eX5_both_68, eX5_both_69, eX5_both_72, eX5_both_73, eX5_both_74, eX5_both_75, eX5_both_78, eX5_both_79, eX5_both_82, eX5_both_83, eX5_both_86, eX5_both_87, eX5_both_88, eX5_both_89, eX5_both_92, eX5_both_93, eX5_both_96, eX5_both_97, eX5_both_100, eX5_both_101]
    rfl
  · simp only [eX5_both_0, eX5_both_1, show xsw 4 [40, 44, 48, 52, 63, 74] 88 (nI 7) = 52 from rfl, eX5_both_40, eX5_both_41, eX5_both_42, eX5_both_43, eX5_both_44, eX5_both_45, eX5_both_46, eX5_both_47, eX5_both_48, eX5_both_49, eX5_both_50, eX5_both_51, eX5_both_52, eX5_both_53, eX5_both_54, eX5_both_57, eX5_both_58, eX5_both_61, eX5_both_62, eX5_both_63, eX5_both_64, eX5_both_65, eX5_both_68, eX5_both_69, eX5_both_72, eX5_both_73, eX5_both_74, eX5_both_75, eX5_both_78, eX5_both_79, eX5_both_82, eX5_both_83, eX5_both_86, eX5_both_87, eX5_both_88, eX5_both_89, eX5_both_92, eX5_both_93, eX5_both_96, eX5_both_97, eX5_both_100, eX5_both_101]
    by_cases q : b ≤ a
    · simp [op2, q, Int32.not_lt.mpr q, bI]
    · simp [op2, q, Int32.not_le.mp q, bI]
  · simp only [eX5_both_0, eX5_both_1, show xsw 4 [40, 44, 48, 52, 63, 74] 88 (nI 8) = 63 from rfl, eX5_both_40, eX5_both_41, eX5_both_42, eX5_both_43, eX5_both_44, eX5_both_45, eX5_both_46, eX5_both_47, eX5_both_48, eX5_both_49, eX5_both_50, eX5_both_51, eX5_both_52, eX5_both_53, eX5_both_54, eX5_both_57, eX5_both_58, eX5_both_61, eX5_both_62, eX5_both_63, eX5_both_64, eX5_both_65, eX5_both_68, eX5_both_69, eX5_both_72, eX5_both_73, eX5_both_74, eX5_both_75, eX5_both_78, eX5_both_79, eX5_both_82, eX5_both_83, eX5_both_86, eX5_both_87, eX5_both_88, eX5_both_89, eX5_both_92, eX5_both_93, eX5_both_96, eX5_both_97, eX5_both_100, eX5_both_101]
    by_cases q : a = b
    · simp [op2, q, bI]
    · simp [op2, q, bI]
  · simp only [eX5_both_0, eX5_both_1, show xsw 4 [40, 44, 48, 52, 63, 74] 88 (nI 9) = 74 from rfl, eX5_both_40, eX5_both_41, eX5_both_42, eX5_both_43, eX5_both_44, eX5_both_45, eX5_both_46, eX5_both_47, eX5_both_48, eX5_both_49, eX5_both_50, eX5_both_51, eX5_both_52, eX5_both_53, eX5_both_54, eX5_both_57, eX5_both_58, eX5_both_61, eX5_both_62, eX5_both_63, eX5_both_64, eX5_both_65, eX5_both_68, eX5_both_69, eX5_both_72, eX5_both_73, eX5_both_74, eX5_both_75, eX5_both_78, eX5_both_79, eX5_both_82, eX5_both_83, eX5_both_86, eX5_both_87, eX5_both_88, eX5_both_89, eX5_both_92, eX5_both_93, eX5_both_96, eX5_both_97, eX5_both_100, eX5_both_101]
    by_cases q : a = 0 <;> by_cases q2 : b = 0 <;> simp [op2, q, q2, bI]
  · simp only [eX5_both_0, eX5_both_1, show xsw 4 [40, 44, 48, 52, 63, 74] 88 (nI 10) = 88 from rfl, eX5_both_40, eX5_both_41, eX5_both_42, eX5_both_43, eX5_both_44, eX5_both_45, eX5_both_46, eX5_both_47, eX5_both_48, eX5_both_49, eX5_both_50, eX5_both_51, eX5_both_52, eX5_both_53, eX5_both_54, eX5_both_57, eX5_both_58, eX5_both_61, eX5_both_62, eX5_both_63, eX5_both_64, eX5_both_65, eX5_both_68, eX5_both_69, eX5_both_72, eX5_both_73, eX5_both_74, eX5_both_75, eX5_both_78, eX5_both_79, eX5_both_82, eX5_both_83, eX5_both_86, eX5_both_87, eX5_both_88, eX5_both_89, eX5_both_92, eX5_both_93, eX5_both_96, eX5_both_97, eX5_both_100, eX5_both_101]
    by_cases q : a = 0 <;> by_cases q2 : b = 0 <;> simp [op2, q, q2, bI]
/-- the code lies in the arrays from the start on -/
def mC (c : List (Nat × Int32)) (M : xZ) : Prop := c.length < 1100 ∧ (∀ i q, c[i]? = some q → M.2.1 11 i = nI q.1 ∧ M.2.1 12 i = q.2 ∧ 1 ≤ q.1 ∧ q.1 ≤ 10) ∧ M.2.1 11 c.length = nI 0
/-- the pile's array alone is another one -/
def pM (M M' : xZ) : Prop := M'.1 = M.1 ∧ (∀ j, j ≠ 23 → M'.2.1 j = M.2.1 j) ∧ M'.2.2 = M.2.2
theorem pM.rf {M : xZ} : pM M M := ⟨rfl, fun _ _ => rfl, rfl⟩
theorem pM.tr {A B E : xZ} (h : pM A B) (h' : pM B E) : pM A E := ⟨h'.1.trans h.1, fun j hj => (h'.2.1 j hj).trans (h.2.1 j hj), h'.2.2.trans h.2.2⟩
theorem pM.zia {M : xZ} {i : Nat} {v : Int32} : pM M (zia M 23 i v) := ⟨rfl, fun j hj => if_neg hj, rfl⟩
/-- the pile: its top is the list's head -/
def mP (st : List Int32) (M : xZ) : Prop := st.length ≤ 1100 ∧ ∀ j v, st[j]? = some v → M.2.1 23 (st.length - 1 - j) = v
theorem mP.push {st : List Int32} {M : xZ} {v : Int32} (h : mP st M) (hl : st.length < 1100) : mP (v :: st) (zia M 23 st.length v) := by
  refine ⟨hl, fun j w hw => ?_⟩
  show upd (M.2.1 23) st.length v _ = w
  cases j with
  | zero =>
    cases hw
    show upd (M.2.1 23) st.length v (st.length + 1 - 1 - 0) = v
    simp [upd]
  | succ j =>
    have hw' : st[j]? = some w := hw
    have hj := (List.getElem?_eq_some_iff.mp hw').1
    have h1 := h.2 j w hw'
    have e : (v :: st).length - 1 - (j + 1) = st.length - 1 - j := by rw [List.length_cons]; omega
    rw [e]
    unfold upd
    rw [if_neg (by omega)]
    exact h1
/-- the top is put anew -/
theorem mP.top {st : List Int32} {M : xZ} {u v : Int32} (h : mP (u :: st) M) : mP (v :: st) (zia M 23 st.length v) := by
  refine ⟨h.1, fun j w hw => ?_⟩
  show upd (M.2.1 23) st.length v _ = w
  cases j with
  | zero =>
    cases hw
    show upd (M.2.1 23) st.length v (st.length + 1 - 1 - 0) = v
    simp [upd]
  | succ j =>
    have hw' : st[j]? = some w := hw
    have hj := (List.getElem?_eq_some_iff.mp hw').1
    have h1 := h.2 (j + 1) w hw
    have e : (v :: st).length - 1 - (j + 1) = (u :: st).length - 1 - (j + 1) := rfl
    rw [e]
    unfold upd
    rw [if_neg (by rw [List.length_cons]; omega)]
    exact h1
theorem mP.pop {st : List Int32} {M : xZ} {u : Int32} (h : mP (u :: st) M) : mP st M := by
  refine ⟨Nat.le_of_succ_le h.1, fun j w hw => ?_⟩
  have := h.2 (j + 1) w hw
  have e : (u :: st).length - 1 - (j + 1) = st.length - 1 - j := by rw [List.length_cons]; omega
  rw [e] at this
  exact this
theorem mP.head {st : List Int32} {M : xZ} {u : Int32} (h : mP (u :: st) M) : M.2.1 23 st.length = u := by
  have := h.2 0 u rfl
  have e : (u :: st).length - 1 - 0 = st.length := by rw [List.length_cons]; omega
  rw [e] at this
  exact this
