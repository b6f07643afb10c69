theorem bI_0 {b : Bool} : (bI b = 0) ↔ b = false := by cases b <;> decide
theorem bI_n0 {b : Bool} : (bI b = nI 0) ↔ b = false := by cases b <;> decide
theorem s_doors {D : Nat} {C M : xZ} {d : xH} : evD (D + 1) 250 [.ref 109] (mk C M d) = some (.inl (some (.int (M.2.1 10 1))), mk C M d) := by
  rw [vX5_doors]
  simp (disch := omega) only [eX5_doors_0, eX5_doors_1, eX5_doors_4, eX5_doors_5, eX5_doors_6, kM, gM0, gM1, gM2, gM3, gM4, gM5, gM6, gM7, gM8, gM9, gM10, gM11, gM12, gM13, gM14, gM15, gM16, gM17, gM18, gM19, gM20, gM21, gM22, gM23, gM24, gM25, gM26, gM27, gM28, gM29, gM30, gM31, rM1, rM4, rM5, rM6, rM9, rM10, rM11, rM12, rM14, rM15, rM16, rM17, rM21, rM22, rM23, rM24, rM26, rM27, rM28, rM29, rM30, wM1, wM4, wM5, wM6, wM9, wM10, wM11, wM12, wM14, wM15, wM16, wM17, wM21, wM22, wM23, wM24, wM26, wM27, wM28, wM29, wM30, pM0, pM2, pM3, pM7, pM8, pM13, pM18, pM19, pM20, pM25, pM31, xO_s, xO_n, xB_s, xB_x, xBv_s, xBv_x]
def p_over (M : xZ) (b k : Nat) : Int32 := M.2.1 24 (b + 10 + k) - M.2.1 24 (b + 2 + k)
def p_wedged (M : xZ) (b k : Nat) : Bool := decide (M.2.1 24 (b + 1) >>> (nI k &&& 31) &&& nI 1 = nI 1)
def p_stick (M : xZ) (b k : Nat) : Bool := decide (0 < p_over M b k) && !p_wedged M b k
/-- the places of which p holds, as bits -/
def setOf (p : Nat → Bool) : Nat → Int32
  | 0 => nI 0
  | n + 1 => setOf p n ||| (bif p n then nI 1 <<< (nI n &&& 31) else nI 0)
theorem s_overOf {D : Nat} {C M : xZ} {d : xH} {b k : Nat} (h : b + 20 < 1495) (hk : k < 8) : evD (D + 1) 290 [.ref 109, .int (nI b), .int (nI k)] (mk C M d) = some (.inl (some (.int (p_over M b k))), mk C M d) := by
  rw [vX5_overOf]
  simp (disch := omega) only [eX5_overOf_0, eX5_overOf_1, eX5_overOf_4, eX5_overOf_5, eX5_overOf_7, eX5_overOf_8, eX5_overOf_9, eX5_overOf_10, eX5_overOf_11, eX5_overOf_12, eX5_overOf_15, eX5_overOf_16, eX5_overOf_17, eX5_overOf_18, eX5_overOf_19, eX5_overOf_20, eX5_overOf_21, eX5_overOf_22, nI_add, kM, gM0, gM1, gM2, gM3, gM4, gM5, gM6, gM7, gM8, gM9, gM10, gM11, gM12, gM13, gM14, gM15, gM16, gM17, gM18, gM19, gM20, gM21, gM22, gM23, gM24, gM25, gM26, gM27, gM28, gM29, gM30, gM31, rM1, rM4, rM5, rM6, rM9, rM10, rM11, rM12, rM14, rM15, rM16, rM17, rM21, rM22, rM23, rM24, rM26, rM27, rM28, rM29, rM30, wM1, wM4, wM5, wM6, wM9, wM10, wM11, wM12, wM14, wM15, wM16, wM17, wM21, wM22, wM23, wM24, wM26, wM27, wM28, wM29, wM30, pM0, pM2, pM3, pM7, pM8, pM13, pM18, pM19, pM20, pM25, pM31, xO_s, xO_n, xB_s, xB_x, xBv_s, xBv_x]
  rfl
theorem s_isWedged {D : Nat} {C M : xZ} {d : xH} {b k : Nat} (h : b + 20 < 1495) (hk : k < 8) : evD (D + 1) 288 [.ref 109, .int (nI b), .int (nI k)] (mk C M d) = some (.inl (some (.int (bI (p_wedged M b k)))), mk C M d) := by
  rw [vX5_isWedged]
  simp (disch := omega) only [eX5_isWedged_0, eX5_isWedged_1, eX5_isWedged_4, eX5_isWedged_5, eX5_isWedged_6, eX5_isWedged_7, eX5_isWedged_8, eX5_isWedged_9, eX5_isWedged_10, eX5_isWedged_11, eX5_isWedged_12, eX5_isWedged_13, eX5_isWedged_16, eX5_isWedged_17, eX5_isWedged_20, eX5_isWedged_21, eX5_isWedged_21b0, eX5_isWedged_21b1, eX5_isWedged_21b, nI_add, kM, gM0, gM1, gM2, gM3, gM4, gM5, gM6, gM7, gM8, gM9, gM10, gM11, gM12, gM13, gM14, gM15, gM16, gM17, gM18, gM19, gM20, gM21, gM22, gM23, gM24, gM25, gM26, gM27, gM28, gM29, gM30, gM31, rM1, rM4, rM5, rM6, rM9, rM10, rM11, rM12, rM14, rM15, rM16, rM17, rM21, rM22, rM23, rM24, rM26, rM27, rM28, rM29, rM30, wM1, wM4, wM5, wM6, wM9, wM10, wM11, wM12, wM14, wM15, wM16, wM17, wM21, wM22, wM23, wM24, wM26, wM27, wM28, wM29, wM30, pM0, pM2, pM3, pM7, pM8, pM13, pM18, pM19, pM20, pM25, pM31, xO_s, xO_n, xB_s, xB_x, xBv_s, xBv_x]
  unfold p_wedged
  split <;> simp_all [bI]
theorem s_doesStick {D : Nat} {C M : xZ} {d : xH} {b k : Nat} (h : b + 20 < 1495) (hk : k < 8) : evD (D + 2) 289 [.ref 109, .int (nI b), .int (nI k)] (mk C M d) = some (.inl (some (.int (bI (p_stick M b k)))), mk C M d) := by
  rw [vX5_doesStick]
  simp (disch := omega) only [eX5_doesStick_0, eX5_doesStick_1, eX5_doesStick_2, eX5_doesStick_3, eX5_doesStick_6, eX5_doesStick_9, eX5_doesStick_10, eX5_doesStick_11, eX5_doesStick_12, eX5_doesStick_15, eX5_doesStick_18, eX5_doesStick_19, eX5_doesStick_22, eX5_doesStick_23, eX5_doesStick_23b0, eX5_doesStick_23b1, eX5_doesStick_23b, s_overOf, s_isWedged, kM, gM0, gM1, gM2, gM3, gM4, gM5, gM6, gM7, gM8, gM9, gM10, gM11, gM12, gM13, gM14, gM15, gM16, gM17, gM18, gM19, gM20, gM21, gM22, gM23, gM24, gM25, gM26, gM27, gM28, gM29, gM30, gM31, rM1, rM4, rM5, rM6, rM9, rM10, rM11, rM12, rM14, rM15, rM16, rM17, rM21, rM22, rM23, rM24, rM26, rM27, rM28, rM29, rM30, wM1, wM4, wM5, wM6, wM9, wM10, wM11, wM12, wM14, wM15, wM16, wM17, wM21, wM22, wM23, wM24, wM26, wM27, wM28, wM29, wM30, pM0, pM2, pM3, pM7, pM8, pM13, pM18, pM19, pM20, pM25, pM31, xO_s, xO_n, xB_s, xB_x, xBv_s, xBv_x, bI_0]
  unfold p_stick
  by_cases h1 : p_over M b k ≤ 0
  · simp [h1, Int32.not_lt.mpr h1, bI]
  · cases h2 : p_wedged M b k <;> simp [h1, Int32.not_le.mp h1, bI]
theorem s_stickingL {D : Nat} {C M : xZ} {d : xH} {b nd : Nat} (h : b + 20 < 1495) (hn : nd ≤ 8) (hd : M.2.1 10 1 = nI nd) : ∀ (n k : Nat), k + n = nd → exF (evD (D + 2)) cX5_sticking 4 ([some (.ref 109), some (.int (nI b)), some (.int (setOf (p_stick M b) k)), some (.int (nI k))], []) [] (mk C M d) = some (.inl (some (.int (setOf (p_stick M b) nd))), mk C M d) := by
  intro n
  induction n with
  | zero =>
    intro k hk
    have : k = nd := by omega
    subst this
    simp (disch := omega) only [eX5_sticking_0, eX5_sticking_1, eX5_sticking_2, eX5_sticking_3, eX5_sticking_4, eX5_sticking_5, eX5_sticking_6, eX5_sticking_9, eX5_sticking_12, eX5_sticking_13, eX5_sticking_14, eX5_sticking_15, eX5_sticking_16, eX5_sticking_19, eX5_sticking_22, eX5_sticking_23, eX5_sticking_24, eX5_sticking_25, eX5_sticking_28, eX5_sticking_29, eX5_sticking_30, eX5_sticking_31, eX5_sticking_34, eX5_sticking_37, eX5_sticking_38, s_doors, kM, gM0, gM1, gM2, gM3, gM4, gM5, gM6, gM7, gM8, gM9, gM10, gM11, gM12, gM13, gM14, gM15, gM16, gM17, gM18, gM19, gM20, gM21, gM22, gM23, gM24, gM25, gM26, gM27, gM28, gM29, gM30, gM31, rM1, rM4, rM5, rM6, rM9, rM10, rM11, rM12, rM14, rM15, rM16, rM17, rM21, rM22, rM23, rM24, rM26, rM27, rM28, rM29, rM30, wM1, wM4, wM5, wM6, wM9, wM10, wM11, wM12, wM14, wM15, wM16, wM17, wM21, wM22, wM23, wM24, wM26, wM27, wM28, wM29, wM30, pM0, pM2, pM3, pM7, pM8, pM13, pM18, pM19, pM20, pM25, pM31, xO_s, xO_n, xB_s, xB_x, xBv_s, xBv_x, hd, nI_leI, Nat.le_refl, if_true]
  | succ n ih =>
    intro k hk
    have hlt : ¬ nd ≤ k := by omega
    rw [eX5_sticking_4]
    simp (disch := omega) only [eX5_sticking_0, eX5_sticking_1, eX5_sticking_2, eX5_sticking_3, eX5_sticking_5, eX5_sticking_6, eX5_sticking_9, eX5_sticking_12, eX5_sticking_13, eX5_sticking_14, eX5_sticking_15, eX5_sticking_16, eX5_sticking_19, eX5_sticking_22, eX5_sticking_23, eX5_sticking_24, eX5_sticking_25, eX5_sticking_28, eX5_sticking_29, eX5_sticking_30, eX5_sticking_31, eX5_sticking_34, eX5_sticking_37, eX5_sticking_38, s_doors, s_doesStick, kM, gM0, gM1, gM2, gM3, gM4, gM5, gM6, gM7, gM8, gM9, gM10, gM11, gM12, gM13, gM14, gM15, gM16, gM17, gM18, gM19, gM20, gM21, gM22, gM23, gM24, gM25, gM26, gM27, gM28, gM29, gM30, gM31, rM1, rM4, rM5, rM6, rM9, rM10, rM11, rM12, rM14, rM15, rM16, rM17, rM21, rM22, rM23, rM24, rM26, rM27, rM28, rM29, rM30, wM1, wM4, wM5, wM6, wM9, wM10, wM11, wM12, wM14, wM15, wM16, wM17, wM21, wM22, wM23, wM24, wM26, wM27, wM28, wM29, wM30, pM0, pM2, pM3, pM7, pM8, pM13, pM18, pM19, pM20, pM25, pM31, xO_s, xO_n, xB_s, xB_x, xBv_s, xBv_x, hd, nI_leI, hlt, if_false, bI_0, nI_add]
    have hi := ih (k + 1) (by omega)
    rw [setOf] at hi
    cases hp : p_stick M b k <;> simp [hp] at hi ⊢ <;> exact hi
theorem s_sticking {D : Nat} {C M : xZ} {d : xH} {b nd : Nat} (h : b + 20 < 1495) (hn : nd ≤ 8) (hd : M.2.1 10 1 = nI nd) : evD (D + 3) 302 [.ref 109, .int (nI b)] (mk C M d) = some (.inl (some (.int (setOf (p_stick M b) nd))), mk C M d) := by
  rw [vX5_sticking]
  simp (disch := omega) only [eX5_sticking_0, eX5_sticking_1, eX5_sticking_2, eX5_sticking_3]
  exact s_stickingL h hn hd nd 0 (by omega)
