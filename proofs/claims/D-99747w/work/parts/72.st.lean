set_option maxRecDepth 100000
/-! THE HOUSE, ITS STATE (own work): plain things, no program in sight -/
/-- rooms, doors, persons; doors: a room, the other one, wood, gap; persons' rooms; damps, how many; what swells (code) -/
abbrev xHo : Type := (Nat × Nat × Nat) × (Nat → Nat) × (Nat → Nat) × (Nat → Nat) × (Nat → Nat) × (Nat → Nat) × (Nat → Nat) × Nat × Option (List (Nat × Int32))
def hNr (H : xHo) : Nat := H.1.1
def hNd (H : xHo) : Nat := H.1.2.1
def hNp (H : xHo) : Nat := H.1.2.2
def hOne (H : xHo) (d : Nat) : Nat := H.2.1 d
def hOth (H : xHo) (d : Nat) : Nat := H.2.2.1 d
def hWd (H : xHo) (d : Nat) : Nat := H.2.2.2.1 d
def hGp (H : xHo) (d : Nat) : Nat := H.2.2.2.2.1 d
def hAt (H : xHo) (p : Nat) : Nat := H.2.2.2.2.2.1 p
def hDm (H : xHo) (k : Nat) : Nat := H.2.2.2.2.2.2.1 k
def hMn (H : xHo) : Nat := H.2.2.2.2.2.2.2.1
def hCd (H : xHo) : Option (List (Nat × Int32)) := H.2.2.2.2.2.2.2.2
/-- what holds of a house that is read -/
def hOk (H : xHo) : Prop := hNr H ≤ 7 ∧ hNd H ≤ 8 ∧ hNp H ≤ 5 ∧ (∀ d, hOne H d < 7 ∧ hOth H d < 7 ∧ hWd H d < 4 ∧ hGp H d ≤ 12) ∧ (∀ d, d < hNd H → hOne H d ≠ hOth H d) ∧ (∀ p, hAt H p < 7) ∧ (1 ≤ hMn H ∧ hMn H ≤ 12) ∧ ∀ k, hDm H k ≤ 9
/-- how it is: swell, gap, where persons are; wedges, the day -/
abbrev xT : Type := (Nat → Nat) × (Nat → Nat) × (Nat → Nat) × Int32 × Nat
def tSw (T : xT) (d : Nat) : Nat := T.1 d
def tGp (T : xT) (d : Nat) : Nat := T.2.1 d
def tAt (T : xT) (p : Nat) : Nat := T.2.2.1 p
def tWg (T : xT) : Int32 := T.2.2.2.1
def tDy (T : xT) : Nat := T.2.2.2.2
def tOk (T : xT) : Prop := (∀ d, tSw T d ≤ 30) ∧ (∀ d, tGp T d ≤ 30) ∧ (∀ p, tAt T p < 7) ∧ tDy T ≤ 100000
def pStick (T : xT) (d : Nat) : Bool := decide (tGp T d < tSw T d) && !isin (tWg T) d
def pSet (H : xHo) (T : xT) : Int32 := setOf (pStick T) (hNd H)
/-- the reference's arrays: the house, a state at an offset -/
def mH (H : xHo) (M : xZ) : Prop := M.2.1 10 0 = nI (hNr H) ∧ M.2.1 10 1 = nI (hNd H) ∧ M.2.1 10 2 = nI (hNp H) ∧ M.2.1 10 3 = nI (hMn H) ∧ (∀ d, d < 8 → M.2.1 10 (5 + 4 * d) = nI (hOne H d) ∧ M.2.1 10 (5 + 4 * d + 1) = nI (hOth H d) ∧ M.2.1 10 (5 + 4 * d + 2) = nI (hWd H d) ∧ M.2.1 10 (5 + 4 * d + 3) = nI (hGp H d)) ∧ (∀ p, p < 5 → M.2.1 10 (37 + p) = nI (hAt H p)) ∧ (∀ k, k < 12 → M.2.1 10 (42 + k) = nI (hDm H k))
def mT (b : Nat) (T : xT) (M : xZ) : Prop := (∀ d, d < 8 → M.2.1 24 (b + 10 + d) = nI (tSw T d)) ∧ (∀ d, d < 8 → M.2.1 24 (b + 2 + d) = nI (tGp T d)) ∧ (∀ p, p < 5 → M.2.1 24 (b + 18 + p) = nI (tAt T p)) ∧ M.2.1 24 (b + 1) = tWg T ∧ M.2.1 24 b = nI (tDy T)
section MSPEC1
variable {D : Nat} {C M : xZ} {d : xH} {H : xHo} {T : xT} {b : Nat}
theorem m_rooms (hH : mH H M) : evD (D + 1) 320 [.ref 109] (mk C M d) = some (.inl (some (.int (nI (hNr H)))), mk C M d) := by
  rw [vX5_rooms]
  simp (disch := omega) only [eX5_rooms_0, eX5_rooms_1, eX5_rooms_4, eX5_rooms_5, eX5_rooms_6, kM, gM0, gM1, gM2, gM3, gM4, gM5, gM6, gM7, gM8, gM9, gM10, gM11, gM12, gM13, gM14, gM15, gM16, gM17, gM18, gM19, gM20, gM21, gM22, gM23, gM24, gM25, gM26, gM27, gM28, gM29, gM30, gM31, rM1, rM4, rM5, rM6, rM9, rM10, rM11, rM12, rM14, rM15, rM16, rM17, rM21, rM22, rM23, rM24, rM26, rM27, rM28, rM29, rM30, wM1, wM4, wM5, wM6, wM9, wM10, wM11, wM12, wM14, wM15, wM16, wM17, wM21, wM22, wM23, wM24, wM26, wM27, wM28, wM29, wM30, pM0, pM2, pM3, pM7, pM8, pM13, pM18, pM19, pM20, pM25, pM31, xO_s, xO_n, xB_s, xB_x, xBv_s, xBv_x, hH.1]
theorem m_doors (hH : mH H M) : evD (D + 1) 250 [.ref 109] (mk C M d) = some (.inl (some (.int (nI (hNd H)))), mk C M d) := by
  rw [vX5_doors]
  simp (disch := omega) only [eX5_doors_0, eX5_doors_1, eX5_doors_4, eX5_doors_5, eX5_doors_6, kM, gM0, gM1, gM2, gM3, gM4, gM5, gM6, gM7, gM8, gM9, gM10, gM11, gM12, gM13, gM14, gM15, gM16, gM17, gM18, gM19, gM20, gM21, gM22, gM23, gM24, gM25, gM26, gM27, gM28, gM29, gM30, gM31, rM1, rM4, rM5, rM6, rM9, rM10, rM11, rM12, rM14, rM15, rM16, rM17, rM21, rM22, rM23, rM24, rM26, rM27, rM28, rM29, rM30, wM1, wM4, wM5, wM6, wM9, wM10, wM11, wM12, wM14, wM15, wM16, wM17, wM21, wM22, wM23, wM24, wM26, wM27, wM28, wM29, wM30, pM0, pM2, pM3, pM7, pM8, pM13, pM18, pM19, pM20, pM25, pM31, xO_s, xO_n, xB_s, xB_x, xBv_s, xBv_x, hH.2.1]
theorem m_persons (hH : mH H M) : evD (D + 1) 252 [.ref 109] (mk C M d) = some (.inl (some (.int (nI (hNp H)))), mk C M d) := by
  rw [vX5_persons]
  simp (disch := omega) only [eX5_persons_0, eX5_persons_1, eX5_persons_4, eX5_persons_5, eX5_persons_6, kM, gM0, gM1, gM2, gM3, gM4, gM5, gM6, gM7, gM8, gM9, gM10, gM11, gM12, gM13, gM14, gM15, gM16, gM17, gM18, gM19, gM20, gM21, gM22, gM23, gM24, gM25, gM26, gM27, gM28, gM29, gM30, gM31, rM1, rM4, rM5, rM6, rM9, rM10, rM11, rM12, rM14, rM15, rM16, rM17, rM21, rM22, rM23, rM24, rM26, rM27, rM28, rM29, rM30, wM1, wM4, wM5, wM6, wM9, wM10, wM11, wM12, wM14, wM15, wM16, wM17, wM21, wM22, wM23, wM24, wM26, wM27, wM28, wM29, wM30, pM0, pM2, pM3, pM7, pM8, pM13, pM18, pM19, pM20, pM25, pM31, xO_s, xO_n, xB_s, xB_x, xBv_s, xBv_x, hH.2.2.1]
theorem m_within {v lo hi : Int32} {h : xH} : evD (D + 1) 268 [.int v, .int lo, .int hi] h = some (.inl (some (.int (bI (decide (lo ≤ v ∧ v ≤ hi))))), h) := by
  rw [vX5_within]
  simp only [eX5_within_0, eX5_within_1, eX5_within_2, eX5_within_5, eX5_within_6, eX5_within_7, eX5_within_10, eX5_within_11, eX5_within_14, eX5_within_15, eX5_within_15b0, eX5_within_15b1, eX5_within_15b, Int32.not_lt, Int32.not_le]
  by_cases h1 : v < lo
  · simp [h1, Int32.not_le.mpr h1, bI]
  · by_cases h2 : hi < v
    · simp [h1, h2, Int32.not_le.mpr h2, bI]
    · simp [h1, h2, Int32.not_lt.mp h1, Int32.not_lt.mp h2, bI]
theorem m_isDoor (hH : mH H M) {v : Int32} : evD (D + 2) 287 [.ref 109, .int v] (mk C M d) = some (.inl (some (.int (bI (decide (0 ≤ v ∧ v < nI (hNd H)))))), mk C M d) := by
  rw [vX5_isDoor]
  simp (disch := omega) only [eX5_isDoor_0, eX5_isDoor_1, eX5_isDoor_4, eX5_isDoor_5, eX5_isDoor_6, eX5_isDoor_9, eX5_isDoor_12, eX5_isDoor_13, eX5_isDoor_16, eX5_isDoor_17, eX5_isDoor_17b0, eX5_isDoor_17b1, eX5_isDoor_17b, kM, gM0, gM1, gM2, gM3, gM4, gM5, gM6, gM7, gM8, gM9, gM10, gM11, gM12, gM13, gM14, gM15, gM16, gM17, gM18, gM19, gM20, gM21, gM22, gM23, gM24, gM25, gM26, gM27, gM28, gM29, gM30, gM31, rM1, rM4, rM5, rM6, rM9, rM10, rM11, rM12, rM14, rM15, rM16, rM17, rM21, rM22, rM23, rM24, rM26, rM27, rM28, rM29, rM30, wM1, wM4, wM5, wM6, wM9, wM10, wM11, wM12, wM14, wM15, wM16, wM17, wM21, wM22, wM23, wM24, wM26, wM27, wM28, wM29, wM30, pM0, pM2, pM3, pM7, pM8, pM13, pM18, pM19, pM20, pM25, pM31, xO_s, xO_n, xB_s, xB_x, xBv_s, xBv_x, m_doors hH]
  by_cases h1 : v < 0
  · simp [h1, Int32.not_le.mpr h1, bI]
  · by_cases h2 : nI (hNd H) ≤ v
    · simp [h1, h2, Int32.not_lt.mpr h2, bI]
    · simp [h1, h2, Int32.not_lt.mp h1, Int32.not_le.mp h2, bI]
theorem m_isRoom (hH : mH H M) {v : Int32} : evD (D + 2) 319 [.ref 109, .int v] (mk C M d) = some (.inl (some (.int (bI (decide (0 ≤ v ∧ v < nI (hNr H)))))), mk C M d) := by
  rw [vX5_isRoom]
  simp (disch := omega) only [eX5_isRoom_0, eX5_isRoom_1, eX5_isRoom_4, eX5_isRoom_5, eX5_isRoom_6, eX5_isRoom_9, eX5_isRoom_12, eX5_isRoom_13, eX5_isRoom_16, eX5_isRoom_17, eX5_isRoom_17b0, eX5_isRoom_17b1, eX5_isRoom_17b, kM, gM0, gM1, gM2, gM3, gM4, gM5, gM6, gM7, gM8, gM9, gM10, gM11, gM12, gM13, gM14, gM15, gM16, gM17, gM18, gM19, gM20, gM21, gM22, gM23, gM24, gM25, gM26, gM27, gM28, gM29, gM30, gM31, rM1, rM4, rM5, rM6, rM9, rM10, rM11, rM12, rM14, rM15, rM16, rM17, rM21, rM22, rM23, rM24, rM26, rM27, rM28, rM29, rM30, wM1, wM4, wM5, wM6, wM9, wM10, wM11, wM12, wM14, wM15, wM16, wM17, wM21, wM22, wM23, wM24, wM26, wM27, wM28, wM29, wM30, pM0, pM2, pM3, pM7, pM8, pM13, pM18, pM19, pM20, pM25, pM31, xO_s, xO_n, xB_s, xB_x, xBv_s, xBv_x, m_rooms hH]
  by_cases h1 : v < 0
  · simp [h1, Int32.not_le.mpr h1, bI]
  · by_cases h2 : nI (hNr H) ≤ v
    · simp [h1, h2, Int32.not_lt.mpr h2, bI]
    · simp [h1, h2, Int32.not_lt.mp h1, Int32.not_le.mp h2, bI]
theorem m_isPerson (hH : mH H M) {v : Int32} : evD (D + 2) 292 [.ref 109, .int v] (mk C M d) = some (.inl (some (.int (bI (decide (0 ≤ v ∧ v < nI (hNp H)))))), mk C M d) := by
  rw [vX5_isPerson]
  simp (disch := omega) only [eX5_isPerson_0, eX5_isPerson_1, eX5_isPerson_4, eX5_isPerson_5, eX5_isPerson_6, eX5_isPerson_9, eX5_isPerson_12, eX5_isPerson_13, eX5_isPerson_16, eX5_isPerson_17, eX5_isPerson_17b0, eX5_isPerson_17b1, eX5_isPerson_17b, kM, gM0, gM1, gM2, gM3, gM4, gM5, gM6, gM7, gM8, gM9, gM10, gM11, gM12, gM13, gM14, gM15, gM16, gM17, gM18, gM19, gM20, gM21, gM22, gM23, gM24, gM25, gM26, gM27, gM28, gM29, gM30, gM31, rM1, rM4, rM5, rM6, rM9, rM10, rM11, rM12, rM14, rM15, rM16, rM17, rM21, rM22, rM23, rM24, rM26, rM27, rM28, rM29, rM30, wM1, wM4, wM5, wM6, wM9, wM10, wM11, wM12, wM14, wM15, wM16, wM17, wM21, wM22, wM23, wM24, wM26, wM27, wM28, wM29, wM30, pM0, pM2, pM3, pM7, pM8, pM13, pM18, pM19, pM20, pM25, pM31, xO_s, xO_n, xB_s, xB_x, xBv_s, xBv_x, m_persons hH]
  by_cases h1 : v < 0
  · simp [h1, Int32.not_le.mpr h1, bI]
  · by_cases h2 : nI (hNp H) ≤ v
    · simp [h1, h2, Int32.not_lt.mpr h2, bI]
    · simp [h1, h2, Int32.not_lt.mp h1, Int32.not_le.mp h2, bI]
theorem m_doorOf0 (hH : mH H M) {k : Nat} (hk : k < 8) : evD (D + 1) 251 [.ref 109, .int (nI k), .int (nI 0)] (mk C M d) = some (.inl (some (.int (nI (hOne H k)))), mk C M d) := by
  rw [vX5_doorOf]
  simp (disch := omega) only [eX5_doorOf_0, eX5_doorOf_1, eX5_doorOf_4, eX5_doorOf_5, eX5_doorOf_6, eX5_doorOf_7, eX5_doorOf_8, eX5_doorOf_9, eX5_doorOf_10, eX5_doorOf_11, eX5_doorOf_12, kM, gM0, gM1, gM2, gM3, gM4, gM5, gM6, gM7, gM8, gM9, gM10, gM11, gM12, gM13, gM14, gM15, gM16, gM17, gM18, gM19, gM20, gM21, gM22, gM23, gM24, gM25, gM26, gM27, gM28, gM29, gM30, gM31, rM1, rM4, rM5, rM6, rM9, rM10, rM11, rM12, rM14, rM15, rM16, rM17, rM21, rM22, rM23, rM24, rM26, rM27, rM28, rM29, rM30, wM1, wM4, wM5, wM6, wM9, wM10, wM11, wM12, wM14, wM15, wM16, wM17, wM21, wM22, wM23, wM24, wM26, wM27, wM28, wM29, wM30, pM0, pM2, pM3, pM7, pM8, pM13, pM18, pM19, pM20, pM25, pM31, xO_s, xO_n, xB_s, xB_x, xBv_s, xBv_x, nI_add, nI_mulI, Nat.add_zero, (hH.2.2.2.2.1 k hk).1]
theorem m_doorOf1 (hH : mH H M) {k : Nat} (hk : k < 8) : evD (D + 1) 251 [.ref 109, .int (nI k), .int (nI 1)] (mk C M d) = some (.inl (some (.int (nI (hOth H k)))), mk C M d) := by
  rw [vX5_doorOf]
  simp (disch := omega) only [eX5_doorOf_0, eX5_doorOf_1, eX5_doorOf_4, eX5_doorOf_5, eX5_doorOf_6, eX5_doorOf_7, eX5_doorOf_8, eX5_doorOf_9, eX5_doorOf_10, eX5_doorOf_11, eX5_doorOf_12, kM, gM0, gM1, gM2, gM3, gM4, gM5, gM6, gM7, gM8, gM9, gM10, gM11, gM12, gM13, gM14, gM15, gM16, gM17, gM18, gM19, gM20, gM21, gM22, gM23, gM24, gM25, gM26, gM27, gM28, gM29, gM30, gM31, rM1, rM4, rM5, rM6, rM9, rM10, rM11, rM12, rM14, rM15, rM16, rM17, rM21, rM22, rM23, rM24, rM26, rM27, rM28, rM29, rM30, wM1, wM4, wM5, wM6, wM9, wM10, wM11, wM12, wM14, wM15, wM16, wM17, wM21, wM22, wM23, wM24, wM26, wM27, wM28, wM29, wM30, pM0, pM2, pM3, pM7, pM8, pM13, pM18, pM19, pM20, pM25, pM31, xO_s, xO_n, xB_s, xB_x, xBv_s, xBv_x, nI_add, nI_mulI, (hH.2.2.2.2.1 k hk).2.1]
theorem m_doorOf2 (hH : mH H M) {k : Nat} (hk : k < 8) : evD (D + 1) 251 [.ref 109, .int (nI k), .int (nI 2)] (mk C M d) = some (.inl (some (.int (nI (hWd H k)))), mk C M d) := by
  rw [vX5_doorOf]
  simp (disch := omega) only [eX5_doorOf_0, eX5_doorOf_1, eX5_doorOf_4, eX5_doorOf_5, eX5_doorOf_6, eX5_doorOf_7, eX5_doorOf_8, eX5_doorOf_9, eX5_doorOf_10, eX5_doorOf_11, eX5_doorOf_12, kM, gM0, gM1, gM2, gM3, gM4, gM5, gM6, gM7, gM8, gM9, gM10, gM11, gM12, gM13, gM14, gM15, gM16, gM17, gM18, gM19, gM20, gM21, gM22, gM23, gM24, gM25, gM26, gM27, gM28, gM29, gM30, gM31, rM1, rM4, rM5, rM6, rM9, rM10, rM11, rM12, rM14, rM15, rM16, rM17, rM21, rM22, rM23, rM24, rM26, rM27, rM28, rM29, rM30, wM1, wM4, wM5, wM6, wM9, wM10, wM11, wM12, wM14, wM15, wM16, wM17, wM21, wM22, wM23, wM24, wM26, wM27, wM28, wM29, wM30, pM0, pM2, pM3, pM7, pM8, pM13, pM18, pM19, pM20, pM25, pM31, xO_s, xO_n, xB_s, xB_x, xBv_s, xBv_x, nI_add, nI_mulI, (hH.2.2.2.2.1 k hk).2.2.1]
theorem m_doorOf3 (hH : mH H M) {k : Nat} (hk : k < 8) : evD (D + 1) 251 [.ref 109, .int (nI k), .int (nI 3)] (mk C M d) = some (.inl (some (.int (nI (hGp H k)))), mk C M d) := by
  rw [vX5_doorOf]
  simp (disch := omega) only [eX5_doorOf_0, eX5_doorOf_1, eX5_doorOf_4, eX5_doorOf_5, eX5_doorOf_6, eX5_doorOf_7, eX5_doorOf_8, eX5_doorOf_9, eX5_doorOf_10, eX5_doorOf_11, eX5_doorOf_12, kM, gM0, gM1, gM2, gM3, gM4, gM5, gM6, gM7, gM8, gM9, gM10, gM11, gM12, gM13, gM14, gM15, gM16, gM17, gM18, gM19, gM20, gM21, gM22, gM23, gM24, gM25, gM26, gM27, gM28, gM29, gM30, gM31, rM1, rM4, rM5, rM6, rM9, rM10, rM11, rM12, rM14, rM15, rM16, rM17, rM21, rM22, rM23, rM24, rM26, rM27, rM28, rM29, rM30, wM1, wM4, wM5, wM6, wM9, wM10, wM11, wM12, wM14, wM15, wM16, wM17, wM21, wM22, wM23, wM24, wM26, wM27, wM28, wM29, wM30, pM0, pM2, pM3, pM7, pM8, pM13, pM18, pM19, pM20, pM25, pM31, xO_s, xO_n, xB_s, xB_x, xBv_s, xBv_x, nI_add, nI_mulI, (hH.2.2.2.2.1 k hk).2.2.2]
theorem m_overOf (hT : mT b T M) (hb : b + 23 ≤ 1495) {k : Nat} (hk : k < 8) : evD (D + 1) 290 [.ref 109, .int (nI b), .int (nI k)] (mk C M d) = some (.inl (some (.int (nI (tSw T k) - nI (tGp T k)))), mk C M d) := by
  rw [vX5_overOf]
  simp (disch := omega) only [eX5_overOf_0, eX5_overOf_1, eX5_overOf_4, eX5_overOf_5, eX5_overOf_7, eX5_overOf_8, eX5_overOf_9, eX5_overOf_10, eX5_overOf_11, eX5_overOf_12, eX5_overOf_15, eX5_overOf_16, eX5_overOf_17, eX5_overOf_18, eX5_overOf_19, eX5_overOf_20, eX5_overOf_21, eX5_overOf_22, nI_add, kM, gM0, gM1, gM2, gM3, gM4, gM5, gM6, gM7, gM8, gM9, gM10, gM11, gM12, gM13, gM14, gM15, gM16, gM17, gM18, gM19, gM20, gM21, gM22, gM23, gM24, gM25, gM26, gM27, gM28, gM29, gM30, gM31, rM1, rM4, rM5, rM6, rM9, rM10, rM11, rM12, rM14, rM15, rM16, rM17, rM21, rM22, rM23, rM24, rM26, rM27, rM28, rM29, rM30, wM1, wM4, wM5, wM6, wM9, wM10, wM11, wM12, wM14, wM15, wM16, wM17, wM21, wM22, wM23, wM24, wM26, wM27, wM28, wM29, wM30, pM0, pM2, pM3, pM7, pM8, pM13, pM18, pM19, pM20, pM25, pM31, xO_s, xO_n, xB_s, xB_x, xBv_s, xBv_x, hT.1 k hk, hT.2.1 k hk]
theorem m_isWedged (hT : mT b T M) (hb : b + 23 ≤ 1495) {k : Nat} : evD (D + 1) 288 [.ref 109, .int (nI b), .int (nI k)] (mk C M d) = some (.inl (some (.int (bI (isin (tWg T) k)))), mk C M d) := by
  rw [vX5_isWedged]
  simp (disch := omega) only [eX5_isWedged_0, eX5_isWedged_1, eX5_isWedged_4, eX5_isWedged_5, eX5_isWedged_6, eX5_isWedged_7, eX5_isWedged_8, eX5_isWedged_9, eX5_isWedged_10, eX5_isWedged_11, eX5_isWedged_12, eX5_isWedged_13, eX5_isWedged_16, eX5_isWedged_17, eX5_isWedged_20, eX5_isWedged_21, eX5_isWedged_21b0, eX5_isWedged_21b1, eX5_isWedged_21b, nI_add, kM, gM0, gM1, gM2, gM3, gM4, gM5, gM6, gM7, gM8, gM9, gM10, gM11, gM12, gM13, gM14, gM15, gM16, gM17, gM18, gM19, gM20, gM21, gM22, gM23, gM24, gM25, gM26, gM27, gM28, gM29, gM30, gM31, rM1, rM4, rM5, rM6, rM9, rM10, rM11, rM12, rM14, rM15, rM16, rM17, rM21, rM22, rM23, rM24, rM26, rM27, rM28, rM29, rM30, wM1, wM4, wM5, wM6, wM9, wM10, wM11, wM12, wM14, wM15, wM16, wM17, wM21, wM22, wM23, wM24, wM26, wM27, wM28, wM29, wM30, pM0, pM2, pM3, pM7, pM8, pM13, pM18, pM19, pM20, pM25, pM31, xO_s, xO_n, xB_s, xB_x, xBv_s, xBv_x, hT.2.2.2.1]
  unfold isin
  split <;> simp_all [bI]
theorem m_doesStick (hT : mT b T M) (hO : tOk T) (hb : b + 23 ≤ 1495) {k : Nat} (hk : k < 8) : evD (D + 2) 289 [.ref 109, .int (nI b), .int (nI k)] (mk C M d) = some (.inl (some (.int (bI (pStick T k)))), mk C M d) := by
  have h1 := hO.1 k
  have h2 := hO.2.1 k
  rw [vX5_doesStick]
  simp (disch := omega) only [eX5_doesStick_0, eX5_doesStick_1, eX5_doesStick_2, eX5_doesStick_3, eX5_doesStick_6, eX5_doesStick_9, eX5_doesStick_10, eX5_doesStick_11, eX5_doesStick_12, eX5_doesStick_15, eX5_doesStick_18, eX5_doesStick_19, eX5_doesStick_22, eX5_doesStick_23, eX5_doesStick_23b0, eX5_doesStick_23b1, eX5_doesStick_23b, m_overOf hT hb hk, m_isWedged hT hb, kM, gM0, gM1, gM2, gM3, gM4, gM5, gM6, gM7, gM8, gM9, gM10, gM11, gM12, gM13, gM14, gM15, gM16, gM17, gM18, gM19, gM20, gM21, gM22, gM23, gM24, gM25, gM26, gM27, gM28, gM29, gM30, gM31, rM1, rM4, rM5, rM6, rM9, rM10, rM11, rM12, rM14, rM15, rM16, rM17, rM21, rM22, rM23, rM24, rM26, rM27, rM28, rM29, rM30, wM1, wM4, wM5, wM6, wM9, wM10, wM11, wM12, wM14, wM15, wM16, wM17, wM21, wM22, wM23, wM24, wM26, wM27, wM28, wM29, wM30, pM0, pM2, pM3, pM7, pM8, pM13, pM18, pM19, pM20, pM25, pM31, xO_s, xO_n, xB_s, xB_x, xBv_s, xBv_x, bI_0]
  unfold pStick
  have e := nI_subpos (a := tSw T k) (b := tGp T k) (by omega) (by omega)
  by_cases q : tGp T k < tSw T k
  · have q1 : ¬ nI (tSw T k) - nI (tGp T k) ≤ 0 := Int32.not_le.mpr (e.mpr q)
    cases h3 : isin (tWg T) k <;> simp [q, q1, bI]
  · have q1 : nI (tSw T k) - nI (tGp T k) ≤ 0 := Int32.not_lt.mp (fun z => q (e.mp z))
    simp [q, q1, bI]
theorem m_sticking (hH : mH H M) (hT : mT b T M) (hO : tOk T) (hHo : hOk H) (hb : b + 23 ≤ 1495) : evD (D + 3) 302 [.ref 109, .int (nI b)] (mk C M d) = some (.inl (some (.int (pSet H T))), mk C M d) := by
  have hn := hHo.2.1
  rw [vX5_sticking]
  simp (disch := omega) only [eX5_sticking_0, eX5_sticking_1, eX5_sticking_2, eX5_sticking_3]
  rw [lp0 (fun k a => exF (evD (D + 2)) cX5_sticking 4 ([some (.ref 109), some (.int (nI b)), some (.int a), some (.int (nI k))], []) [] (mk C M d)) (fun k a => a ||| (bif pStick T k then bit k else nI 0)) (nI 0) (hNd H)]
  · rw [eX5_sticking_4]
    simp (disch := omega) only [eX5_sticking_0, eX5_sticking_1, eX5_sticking_2, eX5_sticking_3, eX5_sticking_5, eX5_sticking_6, eX5_sticking_9, eX5_sticking_12, eX5_sticking_13, eX5_sticking_14, eX5_sticking_15, eX5_sticking_16, eX5_sticking_19, eX5_sticking_22, eX5_sticking_23, eX5_sticking_24, eX5_sticking_25, eX5_sticking_28, eX5_sticking_29, eX5_sticking_30, eX5_sticking_31, eX5_sticking_34, eX5_sticking_37, eX5_sticking_38, m_doors hH, kM, gM0, gM1, gM2, gM3, gM4, gM5, gM6, gM7, gM8, gM9, gM10, gM11, gM12, gM13, gM14, gM15, gM16, gM17, gM18, gM19, gM20, gM21, gM22, gM23, gM24, gM25, gM26, gM27, gM28, gM29, gM30, gM31, rM1, rM4, rM5, rM6, rM9, rM10, rM11, rM12, rM14, rM15, rM16, rM17, rM21, rM22, rM23, rM24, rM26, rM27, rM28, rM29, rM30, wM1, wM4, wM5, wM6, wM9, wM10, wM11, wM12, wM14, wM15, wM16, wM17, wM21, wM22, wM23, wM24, wM26, wM27, wM28, wM29, wM30, pM0, pM2, pM3, pM7, pM8, pM13, pM18, pM19, pM20, pM25, pM31, xO_s, xO_n, xB_s, xB_x, xBv_s, xBv_x, nI_leI, Nat.le_refl, if_true]
    have e : ∀ n, itr (fun k a => a ||| (bif pStick T k then bit k else nI 0)) n (nI 0) = setOf (pStick T) n := by
      intro n
      induction n with
      | zero => rfl
      | succ n ih => rw [itr, ih]; rfl
    rw [e]
    rfl
  · intro k hk
    have hlt : ¬ hNd H ≤ k := by omega
    rw [eX5_sticking_4]
    simp (disch := omega) only [eX5_sticking_0, eX5_sticking_1, eX5_sticking_2, eX5_sticking_3, eX5_sticking_5, eX5_sticking_6, eX5_sticking_9, eX5_sticking_12, eX5_sticking_13, eX5_sticking_14, eX5_sticking_15, eX5_sticking_16, eX5_sticking_19, eX5_sticking_22, eX5_sticking_23, eX5_sticking_24, eX5_sticking_25, eX5_sticking_28, eX5_sticking_29, eX5_sticking_30, eX5_sticking_31, eX5_sticking_34, eX5_sticking_37, eX5_sticking_38, m_doors hH, m_doesStick hT hO hb (show k < 8 by omega), kM, gM0, gM1, gM2, gM3, gM4, gM5, gM6, gM7, gM8, gM9, gM10, gM11, gM12, gM13, gM14, gM15, gM16, gM17, gM18, gM19, gM20, gM21, gM22, gM23, gM24, gM25, gM26, gM27, gM28, gM29, gM30, gM31, rM1, rM4, rM5, rM6, rM9, rM10, rM11, rM12, rM14, rM15, rM16, rM17, rM21, rM22, rM23, rM24, rM26, rM27, rM28, rM29, rM30, wM1, wM4, wM5, wM6, wM9, wM10, wM11, wM12, wM14, wM15, wM16, wM17, wM21, wM22, wM23, wM24, wM26, wM27, wM28, wM29, wM30, pM0, pM2, pM3, pM7, pM8, pM13, pM18, pM19, pM20, pM25, pM31, xO_s, xO_n, xB_s, xB_x, xBv_s, xBv_x, nI_leI, hlt, if_false, bI_0, nI_add]
    cases hp : pStick T k <;> simp [bit]
end MSPEC1
