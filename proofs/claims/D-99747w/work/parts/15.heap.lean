set_option maxRecDepth 100000
/-! THE HEAP OF THE TWO OBJECTS: x at 64 (its own cells up to 108), the reference at 109 (up to 130), out at 131; all else is in d -/
/-- numbers, int arrays, long arrays, longs, references, reference arrays, each by a number -/
abbrev xZ : Type := (Nat → Int32) × (Nat → Nat → Int32) × (Nat → Nat → Int64) × (Nat → Int64) × (Nat → Option Nat) × (Nat → Nat → Option Nat)
def zsc (Z : xZ) (k : Nat) (v : Int32) : xZ := (fun j => if j = k then v else Z.1 j, Z.2)
def zia (Z : xZ) (k i : Nat) (v : Int32) : xZ := (Z.1, fun j => if j = k then upd (Z.2.1 k) i v else Z.2.1 j, Z.2.2)
def zla (Z : xZ) (k i : Nat) (v : Int64) : xZ := (Z.1, Z.2.1, fun j => if j = k then xul (Z.2.2.1 k) i v else Z.2.2.1 j, Z.2.2.2)
def zlg (Z : xZ) (k : Nat) (v : Int64) : xZ := (Z.1, Z.2.1, Z.2.2.1, fun j => if j = k then v else Z.2.2.2.1 j, Z.2.2.2.2)
def zrf (Z : xZ) (k : Nat) (v : Option Nat) : xZ := (Z.1, Z.2.1, Z.2.2.1, Z.2.2.2.1, fun j => if j = k then v else Z.2.2.2.2.1 j, Z.2.2.2.2.2)
def zra (Z : xZ) (k i : Nat) (v : Option Nat) : xZ := (Z.1, Z.2.1, Z.2.2.1, Z.2.2.2.1, Z.2.2.2.2.1, fun j => if j = k then xuq (Z.2.2.2.2.2 k) i v else Z.2.2.2.2.2 j)
/-- a State's fields: its arrays lie behind it -/
def zSt (a : Nat) (w d : Int32) : Nat → Value := fun k => match k with
  | 0 => .ref (a + 1)
  | 1 => .ref (a + 2)
  | 2 => .ref (a + 3)
  | 3 => .int w
  | 4 => .int d
  | _ => .null
def fX1 (C : xZ) : Nat → Value := fun k => match k with
  | 0 => .ref 65 | 1 => .ref 66 | 2 => va_rf (C.2.2.2.2.1 2) | 3 => va_rf (C.2.2.2.2.1 3) | 4 => .ref 77 | 5 => .ref 81 | 6 => .ref 85 | 7 => .int (C.1 7) | 8 => .ref 86 | 9 => .int (C.1 9) | 10 => .ref 87
  | 11 => .ref 88 | 12 => .ref 92 | 13 => .ref 93 | 14 => .ref 94 | 15 => .int (C.1 15) | 16 => .ref 95 | 17 => .ref 106 | 18 => .ref 107 | 19 => .int (C.1 19) | 20 => .long (C.2.2.2.1 20) | 21 => .ref 108 | _ => .null
def fX2 (C : xZ) : Nat → Value := fun k => match k with
  | 0 => va_rf (C.2.2.2.2.1 100) | 1 => .int (C.1 101) | 2 => .int (C.1 102) | 3 => .int (C.1 103) | 4 => .int (C.1 104) | 5 => .int (C.1 105) | 6 => .int (C.1 106) | 7 => va_rf (C.2.2.2.2.1 107) | _ => .null
def fX5 (M : xZ) : Nat → Value := fun k => match k with
  | 0 => .int (M.1 0)
  | 1 => .ref 110
  | 2 => .int (M.1 2)
  | 3 => .int (M.1 3)
  | 4 => .ref 111
  | 5 => .ref 112
  | 6 => .ref 113
  | 7 => .int (M.1 7)
  | 8 => .int (M.1 8)
  | 9 => .ref 114
  | 10 => .ref 115
  | 11 => .ref 116
  | 12 => .ref 117
  | 13 => .int (M.1 13)
  | 14 => .ref 118
  | 15 => .ref 119
  | 16 => .ref 120
  | 17 => .ref 121
  | 18 => .int (M.1 18)
  | 19 => .int (M.1 19)
  | 20 => .int (M.1 20)
  | 21 => .ref 122
  | 22 => .ref 123
  | 23 => .ref 124
  | 24 => .ref 125
  | 25 => .int (M.1 25)
  | 26 => .ref 126
  | 27 => .ref 127
  | 28 => .ref 128
  | 29 => .ref 129
  | 30 => .ref 130
  | 31 => .long (M.2.2.2.1 31)
  | _ => .null
def zfx (C M : xZ) : List (Option xE) := [some (.inr (0, fX1 C)),
  some (.inl (1, 1000, .inl (C.2.1 65))),
  some (.inr (1, fX2 C)),
  none,
  none,
  none,
  none,
  none,
  none,
  none,
  none,
  none,
  none,
  some (.inr (3, zSt 77 (C.1 77) (C.1 78))),
  some (.inl (0, 8, .inl (C.2.1 78))),
  some (.inl (0, 8, .inl (C.2.1 79))),
  some (.inl (0, 5, .inl (C.2.1 80))),
  some (.inr (3, zSt 81 (C.1 81) (C.1 82))),
  some (.inl (0, 8, .inl (C.2.1 82))),
  some (.inl (0, 8, .inl (C.2.1 83))),
  some (.inl (0, 5, .inl (C.2.1 84))),
  some (.inl (0, 4, .inl (C.2.1 85))),
  some (.inl (5, 16, .inr (.inr (C.2.2.2.2.2 86)))),
  some (.inl (0, 3, .inl (C.2.1 87))),
  some (.inr (3, zSt 88 (C.1 88) (C.1 89))),
  some (.inl (0, 8, .inl (C.2.1 89))),
  some (.inl (0, 8, .inl (C.2.1 90))),
  some (.inl (0, 5, .inl (C.2.1 91))),
  some (.inl (0, 8, .inl (C.2.1 92))),
  some (.inl (0, 8, .inl (C.2.1 93))),
  some (.inl (2, 8, .inl (C.2.1 94))),
  some (.inl (6, 10, .inr (.inr (fun i => if i < 10 then some (96 + i) else none)))),
  some (.inl (0, 31, .inl (C.2.1 96))),
  some (.inl (0, 31, .inl (C.2.1 97))),
  some (.inl (0, 31, .inl (C.2.1 98))),
  some (.inl (0, 31, .inl (C.2.1 99))),
  some (.inl (0, 31, .inl (C.2.1 100))),
  some (.inl (0, 31, .inl (C.2.1 101))),
  some (.inl (0, 31, .inl (C.2.1 102))),
  some (.inl (0, 31, .inl (C.2.1 103))),
  some (.inl (0, 31, .inl (C.2.1 104))),
  some (.inl (0, 31, .inl (C.2.1 105))),
  some (.inl (0, 8, .inl (C.2.1 106))),
  some (.inl (0, 8, .inl (C.2.1 107))),
  some (.inl (7, 4, .inr (.inr (C.2.2.2.2.2 108)))),
  some (.inr (4, fX5 M)),
  some (.inl (0, 1000, .inl (M.2.1 1))),
  some (.inl (0, 1002, .inl (M.2.1 4))),
  some (.inl (0, 1002, .inl (M.2.1 5))),
  some (.inl (3, 1002, .inr (.inl (M.2.2.1 6)))),
  some (.inl (3, 23, .inr (.inl (M.2.2.1 9)))),
  some (.inl (0, 120, .inl (M.2.1 10))),
  some (.inl (0, 2200, .inl (M.2.1 11))),
  some (.inl (0, 2200, .inl (M.2.1 12))),
  some (.inl (3, 12, .inr (.inl (M.2.2.1 14)))),
  some (.inl (3, 12, .inr (.inl (M.2.2.1 15)))),
  some (.inl (0, 12, .inl (M.2.1 16))),
  some (.inl (0, 12, .inl (M.2.1 17))),
  some (.inl (0, 250, .inl (M.2.1 21))),
  some (.inl (0, 4, .inl (M.2.1 22))),
  some (.inl (0, 1100, .inl (M.2.1 23))),
  some (.inl (0, 1495, .inl (M.2.1 24))),
  some (.inl (2, 4, .inl (M.2.1 26))),
  some (.inl (0, 41, .inl (M.2.1 27))),
  some (.inl (0, 3, .inl (M.2.1 28))),
  some (.inl (0, 8, .inl (M.2.1 29))),
  some (.inl (0, 310, .inl (M.2.1 30)))]
def zfb : List Bool := [true, true, true, false, false, false, false, false, false, false, false, false, false, true, true, true, true, true, true, true, true, true, true, true, true, true, true, true, true, true, true, true, true, true, true, true, true, true, true, true, true, true, true, true, true, true, true, true, true, true, true, true, true, true, true, true, true, true, true, true, true, true, true, true, true, true, true]
/-- one of the two objects' own cells -/
def zfix (a : Nat) : Bool := decide (64 ≤ a) && (zfb.getD (a - 64) false)
def mk (C M : xZ) (d : xH) : xH := (fun a => if zfix a = true then (zfx C M).getD (a - 64) none else d.1 a, d.2)
theorem zfx_len (C M : xZ) : (zfx C M).length = 67 := rfl
theorem mk_fix {C M : xZ} {d : xH} {a : Nat} (h : zfix a = true) : (mk C M d).1 a = (zfx C M).getD (a - 64) none := if_pos h
theorem mk_dyn {C M : xZ} {d : xH} {a : Nat} (h : zfix a = false) : (mk C M d).1 a = d.1 a := if_neg (by rw [h]; decide)
theorem mk_set {C M C' M' : xZ} {d : xH} {a : Nat} {e : xE} (hz : zfix a = true) (hs : zfx C' M' = (zfx C M).set (a - 64) (some e)) : xset (mk C M d) a e = mk C' M' d := by
  have h64 : 64 ≤ a := by
    rw [zfix, Bool.and_eq_true] at hz
    exact of_decide_eq_true hz.1
  have hl : a - 64 < 67 := by
    rcases Nat.lt_or_ge (a - 64) 67 with q | q
    · exact q
    · rw [zfix, Bool.and_eq_true, List.getD_eq_getElem?_getD, List.getElem?_eq_none (by exact q)] at hz
      exact absurd hz.2 (by decide)
  refine Prod.ext (funext fun b => ?_) rfl
  show (if b = a then some e else (mk C M d).1 b) = (mk C' M' d).1 b
  by_cases hb : b = a
  · subst hb
    rw [if_pos rfl, mk_fix hz, hs, List.getD_eq_getElem?_getD, List.getElem?_set_self (by rw [zfx_len]; exact hl)]
    rfl
  · rw [if_neg hb]
    by_cases hq : zfix b = true
    · have hb64 : 64 ≤ b := by
        rw [zfix, Bool.and_eq_true] at hq
        exact of_decide_eq_true hq.1
      rw [mk_fix hq, mk_fix hq, hs, List.getD_eq_getElem?_getD, List.getD_eq_getElem?_getD, List.getElem?_set_ne (by omega)]
    · have hq : zfix b = false := by simpa using hq
      rw [mk_dyn hq, mk_dyn hq]
theorem xai_at {h : xH} {t a n : Nat} {f : Nat → Int32} (e : h.1 a = some (.inl (t, n, .inl f))) {j : Nat} (hn : n < 2 ^ 31) (hj : j < n) : xai h t a (nI j) = some (f j) := by
  unfold xai
  rw [e]
  show (if t = t ∧ ¬ (nI j < 0 ∨ n ≤ (nI j).toNatClampNeg) then some (f (nI j).toNatClampNeg) else none) = _
  rw [if_pos ⟨rfl, nI_in hj hn⟩, nI_clamp (by omega)]
theorem xal_at {h : xH} {t a n : Nat} {f : Nat → Int64} (e : h.1 a = some (.inl (t, n, .inr (.inl f)))) {j : Nat} (hn : n < 2 ^ 31) (hj : j < n) : xal h t a (nI j) = some (f j) := by
  unfold xal
  rw [e]
  show (if t = t ∧ ¬ (nI j < 0 ∨ n ≤ (nI j).toNatClampNeg) then some (f (nI j).toNatClampNeg) else none) = _
  rw [if_pos ⟨rfl, nI_in hj hn⟩, nI_clamp (by omega)]
theorem xaq_at {h : xH} {t a n : Nat} {f : Nat → Option Nat} (e : h.1 a = some (.inl (t, n, .inr (.inr f)))) {j : Nat} (hn : n < 2 ^ 31) (hj : j < n) : xaq h t a (nI j) = some (f j) := by
  unfold xaq
  rw [e]
  show (if t = t ∧ ¬ (nI j < 0 ∨ n ≤ (nI j).toNatClampNeg) then some (f (nI j).toNatClampNeg) else none) = _
  rw [if_pos ⟨rfl, nI_in hj hn⟩, nI_clamp (by omega)]
theorem xsi_at {h : xH} {t a n : Nat} {f : Nat → Int32} (e : h.1 a = some (.inl (t, n, .inl f))) (ha : 64 ≤ a) {j : Nat} {v : Int32} (hn : n < 2 ^ 31) (hj : j < n) : xsi h t a (nI j) v = some (xset h a (.inl (t, n, .inl (upd f j v)))) := by
  unfold xsi
  rw [e]
  show (if 64 ≤ a ∧ t = t ∧ ¬ (nI j < 0 ∨ n ≤ (nI j).toNatClampNeg) then some (xset h a (.inl (t, n, .inl (upd f (nI j).toNatClampNeg v)))) else none) = _
  rw [if_pos ⟨ha, rfl, nI_in hj hn⟩, nI_clamp (by omega)]
theorem xsl_at {h : xH} {t a n : Nat} {f : Nat → Int64} (e : h.1 a = some (.inl (t, n, .inr (.inl f)))) (ha : 64 ≤ a) {j : Nat} {v : Int64} (hn : n < 2 ^ 31) (hj : j < n) : xsl h t a (nI j) v = some (xset h a (.inl (t, n, .inr (.inl (xul f j v))))) := by
  unfold xsl
  rw [e]
  show (if 64 ≤ a ∧ t = t ∧ ¬ (nI j < 0 ∨ n ≤ (nI j).toNatClampNeg) then some (xset h a (.inl (t, n, .inr (.inl (xul f (nI j).toNatClampNeg v))))) else none) = _
  rw [if_pos ⟨ha, rfl, nI_in hj hn⟩, nI_clamp (by omega)]
theorem xsq_at {h : xH} {t a n : Nat} {f : Nat → Option Nat} (e : h.1 a = some (.inl (t, n, .inr (.inr f)))) (ha : 64 ≤ a) {j : Nat} {v : Option Nat} (hn : n < 2 ^ 31) (hj : j < n) : xsq h t a (nI j) v = some (xset h a (.inl (t, n, .inr (.inr (xuq f j v))))) := by
  unfold xsq
  rw [e]
  show (if 64 ≤ a ∧ t = t ∧ ¬ (nI j < 0 ∨ n ≤ (nI j).toNatClampNeg) then some (xset h a (.inl (t, n, .inr (.inr (xuq f (nI j).toNatClampNeg v))))) else none) = _
  rw [if_pos ⟨ha, rfl, nI_in hj hn⟩, nI_clamp (by omega)]
theorem xpf_at {h : xH} {a ci k : Nat} {fs : Nat → Value} {v : Value} (e : h.1 a = some (.inr (ci, fs))) (ha : 64 ≤ a) : xpf h a ci k v = some (xset h a (.inr (ci, xuv fs k v))) := by
  unfold xpf
  rw [e]
  show (if 64 ≤ a ∧ ci = ci then some (xset h a (.inr (ci, xuv fs k v))) else none) = _
  rw [if_pos ⟨ha, rfl⟩]
theorem zf_5 {M : xZ} {v : Int32} (k : Nat) (hk : k < 31) (hv : ∀ w : Int32, fX5 (zsc M k w) k = .int w) : xuv (fX5 M) k (.int v) = fX5 (zsc M k v) := by
  funext j
  by_cases h : j = k
  · subst h
    rw [hv v]
    exact if_pos rfl
  · rw [show xuv (fX5 M) k (.int v) j = fX5 M j from if_neg h]
    unfold fX5 zsc
    have hz : ∀ q : Nat, q ≠ k → (if q = k then v else M.1 q) = M.1 q := fun q hq => if_neg hq
    dsimp only
    split <;> first | rfl | (rw [hz _ h])
theorem zf_31 {M : xZ} {v : Int64} : xuv (fX5 M) 31 (.long v) = fX5 (zlg M 31 v) := by
  funext j
  by_cases h : j = 31
  · subst h
    exact if_pos rfl
  · rw [show xuv (fX5 M) 31 (.long v) j = fX5 M j from if_neg h]
    unfold fX5 zlg
    dsimp only
    split <;> first | rfl | exact absurd rfl h
theorem rM1 {C M : xZ} {d : xH} {j : Nat} (h : j < 1000) : xai (mk C M d) 0 110 (nI j) = some (M.2.1 1 j) := xai_at (n := 1000) (f := M.2.1 1) rfl (by decide) h
theorem wM1 {C M : xZ} {d : xH} {j : Nat} {v : Int32} (h : j < 1000) : xsi (mk C M d) 0 110 (nI j) v = some (mk C (zia M 1 j v) d) := (xsi_at (n := 1000) (f := M.2.1 1) rfl (by decide) (by decide) h).trans (congrArg some (mk_set rfl rfl))
theorem lM1 {C M : xZ} {d : xH} : xlen (mk C M d) 110 = some (nI 1000) := rfl
theorem rM4 {C M : xZ} {d : xH} {j : Nat} (h : j < 1002) : xai (mk C M d) 0 111 (nI j) = some (M.2.1 4 j) := xai_at (n := 1002) (f := M.2.1 4) rfl (by decide) h
theorem wM4 {C M : xZ} {d : xH} {j : Nat} {v : Int32} (h : j < 1002) : xsi (mk C M d) 0 111 (nI j) v = some (mk C (zia M 4 j v) d) := (xsi_at (n := 1002) (f := M.2.1 4) rfl (by decide) (by decide) h).trans (congrArg some (mk_set rfl rfl))
theorem lM4 {C M : xZ} {d : xH} : xlen (mk C M d) 111 = some (nI 1002) := rfl
theorem rM5 {C M : xZ} {d : xH} {j : Nat} (h : j < 1002) : xai (mk C M d) 0 112 (nI j) = some (M.2.1 5 j) := xai_at (n := 1002) (f := M.2.1 5) rfl (by decide) h
theorem wM5 {C M : xZ} {d : xH} {j : Nat} {v : Int32} (h : j < 1002) : xsi (mk C M d) 0 112 (nI j) v = some (mk C (zia M 5 j v) d) := (xsi_at (n := 1002) (f := M.2.1 5) rfl (by decide) (by decide) h).trans (congrArg some (mk_set rfl rfl))
theorem lM5 {C M : xZ} {d : xH} : xlen (mk C M d) 112 = some (nI 1002) := rfl
theorem rM6 {C M : xZ} {d : xH} {j : Nat} (h : j < 1002) : xal (mk C M d) 3 113 (nI j) = some (M.2.2.1 6 j) := xal_at (n := 1002) (f := M.2.2.1 6) rfl (by decide) h
theorem wM6 {C M : xZ} {d : xH} {j : Nat} {v : Int64} (h : j < 1002) : xsl (mk C M d) 3 113 (nI j) v = some (mk C (zla M 6 j v) d) := (xsl_at (n := 1002) (f := M.2.2.1 6) rfl (by decide) (by decide) h).trans (congrArg some (mk_set rfl rfl))
theorem lM6 {C M : xZ} {d : xH} : xlen (mk C M d) 113 = some (nI 1002) := rfl
theorem rM9 {C M : xZ} {d : xH} {j : Nat} (h : j < 23) : xal (mk C M d) 3 114 (nI j) = some (M.2.2.1 9 j) := xal_at (n := 23) (f := M.2.2.1 9) rfl (by decide) h
theorem wM9 {C M : xZ} {d : xH} {j : Nat} {v : Int64} (h : j < 23) : xsl (mk C M d) 3 114 (nI j) v = some (mk C (zla M 9 j v) d) := (xsl_at (n := 23) (f := M.2.2.1 9) rfl (by decide) (by decide) h).trans (congrArg some (mk_set rfl rfl))
theorem lM9 {C M : xZ} {d : xH} : xlen (mk C M d) 114 = some (nI 23) := rfl
theorem rM10 {C M : xZ} {d : xH} {j : Nat} (h : j < 120) : xai (mk C M d) 0 115 (nI j) = some (M.2.1 10 j) := xai_at (n := 120) (f := M.2.1 10) rfl (by decide) h
theorem wM10 {C M : xZ} {d : xH} {j : Nat} {v : Int32} (h : j < 120) : xsi (mk C M d) 0 115 (nI j) v = some (mk C (zia M 10 j v) d) := (xsi_at (n := 120) (f := M.2.1 10) rfl (by decide) (by decide) h).trans (congrArg some (mk_set rfl rfl))
theorem lM10 {C M : xZ} {d : xH} : xlen (mk C M d) 115 = some (nI 120) := rfl
theorem rM11 {C M : xZ} {d : xH} {j : Nat} (h : j < 2200) : xai (mk C M d) 0 116 (nI j) = some (M.2.1 11 j) := xai_at (n := 2200) (f := M.2.1 11) rfl (by decide) h
theorem wM11 {C M : xZ} {d : xH} {j : Nat} {v : Int32} (h : j < 2200) : xsi (mk C M d) 0 116 (nI j) v = some (mk C (zia M 11 j v) d) := (xsi_at (n := 2200) (f := M.2.1 11) rfl (by decide) (by decide) h).trans (congrArg some (mk_set rfl rfl))
theorem lM11 {C M : xZ} {d : xH} : xlen (mk C M d) 116 = some (nI 2200) := rfl
theorem rM12 {C M : xZ} {d : xH} {j : Nat} (h : j < 2200) : xai (mk C M d) 0 117 (nI j) = some (M.2.1 12 j) := xai_at (n := 2200) (f := M.2.1 12) rfl (by decide) h
theorem wM12 {C M : xZ} {d : xH} {j : Nat} {v : Int32} (h : j < 2200) : xsi (mk C M d) 0 117 (nI j) v = some (mk C (zia M 12 j v) d) := (xsi_at (n := 2200) (f := M.2.1 12) rfl (by decide) (by decide) h).trans (congrArg some (mk_set rfl rfl))
theorem lM12 {C M : xZ} {d : xH} : xlen (mk C M d) 117 = some (nI 2200) := rfl
theorem rM14 {C M : xZ} {d : xH} {j : Nat} (h : j < 12) : xal (mk C M d) 3 118 (nI j) = some (M.2.2.1 14 j) := xal_at (n := 12) (f := M.2.2.1 14) rfl (by decide) h
theorem wM14 {C M : xZ} {d : xH} {j : Nat} {v : Int64} (h : j < 12) : xsl (mk C M d) 3 118 (nI j) v = some (mk C (zla M 14 j v) d) := (xsl_at (n := 12) (f := M.2.2.1 14) rfl (by decide) (by decide) h).trans (congrArg some (mk_set rfl rfl))
theorem lM14 {C M : xZ} {d : xH} : xlen (mk C M d) 118 = some (nI 12) := rfl
theorem rM15 {C M : xZ} {d : xH} {j : Nat} (h : j < 12) : xal (mk C M d) 3 119 (nI j) = some (M.2.2.1 15 j) := xal_at (n := 12) (f := M.2.2.1 15) rfl (by decide) h
theorem wM15 {C M : xZ} {d : xH} {j : Nat} {v : Int64} (h : j < 12) : xsl (mk C M d) 3 119 (nI j) v = some (mk C (zla M 15 j v) d) := (xsl_at (n := 12) (f := M.2.2.1 15) rfl (by decide) (by decide) h).trans (congrArg some (mk_set rfl rfl))
theorem lM15 {C M : xZ} {d : xH} : xlen (mk C M d) 119 = some (nI 12) := rfl
theorem rM16 {C M : xZ} {d : xH} {j : Nat} (h : j < 12) : xai (mk C M d) 0 120 (nI j) = some (M.2.1 16 j) := xai_at (n := 12) (f := M.2.1 16) rfl (by decide) h
theorem wM16 {C M : xZ} {d : xH} {j : Nat} {v : Int32} (h : j < 12) : xsi (mk C M d) 0 120 (nI j) v = some (mk C (zia M 16 j v) d) := (xsi_at (n := 12) (f := M.2.1 16) rfl (by decide) (by decide) h).trans (congrArg some (mk_set rfl rfl))
theorem lM16 {C M : xZ} {d : xH} : xlen (mk C M d) 120 = some (nI 12) := rfl
theorem rM17 {C M : xZ} {d : xH} {j : Nat} (h : j < 12) : xai (mk C M d) 0 121 (nI j) = some (M.2.1 17 j) := xai_at (n := 12) (f := M.2.1 17) rfl (by decide) h
theorem wM17 {C M : xZ} {d : xH} {j : Nat} {v : Int32} (h : j < 12) : xsi (mk C M d) 0 121 (nI j) v = some (mk C (zia M 17 j v) d) := (xsi_at (n := 12) (f := M.2.1 17) rfl (by decide) (by decide) h).trans (congrArg some (mk_set rfl rfl))
theorem lM17 {C M : xZ} {d : xH} : xlen (mk C M d) 121 = some (nI 12) := rfl
theorem rM21 {C M : xZ} {d : xH} {j : Nat} (h : j < 250) : xai (mk C M d) 0 122 (nI j) = some (M.2.1 21 j) := xai_at (n := 250) (f := M.2.1 21) rfl (by decide) h
theorem wM21 {C M : xZ} {d : xH} {j : Nat} {v : Int32} (h : j < 250) : xsi (mk C M d) 0 122 (nI j) v = some (mk C (zia M 21 j v) d) := (xsi_at (n := 250) (f := M.2.1 21) rfl (by decide) (by decide) h).trans (congrArg some (mk_set rfl rfl))
theorem lM21 {C M : xZ} {d : xH} : xlen (mk C M d) 122 = some (nI 250) := rfl
theorem rM22 {C M : xZ} {d : xH} {j : Nat} (h : j < 4) : xai (mk C M d) 0 123 (nI j) = some (M.2.1 22 j) := xai_at (n := 4) (f := M.2.1 22) rfl (by decide) h
theorem wM22 {C M : xZ} {d : xH} {j : Nat} {v : Int32} (h : j < 4) : xsi (mk C M d) 0 123 (nI j) v = some (mk C (zia M 22 j v) d) := (xsi_at (n := 4) (f := M.2.1 22) rfl (by decide) (by decide) h).trans (congrArg some (mk_set rfl rfl))
theorem lM22 {C M : xZ} {d : xH} : xlen (mk C M d) 123 = some (nI 4) := rfl
theorem rM23 {C M : xZ} {d : xH} {j : Nat} (h : j < 1100) : xai (mk C M d) 0 124 (nI j) = some (M.2.1 23 j) := xai_at (n := 1100) (f := M.2.1 23) rfl (by decide) h
theorem wM23 {C M : xZ} {d : xH} {j : Nat} {v : Int32} (h : j < 1100) : xsi (mk C M d) 0 124 (nI j) v = some (mk C (zia M 23 j v) d) := (xsi_at (n := 1100) (f := M.2.1 23) rfl (by decide) (by decide) h).trans (congrArg some (mk_set rfl rfl))
theorem lM23 {C M : xZ} {d : xH} : xlen (mk C M d) 124 = some (nI 1100) := rfl
theorem rM24 {C M : xZ} {d : xH} {j : Nat} (h : j < 1495) : xai (mk C M d) 0 125 (nI j) = some (M.2.1 24 j) := xai_at (n := 1495) (f := M.2.1 24) rfl (by decide) h
theorem wM24 {C M : xZ} {d : xH} {j : Nat} {v : Int32} (h : j < 1495) : xsi (mk C M d) 0 125 (nI j) v = some (mk C (zia M 24 j v) d) := (xsi_at (n := 1495) (f := M.2.1 24) rfl (by decide) (by decide) h).trans (congrArg some (mk_set rfl rfl))
theorem lM24 {C M : xZ} {d : xH} : xlen (mk C M d) 125 = some (nI 1495) := rfl
theorem rM26 {C M : xZ} {d : xH} {j : Nat} (h : j < 4) : xai (mk C M d) 2 126 (nI j) = some (M.2.1 26 j) := xai_at (n := 4) (f := M.2.1 26) rfl (by decide) h
theorem wM26 {C M : xZ} {d : xH} {j : Nat} {v : Int32} (h : j < 4) : xsi (mk C M d) 2 126 (nI j) v = some (mk C (zia M 26 j v) d) := (xsi_at (n := 4) (f := M.2.1 26) rfl (by decide) (by decide) h).trans (congrArg some (mk_set rfl rfl))
theorem lM26 {C M : xZ} {d : xH} : xlen (mk C M d) 126 = some (nI 4) := rfl
theorem rM27 {C M : xZ} {d : xH} {j : Nat} (h : j < 41) : xai (mk C M d) 0 127 (nI j) = some (M.2.1 27 j) := xai_at (n := 41) (f := M.2.1 27) rfl (by decide) h
theorem wM27 {C M : xZ} {d : xH} {j : Nat} {v : Int32} (h : j < 41) : xsi (mk C M d) 0 127 (nI j) v = some (mk C (zia M 27 j v) d) := (xsi_at (n := 41) (f := M.2.1 27) rfl (by decide) (by decide) h).trans (congrArg some (mk_set rfl rfl))
theorem lM27 {C M : xZ} {d : xH} : xlen (mk C M d) 127 = some (nI 41) := rfl
theorem rM28 {C M : xZ} {d : xH} {j : Nat} (h : j < 3) : xai (mk C M d) 0 128 (nI j) = some (M.2.1 28 j) := xai_at (n := 3) (f := M.2.1 28) rfl (by decide) h
theorem wM28 {C M : xZ} {d : xH} {j : Nat} {v : Int32} (h : j < 3) : xsi (mk C M d) 0 128 (nI j) v = some (mk C (zia M 28 j v) d) := (xsi_at (n := 3) (f := M.2.1 28) rfl (by decide) (by decide) h).trans (congrArg some (mk_set rfl rfl))
theorem lM28 {C M : xZ} {d : xH} : xlen (mk C M d) 128 = some (nI 3) := rfl
theorem rM29 {C M : xZ} {d : xH} {j : Nat} (h : j < 8) : xai (mk C M d) 0 129 (nI j) = some (M.2.1 29 j) := xai_at (n := 8) (f := M.2.1 29) rfl (by decide) h
theorem wM29 {C M : xZ} {d : xH} {j : Nat} {v : Int32} (h : j < 8) : xsi (mk C M d) 0 129 (nI j) v = some (mk C (zia M 29 j v) d) := (xsi_at (n := 8) (f := M.2.1 29) rfl (by decide) (by decide) h).trans (congrArg some (mk_set rfl rfl))
theorem lM29 {C M : xZ} {d : xH} : xlen (mk C M d) 129 = some (nI 8) := rfl
theorem rM30 {C M : xZ} {d : xH} {j : Nat} (h : j < 310) : xai (mk C M d) 0 130 (nI j) = some (M.2.1 30 j) := xai_at (n := 310) (f := M.2.1 30) rfl (by decide) h
theorem wM30 {C M : xZ} {d : xH} {j : Nat} {v : Int32} (h : j < 310) : xsi (mk C M d) 0 130 (nI j) v = some (mk C (zia M 30 j v) d) := (xsi_at (n := 310) (f := M.2.1 30) rfl (by decide) (by decide) h).trans (congrArg some (mk_set rfl rfl))
theorem lM30 {C M : xZ} {d : xH} : xlen (mk C M d) 130 = some (nI 310) := rfl
theorem rC65 {C M : xZ} {d : xH} {j : Nat} (h : j < 1000) : xai (mk C M d) 1 65 (nI j) = some (C.2.1 65 j) := xai_at (n := 1000) (f := C.2.1 65) rfl (by decide) h
theorem wC65 {C M : xZ} {d : xH} {j : Nat} {v : Int32} (h : j < 1000) : xsi (mk C M d) 1 65 (nI j) v = some (mk (zia C 65 j v) M d) := (xsi_at (n := 1000) (f := C.2.1 65) rfl (by decide) (by decide) h).trans (congrArg some (mk_set rfl rfl))
theorem lC65 {C M : xZ} {d : xH} : xlen (mk C M d) 65 = some (nI 1000) := rfl
theorem rC78 {C M : xZ} {d : xH} {j : Nat} (h : j < 8) : xai (mk C M d) 0 78 (nI j) = some (C.2.1 78 j) := xai_at (n := 8) (f := C.2.1 78) rfl (by decide) h
theorem wC78 {C M : xZ} {d : xH} {j : Nat} {v : Int32} (h : j < 8) : xsi (mk C M d) 0 78 (nI j) v = some (mk (zia C 78 j v) M d) := (xsi_at (n := 8) (f := C.2.1 78) rfl (by decide) (by decide) h).trans (congrArg some (mk_set rfl rfl))
theorem lC78 {C M : xZ} {d : xH} : xlen (mk C M d) 78 = some (nI 8) := rfl
theorem rC79 {C M : xZ} {d : xH} {j : Nat} (h : j < 8) : xai (mk C M d) 0 79 (nI j) = some (C.2.1 79 j) := xai_at (n := 8) (f := C.2.1 79) rfl (by decide) h
theorem wC79 {C M : xZ} {d : xH} {j : Nat} {v : Int32} (h : j < 8) : xsi (mk C M d) 0 79 (nI j) v = some (mk (zia C 79 j v) M d) := (xsi_at (n := 8) (f := C.2.1 79) rfl (by decide) (by decide) h).trans (congrArg some (mk_set rfl rfl))
theorem lC79 {C M : xZ} {d : xH} : xlen (mk C M d) 79 = some (nI 8) := rfl
theorem rC80 {C M : xZ} {d : xH} {j : Nat} (h : j < 5) : xai (mk C M d) 0 80 (nI j) = some (C.2.1 80 j) := xai_at (n := 5) (f := C.2.1 80) rfl (by decide) h
theorem wC80 {C M : xZ} {d : xH} {j : Nat} {v : Int32} (h : j < 5) : xsi (mk C M d) 0 80 (nI j) v = some (mk (zia C 80 j v) M d) := (xsi_at (n := 5) (f := C.2.1 80) rfl (by decide) (by decide) h).trans (congrArg some (mk_set rfl rfl))
theorem lC80 {C M : xZ} {d : xH} : xlen (mk C M d) 80 = some (nI 5) := rfl
theorem rC82 {C M : xZ} {d : xH} {j : Nat} (h : j < 8) : xai (mk C M d) 0 82 (nI j) = some (C.2.1 82 j) := xai_at (n := 8) (f := C.2.1 82) rfl (by decide) h
theorem wC82 {C M : xZ} {d : xH} {j : Nat} {v : Int32} (h : j < 8) : xsi (mk C M d) 0 82 (nI j) v = some (mk (zia C 82 j v) M d) := (xsi_at (n := 8) (f := C.2.1 82) rfl (by decide) (by decide) h).trans (congrArg some (mk_set rfl rfl))
theorem lC82 {C M : xZ} {d : xH} : xlen (mk C M d) 82 = some (nI 8) := rfl
theorem rC83 {C M : xZ} {d : xH} {j : Nat} (h : j < 8) : xai (mk C M d) 0 83 (nI j) = some (C.2.1 83 j) := xai_at (n := 8) (f := C.2.1 83) rfl (by decide) h
theorem wC83 {C M : xZ} {d : xH} {j : Nat} {v : Int32} (h : j < 8) : xsi (mk C M d) 0 83 (nI j) v = some (mk (zia C 83 j v) M d) := (xsi_at (n := 8) (f := C.2.1 83) rfl (by decide) (by decide) h).trans (congrArg some (mk_set rfl rfl))
theorem lC83 {C M : xZ} {d : xH} : xlen (mk C M d) 83 = some (nI 8) := rfl
theorem rC84 {C M : xZ} {d : xH} {j : Nat} (h : j < 5) : xai (mk C M d) 0 84 (nI j) = some (C.2.1 84 j) := xai_at (n := 5) (f := C.2.1 84) rfl (by decide) h
theorem wC84 {C M : xZ} {d : xH} {j : Nat} {v : Int32} (h : j < 5) : xsi (mk C M d) 0 84 (nI j) v = some (mk (zia C 84 j v) M d) := (xsi_at (n := 5) (f := C.2.1 84) rfl (by decide) (by decide) h).trans (congrArg some (mk_set rfl rfl))
theorem lC84 {C M : xZ} {d : xH} : xlen (mk C M d) 84 = some (nI 5) := rfl
theorem rC89 {C M : xZ} {d : xH} {j : Nat} (h : j < 8) : xai (mk C M d) 0 89 (nI j) = some (C.2.1 89 j) := xai_at (n := 8) (f := C.2.1 89) rfl (by decide) h
theorem wC89 {C M : xZ} {d : xH} {j : Nat} {v : Int32} (h : j < 8) : xsi (mk C M d) 0 89 (nI j) v = some (mk (zia C 89 j v) M d) := (xsi_at (n := 8) (f := C.2.1 89) rfl (by decide) (by decide) h).trans (congrArg some (mk_set rfl rfl))
theorem lC89 {C M : xZ} {d : xH} : xlen (mk C M d) 89 = some (nI 8) := rfl
theorem rC90 {C M : xZ} {d : xH} {j : Nat} (h : j < 8) : xai (mk C M d) 0 90 (nI j) = some (C.2.1 90 j) := xai_at (n := 8) (f := C.2.1 90) rfl (by decide) h
theorem wC90 {C M : xZ} {d : xH} {j : Nat} {v : Int32} (h : j < 8) : xsi (mk C M d) 0 90 (nI j) v = some (mk (zia C 90 j v) M d) := (xsi_at (n := 8) (f := C.2.1 90) rfl (by decide) (by decide) h).trans (congrArg some (mk_set rfl rfl))
theorem lC90 {C M : xZ} {d : xH} : xlen (mk C M d) 90 = some (nI 8) := rfl
theorem rC91 {C M : xZ} {d : xH} {j : Nat} (h : j < 5) : xai (mk C M d) 0 91 (nI j) = some (C.2.1 91 j) := xai_at (n := 5) (f := C.2.1 91) rfl (by decide) h
theorem wC91 {C M : xZ} {d : xH} {j : Nat} {v : Int32} (h : j < 5) : xsi (mk C M d) 0 91 (nI j) v = some (mk (zia C 91 j v) M d) := (xsi_at (n := 5) (f := C.2.1 91) rfl (by decide) (by decide) h).trans (congrArg some (mk_set rfl rfl))
theorem lC91 {C M : xZ} {d : xH} : xlen (mk C M d) 91 = some (nI 5) := rfl
theorem rC85 {C M : xZ} {d : xH} {j : Nat} (h : j < 4) : xai (mk C M d) 0 85 (nI j) = some (C.2.1 85 j) := xai_at (n := 4) (f := C.2.1 85) rfl (by decide) h
theorem wC85 {C M : xZ} {d : xH} {j : Nat} {v : Int32} (h : j < 4) : xsi (mk C M d) 0 85 (nI j) v = some (mk (zia C 85 j v) M d) := (xsi_at (n := 4) (f := C.2.1 85) rfl (by decide) (by decide) h).trans (congrArg some (mk_set rfl rfl))
theorem lC85 {C M : xZ} {d : xH} : xlen (mk C M d) 85 = some (nI 4) := rfl
theorem rC87 {C M : xZ} {d : xH} {j : Nat} (h : j < 3) : xai (mk C M d) 0 87 (nI j) = some (C.2.1 87 j) := xai_at (n := 3) (f := C.2.1 87) rfl (by decide) h
theorem wC87 {C M : xZ} {d : xH} {j : Nat} {v : Int32} (h : j < 3) : xsi (mk C M d) 0 87 (nI j) v = some (mk (zia C 87 j v) M d) := (xsi_at (n := 3) (f := C.2.1 87) rfl (by decide) (by decide) h).trans (congrArg some (mk_set rfl rfl))
theorem lC87 {C M : xZ} {d : xH} : xlen (mk C M d) 87 = some (nI 3) := rfl
theorem rC92 {C M : xZ} {d : xH} {j : Nat} (h : j < 8) : xai (mk C M d) 0 92 (nI j) = some (C.2.1 92 j) := xai_at (n := 8) (f := C.2.1 92) rfl (by decide) h
theorem wC92 {C M : xZ} {d : xH} {j : Nat} {v : Int32} (h : j < 8) : xsi (mk C M d) 0 92 (nI j) v = some (mk (zia C 92 j v) M d) := (xsi_at (n := 8) (f := C.2.1 92) rfl (by decide) (by decide) h).trans (congrArg some (mk_set rfl rfl))
theorem lC92 {C M : xZ} {d : xH} : xlen (mk C M d) 92 = some (nI 8) := rfl
theorem rC93 {C M : xZ} {d : xH} {j : Nat} (h : j < 8) : xai (mk C M d) 0 93 (nI j) = some (C.2.1 93 j) := xai_at (n := 8) (f := C.2.1 93) rfl (by decide) h
theorem wC93 {C M : xZ} {d : xH} {j : Nat} {v : Int32} (h : j < 8) : xsi (mk C M d) 0 93 (nI j) v = some (mk (zia C 93 j v) M d) := (xsi_at (n := 8) (f := C.2.1 93) rfl (by decide) (by decide) h).trans (congrArg some (mk_set rfl rfl))
theorem lC93 {C M : xZ} {d : xH} : xlen (mk C M d) 93 = some (nI 8) := rfl
theorem rC106 {C M : xZ} {d : xH} {j : Nat} (h : j < 8) : xai (mk C M d) 0 106 (nI j) = some (C.2.1 106 j) := xai_at (n := 8) (f := C.2.1 106) rfl (by decide) h
theorem wC106 {C M : xZ} {d : xH} {j : Nat} {v : Int32} (h : j < 8) : xsi (mk C M d) 0 106 (nI j) v = some (mk (zia C 106 j v) M d) := (xsi_at (n := 8) (f := C.2.1 106) rfl (by decide) (by decide) h).trans (congrArg some (mk_set rfl rfl))
theorem lC106 {C M : xZ} {d : xH} : xlen (mk C M d) 106 = some (nI 8) := rfl
theorem rC107 {C M : xZ} {d : xH} {j : Nat} (h : j < 8) : xai (mk C M d) 0 107 (nI j) = some (C.2.1 107 j) := xai_at (n := 8) (f := C.2.1 107) rfl (by decide) h
theorem wC107 {C M : xZ} {d : xH} {j : Nat} {v : Int32} (h : j < 8) : xsi (mk C M d) 0 107 (nI j) v = some (mk (zia C 107 j v) M d) := (xsi_at (n := 8) (f := C.2.1 107) rfl (by decide) (by decide) h).trans (congrArg some (mk_set rfl rfl))
theorem lC107 {C M : xZ} {d : xH} : xlen (mk C M d) 107 = some (nI 8) := rfl
theorem rC94 {C M : xZ} {d : xH} {j : Nat} (h : j < 8) : xai (mk C M d) 2 94 (nI j) = some (C.2.1 94 j) := xai_at (n := 8) (f := C.2.1 94) rfl (by decide) h
theorem wC94 {C M : xZ} {d : xH} {j : Nat} {v : Int32} (h : j < 8) : xsi (mk C M d) 2 94 (nI j) v = some (mk (zia C 94 j v) M d) := (xsi_at (n := 8) (f := C.2.1 94) rfl (by decide) (by decide) h).trans (congrArg some (mk_set rfl rfl))
theorem lC94 {C M : xZ} {d : xH} : xlen (mk C M d) 94 = some (nI 8) := rfl
theorem rC96 {C M : xZ} {d : xH} {j : Nat} (h : j < 31) : xai (mk C M d) 0 96 (nI j) = some (C.2.1 96 j) := xai_at (n := 31) (f := C.2.1 96) rfl (by decide) h
theorem wC96 {C M : xZ} {d : xH} {j : Nat} {v : Int32} (h : j < 31) : xsi (mk C M d) 0 96 (nI j) v = some (mk (zia C 96 j v) M d) := (xsi_at (n := 31) (f := C.2.1 96) rfl (by decide) (by decide) h).trans (congrArg some (mk_set rfl rfl))
theorem lC96 {C M : xZ} {d : xH} : xlen (mk C M d) 96 = some (nI 31) := rfl
theorem rC97 {C M : xZ} {d : xH} {j : Nat} (h : j < 31) : xai (mk C M d) 0 97 (nI j) = some (C.2.1 97 j) := xai_at (n := 31) (f := C.2.1 97) rfl (by decide) h
theorem wC97 {C M : xZ} {d : xH} {j : Nat} {v : Int32} (h : j < 31) : xsi (mk C M d) 0 97 (nI j) v = some (mk (zia C 97 j v) M d) := (xsi_at (n := 31) (f := C.2.1 97) rfl (by decide) (by decide) h).trans (congrArg some (mk_set rfl rfl))
theorem lC97 {C M : xZ} {d : xH} : xlen (mk C M d) 97 = some (nI 31) := rfl
theorem rC98 {C M : xZ} {d : xH} {j : Nat} (h : j < 31) : xai (mk C M d) 0 98 (nI j) = some (C.2.1 98 j) := xai_at (n := 31) (f := C.2.1 98) rfl (by decide) h
theorem wC98 {C M : xZ} {d : xH} {j : Nat} {v : Int32} (h : j < 31) : xsi (mk C M d) 0 98 (nI j) v = some (mk (zia C 98 j v) M d) := (xsi_at (n := 31) (f := C.2.1 98) rfl (by decide) (by decide) h).trans (congrArg some (mk_set rfl rfl))
theorem lC98 {C M : xZ} {d : xH} : xlen (mk C M d) 98 = some (nI 31) := rfl
theorem rC99 {C M : xZ} {d : xH} {j : Nat} (h : j < 31) : xai (mk C M d) 0 99 (nI j) = some (C.2.1 99 j) := xai_at (n := 31) (f := C.2.1 99) rfl (by decide) h
theorem wC99 {C M : xZ} {d : xH} {j : Nat} {v : Int32} (h : j < 31) : xsi (mk C M d) 0 99 (nI j) v = some (mk (zia C 99 j v) M d) := (xsi_at (n := 31) (f := C.2.1 99) rfl (by decide) (by decide) h).trans (congrArg some (mk_set rfl rfl))
theorem lC99 {C M : xZ} {d : xH} : xlen (mk C M d) 99 = some (nI 31) := rfl
theorem rC100 {C M : xZ} {d : xH} {j : Nat} (h : j < 31) : xai (mk C M d) 0 100 (nI j) = some (C.2.1 100 j) := xai_at (n := 31) (f := C.2.1 100) rfl (by decide) h
theorem wC100 {C M : xZ} {d : xH} {j : Nat} {v : Int32} (h : j < 31) : xsi (mk C M d) 0 100 (nI j) v = some (mk (zia C 100 j v) M d) := (xsi_at (n := 31) (f := C.2.1 100) rfl (by decide) (by decide) h).trans (congrArg some (mk_set rfl rfl))
theorem lC100 {C M : xZ} {d : xH} : xlen (mk C M d) 100 = some (nI 31) := rfl
theorem rC101 {C M : xZ} {d : xH} {j : Nat} (h : j < 31) : xai (mk C M d) 0 101 (nI j) = some (C.2.1 101 j) := xai_at (n := 31) (f := C.2.1 101) rfl (by decide) h
theorem wC101 {C M : xZ} {d : xH} {j : Nat} {v : Int32} (h : j < 31) : xsi (mk C M d) 0 101 (nI j) v = some (mk (zia C 101 j v) M d) := (xsi_at (n := 31) (f := C.2.1 101) rfl (by decide) (by decide) h).trans (congrArg some (mk_set rfl rfl))
theorem lC101 {C M : xZ} {d : xH} : xlen (mk C M d) 101 = some (nI 31) := rfl
theorem rC102 {C M : xZ} {d : xH} {j : Nat} (h : j < 31) : xai (mk C M d) 0 102 (nI j) = some (C.2.1 102 j) := xai_at (n := 31) (f := C.2.1 102) rfl (by decide) h
theorem wC102 {C M : xZ} {d : xH} {j : Nat} {v : Int32} (h : j < 31) : xsi (mk C M d) 0 102 (nI j) v = some (mk (zia C 102 j v) M d) := (xsi_at (n := 31) (f := C.2.1 102) rfl (by decide) (by decide) h).trans (congrArg some (mk_set rfl rfl))
theorem lC102 {C M : xZ} {d : xH} : xlen (mk C M d) 102 = some (nI 31) := rfl
theorem rC103 {C M : xZ} {d : xH} {j : Nat} (h : j < 31) : xai (mk C M d) 0 103 (nI j) = some (C.2.1 103 j) := xai_at (n := 31) (f := C.2.1 103) rfl (by decide) h
theorem wC103 {C M : xZ} {d : xH} {j : Nat} {v : Int32} (h : j < 31) : xsi (mk C M d) 0 103 (nI j) v = some (mk (zia C 103 j v) M d) := (xsi_at (n := 31) (f := C.2.1 103) rfl (by decide) (by decide) h).trans (congrArg some (mk_set rfl rfl))
theorem lC103 {C M : xZ} {d : xH} : xlen (mk C M d) 103 = some (nI 31) := rfl
theorem rC104 {C M : xZ} {d : xH} {j : Nat} (h : j < 31) : xai (mk C M d) 0 104 (nI j) = some (C.2.1 104 j) := xai_at (n := 31) (f := C.2.1 104) rfl (by decide) h
theorem wC104 {C M : xZ} {d : xH} {j : Nat} {v : Int32} (h : j < 31) : xsi (mk C M d) 0 104 (nI j) v = some (mk (zia C 104 j v) M d) := (xsi_at (n := 31) (f := C.2.1 104) rfl (by decide) (by decide) h).trans (congrArg some (mk_set rfl rfl))
theorem lC104 {C M : xZ} {d : xH} : xlen (mk C M d) 104 = some (nI 31) := rfl
theorem rC105 {C M : xZ} {d : xH} {j : Nat} (h : j < 31) : xai (mk C M d) 0 105 (nI j) = some (C.2.1 105 j) := xai_at (n := 31) (f := C.2.1 105) rfl (by decide) h
theorem wC105 {C M : xZ} {d : xH} {j : Nat} {v : Int32} (h : j < 31) : xsi (mk C M d) 0 105 (nI j) v = some (mk (zia C 105 j v) M d) := (xsi_at (n := 31) (f := C.2.1 105) rfl (by decide) (by decide) h).trans (congrArg some (mk_set rfl rfl))
theorem lC105 {C M : xZ} {d : xH} : xlen (mk C M d) 105 = some (nI 31) := rfl
theorem gM0 {C M : xZ} {d : xH} : xgf (mk C M d) 109 4 0 = some (.int (M.1 0)) := rfl
theorem pM0 {C M : xZ} {d : xH} {v : Int32} : xpf (mk C M d) 109 4 0 (.int v) = some (mk C (zsc M 0 v) d) := (xpf_at (fs := fX5 M) rfl (by decide)).trans (congrArg some (mk_set rfl (by rw [zf_5 0 (by decide) (fun _ => rfl)]; rfl)))
theorem gM1 {C M : xZ} {d : xH} : xgf (mk C M d) 109 4 1 = some (.ref 110) := rfl
theorem gM2 {C M : xZ} {d : xH} : xgf (mk C M d) 109 4 2 = some (.int (M.1 2)) := rfl
theorem pM2 {C M : xZ} {d : xH} {v : Int32} : xpf (mk C M d) 109 4 2 (.int v) = some (mk C (zsc M 2 v) d) := (xpf_at (fs := fX5 M) rfl (by decide)).trans (congrArg some (mk_set rfl (by rw [zf_5 2 (by decide) (fun _ => rfl)]; rfl)))
theorem gM3 {C M : xZ} {d : xH} : xgf (mk C M d) 109 4 3 = some (.int (M.1 3)) := rfl
theorem pM3 {C M : xZ} {d : xH} {v : Int32} : xpf (mk C M d) 109 4 3 (.int v) = some (mk C (zsc M 3 v) d) := (xpf_at (fs := fX5 M) rfl (by decide)).trans (congrArg some (mk_set rfl (by rw [zf_5 3 (by decide) (fun _ => rfl)]; rfl)))
theorem gM4 {C M : xZ} {d : xH} : xgf (mk C M d) 109 4 4 = some (.ref 111) := rfl
theorem gM5 {C M : xZ} {d : xH} : xgf (mk C M d) 109 4 5 = some (.ref 112) := rfl
theorem gM6 {C M : xZ} {d : xH} : xgf (mk C M d) 109 4 6 = some (.ref 113) := rfl
theorem gM7 {C M : xZ} {d : xH} : xgf (mk C M d) 109 4 7 = some (.int (M.1 7)) := rfl
theorem pM7 {C M : xZ} {d : xH} {v : Int32} : xpf (mk C M d) 109 4 7 (.int v) = some (mk C (zsc M 7 v) d) := (xpf_at (fs := fX5 M) rfl (by decide)).trans (congrArg some (mk_set rfl (by rw [zf_5 7 (by decide) (fun _ => rfl)]; rfl)))
theorem gM8 {C M : xZ} {d : xH} : xgf (mk C M d) 109 4 8 = some (.int (M.1 8)) := rfl
theorem pM8 {C M : xZ} {d : xH} {v : Int32} : xpf (mk C M d) 109 4 8 (.int v) = some (mk C (zsc M 8 v) d) := (xpf_at (fs := fX5 M) rfl (by decide)).trans (congrArg some (mk_set rfl (by rw [zf_5 8 (by decide) (fun _ => rfl)]; rfl)))
theorem gM9 {C M : xZ} {d : xH} : xgf (mk C M d) 109 4 9 = some (.ref 114) := rfl
theorem gM10 {C M : xZ} {d : xH} : xgf (mk C M d) 109 4 10 = some (.ref 115) := rfl
theorem gM11 {C M : xZ} {d : xH} : xgf (mk C M d) 109 4 11 = some (.ref 116) := rfl
theorem gM12 {C M : xZ} {d : xH} : xgf (mk C M d) 109 4 12 = some (.ref 117) := rfl
theorem gM13 {C M : xZ} {d : xH} : xgf (mk C M d) 109 4 13 = some (.int (M.1 13)) := rfl
theorem pM13 {C M : xZ} {d : xH} {v : Int32} : xpf (mk C M d) 109 4 13 (.int v) = some (mk C (zsc M 13 v) d) := (xpf_at (fs := fX5 M) rfl (by decide)).trans (congrArg some (mk_set rfl (by rw [zf_5 13 (by decide) (fun _ => rfl)]; rfl)))
theorem gM14 {C M : xZ} {d : xH} : xgf (mk C M d) 109 4 14 = some (.ref 118) := rfl
theorem gM15 {C M : xZ} {d : xH} : xgf (mk C M d) 109 4 15 = some (.ref 119) := rfl
theorem gM16 {C M : xZ} {d : xH} : xgf (mk C M d) 109 4 16 = some (.ref 120) := rfl
theorem gM17 {C M : xZ} {d : xH} : xgf (mk C M d) 109 4 17 = some (.ref 121) := rfl
theorem gM18 {C M : xZ} {d : xH} : xgf (mk C M d) 109 4 18 = some (.int (M.1 18)) := rfl
theorem pM18 {C M : xZ} {d : xH} {v : Int32} : xpf (mk C M d) 109 4 18 (.int v) = some (mk C (zsc M 18 v) d) := (xpf_at (fs := fX5 M) rfl (by decide)).trans (congrArg some (mk_set rfl (by rw [zf_5 18 (by decide) (fun _ => rfl)]; rfl)))
theorem gM19 {C M : xZ} {d : xH} : xgf (mk C M d) 109 4 19 = some (.int (M.1 19)) := rfl
theorem pM19 {C M : xZ} {d : xH} {v : Int32} : xpf (mk C M d) 109 4 19 (.int v) = some (mk C (zsc M 19 v) d) := (xpf_at (fs := fX5 M) rfl (by decide)).trans (congrArg some (mk_set rfl (by rw [zf_5 19 (by decide) (fun _ => rfl)]; rfl)))
theorem gM20 {C M : xZ} {d : xH} : xgf (mk C M d) 109 4 20 = some (.int (M.1 20)) := rfl
theorem pM20 {C M : xZ} {d : xH} {v : Int32} : xpf (mk C M d) 109 4 20 (.int v) = some (mk C (zsc M 20 v) d) := (xpf_at (fs := fX5 M) rfl (by decide)).trans (congrArg some (mk_set rfl (by rw [zf_5 20 (by decide) (fun _ => rfl)]; rfl)))
theorem gM21 {C M : xZ} {d : xH} : xgf (mk C M d) 109 4 21 = some (.ref 122) := rfl
theorem gM22 {C M : xZ} {d : xH} : xgf (mk C M d) 109 4 22 = some (.ref 123) := rfl
theorem gM23 {C M : xZ} {d : xH} : xgf (mk C M d) 109 4 23 = some (.ref 124) := rfl
theorem gM24 {C M : xZ} {d : xH} : xgf (mk C M d) 109 4 24 = some (.ref 125) := rfl
theorem gM25 {C M : xZ} {d : xH} : xgf (mk C M d) 109 4 25 = some (.int (M.1 25)) := rfl
theorem pM25 {C M : xZ} {d : xH} {v : Int32} : xpf (mk C M d) 109 4 25 (.int v) = some (mk C (zsc M 25 v) d) := (xpf_at (fs := fX5 M) rfl (by decide)).trans (congrArg some (mk_set rfl (by rw [zf_5 25 (by decide) (fun _ => rfl)]; rfl)))
theorem gM26 {C M : xZ} {d : xH} : xgf (mk C M d) 109 4 26 = some (.ref 126) := rfl
theorem gM27 {C M : xZ} {d : xH} : xgf (mk C M d) 109 4 27 = some (.ref 127) := rfl
theorem gM28 {C M : xZ} {d : xH} : xgf (mk C M d) 109 4 28 = some (.ref 128) := rfl
theorem gM29 {C M : xZ} {d : xH} : xgf (mk C M d) 109 4 29 = some (.ref 129) := rfl
theorem gM30 {C M : xZ} {d : xH} : xgf (mk C M d) 109 4 30 = some (.ref 130) := rfl
theorem gM31 {C M : xZ} {d : xH} : xgf (mk C M d) 109 4 31 = some (.long (M.2.2.2.1 31)) := rfl
theorem pM31 {C M : xZ} {d : xH} {v : Int64} : xpf (mk C M d) 109 4 31 (.long v) = some (mk C (zlg M 31 v) d) := (xpf_at (fs := fX5 M) rfl (by decide)).trans (congrArg some (mk_set rfl (by rw [zf_31]; rfl)))
theorem kM {C M : xZ} {d : xH} : xck (mk C M d) 109 4 = some () := rfl
theorem kC {C M : xZ} {d : xH} : xck (mk C M d) 64 0 = some () := rfl
theorem kR {C M : xZ} {d : xH} : xck (mk C M d) 66 1 = some () := rfl
theorem kS77 {C M : xZ} {d : xH} : xck (mk C M d) 77 3 = some () := rfl
theorem kS81 {C M : xZ} {d : xH} : xck (mk C M d) 81 3 = some () := rfl
theorem kS88 {C M : xZ} {d : xH} : xck (mk C M d) 88 3 = some () := rfl
theorem gC0 {C M : xZ} {d : xH} : xgf (mk C M d) 64 0 0 = some (.ref 65) := rfl
theorem gC1 {C M : xZ} {d : xH} : xgf (mk C M d) 64 0 1 = some (.ref 66) := rfl
theorem gC2 {C M : xZ} {d : xH} : xgf (mk C M d) 64 0 2 = some (va_rf (C.2.2.2.2.1 2)) := rfl
theorem gC3 {C M : xZ} {d : xH} : xgf (mk C M d) 64 0 3 = some (va_rf (C.2.2.2.2.1 3)) := rfl
theorem gC4 {C M : xZ} {d : xH} : xgf (mk C M d) 64 0 4 = some (.ref 77) := rfl
theorem gC5 {C M : xZ} {d : xH} : xgf (mk C M d) 64 0 5 = some (.ref 81) := rfl
theorem gC6 {C M : xZ} {d : xH} : xgf (mk C M d) 64 0 6 = some (.ref 85) := rfl
theorem gC7 {C M : xZ} {d : xH} : xgf (mk C M d) 64 0 7 = some (.int (C.1 7)) := rfl
theorem gC8 {C M : xZ} {d : xH} : xgf (mk C M d) 64 0 8 = some (.ref 86) := rfl
theorem gC9 {C M : xZ} {d : xH} : xgf (mk C M d) 64 0 9 = some (.int (C.1 9)) := rfl
theorem gC10 {C M : xZ} {d : xH} : xgf (mk C M d) 64 0 10 = some (.ref 87) := rfl
theorem gC11 {C M : xZ} {d : xH} : xgf (mk C M d) 64 0 11 = some (.ref 88) := rfl
theorem gC12 {C M : xZ} {d : xH} : xgf (mk C M d) 64 0 12 = some (.ref 92) := rfl
theorem gC13 {C M : xZ} {d : xH} : xgf (mk C M d) 64 0 13 = some (.ref 93) := rfl
theorem gC14 {C M : xZ} {d : xH} : xgf (mk C M d) 64 0 14 = some (.ref 94) := rfl
theorem gC15 {C M : xZ} {d : xH} : xgf (mk C M d) 64 0 15 = some (.int (C.1 15)) := rfl
theorem gC16 {C M : xZ} {d : xH} : xgf (mk C M d) 64 0 16 = some (.ref 95) := rfl
theorem gC17 {C M : xZ} {d : xH} : xgf (mk C M d) 64 0 17 = some (.ref 106) := rfl
theorem gC18 {C M : xZ} {d : xH} : xgf (mk C M d) 64 0 18 = some (.ref 107) := rfl
theorem gC19 {C M : xZ} {d : xH} : xgf (mk C M d) 64 0 19 = some (.int (C.1 19)) := rfl
theorem gC20 {C M : xZ} {d : xH} : xgf (mk C M d) 64 0 20 = some (.long (C.2.2.2.1 20)) := rfl
theorem gC21 {C M : xZ} {d : xH} : xgf (mk C M d) 64 0 21 = some (.ref 108) := rfl
theorem gR0 {C M : xZ} {d : xH} : xgf (mk C M d) 66 1 0 = some (va_rf (C.2.2.2.2.1 100)) := rfl
theorem gR1 {C M : xZ} {d : xH} : xgf (mk C M d) 66 1 1 = some (.int (C.1 101)) := rfl
theorem gR2 {C M : xZ} {d : xH} : xgf (mk C M d) 66 1 2 = some (.int (C.1 102)) := rfl
theorem gR3 {C M : xZ} {d : xH} : xgf (mk C M d) 66 1 3 = some (.int (C.1 103)) := rfl
theorem gR4 {C M : xZ} {d : xH} : xgf (mk C M d) 66 1 4 = some (.int (C.1 104)) := rfl
theorem gR5 {C M : xZ} {d : xH} : xgf (mk C M d) 66 1 5 = some (.int (C.1 105)) := rfl
theorem gR6 {C M : xZ} {d : xH} : xgf (mk C M d) 66 1 6 = some (.int (C.1 106)) := rfl
theorem gR7 {C M : xZ} {d : xH} : xgf (mk C M d) 66 1 7 = some (va_rf (C.2.2.2.2.1 107)) := rfl
theorem gS77_0 {C M : xZ} {d : xH} : xgf (mk C M d) 77 3 0 = some (.ref 78) := rfl
theorem gS77_1 {C M : xZ} {d : xH} : xgf (mk C M d) 77 3 1 = some (.ref 79) := rfl
theorem gS77_2 {C M : xZ} {d : xH} : xgf (mk C M d) 77 3 2 = some (.ref 80) := rfl
theorem gS77_3 {C M : xZ} {d : xH} : xgf (mk C M d) 77 3 3 = some (.int (C.1 77)) := rfl
theorem gS77_4 {C M : xZ} {d : xH} : xgf (mk C M d) 77 3 4 = some (.int (C.1 78)) := rfl
theorem gS81_0 {C M : xZ} {d : xH} : xgf (mk C M d) 81 3 0 = some (.ref 82) := rfl
theorem gS81_1 {C M : xZ} {d : xH} : xgf (mk C M d) 81 3 1 = some (.ref 83) := rfl
theorem gS81_2 {C M : xZ} {d : xH} : xgf (mk C M d) 81 3 2 = some (.ref 84) := rfl
theorem gS81_3 {C M : xZ} {d : xH} : xgf (mk C M d) 81 3 3 = some (.int (C.1 81)) := rfl
theorem gS81_4 {C M : xZ} {d : xH} : xgf (mk C M d) 81 3 4 = some (.int (C.1 82)) := rfl
theorem gS88_0 {C M : xZ} {d : xH} : xgf (mk C M d) 88 3 0 = some (.ref 89) := rfl
theorem gS88_1 {C M : xZ} {d : xH} : xgf (mk C M d) 88 3 1 = some (.ref 90) := rfl
theorem gS88_2 {C M : xZ} {d : xH} : xgf (mk C M d) 88 3 2 = some (.ref 91) := rfl
theorem gS88_3 {C M : xZ} {d : xH} : xgf (mk C M d) 88 3 3 = some (.int (C.1 88)) := rfl
theorem gS88_4 {C M : xZ} {d : xH} : xgf (mk C M d) 88 3 4 = some (.int (C.1 89)) := rfl
