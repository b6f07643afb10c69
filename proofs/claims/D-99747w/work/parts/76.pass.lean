set_option maxRecDepth 100000
/-! A DAY (own work) -/
def wUp (w : Nat) : Nat := if w = 0 then 6 else if w = 1 then 4 else if w = 2 then 5 else 3
def wLo (w : Nat) : Nat := if w = 0 then 2 else if w = 1 then 4 else if w = 2 then 1 else 3
def wSh (w : Nat) : Nat := if w = 1 then 2 else if w = 2 then 3 else 1
def fFct (damp : Nat) (T : xT) (k : Nat) : Nat → Int32 := fun j => if j = 0 then nI damp else if j = 1 then nI (tSw T k) else if j = 2 then nI (tGp T k) else nI (tDy T)
/-- what the code comes to -/
def rval (f : Nat → Int32) (c : List (Nat × Int32)) : Int32 := match rpn f c [] with
  | some [v] => v
  | _ => nI 0
def clamp9 (v : Int32) : Nat := if v < 0 then 0 else if nI 9 < v then 9 else v.toNatClampNeg
def pMore (H : xHo) (T : xT) (damp k : Nat) : Nat := match hCd H with
  | none => 1
  | some c => clamp9 (rval (fFct damp T k) c)
def cdOk (H : xHo) : Prop := ∀ c, hCd H = some c → ∀ f, ∃ v, rpn f c [] = some [v]
/-- the reference's place of what swells -/
def mX (H : xHo) (M : xZ) : Prop := match hCd H with
  | none => M.2.1 10 4 = -1
  | some c => M.2.1 10 4 = nI 0 ∧ mC c M
/-- facts and pile are others -/
def qM (M M' : xZ) : Prop := M'.1 = M.1 ∧ (∀ j, j ≠ 22 → j ≠ 23 → M'.2.1 j = M.2.1 j) ∧ M'.2.2 = M.2.2
theorem qM.rf {M : xZ} : qM M M := ⟨rfl, fun _ _ _ => rfl, rfl⟩
theorem qM.tr {A B E : xZ} (h : qM A B) (h' : qM B E) : qM A E := ⟨h'.1.trans h.1, fun j hj hk => (h'.2.1 j hj hk).trans (h.2.1 j hj hk), h'.2.2.trans h.2.2⟩
theorem pM.q {M M' : xZ} (h : pM M M') : qM M M' := ⟨h.1, fun j _ hk => h.2.1 j hk, h.2.2⟩
theorem qM.zia {M : xZ} {i : Nat} {v : Int32} : qM M (zia M 22 i v) := ⟨rfl, fun j hj _ => if_neg hj, rfl⟩
theorem clamp9_le (v : Int32) : clamp9 v ≤ 9 := by
  unfold clamp9
  split
  · omega
  · split
    · omega
    · rename_i h1 h2
      obtain ⟨j, hj, rfl⟩ := nI_of h1
      rw [nI_clamp hj]
      have := mt (nI_ltI (a := 9) (b := j) (by decide) hj).mpr h2
      omega
section PASS
variable {D : Nat} {C M : xZ} {d : xH} {H : xHo} {T : xT} {b : Nat}
/-- woods: what stands in the two locals -/
theorem m_moves1 (hH : mH H M) (hHo : hOk H) {k : Nat} (hk : k < 8) {damp : Int32} {v4 v5 v6 v7 : Option Value} : exF (evD (D + 2)) cX5_moves 0 ([some (.ref 109), some (.int (nI b)), some (.int (nI k)), some (.int damp), v4, v5, v6, v7], []) [] (mk C M d) = exF (evD (D + 2)) cX5_moves 73 ([some (.ref 109), some (.int (nI b)), some (.int (nI k)), some (.int damp), some (.int (nI (hWd H k))), some (.int (nI (wUp (hWd H k)))), some (.int (nI (wLo (hWd H k)))), v7], []) [] (mk C M d) := by
  have hw := (hHo.2.2.2.1 k).2.2.1
  simp (disch := omega) only [eX5_moves_0, eX5_moves_1, eX5_moves_2, eX5_moves_3, eX5_moves_6, eX5_moves_8, m_doorOf2 hH hk, kM, gM0, gM1, gM2, gM3, gM4, gM5, gM6, gM7, gM8, gM9, gM10, gM11, gM12, gM13, gM14, gM15, gM16, gM17, gM18, gM19, gM20, gM21, gM22, gM23, gM24, gM25, gM26, gM27, gM28, gM29, gM30, gM31, rM1, rM4, rM5, rM6, rM9, rM10, rM11, rM12, rM14, rM15, rM16, rM17, rM21, rM22, rM23, rM24, rM26, rM27, rM28, rM29, rM30, wM1, wM4, wM5, wM6, wM9, wM10, wM11, wM12, wM14, wM15, wM16, wM17, wM21, wM22, wM23, wM24, wM26, wM27, wM28, wM29, wM30, pM0, pM2, pM3, pM7, pM8, pM13, pM18, pM19, pM20, pM25, pM31, xO_s, xO_n, xB_s, xB_x, xBv_s, xBv_x]
  rcases (show hWd H k = 0 ∨ hWd H k = 1 ∨ hWd H k = 2 ∨ hWd H k = 3 by omega) with e | e | e | e
  · rw [e, eX5_moves_10, if_neg (fun z => z rfl)]
    simp only [eX5_moves_13, eX5_moves_15, eX5_moves_39, eX5_moves_41]
    rw [eX5_moves_43, if_neg (fun z => z rfl)]
    simp only [eX5_moves_46, eX5_moves_47, eX5_moves_71]
    rfl
  · rw [e, eX5_moves_10, if_pos (by decide), eX5_moves_18, eX5_moves_20, eX5_moves_21, if_neg (fun z => z rfl)]
    simp only [eX5_moves_24, eX5_moves_25, eX5_moves_39, eX5_moves_41]
    rw [eX5_moves_43, if_pos (by decide), eX5_moves_50, eX5_moves_52, eX5_moves_53, if_neg (fun z => z rfl)]
    simp only [eX5_moves_56, eX5_moves_57, eX5_moves_71]
    rfl
  · rw [e, eX5_moves_10, if_pos (by decide), eX5_moves_18, eX5_moves_20, eX5_moves_21, if_pos (by decide), eX5_moves_28, eX5_moves_30, eX5_moves_31, if_neg (fun z => z rfl)]
    simp only [eX5_moves_34, eX5_moves_35, eX5_moves_39, eX5_moves_41]
    rw [eX5_moves_43, if_pos (by decide), eX5_moves_50, eX5_moves_52, eX5_moves_53, if_pos (by decide), eX5_moves_60, eX5_moves_62, eX5_moves_63, if_neg (fun z => z rfl)]
    simp only [eX5_moves_66, eX5_moves_67, eX5_moves_71]
    rfl
  · rw [e, eX5_moves_10, if_pos (by decide), eX5_moves_18, eX5_moves_20, eX5_moves_21, if_pos (by decide), eX5_moves_28, eX5_moves_30, eX5_moves_31, if_pos (by decide)]
    simp only [eX5_moves_38, eX5_moves_39, eX5_moves_41]
    rw [eX5_moves_43, if_pos (by decide), eX5_moves_50, eX5_moves_52, eX5_moves_53, if_pos (by decide), eX5_moves_60, eX5_moves_62, eX5_moves_63, if_pos (by decide)]
    simp only [eX5_moves_70, eX5_moves_71]
    rfl
end PASS
