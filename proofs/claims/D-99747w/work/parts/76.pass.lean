set_option maxRecDepth 100000
/-! A DAY (own work) -/
def wUp (w : Nat) : Nat := if w = 0 then 6 else if w = 1 then 4 else if w = 2 then 5 else 3
def wLo (w : Nat) : Nat := if w = 0 then 2 else if w = 1 then 4 else if w = 2 then 1 else 3
def wSh (w : Nat) : Nat := if w = 1 then 2 else if w = 2 then 3 else 1
def fFct (damp : Nat) (T : xT) (k : Nat) : Nat → Int32 := fun j => if j = 0 then nI damp else if j = 1 then nI (tSw T k) else if j = 2 then nI (tGp T k) else nI (tDy T)
/-- what the code comes to -/
def rval (f : Nat → Int32) (c : List (Nat × Int32)) : Int32 := match rpn f c [] with
  | some [v] => v
  | _ => nI 0
def clamp9 (v : Int32) : Nat := if v < 0 then 0 else if nI 9 < v then 9 else v.toNatClampNeg
def pMore (H : xHo) (T : xT) (damp k : Nat) : Nat := match hCd H with
  | none => 1
  | some c => clamp9 (rval (fFct damp T k) c)
def cdOk (H : xHo) : Prop := ∀ c, hCd H = some c → ∀ f, ∃ v, rpn f c [] = some [v]
/-- the reference's place of what swells -/
def mX (H : xHo) (M : xZ) : Prop := match hCd H with
  | none => M.2.1 10 4 = -1
  | some c => M.2.1 10 4 = nI 0 ∧ mC c M
/-- facts and pile are others -/
def qM (M M' : xZ) : Prop := M'.1 = M.1 ∧ (∀ j, j ≠ 22 → j ≠ 23 → M'.2.1 j = M.2.1 j) ∧ M'.2.2 = M.2.2
theorem qM.rf {M : xZ} : qM M M := ⟨rfl, fun _ _ _ => rfl, rfl⟩
theorem qM.tr {A B E : xZ} (h : qM A B) (h' : qM B E) : qM A E := ⟨h'.1.trans h.1, fun j hj hk => (h'.2.1 j hj hk).trans (h.2.1 j hj hk), h'.2.2.trans h.2.2⟩
theorem pM.q {M M' : xZ} (h : pM M M') : qM M M' := ⟨h.1, fun j _ hk => h.2.1 j hk, h.2.2⟩
theorem qM.zia {M : xZ} {i : Nat} {v : Int32} : qM M (zia M 22 i v) := ⟨rfl, fun j hj _ => if_neg hj, rfl⟩
theorem clamp9_le (v : Int32) : clamp9 v ≤ 9 := by
  unfold clamp9
  split
  · omega
  · split
    · omega
    · rename_i h1 h2
      obtain ⟨j, hj, rfl⟩ := nI_of h1
      rw [nI_clamp hj]
      have := mt (nI_ltI (a := 9) (b := j) (by decide) hj).mpr h2
      omega
theorem zia_o {M : xZ} {j k i : Nat} {v : Int32} (h : j ≠ k) : (zia M k i v).2.1 j = M.2.1 j := if_neg h
theorem zia_s {M : xZ} {k i : Nat} {v : Int32} : (zia M k i v).2.1 k = upd (M.2.1 k) i v := if_pos rfl
section PASS
variable {D : Nat} {C M : xZ} {d : xH} {H : xHo} {T : xT} {b : Nat}
/-- woods: what stands in the two locals -/
theorem m_moves1 (hH : mH H M) (hHo : hOk H) {k : Nat} (hk : k < 8) {damp : Int32} {v4 v5 v6 v7 : Option Value} : exF (evD (D + 2)) cX5_moves 0 ([some (.ref 109), some (.int (nI b)), some (.int (nI k)), some (.int damp), v4, v5, v6, v7], []) [] (mk C M d) = exF (evD (D + 2)) cX5_moves 73 ([some (.ref 109), some (.int (nI b)), some (.int (nI k)), some (.int damp), some (.int (nI (hWd H k))), some (.int (nI (wUp (hWd H k)))), some (.int (nI (wLo (hWd H k)))), v7], []) [] (mk C M d) := by
  have hw := (hHo.2.2.2.1 k).2.2.1
  simp (disch := omega) only [eX5_moves_0, eX5_moves_1, eX5_moves_2, eX5_moves_3, eX5_moves_6, eX5_moves_8, m_doorOf2 hH hk, kM, gM0, gM1, gM2, gM3, gM4, gM5, gM6, gM7, gM8, gM9, gM10, gM11, gM12, gM13, gM14, gM15, gM16, gM17, gM18, gM19, gM20, gM21, gM22, gM23, gM24, gM25, gM26, gM27, gM28, gM29, gM30, gM31, rM1, rM4, rM5, rM6, rM9, rM10, rM11, rM12, rM14, rM15, rM16, rM17, rM21, rM22, rM23, rM24, rM26, rM27, rM28, rM29, rM30, wM1, wM4, wM5, wM6, wM9, wM10, wM11, wM12, wM14, wM15, wM16, wM17, wM21, wM22, wM23, wM24, wM26, wM27, wM28, wM29, wM30, pM0, pM2, pM3, pM7, pM8, pM13, pM18, pM19, pM20, pM25, pM31, xO_s, xO_n, xB_s, xB_x, xBv_s, xBv_x]
  rcases (show hWd H k = 0 ∨ hWd H k = 1 ∨ hWd H k = 2 ∨ hWd H k = 3 by omega) with e | e | e | e
  · rw [e, eX5_moves_10, if_neg (fun z => z rfl)]
    simp only [eX5_moves_13, eX5_moves_15, eX5_moves_39, eX5_moves_41]
    rw [eX5_moves_43, if_neg (fun z => z rfl)]
    simp only [eX5_moves_46, eX5_moves_47, eX5_moves_71]
    rfl
  · rw [e, eX5_moves_10, if_pos (by decide), eX5_moves_18, eX5_moves_20, eX5_moves_21, if_neg (fun z => z rfl)]
    simp only [eX5_moves_24, eX5_moves_25, eX5_moves_39, eX5_moves_41]
    rw [eX5_moves_43, if_pos (by decide), eX5_moves_50, eX5_moves_52, eX5_moves_53, if_neg (fun z => z rfl)]
    simp only [eX5_moves_56, eX5_moves_57, eX5_moves_71]
    rfl
  · rw [e, eX5_moves_10, if_pos (by decide), eX5_moves_18, eX5_moves_20, eX5_moves_21, if_pos (by decide), eX5_moves_28, eX5_moves_30, eX5_moves_31, if_neg (fun z => z rfl)]
    simp only [eX5_moves_34, eX5_moves_35, eX5_moves_39, eX5_moves_41]
    rw [eX5_moves_43, if_pos (by decide), eX5_moves_50, eX5_moves_52, eX5_moves_53, if_pos (by decide), eX5_moves_60, eX5_moves_62, eX5_moves_63, if_neg (fun z => z rfl)]
    simp only [eX5_moves_66, eX5_moves_67, eX5_moves_71]
    rfl
  · rw [e, eX5_moves_10, if_pos (by decide), eX5_moves_18, eX5_moves_20, eX5_moves_21, if_pos (by decide), eX5_moves_28, eX5_moves_30, eX5_moves_31, if_pos (by decide)]
    simp only [eX5_moves_38, eX5_moves_39, eX5_moves_41]
    rw [eX5_moves_43, if_pos (by decide), eX5_moves_50, eX5_moves_52, eX5_moves_53, if_pos (by decide), eX5_moves_60, eX5_moves_62, eX5_moves_63, if_pos (by decide)]
    simp only [eX5_moves_70, eX5_moves_71]
    rfl
def pMv (H : xHo) (T : xT) (damp k : Nat) : Int32 := if damp ≤ wUp (hWd H k) then (if wLo (hWd H k) ≤ damp then nI 0 else if hWd H k = 1 then -2 else if hWd H k = 2 then -3 else -1) else nI (pMore H T damp k)
theorem m_moves (hH : mH H M) (hHo : hOk H) (hX : mX H M) (hcd : cdOk H) (hT : mT b T M) (hb : b + 23 ≤ 1495) {k damp : Nat} (hk : k < 8) (hd : damp ≤ 9) : ∃ M', evD (D + 3) 299 [.ref 109, .int (nI b), .int (nI k), .int (nI damp)] (mk C M d) = some (.inl (some (.int (pMv H T damp k))), mk C M' d) ∧ qM M M' := by
  have hw := (hHo.2.2.2.1 k).2.2.1
  have hup : wUp (hWd H k) ≤ 6 := by unfold wUp; split <;> (try split) <;> (try split) <;> omega
  have hlo : wLo (hWd H k) ≤ 4 := by unfold wLo; split <;> (try split) <;> (try split) <;> omega
  rw [vX5_moves, m_moves1 hH hHo hk, eX5_moves_73, eX5_moves_74, eX5_moves_76]
  unfold pMv
  by_cases q1 : damp ≤ wUp (hWd H k)
  · rw [if_neg (by rw [nI_ltI (by omega) (by omega)]; omega), eX5_moves_79, eX5_moves_80, eX5_moves_82, if_pos q1]
    refine ⟨M, ?_, qM.rf⟩
    by_cases q2 : wLo (hWd H k) ≤ damp
    · rw [if_neg (by rw [nI_ltI (by omega) (by omega)]; omega), if_pos q2]
      simp only [eX5_moves_85, eX5_moves_86, eX5_moves_112]
    · rw [if_pos (by rw [nI_ltI (by omega) (by omega)]; omega), if_neg q2, eX5_moves_89, eX5_moves_91, eX5_moves_92]
      by_cases q3 : hWd H k = 1
      · rw [q3, if_neg (fun z => z rfl)]
        simp only [eX5_moves_95, eX5_moves_97, eX5_moves_112, if_true]
      · rw [if_pos (by rw [nI_eq (by omega) (by decide)]; exact q3), if_neg q3, eX5_moves_100, eX5_moves_102, eX5_moves_103]
        by_cases q4 : hWd H k = 2
        · rw [q4, if_neg (fun z => z rfl)]
          simp only [eX5_moves_106, eX5_moves_108, eX5_moves_112, if_true]
        · rw [if_pos (by rw [nI_eq (by omega) (by decide)]; exact q4), if_neg q4]
          simp only [eX5_moves_111, eX5_moves_112]
  · rw [if_pos (by rw [nI_ltI (by omega) (by omega)]; omega), if_neg q1]
    simp (disch := omega) only [eX5_moves_113, eX5_moves_114, eX5_moves_117, eX5_moves_118, eX5_moves_119, eX5_moves_120, eX5_moves_121, eX5_moves_124, eX5_moves_125, eX5_moves_126, eX5_moves_129, eX5_moves_130, eX5_moves_132, eX5_moves_133, eX5_moves_134, eX5_moves_135, eX5_moves_136, eX5_moves_137, eX5_moves_138, eX5_moves_141, eX5_moves_142, eX5_moves_143, eX5_moves_146, eX5_moves_147, eX5_moves_148, eX5_moves_149, eX5_moves_150, eX5_moves_151, eX5_moves_152, eX5_moves_153, eX5_moves_154, eX5_moves_157, eX5_moves_158, eX5_moves_159, eX5_moves_162, eX5_moves_163, eX5_moves_164, eX5_moves_165, eX5_moves_166, eX5_moves_167, eX5_moves_168, eX5_moves_171, eX5_moves_172, kM, gM0, gM1, gM2, gM3, gM4, gM5, gM6, gM7, gM8, gM9, gM10, gM11, gM12, gM13, gM14, gM15, gM16, gM17, gM18, gM19, gM20, gM21, gM22, gM23, gM24, gM25, gM26, gM27, gM28, gM29, gM30, gM31, rM1, rM4, rM5, rM6, rM9, rM10, rM11, rM12, rM14, rM15, rM16, rM17, rM21, rM22, rM23, rM24, rM26, rM27, rM28, rM29, rM30, wM1, wM4, wM5, wM6, wM9, wM10, wM11, wM12, wM14, wM15, wM16, wM17, wM21, wM22, wM23, wM24, wM26, wM27, wM28, wM29, wM30, pM0, pM2, pM3, pM7, pM8, pM13, pM18, pM19, pM20, pM25, pM31, xO_s, xO_n, xB_s, xB_x, xBv_s, xBv_x, nI_add, zia_o, hT.1 k hk, hT.2.1 k hk, Nat.add_zero, hT.2.2.2.2]
    have hq4 : qM M (zia (zia (zia (zia M 22 0 (nI damp)) 22 1 (nI (tSw T k))) 22 2 (nI (tGp T k))) 22 3 (nI (tDy T))) := ((qM.zia.tr qM.zia).tr qM.zia).tr qM.zia
    have hf4 : ∀ j, j < 4 → (zia (zia (zia (zia M 22 0 (nI damp)) 22 1 (nI (tSw T k))) 22 2 (nI (tGp T k))) 22 3 (nI (tDy T))).2.1 22 j = fFct damp T k j := by
      intro j hj
      rw [zia_s, zia_s, zia_s, zia_s]
      rcases (show j = 0 ∨ j = 1 ∨ j = 2 ∨ j = 3 by omega) with rfl | rfl | rfl | rfl <;> rfl
    generalize zia (zia (zia (zia M 22 0 (nI damp)) 22 1 (nI (tSw T k))) 22 2 (nI (tGp T k))) 22 3 (nI (tDy T)) = M4 at hq4 hf4 ⊢
    unfold pMore
    unfold mX at hX
    cases hc : hCd H with
    | none =>
      rw [hc] at hX
      dsimp only at hX ⊢
      rw [hX, eX5_moves_173, if_neg (by decide)]
      refine ⟨M4, ?_, hq4⟩
      simp only [eX5_moves_176, eX5_moves_177, eX5_moves_190, eX5_moves_192]
      rw [eX5_moves_194, if_pos (by decide), eX5_moves_201, eX5_moves_203, eX5_moves_205, if_pos (by decide)]
      simp only [eX5_moves_213, eX5_moves_215]
    | some c =>
      rw [hc] at hX
      dsimp only at hX ⊢
      obtain ⟨hX1, hX2⟩ := hX
      have h10 : M4.2.1 10 = M.2.1 10 := hq4.2.1 10 (by decide) (by decide)
      have hC4 : mC c M4 := by
        unfold mC at hX2 ⊢
        rw [hq4.2.1 11 (by decide) (by decide), hq4.2.1 12 (by decide) (by decide)]
        exact hX2
      obtain ⟨v, hv⟩ := hcd c hc (fFct damp T k)
      obtain ⟨M', g1, g2⟩ := m_worthAt (D := D) (C := C) (d := d) hC4 hf4 hv
      have ev : rval (fFct damp T k) c = v := by unfold rval; rw [hv]
      rw [ev]
      refine ⟨M', ?_, hq4.tr g2.q⟩
      rw [hX1, eX5_moves_173, if_pos (show (0 : Int32) ≤ nI 0 by decide)]
      simp (disch := omega) only [eX5_moves_180, eX5_moves_181, eX5_moves_182, eX5_moves_185, eX5_moves_186, eX5_moves_187, kM, gM0, gM1, gM2, gM3, gM4, gM5, gM6, gM7, gM8, gM9, gM10, gM11, gM12, gM13, gM14, gM15, gM16, gM17, gM18, gM19, gM20, gM21, gM22, gM23, gM24, gM25, gM26, gM27, gM28, gM29, gM30, gM31, rM1, rM4, rM5, rM6, rM9, rM10, rM11, rM12, rM14, rM15, rM16, rM17, rM21, rM22, rM23, rM24, rM26, rM27, rM28, rM29, rM30, wM1, wM4, wM5, wM6, wM9, wM10, wM11, wM12, wM14, wM15, wM16, wM17, wM21, wM22, wM23, wM24, wM26, wM27, wM28, wM29, wM30, pM0, pM2, pM3, pM7, pM8, pM13, pM18, pM19, pM20, pM25, pM31, xO_s, xO_n, xB_s, xB_x, xBv_s, xBv_x, h10, hX1, g1]
      simp only [eX5_moves_190, eX5_moves_192]
      rw [eX5_moves_194]
      unfold clamp9
      by_cases q5 : v < 0
      · rw [if_neg (Int32.not_le.mpr q5), if_pos q5]
        simp only [eX5_moves_197, eX5_moves_198, eX5_moves_215]
      · rw [if_pos (Int32.not_lt.mp q5), if_neg q5, eX5_moves_201, eX5_moves_203, eX5_moves_205]
        by_cases q6 : nI 9 < v
        · rw [if_neg (Int32.not_le.mpr q6), if_pos q6]
          simp only [eX5_moves_208, eX5_moves_210, eX5_moves_215]
        · rw [if_pos (Int32.not_lt.mp q6), if_neg q6]
          simp only [eX5_moves_213, eX5_moves_215]
          obtain ⟨j, hj, rfl⟩ := nI_of q5
          rw [nI_clamp hj]
end PASS
