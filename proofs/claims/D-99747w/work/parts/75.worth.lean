set_option maxRecDepth 100000
theorem m_worthL {D : Nat} {C : xZ} {d : xH} {f : Nat → Int32} : ∀ (l pre : List (Nat × Int32)) (M : xZ) (st st' : List Int32) (v4 : Option Value), mC (pre ++ l) M → mP st M → (∀ j, j < 4 → M.2.1 22 j = f j) → st.length ≤ pre.length → rpn f l st = some st' →
    ∃ M', wAt D C d M st.length pre.length v4 = some (.inl (some (.int (M'.2.1 23 0))), mk C M' d) ∧ pM M M' ∧ mP st' M' := by
  intro l
  induction l with
  | nil =>
    intro pre M st st' v4 hC hP hf hl hr
    cases hr
    rw [List.append_nil] at hC
    have h0 := hC.1
    exact ⟨M, wEnd (by omega) hC.2.2, pM.rf, hP⟩
  | cons q l ih =>
    intro pre M st st' v4 hC hP hf hl hr
    obtain ⟨c, v⟩ := q
    have hlen := hC.1
    rw [List.length_append, List.length_cons] at hlen
    obtain ⟨h1, h2, h3, h4⟩ := hC.2.1 pre.length (c, v) (by rw [List.getElem?_append_right (Nat.le_refl _), Nat.sub_self]; rfl)
    dsimp only at h1 h2 h3 h4
    rw [rpn] at hr
    cases hs : rstep f (c, v) st with
    | none => rw [hs] at hr; cases hr
    | some st1 =>
      rw [hs] at hr
      dsimp only at hr
      have go : ∀ M1 (v5 : Option Value), pM M M1 → mP st1 M1 → st1.length ≤ pre.length + 1 → ∃ M', wAt D C d M1 st1.length (pre.length + 1) v5 = some (.inl (some (.int (M'.2.1 23 0))), mk C M' d) ∧ pM M M' ∧ mP st' M' := by
        intro M1 v5 hp hP1 hl1
        have e1 : pre ++ (c, v) :: l = (pre ++ [(c, v)]) ++ l := by simp
        have e2 : (pre ++ [(c, v)]).length = pre.length + 1 := by simp
        obtain ⟨M', g1, g2, g3⟩ := ih (pre ++ [(c, v)]) M1 st1 st' v5 (by rw [← e1]; exact hC.mv hp) hP1 (fun j hj => by rw [hp.2.1 22 (by decide)]; exact hf j hj) (by rw [e2]; exact hl1) hr
        rw [e2] at g1
        exact ⟨M', g1, hp.tr g2, g3⟩
      unfold rstep at hs
      dsimp only at hs
      rcases (show c = 1 ∨ c = 2 ∨ c = 3 ∨ (4 ≤ c ∧ c ≤ 10) by omega) with rfl | rfl | rfl | ⟨q4, q10⟩
      · rw [if_pos rfl] at hs
        cases hs
        rw [wNum (by omega) (by omega) h1 h2]
        exact go _ _ pM.zia (hP.push (by omega)) (by rw [List.length_cons]; omega)
      · rw [if_neg (by decide), if_pos rfl] at hs
        split at hs
        · cases hs
        · rename_i hv
          cases hs
          obtain ⟨j, hj, rfl⟩ := nI_of (fun z => hv (Or.inl z))
          have hj4 : j < 4 := by
            rcases Nat.lt_or_ge j 4 with q | q
            · exact q
            · exact absurd (Or.inr (by rw [nI_clamp hj]; exact q)) hv
          rw [wFact (by omega) (by omega) hj4 h1 h2, hf j hj4]
          have go2 := go (zia M 23 st.length (f j)) (some (.int (nI 2))) pM.zia (by rw [nI_clamp hj]; exact hP.push (by omega)) (by rw [List.length_cons]; omega)
          exact go2
      · rw [if_neg (by decide), if_neg (by decide), if_pos rfl] at hs
        match st, hP, hl, hs, go with
        | x :: r, hP, hl, hs, go =>
          cases hs
          rw [List.length_cons] at hl
          show ∃ M', wAt D C d M (r.length + 1) pre.length v4 = _ ∧ _
          rw [wNot (by omega) (by omega) h1, hP.head]
          exact go _ _ pM.zia hP.top (by rw [List.length_cons]; omega)
      · rw [if_neg (by omega), if_neg (by omega), if_neg (by omega), if_pos ⟨q4, q10⟩] at hs
        match st, hP, hl, hs, go with
        | y :: x :: r, hP, hl, hs, go =>
          cases hs
          rw [List.length_cons, List.length_cons] at hl
          show ∃ M', wAt D C d M (r.length + 2) pre.length v4 = _ ∧ _
          rw [wTwo (by omega) (by omega) q4 q10 h1, hP.pop.head, show M.2.1 23 (r.length + 1) = y from hP.head]
          exact go _ _ pM.zia hP.pop.top (by rw [List.length_cons]; omega)
theorem m_worthAt {D : Nat} {C M : xZ} {d : xH} {f : Nat → Int32} {c : List (Nat × Int32)} {v : Int32} (hC : mC c M) (hf : ∀ j, j < 4 → M.2.1 22 j = f j) (hr : rpn f c [] = some [v]) : ∃ M', evD (D + 2) 300 [.ref 109, .int (nI 0)] (mk C M d) = some (.inl (some (.int v)), mk C M' d) ∧ pM M M' := by
  obtain ⟨M', g1, g2, g3⟩ := m_worthL (D := D) (C := C) (d := d) c [] M [] [v] none hC ⟨Nat.zero_le _, fun j v h => by cases h⟩ hf (Nat.le_refl _) hr
  refine ⟨M', ?_, g2⟩
  rw [vX5_worthAt]
  simp (disch := omega) only [eX5_worthAt_0, eX5_worthAt_1, eX5_worthAt_2, eX5_worthAt_3]
  rw [show M'.2.1 23 0 = v from g3.head] at g1
  exact g1
