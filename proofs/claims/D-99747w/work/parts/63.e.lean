set_option maxRecDepth 100000
section SND3
variable {own nm : String} {cc : ByteArray} {nL : Nat} {ret : Option FieldType} {hh : List (Nat × Nat × Nat × Nat)} {pc : Nat}
theorem xai_s {h : xH} {t a : Nat} {i v : Int32} (e : xai h t a i = some v) : ∃ n f, h.1 a = some (.inl (t, n, .inl f)) ∧ ¬ (i < 0 ∨ n ≤ i.toNatClampNeg) ∧ v = f i.toNatClampNeg := by
  unfold xai at e
  split at e
  · rename_i t' n f heq
    split at e
    · rename_i hc
      obtain ⟨rfl, hc⟩ := hc
      cases e
      exact ⟨n, f, heq, hc, rfl⟩
    · cases e
  · cases e
theorem xal_s {h : xH} {t a : Nat} {i : Int32} {v : Int64} (e : xal h t a i = some v) : ∃ n f, h.1 a = some (.inl (t, n, .inr (.inl f))) ∧ ¬ (i < 0 ∨ n ≤ i.toNatClampNeg) ∧ v = f i.toNatClampNeg := by
  unfold xal at e
  split at e
  · rename_i t' n f heq
    split at e
    · rename_i hc
      obtain ⟨rfl, hc⟩ := hc
      cases e
      exact ⟨n, f, heq, hc, rfl⟩
    · cases e
  · cases e
theorem xaq_s {h : xH} {t a : Nat} {i : Int32} {v : Option Nat} (e : xaq h t a i = some v) : ∃ n f, h.1 a = some (.inl (t, n, .inr (.inr f))) ∧ ¬ (i < 0 ∨ n ≤ i.toNatClampNeg) ∧ v = f i.toNatClampNeg := by
  unfold xaq at e
  split at e
  · rename_i t' n f heq
    split at e
    · rename_i hc
      obtain ⟨rfl, hc⟩ := hc
      cases e
      exact ⟨n, f, heq, hc, rfl⟩
    · cases e
  · cases e
theorem xsi_s {h h' : xH} {t a : Nat} {i v : Int32} (e : xsi h t a i v = some h') : ∃ n f, h.1 a = some (.inl (t, n, .inl f)) ∧ 64 ≤ a ∧ ¬ (i < 0 ∨ n ≤ i.toNatClampNeg) ∧ h' = xset h a (.inl (t, n, .inl (upd f i.toNatClampNeg v))) := by
  unfold xsi at e
  split at e
  · rename_i t' n f heq
    split at e
    · rename_i hc
      obtain ⟨h64, rfl, hc⟩ := hc
      cases e
      exact ⟨n, f, heq, h64, hc, rfl⟩
    · cases e
  · cases e
theorem xsl_s {h h' : xH} {t a : Nat} {i : Int32} {v : Int64} (e : xsl h t a i v = some h') : ∃ n f, h.1 a = some (.inl (t, n, .inr (.inl f))) ∧ 64 ≤ a ∧ ¬ (i < 0 ∨ n ≤ i.toNatClampNeg) ∧ h' = xset h a (.inl (t, n, .inr (.inl (xul f i.toNatClampNeg v)))) := by
  unfold xsl at e
  split at e
  · rename_i t' n f heq
    split at e
    · rename_i hc
      obtain ⟨h64, rfl, hc⟩ := hc
      cases e
      exact ⟨n, f, heq, h64, hc, rfl⟩
    · cases e
  · cases e
theorem xsq_s {h h' : xH} {t a : Nat} {i : Int32} {v : Option Nat} (e : xsq h t a i v = some h') : ∃ n f, h.1 a = some (.inl (t, n, .inr (.inr f))) ∧ 64 ≤ a ∧ ¬ (i < 0 ∨ n ≤ i.toNatClampNeg) ∧ h' = xset h a (.inl (t, n, .inr (.inr (xuq f i.toNatClampNeg v)))) := by
  unfold xsq at e
  split at e
  · rename_i t' n f heq
    split at e
    · rename_i hc
      obtain ⟨h64, rfl, hc⟩ := hc
      cases e
      exact ⟨n, f, heq, h64, hc, rfl⟩
    · cases e
  · cases e
theorem snd_ai0 (d : decode cc pc = .ok (.iaload, 1)) : Snd own nm cc nL ret hh pc (i_ai 0 (pc + 1)) := by
  intro D ev _ lv st h nx hi
  unfold i_ai at hi
  split at hi
  · rename_i i a st
    obtain ⟨v, h1, h2⟩ := xOn_s hi
    cases h2
    refine ⟨xle.rf, fun G p l e s m args below meth c h0 r hM h9 go H locs ls hv hR hS => ?_⟩
    obtain ⟨n, f, h3, hin, rfl⟩ := xai_s h1
    have k0 := go.2 H locs ls hv hR hS
    show W _ _ _ _ _ _ _ _ _ _ _ _ _ _ _ (F0 m pc ls (.int i :: xcv G (.ref a) :: st.map (xcv G)))
    rcases Nat.lt_or_ge a 64 with q | ha
    · obtain ⟨b, g1, g2, cell, q1, q2, q3, q4, q5, q6⟩ := hR.2.2.2.2.1 a _ q h3
      have e1 : xcv G (.ref a) = .ref b := by
        show (if a < 64 then gO G a else _) = _
        rw [if_pos q, g1]
      rw [e1]
      have hlt : i.toNatClampNeg < n := Nat.not_le.mp fun z => hin (Or.inr z)
      exact W.iald (v := .int (f i.toNatClampNeg)) hM.1 hM.2.1 q1 q2 q3 (fun z => hin (z.elim Or.inl (fun z => Or.inr (Nat.le_trans q4 z)))) (q6.1 _ hlt) rfl rfl d k0
    · have hat := (hR.2.2.2.1 a _ ha h3).1
      rw [xcv_own ha]
      exact va_iald hM.1 hM.2.1 hM.2.2.2.2.2.2.2.2.1.1 (va_P1 hat) 0 0 rfl rfl hin d k0
  · cases hi
theorem snd_ai1 (d : decode cc pc = .ok (.baload, 1)) : Snd own nm cc nL ret hh pc (i_ai 1 (pc + 1)) := by
  intro D ev _ lv st h nx hi
  unfold i_ai at hi
  split at hi
  · rename_i i a st
    obtain ⟨v, h1, h2⟩ := xOn_s hi
    cases h2
    refine ⟨xle.rf, fun G p l e s m args below meth c h0 r hM h9 go H locs ls hv hR hS => ?_⟩
    obtain ⟨n, f, h3, hin, rfl⟩ := xai_s h1
    have k0 := go.2 H locs ls hv hR hS
    show W _ _ _ _ _ _ _ _ _ _ _ _ _ _ _ (F0 m pc ls (.int i :: xcv G (.ref a) :: st.map (xcv G)))
    rcases Nat.lt_or_ge a 64 with q | ha
    · obtain ⟨b, g1, g2, cell, q1, q2, q3, q4, q5, q6⟩ := hR.2.2.2.2.1 a _ q h3
      have e1 : xcv G (.ref a) = .ref b := by
        show (if a < 64 then gO G a else _) = _
        rw [if_pos q, g1]
      rw [e1]
      have hlt : i.toNatClampNeg < n := Nat.not_le.mp fun z => hin (Or.inr z)
      exact W.bald (v := .int (f i.toNatClampNeg)) hM.1 hM.2.1 q1 q2 q3 (fun z => hin (z.elim Or.inl (fun z => Or.inr (Nat.le_trans q4 z)))) (q6.1 _ hlt) rfl rfl d k0
    · have hat := (hR.2.2.2.1 a _ ha h3).1
      rw [xcv_own ha]
      exact va_bald hM.1 hM.2.1 hM.2.2.2.2.2.2.2.2.1.1 (va_P1 hat) 0 1 rfl rfl hin d k0
  · cases hi
theorem snd_ai2 (d : decode cc pc = .ok (.baload, 1)) : Snd own nm cc nL ret hh pc (i_ai 2 (pc + 1)) := by
  intro D ev _ lv st h nx hi
  unfold i_ai at hi
  split at hi
  · rename_i i a st
    obtain ⟨v, h1, h2⟩ := xOn_s hi
    cases h2
    refine ⟨xle.rf, fun G p l e s m args below meth c h0 r hM h9 go H locs ls hv hR hS => ?_⟩
    obtain ⟨n, f, h3, hin, rfl⟩ := xai_s h1
    have k0 := go.2 H locs ls hv hR hS
    show W _ _ _ _ _ _ _ _ _ _ _ _ _ _ _ (F0 m pc ls (.int i :: xcv G (.ref a) :: st.map (xcv G)))
    rcases Nat.lt_or_ge a 64 with q | ha
    · obtain ⟨b, g1, g2, cell, q1, q2, q3, q4, q5, q6⟩ := hR.2.2.2.2.1 a _ q h3
      have e1 : xcv G (.ref a) = .ref b := by
        show (if a < 64 then gO G a else _) = _
        rw [if_pos q, g1]
      rw [e1]
      have hlt : i.toNatClampNeg < n := Nat.not_le.mp fun z => hin (Or.inr z)
      exact W.zald (v := .int (f i.toNatClampNeg)) hM.1 hM.2.1 q1 q2 q3 (fun z => hin (z.elim Or.inl (fun z => Or.inr (Nat.le_trans q4 z)))) (q6.1 _ hlt) rfl rfl d k0
    · have hat := (hR.2.2.2.1 a _ ha h3).1
      rw [xcv_own ha]
      exact va_zald hM.1 hM.2.1 hM.2.2.2.2.2.2.2.2.1.1 (va_P1 hat) 0 2 rfl rfl hin d k0
  · cases hi
theorem snd_al3 (d : decode cc pc = .ok (.laload, 1)) : Snd own nm cc nL ret hh pc (i_al 3 (pc + 1)) := by
  intro D ev _ lv st h nx hi
  unfold i_al at hi
  split at hi
  · rename_i i a st
    obtain ⟨v, h1, h2⟩ := xOn_s hi
    cases h2
    refine ⟨xle.rf, fun G p l e s m args below meth c h0 r hM h9 go H locs ls hv hR hS => ?_⟩
    obtain ⟨n, f, h3, hin, rfl⟩ := xal_s h1
    have k0 := go.2 H locs ls hv hR hS
    show W _ _ _ _ _ _ _ _ _ _ _ _ _ _ _ (F0 m pc ls (.int i :: xcv G (.ref a) :: st.map (xcv G)))
    rcases Nat.lt_or_ge a 64 with q | ha
    · obtain ⟨b, g1, g2, hF⟩ := hR.2.2.2.2.1 a _ q h3
      exact hF.elim
    · have hat := (hR.2.2.2.1 a _ ha h3).1
      rw [xcv_own ha]
      exact va_lald hM.1 hM.2.1 hM.2.2.2.2.2.2.2.2.1.1 (va_P1 hat) 0 3 rfl rfl hin d k0
  · cases hi
theorem snd_aq {t : Nat} {ty : FieldType} (d : decode cc pc = .ok (.aaload, 1)) (ht : ∀ G, (xtys G)[t]? = some (gA G t, ty)) (hty : ty.isReference = true) : Snd own nm cc nL ret hh pc (i_aq t (pc + 1)) := by
  intro D ev _ lv st h nx hi
  unfold i_aq at hi
  split at hi
  · rename_i i a st
    obtain ⟨v, h1, h2⟩ := xOn_s hi
    cases h2
    refine ⟨xle.rf, fun G p l e s m args below meth c h0 r hM h9 go H locs ls hv hR hS => ?_⟩
    obtain ⟨n, f, h3, hin, rfl⟩ := xaq_s h1
    have k0 := go.2 H locs ls hv hR hS
    have hlt : i.toNatClampNeg < n := Nat.not_le.mp fun q => hin (Or.inr q)
    show W _ _ _ _ _ _ _ _ _ _ _ _ _ _ _ (F0 m pc ls (.int i :: xcv G (.ref a) :: st.map (xcv G)))
    rcases Nat.lt_or_ge a 64 with q | ha
    · obtain ⟨b, g1, g2, cell, q1, q2, q3, q4, q5, q6, -⟩ := hR.2.2.2.2.1 a _ q h3
      omega
    · obtain ⟨hat, hgd⟩ := hR.2.2.2.1 a _ ha h3
      rw [xcv_own ha]
      have hz : xcv G (va_rf (f i.toNatClampNeg)) = va_rf ((f i.toNatClampNeg).map (xadr G)) := by
        cases hy : f i.toNatClampNeg with
        | none => rfl
        | some y =>
          show xcv G (.ref y) = .ref (xadr G y)
          exact xcv_own (hgd.2.1 t n f rfl _ y hy)
      have k1 : W p l e _ s m args below meth c H locs _ _ _ (F0 m (pc + 1) ls (xcv G (va_rf (f i.toNatClampNeg)) :: st.map (xcv G))) := k0
      rw [hz] at k1
      have hat1 : H[xadr G a]? = some (arrV (gA G t) n (fun j => va_rf ((f j).map (xadr G)))) := hat
      exact W.aald (v := va_rf ((f i.toNatClampNeg).map (xadr G))) (ty := ty) hM.1 hM.2.1 hat1 ((hM.2.2.2.2.2.2.2.2.1.1.2 t _ (ht G)).1 n (fun j => va_rf ((f j).map (xadr G)))) hty (fun q => by cases q) (by show ¬ (i < 0 ∨ (arrV _ _ _).slots.size ≤ _); rw [arrV_size]; exact hin) (by show (arrV _ _ _).slots[_]? = _; rw [arrV_read _ _ hlt]) rfl rfl d k1
  · cases hi
theorem xgood1_a {t n : Nat} {f : Nat → Int32} (h : t ≠ 1) (h8 : t < 8) : xgood1 (.inl (t, n, .inl f)) := And.intro (fun n f h' => by cases h'; exact absurd rfl h) (And.intro (fun t n f h' => nomatch h') (fun t n f h' => by cases h'; exact h8))
theorem xgood1_l {t n : Nat} {f : Nat → Int64} (h8 : t < 8) : xgood1 (.inl (t, n, .inr (.inl f))) := And.intro (fun n f h' => nomatch h') (And.intro (fun t n f h' => nomatch h') (fun t n f h' => by cases h'; exact h8))
theorem snd_si0 (d : decode cc pc = .ok (.iastore, 1)) : Snd own nm cc nL ret hh pc (i_si (fun v => v) 0 (pc + 1)) := by
  intro D ev _ lv st h nx hi
  unfold i_si at hi
  split at hi
  · rename_i v i a st
    obtain ⟨h', h1, h2⟩ := xOn_s hi
    cases h2
    obtain ⟨n, f, h3, ha, hin, rfl⟩ := xsi_s h1
    refine ⟨xle.rf, fun G p l e s m args below meth c h0 r hM h9 go H locs ls hv hR hS => ?_⟩
    have hat : H[xadr G a]? = some (vp_cell (gA G 0) (n, .inl f)) := (hR.2.2.2.1 a _ ha h3).1
    show W _ _ _ _ _ _ _ _ _ _ _ _ _ _ _ (F0 m pc ls (.int v :: .int i :: xcv G (.ref a) :: st.map (xcv G)))
    rw [xcv_own ha]
    refine W.iast hM.1 hM.2.1 hat ((hM.2.2.2.2.2.2.2.2.1.1.2 0 (gA G 0, .int) rfl).1 n (fun j => .int (f j))) (fun q => by cases q) (by show ¬ (i < 0 ∨ (arrV _ _ _).slots.size ≤ _); rw [arrV_size]; exact hin) rfl rfl d fun H1 e1 z oq => ?_
    refine go.2 H1 _ ls hv (hR.set ha h3 ?_ (xgood1_a (by decide) (by decide)) z oq) (hS.put z oq (show gS G ≤ xadr G a by unfold xadr; omega))
    show H1[xadr G a]? = some (vp_cell _ _)
    rw [e1]
    rw [vp_cell_i, vp_cell_i, arrV_store]
    congr 2
    funext q
    by_cases hq : q = i.toNatClampNeg
    · subst hq
      simp [updV, upd]
    · simp [updV, upd, hq]
  · cases hi
theorem snd_si1 (d : decode cc pc = .ok (.bastore, 1)) : Snd own nm cc nL ret hh pc (i_si (fun v => vp_nar .byte v) 1 (pc + 1)) := by
  intro D ev _ lv st h nx hi
  unfold i_si at hi
  split at hi
  · rename_i v i a st
    obtain ⟨h', h1, h2⟩ := xOn_s hi
    cases h2
    obtain ⟨n, f, h3, ha, hin, rfl⟩ := xsi_s h1
    refine ⟨xle.rf, fun G p l e s m args below meth c h0 r hM h9 go H locs ls hv hR hS => ?_⟩
    obtain ⟨hat0, hgd⟩ := hR.2.2.2.1 a _ ha h3
    have hat : H[xadr G a]? = some (vp_cell (gA G 1) (n, .inl f)) := hat0
    show W _ _ _ _ _ _ _ _ _ _ _ _ _ _ _ (F0 m pc ls (.int v :: .int i :: xcv G (.ref a) :: st.map (xcv G)))
    rw [xcv_own ha]
    refine W.bast hM.1 hM.2.1 hat ((hM.2.2.2.2.2.2.2.2.1.1.2 1 (gA G 1, .byte) rfl).1 n (fun j => .int (f j))) (fun q => by cases q) (by show ¬ (i < 0 ∨ (arrV _ _ _).slots.size ≤ _); rw [arrV_size]; exact hin) rfl rfl d fun H1 e1 z oq => ?_
    refine go.2 H1 _ ls hv (hR.set ha h3 ?_ (And.intro (fun n' f' h' j => ?_) (And.intro (fun t n f h' => nomatch h') (fun t n f h' => by cases h'; decide))) z oq) (hS.put z oq (show gS G ≤ xadr G a by unfold xadr; omega))
    · show H1[xadr G a]? = some (vp_cell _ _)
      rw [e1]
      rw [vp_cell_i, vp_cell_i, arrV_store]
      congr 2
      funext q
      by_cases hq : q = i.toNatClampNeg
      · subst hq
        simp [updV, upd, vp_nar]
        try rfl
      · simp [updV, upd, hq]
    · cases h'
      show fits .byte (.int (if j = i.toNatClampNeg then vp_nar .byte v else f j)) = true
      by_cases q : j = i.toNatClampNeg
      · rw [if_pos q, vp_nar_byte]
        exact pk_fb v
      · rw [if_neg q]
        exact hgd.1 n f rfl j
  · cases hi
theorem snd_si2 (d : decode cc pc = .ok (.bastore, 1)) : Snd own nm cc nL ret hh pc (i_si (fun v => vp_nar .boolean v) 2 (pc + 1)) := by
  intro D ev _ lv st h nx hi
  unfold i_si at hi
  split at hi
  · rename_i v i a st
    obtain ⟨h', h1, h2⟩ := xOn_s hi
    cases h2
    obtain ⟨n, f, h3, ha, hin, rfl⟩ := xsi_s h1
    refine ⟨xle.rf, fun G p l e s m args below meth c h0 r hM h9 go H locs ls hv hR hS => ?_⟩
    have hat : H[xadr G a]? = some (vp_cell (gA G 2) (n, .inl f)) := (hR.2.2.2.1 a _ ha h3).1
    show W _ _ _ _ _ _ _ _ _ _ _ _ _ _ _ (F0 m pc ls (.int v :: .int i :: xcv G (.ref a) :: st.map (xcv G)))
    rw [xcv_own ha]
    refine W.zast hM.1 hM.2.1 hat ((hM.2.2.2.2.2.2.2.2.1.1.2 2 (gA G 2, .boolean) rfl).1 n (fun j => .int (f j))) (fun q => by cases q) (by show ¬ (i < 0 ∨ (arrV _ _ _).slots.size ≤ _); rw [arrV_size]; exact hin) rfl rfl d fun H1 e1 z oq => ?_
    refine go.2 H1 _ ls hv (hR.set ha h3 ?_ (xgood1_a (by decide) (by decide)) z oq) (hS.put z oq (show gS G ≤ xadr G a by unfold xadr; omega))
    show H1[xadr G a]? = some (vp_cell _ _)
    rw [e1]
    rw [vp_cell_i, vp_cell_i, arrV_store]
    congr 2
    funext q
    by_cases hq : q = i.toNatClampNeg
    · subst hq
      simp [updV, upd, vp_nar]
      try rfl
    · simp [updV, upd, hq]
  · cases hi
theorem snd_sl3 (d : decode cc pc = .ok (.lastore, 1)) : Snd own nm cc nL ret hh pc (i_sl 3 (pc + 1)) := by
  intro D ev _ lv st h nx hi
  unfold i_sl at hi
  split at hi
  · rename_i v i a st
    obtain ⟨h', h1, h2⟩ := xOn_s hi
    cases h2
    obtain ⟨n, f, h3, ha, hin, rfl⟩ := xsl_s h1
    refine ⟨xle.rf, fun G p l e s m args below meth c h0 r hM h9 go H locs ls hv hR hS => ?_⟩
    have hat : H[xadr G a]? = some (vp_cell (gA G 3) (n, .inr (.inl f))) := (hR.2.2.2.1 a _ ha h3).1
    show W _ _ _ _ _ _ _ _ _ _ _ _ _ _ _ (F0 m pc ls (.long v :: .int i :: xcv G (.ref a) :: st.map (xcv G)))
    rw [xcv_own ha]
    refine W.last hM.1 hM.2.1 hat ((hM.2.2.2.2.2.2.2.2.1.1.2 3 (gA G 3, .long) rfl).1 n (fun j => .long (f j))) (fun q => by cases q) (by show ¬ (i < 0 ∨ (arrV _ _ _).slots.size ≤ _); rw [arrV_size]; exact hin) rfl rfl d fun H1 e1 z oq => ?_
    refine go.2 H1 _ ls hv (hR.set ha h3 ?_ (xgood1_l (by decide)) z oq) (hS.put z oq (show gS G ≤ xadr G a by unfold xadr; omega))
    show H1[xadr G a]? = some (vp_cell _ _)
    rw [e1]
    rw [vp_cell_l, vp_cell_l, arrV_store]
    congr 2
    funext q
    by_cases hq : q = i.toNatClampNeg
    · subst hq
      simp [updV, xul]
    · simp [updV, xul, hq]
  · cases hi
/-- an object: one of ours, or a text of the program -/
theorem xrecv {G : xG} {h : xH} {s : State} {H H0 : Heap} {a ci : Nat} {fs : Nat → Value} {q : vw_C} (hK : xKn G s H0) (hR : xRp G h s H) (h3 : h.1 a = some (.inr (ci, fs))) (hc : xcls[ci]? = some q) : ∃ t, xcv G (.ref a) = .ref t ∧ ∃ cell : Cell, H[t]? = some cell ∧ cell.vm.isStatics = false ∧ s.vm.findClass q.1 = some cell.cls := by
  rcases Nat.lt_or_ge a 64 with z | ha
  · obtain ⟨b, g1, g2, rfl, ⟨cell, q1, q2, q3, -⟩, -⟩ := hR.2.2.2.2.1 a _ z h3
    refine ⟨b, ?_, cell, q1, q2, ?_⟩
    · show (if a < 64 then gO G a else _) = _
      rw [if_pos z, g1]
    · have : q = (RJ5, TJ5, 4) := Option.some.inj (hc.symm.trans rfl)
      rw [this]
      exact q3
  · exact ⟨xadr G a, xcv_own ha, va_recv (q0 := 0) hK.1 (va_P1 (hR.2.2.2.1 a _ ha h3).1) hc rfl⟩
theorem xckc_s {h : xH} {cs : List Nat} {a : Nat} {u : Unit} (e : xckc h cs a = some u) : ∃ c fs, h.1 a = some (.inr (c, fs)) ∧ c ∈ cs := by
  unfold xckc at e
  split at e
  · rename_i c fs heq
    split at e
    · rename_i hc
      exact ⟨c, fs, heq, hc⟩
    · cases e
  · cases e
theorem xck_s {h : xH} {a ci : Nat} {u : Unit} (e : xck h a ci = some u) : ∃ fs, h.1 a = some (.inr (ci, fs)) := by
  unfold xck at e
  split at e
  · rename_i c fs heq
    split at e
    · rename_i hc
      subst hc
      exact ⟨fs, heq⟩
    · cases e
  · cases e
/-- of each class that the cast may see: it is the one named, or said castable -/
def xcsok (cs : List Nat) (T : String) : Prop := ∀ c ∈ cs, ∃ q, xcls[c]? = some q ∧ (q.1 = T ∨ Cond.castable q.1 T ∈ lw_tbl)
theorem snd_cast {index : Nat} {cs : List Nat} {T : String} (d : decode cc pc = .ok (.checkcast index, 3)) (hw : Cond.classLink own index T ∈ lw_all) (hcs : xcsok cs T) : Snd own nm cc nL ret hh pc (i_cast cs (pc + 3)) := by
  intro D ev _ lv st h nx hi
  unfold i_cast at hi
  split at hi
  · rename_i a st
    obtain ⟨u, h1, h2⟩ := xOn_s hi
    cases h2
    refine ⟨xle.rf, fun G p l e s m args below meth c h0 r hM h9 go H locs ls hv hR hS => ?_⟩
    obtain ⟨ci, fs, h3, hc⟩ := xckc_s h1
    obtain ⟨q, hq, hT⟩ := hcs ci hc
    obtain ⟨t, e1, hcell⟩ := xrecv hM.2.2.2.2.2.2.2.2.1 hR h3 hq
    have k0 : W p l e _ s m args below meth c H locs _ _ _ (F0 m (pc + 3) ls (xcv G (.ref a) :: st.map (xcv G))) := go.2 H locs ls hv hR hS
    show W _ _ _ _ _ _ _ _ _ _ _ _ _ _ _ (F0 m pc ls (xcv G (.ref a) :: st.map (xcv G)))
    rw [e1] at k0 ⊢
    rcases hT with rfl | hT
    · exact va_castE hM.1 hM.2.1 hM.2.2.2.1 (hM.2.2.2.2.1 _ hw) hcell d k0
    · exact va_castY hM.1 hM.2.1 hM.2.2.2.1 (hM.2.2.2.2.1 _ hw) (hM.2.2.2.2.2.2.2.2.1.2.1.1 _ hT rfl) hcell d k0
  · cases hi
    exact ⟨xle.rf, fun G p l e s m args below meth c h0 r hM h9 go H locs ls hv hR hS => lv_castN hM.1 hM.2.1 d (go.2 H locs ls hv hR hS)⟩
  · cases hi
theorem snd_inst {index : Nat} {cs : List Nat} {T : String} (d : decode cc pc = .ok (.instanceof index, 3)) (hw : Cond.classLink own index T ∈ lw_all) (hcs : xcsok cs T) : Snd own nm cc nL ret hh pc (i_inst cs (pc + 3)) := by
  intro D ev _ lv st h nx hi
  unfold i_inst at hi
  split at hi
  · rename_i a st
    obtain ⟨u, h1, h2⟩ := xOn_s hi
    cases h2
    refine ⟨xle.rf, fun G p l e s m args below meth c h0 r hM h9 go H locs ls hv hR hS => ?_⟩
    obtain ⟨ci, fs, h3, hc⟩ := xckc_s h1
    obtain ⟨q, hq, hT⟩ := hcs ci hc
    obtain ⟨t, e1, hcell⟩ := xrecv hM.2.2.2.2.2.2.2.2.1 hR h3 hq
    have k0 : W p l e _ s m args below meth c H locs _ _ _ (F0 m (pc + 3) ls (.int 1 :: st.map (xcv G))) := go.2 H locs ls hv hR hS
    show W _ _ _ _ _ _ _ _ _ _ _ _ _ _ _ (F0 m pc ls (xcv G (.ref a) :: st.map (xcv G)))
    rw [e1]
    rcases hT with rfl | hT
    · exact va_instE hM.1 hM.2.1 hM.2.2.2.1 (hM.2.2.2.2.1 _ hw) hcell d k0
    · exact va_instY hM.1 hM.2.1 hM.2.2.2.1 (hM.2.2.2.2.1 _ hw) (hM.2.2.2.2.2.2.2.2.1.2.1.1 _ hT rfl) hcell d k0
  · cases hi
theorem snd_len (d : decode cc pc = .ok (.arraylength, 1)) : Snd own nm cc nL ret hh pc (i_len (pc + 1)) := by
  intro D ev _ lv st h nx hi
  unfold i_len at hi
  split at hi
  · rename_i a st
    obtain ⟨v, h1, h2⟩ := xOn_s hi
    cases h2
    refine ⟨xle.rf, fun G p l e s m args below meth c h0 r hM h9 go H locs ls hv hR hS => ?_⟩
    have k0 := go.2 H locs ls hv hR hS
    unfold xlen at h1
    split at h1
    · rename_i t n f h3
      cases h1
      show W _ _ _ _ _ _ _ _ _ _ _ _ _ _ _ (F0 m pc ls (xcv G (.ref a) :: st.map (xcv G)))
      rcases Nat.lt_or_ge a 64 with q | ha
      · obtain ⟨b, g1, g2, hx⟩ := hR.2.2.2.2.1 a _ q h3
        have e1 : xcv G (.ref a) = .ref b := by
          show (if a < 64 then gO G a else _) = _
          rw [if_pos q, g1]
        rw [e1]
        match f, hx with
        | .inl f, ⟨z0, q1, q2, q3, q4, q5, q6⟩ => exact W.alen (n := nI n) hM.1 hM.2.1 q1 q2 q5 rfl rfl d k0
        | .inr (.inr f), ⟨z0, q1, q2, q3, q4, q5, q6⟩ => exact W.alen (n := nI n) hM.1 hM.2.1 q1 q2 q5 rfl rfl d k0
      · have hat := (hR.2.2.2.1 a _ ha h3).1
        rw [xcv_own ha]
        have h8 := (hR.2.2.2.1 a _ ha h3).2.2.2 t n f rfl
        have key : ∀ f0 : Nat → Value, s.isArrayOf (arrV (gA G t) n f0) (xknd t) := fun f0 => (hM.2.2.2.2.2.2.2.2.1.1.2 t _ (xtys_at G h8)).1 n f0
        match f, hat with
        | .inl f, hat => exact W.alen (n := nI n) hM.1 hM.2.1 (show H[xadr G a]? = some (arrV (gA G t) n (fun j => .int (f j))) from hat) (key _) (by rw [arrV_size]; rfl) rfl rfl d k0
        | .inr (.inl f), hat => exact W.alen (n := nI n) hM.1 hM.2.1 (show H[xadr G a]? = some (arrV (gA G t) n (fun j => .long (f j))) from hat) (key _) (by rw [arrV_size]; rfl) rfl rfl d k0
        | .inr (.inr f), hat => exact W.alen (n := nI n) hM.1 hM.2.1 (show H[xadr G a]? = some (arrV (gA G t) n (fun j => va_rf ((f j).map (xadr G)))) from hat) (key _) (by rw [arrV_size]; rfl) rfl rfl d k0
    · cases h1
  · cases hi
end SND3
