set_option maxRecDepth 100000
section SND5
variable {own nm : String} {cc : ByteArray} {nL : Nat} {ret : Option FieldType} {hh : List (Nat × Nat × Nat × Nat)} {pc : Nat}
/-- the end of a method that returns -/
theorem xendq {G : xG} {s : State} {H : Heap} {locs : List Loc} {h : xH} {v : Option Value} {args : Array Value} (hR : xRp G h s H) (hS : va_S (xfr G) s.heap H locs) : ∀ t : State, t.heap = H → s.WarmedH t.vm → xQc G (.inl v, h) args s (.returned (v.map (xcv G))) t := by
  intro t ht hW
  exact ⟨⟨v, rfl, rfl⟩, by rw [ht]; exact hR.moved hW.alike, hS.F ht⟩
theorem snd_iret (d : decode cc pc = .ok (.ireturn, 1)) (hr : ret = some .int) : Snd own nm cc nL ret hh pc i_iret := by
  intro D ev _ lv st h nx hi
  unfold i_iret at hi
  split at hi
  · cases hi
    refine ⟨xle.rf, fun G p l e s m args below meth c h0 r hM h9 go H locs ls hv hR hS => ?_⟩
    cases go
    exact vx_ret (W.iret hM.1 hM.2.1 (hM.2.2.2.2.2.1.trans hr) (xendq hR hS) hS.2.2 d hM.2.2.2.2.2.2.1)
  · cases hi
theorem snd_zret (d : decode cc pc = .ok (.ireturn, 1)) (hr : ret = some .boolean) : Snd own nm cc nL ret hh pc i_zret := by
  intro D ev _ lv st h nx hi
  unfold i_zret at hi
  split at hi
  · rename_i x
    split at hi
    · rename_i hx
      cases hi
      refine ⟨xle.rf, fun G p l e s m args below meth c h0 r hM h9 go H locs ls hv hR hS => ?_⟩
      cases go
      exact vx_ret (W.zret hM.1 hM.2.1 (hM.2.2.2.2.2.1.trans hr) (by rcases hx with rfl | rfl <;> rfl) (xendq hR hS) hS.2.2 d hM.2.2.2.2.2.2.1)
    · cases hi
  · cases hi
theorem snd_nret {ty : FieldType} (d : decode cc pc = .ok (.ireturn, 1)) (hr : ret = some ty) : Snd own nm cc nL ret hh pc (i_nret ty) := by
  intro D ev _ lv st h nx hi
  unfold i_nret at hi
  split at hi
  · rename_i x
    split at hi
    · rename_i hx
      cases hi
      refine ⟨xle.rf, fun G p l e s m args below meth c h0 r hM h9 go H locs ls hv hR hS => ?_⟩
      cases go
      exact vx_ret (W.zret hM.1 hM.2.1 (hM.2.2.2.2.2.1.trans hr) hx (xendq hR hS) hS.2.2 d hM.2.2.2.2.2.2.1)
    · cases hi
  · cases hi
theorem snd_aret {rt : FieldType} (d : decode cc pc = .ok (.areturn, 1)) (hr : ret = some rt) (hrt : (∃ n, rt = .object n) ∨ ∃ t, rt = .array t) : Snd own nm cc nL ret hh pc i_aret := by
  intro D ev _ lv st h nx hi
  unfold i_aret at hi
  split at hi
  · rename_i x
    cases hi
    refine ⟨xle.rf, fun G p l e s m args below meth c h0 r hM h9 go H locs ls hv hR hS => ?_⟩
    cases go
    exact vx_ret (W.aret (v := xcv G (.ref x)) hM.1 hM.2.1 (hM.2.2.2.2.2.1.trans hr) hrt (xcv_rn hM.2.2.2.2.2.2.2.2.1.old x) (xendq (v := some (.ref x)) hR hS) hS.2.2 d hM.2.2.2.2.2.2.1)
  · cases hi
    refine ⟨xle.rf, fun G p l e s m args below meth c h0 r hM h9 go H locs ls hv hR hS => ?_⟩
    cases go
    exact vx_ret (W.aret (v := .null) hM.1 hM.2.1 (hM.2.2.2.2.2.1.trans hr) hrt (Or.inl rfl) (xendq (v := some .null) hR hS) hS.2.2 d hM.2.2.2.2.2.2.1)
  · cases hi
theorem snd_vret (d : decode cc pc = .ok (.return_, 1)) (hr : ret = none) : Snd own nm cc nL ret hh pc i_vret := by
  intro D ev _ lv st h nx hi
  unfold i_vret at hi
  split at hi
  · cases hi
    refine ⟨xle.rf, fun G p l e s m args below meth c h0 r hM h9 go H locs ls hv hR hS => ?_⟩
    cases go
    exact vx_ret (W.vret hM.1 hM.2.1 (hM.2.2.2.2.2.1.trans hr) (xendq (v := none) hR hS) hS.2.2 d hM.2.2.2.2.2.2.1)
  · cases hi
/-- what is thrown leaves the method -/
theorem xout {G : xG} {D : Nat} {p : Program} {l : Launch} {e : Env} {s : State} {m : MethodId} {args : Array Value} {below : List Frame} {meth : Method} {c : Code} {H : Heap} {locs : List Loc} {ls : Array Slot} {rest : List Value} {h0 h : xH} {a ci : Nat} {fs : Nat → Value} {w : vw_C} (hh0 : (tableOf hh).all (fun x => !covers x pc) = true)
    (hM : xMc G own nm cc nL ret hh p l s m args meth c h0) (hR : xRp G h s H) (hS : va_S (xfr G) s.heap H locs) (ha : 64 ≤ a) (h3 : h.1 a = some (.inr (ci, fs))) (hw : xcls[ci]? = some w) {cells slots : Nat} (hc : cells ≤ h.2.1 - h0.2.1) (hs : slots ≤ h.2.2 - h0.2.2) :
    vx_W p l e (xrm D (h.2.1 - h0.2.1) (h.2.2 - h0.2.2)) s m args below meth c H locs cells slots (vx_MQ below (xQc G (.inr a, h)) (xXC G (.inr a, h)) args s (h.2.1 - h0.2.1) (h.2.2 - h0.2.2) (xfr G)) (F0 m pc ls rest) (xadr G a) := by
  obtain ⟨r0, h1, cell, q1, q2, q3, q4⟩ := (hR.2.2.2.1 a _ ha h3).1
  have hK := hM.2.2.2.2.2.2.2.2.1.1
  have hxt := hM.2.2.2.2.2.2.2.2.2.1
  refine vx_out (E := w.1) (ce := cell) (fun x hx => ?_) hM.2.2.2.2.2.2.1 q1 q3 (by rw [q2]; exact (hK.1 ci _ hw).2.1) (fun t ht hvm => ⟨⟨a, ci, fs, w, rfl, ha, rfl, h3, hw, rfl⟩, by rw [ht]; exact hR.moved hvm, hS.F ht⟩) hS.2.2 hc hs
  rw [hxt] at hx
  have hz := List.all_eq_true.mp hh0 x hx
  cases hcv : covers x pc with
  | false => rfl
  | true => rw [hcv] at hz; cases hz
theorem snd_throw {cs : List Nat} (d : decode cc pc = .ok (.athrow, 1)) (hh0 : (tableOf hh).all (fun x => !covers x pc) = true) (hcs : ∀ c ∈ cs, c ≠ 22 ∧ ∃ w, xcls[c]? = some w) : Snd own nm cc nL ret hh pc (i_throw cs) := by
  intro D ev _ lv st h nx hi
  unfold i_throw at hi
  split at hi
  · rename_i a st
    obtain ⟨u, h1, h2⟩ := xOn_s hi
    cases h2
    obtain ⟨ci, fs, h3, hc⟩ := xckc_s h1
    obtain ⟨hn, w, hw⟩ := hcs ci hc
    refine ⟨xle.rf, fun G p l e s m args below meth c h0 r hM h9 go H locs ls hv hR hS => ?_⟩
    cases go
    have ha := xown hR h3 hn
    show W _ _ _ _ _ _ _ _ _ _ _ _ _ _ _ (F0 m pc ls (xcv G (.ref a) :: st.map (xcv G)))
    rw [xcv_own ha]
    exact vx_athrow hM.1 hM.2.1 d (xout hh0 hM hR hS ha h3 hw (Nat.le_refl _) (Nat.le_refl _))
  · cases hi
/-- behind a call -/
theorem xafter {G : xG} {p : Program} {l : Launch} {e : Env} {R : Room} {s : State} {m : MethodId} {args : Array Value} {below : List Frame} {meth : Method} {c : Code} {H : Heap} {locs : List Loc} {cells slots mc ms : Nat} {Q : State → Prop} {ls : Array Slot} {rest st0 : List Value} {r' : xR} {a : Array Value}
    (hrun : vx_Run p l e R s m args below meth c H locs cells slots mc ms (F0 m pc ls st0) rest (xQc G r' a) (xXC G r') (xfr G)) (hS : va_S (xfr G) s.heap H locs)
    (kk : ∀ (v : Option Value) (H1 : Heap) (locs1 : List Loc), r'.1 = .inl v → xRp G r'.2 s H1 → va_S (xfr G) s.heap H1 locs1 → W p l e R s m args below meth c H1 locs1 (cells + mc) (slots + ms) Q (F0 m (pc + 3) ls ((v.map (xcv G)).toList ++ rest)))
    (kx : ∀ (q ci : Nat) (fs : Nat → Value) (w : vw_C) (H1 : Heap) (locs1 : List Loc), r'.1 = .inr q → 64 ≤ q → r'.2.1 q = some (.inr (ci, fs)) → xcls[ci]? = some w → xRp G r'.2 s H1 → va_S (xfr G) s.heap H1 locs1 → vx_W p l e R s m args below meth c H1 locs1 (cells + mc) (slots + ms) Q (F0 m pc ls rest) (xadr G q)) :
    W p l e R s m args below meth c H locs cells slots Q (F0 m pc ls st0) := by
  intro T hT X
  rcases hrun T hT X with ⟨v, st₀, t, T', L, e0, X', hL, e1, e2, ⟨⟨v', hv', ho⟩, hRp, hF⟩, st⟩ | ⟨q, st₀, t, T', L, E, ce, e0, X', hL, e1, e2, ⟨⟨q', ci, fs, w, g1, g2, g3, g4, g5, g6⟩, hRp, hF⟩, hce, hcv, hcl, st⟩
  · cases ho
    obtain ⟨k1, k2, k3⟩ := vx_keep e0 e1 hS (fun q _ h => h) (fun q h => h) hL hF
    have hal : t.vm.Alike s.vm := by
      have := X'.warmed.alike
      rw [e2] at this
      exact this.symm
    obtain ⟨t2, a1, b1⟩ := kk v' T'.heap (locs ++ L) hv' (by rw [e1]; exact hRp.moved hal) k3 T' rfl X'
    exact ⟨t2, st t2 a1, b1⟩
  · obtain ⟨k1, k2, k3⟩ := vx_keep e0 e1 hS (fun q _ h => h) (fun q h => h) hL hF
    have hal : t.vm.Alike s.vm := by
      have := X'.warmed.alike
      rw [e2] at this
      exact this.symm
    subst g3
    obtain ⟨t2, a1, b1⟩ := kx q' ci fs w T'.heap (locs ++ L) g1 g2 g4 g5 (by rw [e1]; exact hRp.moved hal) k3 T' rfl X'
    exact ⟨t2, st.trans a1, b1⟩
/-- what a call comes to in the abstract machine -/
def xcn (n : Nat) (lv : xL) (rest : List Value) (r' : xR) (nx : xS ⊕ xR) : Prop := (∃ v h', r' = (.inl v, h') ∧ nx = .inl (n, lv, v.toList ++ rest, h')) ∨ (∃ q h', r' = (.inr q, h') ∧ nx = .inr (.inr q, h'))
theorem xBn_s {o : Option xR} {n : Nat} {lv : xL} {st : List Value} {nx : xS ⊕ xR} (h : xBn o n lv st = some nx) : ∃ r', o = some r' ∧ xcn n lv st r' nx := by
  match o, h with
  | some (.inl (some v), h'), h => cases h; exact ⟨_, rfl, Or.inl ⟨some v, h', rfl, rfl⟩⟩
  | some (.inr q, h'), h => cases h; exact ⟨_, rfl, Or.inr ⟨q, h', rfl, rfl⟩⟩
theorem xBvn_s {o : Option xR} {n : Nat} {lv : xL} {st : List Value} {nx : xS ⊕ xR} (h : xBvn o n lv st = some nx) : ∃ r', o = some r' ∧ xcn n lv st r' nx := by
  match o, h with
  | some (.inl none, h'), h => cases h; exact ⟨_, rfl, Or.inl ⟨none, h', rfl, rfl⟩⟩
  | some (.inr q, h'), h => cases h; exact ⟨_, rfl, Or.inr ⟨q, h', rfl, rfl⟩⟩
theorem xcn_h {n : Nat} {lv : xL} {rest : List Value} {r' : xR} {nx : xS ⊕ xR} (h : xcn n lv rest r' nx) : xnh nx = r'.2 := by
  rcases h with ⟨v, h', rfl, rfl⟩ | ⟨q, h', rfl, rfl⟩ <;> rfl
theorem xcn_le {G : xG} {D : Nat} {p : Program} {l : Launch} {e : Env} {s : State} {m : MethodId} {args : Array Value} {below : List Frame} {meth : Method} {c : Code} {h0 : xH} {r r' : xR} {n : Nat} {lv : xL} {rest : List Value} {nx : xS ⊕ xR} (h : xcn n lv rest r' nx) (go : xGo G D nL p l e s m args below meth c h0 r nx) : xle r'.2 r.2 := by
  rcases h with ⟨v, h', rfl, rfl⟩ | ⟨q, h', rfl, rfl⟩
  · exact go.1
  · cases go
    exact xle.rf
theorem xcall {G : xG} {D : Nat} {p : Program} {l : Launch} {e : Env} {s : State} {m : MethodId} {args : Array Value} {below : List Frame} {meth : Method} {c : Code} {H : Heap} {locs : List Loc} {ls : Array Slot} {st0 rest : List Value} {h0 h : xH} {r r' : xR} {a : Array Value} {lv : xL} {nx : xS ⊕ xR} (hh0 : (tableOf hh).all (fun x => !covers x pc) = true)
    (hM : xMc G own nm cc nL ret hh p l s m args meth c h0) (h9 : xle h0 h) (hle : xle h r'.2) (hS : va_S (xfr G) s.heap H locs) (hv : lv_has ls nL (xlv G lv))
    (hrun : vx_Run p l e (xrm D (r.2.2.1 - h0.2.1) (r.2.2.2 - h0.2.2)) s m args below meth c H locs (h.2.1 - h0.2.1) (h.2.2 - h0.2.2) (r'.2.2.1 - h.2.1) (r'.2.2.2 - h.2.2) (F0 m pc ls st0) (rest.map (xcv G)) (xQc G r' a) (xXC G r') (xfr G))
    (hnx : xcn (pc + 3) lv rest r' nx) (go : xGo G D nL p l e s m args below meth c h0 r nx) :
    W p l e (xrm D (r.2.2.1 - h0.2.1) (r.2.2.2 - h0.2.2)) s m args below meth c H locs (h.2.1 - h0.2.1) (h.2.2 - h0.2.2) (vx_MQ below (xQc G r) (xXC G r) args s (r.2.2.1 - h0.2.1) (r.2.2.2 - h0.2.2) (xfr G)) (F0 m pc ls st0) := by
  have q1 := h9.1
  have q2 := h9.2
  have q3 := hle.1
  have q4 := hle.2
  refine xafter hrun hS (fun v H1 locs1 g1 g2 g3 => ?_) (fun q ci fs w H1 locs1 g1 g2 g3 g4 g5 g6 => ?_)
  · rcases hnx with ⟨v', h', rfl, rfl⟩ | ⟨q, h', rfl, rfl⟩
    · cases g1
      have k0 := go.2 H1 locs1 ls hv g2 g3
      have e1 : (v.toList ++ rest).map (xcv G) = (v.map (xcv G)).toList ++ rest.map (xcv G) := by cases v <;> rfl
      have k1 : W p l e _ s m args below meth c H1 locs1 (h'.2.1 - h0.2.1) (h'.2.2 - h0.2.2) _ (F0 m (pc + 3) ls ((v.toList ++ rest).map (xcv G))) := k0
      rw [e1] at k1
      dsimp only at q3 q4
      exact W_num (by dsimp only; omega) (by dsimp only; omega) k1
    · cases g1
  · rcases hnx with ⟨v', h', rfl, rfl⟩ | ⟨q', h', rfl, rfl⟩
    · cases g1
    · cases g1
      cases go
      dsimp only at q3 q4
      exact xout hh0 hM g5 g6 g2 g3 g4 (by dsimp only; omega) (by dsimp only; omega)
theorem xblind (G : xG) (as : List Value) (h : xH) : FrameBlind (xPc G as h) := by
  rintro a U g mk ⟨e1, hR, hK⟩
  exact ⟨e1, xRp.moved (U := U.calling g mk a) (Vm.Alike.refl U.vm) hR, xKn.warm (U := U.calling g mk a) (State.WarmedH.refl U) hK⟩
theorem xpre {G : xG} {s : State} {H : Heap} {locs : List Loc} {h : xH} (as : List Value) (hK : xKn G s s.heap) (hR : xRp G h s H) (hS : va_S (xfr G) s.heap H locs) : ∀ U : State, U.heap = H → s.WarmedH U.vm → xPc G as h (as.map (xcv G)).toArray U := by
  intro U hU hW
  refine ⟨rfl, by rw [hU]; exact hR.moved hW.alike, ?_⟩
  rw [hU]
  exact (hK.kept hS.2.1).warm hW
theorem xok4 {G : xG} {rest : List Value} (h : ok4 rest = true) : ((rest.map (xcv G)).map fun v => v.category).sum ≤ 8 := by
  have hc : ∀ v : Value, v.category ≤ 2 := fun v => by rcases lv_cat v with q | q <;> omega
  match rest, h with
  | [], _ => exact Nat.zero_le _
  | [a], _ =>
    have := hc (xcv G a)
    simp only [List.map_cons, List.map_nil, List.sum_cons, List.sum_nil]; omega
  | [a, b], _ =>
    have := hc (xcv G a); have := hc (xcv G b)
    simp only [List.map_cons, List.map_nil, List.sum_cons, List.sum_nil]; omega
  | [a, b, c], _ =>
    have := hc (xcv G a); have := hc (xcv G b); have := hc (xcv G c)
    simp only [List.map_cons, List.map_nil, List.sum_cons, List.sum_nil]; omega
  | [a, b, c, d], _ =>
    have := hc (xcv G a); have := hc (xcv G b); have := hc (xcv G c); have := hc (xcv G d)
    simp only [List.map_cons, List.map_nil, List.sum_cons, List.sum_nil]; omega
  | a :: b :: c :: d :: e :: l, h => exact Bool.noConfusion (show false = true from h)
theorem xstk {G : xG} {st : List Value} (na : Nat) : st.map (xcv G) = (((st.take na).reverse).map (xcv G)).reverse ++ (st.drop na).map (xcv G) := by
  rw [← List.map_reverse, List.reverse_reverse, ← List.map_append, List.take_append_drop]
theorem xroom {D mc ms maxL k n : Nat} (hL : maxL ≤ 40) : (xrm D mc ms).frames + 1 ≤ (xrm (D + 1) k n).frames ∧ 8 + (maxL + 11) + (xrm D mc ms).locals ≤ (xrm (D + 1) k n).locals := by
  unfold xrm
  dsimp only
  omega
end SND5
