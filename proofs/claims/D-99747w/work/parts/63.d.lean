set_option maxRecDepth 100000
section SND2
variable {own nm : String} {cc : ByteArray} {nL : Nat} {ret : Option FieldType} {hh : List (Nat × Nat × Nat × Nat)} {pc : Nat}
theorem va_P1 {D : va_G} {cl : List vw_C} {q : Nat × va_E} {H : Heap} (h : va_at D cl q H) : va_P D cl [q] H := by
  intro k x hx
  have hz : k < 1 := (List.getElem?_eq_some_iff.mp hx).1
  rw [show k = 0 by omega] at hx
  cases hx
  exact h
theorem xOn_s {α : Type} {o : Option α} {K : α → xN} {nx : xS ⊕ xR} (h : xOn o K = some nx) : ∃ v, o = some v ∧ K v = some nx := by
  cases o with
  | none => cases h
  | some v => exact ⟨v, rfl, h⟩
theorem xgf_s {h : xH} {a ci k : Nat} {v : Value} (e : xgf h a ci k = some v) : ∃ fs, h.1 a = some (.inr (ci, fs)) ∧ v = fs k := by
  unfold xgf at e
  split at e
  · rename_i c fs heq
    split at e
    · rename_i hc
      subst hc
      cases e
      exact ⟨fs, heq, rfl⟩
    · cases e
  · cases e
theorem xpf_s {h h' : xH} {a ci k : Nat} {v : Value} (e : xpf h a ci k v = some h') : ∃ fs, h.1 a = some (.inr (ci, fs)) ∧ 64 ≤ a ∧ h' = xset h a (.inr (ci, xuv fs k v)) := by
  unfold xpf at e
  split at e
  · rename_i c fs heq
    split at e
    · rename_i hc
      obtain ⟨h64, hc⟩ := hc
      subst hc
      cases e
      exact ⟨fs, heq, h64, rfl⟩
    · cases e
  · cases e
theorem xown {G : xG} {h : xH} {s : State} {H : Heap} {a ci : Nat} {fs : Nat → Value} (hR : xRp G h s H) (h3 : h.1 a = some (.inr (ci, fs))) (hc : ci ≠ 22) : 64 ≤ a := by
  rcases Nat.lt_or_ge a 64 with q | q
  · obtain ⟨b, -, -, hx, -⟩ := hR.2.2.2.2.1 a _ q h3
    exact absurd hx hc
  · exact q
theorem xnf_at {G : xG} {ci k N : Nat} {C : String} {T : u_T} {f : Nat → Value} (hc : xcls[ci]? = some (C, T, N)) (hk : k < N) : ((List.range (xnf ci)).map f)[k]? = some (f k) := by
  have : xnf ci = N := by unfold xnf; rw [hc]
  rw [this, List.getElem?_map, List.getElem?_range hk]
  rfl
theorem xsame {s : State} {args : Array Value} (hts : ∀ w ∈ lw_all, w.before args s = true) {ref : String} {t : String × String × String × Bool} (hs : ref = t.1 ∨ Cond.sameField ref t.1 t.2.1 t.2.2.1 ∈ lw_all) : ∀ x, s.fieldFound? t.1 t.2.1 t.2.2.1 = some x → s.fieldFound? ref t.2.1 t.2.2.1 = some x := by
  intro x hx
  rcases hs with rfl | h
  · exact hx
  · exact u_same (hts _ h) x hx
theorem snd_getf {index ci k N : Nat} {C ref : String} {T : u_T} (d : decode cc pc = .ok (.getfield index, 3)) (hc : xcls[ci]? = some (C, T, N)) (hk : k < N) (hin : ∀ w ∈ u_ws C T N, w ∈ lw_all)
    (hw : Cond.fieldLink own index ref (T k).2.1 (T k).2.2.1 ∈ lw_all ∨ ∃ host, Cond.fieldLinkNest own index ref (T k).2.1 (T k).2.2.1 host ∈ lw_tbl) (hs : ref = (T k).1 ∨ Cond.sameField ref (T k).1 (T k).2.1 (T k).2.2.1 ∈ lw_all) (h22 : ci ≠ 22) : Snd own nm cc nL ret hh pc (i_getf ci k (pc + 3)) := by
  intro D ev _ lv st h nx hi
  unfold i_getf at hi
  split at hi
  · rename_i a st
    obtain ⟨v, h1, h2⟩ := xOn_s hi
    cases h2
    refine ⟨xle.rf, fun G p l e s m args below meth c h0 r hM h9 go H locs ls hv hR hS => ?_⟩
    obtain ⟨fs, h3, rfl⟩ := xgf_s h1
    have ha : 64 ≤ a := xown hR h3 h22
    have hat := (hR.2.2.2.1 a _ ha h3).1
    have k0 := go.2 H locs ls hv hR hS
    show W _ _ _ _ _ _ _ _ _ _ _ _ _ _ _ (F0 m pc ls (xcv G (.ref a) :: st.map (xcv G)))
    rw [xcv_own ha]
    rcases hw with hw | ⟨host, hw⟩
    · exact va_get hM.1 hM.2.1 hM.2.2.2.2.1 hin hM.2.2.2.1 hM.2.2.2.2.2.2.2.2.1.1 (va_P1 hat) 0 rfl hc k hk (hM.2.2.2.2.1 _ hw) (xsame hM.2.2.2.2.1 hs) (xnf_at (G := G) hc hk) d k0
    · exact va_getN hM.1 hM.2.1 hM.2.2.2.2.1 hin hM.2.2.2.1 hM.2.2.2.2.2.2.2.2.1.1 (va_P1 hat) 0 rfl hc k hk (va_Nw.use rfl (hM.2.2.2.2.2.2.2.2.1.2.1.1 _ hw rfl)) (xsame hM.2.2.2.2.1 hs) (xnf_at (G := G) hc hk) d k0
  · cases hi
/-- a field of a String: one of ours, or a text of the program -/
theorem snd_getfS {index k : Nat} (d : decode cc pc = .ok (.getfield index, 3)) (hk : k < 2) (hw : Cond.fieldLink own index RJ5 (TJ5 k).2.1 (TJ5 k).2.2.1 ∈ lw_all) : Snd own nm cc nL ret hh pc (i_getf 22 k (pc + 3)) := by
  intro D ev _ lv st h nx hi
  unfold i_getf at hi
  split at hi
  · rename_i a st
    obtain ⟨v, h1, h2⟩ := xOn_s hi
    cases h2
    refine ⟨xle.rf, fun G p l e s m args below meth c h0 r hM h9 go H locs ls hv hR hS => ?_⟩
    obtain ⟨fs, h3, rfl⟩ := xgf_s h1
    have k0 := go.2 H locs ls hv hR hS
    show W _ _ _ _ _ _ _ _ _ _ _ _ _ _ _ (F0 m pc ls (xcv G (.ref a) :: st.map (xcv G)))
    have hT : (TJ5 k).1 = RJ5 := by
      rcases (show k = 0 ∨ k = 1 by omega) with rfl | rfl <;> rfl
    rcases Nat.lt_or_ge a 64 with q | ha
    · obtain ⟨b, g1, g2, -, g3, g4, g5⟩ := hR.2.2.2.2.1 a _ q h3
      have e1 : xcv G (.ref a) = .ref b := by
        show (if a < 64 then gO G a else _) = _
        rw [if_pos q, g1]
      rw [e1]
      obtain ⟨hof, hn⟩ : va_OF RJ5 (TJ5 k).2.1 (TJ5 k).2.2.1 (xcv G (fs k)) b (xfr G) s H ∧ True := by
        rcases (show k = 0 ∨ k = 1 by omega) with rfl | rfl
        · exact ⟨g4, trivial⟩
        · exact ⟨g5, trivial⟩
      obtain ⟨cf, kf, fi, f, cell, q1, q2, q3, q4, q5, q6⟩ := hof
      exact W.getf hM.1 hM.2.1 hM.2.2.2.1 (hM.2.2.2.2.1 _ hw) q1 q2 q3 q4 (v := xcv G (fs k)) q5 rfl rfl d k0
    · have hat := (hR.2.2.2.1 a _ ha h3).1
      rw [xcv_own ha]
      exact va_get hM.1 hM.2.1 hM.2.2.2.2.1 in_J5 hM.2.2.2.1 hM.2.2.2.2.2.2.2.2.1.1 (va_P1 hat) 0 rfl (show xcls[22]? = some (RJ5, TJ5, 4) from rfl) k (by omega) (hM.2.2.2.2.1 _ hw) (xsame hM.2.2.2.2.1 (Or.inl hT.symm)) (xnf_at (G := G) (show xcls[22]? = some (RJ5, TJ5, 4) from rfl) (by omega)) d k0
  · cases hi
theorem xfs_set {G : xG} {ci k N : Nat} {C : String} {T : u_T} {fs : Nat → Value} {v : Value} (hc : xcls[ci]? = some (C, T, N)) : ((List.range (xnf ci)).map (fun j => xcv G (fs j))).set k (xcv G v) = (List.range (xnf ci)).map (fun j => xcv G (xuv fs k v j)) := by
  refine List.ext_getElem? (fun i => ?_)
  rw [List.getElem?_set, List.getElem?_map, List.getElem?_map, List.length_map, List.length_range]
  by_cases hk : k = i
  · subst hk
    rw [if_pos rfl]
    by_cases hl : k < xnf ci
    · rw [if_pos hl, List.getElem?_range hl]
      show _ = some (xcv G (if k = k then v else fs k))
      rw [if_pos rfl]
    · rw [if_neg hl, List.getElem?_eq_none (by simpa using Nat.not_lt.mp hl)]
      rfl
  · rw [if_neg hk]
    cases hr : (List.range (xnf ci))[i]? with
    | none => rfl
    | some j =>
      have hj : j = i := by
        obtain ⟨h1, h2⟩ := List.getElem?_eq_some_iff.mp hr
        rw [← h2, List.getElem_range]
      subst hj
      show some (xcv G (fs j)) = some (xcv G (if j = k then v else fs j))
      rw [if_neg (Ne.symm hk)]
theorem xgood1_o (ci : Nat) (fs : Nat → Value) : xgood1 (.inr (ci, fs)) := And.intro (fun n f h => nomatch h) (And.intro (fun t n f h => nomatch h) (fun t n f h => nomatch h))
/-- how a field may be put: an own one; a final one in the constructor; a nest mate's -/
def xpm (own nm : String) (index : Nat) (ref : String) (t : String × String × String × Bool) : Prop :=
  (t.2.2.2 = false ∧ Cond.fieldLink own index ref t.2.1 t.2.2.1 ∈ lw_all) ∨ (t.2.2.2 = true ∧ t.1 = own ∧ nm = "<init>" ∧ Cond.fieldLink own index ref t.2.1 t.2.2.1 ∈ lw_all) ∨ (t.2.2.2 = false ∧ ∃ host, Cond.fieldLinkNest own index ref t.2.1 t.2.2.1 host ∈ lw_tbl)
theorem xput {G : xG} {p : Program} {l : Launch} {e : Env} {R : Room} {s : State} {m : MethodId} {args : Array Value} {below : List Frame} {meth : Method} {c : Code} {H : Heap} {locs : List Loc} {cells slots : Nat} {Q : State → Prop} {h0 h : xH} {ls : Array Slot} {rest : List Value}
    {index ci k N a : Nat} {C ref : String} {T : u_T} {fs : Nat → Value} {v : Value} (d : decode cc pc = .ok (.putfield index, 3)) (hc : xcls[ci]? = some (C, T, N)) (hk : k < N) (hin : ∀ w ∈ u_ws C T N, w ∈ lw_all) (ty0 : Nat → FieldType) (hty : ∀ k, k < N → parseFieldDescriptor (T k).2.2.1 = some (ty0 k)) (hnm : ∀ a, a < N → ∀ b, b < N → a ≠ b → (T a).2.1 ≠ (T b).2.1)
    (hw : xpm own nm index ref (T k)) (hs : ref = (T k).1 ∨ Cond.sameField ref (T k).1 (T k).2.1 (T k).2.2.1 ∈ lw_all) (hM : xMc G own nm cc nL ret hh p l s m args meth c h0) (hR : xRp G h s H) (hS : va_S (xfr G) s.heap H locs) (h3 : h.1 a = some (.inr (ci, fs))) (ha : 64 ≤ a) (hn : narrow (ty0 k) (xcv G v) = xcv G v) (hfit : fits (ty0 k) (xcv G v) = true)
    (go : ∀ (H1 : Heap) (locs1 : List Loc), xRp G (xset h a (.inr (ci, xuv fs k v))) s H1 → va_S (xfr G) s.heap H1 locs1 → W p l e R s m args below meth c H1 locs1 cells slots Q (F0 m (pc + 3) ls rest)) :
    W p l e R s m args below meth c H locs cells slots Q (F0 m pc ls (xcv G v :: .ref (xadr G a) :: rest)) := by
  obtain ⟨hx, hb, hml, hown, hts, hr, hlk, hnm0, hKn, hxt, hl, h64, hsz⟩ := hM
  have hK := hKn.1
  have hap := va_apart (own := own) hts hin ty0 hty hnm hK hc
  have hat := (hR.2.2.2.1 a _ ha h3).1
  obtain ⟨r0, h1, cell, q1, q2, q3, q4⟩ := hat
  have hr0 : r0 = (C, T, N) := Option.some.inj (h1.symm.trans hc)
  subst hr0
  obtain ⟨hSl, hfc, kC, hkC, hkind⟩ := hK.1 ci _ hc
  obtain ⟨cf, kf, fi, f, hi, hsl⟩ := hSl k hk
  have hlay := hts _ (hin _ (u_in_lay hk))
  have hst := (u_facts hfc hkC (u_lays hts hin hk) hi).1
  have hsm := xsame hts hs
  have hlen : k < ((List.range (xnf ci)).map (fun j => xcv G (fs j))).length := by
    rw [List.length_map, List.length_range]
    show k < (match xcls[ci]? with | some q => q.2.2 | none => 0)
    rw [hc]
    exact hk
  have fin : ∀ H' : Heap, H'[xadr G a]? = some (cell.setSlot ((gD G).2 ci k) (xcv G v)) → H'.size = H.size → (∀ q, q ≠ xadr G a → H'[q]? = H[q]?) → W p l e R s m args below meth c H' (locs ++ [⟨xadr G a, (gD G).2 ci k⟩]) cells slots Q (F0 m (pc + 3) ls rest) := by
    intro H' e1 e2 e3
    refine go H' _ (hR.set ha h3 ⟨(C, T, N), hc, ?_⟩ (xgood1_o _ _) e2 e3) (hS.put e2 e3 (show gS G ≤ xadr G a by unfold xadr; omega))
    rw [← xfs_set (C := C) (T := T) (N := N) hc]
    exact t_OB.to (V := updV (vp_V ((List.range (xnf ci)).map (fun j => xcv G (fs j)))) k (xcv G v)) ⟨_, e1, q2, q3, t_set q4 hap hk (xcv G v)⟩ (fun j _ => vp_updV_set hlen (xcv G v) j)
  rcases hw with ⟨hfin, hw⟩ | ⟨hfin, hdecl, hin2, hw⟩ | ⟨hfin, host, hw⟩
  · unfold u_lay at hlay
    rw [if_neg (by rw [hfin]; decide)] at hlay
    have h6 := u_store hfc hkC hkind hlay hi (hty k hk) hn hfit
    refine W.putK hx hb (f := f) ⟨hown, hts _ hw, ⟨_, _, _, hsm _ hi⟩, hst⟩ (by rw [q2]; exact h6) q1 q3 (by rw [hsl]; exact k2_hasslot (q4 k hk)) rfl rfl d fun H' e1 e2 e3 => ?_
    rw [hsl] at e1 ⊢
    exact fin H' e1 e2 e3
  · unfold u_lay at hlay
    rw [if_pos hfin] at hlay
    have hcf : m.cls = cf := by
      obtain ⟨_, _, c', _, _, _, -, -, hf', -, -, -, hown2, -⟩ := Cond.laysFinal_spec hlay
      have e1 : c' = cf := by have := hi.symm.trans hf'; simp at this; exact this.1.symm
      rw [hdecl] at hown2
      rw [← e1]; exact Option.some.inj (hown.symm.trans hown2)
    have h6 := u_fits hfc hkC hkind (Or.inr hlay) hi (hty k hk) hn hfit
    refine W.putFinK hx hb hown (hts _ hw) (hsm _ hi) hst hcf (hnm0.trans hin2) (by rw [q2]; exact h6) q1 q3 (by rw [hsl]; exact k2_hasslot (q4 k hk)) rfl rfl d fun H' e1 e2 e3 => ?_
    rw [hsl] at e1 ⊢
    exact fin H' e1 e2 e3
  · unfold u_lay at hlay
    rw [if_neg (by rw [hfin]; decide)] at hlay
    have h6 := u_store hfc hkC hkind hlay hi (hty k hk) hn hfit
    refine va_WputK hx hb (f := f) hown (va_Nw.use rfl (hKn.2.1.1 _ hw rfl)) (hsm _ hi) hst (by rw [q2]; exact h6) q1 q3 (by rw [hsl]; exact k2_hasslot (q4 k hk)) rfl rfl d fun H' e1 e2 e3 => ?_
    rw [hsl] at e1 ⊢
    exact fin H' e1 e2 e3
def xcat (ci : Nat) (q : vw_C) : Prop := xcls[ci]? = some q
theorem snd_putfi {index ci k N : Nat} {C ref : String} {T : u_T} (d : decode cc pc = .ok (.putfield index, 3)) (hc : xcls[ci]? = some (C, T, N)) (hk : k < N) (hin : ∀ w ∈ u_ws C T N, w ∈ lw_all) (ty0 : Nat → FieldType) (hty : ∀ k, k < N → parseFieldDescriptor (T k).2.2.1 = some (ty0 k)) (hnm : ∀ a, a < N → ∀ b, b < N → a ≠ b → (T a).2.1 ≠ (T b).2.1) (hw : xpm own nm index ref (T k)) (hs : ref = (T k).1 ∨ Cond.sameField ref (T k).1 (T k).2.1 (T k).2.2.1 ∈ lw_all) (hti : ty0 k = .int) : Snd own nm cc nL ret hh pc (i_putfi ci k (pc + 3)) := by
  intro D ev _ lv st h nx hi
  unfold i_putfi at hi
  split at hi
  · rename_i x a st
    obtain ⟨h', h1, h2⟩ := xOn_s hi
    cases h2
    obtain ⟨fs, h3, ha, rfl⟩ := xpf_s h1
    refine ⟨xle.rf, fun G p l e s m args below meth c h0 r hM h9 go H locs ls hv hR hS => ?_⟩
    show W _ _ _ _ _ _ _ _ _ _ _ _ _ _ _ (F0 m pc ls (xcv G (.int x) :: xcv G (.ref a) :: st.map (xcv G)))
    rw [xcv_own ha]
    exact xput d hc hk hin ty0 hty hnm hw hs hM hR hS h3 ha (by rw [hti]; rfl) (by rw [hti]; rfl) (fun H1 locs1 g1 g2 => go.2 H1 locs1 ls hv g1 g2)
  · cases hi
theorem snd_putfl {index ci k N : Nat} {C ref : String} {T : u_T} (d : decode cc pc = .ok (.putfield index, 3)) (hc : xcls[ci]? = some (C, T, N)) (hk : k < N) (hin : ∀ w ∈ u_ws C T N, w ∈ lw_all) (ty0 : Nat → FieldType) (hty : ∀ k, k < N → parseFieldDescriptor (T k).2.2.1 = some (ty0 k)) (hnm : ∀ a, a < N → ∀ b, b < N → a ≠ b → (T a).2.1 ≠ (T b).2.1) (hw : xpm own nm index ref (T k)) (hs : ref = (T k).1 ∨ Cond.sameField ref (T k).1 (T k).2.1 (T k).2.2.1 ∈ lw_all) (hti : ty0 k = .long) : Snd own nm cc nL ret hh pc (i_putfl ci k (pc + 3)) := by
  intro D ev _ lv st h nx hi
  unfold i_putfl at hi
  split at hi
  · rename_i x a st
    obtain ⟨h', h1, h2⟩ := xOn_s hi
    cases h2
    obtain ⟨fs, h3, ha, rfl⟩ := xpf_s h1
    refine ⟨xle.rf, fun G p l e s m args below meth c h0 r hM h9 go H locs ls hv hR hS => ?_⟩
    show W _ _ _ _ _ _ _ _ _ _ _ _ _ _ _ (F0 m pc ls (xcv G (.long x) :: xcv G (.ref a) :: st.map (xcv G)))
    rw [xcv_own ha]
    exact xput d hc hk hin ty0 hty hnm hw hs hM hR hS h3 ha (by rw [hti]; rfl) (by rw [hti]; rfl) (fun H1 locs1 g1 g2 => go.2 H1 locs1 ls hv g1 g2)
  · cases hi
theorem xnarf {ty : FieldType} (ht : (∃ C, ty = .object C) ∨ ∃ t, ty = .array t) {u : Value} (hu : u = .null ∨ ∃ t, u = .ref t) : narrow ty u = u ∧ fits ty u = true := by
  rcases ht with ⟨C, rfl⟩ | ⟨t, rfl⟩ <;> rcases hu with rfl | ⟨a, rfl⟩ <;> exact ⟨rfl, rfl⟩
theorem snd_putfr {index ci k N : Nat} {C ref : String} {T : u_T} (d : decode cc pc = .ok (.putfield index, 3)) (hc : xcls[ci]? = some (C, T, N)) (hk : k < N) (hin : ∀ w ∈ u_ws C T N, w ∈ lw_all) (ty0 : Nat → FieldType) (hty : ∀ k, k < N → parseFieldDescriptor (T k).2.2.1 = some (ty0 k)) (hnm : ∀ a, a < N → ∀ b, b < N → a ≠ b → (T a).2.1 ≠ (T b).2.1) (hw : xpm own nm index ref (T k)) (hs : ref = (T k).1 ∨ Cond.sameField ref (T k).1 (T k).2.1 (T k).2.2.1 ∈ lw_all) (hti : (∃ C, ty0 k = .object C) ∨ ∃ t, ty0 k = .array t) : Snd own nm cc nL ret hh pc (i_putfr ci k (pc + 3)) := by
  intro D ev _ lv st h nx hi
  unfold i_putfr at hi
  split at hi
  · rename_i x a st
    obtain ⟨h', h1, h2⟩ := xOn_s hi
    cases h2
    obtain ⟨fs, h3, ha, rfl⟩ := xpf_s h1
    refine ⟨xle.rf, fun G p l e s m args below meth c h0 r hM h9 go H locs ls hv hR hS => ?_⟩
    show W _ _ _ _ _ _ _ _ _ _ _ _ _ _ _ (F0 m pc ls (xcv G (.ref x) :: xcv G (.ref a) :: st.map (xcv G)))
    rw [xcv_own ha]
    have hz := xnarf hti (xcv_rn hM.2.2.2.2.2.2.2.2.1.old x)
    exact xput d hc hk hin ty0 hty hnm hw hs hM hR hS h3 ha hz.1 hz.2 (fun H1 locs1 g1 g2 => go.2 H1 locs1 ls hv g1 g2)
  · rename_i a st
    obtain ⟨h', h1, h2⟩ := xOn_s hi
    cases h2
    obtain ⟨fs, h3, ha, rfl⟩ := xpf_s h1
    refine ⟨xle.rf, fun G p l e s m args below meth c h0 r hM h9 go H locs ls hv hR hS => ?_⟩
    show W _ _ _ _ _ _ _ _ _ _ _ _ _ _ _ (F0 m pc ls (xcv G .null :: xcv G (.ref a) :: st.map (xcv G)))
    rw [xcv_own ha]
    have hz := xnarf hti (u := xcv G .null) (Or.inl rfl)
    exact xput d hc hk hin ty0 hty hnm hw hs hM hR hS h3 ha hz.1 hz.2 (fun H1 locs1 g1 g2 => go.2 H1 locs1 ls hv g1 g2)
  · cases hi
theorem snd_putfn {index ci k N : Nat} {C ref : String} {T : u_T} (d : decode cc pc = .ok (.putfield index, 3)) (hc : xcls[ci]? = some (C, T, N)) (hk : k < N) (hin : ∀ w ∈ u_ws C T N, w ∈ lw_all) (ty0 : Nat → FieldType) (hty : ∀ k, k < N → parseFieldDescriptor (T k).2.2.1 = some (ty0 k)) (hnm : ∀ a, a < N → ∀ b, b < N → a ≠ b → (T a).2.1 ≠ (T b).2.1) (hw : xpm own nm index ref (T k)) (hs : ref = (T k).1 ∨ Cond.sameField ref (T k).1 (T k).2.1 (T k).2.2.1 ∈ lw_all) {ty : FieldType} (hti : ty0 k = ty) : Snd own nm cc nL ret hh pc (i_putfn ty ci k (pc + 3)) := by
  intro D ev _ lv st h nx hi
  unfold i_putfn at hi
  split at hi
  · rename_i x a st
    obtain ⟨h', h1, h2⟩ := xOn_s hi
    cases h2
    split at h1
    · rename_i hz
      obtain ⟨fs, h3, ha, rfl⟩ := xpf_s h1
      refine ⟨xle.rf, fun G p l e s m args below meth c h0 r hM h9 go H locs ls hv hR hS => ?_⟩
      show W _ _ _ _ _ _ _ _ _ _ _ _ _ _ _ (F0 m pc ls (xcv G (.int x) :: xcv G (.ref a) :: st.map (xcv G)))
      rw [xcv_own ha]
      exact xput d hc hk hin ty0 hty hnm hw hs hM hR hS h3 ha (by rw [hti]; exact hz.1) (by rw [hti]; exact hz.2) (fun H1 locs1 g1 g2 => go.2 H1 locs1 ls hv g1 g2)
    · cases h1
  · cases hi
end SND2
