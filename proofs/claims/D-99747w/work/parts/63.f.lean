set_option maxRecDepth 100000
section SND4
variable {own nm : String} {cc : ByteArray} {nL : Nat} {ret : Option FieldType} {hh : List (Nat × Nat × Nat × Nat)} {pc : Nat}
theorem W_num {p : Program} {l : Launch} {e : Env} {R : Room} {s : State} {m : MethodId} {args : Array Value} {below : List Frame} {meth : Method} {c : Code} {H : Heap} {locs : List Loc} {k1 n1 k2 n2 : Nat} {Q : State → Prop} {g : JFrame} (hk : k2 = k1) (hn : n2 = n1) (h : W p l e R s m args below meth c H locs k1 n1 Q g) : W p l e R s m args below meth c H locs k2 n2 Q g := by
  subst hk; subst hn; exact h
theorem xle_new {h : xH} {e : xE} {n : Nat} : xle h (xnew h e n) := ⟨Nat.le_succ _, Nat.le_add_right _ _⟩
theorem xcv_dflt {G : xG} (ty : FieldType) : xcv G (defaultValue ty) = defaultValue ty := by cases ty <;> rfl
theorem snd_new {index ci N : Nat} {C : String} {T : u_T} {fs : Nat → Value} (d : decode cc pc = .ok (.new index, 3)) (hc : xcls[ci]? = some (C, T, N)) (hin : ∀ w ∈ u_ws C T N, w ∈ lw_all) (ty0 : Nat → FieldType) (hty : ∀ k, k < N → parseFieldDescriptor (T k).2.2.1 = some (ty0 k))
    (hz : ∀ k, k < N → fs k = defaultValue (ty0 k)) (hl : Cond.classLink own index C ∈ lw_all) (hi : Cond.instantiable C N ∈ lw_all) (hini : Cond.initialized C ∈ lw_all) : Snd own nm cc nL ret hh pc (i_new ci N fs (pc + 3)) := by
  intro D ev _ lv st h nx hi'
  cases hi'
  refine ⟨xle_new, fun G p l e s m args below meth c h0 r hM h9 go H locs ls hv hR hS => ?_⟩
  have hK := hM.2.2.2.2.2.2.2.2.1.1
  have hts := hM.2.2.2.2.1
  have hKn := hK.1 ci _ hc
  have g1 : h.2.1 + 1 ≤ r.2.2.1 := go.1.1
  have g2 : h.2.2 + N ≤ r.2.2.2 := go.1.2
  have g3 := h9.1
  have g4 := h9.2
  refine W.newcK hM.1 hM.2.1 hM.2.2.2.1 (hts _ hl) (hts _ hi) (hts _ hini) rfl d (show h.2.1 - h0.2.1 + 1 ≤ r.2.2.1 - h0.2.1 by omega) (show h.2.2 - h0.2.2 + N ≤ r.2.2.2 - h0.2.2 by omega) hKn.2.1 rfl fun H1 kC hkC e1 z1 o1 => ?_
  have hsz : H.size = xadr G h.2.1 := hR.2.1
  have hR1 : xRp G (xnew h (.inr (ci, fs)) N) s H1 := by
    refine hR.new ⟨(C, T, N), hc, ?_⟩ (xgood1_o _ _) z1 o1
    refine (u_born ty0 hts hin hKn hkC e1 hty).to (fun k hk => ?_)
    show defaultValue (ty0 k) = vp_V ((List.range (xnf ci)).map (fun k => xcv G (fs k))) k
    unfold vp_V
    rw [List.getD_eq_getElem?_getD, xnf_at (G := G) hc hk, hz k hk, xcv_dflt]
    rfl
  have k0 := go.2 H1 locs ls hv hR1 ⟨Nat.le_trans hS.1 (by omega), fun x q1 q2 => (o1 x (Nat.lt_of_lt_of_le q1 hS.1)).trans (hS.2.1 x q1 q2), hS.2.2⟩
  have e2 : xcv G (.ref h.2.1) = .ref H.size := by rw [xcv_own hR.1, hsz]
  have k1 : W p l e _ s m args below meth c H1 locs (h.2.1 + 1 - h0.2.1) (h.2.2 + N - h0.2.2) _ (F0 m (pc + 3) ls (xcv G (.ref h.2.1) :: st.map (xcv G))) := k0
  rw [e2] at k1
  exact W_num (by dsimp only; omega) (by dsimp only; omega) k1
theorem xcnt_s {x : Int32} {k : Nat} (e : xcnt x = some k) : ¬ x < 0 ∧ x.toNatClampNeg = k ∧ k ≤ 100000 := by
  unfold xcnt at e
  split at e
  · cases e
  · rename_i hq
    cases e
    exact ⟨fun z => hq (Or.inl z), rfl, Nat.not_lt.mp fun z => hq (Or.inr z)⟩
/-- a new array: its cell, beside the rest -/
theorem xnewa {G : xG} {p : Program} {l : Launch} {e : Env} {R : Room} {s : State} {m : MethodId} {args : Array Value} {below : List Frame} {meth : Method} {c : Code} {H H1 : Heap} {locs : List Loc} {cells slots : Nat} {Q : State → Prop} {h : xH} {ls : Array Slot} {rest : List Value}
    {t k : Nat} {z : xA} (hR : xRp G h s H) (hS : va_S (xfr G) s.heap H locs) (he : va_at (gD G) xcls (H.size, xce G (.inl (t, k, z))) H1) (hg : xgood1 (.inl (t, k, z))) (z1 : H1.size = H.size + 1) (o1 : ∀ q, q < H.size → H1[q]? = H[q]?)
    (go : xRp G (xnew h (.inl (t, k, z)) k) s H1 → va_S (xfr G) s.heap H1 locs → W p l e R s m args below meth c H1 locs cells slots Q (F0 m pc ls (xcv G (.ref h.2.1) :: rest))) : W p l e R s m args below meth c H1 locs cells slots Q (F0 m pc ls (.ref H.size :: rest)) := by
  have hsz : H.size = xadr G h.2.1 := hR.2.1
  have k0 := go (hR.new he hg z1 o1) ⟨Nat.le_trans hS.1 (by omega), fun x q1 q2 => (o1 x (Nat.lt_of_lt_of_le q1 hS.1)).trans (hS.2.1 x q1 q2), hS.2.2⟩
  rw [xcv_own hR.1, ← hsz] at k0
  exact k0
theorem snd_newa {t : Nat} {at_ : ArrayType} {z : xA} (d : decode cc pc = .ok (.newarray at_, 2)) (h8 : t < 8) (hty : newarray.typeOf at_ = xknd t) (hw : Cond.arrayClass (xknd t) ∈ lw_all) (hb8 : componentBytes (xknd t) ≤ 8) (hra : ∀ (G : xG) (U : State), va_RA U (gA G t) (xknd t) → U.vm.findClass ("[" ++ (xknd t).toString) = some (gA G t))
    (hz : ∀ (G : xG) (k : Nat), va_at (gD G) xcls (0, xce G (.inl (t, k, z))) #[arrV (gA G t) k (fun _ => defaultValue (xknd t))]) (hg : ∀ k, xgood1 (.inl (t, k, z))) : Snd own nm cc nL ret hh pc (i_newa t z (pc + 2)) := by
  intro D ev _ lv st h nx hi
  unfold i_newa at hi
  split at hi
  · rename_i x st
    obtain ⟨k, h1, h2⟩ := xOn_s hi
    cases h2
    obtain ⟨q1, q2, q3⟩ := xcnt_s h1
    refine ⟨xle_new, fun G p l e s m args below meth c h0 r hM h9 go H locs ls hv hR hS => ?_⟩
    have hK := hM.2.2.2.2.2.2.2.2.1.1
    have hts := hM.2.2.2.2.1
    have g1 : h.2.1 + 1 ≤ r.2.2.1 := go.1.1
    have g2 : h.2.2 + k ≤ r.2.2.2 := go.1.2
    have g3 := h9.1
    have g4 := h9.2
    have hb1 : k * componentBytes (newarray.typeOf at_) ≤ 536870912 := by
      rw [hty]
      exact Nat.le_trans (Nat.mul_le_mul q3 hb8) (by decide)
    refine va_newaK hM.1 hM.2.1 (by rw [hty]; exact hts _ hw) rfl d rfl q1 q2 hb1 (show h.2.1 - h0.2.1 + 1 ≤ r.2.2.1 - h0.2.1 by omega) (show h.2.2 - h0.2.2 + k ≤ r.2.2.2 - h0.2.2 by omega) rfl fun H1 cA e1 z1 o1 hAr hfc => ?_
    rw [hty] at e1 hfc
    have hcA : cA = gA G t := Option.some.inj (hfc.symm.trans (hra G s (hK.2 t _ (xtys_at G h8)).2))
    subst hcA
    refine W_num (k1 := h.2.1 + 1 - h0.2.1) (n1 := h.2.2 + k - h0.2.2) (by dsimp only; omega) (by dsimp only; omega) ?_
    refine xnewa (pc := pc + 2) (t := t) (k := k) (z := z) hR hS ?_ (hg k) z1 o1 (fun g5 g6 => go.2 H1 locs ls hv g5 g6)
    have hz1 := hz G k
    match z, hz1 with
    | .inl f, hz1 => exact e1.trans hz1
    | .inr (.inl f), hz1 => exact e1.trans hz1
    | .inr (.inr f), hz1 => exact e1.trans hz1
  · cases hi
theorem snd_anewa {t index : Nat} {C : String} (d : decode cc pc = .ok (.anewarray index, 3)) (h8 : t < 8) (hty : xknd t = .object C) (hw : Cond.classLink own index C ∈ lw_all) (hao : ∀ (G : xG) (s : State) (H : Heap), xKn G s H → va_AO C s) : Snd own nm cc nL ret hh pc (i_newa t (.inr (.inr (fun _ => none))) (pc + 3)) := by
  intro D ev _ lv st h nx hi
  unfold i_newa at hi
  split at hi
  · rename_i x st
    obtain ⟨k, h1, h2⟩ := xOn_s hi
    cases h2
    obtain ⟨q1, q2, q3⟩ := xcnt_s h1
    refine ⟨xle_new, fun G p l e s m args below meth c h0 r hM h9 go H locs ls hv hR hS => ?_⟩
    have hK := hM.2.2.2.2.2.2.2.2.1.1
    have hts := hM.2.2.2.2.1
    have g1 : h.2.1 + 1 ≤ r.2.2.1 := go.1.1
    have g2 : h.2.2 + k ≤ r.2.2.2 := go.1.2
    have g3 := h9.1
    have g4 := h9.2
    subst q2
    refine W.anew hM.1 hM.2.1 hM.2.2.2.1 (hts _ hw) (va_AO.use (hao G s _ hM.2.2.2.2.2.2.2.2.1)) rfl d rfl q1 (by omega) (show h.2.1 - h0.2.1 + 1 ≤ r.2.2.1 - h0.2.1 by omega) (show h.2.2 - h0.2.2 + _ ≤ r.2.2.2 - h0.2.2 by omega) fun cA kA comp f1 f2 f3 f4 => ?_
    have hra := (hK.2 t _ (xtys_at G h8)).2
    rw [hty] at hra
    obtain ⟨kA', comp', -, -, -, f5⟩ := hra
    have hcA : cA = gA G t := Option.some.inj (f1.symm.trans f5)
    subst hcA
    generalize hH1 : H.push ({ cls := gA G t, slots := Array.replicate x.toNatClampNeg .null, vm := .none } : Cell) = H1
    have z1 : H1.size = H.size + 1 := by rw [← hH1, Array.size_push]
    have e1 : H1[H.size]? = some (arrV (gA G t) x.toNatClampNeg (fun _ => .null)) := by rw [← hH1, Array.getElem?_push_size, ← arrV_new]
    have o1 : ∀ q : Nat, q < H.size → H1[q]? = H[q]? := fun q hq => by rw [← hH1, Array.getElem?_push, if_neg (Nat.ne_of_lt hq)]
    refine W_num (k1 := h.2.1 + 1 - h0.2.1) (n1 := h.2.2 + x.toNatClampNeg - h0.2.2) (by dsimp only; omega) (by dsimp only; omega) ?_
    refine xnewa (pc := pc + 3) (t := t) (k := x.toNatClampNeg) (z := .inr (.inr (fun _ => none))) hR hS e1 (And.intro (fun n f h' => nomatch h') (And.intro (fun t n f h' j y hy => ?_) (fun t n f h' => by cases h'; exact h8))) z1 o1 (fun g5 g6 => go.2 H1 locs ls hv g5 g6)
    cases h'
    cases hy
  · cases hi
/-- statics, texts -/
theorem snd_gets {C n dd : String} {index : Nat} {v : Value} (d : decode cc pc = .ok (.getstatic index, 3)) (hq : ∀ G, (C, n, dd, xcv G v) ∈ xstat G) (hw : Cond.fieldLink own index C n dd ∈ lw_all) : Snd own nm cc nL ret hh pc (i_const v (pc + 3)) := by
  intro D ev _ lv st h nx hi
  cases hi
  exact ⟨xle.rf, fun G p l e s m args below meth c h0 r hM h9 go H locs ls hv hR hS => va_gets hM.1 hM.2.1 (hM.2.2.2.2.2.2.2.2.1.2.2.2.2.2.1 _ (hq G)) hS hM.2.2.2.1 (hM.2.2.2.2.1 _ hw) (fun _ h => h) d (go.2 H locs ls hv hR hS)⟩
theorem snd_lit {index a : Nat} {tx : String} (d : decode cc pc = .ok (.ldc index, 2)) (ha : a < 64) (hq : (index, tx, a) ∈ xlits) (hown : own = "SwollenHouse$Reader") : Snd own nm cc nL ret hh pc (i_const (.ref a) (pc + 2)) := by
  intro D ev _ lv st h nx hi
  cases hi
  refine ⟨xle.rf, fun G p l e s m args below meth c h0 r hM h9 go H locs ls hv hR hS => ?_⟩
  obtain ⟨b, g1, g2⟩ := hM.2.2.2.2.2.2.2.2.1.2.2.2.2.1 _ hq
  have e1 : xcv G (.ref a) = .ref b := by
    show (if a < 64 then gO G a else _) = _
    rw [if_pos ha]
    exact g1
  have k0 : W p l e _ s m args below meth c H locs _ _ _ (F0 m (pc + 2) ls (xcv G (.ref a) :: st.map (xcv G))) := go.2 H locs ls hv hR hS
  rw [e1] at k0
  subst hown
  exact va_ldcS hM.1 hM.2.1 hM.2.2.2.1 g2 d k0
theorem snd_litw {index a : Nat} {tx : String} (d : decode cc pc = .ok (.ldc_w index, 3)) (ha : a < 64) (hq : (index, tx, a) ∈ xlits) (hown : own = "SwollenHouse$Reader") : Snd own nm cc nL ret hh pc (i_const (.ref a) (pc + 3)) := by
  intro D ev _ lv st h nx hi
  cases hi
  refine ⟨xle.rf, fun G p l e s m args below meth c h0 r hM h9 go H locs ls hv hR hS => ?_⟩
  obtain ⟨b, g1, g2⟩ := hM.2.2.2.2.2.2.2.2.1.2.2.2.2.1 _ hq
  have e1 : xcv G (.ref a) = .ref b := by
    show (if a < 64 then gO G a else _) = _
    rw [if_pos ha]
    exact g1
  have k0 : W p l e _ s m args below meth c H locs _ _ _ (F0 m (pc + 3) ls (xcv G (.ref a) :: st.map (xcv G))) := go.2 H locs ls hv hR hS
  rw [e1] at k0
  subst hown
  intro T hT X
  obtain ⟨t, a1, b1⟩ := k0 T hT X
  refine ⟨t, ?_, b1⟩
  obtain ⟨k, cf, i, a', hk, hcf, hcp, -, hr, hev'⟩ := Cond.stringRef_spec hM.2.2.2.1 g2.1
  cases g2.2.symm.trans hev'
  obtain ⟨k', hk', he⟩ := X.warmed.alike.2.2 _ _ hk
  have hr' : k'.resolved[index]? = some (some (.string b)) := by
    rcases X.warmed.entry hk hk' index with h | ⟨h, -⟩
    · rw [h]; exact hr
    · rw [hr] at h; cases h
  have hdg : decode c.code pc = .ok (.ldc_w index, 3) := by rw [hM.2.1]; exact d
  jvm_step X.here [hM.1, hdg, ldc_w.wp_string (e := e) (s := T) (f := F0 m pc ls (st.map (xcv G))) X.here.top hk' (by rw [he]; exact hcf) hcp hr']
  exact a1
theorem snd_mirror {index : Nat} (d : decode cc pc = .ok (.ldc index, 2)) (hw : Cond.classLink own index "[Ljava/lang/Object;" ∈ lw_all) : Snd own nm cc nL ret hh pc (i_const (.ref 23) (pc + 2)) := by
  intro D ev _ lv st h nx hi
  cases hi
  refine ⟨xle.rf, fun G p l e s m args below meth c h0 r hM h9 go H locs ls hv hR hS => ?_⟩
  obtain ⟨mi, g1, g2⟩ := hM.2.2.2.2.2.2.2.2.1.2.2.2.1
  have e1 : xcv G (.ref 23) = .ref mi := g1
  have k0 : W p l e _ s m args below meth c H locs _ _ _ (F0 m (pc + 2) ls (xcv G (.ref 23) :: st.map (xcv G))) := go.2 H locs ls hv hR hS
  rw [e1] at k0
  exact va_ldcM hM.1 hM.2.1 hM.2.2.2.1 (hM.2.2.2.2.1 _ hw) g2 d k0
/-- a place of an array of references -/
theorem snd_sq {t : Nat} {cs : List Nat} {E : String} (d : decode cc pc = .ok (.aastore, 1)) (h8 : t < 8) (hty : xknd t = .object E) (hcs : xcsok cs E) : Snd own nm cc nL ret hh pc (i_sq cs t (pc + 1)) := by
  intro D ev _ lv st h nx hi
  unfold i_sq at hi
  split at hi
  · rename_i v i a st
    obtain ⟨h', h1, h2⟩ := xOn_s hi
    cases h2
    unfold xsqc at h1
    split at h1
    · rename_i u hu
      split at h1
      · rename_i hv64
        obtain ⟨n, f, h3, ha, hin, rfl⟩ := xsq_s h1
        obtain ⟨ci, fs, h4, hc⟩ := xckc_s hu
        obtain ⟨q, hq, hT⟩ := hcs ci hc
        refine ⟨xle.rf, fun G p l e s m args below meth c h0 r hM h9 go H locs ls hv hR hS => ?_⟩
        have hKn := hM.2.2.2.2.2.2.2.2.1
        have hK := hKn.1
        obtain ⟨hat0, hgd⟩ := hR.2.2.2.1 a _ ha h3
        have hat : H[xadr G a]? = some (arrV (gA G t) n (fun j => va_rf ((f j).map (xadr G)))) := hat0
        have ht := hK.2 t _ (xtys_at G h8)
        rw [hty] at ht
        have hany : va_Any E s H (xadr G v) := by
          refine va_rAny (q0 := 0) hK (va_P1 (hR.2.2.2.1 v _ hv64 h4).1) rfl hq (fun comp c0 k1 k2 => ?_)
          rcases hT with rfl | hT
          · cases k1.symm.trans k2
            exact va_assign (hK.1 ci _ hq).2 |> fun z => by
              have z1 := (hK.1 ci _ hq).2.1
              cases k1.symm.trans z1
              exact z
          · obtain ⟨c1, t1, f1, f2, f3⟩ := Cond.castable_spec (va_Nw.use (A := args) rfl (hKn.2.1.1 _ hT rfl))
            cases k2.symm.trans f1
            cases k1.symm.trans f2
            exact f3
        obtain ⟨cellV, g1, g3, ⟨kC, hkC⟩, hasg⟩ := hany
        obtain ⟨kA, comp, k1, k2, k3, -⟩ := ht.2
        obtain ⟨kE, hkE, -⟩ := Vm.findClass_spec k3
        have hlt : i.toNatClampNeg < n := Nat.not_le.mp fun q => hin (Or.inr q)
        have hi0 : ¬ i < 0 := fun q => hin (Or.inl q)
        show W _ _ _ _ _ _ _ _ _ _ _ _ _ _ _ (F0 m pc ls (xcv G (.ref v) :: .int i :: xcv G (.ref a) :: st.map (xcv G)))
        rw [xcv_own ha, xcv_own hv64]
        refine W.aast hM.1 hM.2.1 hat (fun q h => by cases h) (fun h => by cases h) k1 k2 rfl hkE ⟨hi0, by show _ < (arrV _ _ _).slots.size; rw [arrV_size]; exact hlt⟩ g1 (fun q h => by rw [h] at g3; cases g3) hkC (hasg _ k3) rfl rfl d fun H1 e1 z oq => ?_
        refine go.2 H1 _ ls hv (hR.set ha h3 ?_ (And.intro (fun n f h' => nomatch h') (And.intro (fun t' n' f' h' j y hy => ?_) (fun t n f h' => by cases h'; exact h8))) z oq) (hS.put z oq (show gS G ≤ xadr G a by unfold xadr; omega))
        · show H1[xadr G a]? = some (vp_cell _ _)
          rw [e1]
          rw [vp_cell_q, arrV_store]
          congr 2
          funext q
          by_cases hq : q = i.toNatClampNeg
          · subst hq
            simp [updV, xuq, va_rf]
          · simp [updV, xuq, hq]
        · cases h'
          have hy' : (if j = i.toNatClampNeg then some v else f j) = some y := hy
          by_cases q : j = i.toNatClampNeg
          · rw [if_pos q] at hy'
            cases hy'
            exact hv64
          · rw [if_neg q] at hy'
            exact hgd.2.1 t n f rfl j y hy'
      · cases h1
    · cases h1
  · rename_i i a st
    obtain ⟨h', h1, h2⟩ := xOn_s hi
    cases h2
    obtain ⟨n, f, h3, ha, hin, rfl⟩ := xsq_s h1
    refine ⟨xle.rf, fun G p l e s m args below meth c h0 r hM h9 go H locs ls hv hR hS => ?_⟩
    have hK := hM.2.2.2.2.2.2.2.2.1.1
    obtain ⟨hat0, hgd⟩ := hR.2.2.2.1 a _ ha h3
    have hat : H[xadr G a]? = some (arrV (gA G t) n (fun j => va_rf ((f j).map (xadr G)))) := hat0
    have ht := hK.2 t _ (xtys_at G h8)
    rw [hty] at ht
    show W _ _ _ _ _ _ _ _ _ _ _ _ _ _ _ (F0 m pc ls (.null :: .int i :: xcv G (.ref a) :: st.map (xcv G)))
    rw [xcv_own ha]
    refine va_WaastN (C := E) hM.1 hM.2.1 hat (ht.1 n (fun j => va_rf ((f j).map (xadr G)))) (fun h => by cases h) (by show ¬ (i < 0 ∨ (arrV _ _ _).slots.size ≤ _); rw [arrV_size]; exact hin) rfl rfl d fun H1 e1 z oq => ?_
    refine go.2 H1 _ ls hv (hR.set ha h3 ?_ (And.intro (fun n f h' => nomatch h') (And.intro (fun t' n' f' h' j y hy => ?_) (fun t n f h' => by cases h'; exact h8))) z oq) (hS.put z oq (show gS G ≤ xadr G a by unfold xadr; omega))
    · show H1[xadr G a]? = some (vp_cell _ _)
      rw [e1]
      rw [vp_cell_q, arrV_store]
      congr 2
      funext q
      by_cases hq : q = i.toNatClampNeg
      · subst hq
        simp [updV, xuq, va_rf]
      · simp [updV, xuq, hq]
    · cases h'
      have hy' : (if j = i.toNatClampNeg then none else f j) = some y := hy
      by_cases q : j = i.toNatClampNeg
      · rw [if_pos q] at hy'
        cases hy'
      · rw [if_neg q] at hy'
        exact hgd.2.1 t n f rfl j y hy'
  · cases hi
end SND4
