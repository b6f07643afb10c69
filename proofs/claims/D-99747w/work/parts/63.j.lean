set_option maxRecDepth 100000
section SND8
variable {own nm : String} {cc : ByteArray} {nL : Nat} {ret : Option FieldType} {hh : List (Nat × Nat × Nat × Nat)} {pc : Nat}
theorem xkd_s {h : xH} {t a : Nat} {u : Unit} (e : xkd h t a = some u) : ∃ n z, h.1 a = some (.inl (t, n, z)) := by
  unfold xkd at e
  split at e
  · rename_i t' n z heq
    split at e
    · rename_i hc
      subst hc
      exact ⟨n, z, heq⟩
    · cases e
  · cases e
theorem xarr_cell {G : xG} {h : xH} {s : State} {H : Heap} {a t n : Nat} {z : xA} (hR : xRp G h s H) (ha : 64 ≤ a) (h3 : h.1 a = some (.inl (t, n, z))) : ∃ x : vp_A, xce G (.inl (t, n, z)) = .inl (gA G t, x) ∧ H[xadr G a]? = some (vp_cell (gA G t) x) := by
  have hat := (hR.2.2.2.1 a _ ha h3).1
  match z, hat with
  | .inl f, hat => exact ⟨_, rfl, hat⟩
  | .inr (.inl f), hat => exact ⟨_, rfl, hat⟩
  | .inr (.inr f), hat => exact ⟨_, rfl, hat⟩
theorem snd_castB {index : Nat} (d : decode cc pc = .ok (.checkcast index, 3)) (hlk : Cond.classLink own index "[B" ∈ lw_all) : Snd own nm cc nL ret hh pc (i_castB (pc + 3)) := by
  intro D ev _ lv st h nx hi
  unfold i_castB at hi
  split at hi
  · rename_i a st
    obtain ⟨u, h1, h2⟩ := xOn_s hi
    cases h2
    obtain ⟨n, z, h3⟩ := xkd_s h1
    refine ⟨xle.rf, fun G p l e s m args below meth c h0 r hM h9 go H locs ls hv hR hS => ?_⟩
    have hK := hM.2.2.2.2.2.2.2.2.1.1
    have k0 : W p l e _ s m args below meth c H locs _ _ _ (F0 m (pc + 3) ls (xcv G (.ref a) :: st.map (xcv G))) := go.2 H locs ls hv hR hS
    show W _ _ _ _ _ _ _ _ _ _ _ _ _ _ _ (F0 m pc ls (xcv G (.ref a) :: st.map (xcv G)))
    have hnm : s.vm.findClass "[B" = some (gA G 1) := (hK.2 1 (gA G 1, .byte) rfl).2
    rcases Nat.lt_or_ge a 64 with q | ha
    · match z, hR.2.2.2.2.1 a _ q h3 with
      | .inl f, ⟨b, g1, g2, z0, q1, q2, q3, q4, q5, q6, q7, q8⟩ =>
        have e1 : xcv G (.ref a) = .ref b := by
          show (if a < 64 then gO G a else _) = _
          rw [if_pos q, g1]
        rw [e1] at k0 ⊢
        exact va_castE hM.1 hM.2.1 hM.2.2.2.1 (hM.2.2.2.2.1 _ hlk) ⟨z0, q1, (q8 rfl).2, (q8 rfl).1⟩ d k0
      | .inr (.inr f), ⟨b, g1, g2, z0, q1, q2, q3, q4, q5, q6, q7, q8⟩ => cases q8
    · obtain ⟨x, e1, e2⟩ := xarr_cell hR ha h3
      rw [xcv_own ha] at k0 ⊢
      exact va_castA hM.1 hM.2.1 hM.2.2.2.1 (hM.2.2.2.2.1 _ hlk) (va_P1 (q := (xadr G a, .inl (gA G 1, x))) (D := gD G) (cl := xcls) e2) 0 rfl hnm d k0
  · cases hi
theorem snd_getC {index : Nat} (d : decode cc pc = .ok (.invokevirtual index, 3)) (hlk : Cond.methodLink own index ⟨"java/lang/Object", "getClass", "()Ljava/lang/Class;"⟩ ∈ lw_all) (hdc : Cond.declares ⟨"java/lang/Object", "getClass", "()Ljava/lang/Class;"⟩ ∈ lw_tbl) (hsel : Cond.selects "[Ljava/lang/Object;" ⟨"java/lang/Object", "getClass", "()Ljava/lang/Class;"⟩ ⟨"java/lang/Object", "getClass", "()Ljava/lang/Class;"⟩ ∈ lw_all) (hin : Cond.instanceMethod ⟨"java/lang/Object", "getClass", "()Ljava/lang/Class;"⟩ ∈ lw_all) (hnat : Cond.native ⟨"java/lang/Object", "getClass", "()Ljava/lang/Class;"⟩ ∈ lw_all) : Snd own nm cc nL ret hh pc (i_getC (pc + 3)) := by
  intro D ev _ lv st h nx hi
  unfold i_getC at hi
  split at hi
  · rename_i a st
    split at hi
    · rename_i hok
      obtain ⟨u, h1, h2⟩ := xOn_s hi
      cases h2
      obtain ⟨n, z, h3⟩ := xkd_s h1
      refine ⟨xle.rf, fun G p l e s m args below meth c h0 r hM h9 go H locs ls hv hR hS => ?_⟩
      have hKn := hM.2.2.2.2.2.2.2.2.1
      have hK := hKn.1
      have hts := hM.2.2.2.2.1
      have h8 := xok4 (G := G) hok
      obtain ⟨mi, m1, m2⟩ := hKn.2.2.2.1
      have k0 : W p l e _ s m args below meth c H locs _ _ _ (F0 m (pc + 3) ls (gO G 23 :: st.map (xcv G))) := go.2 H locs ls hv hR hS
      rw [m1] at k0
      show W _ _ _ _ _ _ _ _ _ _ _ _ _ _ _ (F0 m pc ls (xcv G (.ref a) :: st.map (xcv G)))
      have hcell : ∃ t, xcv G (.ref a) = .ref t ∧ ∃ cell : Cell, H[t]? = some cell ∧ cell.vm.isStatics = false ∧ s.vm.findClass "[Ljava/lang/Object;" = some cell.cls := by
        rcases Nat.lt_or_ge a 64 with q | ha
        · match z, hR.2.2.2.2.1 a _ q h3 with
          | .inl f, ⟨b, g1, g2, z0, q1, q2, q3, q4, q5, q6, q7, q8⟩ => exact absurd q7 (by decide)
          | .inr (.inr f), ⟨b, g1, g2, z0, q1, q2, q3, q4, q5, q6, q7, q8⟩ =>
            refine ⟨b, ?_, z0, q1, q4, q7⟩
            show (if a < 64 then gO G a else _) = _
            rw [if_pos q, g1]
        · obtain ⟨x, e1, e2⟩ := xarr_cell hR ha h3
          refine ⟨_, xcv_own ha, _, e2, ?_, ?_⟩
          · obtain ⟨n, f | f | f | f | f⟩ := x <;> rfl
          · have hra := va_nmO (nm := "[Ljava/lang/Object;") (hK.2 4 (gA G 4, .object "java/lang/Object") rfl).2 rfl
            obtain ⟨n, f | f | f | f | f⟩ := x <;> exact hra
      obtain ⟨t, e1, hcell⟩ := hcell
      rw [e1]
      exact va_getC hM.1 hM.2.1 (hM.2.2.1.trans hv.1.symm) hM.2.2.2.1 (hts _ hlk) (va_Nw.use rfl (hKn.2.1.1 _ hdc rfl)) (hts _ hsel) (hts _ hin) (hts _ hnat) m2 hcell (by show 1 ≤ D + 1 + 16; omega) (by show _ + 14 ≤ 64 * (D + 1 + 16); omega) d k0
    · cases hi
  · cases hi
theorem xaeq_s {G : xG} {s : State} {H : Heap} (hK : xKn G s H) {a b : Nat} {q : Bool} (e : xaeq a b = some q) : ∃ rx ry, xcv G (.ref a) = va_rf rx ∧ xcv G (.ref b) = va_rf ry ∧ (rx = ry ↔ q = true) := by
  have hval : ∀ x, ∃ r, xcv G (.ref x) = va_rf r ∧ (64 ≤ x → r = some (xadr G x)) ∧ (x < 64 → gO G x = va_rf r) := by
    intro x
    rcases Nat.lt_or_ge x 64 with z | z
    · have e1 : xcv G (.ref x) = gO G x := if_pos z
      rcases hK.old x z with y | ⟨t, y⟩
      · exact ⟨none, by rw [e1, y]; rfl, fun w => absurd w (Nat.not_le.mpr z), fun _ => by rw [y]; rfl⟩
      · exact ⟨some t, by rw [e1, y]; rfl, fun w => absurd w (Nat.not_le.mpr z), fun _ => by rw [y]; rfl⟩
    · exact ⟨some (xadr G x), xcv_own z, fun _ => rfl, fun w => absurd w (Nat.not_lt.mpr z)⟩
  obtain ⟨rx, x1, x2, x3⟩ := hval a
  obtain ⟨ry, y1, y2, y3⟩ := hval b
  refine ⟨rx, ry, x1, y1, ?_⟩
  have inj : ∀ r r' : Option Nat, va_rf r = va_rf r' → r = r' := by
    intro r r' h
    cases r <;> cases r' <;> first | rfl | cases h | skip
    · rfl
  unfold xaeq at e
  split at e
  · rename_i hlt
    split at e
    · rename_i hab
      cases e
      subst hab
      have : rx = ry := inj _ _ (x1.symm.trans y1)
      simp [this]
    · rename_i hab
      split at e
      · rename_i h122
        obtain ⟨rfl, rfl⟩ := h122
        cases e
        obtain ⟨t, t1, u, u1, hne⟩ := hK.2.2.2.2.2.2.2.2.2.2.1
        have hx := (x3 hlt.1).symm.trans t1
        have hy := (y3 hlt.2).symm.trans u1
        have hx' : rx = some t := inj _ (some t) hx
        have hy' : ry = some u := inj _ (some u) hy
        subst hx'; subst hy'
        simp [hne]
      · cases e
  · rename_i hlt
    split at e
    · cases e
    · rename_i ha
      split at e
      · cases e
      · rename_i hb
        cases e
        have hfin : rx = ry ↔ a = b := by
          constructor
          · intro h
            rcases Nat.lt_or_ge a 64 with z | z
            · have hb64 : 64 ≤ b := by omega
              have hy := y2 hb64
              subst hy
              subst h
              have h1 := x3 z
              rcases hK.2.2.2.2.2.2.2.2.2.2.2 a z with w | ⟨t, w, w2⟩
              · rw [w] at h1
                cases h1
              · rw [w] at h1
                cases h1
                have := w2 (by omega)
                unfold xadr at this
                exact absurd this (Nat.not_lt.mpr (Nat.le_add_right _ _))
            · have hx := x2 z
              subst hx
              rcases Nat.lt_or_ge b 64 with y | y
              · have h1 := y3 y
                rw [← h] at h1
                rcases hK.2.2.2.2.2.2.2.2.2.2.2 b y with w | ⟨t, w, w2⟩
                · rw [w] at h1
                  cases h1
                · rw [w] at h1
                  cases h1
                  have := w2 (by omega)
                  unfold xadr at this
                  exact absurd this (Nat.not_lt.mpr (Nat.le_add_right _ _))
              · have hy := y2 y
                rw [hy] at h
                exact xadr_inj z y (Option.some.inj h)
          · rintro rfl
            exact inj _ _ (x1.symm.trans y1)
        rw [hfin]
        simp
theorem snd_acmp_eq {off : Int} {t : Nat} (d : decode cc pc = .ok (.if_acmp .eq off, 3)) (ht : (pc : Int) + off = (t : Int)) : Snd own nm cc nL ret hh pc (i_acmp true t (pc + 3)) := by
  intro D ev _ lv st h nx hi
  unfold i_acmp at hi
  split at hi
  · rename_i b a st
    obtain ⟨q, h1, h2⟩ := xOn_s hi
    cases h2
    refine ⟨xle.rf, fun G p l e s m args below meth c h0 r hM h9 go H locs ls hv hR hS => ?_⟩
    obtain ⟨rx, ry, e1, e2, hq⟩ := xaeq_s hM.2.2.2.2.2.2.2.2.1 h1
    have k0 := go.2 H locs ls hv hR hS
    show W _ _ _ _ _ _ _ _ _ _ _ _ _ _ _ (F0 m pc ls (xcv G (.ref b) :: xcv G (.ref a) :: st.map (xcv G)))
    rw [e1, e2]
    refine lv_acmp_eq hM.1 hM.2.1 d ht (fun z => ?_) (fun z => ?_)
    · have := hq.mp z
      subst this
      exact k0
    · have : q = false := by cases q with | false => rfl | true => exact absurd (hq.mpr rfl) z
      subst this
      exact k0
  · cases hi
theorem snd_acmp_ne {off : Int} {t : Nat} (d : decode cc pc = .ok (.if_acmp .ne off, 3)) (ht : (pc : Int) + off = (t : Int)) : Snd own nm cc nL ret hh pc (i_acmp false t (pc + 3)) := by
  intro D ev _ lv st h nx hi
  unfold i_acmp at hi
  split at hi
  · rename_i b a st
    obtain ⟨q, h1, h2⟩ := xOn_s hi
    cases h2
    refine ⟨xle.rf, fun G p l e s m args below meth c h0 r hM h9 go H locs ls hv hR hS => ?_⟩
    obtain ⟨rx, ry, e1, e2, hq⟩ := xaeq_s hM.2.2.2.2.2.2.2.2.1 h1
    have k0 := go.2 H locs ls hv hR hS
    show W _ _ _ _ _ _ _ _ _ _ _ _ _ _ _ (F0 m pc ls (xcv G (.ref b) :: xcv G (.ref a) :: st.map (xcv G)))
    rw [e1, e2]
    refine lv_acmp_ne hM.1 hM.2.1 d ht (fun z => ?_) (fun z => ?_)
    · have : q = false := by cases q with | false => rfl | true => exact absurd (hq.mpr rfl) z
      subst this
      exact k0
    · have := hq.mp (by first | exact z | exact Classical.not_not.mp z)
      subst this
      exact k0
  · cases hi
theorem xlast {G : xG} {h : xH} {s : State} {H H1 : Heap} (hR : xRp G h s H) (h1 : s.heap.size ≤ H1.size) (hs : gS G ≤ s.heap.size) (hall : ∀ a e, 64 ≤ a → h.1 a = some e → xadr G a < H1.size) : H.size ≤ H1.size := by
  have z2 := hR.1; have z3 := hR.2.1
  rcases Nat.lt_or_ge 64 h.2.1 with q | q
  · obtain ⟨e, he⟩ := hR.2.2.2.2.2 (h.2.1 - 1) (by omega) (by omega)
    have := hall _ e (by omega) he
    unfold xadr at this
    omega
  · omega
theorem xset_lt {G : xG} {h : xH} {s : State} {H1 : Heap} {H : Heap} {k : Nat} {x : Nat × va_E} (hR : xRp G h s H) (hk : ∀ y, (xall G h)[k]? = some y → y.1 = x.1) (hP1 : va_P (gD G) xcls ((xall G h).set k x) H1) : ∀ a e, 64 ≤ a → h.1 a = some e → xadr G a < H1.size := by
  intro a e ha he
  obtain ⟨j, hj⟩ := xall_at hR ha he
  by_cases hjk : k = j
  · subst hjk
    have hl := (List.getElem?_eq_some_iff.mp hj).1
    have := (hP1 k x (List.getElem?_set_self hl)).lt
    rw [← hk _ hj] at this
    exact this
  · exact (hP1 j _ (by rw [List.getElem?_set_ne hjk]; exact hj)).lt
theorem xcpq_s {h h' : xH} {cs : List Nat} {s : Nat} {sp : Int32} {dd : Nat} {dp n : Int32} (e : xcpq h cs s sp dd dp n = some h') : ∃ n0 n1 f g, h.1 s = some (.inl (4, n0, .inr (.inr f))) ∧ h.1 dd = some (.inl (4, n1, .inr (.inr g))) ∧ 64 ≤ dd ∧ xcpr sp dp n n0 n1 = true ∧ (64 ≤ s ∨ s = 1) ∧ xcpok h cs f sp.toNatClampNeg n.toNatClampNeg = true ∧ h' = xset h dd (.inl (4, n1, .inr (.inr (va_cpy f g sp.toNatClampNeg dp.toNatClampNeg n.toNatClampNeg)))) := by
  unfold xcpq at e
  split at e
  · rename_i n0 f n1 g h1 h2
    split at e
    · rename_i hc
      cases e
      exact ⟨n0, n1, f, g, h1, h2, hc.1, hc.2.1, hc.2.2.1, hc.2.2.2, rfl⟩
    · cases e
  · cases e
theorem xmapcpy {G : xG} {f g : Nat → Option Nat} {sp dp n : Nat} : (fun j => (va_cpy f g sp dp n j).map (xadr G)) = va_cpy (fun j => (f j).map (xadr G)) (fun j => (g j).map (xadr G)) sp dp n := by
  funext j
  unfold va_cpy
  split <;> rfl
theorem snd_cpq {index : Nat} {cs : List Nat} (d : decode cc pc = .ok (.invokestatic index, 3)) (hlk : Cond.methodLink own index arraycopyName ∈ lw_all) (hnat : Cond.native arraycopyName ∈ lw_all) (hst : Cond.static arraycopyName ∈ lw_all) (hini : Cond.initialized "java/lang/System" ∈ lw_all) (hcs : ∀ c ∈ cs, ∃ q, xcls[c]? = some q ∧ Cond.castable q.1 "java/lang/Object" ∈ lw_tbl) : Snd own nm cc nL ret hh pc (i_cpq cs (pc + 3)) := by
  intro D ev _ lv st h nx hi
  unfold i_cpq at hi
  split at hi
  · rename_i n dp dd sp ss st
    split at hi
    · rename_i hok
      obtain ⟨h', h1, h2⟩ := xOn_s hi
      cases h2
      obtain ⟨n0, n1, f, g, g1, g2, hd64, hc, hs64, hel, rfl⟩ := xcpq_s h1
      obtain ⟨c1, c2, c3, c4, c5⟩ := xcpr_s hc
      refine ⟨xle.rf, fun G p l e s m args below meth c h0 r hM h9 go H locs ls hv hR hS => ?_⟩
      have hts := hM.2.2.2.2.1
      have hKn := hM.2.2.2.2.2.2.2.2.1
      have hK := hKn.1
      have hR : xRp G h s H := hR
      obtain ⟨k1, hk1⟩ := xall_at hR hd64 g2
      have gd1 := (hR.2.2.2.1 dd _ hd64 g2).2.2.1 4 n1 g rfl
      have h8 := xok4 (G := G) hok
      have z0 := hM.2.2.2.2.2.2.2.2.2.2.2.2
      have z1 := hM.2.2.2.2.2.2.2.2.2.2.2.1
      have z2 := hR.1; have z3 := hR.2.1; have z4 := h9.1
      have hgs : gS G ≤ s.heap.size := by rw [z0]; omega
      have hfr : 1 ≤ (xrm (D + 1) (r.2.2.1 - h0.2.1) (r.2.2.2 - h0.2.2)).frames := by show 1 ≤ D + 1 + 16; omega
      have hlo : ((st.map (xcv G)).map fun v => v.category).sum + (nativeFrameWords "java/lang/System" "arraycopy" 5 + 11) ≤ (xrm (D + 1) (r.2.2.1 - h0.2.1) (r.2.2.2 - h0.2.2)).locals := by
        show _ + (nativeFrameWords "java/lang/System" "arraycopy" 5 + 11) ≤ 64 * (D + 1 + 16)
        have : nativeFrameWords "java/lang/System" "arraycopy" 5 ≤ 100 := by decide +kernel
        omega
      have fin : ∀ (H1 : Heap) (locs1 : List Loc), (∀ f0 : Nat → Option Nat, (∀ j y, f0 j = some y → 64 ≤ y) → va_cpy (fun j => (f j).map (xadr G)) (fun j => (g j).map (xadr G)) sp.toNatClampNeg dp.toNatClampNeg n.toNatClampNeg = va_cpy (fun j => (f0 j).map (xadr G)) (fun j => (g j).map (xadr G)) sp.toNatClampNeg dp.toNatClampNeg n.toNatClampNeg → va_cpy f g sp.toNatClampNeg dp.toNatClampNeg n.toNatClampNeg = va_cpy f0 g sp.toNatClampNeg dp.toNatClampNeg n.toNatClampNeg → va_P (gD G) xcls ((xall G h).set k1 (xadr G dd, .inl (gA G 4, n1, .inr (.inr (.inr (.inr (va_cpy (fun j => (f0 j).map (xadr G)) (fun j => (g j).map (xadr G)) sp.toNatClampNeg dp.toNatClampNeg n.toNatClampNeg))))))) H1 → s.heap.size ≤ H1.size → (∀ q : Nat, q < H.size → ¬ xfr G q → H1[q]? = H[q]?) → va_S (xfr G) s.heap H1 locs1 → W p l e (xrm (D + 1) (r.2.2.1 - h0.2.1) (r.2.2.2 - h0.2.2)) s m args below meth c H1 locs1 (h.2.1 - h0.2.1) (h.2.2 - h0.2.2) (vx_MQ below (xQc G r) (xXC G r) args s (r.2.2.1 - h0.2.1) (r.2.2.2 - h0.2.2) (xfr G)) (F0 m (pc + 3) ls (st.map (xcv G)))) := by
        intro H1 locs1 f0 hf0 _ ecp hP1 hz1 hold hS1
        have hz2 := xlast hR hz1 hgs (xset_lt hR (fun y hy => by rw [hk1] at hy; cases hy; rfl) hP1)
        refine W_sz (fun hsz => ?_)
        have hz : H1.size = H.size := by omega
        have hP2 : va_P (gD G) xcls ((xall G h).set k1 (xadr G dd, xce G (.inl (4, n1, .inr (.inr (va_cpy f g sp.toNatClampNeg dp.toNatClampNeg n.toNatClampNeg)))))) H1 := by
          show va_P _ _ ((xall G h).set k1 (xadr G dd, .inl (gA G 4, n1, .inr (.inr (.inr (.inr (fun j => (va_cpy f g sp.toNatClampNeg dp.toNatClampNeg n.toNatClampNeg j).map (xadr G)))))))) H1
          rw [ecp, xmapcpy]
          exact hP1
        refine go.2 H1 locs1 ls hv (xcopied hR hd64 g2 hk1 hP2 (And.intro (fun n f h' => nomatch h') (And.intro (fun t' n' f' h' j y hy => ?_) (fun t n f h' => by cases h'; decide))) hold hz) hS1
        cases h'
        rw [ecp] at hy
        unfold va_cpy at hy
        split at hy
        · exact hf0 _ y hy
        · exact gd1 _ y hy
      show W _ _ _ _ _ _ _ _ _ _ _ _ _ _ _ (F0 m pc ls (.int n :: .int dp :: xcv G (.ref dd) :: .int sp :: xcv G (.ref ss) :: st.map (xcv G)))
      rw [xcv_own hd64]
      rcases hs64 with hs64 | rfl
      · rw [xcv_own hs64]
        obtain ⟨k0, hk0⟩ := xall_at hR hs64 g1
        have gd0 := (hR.2.2.2.1 ss _ hs64 g1).2.2.1 4 n0 f rfl
        refine va_copyM (H0 := H) (E0 := "java/lang/Object") (E1 := "java/lang/Object") hM.1 hM.2.1 (hM.2.2.1.trans hv.1.symm) hM.2.2.2.1 (hts _ hlk) (hts _ hnat) (hts _ hst) (hts _ hini) hK (xall_P hR) xall_D ⟨Nat.le_refl _, fun _ _ _ => rfl, hS.2.2⟩ k0 k1 4 4 hk0 hk1 rfl rfl c1 c2 c3 c4 c5 (fun i hi y hy => ?_) hfr hlo d (fun H1 locs1 hP1 hD1 hS1 => ?_)
        · have hx := List.all_eq_true.mp hel i (List.mem_range.mpr hi)
          cases hfi : f (sp.toNatClampNeg + i) with
          | none => rw [hfi] at hy; cases hy
          | some y0 =>
            rw [hfi] at hy hx
            cases hy
            cases hq : xckc h cs y0 with
            | none => simp only [hq] at hx; cases hx
            | some u =>
              obtain ⟨ci, fs, h4, h5⟩ := xckc_s hq
              obtain ⟨q, q1, q2⟩ := hcs ci h5
              have hy64 := gd0 _ _ hfi
              refine va_rAny (q0 := 0) hK (va_P1 (hR.2.2.2.1 y0 _ hy64 h4).1) rfl q1 (fun comp cc0 m1 m2 => ?_)
              obtain ⟨a1, a2, f1, f2, f3⟩ := Cond.castable_spec (va_Nw.use (A := args) rfl (hKn.2.1.1 _ q2 rfl))
              cases m2.symm.trans f1
              cases m1.symm.trans f2
              exact f3
        · exact fin H1 locs1 f gd0 rfl rfl hP1 (Nat.le_trans hS.1 hS1.1) hS1.2.1 ⟨Nat.le_trans hS.1 hS1.1, fun q q1 q2 => (hS1.2.1 q (Nat.lt_of_lt_of_le q1 hS.1) q2).trans (hS.2.1 q q1 q2), hS1.2.2⟩
      · obtain ⟨b, y1, y2, cell, y3, y4, y5, y6, y7, y8, y9⟩ := hR.2.2.2.2.1 1 _ (by decide) g1
        have e1 : xcv G (.ref 1) = .ref b := y1
        rw [e1]
        have hbA : ¬ xfr G b := Nat.not_le.mpr y2
        have hbs : b < s.heap.size := Nat.lt_of_lt_of_le y2 hgs
        subst y8
        have hT : va_T (.object "java/lang/Object") b 0 (fun _ => .null) (xfr G) s s.heap := ⟨cell, by rw [← hS.2.1 b hbs hbA]; exact y3, y4, y5, Nat.zero_le _, y7, fun j hj => absurd hj (Nat.not_lt_zero j), hbA⟩
        refine va_copyg (E0 := "java/lang/Object") (E1 := "java/lang/Object") hM.1 hM.2.1 (hM.2.2.1.trans hv.1.symm) hM.2.2.2.1 (hts _ hlk) (hts _ hnat) (hts _ hst) (hts _ hini) hK (xall_P hR) xall_D hS k1 4 hT hk1 rfl c1 c2 c3 (by omega) c5 hfr hlo d (fun H1 locs1 hP1 hD1 hS1 => ?_)
        have hn0 : n.toNatClampNeg = 0 := by omega
        refine fin H1 locs1 (fun _ => none) (fun j y hy => by cases hy) ?_ ?_ hP1 hS1.1 (fun q q1 q2 => ?_) hS1
        · funext j
          unfold va_cpy
          rw [if_neg (by omega), if_neg (by omega)]
        · funext j
          unfold va_cpy
          rw [if_neg (by omega), if_neg (by omega)]
        · have hqs : q < s.heap.size := by
            have : ¬ gS G ≤ q := q2
            omega
          rw [hS1.2.1 q hqs q2, hS.2.1 q hqs q2]
    · cases hi
  · cases hi
end SND8
