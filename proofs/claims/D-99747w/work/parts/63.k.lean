set_option maxRecDepth 100000
section SND9
variable {own nm : String} {cc : ByteArray} {nL : Nat} {ret : Option FieldType} {hh : List (Nat × Nat × Nat × Nat)} {pc : Nat}
theorem snd_na0 (d : decode cc pc = .ok (.newarray .int, 2)) : Snd own nm cc nL ret hh pc (i_newa 0 (.inl (fun _ => 0)) (pc + 2)) := snd_newa (t := 0) (at_ := .int) (z := .inl (fun _ => 0)) d (by decide) rfl q279 (by decide) (fun G U h => h) (fun G k => rfl) (fun k => xgood1_a (by decide) (by decide))
theorem snd_na1 (d : decode cc pc = .ok (.newarray .byte, 2)) : Snd own nm cc nL ret hh pc (i_newa 1 (.inl (fun _ => 0)) (pc + 2)) := snd_newa (t := 1) (at_ := .byte) (z := .inl (fun _ => 0)) d (by decide) rfl q210 (by decide) (fun G U h => h) (fun G k => rfl) (fun k => And.intro (fun n f h j => by cases h; rfl) (And.intro (fun t n f h => nomatch h) (fun t n f h => by cases h; decide)))
theorem snd_na2 (d : decode cc pc = .ok (.newarray .boolean, 2)) : Snd own nm cc nL ret hh pc (i_newa 2 (.inl (fun _ => 0)) (pc + 2)) := snd_newa (t := 2) (at_ := .boolean) (z := .inl (fun _ => 0)) d (by decide) rfl q413 (by decide) (fun G U h => h) (fun G k => rfl) (fun k => xgood1_a (by decide) (by decide))
theorem snd_na3 (d : decode cc pc = .ok (.newarray .long, 2)) : Snd own nm cc nL ret hh pc (i_newa 3 (.inr (.inl (fun _ => 0))) (pc + 2)) := snd_newa (t := 3) (at_ := .long) (z := .inr (.inl (fun _ => 0))) d (by decide) rfl q1795 (by decide) (fun G U h => h) (fun G k => rfl) (fun k => xgood1_l (by decide))
theorem okcs_4 : xcsok [22, 6, 15, 16, 17, 18, 19] "java/lang/Object" := List.forall_mem_cons.mpr ⟨⟨_, rfl, Or.inr q2269⟩, List.forall_mem_cons.mpr ⟨⟨_, rfl, Or.inr q2270⟩, List.forall_mem_cons.mpr ⟨⟨_, rfl, Or.inr q2279⟩, List.forall_mem_cons.mpr ⟨⟨_, rfl, Or.inr q2280⟩, List.forall_mem_cons.mpr ⟨⟨_, rfl, Or.inr q2281⟩, List.forall_mem_cons.mpr ⟨⟨_, rfl, Or.inr q2282⟩, List.forall_mem_cons.mpr ⟨⟨_, rfl, Or.inr q2283⟩, fun _ h => absurd h List.not_mem_nil⟩⟩⟩⟩⟩⟩⟩
theorem okcs_5 : xcsok [3] "SwollenHouse$State" := List.forall_mem_cons.mpr ⟨⟨_, rfl, Or.inl rfl⟩, fun _ h => absurd h List.not_mem_nil⟩
theorem okcs_7 : xcsok [20] "SwollenHouse$Mark" := List.forall_mem_cons.mpr ⟨⟨_, rfl, Or.inl rfl⟩, fun _ h => absurd h List.not_mem_nil⟩
theorem okct_X7 : xcsok [6] "SwollenHouse$Door" := List.forall_mem_cons.mpr ⟨⟨_, rfl, Or.inl rfl⟩, fun _ h => absurd h List.not_mem_nil⟩
theorem okct_J5 : xcsok [22] "java/lang/String" := List.forall_mem_cons.mpr ⟨⟨_, rfl, Or.inl rfl⟩, fun _ h => absurd h List.not_mem_nil⟩
theorem okct_X18 : xcsok [15, 16, 17, 18, 19] "SwollenHouse$Line" := List.forall_mem_cons.mpr ⟨⟨_, rfl, Or.inr q2256⟩, List.forall_mem_cons.mpr ⟨⟨_, rfl, Or.inr q2258⟩, List.forall_mem_cons.mpr ⟨⟨_, rfl, Or.inr q2257⟩, List.forall_mem_cons.mpr ⟨⟨_, rfl, Or.inr q2259⟩, List.forall_mem_cons.mpr ⟨⟨_, rfl, Or.inr q2255⟩, fun _ h => absurd h List.not_mem_nil⟩⟩⟩⟩⟩
theorem okct_X4 : xcsok [3] "SwollenHouse$State" := List.forall_mem_cons.mpr ⟨⟨_, rfl, Or.inl rfl⟩, fun _ h => absurd h List.not_mem_nil⟩
theorem okth_5 : ∀ c ∈ [5], c ≠ 22 ∧ ∃ w, xcls[c]? = some w := List.forall_mem_cons.mpr ⟨⟨by decide, _, rfl⟩, fun _ h => absurd h List.not_mem_nil⟩
theorem okch_5 : ∀ c ∈ [5], ∃ v, xcls[c]? = some v ∧ Cond.castable v.1 "SwollenHouse$Wrong" ∈ lw_tbl := List.forall_mem_cons.mpr ⟨⟨_, rfl, q569⟩, fun _ h => absurd h List.not_mem_nil⟩
theorem okth_24 : ∀ c ∈ [24], c ≠ 22 ∧ ∃ w, xcls[c]? = some w := List.forall_mem_cons.mpr ⟨⟨by decide, _, rfl⟩, fun _ h => absurd h List.not_mem_nil⟩
theorem okch_24 : ∀ c ∈ [24], ∃ v, xcls[c]? = some v ∧ Cond.castable v.1 "java/util/NoSuchElementException" ∈ lw_tbl := List.forall_mem_cons.mpr ⟨⟨_, rfl, q1611⟩, fun _ h => absurd h List.not_mem_nil⟩
theorem okca : ∀ c ∈ [22, 6, 15, 16, 17, 18, 19], ∃ q, xcls[c]? = some q ∧ Cond.castable q.1 "java/lang/Object" ∈ lw_tbl := List.forall_mem_cons.mpr ⟨⟨_, rfl, q2269⟩, List.forall_mem_cons.mpr ⟨⟨_, rfl, q2270⟩, List.forall_mem_cons.mpr ⟨⟨_, rfl, q2279⟩, List.forall_mem_cons.mpr ⟨⟨_, rfl, q2280⟩, List.forall_mem_cons.mpr ⟨⟨_, rfl, q2281⟩, List.forall_mem_cons.mpr ⟨⟨_, rfl, q2282⟩, List.forall_mem_cons.mpr ⟨⟨_, rfl, q2283⟩, fun _ h => absurd h List.not_mem_nil⟩⟩⟩⟩⟩⟩⟩
theorem xcls_ok (cs : List Nat) (h : (cs.all fun c => Nat.blt c 25) = true) : ∀ c ∈ cs, ∃ w, xcls[c]? = some w := fun c hc => ⟨_, List.getElem?_eq_getElem (Nat.lt_of_lt_of_eq (Nat.le_of_ble_eq_true (List.all_eq_true.mp h c hc)) (show 25 = xcls.length from rfl))⟩
theorem ok1 {P : Nat → Prop} {a : Nat} (h : P a) : ∀ c ∈ [a], P c := List.forall_mem_cons.mpr ⟨h, fun _ h => absurd h List.not_mem_nil⟩
theorem lk_nil {P : Nat → Nat → Prop} : ∀ ci k, ([] : List (Nat × Nat)).lookup ci = some k → P ci k := fun _ _ h => nomatch h
theorem lk_cons {P : Nat → Nat → Prop} {a b : Nat} {l : List (Nat × Nat)} (h : P a b) (t : ∀ ci k, l.lookup ci = some k → P ci k) : ∀ ci k, ((a, b) :: l).lookup ci = some k → P ci k := by
  intro ci k hk
  rw [List.lookup_cons] at hk
  by_cases q : ci = a
  · subst q
    simp only [beq_self_eq_true] at hk
    cases hk
    exact h
  · have : (ci == a) = false := by simp [q]
    rw [this] at hk
    exact t ci k hk
theorem q_oicode : Cond.code objectInit ⟨#[0xb1]⟩ 1 none ∈ lw_all := q178
theorem xst_COMPACT_STRINGS : ∀ G, ("java/lang/String", "COMPACT_STRINGS", "Z", xcv G (.int (nI 1))) ∈ xstat G := fun G => List.mem_of_getElem? (i := 0) rfl
theorem xst_EMPTY_ELEMENTDATA : ∀ G, ("java/util/ArrayList", "EMPTY_ELEMENTDATA", "[Ljava/lang/Object;", xcv G (.ref 1)) ∈ xstat G := fun G => List.mem_of_getElem? (i := 1) rfl
theorem xst_DEFAULTCAPACITY_EMPTY_ELEMENTDATA : ∀ G, ("java/util/ArrayList", "DEFAULTCAPACITY_EMPTY_ELEMENTDATA", "[Ljava/lang/Object;", xcv G (.ref 22)) ∈ xstat G := fun G => List.mem_of_getElem? (i := 2) rfl
theorem xst_UNASSIGNED_STACK : ∀ G, ("java/lang/Throwable", "UNASSIGNED_STACK", "[Ljava/lang/StackTraceElement;", xcv G (.ref 33)) ∈ xstat G := fun G => List.mem_of_getElem? (i := 3) rfl
theorem xst_SUPPRESSED_SENTINEL : ∀ G, ("java/lang/Throwable", "SUPPRESSED_SENTINEL", "Ljava/util/List;", xcv G (.ref 34)) ∈ xstat G := fun G => List.mem_of_getElem? (i := 4) rfl
theorem xst_SIOOBE_FORMATTER : ∀ G, ("jdk/internal/util/Preconditions", "SIOOBE_FORMATTER", "Ljava/util/function/BiFunction;", xcv G (.ref 35)) ∈ xstat G := fun G => List.mem_of_getElem? (i := 5) rfl
def xmk : List Cond := vx_at0 "SwollenHouse" 12 "java/util/NoSuchElementException" ["java/lang/RuntimeException", "java/lang/Exception"]
theorem xmk_in : ∀ w ∈ xmk, w ∈ lw_all ∨ (w ∈ lw_tbl ∧ xnk w = true) := List.forall_mem_cons.mpr ⟨Or.inl q142, List.forall_mem_cons.mpr ⟨Or.inl q589, List.forall_mem_cons.mpr ⟨Or.inl q598, List.forall_mem_cons.mpr ⟨Or.inl q601, List.forall_mem_cons.mpr ⟨Or.inl q604, List.forall_mem_cons.mpr ⟨Or.inl q606, List.forall_mem_cons.mpr ⟨Or.inl q590, List.forall_mem_cons.mpr ⟨Or.inl q591, List.forall_mem_cons.mpr ⟨Or.inl q177, List.forall_mem_cons.mpr ⟨Or.inl q178, List.forall_mem_cons.mpr ⟨Or.inl q592, List.forall_mem_cons.mpr ⟨Or.inl q597, List.forall_mem_cons.mpr ⟨Or.inl q602, List.forall_mem_cons.mpr ⟨Or.inl q623, List.forall_mem_cons.mpr ⟨Or.inl q579, List.forall_mem_cons.mpr ⟨Or.inl q624, List.forall_mem_cons.mpr ⟨Or.inl q581, List.forall_mem_cons.mpr ⟨Or.inl q625, List.forall_mem_cons.mpr ⟨Or.inl q583, List.forall_mem_cons.mpr ⟨Or.inl q593, List.forall_mem_cons.mpr ⟨Or.inl q595, List.forall_mem_cons.mpr ⟨Or.inl q585, List.forall_mem_cons.mpr ⟨Or.inl q1619, List.forall_mem_cons.mpr ⟨Or.inl q1620, List.forall_mem_cons.mpr ⟨Or.inl q1621, List.forall_mem_cons.mpr ⟨Or.inl q1622, List.forall_mem_cons.mpr ⟨Or.inr ⟨q570, rfl⟩, List.forall_mem_cons.mpr ⟨Or.inl q1622, List.forall_mem_cons.mpr ⟨Or.inl q1623, List.forall_mem_cons.mpr ⟨Or.inl q1624, List.forall_mem_cons.mpr ⟨Or.inl q1625, List.forall_mem_cons.mpr ⟨Or.inr ⟨q572, rfl⟩, List.forall_mem_cons.mpr ⟨Or.inl q1625, List.forall_mem_cons.mpr ⟨Or.inl q1626, List.forall_mem_cons.mpr ⟨Or.inl q1627, List.forall_mem_cons.mpr ⟨Or.inl q590, List.forall_mem_cons.mpr ⟨Or.inr ⟨q574, rfl⟩, List.forall_mem_cons.mpr ⟨Or.inl q1618, List.forall_mem_cons.mpr ⟨Or.inl q1610, List.forall_mem_cons.mpr ⟨Or.inr ⟨q1611, rfl⟩, List.forall_mem_cons.mpr ⟨Or.inl q1612, List.forall_mem_cons.mpr ⟨Or.inl q600, List.forall_mem_cons.mpr ⟨Or.inl q1613, List.forall_mem_cons.mpr ⟨Or.inl q1614, List.forall_mem_cons.mpr ⟨Or.inl q1615, List.forall_mem_cons.mpr ⟨Or.inl q1616, List.forall_mem_cons.mpr ⟨Or.inl q621, List.forall_mem_cons.mpr ⟨Or.inl q587, List.forall_mem_cons.mpr ⟨Or.inl q1617, fun _ h => absurd h List.not_mem_nil⟩⟩⟩⟩⟩⟩⟩⟩⟩⟩⟩⟩⟩⟩⟩⟩⟩⟩⟩⟩⟩⟩⟩⟩⟩⟩⟩⟩⟩⟩⟩⟩⟩⟩⟩⟩⟩⟩⟩⟩⟩⟩⟩⟩⟩⟩⟩⟩⟩
theorem xmk_ot : ∀ w ∈ Cond.classLink "SwollenHouse" 10 "java/util/NoSuchElementException" :: Cond.initialized "java/util/NoSuchElementException" :: xmk, vx_ot w = true := List.all_eq_true.mp (by decide +kernel)
theorem xnk_tab {w : Cond} (h : xnk w = true) : w.onTables = true := by cases w <;> first | rfl | exact Bool.noConfusion (show false = true from h)
theorem snd_mk0 (hown : own = "SwollenHouse") (d : decode cc pc = .ok (.new 10, 3)) (d3 : decode cc (pc + 3) = .ok (.dup, 1)) (d4 : decode cc (pc + 4) = .ok (.invokespecial 12, 3)) : Snd own nm cc nL ret hh pc (i_mk0 (pc + 7)) := by
  intro D ev _ lv st h nx hi
  subst hown
  unfold i_mk0 at hi
  split at hi
  · rename_i hok
    cases hi
    refine ⟨xle_new, fun G p l e s m args below meth c h0 r hM h9 go H locs ls hv hR hS => ?_⟩
    have hR : xRp G h s H := hR
    have hts := hM.2.2.2.2.1
    have hKn := hM.2.2.2.2.2.2.2.2.1
    have h8 := xok4 (G := G) hok
    have z0 := hM.2.2.2.2.2.2.2.2.2.2.2.2
    have g1 : h.2.1 + 1 ≤ r.2.2.1 := go.1.1
    have g2 : h.2.2 + 6 ≤ r.2.2.2 := go.1.2
    have g3 := h9.1
    have g4 := h9.2
    have hZ : ∀ (C n dd : String) (v : Value), (C, n, dd, v) ∈ xstat G → (v = .null ∨ ∃ t, v = .ref t) → va_Zq C n dd (xfr G) s s.heap := by
      intro C n dd v hm hv
      have hz := hKn.2.2.2.2.2.1 _ hm
      rcases hv with rfl | ⟨t, rfl⟩
      · exact Or.inl hz
      · exact Or.inr ⟨t, hz⟩
    refine vx_make0 (cls := "java/util/NoSuchElementException") (names := ["java/lang/RuntimeException", "java/lang/Exception"]) (ci := 24) (T0 := xT0) (A := xfr G) (ws := []) hM.1 hM.2.1 hM.2.2.2.2.2.2.2.2.2.2.1 hM.2.2.2.1 (by decide +kernel) (List.forall_mem_cons.mpr ⟨by decide +kernel, List.forall_mem_cons.mpr ⟨by decide +kernel, fun _ h => absurd h List.not_mem_nil⟩⟩) (hts _ q1609) (hts _ q169) (fun w hw => (xmk_in w hw).elim (fun z => hts _ z) (fun z => va_Nw.use (xnk_tab z.2) (hKn.2.1.1 w z.1 z.2))) xmk_ot
      ⟨hZ _ _ _ _ (xst_UNASSIGNED_STACK G) hKn.2.2.2.2.2.2.2.1, hKn.2.2.2.2.2.2.1.1⟩ ⟨hZ _ _ _ _ (xst_SUPPRESSED_SENTINEL G) hKn.2.2.2.2.2.2.2.2.1, hKn.2.2.2.2.2.2.1.2⟩ hS (hv.1.trans hM.2.2.1.symm) d d3 d4 hKn.1 (fun k q h => nomatch h) ⟨fun i j p q h => (nomatch h), fun k q h => (nomatch h)⟩ (fun q hq => show gS G ≤ q by omega) rfl (by show 2 + 3 < D + 1 + 16; omega) (by show ((st.map (xcv G)).map fun v => v.category).sum + (13 * (2 + 1) + 42) ≤ 64 * (D + 1 + 16); omega) (show h.2.1 - h0.2.1 + 1 ≤ r.2.2.1 - h0.2.1 by omega) (show h.2.2 - h0.2.2 + 6 ≤ r.2.2.2 - h0.2.2 by omega) (fun q H1 e1 z1 o1 hP hD hS1 => ?_)
    subst e1
    have hR1 : xRp G (xnew h (.inr (24, fun _ => .null)) 6) s H1 := hR.new (hP 0 _ rfl) (xgood1_o _ _) z1 o1
    have k0 := go.2 H1 locs ls hv hR1 hS1
    have e2 : xcv G (.ref h.2.1) = .ref H.size := by rw [xcv_own hR.1, hR.2.1]; rfl
    have k1 : W p l e _ s m args below meth c H1 locs (h.2.1 + 1 - h0.2.1) (h.2.2 + 6 - h0.2.2) _ (F0 m (pc + 7) ls (xcv G (.ref h.2.1) :: st.map (xcv G))) := k0
    rw [e2] at k1
    exact W_num (by dsimp only; omega) (by dsimp only; omega) k1
  · cases hi
theorem xgridA0 (cA : ClassId) (n h0 : Nat) : ∀ i : Nat, Jvm.Free.Multi.outerC cA n h0 i = arrV cA n (fun j => if j < i then .ref (h0 + 1 + j) else .null) := by
  intro i
  induction i with
  | zero =>
    show ({ cls := cA, slots := Array.replicate n .null, vm := .none } : Cell) = _
    rw [arrV_new]
    congr 1
  | succ i ih =>
    show (Jvm.Free.Multi.outerC cA n h0 i).setSlot i (.ref (h0 + 1 + i)) = _
    rw [ih, arrV_store]
    congr 1
    funext j
    unfold updV
    by_cases q : j = i
    · subst q
      rw [if_pos rfl, if_pos (Nat.lt_succ_self _)]
    · rw [if_neg q]
      show (if j < i then Value.ref (h0 + 1 + j) else Value.null) = _
      by_cases q2 : j < i
      · rw [if_pos q2, if_pos (Nat.lt_succ_of_lt q2)]
      · rw [if_neg q2, if_neg (by omega)]
theorem xgridA {cA : ClassId} {n h0 : Nat} {f : Nat → Value} (hf : ∀ j, f j = if j < n then .ref (h0 + 1 + j) else .null) : Jvm.Free.Multi.outerC cA n h0 n = arrV cA n f := by
  rw [xgridA0]
  congr 1
  funext j
  exact (hf j).symm
theorem snd_multi {index : Nat} (d : decode cc pc = .ok (.multianewarray index 2, 4)) (hw : Cond.classLink own index "[[I" ∈ lw_all) : Snd own nm cc nL ret hh pc (i_multi (pc + 4)) := by
  intro D ev _ lv st h nx hi
  unfold i_multi at hi
  split at hi
  · rename_i y x st
    obtain ⟨q, h1, h2⟩ := xOn_s hi
    cases h2
    obtain ⟨n, k, e1, e2, rfl⟩ : ∃ n k, xcnt x = some n ∧ xcnt y = some k ∧ q = (n, k) := by
      unfold xcnt2 at h1
      split at h1
      · rename_i n k e1 e2
        cases h1
        exact ⟨n, k, e1, e2, rfl⟩
      · cases h1
    obtain ⟨q1, q2, q3⟩ := xcnt_s e1
    obtain ⟨p1, p2, p3⟩ := xcnt_s e2
    refine ⟨⟨by show h.2.1 ≤ h.2.1 + 1 + n; omega, by show h.2.2 ≤ h.2.2 + n + n * k; omega⟩, fun G p l e s m args below meth c h0 r hM h9 go H locs ls hv hR hS => ?_⟩
    have hR : xRp G h s H := hR
    have hts := hM.2.2.2.2.1
    have hKn := hM.2.2.2.2.2.2.2.2.1
    have hK := hKn.1
    have g1 : h.2.1 + 1 + n ≤ r.2.2.1 := go.1.1
    have g2 : h.2.2 + n + n * k ≤ r.2.2.2 := go.1.2
    have g3 := h9.1
    have g4 := h9.2
    have hsz : H.size = xadr G h.2.1 := hR.2.1
    have h64 := hR.1
    intro T hT X
    have eN : "[" ++ (FieldType.array FieldType.int).toString = "[[I" := by decide +kernel
    have eN2 : (FieldType.array FieldType.int).toString = "[" ++ FieldType.int.toString := by decide +kernel
    obtain ⟨vm₁, cA, comp, hW, hfA, hfC, hO, hI, X1, stp⟩ := X.multianewarray2F (ty := .int) (n := x) (k := y) (g := F0 m pc ls (.int y :: .int x :: st.map (xcv G))) (rest := st.map (xcv G)) hM.1 hM.2.2.2.1 (by rw [eN]; exact hts _ hw) hKn.2.1.2.2 (hts _ q279) rfl (by rw [hM.2.1]; exact d) rfl q1 p1 (by rw [q2]; omega) (by rw [p2]; show k * 4 ≤ _; omega) (by rw [p2]; omega) rfl rfl (by rw [q2]; show h.2.1 - h0.2.1 + (1 + n) ≤ r.2.2.1 - h0.2.1; omega) (by rw [q2, p2]; show h.2.2 - h0.2.2 + (n + n * k) ≤ r.2.2.2 - h0.2.2; omega)
    rw [q2, p2] at X1 stp
    have hcA : cA = gA G 6 := Option.some.inj (hfA.symm.trans (show s.vm.findClass ("[" ++ (FieldType.array FieldType.int).toString) = some (gA G 6) from (hK.2 6 (gA G 6, .array .int) rfl).2))
    have hco : comp = gA G 0 := by
      rw [eN2] at hfC
      exact Option.some.inj (hfC.symm.trans (show s.vm.findClass ("[" ++ FieldType.int.toString) = some (gA G 0) from (hK.2 0 (gA G 0, .int) rfl).2))
    subst hcA; subst hco
    obtain ⟨f1, f2, f3, f4⟩ := Jvm.Free.Multi.fill_facts (T.setVm vm₁) (gA G 6) (gA G 0) n k (defaultValue .int) n
    have fo := fun (a : Addr) (ha : a < (T.setVm vm₁).heap.size) => Jvm.Free.Multi.fill_old (T.setVm vm₁) (gA G 6) (gA G 0) n k (defaultValue .int) (a := a) ha n
    have fi := fun (j : Nat) (hj : j < n) => Jvm.Free.Multi.fill_inner (T.setVm vm₁) (gA G 6) (gA G 0) n k (defaultValue .int) n j hj
    generalize Jvm.Free.Multi.fill (T.setVm vm₁) (gA G 6) (gA G 0) n k (defaultValue .int) n = T1 at X1 stp f1 f2 f3 f4 fo fi
    have hTH : (T.setVm vm₁).heap = H := hT
    have hTT : T.heap = H := hT
    rw [hTH] at f1 f2 fo fi
    rw [hTT] at stp
    have hold : ∀ q : Nat, q < H.size → T1.heap[q]? = H[q]? := fun q hq => fo q hq
    have hgrid : ∀ b : Nat, (xgrid h n k).1 b = (if b = h.2.1 then some (.inl (6, n, .inr (.inr (fun i => if i < n then some (h.2.1 + 1 + i) else none)))) else if h.2.1 < b ∧ b ≤ h.2.1 + n then some (.inl (0, k, .inl (fun _ => 0))) else h.1 b) := fun b => rfl
    have hR1 : xRp G (xgrid h n k) s T1.heap := by
      refine ⟨by show 64 ≤ h.2.1 + 1 + n; omega, by rw [f1]; show _ = gS G + (h.2.1 + 1 + n - 64); unfold xadr at hsz; omega, fun b e hb => ?_, fun b e hb64 hb => ?_, fun b e hb64 hb => ?_, fun b hb1 hb2 => ?_⟩
      · rw [hgrid] at hb
        show b < h.2.1 + 1 + n
        split at hb
        · omega
        · split at hb
          · omega
          · have := hR.2.2.1 b e hb
            omega
      · rw [hgrid] at hb
        split at hb
        · rename_i hbe
          cases hb
          refine ⟨?_, And.intro (fun n f h' => nomatch h') (And.intro (fun t' n' f' h' j y hy => ?_) (fun t n f h' => by cases h'; decide))⟩
          · show T1.heap[xadr G b]? = some (arrV (gA G 6) n (fun j => va_rf ((if j < n then some (h.2.1 + 1 + j) else none : Option Nat).map (xadr G))))
            rw [hbe, ← hsz, f2]
            rw [xgridA (f := fun j => va_rf ((if j < n then some (h.2.1 + 1 + j) else none : Option Nat).map (xadr G)))]
            intro j
            by_cases hj : j < n
            · have e4 : xadr G (h.2.1 + 1 + j) = H.size + 1 + j := by
                rw [hsz]
                unfold xadr
                omega
              simp only [if_pos hj, Option.map_some]
              exact congrArg Value.ref e4
            · simp only [if_neg hj]
              rfl
          · cases h'
            have hy' : (if j < n then some (h.2.1 + 1 + j) else none : Option Nat) = some y := hy
            split at hy'
            · cases hy'
              omega
            · cases hy'
        · split at hb
          · rename_i hne hbr
            cases hb
            refine ⟨?_, xgood1_a (by decide) (by decide)⟩
            show T1.heap[xadr G b]? = some (arrV (gA G 0) k (fun _ => .int 0))
            have e3 : xadr G b = H.size + 1 + (b - h.2.1 - 1) := by
              rw [hsz]
              unfold xadr
              omega
            rw [e3, fi _ (by omega)]
            exact congrArg some (arrV_new (gA G 0) k (defaultValue .int))
          · obtain ⟨a1, a2⟩ := hR.2.2.2.1 b e hb64 hb
            exact ⟨a1.kept (hold _ a1.lt), a2⟩
      · rw [hgrid, if_neg (by omega), if_neg (by omega)] at hb
        exact (hR.2.2.2.2.1 b e hb64 hb).kept (fun q hq _ => hold q hq)
      · have hb3 : b < h.2.1 + 1 + n := hb2
        rw [hgrid]
        split
        · exact ⟨_, rfl⟩
        · split
          · exact ⟨_, rfl⟩
          · exact hR.2.2.2.2.2 b hb1 (by omega)
    have hS1 : va_S (xfr G) s.heap T1.heap locs := ⟨Nat.le_trans hS.1 (by omega), fun q q1 q2 => (hold q (Nat.lt_of_lt_of_le q1 hS.1)).trans (hS.2.1 q q1 q2), hS.2.2⟩
    have k0 := go.2 T1.heap locs ls hv hR1 hS1
    have e5 : xcv G (.ref h.2.1) = .ref H.size := by rw [xcv_own h64, hsz]
    have k1 : W p l e _ s m args below meth c T1.heap locs (h.2.1 + 1 + n - h0.2.1) (h.2.2 + n + n * k - h0.2.2) _ (F0 m (pc + 4) ls (xcv G (.ref h.2.1) :: st.map (xcv G))) := k0
    rw [e5] at k1
    obtain ⟨t2, a1, b1⟩ := (W_num (k2 := h.2.1 - h0.2.1 + 1 + n) (n2 := h.2.2 - h0.2.2 + n + n * k) (by omega) (by omega) k1) T1 rfl X1
    exact ⟨t2, stp t2 a1, b1⟩
  · cases hi
theorem xcln_s {h : xH} {a : Nat} {q : Nat × xA} (e : xcln h a = some q) : ∃ n f, h.1 a = some (.inl (1, n, .inl f)) ∧ 64 ≤ a ∧ q = (n, .inl f) := by
  unfold xcln at e
  split at e
  · rename_i n f heq
    split at e
    · rename_i h64
      cases e
      exact ⟨n, f, heq, h64, rfl⟩
    · cases e
  · cases e
theorem snd_clone {index : Nat} (d : decode cc pc = .ok (.invokevirtual index, 3)) (hlk : Cond.methodLink own index ⟨"[B", "clone", "()Ljava/lang/Object;"⟩ ∈ lw_all) : Snd own nm cc nL ret hh pc (i_clone (pc + 3)) := by
  intro D ev _ lv st h nx hi
  unfold i_clone at hi
  split at hi
  · rename_i a st
    split at hi
    · rename_i hok
      obtain ⟨q, h1, h2⟩ := xOn_s hi
      cases h2
      obtain ⟨n, f, h3, ha, rfl⟩ := xcln_s h1
      refine ⟨xle_new, fun G p l e s m args below meth c h0 r hM h9 go H locs ls hv hR hS => ?_⟩
      have hR : xRp G h s H := hR
      have hts := hM.2.2.2.2.1
      have hKn := hM.2.2.2.2.2.2.2.2.1
      have h8 := xok4 (G := G) hok
      have g1 : h.2.1 + 1 ≤ r.2.2.1 := go.1.1
      have g2 : h.2.2 + n ≤ r.2.2.2 := go.1.2
      have g3 := h9.1
      have g4 := h9.2
      have z0 := hM.2.2.2.2.2.2.2.2.2.2.2.2
      have z1 := hM.2.2.2.2.2.2.2.2.2.2.2.1
      have z2 := hR.1; have z3 := hR.2.1
      obtain ⟨k0, hk0⟩ := xall_at hR ha h3
      have hgd := (hR.2.2.2.1 a _ ha h3).2.1 n f rfl
      show W _ _ _ _ _ _ _ _ _ _ _ _ _ _ _ (F0 m pc ls (xcv G (.ref a) :: st.map (xcv G)))
      rw [xcv_own ha]
      refine va_clone (ty := .byte) (H0 := H) (A := xfr G) (ad := "[B") hM.1 hM.2.1 (hM.2.2.1.trans hv.1.symm) hM.2.2.2.1 (hts _ hlk) (hts _ q712) (hts _ q713) (hts _ q714) (hts _ q715) (hKn.2.1.1 _ q716 rfl) hKn.1 (xall_P hR) xall_D ⟨Nat.le_refl _, fun _ _ _ => rfl, hS.2.2⟩ (fun q hq => show gS G ≤ q by omega) k0 1 (cA := gA G 1) (x := (n, .inl f)) hk0 rfl (va_nm_byte (hKn.1.2 1 (gA G 1, .byte) rfl).2) (fun i v hi => ?_) (by show 1 ≤ D + 1 + 16; omega) (by show _ + 14 ≤ 64 * (D + 1 + 16); omega) (show h.2.1 - h0.2.1 + 1 ≤ r.2.2.1 - h0.2.1 by omega) (show h.2.2 - h0.2.2 + n ≤ r.2.2.2 - h0.2.2 by omega) d (fun q H1 hK1 hP1 hD1 hS1 => ?_)
      · rw [vp_cell_i] at hi
        rcases Nat.lt_or_ge i n with z | z
        · rw [arrV_read _ _ z] at hi
          cases hi
          exact hgd i
        · rw [Array.getElem?_eq_none (by rw [arrV_size]; exact z)] at hi
          cases hi
      · refine W_sz (fun hsz => ?_)
        have hlen : (xall G h ++ [(q, (.inl (gA G 1, n, .inl f) : va_E))])[(xall G h).length]? = some (q, .inl (gA G 1, n, .inl f)) := by
          rw [List.getElem?_append_right (Nat.le_refl _), Nat.sub_self]
          rfl
        have hqa := hP1 _ _ hlen
        have hqlt : q < H1.size := hqa.lt
        have hqfr : gS G ≤ q := hD1.2 _ _ hlen
        have hq1 : H.size ≤ q := by
          rcases Nat.lt_or_ge q H.size with z | z
          · exfalso
            obtain ⟨e1, he1⟩ := hR.2.2.2.2.2 (q - gS G + 64) (by omega) (by omega)
            obtain ⟨j, hj⟩ := xall_at hR (by omega) he1
            have hjl := (List.getElem?_eq_some_iff.mp hj).1
            have := hD1.1 j (xall G h).length _ _ (by rw [List.getElem?_append_left hjl]; exact hj) hlen (by show xadr G _ = q; unfold xadr; omega)
            omega
          · exact z
        have hq2 : q = H.size := by
          dsimp only at hsz
          omega
        subst hq2
        have hz1 : H1.size = H.size + 1 := by
          dsimp only at hsz
          omega
        have hR1 : xRp G (xnew h (.inl (1, n, .inl f)) n) s H1 := by
          have hz : H.size = xadr G h.2.1 := hR.2.1
          refine ⟨Nat.le_succ_of_le hR.1, by show H1.size = gS G + (h.2.1 + 1 - 64); omega, fun b e1 hb => ?_, fun b e1 hb64 hb => ?_, fun b e1 hb64 hb => ?_, fun b hb1 hb2 => ?_⟩
          · show b < h.2.1 + 1
            by_cases q : b = h.2.1
            · omega
            · exact Nat.lt_succ_of_lt (hR.2.2.1 b e1 ((if_neg q).symm.trans hb))
          · by_cases q : b = h.2.1
            · subst q
              have hb' : some (.inl (1, n, .inl f)) = some e1 := (if_pos rfl).symm.trans hb
              cases hb'
              refine ⟨by rw [← hz]; exact hqa, ?_⟩
              exact (hR.2.2.2.1 a _ ha h3).2
            · have hb' : h.1 b = some e1 := (if_neg q).symm.trans hb
              obtain ⟨j, hj⟩ := xall_at hR hb64 hb'
              have hjl := (List.getElem?_eq_some_iff.mp hj).1
              exact ⟨hP1 j _ (by rw [List.getElem?_append_left hjl]; exact hj), (hR.2.2.2.1 b e1 hb64 hb').2⟩
          · have hb' : h.1 b = some e1 := (if_neg (by have := hR.1; omega)).symm.trans hb
            exact (hR.2.2.2.2.1 b e1 hb64 hb').kept hS1.2.1
          · by_cases q : b = h.2.1
            · exact ⟨_, if_pos q⟩
            · have hb3 : b < h.2.1 + 1 := hb2
              obtain ⟨e1, he1⟩ := hR.2.2.2.2.2 b hb1 (by omega)
              exact ⟨e1, (if_neg q).trans he1⟩
        have k0 := go.2 H1 locs ls hv hR1 ⟨Nat.le_trans hS.1 hS1.1, fun q q1 q2 => (hS1.2.1 q (Nat.lt_of_lt_of_le q1 hS.1) q2).trans (hS.2.1 q q1 q2), hS1.2.2⟩
        have e2 : xcv G (.ref h.2.1) = .ref H.size := by rw [xcv_own hR.1, hR.2.1]; rfl
        have k1 : W p l e _ s m args below meth c H1 locs (h.2.1 + 1 - h0.2.1) (h.2.2 + n - h0.2.2) _ (F0 m (pc + 3) ls (xcv G (.ref h.2.1) :: st.map (xcv G))) := k0
        rw [e2] at k1
        exact W_num (by dsimp only; omega) (by dsimp only; omega) k1
    · cases hi
  · cases hi
end SND9
