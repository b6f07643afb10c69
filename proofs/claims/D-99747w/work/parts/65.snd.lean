set_option maxRecDepth 100000
/-! SOUNDNESS of a run, of a call (own work) -/
theorem xmem_lookup {C : xC} {pc : Nat} {i : xI} (h : C.lookup pc = some i) : (pc, i) ∈ C := by
  induction C with
  | nil => cases h
  | cons q C ih =>
    obtain ⟨a, j⟩ := q
    rw [List.lookup_cons] at h
    by_cases e : pc = a
    · subst e
      simp only [beq_self_eq_true] at h
      cases h
      exact List.mem_cons_self
    · have : (pc == a) = false := by simp [e]
      rw [this] at h
      exact List.mem_cons_of_mem _ (ih h)
theorem xrun {own nm : String} {cc : ByteArray} {nL : Nat} {ret : Option FieldType} {hh : List (Nat × Nat × Nat × Nat)} {ev : xV} {D : Nat} {C : xC} (hev : ∀ k as h r, ev k as h = some r → Ctr D k as h r) (hC : ∀ q ∈ C, Snd own nm cc nL ret hh q.1 q.2) : ∀ (N : Nat) (S : xS) (r : xR), exN ev C N S = some r → xle S.2.2.2 r.2 ∧ ∀ (G : xG) (p : Program) (l : Launch) (e : Env) (s : State) (m : MethodId) (args : Array Value) (below : List Frame) (meth : Method) (c : Code) (h0 : xH), xMc G own nm cc nL ret hh p l s m args meth c h0 → xle h0 S.2.2.2 → xAt G (D + 1) nL p l e s m args below meth c h0 r S := by
  intro N
  induction N with
  | zero => intro S r h; cases h
  | succ N ih =>
    intro S r h
    obtain ⟨pc, lv, st, hp⟩ := S
    rw [exN] at h
    unfold xStep at h
    dsimp only at h
    cases hl : C.lookup pc with
    | none => rw [hl] at h; cases h
    | some i =>
      rw [hl] at h
      dsimp only at h
      have hs := hC (pc, i) (xmem_lookup hl)
      cases hi : i ev lv st hp with
      | none => rw [hi] at h; cases h
      | some nx =>
        rw [hi] at h
        obtain ⟨h1, h2⟩ := hs D ev hev lv st hp nx hi
        cases nx with
        | inl S' =>
          obtain ⟨g1, g2⟩ := ih S' r h
          exact ⟨xle.tr h1 g1, fun G p l e s m args below meth c h0 hM h9 => h2 G p l e s m args below meth c h0 r hM h9 ⟨g1, g2 G p l e s m args below meth c h0 hM (xle.tr h9 h1)⟩⟩
        | inr r' =>
          cases h
          exact ⟨h1, fun G p l e s m args below meth c h0 hM h9 => h2 G p l e s m args below meth c h0 r hM h9 rfl⟩
/-- the entry's locals -/
theorem xent_len {G : xG} (hO : ∀ a, a < 64 → gO G a = .null ∨ ∃ t, gO G a = .ref t) : ∀ as : List Value, as.all xnd = true → (lg_sl (as.map (xcv G))).length = (xEnt1 as).length ∧ (xEnt2 as).length = (xEnt1 as).length := by
  intro as
  induction as with
  | nil => intro _; exact ⟨rfl, rfl⟩
  | cons v l ih =>
    intro h
    rw [List.all_cons, Bool.and_eq_true] at h
    obtain ⟨h1, h2⟩ := ih h.2
    have key : ∀ w : Value, w.category = 1 → (lg_sl (w :: l.map (xcv G))).length = (xEnt1 l).length + 1 := by
      intro w hw
      have : lg_sl (w :: l.map (xcv G)) = [.val w] ++ lg_sl (l.map (xcv G)) := by simp [lg_sl, hw]
      rw [this, List.length_append, h1]
      show 1 + _ = _
      omega
    cases v with
    | int x => exact ⟨key _ rfl, congrArg Nat.succ h2⟩
    | float x => exact ⟨key _ rfl, congrArg Nat.succ h2⟩
    | null => exact ⟨key _ rfl, congrArg Nat.succ h2⟩
    | retAddr x => exact ⟨key _ rfl, congrArg Nat.succ h2⟩
    | ref x => exact ⟨key _ (xcv_cat hO rfl), congrArg Nat.succ h2⟩
    | double x => cases h.1
    | long x =>
      have e1 : lg_sl (xcv G (.long x) :: l.map (xcv G)) = [.val (.long x), .second] ++ lg_sl (l.map (xcv G)) := rfl
      refine ⟨?_, congrArg (· + 2) h2⟩
      rw [List.map_cons, e1, List.length_append, h1]
      show 2 + _ = _ + 2
      omega
theorem xent_mem {G : xG} (hO : ∀ a, a < 64 → gO G a = .null ∨ ∃ t, gO G a = .ref t) : ∀ (as : List Value) (i0 j : Nat), as.all xnd = true → (∀ v, (xEnt1 as)[j]? = some (some v) → (i0 + j, xcv G v) ∈ lv_args i0 (as.map (xcv G))) ∧ (∀ x, (xEnt2 as)[j]? = some (some x) → (i0 + j, Value.long x) ∈ lv_args i0 (as.map (xcv G))) := by
  intro as
  induction as with
  | nil => intro i0 j _; exact ⟨fun v h => (by cases h), fun v h => (by cases h)⟩
  | cons v l ih =>
    intro i0 j h
    rw [List.all_cons, Bool.and_eq_true] at h
    have key : ∀ w : Value, (xcv G w).category = 1 → xEnt1 (w :: l) = some w :: xEnt1 l → xEnt2 (w :: l) = none :: xEnt2 l → (∀ v, (xEnt1 (w :: l))[j]? = some (some v) → (i0 + j, xcv G v) ∈ lv_args i0 ((w :: l).map (xcv G))) ∧ (∀ x, (xEnt2 (w :: l))[j]? = some (some x) → (i0 + j, Value.long x) ∈ lv_args i0 ((w :: l).map (xcv G))) := by
      intro w hw e1 e2
      have e3 : lv_args i0 ((w :: l).map (xcv G)) = (i0, xcv G w) :: lv_args (i0 + 1) (l.map (xcv G)) := by
        rw [List.map_cons, lv_args, hw]
        rfl
      rw [e1, e2, e3]
      cases j with
      | zero =>
        refine ⟨fun v hv => ?_, fun v hv => ?_⟩
        · cases hv
          exact List.mem_cons_self
        · cases hv
      | succ j =>
        obtain ⟨k1, k2⟩ := ih (i0 + 1) j h.2
        have e4 : i0 + (j + 1) = i0 + 1 + j := by omega
        rw [e4]
        exact ⟨fun v hv => List.mem_cons_of_mem _ (k1 v hv), fun v hv => List.mem_cons_of_mem _ (k2 v hv)⟩
    cases v with
    | int x => exact key _ rfl rfl rfl
    | float x => exact key _ rfl rfl rfl
    | null => exact key _ rfl rfl rfl
    | retAddr x => exact key _ rfl rfl rfl
    | ref x => exact key _ (xcv_cat hO rfl) rfl rfl
    | double x => cases h.1
    | long x =>
      have e3 : lv_args i0 ((Value.long x :: l).map (xcv G)) = (i0, .long x) :: lv_args (i0 + 2) (l.map (xcv G)) := rfl
      rw [e3]
      match j with
      | 0 =>
        refine ⟨fun v hv => ?_, fun v hv => ?_⟩
        · cases hv
        · cases hv
          exact List.mem_cons_self
      | 1 => exact ⟨fun v hv => (by cases hv), fun v hv => (by cases hv)⟩
      | j + 2 =>
        obtain ⟨k1, k2⟩ := ih (i0 + 2) j h.2
        have e4 : i0 + (j + 2) = i0 + 2 + j := by omega
        rw [e4]
        exact ⟨fun v hv => List.mem_cons_of_mem _ (k1 v hv), fun v hv => List.mem_cons_of_mem _ (k2 v hv)⟩
theorem xpad {α : Type} {l : List (Option α)} {k j : Nat} {v : α} (h : (l ++ List.replicate k none)[j]? = some (some v)) : l[j]? = some (some v) := by
  rcases Nat.lt_or_ge j l.length with q | q
  · rw [List.getElem?_append_left q] at h
    exact h
  · rw [List.getElem?_append_right q, List.getElem?_replicate] at h
    split at h <;> cases h
theorem xentry {G : xG} (hO : ∀ a, a < 64 → gO G a = .null ∨ ∃ t, gO G a = .ref t) {as : List Value} {n m : Nat} (h : xEok n as = true) : (lg_sl (as.map (xcv G))).length ≤ n ∧ ∀ q ∈ xlv G (xEnt n m as), q ∈ lv_args 0 (as.map (xcv G)) := by
  unfold xEok at h
  rw [Bool.and_eq_true] at h
  refine ⟨by rw [(xent_len hO as h.2).1]; exact Nat.le_of_ble_eq_true h.1, ?_⟩
  rintro ⟨j, w⟩ hq
  rcases List.mem_append.mp hq with hq | hq
  · obtain ⟨v, h1, h2, rfl⟩ := xlv1_mem.mp hq
    have := (xent_mem hO as 0 j h.2).1 v (xpad h1)
    rwa [Nat.zero_add] at this
  · obtain ⟨x, h1, rfl⟩ := xlv2_mem.mp hq
    unfold xEnt at h1
    dsimp only at h1
    split at h1
    · cases h1
    · have := (xent_mem hO as 0 j h.2).2 x (xpad h1)
      rwa [Nat.zero_add] at this
/-- a method of a class that the machine has entries for, itself without one -/
theorem vx_ofWF {l : Launch} {y : MethodName} {ws ws' : List Cond} {rm : Room} {Pc : Array Value → State → Prop} {Qc : Array Value → State → Outcome → State → Prop} {XC : Addr → String → State → State → Prop} {mc ms : Nat} {free : Addr → Prop} {cc : ByteArray} {maxL : Nat} {ret : Option FieldType}
    (hy : plainFor y = true) (hw : ws = Cond.code y cc maxL ret :: ws')
    (body : ∀ p e s m args below meth c s₁, BodyLoose p l y (headSpec ws rm) cc maxL ret e s m args below meth c s₁ → c.maxLocals = maxL → (∀ x ∈ c.exceptionTable.toList, False) → Pc args s →
      W p l e (headSpec ws rm).room s m args below meth c s.heap [] 0 0 (vx_MQ below Qc XC args s mc ms free) (entryFrame m args maxL)) : vx_Met l y ws rm Pc Qc XC mc ms free := by
  refine MetFree.of_bodySF (code := cc) (maxLocals := maxL) (ret := ret) hy ?_ ?_
  · intro args s m h hn
    obtain ⟨meth, c, h1, h2, h3, h4, h5, h6, -, -⟩ := Cond.code_spec hn (atoms_spec (ws := ws) h _ (by rw [hw]; exact List.mem_cons_self))
    exact ⟨meth, c, h1, h2, h3, h4, h5, h6⟩
  · intro p e s m args below meth c s₁ B hml hP _
    have hh0 : s₁.heap = s.heap := by rw [B.state]; rfl
    have ht : ∀ x ∈ c.exceptionTable.toList, False := by
      obtain ⟨meth9, c9, h1, h2, -, -, -, -, h7, -⟩ := Cond.code_spec B.named (atoms_spec (ws := ws) B.pre _ (by rw [hw]; exact List.mem_cons_self))
      cases Option.some.inj (h1.symm.trans B.method)
      cases Option.some.inj (h2.symm.trans (Stand.of_body B).code)
      intro x hx
      rw [Array.isEmpty_iff.mp h7] at hx
      cases hx
    obtain ⟨t, a1, o, b1, b2, b3⟩ := body p e s m args below meth c s₁ B hml ht hP s₁ hh0 (Stand.of_body B)
    exact ⟨t, o, a1, b1, b2, b3⟩
theorem vx_ofWHF {l : Launch} {y : MethodName} {ws ws' : List Cond} {rm : Room} {Pc : Array Value → State → Prop} {Qc : Array Value → State → Outcome → State → Prop} {XC : Addr → String → State → State → Prop} {mc ms : Nat} {free : Addr → Prop} {cc : ByteArray} {maxL : Nat} {ret : Option FieldType} {hh : List (Nat × Nat × Nat × Nat)}
    (hy : plainFor y = true) (hw : ws = Cond.codeWith y cc maxL ret hh :: ws')
    (body : ∀ p e s m args below meth c s₁, BodyLoose p l y (headSpec ws rm) cc maxL ret e s m args below meth c s₁ → c.maxLocals = maxL → Pc args s →
      W p l e (headSpec ws rm).room s m args below meth c s.heap [] 0 0 (vx_MQ below Qc XC args s mc ms free) (entryFrame m args maxL)) : vx_Met l y ws rm Pc Qc XC mc ms free := by
  refine MetFree.of_bodySF (code := cc) (maxLocals := maxL) (ret := ret) hy ?_ ?_
  · intro args s m h hn
    obtain ⟨m9, meth, c, hn9, h1, h2, h3, h4, -, h5, h6, -⟩ := Cond.codeWith_spec (atoms_spec (ws := ws) h _ (by rw [hw]; exact List.mem_cons_self))
    cases hn.symm.trans hn9
    exact ⟨meth, c, h1, h2, h3, h4, h5, h6⟩
  · intro p e s m args below meth c s₁ B hml hP _
    have hh0 : s₁.heap = s.heap := by rw [B.state]; rfl
    obtain ⟨t, a1, o, b1, b2, b3⟩ := body p e s m args below meth c s₁ B hml hP s₁ hh0 (Stand.of_body B)
    exact ⟨t, o, a1, b1, b2, b3⟩
theorem evD_inv {D k : Nat} {as : List Value} {h : xH} {r : xR} (he : evD (D + 1) k as h = some r) : ∃ n m C, xpg[k]? = some (some (n, m, C)) ∧ xEok n as = true ∧ exF (evD D) C 0 (xEnt n m as) [] h = some r := by
  have h1 : (match xpg[k]? with | some (some q) => if xEok q.1 as = true then exF (evD D) q.2.2 0 (xEnt q.1 q.2.1 as) [] h else none | _ => none) = some r := he
  split at h1
  · rename_i q hq
    obtain ⟨n, m, C⟩ := q
    split at h1
    · rename_i h2
      exact ⟨n, m, C, hq, h2, h1⟩
    · cases h1
  · cases h1
/-- THE ABSTRACT MACHINE IS SOUND -/
theorem sound : ∀ (D k : Nat) (as : List Value) (h : xH) (r : xR), evD D k as h = some r → Ctr D k as h r := by
  intro D
  induction D with
  | zero => intro k as h r he; cases he
  | succ D ih =>
    intro k as h r he
    obtain ⟨n, m0, C, hp, hok, hex⟩ := evD_inv he
    obtain ⟨i, hi, hpk⟩ := xAll_at _ _ k _ xprog hp
    obtain ⟨y, b, rt, hh, rfl, hm0, hsnd, hpf⟩ := hpk n m0 C rfl
    obtain ⟨N, hN⟩ := exO_iff.mp hex
    obtain ⟨hle, hgo⟩ := xrun ih hsnd N _ r hN
    refine ⟨hle, fun q hq G l hl => ?_⟩
    cases Option.some.inj (Option.some.inj (hi.symm.trans hq))
    have body : ∀ (p : Program) (e : Env) (s : State) (m : MethodId) (args : Array Value) (below : List Frame) (meth : Method) (c : Code), p.tables.exec = Jvm.exec → c.code = b → c.maxLocals = n → s.vm.findClass y.cls = some m.cls → (∀ w ∈ lw_all, w.before args s = true) → meth.sig.returnType = rt → meth.locks = false → meth.name = y.name → c.exceptionTable.toList = tableOf hh → xPc G as h args s →
        W p l e (xrm (D + 1) (r.2.2.1 - h.2.1) (r.2.2.2 - h.2.2)) s m args below meth c s.heap [] 0 0 (vx_MQ below (xQc G r) (xXC G r) args s (r.2.2.1 - h.2.1) (r.2.2.2 - h.2.2) (xfr G)) (entryFrame m args n) := by
      intro p e s m args below meth c x1 x2 x3 x4 x5 x6 x7 x8 x9 hP
      obtain ⟨rfl, hR, hK⟩ := hP
      obtain ⟨hlen, hmem⟩ := xentry (G := G) (m := m0) hK.old hok
      have hlv := lv_mono (lv_entry (as.map (xcv G)) (n := n) hlen) hmem
      rw [lg_entry_eq]
      have k0 := hgo G p l e s m _ below meth c h ⟨x1, x2, x3, x4, x5, x6, x7, x8, hK, x9, hl, hR.1, hR.2.1⟩ xle.rf s.heap [] _ hlv hR va_S.rf
      exact W_num (Nat.sub_self _).symm (Nat.sub_self _).symm k0
    cases hh with
    | nil =>
      refine vx_ofWF (cc := b) (maxL := n) (ret := rt) hpf rfl (fun p e s m args below meth c s₁ B hml hxt hP => ?_)
      exact body p e s m args below meth c B.exec B.bytes hml (findClass_of_methodNamed B.named) (fun w hw => atoms_spec (ws := ws_ y b n rt) B.pre w (List.mem_cons_of_mem _ hw)) B.returns B.notSynchronized (name_of_methodNamed B.named B.method).1 (List.eq_nil_iff_forall_not_mem.mpr (fun x hx => hxt x hx)) hP
    | cons a hh =>
      refine vx_ofWHF (cc := b) (maxL := n) (ret := rt) (hh := a :: hh) hpf rfl (fun p e s m args below meth c s₁ B hml hP => ?_)
      exact body p e s m args below meth c B.exec B.bytes hml (findClass_of_methodNamed B.named) (fun w hw => atoms_spec (ws := wsW_ y b n rt (a :: hh)) B.pre w (List.mem_cons_of_mem _ hw)) B.returns B.notSynchronized (name_of_methodNamed B.named B.method).1 (vx_table (x := y) (bytes := b) (maxL' := n) (ret' := rt) B (atoms_spec (ws := wsW_ y b n rt (a :: hh)) B.pre _ List.mem_cons_self)) hP
