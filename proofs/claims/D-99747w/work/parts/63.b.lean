set_option maxRecDepth 100000
/-- a call's contract: what the abstract machine comes to, the machine comes to -/
def Ctr (D k : Nat) (as : List Value) (h : xH) (r : xR) : Prop := xle h r.2 ∧ ∀ q, xinf[k]? = some (some q) → ∀ (G : xG) (l : Launch), l.stackTraces = false →
  vx_Met l q.1 (xws q) (xrm D (r.2.2.1 - h.2.1) (r.2.2.2 - h.2.2)) (xPc G as h) (xQc G r) (xXC G r) (r.2.2.1 - h.2.1) (r.2.2.2 - h.2.2) (xfr G)
/-- the facts of a method's run -/
def xMc (G : xG) (own nm : String) (cc : ByteArray) (nL : Nat) (ret : Option FieldType) (hh : List (Nat × Nat × Nat × Nat)) (p : Program) (l : Launch) (s : State) (m : MethodId) (args : Array Value) (meth : Method) (c : Code) (h0 : xH) : Prop :=
  p.tables.exec = Jvm.exec ∧ c.code = cc ∧ c.maxLocals = nL ∧ s.vm.findClass own = some m.cls ∧ (∀ w ∈ lw_all, w.before args s = true) ∧ meth.sig.returnType = ret ∧ meth.locks = false ∧ meth.name = nm ∧ xKn G s s.heap ∧ c.exceptionTable.toList = tableOf hh ∧ l.stackTraces = false ∧ 64 ≤ h0.2.1 ∧ s.heap.size = gS G + (h0.2.1 - 64)
/-- the locals, as the kit lists them -/
def xlv1 (G : xG) (lv : List (Option Value)) : List (Nat × Value) := (List.range lv.length).filterMap (fun i => match lv[i]? with
  | some (some v) => if x1w v = true then some (i, xcv G v) else none
  | _ => none)
def xlv2 (lv : List (Option Int64)) : List (Nat × Value) := (List.range lv.length).filterMap (fun i => match lv[i]? with
  | some (some x) => some (i, .long x)
  | _ => none)
def xlv (G : xG) (lv : xL) : List (Nat × Value) := xlv1 G lv.1 ++ xlv2 lv.2
theorem xlv1_mem {G : xG} {lv : List (Option Value)} {i : Nat} {w : Value} : (i, w) ∈ xlv1 G lv ↔ ∃ v, lv[i]? = some (some v) ∧ x1w v = true ∧ w = xcv G v := by
  unfold xlv1
  rw [List.mem_filterMap]
  constructor
  · rintro ⟨j, hj, h⟩
    split at h
    · rename_i v hv
      split at h
      · rename_i hc
        cases h
        exact ⟨v, hv, hc, rfl⟩
      · cases h
    · cases h
  · rintro ⟨v, hv, hc, rfl⟩
    refine ⟨i, List.mem_range.mpr (List.getElem?_eq_some_iff.mp hv).1, ?_⟩
    simp only [hv]
    rw [if_pos hc]
theorem xlv2_mem {lv : List (Option Int64)} {i : Nat} {w : Value} : (i, w) ∈ xlv2 lv ↔ ∃ x, lv[i]? = some (some x) ∧ w = .long x := by
  unfold xlv2
  rw [List.mem_filterMap]
  constructor
  · rintro ⟨j, hj, h⟩
    split at h
    · rename_i v hv
      cases h
      exact ⟨v, hv, rfl⟩
    · cases h
  · rintro ⟨v, hv, rfl⟩
    refine ⟨i, List.mem_range.mpr (List.getElem?_eq_some_iff.mp hv).1, ?_⟩
    simp only [hv]
theorem xlv_at1 {G : xG} {ls : Array Slot} {nL : Nat} {lv : xL} {i : Nat} {v : Value} (h : lv_has ls nL (xlv G lv)) (hv : lv.1[i]? = some (some v)) (hc : x1w v = true) : ls[i]? = some (.val (xcv G v)) :=
  h.2.2 (i, xcv G v) (List.mem_append_left _ (xlv1_mem.mpr ⟨v, hv, hc, rfl⟩))
theorem xlv_at2 {G : xG} {ls : Array Slot} {nL : Nat} {lv : xL} {i : Nat} {x : Int64} (h : lv_has ls nL (xlv G lv)) (hv : lv.2[i]? = some (some x)) : ls[i]? = some (.val (.long x)) :=
  h.2.2 (i, .long x) (List.mem_append_right _ (xlv2_mem.mpr ⟨x, hv, rfl⟩))
theorem lv_mono {ls : Array Slot} {nL : Nat} {l l' : List (Nat × Value)} (h : lv_has ls nL l) (hs : ∀ q ∈ l', q ∈ l) : lv_has ls nL l' := ⟨h.1, h.2.1, fun q hq => h.2.2 q (hs q hq)⟩
theorem xcv_cat {G : xG} (hO : ∀ a, a < 64 → gO G a = .null ∨ ∃ t, gO G a = .ref t) {v : Value} (h : x1w v = true) : (xcv G v).category = 1 := by
  cases v with
  | ref a =>
    unfold xcv
    by_cases q : a < 64
    · rcases hO a q with e | ⟨t, e⟩ <;> simp [q, e, Value.category]
    · simp [q, Value.category]
  | long x => cases h
  | double x => cases h
  | _ => rfl
/-- a store of one word -/
theorem xlv_st1 {G : xG} (hO : ∀ a, a < 64 → gO G a = .null ∨ ∃ t, gO G a = .ref t) {lv : xL} {k : Nat} {v w : Value} (hw : w = xcv G v) : ∀ q ∈ xlv G (lv.1.set k (some v), (lv.2.set k none).set (k - 1) none), q ∈ (k, w) :: (xlv G lv).filter (fun q => !(q.1 == k) && !(q.1 + 1 == k && q.2.category == 2)) := by
  rintro ⟨j, u⟩ hq
  rcases List.mem_append.mp hq with hq | hq
  · obtain ⟨x, h1, h2, rfl⟩ := xlv1_mem.mp hq
    by_cases hj : k = j
    · subst hj
      have hlt : k < lv.1.length := by
        have := (List.getElem?_eq_some_iff.mp h1).1
        simpa using this
      rw [List.getElem?_set_self hlt] at h1
      cases h1
      rw [hw]
      exact List.mem_cons_self
    · rw [List.getElem?_set_ne hj] at h1
      refine List.mem_cons_of_mem _ (List.mem_filter.mpr ⟨List.mem_append_left _ (xlv1_mem.mpr ⟨x, h1, h2, rfl⟩), ?_⟩)
      have hc := xcv_cat (G := G) hO h2
      simp [hc, Ne.symm hj]
  · obtain ⟨x, h1, rfl⟩ := xlv2_mem.mp hq
    have hj1 : k - 1 ≠ j := by
      rintro rfl
      by_cases hlt : k - 1 < ((lv.2.set k none)).length
      · rw [List.getElem?_set_self hlt] at h1
        cases h1
      · have := (List.getElem?_eq_some_iff.mp h1).1
        rw [List.length_set] at this
        exact hlt this
    rw [List.getElem?_set_ne hj1] at h1
    have hj : k ≠ j := by
      rintro rfl
      by_cases hlt : k < lv.2.length
      · rw [List.getElem?_set_self hlt] at h1
        cases h1
      · have := (List.getElem?_eq_some_iff.mp h1).1
        rw [List.length_set] at this
        exact hlt this
    rw [List.getElem?_set_ne hj] at h1
    refine List.mem_cons_of_mem _ (List.mem_filter.mpr ⟨List.mem_append_right _ (xlv2_mem.mpr ⟨x, h1, rfl⟩), ?_⟩)
    have : ¬ j + 1 = k := by omega
    simp [Ne.symm hj, this]
/-- a store of a long -/
theorem xlv_st2 {G : xG} (hO : ∀ a, a < 64 → gO G a = .null ∨ ∃ t, gO G a = .ref t) {lv : xL} {k : Nat} {v : Int64} : ∀ q ∈ xlv G ((lv.1.set k none).set (k + 1) none, ((lv.2.set (k - 1) none).set (k + 1) none).set k (some v)), q ∈ (k, Value.long v) :: (xlv G lv).filter (fun q => !(q.1 == k) && (!(q.1 == k + 1) && !(q.1 + 1 == k && q.2.category == 2))) := by
  have ne : ∀ {α : Type} {l : List (Option α)} {i j : Nat} {x : α}, (l.set i none)[j]? = some (some x) → i ≠ j ∧ l[j]? = some (some x) := by
    intro α l i j x h
    by_cases e : i = j
    · subst e
      by_cases hlt : i < l.length
      · rw [List.getElem?_set_self hlt] at h
        cases h
      · have := (List.getElem?_eq_some_iff.mp h).1
        rw [List.length_set] at this
        exact absurd this hlt
    · rw [List.getElem?_set_ne e] at h
      exact ⟨e, h⟩
  rintro ⟨j, u⟩ hq
  rcases List.mem_append.mp hq with hq | hq
  · obtain ⟨x, h1, h2, rfl⟩ := xlv1_mem.mp hq
    obtain ⟨e1, h1⟩ := ne h1
    obtain ⟨e2, h1⟩ := ne h1
    refine List.mem_cons_of_mem _ (List.mem_filter.mpr ⟨List.mem_append_left _ (xlv1_mem.mpr ⟨x, h1, h2, rfl⟩), ?_⟩)
    have hc := xcv_cat (G := G) hO h2
    simp [hc, Ne.symm e1, Ne.symm e2]
  · obtain ⟨x, h1, rfl⟩ := xlv2_mem.mp hq
    by_cases hj : k = j
    · subst hj
      have hlt : k < ((lv.2.set (k - 1) none).set (k + 1) none).length := by
        have := (List.getElem?_eq_some_iff.mp h1).1
        simpa using this
      rw [List.getElem?_set_self hlt] at h1
      cases h1
      exact List.mem_cons_self
    · rw [List.getElem?_set_ne hj] at h1
      obtain ⟨e1, h1⟩ := ne h1
      obtain ⟨e2, h1⟩ := ne h1
      refine List.mem_cons_of_mem _ (List.mem_filter.mpr ⟨List.mem_append_right _ (xlv2_mem.mpr ⟨x, h1, rfl⟩), ?_⟩)
      have : ¬ j + 1 = k := by omega
      simp [Ne.symm hj, Ne.symm e1, this]
/-- the machine at a state of the abstract machine: it comes to r -/
def xAt (G : xG) (D nL : Nat) (p : Program) (l : Launch) (e : Env) (s : State) (m : MethodId) (args : Array Value) (below : List Frame) (meth : Method) (c : Code) (h0 : xH) (r : xR) (S : xS) : Prop :=
  ∀ (H : Heap) (locs : List Loc) (ls : Array Slot), lv_has ls nL (xlv G S.2.1) → xRp G S.2.2.2 s H → va_S (xfr G) s.heap H locs →
    W p l e (xrm D (r.2.2.1 - h0.2.1) (r.2.2.2 - h0.2.2)) s m args below meth c H locs (S.2.2.2.2.1 - h0.2.1) (S.2.2.2.2.2 - h0.2.2) (vx_MQ below (xQc G r) (xXC G r) args s (r.2.2.1 - h0.2.1) (r.2.2.2 - h0.2.2) (xfr G)) (F0 m S.1 ls (S.2.2.1.map (xcv G)))
def xnh (nx : xS ⊕ xR) : xH := match nx with
  | .inl S => S.2.2.2
  | .inr r => r.2
def xGo (G : xG) (D nL : Nat) (p : Program) (l : Launch) (e : Env) (s : State) (m : MethodId) (args : Array Value) (below : List Frame) (meth : Method) (c : Code) (h0 : xH) (r : xR) (nx : xS ⊕ xR) : Prop := match nx with
  | .inl S => xle S.2.2.2 r.2 ∧ xAt G D nL p l e s m args below meth c h0 r S
  | .inr r' => r' = r
/-- an instruction's soundness -/
def Snd (own nm : String) (cc : ByteArray) (nL : Nat) (ret : Option FieldType) (hh : List (Nat × Nat × Nat × Nat)) (pc : Nat) (i : xI) : Prop :=
  ∀ (D : Nat) (ev : xV), (∀ k as h r, ev k as h = some r → Ctr D k as h r) → ∀ (lv : xL) (st : List Value) (h : xH) (nx : xS ⊕ xR), i ev lv st h = some nx → xle h (xnh nx) ∧
    ∀ (G : xG) (p : Program) (l : Launch) (e : Env) (s : State) (m : MethodId) (args : Array Value) (below : List Frame) (meth : Method) (c : Code) (h0 : xH) (r : xR),
      xMc G own nm cc nL ret hh p l s m args meth c h0 → xle h0 h → xGo G (D + 1) nL p l e s m args below meth c h0 r nx → xAt G (D + 1) nL p l e s m args below meth c h0 r (pc, lv, st, h)
