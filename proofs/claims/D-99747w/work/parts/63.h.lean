set_option maxRecDepth 100000
section SND6
variable {own nm : String} {cc : ByteArray} {nL : Nat} {ret : Option FieldType} {hh : List (Nat × Nat × Nat × Nat)} {pc : Nat}
/-- an instruction's soundness at one state -/
def SndAt (own nm : String) (cc : ByteArray) (nL : Nat) (ret : Option FieldType) (hh : List (Nat × Nat × Nat × Nat)) (pc D : Nat) (lv : xL) (st : List Value) (h : xH) (nx : xS ⊕ xR) : Prop := xle h (xnh nx) ∧
    ∀ (G : xG) (p : Program) (l : Launch) (e : Env) (s : State) (m : MethodId) (args : Array Value) (below : List Frame) (meth : Method) (c : Code) (h0 : xH) (r : xR),
      xMc G own nm cc nL ret hh p l s m args meth c h0 → xle h0 h → xGo G (D + 1) nL p l e s m args below meth c h0 r nx → xAt G (D + 1) nL p l e s m args below meth c h0 r (pc, lv, st, h)
abbrev xPd (y : MethodName) (na : Nat) : Prop := y.cls ≠ "java/lang/invoke/MethodHandle" ∧ y.cls ≠ "java/lang/invoke/VarHandle" ∧ (parseMethodDescriptor y.desc).map (fun d => d.parameters.length) = some na
/-- a static call's run -/
def xSm (own : String) (cc : ByteArray) (nL pc na : Nat) (y : MethodName) (ws : List Cond) (maxL : Nat) : Prop :=
  ∀ (p : Program) (l : Launch) (e : Env) (R : Room) (s : State) (m : MethodId) (args : Array Value) (below : List Frame) (meth : Method) (c : Code) (H : Heap) (locs : List Loc) (cells slots mc ms : Nat) (rm : Room) (Pc : Array Value → State → Prop) (Qc : Array Value → State → Outcome → State → Prop) (XC : Addr → String → State → State → Prop) (free : Addr → Prop) (As rest : List Value) (ls : Array Slot),
    CallFix p m c cc nL s args lw_all own → xNw s → vx_Met l y ws rm Pc Qc XC mc ms free → rm.cells = mc → rm.slots = ms → (rm.frames + 1 ≤ R.frames ∧ 8 + (maxL + 11) + rm.locals ≤ R.locals) → PreS s H Pc As → As.length = na → ls.size = nL → (rest.map fun v => v.category).sum ≤ 8 → (cells + mc ≤ R.cells ∧ slots + ms ≤ R.slots) →
    vx_Run p l e R s m args below meth c H locs cells slots mc ms (F0 m pc ls (As.reverse ++ rest)) rest (Qc As.toArray) XC free
/-- a virtual call's run: the receiver is of the class C -/
def xVm (own : String) (cc : ByteArray) (nL pc na : Nat) (C : String) (y : MethodName) (ws : List Cond) (maxL : Nat) : Prop :=
  ∀ (p : Program) (l : Launch) (e : Env) (R : Room) (s : State) (m : MethodId) (args : Array Value) (below : List Frame) (meth : Method) (c : Code) (H : Heap) (locs : List Loc) (cells slots mc ms : Nat) (rm : Room) (Pc : Array Value → State → Prop) (Qc : Array Value → State → Outcome → State → Prop) (XC : Addr → String → State → State → Prop) (free : Addr → Prop) (b : Nat) (As rest : List Value) (ls : Array Slot),
    CallFix p m c cc nL s args lw_all own → xNw s → vx_Met l y ws rm Pc Qc XC mc ms free → rm.cells = mc → rm.slots = ms → (rm.frames + 1 ≤ R.frames ∧ 8 + (maxL + 11) + rm.locals ≤ R.locals) → PreV s H C b Pc As → As.length = na → ls.size = nL → (rest.map fun v => v.category).sum ≤ 8 → (cells + mc ≤ R.cells ∧ slots + ms ≤ R.slots) →
    (∀ q cC, s.vm.findClass C = some cC → s.vm.classes[cC]? = some q → q.kind = .ordinary → True) → (∃ cC, ClassAt s C cC) →
    vx_Run p l e R s m args below meth c H locs cells slots mc ms (F0 m pc ls (As.reverse ++ .ref b :: rest)) rest (Qc (Value.ref b :: As).toArray) XC free
theorem xSm_S {na index maxL : Nat} {y : MethodName} {bytes : ByteArray} {rt : Option FieldType} (d : decode cc pc = .ok (.invokestatic index, 3)) (hw : Cond.methodLink own index y ∈ lw_all) (hst : Cond.static y ∈ lw_all) (hini : Cond.initialized y.cls ∈ lw_all) (hcode : Cond.code y bytes maxL rt ∈ lw_all) (hd : xPd y na) : xSm own cc nL pc na y (ws_ y bytes maxL rt) maxL := by
  intro p l e R s m args below meth c H locs cells slots mc ms rm Pc Qc XC free As rest ls hF hN hM h1 h2 h3 h4 h5 h6 h7 h8
  exact vx_runS hF hM (va_cwS na hF.2.2.2.2 (lw_S hw hst hini hcode) rfl h1 h2 hd h3) h4 rfl h5 h6 rfl (lv_room h7) d h8
theorem xSm_N {na index maxL : Nat} {y : MethodName} {host : String} {bytes : ByteArray} {rt : Option FieldType} (d : decode cc pc = .ok (.invokestatic index, 3)) (hw : Cond.methodLinkNest own index y host ∈ lw_tbl) (hst : Cond.static y ∈ lw_all) (hini : Cond.initialized y.cls ∈ lw_all) (hcode : Cond.code y bytes maxL rt ∈ lw_all) (hd : xPd y na) : xSm own cc nL pc na y (ws_ y bytes maxL rt) maxL := by
  intro p l e R s m args below meth c H locs cells slots mc ms rm Pc Qc XC free As rest ls hF hN hM h1 h2 h3 h4 h5 h6 h7 h8
  exact vx_runSN hF hM ⟨va_cnB na hF.2.2.2.2 (lw_meth hcode) rfl h1 h2 (hN.1 _ hw rfl) (hF.2.2.2.2 _ hini) hd h3, hF.2.2.2.2 _ hst, trivial⟩ h4 rfl h5 h6 rfl (lv_room h7) d h8
theorem xSm_SW {na index maxL : Nat} {y : MethodName} {bytes : ByteArray} {rt : Option FieldType} {hw2 : List (Nat × Nat × Nat × Nat)} (d : decode cc pc = .ok (.invokestatic index, 3)) (hw : Cond.methodLink own index y ∈ lw_all) (hst : Cond.static y ∈ lw_all) (hini : Cond.initialized y.cls ∈ lw_all) (hcode : Cond.codeWith y bytes maxL rt hw2 ∈ lw_all) (hd : xPd y na) : xSm own cc nL pc na y (wsW_ y bytes maxL rt hw2) maxL := by
  intro p l e R s m args below meth c H locs cells slots mc ms rm Pc Qc XC free As rest ls hF hN hM h1 h2 h3 h4 h5 h6 h7 h8
  exact vx_runSX hF hM (vx_cwSW na hF.2.2.2.2 (lw_SW hw hst hini hcode) rfl h1 h2 hd h3) h4 rfl h5 h6 rfl (lv_room h7) d h8
theorem xVm_V {na index maxL : Nat} {C : String} {y : MethodName} {bytes : ByteArray} {rt : Option FieldType} (d : decode cc pc = .ok (.invokevirtual index, 3)) (hC : y.cls = C) (hw : Cond.methodLink own index y ∈ lw_all) (hin : Cond.instanceMethod y ∈ lw_all) (hsel : Cond.selects C y y ∈ lw_all) (hini : Cond.initialized C ∈ lw_all) (hcode : Cond.code y bytes maxL rt ∈ lw_all) (hd : xPd y na) : xVm own cc nL pc na C y (ws_ y bytes maxL rt) maxL := by
  intro p l e R s m args below meth c H locs cells slots mc ms rm Pc Qc XC free b As rest ls hF hN hM h1 h2 h3 h4 h5 h6 h7 h8 _ _
  exact vx_runV hF hM (cwV na hF.2.2.2.2 (lw_V hw hin hsel hini hcode) rfl h1 h2 ⟨hC, hd⟩ h3) h4 rfl h5 h6 rfl (lv_room h7) d h8
theorem xVm_VW {na index maxL : Nat} {C : String} {y : MethodName} {bytes : ByteArray} {rt : Option FieldType} {hw2 : List (Nat × Nat × Nat × Nat)} (d : decode cc pc = .ok (.invokevirtual index, 3)) (hC : y.cls = C) (hw : Cond.methodLink own index y ∈ lw_all) (hin : Cond.instanceMethod y ∈ lw_all) (hsel : Cond.selects C y y ∈ lw_all) (hini : Cond.initialized C ∈ lw_all) (hcode : Cond.codeWith y bytes maxL rt hw2 ∈ lw_all) (hd : xPd y na) : xVm own cc nL pc na C y (wsW_ y bytes maxL rt hw2) maxL := by
  intro p l e R s m args below meth c H locs cells slots mc ms rm Pc Qc XC free b As rest ls hF hN hM h1 h2 h3 h4 h5 h6 h7 h8 _ _
  exact vx_runVX hF hM (vx_cwVW na hF.2.2.2.2 (lw_VW hw hin hsel hini hcode) rfl h1 h2 ⟨hC, hd⟩ h3) h4 rfl h5 h6 rfl (lv_room h7) d h8
theorem xVm_N {na index maxL : Nat} {C host : String} {y : MethodName} {bytes : ByteArray} {rt : Option FieldType} (d : decode cc pc = .ok (.invokevirtual index, 3)) (hw : Cond.methodLinkNest own index y host ∈ lw_tbl) (hin : Cond.instanceMethod y ∈ lw_all) (hsel : Cond.selects C y y ∈ lw_all) (hini : Cond.initialized y.cls ∈ lw_all) (hcode : Cond.code y bytes maxL rt ∈ lw_all) (hd : xPd y na) : xVm own cc nL pc na C y (ws_ y bytes maxL rt) maxL := by
  intro p l e R s m args below meth c H locs cells slots mc ms rm Pc Qc XC free b As rest ls hF hN hM h1 h2 h3 h4 h5 h6 h7 h8 _ _
  exact vx_runVN hF hM ⟨va_cnB na hF.2.2.2.2 (lw_meth hcode) rfl h1 h2 (hN.1 _ hw rfl) (hF.2.2.2.2 _ hini) hd h3, hF.2.2.2.2 _ hin, hF.2.2.2.2 _ hsel⟩ h4 rfl h5 h6 rfl (lv_room h7) d h8
theorem xwsU {own C owner : String} {index maxL : Nat} {x y : MethodName} {bytes : ByteArray} {rt : Option FieldType} (hw : Cond.methodLink own index x ∈ lw_all) (hsm : Cond.sameMethod x.cls owner x.name x.desc ∈ lw_all) (hsel : Cond.selects C x y ∈ lw_all) (hin : Cond.instanceMethod y ∈ lw_all) (hini : Cond.initialized y.cls ∈ lw_all) (hcode : Cond.code y bytes maxL rt ∈ lw_all) : GoodIn lw_all (va_wsU own index C owner x y (ws_ y bytes maxL rt)) := by
  refine lw_app (fun w h => ?_) (lw_meth hcode)
  simp only [List.mem_cons, List.not_mem_nil, or_false] at h
  rcases h with rfl | rfl | rfl | rfl | rfl <;> assumption
theorem xVm_U {na index maxL : Nat} {C : String} {x : MethodName} {bytes : ByteArray} {rt : Option FieldType} (d : decode cc pc = .ok (.invokevirtual index, 3)) (hw : Cond.methodLink own index x ∈ lw_all) (hsm : Cond.sameMethod x.cls x.cls x.name x.desc ∈ lw_all) (hsel : Cond.selects C x x ∈ lw_all) (hin : Cond.instanceMethod x ∈ lw_all) (hini : Cond.initialized x.cls ∈ lw_all) (hcode : Cond.code x bytes maxL rt ∈ lw_all) (hd : xPd x na) : xVm own cc nL pc na C x (ws_ x bytes maxL rt) maxL := by
  intro p l e R s m args below meth c H locs cells slots mc ms rm Pc Qc XC free b As rest ls hF hN hM h1 h2 h3 h4 h5 h6 h7 h8 _ _
  exact vx_runU hF hM (va_cwU na hF.2.2.2.2 (xwsU hw hsm hsel hin hini hcode) rfl h1 h2 rfl hd h3) h4 rfl h5 h6 rfl (lv_room h7) d h8
theorem xVm_P {na index maxL : Nat} {C : String} {x : MethodName} {bytes : ByteArray} {rt : Option FieldType} (d : decode cc pc = .ok (.invokevirtual index, 3)) (hw : Cond.methodLink own index x ∈ lw_all) (hsm : Cond.sameMethod x.cls x.cls x.name x.desc ∈ lw_all) (hsel : xselE = Cond.selects C x x) (hin : Cond.instanceMethod x ∈ lw_all) (hini : Cond.initialized x.cls ∈ lw_all) (hcode : Cond.code x bytes maxL rt ∈ lw_all) (hd : xPd x na) : xVm own cc nL pc na C x (ws_ x bytes maxL rt) maxL := by
  intro p l e R s m args below meth c H locs cells slots mc ms rm Pc Qc XC free b As rest ls hF hN hM h1 h2 h3 h4 h5 h6 h7 h8 _ _
  have hts := hF.2.2.2.2
  have hG : GoodIn lw_all (ws_ x bytes maxL rt) := lw_meth hcode
  have hc : Cond.code x bytes maxL rt ∈ ws_ x bytes maxL rt := List.mem_cons_self
  have hse : (Cond.selects C x x).before args s = true := by
    rw [← hsel]
    exact va_Nw.use rfl hN.2.1
  refine vx_runU (owner := x.cls) hF hM ⟨⟨h1, h2, h3.1, h3.2, pay_in hts hG, hc⟩, hts _ hcode, hts _ hini, ⟨hd.1, hd.2.1⟩, fun sig h => ?_, hts _ hw, hts _ hsm, va_Decl.of (hts _ hin) (hts _ hcode), hse, hts _ hin⟩ h4 rfl h5 h6 rfl (lv_room h7) d h8
  have h2 := hd.2.2
  rw [h] at h2
  exact (Option.some.inj h2).symm
theorem xVm_A {na index maxL : Nat} {C : String} {x y : MethodName} {bytes : ByteArray} {rt : Option FieldType} (d : decode cc pc = .ok (.invokevirtual index, 3)) (hw : Cond.methodLink own index x ∈ lw_all) (hsm : Cond.sameMethod x.cls x.cls x.name x.desc ∈ lw_all) (hsel : Cond.selects C x y ∈ lw_all) (hin : Cond.instanceMethod y ∈ lw_all) (hini : Cond.initialized y.cls ∈ lw_all) (hcode : Cond.code y bytes maxL rt ∈ lw_all) (hdc : Cond.declares x ∈ lw_tbl) (hd : xPd x na) : xVm own cc nL pc na C y (ws_ y bytes maxL rt) maxL := by
  intro p l e R s m args below meth c H locs cells slots mc ms rm Pc Qc XC free b As rest ls hF hN hM h1 h2 h3 h4 h5 h6 h7 h8 _ _
  exact vx_runU hF hM (va_cwA na hF.2.2.2.2 (xwsU hw hsm hsel hin hini hcode) rfl h1 h2 (hN.1 _ hdc rfl) hd h3) h4 rfl h5 h6 rfl (lv_room h7) d h8
theorem xVm_O {na index maxL m0 : Nat} {C : String} {x y : MethodName} {bytes b0 : ByteArray} {rt r0 : Option FieldType} (d : decode cc pc = .ok (.invokevirtual index, 3)) (hw : Cond.methodLink own index x ∈ lw_all) (hsm : Cond.sameMethod x.cls x.cls x.name x.desc ∈ lw_all) (hsel : Cond.selects C x y ∈ lw_all) (hin : Cond.instanceMethod y ∈ lw_all) (hinx : Cond.instanceMethod x ∈ lw_all) (hini : Cond.initialized y.cls ∈ lw_all) (hcode : Cond.code y bytes maxL rt ∈ lw_all) (hc0 : Cond.code x b0 m0 r0 ∈ lw_all) (hd : xPd x na) : xVm own cc nL pc na C y (ws_ y bytes maxL rt) maxL := by
  intro p l e R s m args below meth c H locs cells slots mc ms rm Pc Qc XC free b As rest ls hF hN hM h1 h2 h3 h4 h5 h6 h7 h8 _ _
  refine vx_runU hF hM (va_cwO (owner := x.cls) na hF.2.2.2.2 (lw_app (fun w h => ?_) (lw_meth hcode)) rfl h1 h2 hc0 hd h3) h4 rfl h5 h6 rfl (lv_room h7) d h8
  simp only [List.mem_cons, List.not_mem_nil, or_false] at h
  rcases h with rfl | rfl | rfl | rfl | rfl | rfl <;> assumption
theorem xVm_SU {na index maxL : Nat} {C : String} {y : MethodName} {bytes : ByteArray} {rt : Option FieldType} (d : decode cc pc = .ok (.invokespecial index, 3)) (hw : Cond.methodLink own index y ∈ lw_all) (hsm : Cond.sameMethod y.cls y.cls y.name y.desc ∈ lw_all) (hsup : Cond.superclass own y.cls ∈ lw_all) (hin : Cond.instanceMethod y ∈ lw_all) (hini : Cond.initialized y.cls ∈ lw_all) (hcode : Cond.code y bytes maxL rt ∈ lw_all) (hd : y.name ≠ "<init>" ∧ (parseMethodDescriptor y.desc).map (fun d => d.parameters.length) = some na) : xVm own cc nL pc na C y (ws_ y bytes maxL rt) maxL := by
  intro p l e R s m args below meth c H locs cells slots mc ms rm Pc Qc XC free b As rest ls hF hN hM h1 h2 h3 h4 h5 h6 h7 h8 _ hat
  obtain ⟨cC, hat⟩ := hat
  refine vx_runSU hat hF hM (va_cwSU na hF.2.2.2.2 (lw_app (fun w h => ?_) (lw_meth hcode)) rfl h1 h2 hd h3) h4 rfl h5 h6 rfl (lv_room h7) d h8
  simp only [List.mem_cons, List.not_mem_nil, or_false] at h
  rcases h with rfl | rfl | rfl | rfl | rfl <;> assumption
/-- a constructor's run -/
def xIm (own : String) (cc : ByteArray) (nL pc na : Nat) (y : MethodName) (ws : List Cond) (maxL : Nat) : Prop :=
  ∀ (p : Program) (l : Launch) (e : Env) (R : Room) (s : State) (m : MethodId) (args : Array Value) (below : List Frame) (meth : Method) (c : Code) (H : Heap) (locs : List Loc) (cells slots mc ms : Nat) (rm : Room) (Pc : Array Value → State → Prop) (Qc : Array Value → State → Outcome → State → Prop) (XC : Addr → String → State → State → Prop) (free : Addr → Prop) (b : Nat) (As rest : List Value) (ls : Array Slot),
    CallFix p m c cc nL s args lw_all own → xNw s → vx_Met l y ws rm Pc Qc XC mc ms free → rm.cells = mc → rm.slots = ms → (rm.frames + 1 ≤ R.frames ∧ 8 + (maxL + 11) + rm.locals ≤ R.locals) → PreS s H Pc (.ref b :: As) → As.length = na → ls.size = nL → (rest.map fun v => v.category).sum ≤ 8 → (cells + mc ≤ R.cells ∧ slots + ms ≤ R.slots) →
    vx_Run p l e R s m args below meth c H locs cells slots mc ms (F0 m pc ls (As.reverse ++ .ref b :: rest)) rest (Qc (Value.ref b :: As).toArray) XC free
theorem xIm_I {na index maxL : Nat} {y : MethodName} {bytes : ByteArray} (d : decode cc pc = .ok (.invokespecial index, 3)) (hn : y.name = "<init>") (hw : Cond.methodLink own index y ∈ lw_all) (hin : Cond.instanceMethod y ∈ lw_all) (hini : Cond.initialized y.cls ∈ lw_all) (hcode : Cond.code y bytes maxL none ∈ lw_all) (hd : xPd y na) : xIm own cc nL pc na y (ws_ y bytes maxL none) maxL := by
  intro p l e R s m args below meth c H locs cells slots mc ms rm Pc Qc XC free b As rest ls hF hN hM h1 h2 h3 h4 h5 h6 h7 h8
  exact vx_runI hF hM (cwI na hF.2.2.2.2 (lw_meth hcode) rfl h1 h2 (hF.2.2.2.2 _ hini) (hF.2.2.2.2 _ hw) (hF.2.2.2.2 _ hin) hn hd h3) h4 rfl h5 h6 rfl (lv_room h7) d h8
theorem xIm_N {na index maxL : Nat} {host : String} {y : MethodName} {bytes : ByteArray} (d : decode cc pc = .ok (.invokespecial index, 3)) (hn : y.name = "<init>") (hw : Cond.methodLinkNest own index y host ∈ lw_tbl) (hin : Cond.instanceMethod y ∈ lw_all) (hini : Cond.initialized y.cls ∈ lw_all) (hcode : Cond.code y bytes maxL none ∈ lw_all) (hd : xPd y na) : xIm own cc nL pc na y (ws_ y bytes maxL none) maxL := by
  intro p l e R s m args below meth c H locs cells slots mc ms rm Pc Qc XC free b As rest ls hF hN hM h1 h2 h3 h4 h5 h6 h7 h8
  exact vx_runIN hF hM ⟨va_cnB na hF.2.2.2.2 (lw_meth hcode) rfl h1 h2 (hN.1 _ hw rfl) (hF.2.2.2.2 _ hini) hd h3, hn, hF.2.2.2.2 _ hin⟩ h4 rfl h5 h6 rfl (lv_room h7) d h8
theorem xfit {h0 h : xH} {r r' : xR} (h9 : xle h0 h) (hle : xle h r'.2) (hle2 : xle r'.2 r.2) (D : Nat) : h.2.1 - h0.2.1 + (r'.2.2.1 - h.2.1) ≤ (xrm D (r.2.2.1 - h0.2.1) (r.2.2.2 - h0.2.2)).cells ∧ h.2.2 - h0.2.2 + (r'.2.2.2 - h.2.2) ≤ (xrm D (r.2.2.1 - h0.2.1) (r.2.2.2 - h0.2.2)).slots := by
  have q1 := h9.1; have q2 := h9.2; have q3 := hle.1; have q4 := hle.2; have q5 := hle2.1; have q6 := hle2.2
  unfold xrm
  dsimp only
  omega
/-- a static call -/
theorem xcs {D k na maxL : Nat} {ev : xV} {y : MethodName} {bytes : ByteArray} {rt : Option FieldType} {h2 : List (Nat × Nat × Nat × Nat)} {lv : xL} {st : List Value} {h : xH} {nx : xS ⊕ xR} {r' : xR} (hev : ∀ k as h r, ev k as h = some r → Ctr D k as h r) (hh0 : (tableOf hh).all (fun x => !covers x pc) = true) (hinf : xinf[k]? = some (some (y, bytes, maxL, rt, h2))) (hL : maxL ≤ 40) (mode : xSm own cc nL pc na y (xws (y, bytes, maxL, rt, h2)) maxL)
    (hlen : na ≤ st.length) (hok : ok4 (st.drop na) = true) (hr : ev k (st.take na).reverse h = some r') (hnx : xcn (pc + 3) lv (st.drop na) r' nx) : SndAt own nm cc nL ret hh pc D lv st h nx := by
  obtain ⟨hle, hmet⟩ := hev k _ h r' hr
  refine ⟨by rw [xcn_h hnx]; exact hle, fun G p l e s m args below meth c h0 r hM h9 go H locs ls hv hR hS => ?_⟩
  have hm := hmet _ hinf G l hM.2.2.2.2.2.2.2.2.2.2.1
  have hle2 := xcn_le hnx go
  show W _ _ _ _ _ _ _ _ _ _ _ _ _ _ _ (F0 m pc ls (st.map (xcv G)))
  rw [xstk (G := G) (st := st) na]
  exact xcall hh0 hM h9 hle hS hv (mode p l e _ s m args below meth c H locs _ _ _ _ _ _ _ _ _ _ _ ls ⟨hM.1, hM.2.1, hM.2.2.1, hM.2.2.2.1, hM.2.2.2.2.1⟩ hM.2.2.2.2.2.2.2.2.1.2.1 hm rfl rfl (xroom hL) ⟨xblind _ _ _, xpre _ hM.2.2.2.2.2.2.2.2.1 hR hS⟩ (by rw [List.length_map, List.length_reverse, List.length_take]; omega) hv.1 (xok4 hok) (xfit h9 hle hle2 _)) hnx go
theorem snd_cs {k na maxL : Nat} {y : MethodName} {bytes : ByteArray} {rt : Option FieldType} {h2 : List (Nat × Nat × Nat × Nat)} (hh0 : (tableOf hh).all (fun x => !covers x pc) = true) (hinf : xinf[k]? = some (some (y, bytes, maxL, rt, h2))) (hL : maxL ≤ 40) (mode : xSm own cc nL pc na y (xws (y, bytes, maxL, rt, h2)) maxL) : Snd own nm cc nL ret hh pc (i_cs k na (pc + 3)) := by
  intro D ev hev lv st h nx hi
  unfold i_cs at hi
  split at hi
  · rename_i hq
    rw [Bool.and_eq_true] at hq
    obtain ⟨r', hr, hnx⟩ := xBn_s hi
    exact xcs hev hh0 hinf hL mode (of_decide_eq_true hq.1) hq.2 hr hnx
  · cases hi
theorem snd_csv {k na maxL : Nat} {y : MethodName} {bytes : ByteArray} {rt : Option FieldType} {h2 : List (Nat × Nat × Nat × Nat)} (hh0 : (tableOf hh).all (fun x => !covers x pc) = true) (hinf : xinf[k]? = some (some (y, bytes, maxL, rt, h2))) (hL : maxL ≤ 40) (mode : xSm own cc nL pc na y (xws (y, bytes, maxL, rt, h2)) maxL) : Snd own nm cc nL ret hh pc (i_csv k na (pc + 3)) := by
  intro D ev hev lv st h nx hi
  unfold i_csv at hi
  split at hi
  · rename_i hq
    rw [Bool.and_eq_true] at hq
    obtain ⟨r', hr, hnx⟩ := xBvn_s hi
    exact xcs hev hh0 hinf hL mode (of_decide_eq_true hq.1) hq.2 hr hnx
  · cases hi
/-- a virtual call -/
theorem xcv_ {D k na ci a maxL : Nat} {ev : xV} {y : MethodName} {w : vw_C} {bytes : ByteArray} {rt : Option FieldType} {h2 : List (Nat × Nat × Nat × Nat)} {lv : xL} {st rest : List Value} {h : xH} {fs : Nat → Value} {nx : xS ⊕ xR} {r' : xR} (hev : ∀ k as h r, ev k as h = some r → Ctr D k as h r) (hh0 : (tableOf hh).all (fun x => !covers x pc) = true) (hinf : xinf[k]? = some (some (y, bytes, maxL, rt, h2))) (hL : maxL ≤ 40) (hw : xcls[ci]? = some w) (mode : xVm own cc nL pc na w.1 y (xws (y, bytes, maxL, rt, h2)) maxL)
    (hst : st.drop na = .ref a :: rest) (hok : ok4 rest = true) (h3 : h.1 a = some (.inr (ci, fs))) (hr : ev k (.ref a :: (st.take na).reverse) h = some r') (hnx : xcn (pc + 3) lv rest r' nx) : SndAt own nm cc nL ret hh pc D lv st h nx := by
  obtain ⟨hle, hmet⟩ := hev k _ h r' hr
  refine ⟨by rw [xcn_h hnx]; exact hle, fun G p l e s m args below meth c h0 r hM h9 go H locs ls hv hR hS => ?_⟩
  have hm := hmet _ hinf G l hM.2.2.2.2.2.2.2.2.2.2.1
  have hle2 := xcn_le hnx go
  have hKn := hM.2.2.2.2.2.2.2.2.1
  obtain ⟨t, e1, hcell⟩ := xrecv hKn hR h3 hw
  have hlen : na < st.length := by
    rcases Nat.lt_or_ge na st.length with q | q
    · exact q
    · rw [List.drop_eq_nil_of_le q] at hst
      cases hst
  show W _ _ _ _ _ _ _ _ _ _ _ _ _ _ _ (F0 m pc ls (st.map (xcv G)))
  rw [xstk (G := G) (st := st) na, hst]
  show W _ _ _ _ _ _ _ _ _ _ _ _ _ _ _ (F0 m pc ls (_ ++ xcv G (.ref a) :: rest.map (xcv G)))
  rw [e1]
  have hpre := xpre (.ref a :: (st.take na).reverse) hKn hR hS
  rw [List.map_cons, e1] at hpre
  exact xcall hh0 hM h9 hle hS hv (mode p l e _ s m args below meth c H locs _ _ _ _ _ _ _ _ _ t _ _ ls ⟨hM.1, hM.2.1, hM.2.2.1, hM.2.2.2.1, hM.2.2.2.2.1⟩ hKn.2.1 hm rfl rfl (xroom hL) ⟨xblind _ _ _, hcell, hpre⟩ (by rw [List.length_map, List.length_reverse, List.length_take]; omega) hv.1 (xok4 hok) (xfit h9 hle hle2 _) (fun _ _ _ _ _ => trivial) ⟨_, (hKn.1.1 ci w hw).2⟩) hnx go
theorem snd_cv {k na ci maxL : Nat} {y : MethodName} {w : vw_C} {bytes : ByteArray} {rt : Option FieldType} {h2 : List (Nat × Nat × Nat × Nat)} (hh0 : (tableOf hh).all (fun x => !covers x pc) = true) (hinf : xinf[k]? = some (some (y, bytes, maxL, rt, h2))) (hL : maxL ≤ 40) (hw : xcls[ci]? = some w) (mode : xVm own cc nL pc na w.1 y (xws (y, bytes, maxL, rt, h2)) maxL) : Snd own nm cc nL ret hh pc (i_cv ci k na (pc + 3)) := by
  intro D ev hev lv st h nx hi
  unfold i_cv at hi
  split at hi
  · rename_i a rest hst
    split at hi
    · rename_i hok
      obtain ⟨u, h1, h2⟩ := xOn_s hi
      obtain ⟨fs, h3⟩ := xck_s h1
      obtain ⟨r', hr, hnx⟩ := xBn_s h2
      exact xcv_ hev hh0 hinf hL hw mode hst hok h3 hr hnx
    · cases hi
  · cases hi
theorem snd_cvv {k na ci maxL : Nat} {y : MethodName} {w : vw_C} {bytes : ByteArray} {rt : Option FieldType} {h2 : List (Nat × Nat × Nat × Nat)} (hh0 : (tableOf hh).all (fun x => !covers x pc) = true) (hinf : xinf[k]? = some (some (y, bytes, maxL, rt, h2))) (hL : maxL ≤ 40) (hw : xcls[ci]? = some w) (mode : xVm own cc nL pc na w.1 y (xws (y, bytes, maxL, rt, h2)) maxL) : Snd own nm cc nL ret hh pc (i_cvv ci k na (pc + 3)) := by
  intro D ev hev lv st h nx hi
  unfold i_cvv at hi
  split at hi
  · rename_i a rest hst
    split at hi
    · rename_i hok
      obtain ⟨u, h1, h2⟩ := xOn_s hi
      obtain ⟨fs, h3⟩ := xck_s h1
      obtain ⟨r', hr, hnx⟩ := xBvn_s h2
      exact xcv_ hev hh0 hinf hL hw mode hst hok h3 hr hnx
    · cases hi
  · cases hi
theorem xcl_s {h : xH} {a c : Nat} (e : xcl h a = some c) : ∃ fs, h.1 a = some (.inr (c, fs)) := by
  unfold xcl at e
  split at e
  · rename_i c' fs heq
    cases e
    exact ⟨fs, heq⟩
  · cases e
theorem snd_ca {na : Nat} {sel : List (Nat × Nat)} (hh0 : (tableOf hh).all (fun x => !covers x pc) = true) (hsel : ∀ ci k, sel.lookup ci = some k → ∃ (y : MethodName) (bytes : ByteArray) (maxL : Nat) (rt : Option FieldType) (h2 : List (Nat × Nat × Nat × Nat)) (w : vw_C), xinf[k]? = some (some (y, bytes, maxL, rt, h2)) ∧ maxL ≤ 40 ∧ xcls[ci]? = some w ∧ xVm own cc nL pc na w.1 y (xws (y, bytes, maxL, rt, h2)) maxL) : Snd own nm cc nL ret hh pc (i_ca sel na (pc + 3)) := by
  intro D ev hev lv st h nx hi
  unfold i_ca at hi
  split at hi
  · rename_i a rest hst
    split at hi
    · rename_i hok
      obtain ⟨ci, h1, h2⟩ := xOn_s hi
      obtain ⟨k, h4, h5⟩ := xOn_s h2
      obtain ⟨fs, h3⟩ := xcl_s h1
      obtain ⟨r', hr, hnx⟩ := xBn_s h5
      obtain ⟨y, bytes, maxL, rt, hh2, w, g1, g2, g3, g4⟩ := hsel ci k h4
      exact xcv_ hev hh0 g1 g2 g3 g4 hst hok h3 hr hnx
    · cases hi
  · cases hi
/-- a constructor -/
theorem xci_ {D k na a ci maxL : Nat} {ev : xV} {y : MethodName} {w : vw_C} {bytes : ByteArray} {rt : Option FieldType} {h2 : List (Nat × Nat × Nat × Nat)} {lv : xL} {st rest : List Value} {h : xH} {fs : Nat → Value} {nx : xS ⊕ xR} {r' : xR} (hev : ∀ k as h r, ev k as h = some r → Ctr D k as h r) (hh0 : (tableOf hh).all (fun x => !covers x pc) = true) (hinf : xinf[k]? = some (some (y, bytes, maxL, rt, h2))) (hL : maxL ≤ 40) (hw : xcls[ci]? = some w) (mode : xIm own cc nL pc na y (xws (y, bytes, maxL, rt, h2)) maxL)
    (hst : st.drop na = .ref a :: rest) (hok : ok4 rest = true) (h3 : h.1 a = some (.inr (ci, fs))) (hr : ev k (.ref a :: (st.take na).reverse) h = some r') (hnx : xcn (pc + 3) lv rest r' nx) : SndAt own nm cc nL ret hh pc D lv st h nx := by
  obtain ⟨hle, hmet⟩ := hev k _ h r' hr
  refine ⟨by rw [xcn_h hnx]; exact hle, fun G p l e s m args below meth c h0 r hM h9 go H locs ls hv hR hS => ?_⟩
  have hm := hmet _ hinf G l hM.2.2.2.2.2.2.2.2.2.2.1
  have hle2 := xcn_le hnx go
  have hKn := hM.2.2.2.2.2.2.2.2.1
  obtain ⟨t, e1, hcell⟩ := xrecv hKn hR h3 hw
  have hlen : na < st.length := by
    rcases Nat.lt_or_ge na st.length with q | q
    · exact q
    · rw [List.drop_eq_nil_of_le q] at hst
      cases hst
  show W _ _ _ _ _ _ _ _ _ _ _ _ _ _ _ (F0 m pc ls (st.map (xcv G)))
  rw [xstk (G := G) (st := st) na, hst]
  show W _ _ _ _ _ _ _ _ _ _ _ _ _ _ _ (F0 m pc ls (_ ++ xcv G (.ref a) :: rest.map (xcv G)))
  rw [e1]
  have hpre := xpre (.ref a :: (st.take na).reverse) hKn hR hS
  rw [List.map_cons, e1] at hpre
  exact xcall hh0 hM h9 hle hS hv (mode p l e _ s m args below meth c H locs _ _ _ _ _ _ _ _ _ t _ _ ls ⟨hM.1, hM.2.1, hM.2.2.1, hM.2.2.2.1, hM.2.2.2.2.1⟩ hKn.2.1 hm rfl rfl (xroom hL) ⟨xblind _ _ _, hpre⟩ (by rw [List.length_map, List.length_reverse, List.length_take]; omega) hv.1 (xok4 hok) (xfit h9 hle hle2 _)) hnx go
theorem snd_ci {k na maxL : Nat} {cs : List Nat} {y : MethodName} {bytes : ByteArray} {rt : Option FieldType} {h2 : List (Nat × Nat × Nat × Nat)} (hh0 : (tableOf hh).all (fun x => !covers x pc) = true) (hinf : xinf[k]? = some (some (y, bytes, maxL, rt, h2))) (hL : maxL ≤ 40) (hcs : ∀ c ∈ cs, ∃ w, xcls[c]? = some w) (mode : xIm own cc nL pc na y (xws (y, bytes, maxL, rt, h2)) maxL) : Snd own nm cc nL ret hh pc (i_ci cs k na (pc + 3)) := by
  intro D ev hev lv st h nx hi
  unfold i_ci at hi
  split at hi
  · rename_i a rest hst
    split at hi
    · rename_i hok
      obtain ⟨u, h1, h2⟩ := xOn_s hi
      obtain ⟨ci, fs, h3, hc⟩ := xckc_s h1
      obtain ⟨w, hw⟩ := hcs ci hc
      obtain ⟨r', hr, hnx⟩ := xBvn_s h2
      exact xci_ hev hh0 hinf hL hw mode hst hok h3 hr hnx
    · cases hi
  · cases hi
theorem snd_cir {k na maxL : Nat} {cs : List Nat} {y : MethodName} {bytes : ByteArray} {rt : Option FieldType} {h2 : List (Nat × Nat × Nat × Nat)} (hh0 : (tableOf hh).all (fun x => !covers x pc) = true) (hinf : xinf[k]? = some (some (y, bytes, maxL, rt, h2))) (hL : maxL ≤ 40) (hcs : ∀ c ∈ cs, ∃ w, xcls[c]? = some w ∧ xVm own cc nL pc na w.1 y (xws (y, bytes, maxL, rt, h2)) maxL) : Snd own nm cc nL ret hh pc (i_cir cs k na (pc + 3)) := by
  intro D ev hev lv st h nx hi
  unfold i_cir at hi
  split at hi
  · rename_i a rest hst
    split at hi
    · rename_i hok
      obtain ⟨u, h1, h2⟩ := xOn_s hi
      obtain ⟨ci, fs, h3, hc⟩ := xckc_s h1
      obtain ⟨w, hw, mode⟩ := hcs ci hc
      obtain ⟨r', hr, hnx⟩ := xBn_s h2
      exact xcv_ hev hh0 hinf hL hw mode hst hok h3 hr hnx
    · cases hi
  · cases hi
theorem snd_oi {index : Nat} (d : decode cc pc = .ok (.invokespecial index, 3)) (hw : Cond.methodLink own index objectInit ∈ lw_all) (hin : Cond.instanceMethod objectInit ∈ lw_all) (hcode : Cond.code objectInit ⟨#[0xb1]⟩ 1 none ∈ lw_all) : Snd own nm cc nL ret hh pc (i_oi (pc + 3)) := by
  intro D ev hev lv st h nx hi
  unfold i_oi at hi
  split at hi
  · rename_i a st
    split at hi
    · rename_i hq
      obtain ⟨ha, hok⟩ := hq
      cases hi
      refine ⟨xle.rf, fun G p l e s m args below meth c h0 r hM h9 go H locs ls hv hR hS => ?_⟩
      have k0 := go.2 H locs ls hv hR hS
      show W _ _ _ _ _ _ _ _ _ _ _ _ _ _ _ (F0 m pc ls (xcv G (.ref a) :: st.map (xcv G)))
      rw [xcv_own ha]
      have h8 := xok4 (G := G) hok
      refine W.objInit hM.1 hM.2.1 hM.2.2.2.1 (hM.2.2.2.2.1 _ hw) (hM.2.2.2.2.1 _ hin) (hM.2.2.2.2.1 _ hcode) rfl (hv.1.trans hM.2.2.1.symm) rfl d (by show 1 ≤ D + 1 + 16; omega) (by show 2 * 0 + _ + 12 ≤ 64 * (D + 1 + 16); omega) k0
    · cases hi
  · cases hi
end SND6
