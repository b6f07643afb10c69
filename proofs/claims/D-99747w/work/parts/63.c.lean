set_option maxRecDepth 100000
section SND
variable {own nm : String} {cc : ByteArray} {nL : Nat} {ret : Option FieldType} {hh : List (Nat × Nat × Nat × Nat)} {pc : Nat}
theorem xKn.old {G : xG} {s : State} {H : Heap} (h : xKn G s H) : ∀ a, a < 64 → gO G a = .null ∨ ∃ t, gO G a = .ref t := fun a ha => (h.2.2.2.2.2.2.2.2.2.2.2 a ha).imp id (fun ⟨t, e, _⟩ => ⟨t, e⟩)
theorem xcv_rn {G : xG} (hO : ∀ a, a < 64 → gO G a = .null ∨ ∃ t, gO G a = .ref t) (a : Nat) : xcv G (.ref a) = .null ∨ ∃ t, xcv G (.ref a) = .ref t := by
  unfold xcv
  by_cases q : a < 64
  · simp only [q, if_true]
    exact hO a q
  · simp only [q, if_false]
    exact Or.inr ⟨_, rfl⟩
theorem xcv_own {G : xG} {a : Nat} (h : 64 ≤ a) : xcv G (.ref a) = .ref (xadr G a) := if_neg (Nat.not_lt.mpr h)
theorem snd_iadd (d : decode cc pc = .ok (.iadd, 1)) : Snd own nm cc nL ret hh pc (i_ii (fun x y => x + y) (pc + 1)) := by
  intro D ev _ lv st h nx hi
  unfold i_ii at hi
  split at hi
  · cases hi
    exact ⟨xle.rf, fun G p l e s m args below meth c h0 r hM h1 go H locs ls hv hR hS => lv_iadd hM.1 hM.2.1 d (go.2 H locs ls hv hR hS)⟩
  · cases hi
theorem snd_isub (d : decode cc pc = .ok (.isub, 1)) : Snd own nm cc nL ret hh pc (i_ii (fun x y => x - y) (pc + 1)) := by
  intro D ev _ lv st h nx hi
  unfold i_ii at hi
  split at hi
  · cases hi
    exact ⟨xle.rf, fun G p l e s m args below meth c h0 r hM h1 go H locs ls hv hR hS => lv_isub hM.1 hM.2.1 d (go.2 H locs ls hv hR hS)⟩
  · cases hi
theorem snd_imul (d : decode cc pc = .ok (.imul, 1)) : Snd own nm cc nL ret hh pc (i_ii (fun x y => x * y) (pc + 1)) := by
  intro D ev _ lv st h nx hi
  unfold i_ii at hi
  split at hi
  · cases hi
    exact ⟨xle.rf, fun G p l e s m args below meth c h0 r hM h1 go H locs ls hv hR hS => lv_imul hM.1 hM.2.1 d (go.2 H locs ls hv hR hS)⟩
  · cases hi
theorem snd_iand (d : decode cc pc = .ok (.iand, 1)) : Snd own nm cc nL ret hh pc (i_ii (fun x y => x &&& y) (pc + 1)) := by
  intro D ev _ lv st h nx hi
  unfold i_ii at hi
  split at hi
  · cases hi
    exact ⟨xle.rf, fun G p l e s m args below meth c h0 r hM h1 go H locs ls hv hR hS => lv_iand hM.1 hM.2.1 d (go.2 H locs ls hv hR hS)⟩
  · cases hi
theorem snd_ior (d : decode cc pc = .ok (.ior, 1)) : Snd own nm cc nL ret hh pc (i_ii (fun x y => x ||| y) (pc + 1)) := by
  intro D ev _ lv st h nx hi
  unfold i_ii at hi
  split at hi
  · cases hi
    exact ⟨xle.rf, fun G p l e s m args below meth c h0 r hM h1 go H locs ls hv hR hS => lv_ior hM.1 hM.2.1 d (go.2 H locs ls hv hR hS)⟩
  · cases hi
theorem snd_ixor (d : decode cc pc = .ok (.ixor, 1)) : Snd own nm cc nL ret hh pc (i_ii (fun x y => x ^^^ y) (pc + 1)) := by
  intro D ev _ lv st h nx hi
  unfold i_ii at hi
  split at hi
  · cases hi
    exact ⟨xle.rf, fun G p l e s m args below meth c h0 r hM h1 go H locs ls hv hR hS => lv_ixor hM.1 hM.2.1 d (go.2 H locs ls hv hR hS)⟩
  · cases hi
theorem snd_ishl (d : decode cc pc = .ok (.ishl, 1)) : Snd own nm cc nL ret hh pc (i_ii (fun x y => x <<< (y &&& 31)) (pc + 1)) := by
  intro D ev _ lv st h nx hi
  unfold i_ii at hi
  split at hi
  · cases hi
    exact ⟨xle.rf, fun G p l e s m args below meth c h0 r hM h1 go H locs ls hv hR hS => lv_ishl hM.1 hM.2.1 d (go.2 H locs ls hv hR hS)⟩
  · cases hi
theorem snd_ishr (d : decode cc pc = .ok (.ishr, 1)) : Snd own nm cc nL ret hh pc (i_ii (fun x y => x >>> (y &&& 31)) (pc + 1)) := by
  intro D ev _ lv st h nx hi
  unfold i_ii at hi
  split at hi
  · cases hi
    exact ⟨xle.rf, fun G p l e s m args below meth c h0 r hM h1 go H locs ls hv hR hS => lv_ishr hM.1 hM.2.1 d (go.2 H locs ls hv hR hS)⟩
  · cases hi
theorem snd_iushr (d : decode cc pc = .ok (.iushr, 1)) : Snd own nm cc nL ret hh pc (i_ii (fun x y => (x.toUInt32 >>> (y.toUInt32 &&& Int32.toUInt32 31)).toInt32) (pc + 1)) := by
  intro D ev _ lv st h nx hi
  unfold i_ii at hi
  split at hi
  · cases hi
    exact ⟨xle.rf, fun G p l e s m args below meth c h0 r hM h1 go H locs ls hv hR hS => lv_iushr hM.1 hM.2.1 d rfl (go.2 H locs ls hv hR hS)⟩
  · cases hi
theorem snd_ladd (d : decode cc pc = .ok (.ladd, 1)) : Snd own nm cc nL ret hh pc (i_ll (fun x y => x + y) (pc + 1)) := by
  intro D ev _ lv st h nx hi
  unfold i_ll at hi
  split at hi
  · cases hi
    exact ⟨xle.rf, fun G p l e s m args below meth c h0 r hM h1 go H locs ls hv hR hS => lv_ladd hM.1 hM.2.1 d (go.2 H locs ls hv hR hS)⟩
  · cases hi
theorem snd_lsub (d : decode cc pc = .ok (.lsub, 1)) : Snd own nm cc nL ret hh pc (i_ll (fun x y => x - y) (pc + 1)) := by
  intro D ev _ lv st h nx hi
  unfold i_ll at hi
  split at hi
  · cases hi
    exact ⟨xle.rf, fun G p l e s m args below meth c h0 r hM h1 go H locs ls hv hR hS => lv_lsub hM.1 hM.2.1 d (go.2 H locs ls hv hR hS)⟩
  · cases hi
theorem snd_lmul (d : decode cc pc = .ok (.lmul, 1)) : Snd own nm cc nL ret hh pc (i_ll (fun x y => x * y) (pc + 1)) := by
  intro D ev _ lv st h nx hi
  unfold i_ll at hi
  split at hi
  · cases hi
    exact ⟨xle.rf, fun G p l e s m args below meth c h0 r hM h1 go H locs ls hv hR hS => lv_lmul hM.1 hM.2.1 d (go.2 H locs ls hv hR hS)⟩
  · cases hi
theorem snd_land (d : decode cc pc = .ok (.land, 1)) : Snd own nm cc nL ret hh pc (i_ll (fun x y => x &&& y) (pc + 1)) := by
  intro D ev _ lv st h nx hi
  unfold i_ll at hi
  split at hi
  · cases hi
    exact ⟨xle.rf, fun G p l e s m args below meth c h0 r hM h1 go H locs ls hv hR hS => lv_land hM.1 hM.2.1 d (go.2 H locs ls hv hR hS)⟩
  · cases hi
theorem snd_lor (d : decode cc pc = .ok (.lor, 1)) : Snd own nm cc nL ret hh pc (i_ll (fun x y => x ||| y) (pc + 1)) := by
  intro D ev _ lv st h nx hi
  unfold i_ll at hi
  split at hi
  · cases hi
    exact ⟨xle.rf, fun G p l e s m args below meth c h0 r hM h1 go H locs ls hv hR hS => lv_lor hM.1 hM.2.1 d (go.2 H locs ls hv hR hS)⟩
  · cases hi
theorem snd_lshl (d : decode cc pc = .ok (.lshl, 1)) : Snd own nm cc nL ret hh pc (i_li (fun x y => x <<< (y.toInt64 &&& 63)) (pc + 1)) := by
  intro D ev _ lv st h nx hi
  unfold i_li at hi
  split at hi
  · cases hi
    exact ⟨xle.rf, fun G p l e s m args below meth c h0 r hM h1 go H locs ls hv hR hS => lv_lshl hM.1 hM.2.1 d rfl (go.2 H locs ls hv hR hS)⟩
  · cases hi
theorem snd_lshr (d : decode cc pc = .ok (.lshr, 1)) : Snd own nm cc nL ret hh pc (i_li (fun x y => x >>> (y.toInt64 &&& 63)) (pc + 1)) := by
  intro D ev _ lv st h nx hi
  unfold i_li at hi
  split at hi
  · cases hi
    exact ⟨xle.rf, fun G p l e s m args below meth c h0 r hM h1 go H locs ls hv hR hS => lv_lshr hM.1 hM.2.1 d rfl (go.2 H locs ls hv hR hS)⟩
  · cases hi
theorem snd_lcmp (d : decode cc pc = .ok (.lcmp, 1)) : Snd own nm cc nL ret hh pc (i_lcmp (pc + 1)) := by
  intro D ev _ lv st h nx hi
  unfold i_lcmp at hi
  split at hi
  · cases hi
    exact ⟨xle.rf, fun G p l e s m args below meth c h0 r hM h1 go H locs ls hv hR hS => W.lcmp hM.1 hM.2.1 d (go.2 H locs ls hv hR hS)⟩
  · cases hi
theorem snd_ineg (d : decode cc pc = .ok (.ineg, 1)) : Snd own nm cc nL ret hh pc (i_i1 (fun x => -x) (pc + 1)) := by
  intro D ev _ lv st h nx hi
  unfold i_i1 at hi
  split at hi
  · cases hi
    exact ⟨xle.rf, fun G p l e s m args below meth c h0 r hM h1 go H locs ls hv hR hS => lv_ineg hM.1 hM.2.1 d (go.2 H locs ls hv hR hS)⟩
  · cases hi
theorem snd_i2b (d : decode cc pc = .ok (.i2b, 1)) : Snd own nm cc nL ret hh pc (i_i1 (fun x => x.toInt8.toInt32) (pc + 1)) := by
  intro D ev _ lv st h nx hi
  unfold i_i1 at hi
  split at hi
  · cases hi
    exact ⟨xle.rf, fun G p l e s m args below meth c h0 r hM h1 go H locs ls hv hR hS => lv_i2b hM.1 hM.2.1 d rfl (go.2 H locs ls hv hR hS)⟩
  · cases hi
theorem snd_i2c (d : decode cc pc = .ok (.i2c, 1)) : Snd own nm cc nL ret hh pc (i_i1 (fun x => (x.toUInt32 % 65536).toInt32) (pc + 1)) := by
  intro D ev _ lv st h nx hi
  unfold i_i1 at hi
  split at hi
  · cases hi
    exact ⟨xle.rf, fun G p l e s m args below meth c h0 r hM h1 go H locs ls hv hR hS => lv_i2c hM.1 hM.2.1 d rfl (go.2 H locs ls hv hR hS)⟩
  · cases hi
theorem snd_i2l (d : decode cc pc = .ok (.i2l, 1)) : Snd own nm cc nL ret hh pc (i_i2l (pc + 1)) := by
  intro D ev _ lv st h nx hi
  unfold i_i2l at hi
  split at hi
  · cases hi
    exact ⟨xle.rf, fun G p l e s m args below meth c h0 r hM h1 go H locs ls hv hR hS => lv_i2l hM.1 hM.2.1 d rfl (go.2 H locs ls hv hR hS)⟩
  · cases hi
theorem snd_l2i (d : decode cc pc = .ok (.l2i, 1)) : Snd own nm cc nL ret hh pc (i_l2i (pc + 1)) := by
  intro D ev _ lv st h nx hi
  unfold i_l2i at hi
  split at hi
  · cases hi
    exact ⟨xle.rf, fun G p l e s m args below meth c h0 r hM h1 go H locs ls hv hR hS => lv_l2i hM.1 hM.2.1 d rfl (go.2 H locs ls hv hR hS)⟩
  · cases hi
theorem snd_dup (d : decode cc pc = .ok (.dup, 1)) : Snd own nm cc nL ret hh pc (i_dup (pc + 1)) := by
  intro D ev _ lv st h nx hi
  unfold i_dup at hi
  split at hi
  · cases hi
    exact ⟨xle.rf, fun G p l e s m args below meth c h0 r hM h1 go H locs ls hv hR hS => lv_dup hM.1 hM.2.1 d rfl (go.2 H locs ls hv hR hS)⟩
  · cases hi
    exact ⟨xle.rf, fun G p l e s m args below meth c h0 r hM h1 go H locs ls hv hR hS => lv_dup hM.1 hM.2.1 d (xcv_cat hM.2.2.2.2.2.2.2.2.1.old rfl) (go.2 H locs ls hv hR hS)⟩
  · cases hi
theorem snd_dup_x1 (d : decode cc pc = .ok (.dup_x1, 1)) : Snd own nm cc nL ret hh pc (i_dup_x1 (pc + 1)) := by
  intro D ev _ lv st h nx hi
  unfold i_dup_x1 at hi
  split at hi
  · cases hi
    exact ⟨xle.rf, fun G p l e s m args below meth c h0 r hM h1 go H locs ls hv hR hS => lv_dup_x1 hM.1 hM.2.1 d rfl (xcv_cat hM.2.2.2.2.2.2.2.2.1.old rfl) (go.2 H locs ls hv hR hS)⟩
  · cases hi
    exact ⟨xle.rf, fun G p l e s m args below meth c h0 r hM h1 go H locs ls hv hR hS => lv_dup_x1 hM.1 hM.2.1 d (xcv_cat hM.2.2.2.2.2.2.2.2.1.old rfl) (xcv_cat hM.2.2.2.2.2.2.2.2.1.old rfl) (go.2 H locs ls hv hR hS)⟩
  · cases hi
theorem snd_dup_x2 (d : decode cc pc = .ok (.dup_x2, 1)) : Snd own nm cc nL ret hh pc (i_dup_x2 (pc + 1)) := by
  intro D ev _ lv st h nx hi
  unfold i_dup_x2 at hi
  split at hi
  · cases hi
    exact ⟨xle.rf, fun G p l e s m args below meth c h0 r hM h1 go H locs ls hv hR hS => lv_dup_x2 hM.1 hM.2.1 d rfl rfl (xcv_cat hM.2.2.2.2.2.2.2.2.1.old rfl) (go.2 H locs ls hv hR hS)⟩
  · cases hi
theorem snd_dup2 (d : decode cc pc = .ok (.dup2, 1)) : Snd own nm cc nL ret hh pc (i_dup2 (pc + 1)) := by
  intro D ev _ lv st h nx hi
  unfold i_dup2 at hi
  split at hi
  · cases hi
    exact ⟨xle.rf, fun G p l e s m args below meth c h0 r hM h1 go H locs ls hv hR hS => lv_dup2_11 hM.1 hM.2.1 d rfl (xcv_cat hM.2.2.2.2.2.2.2.2.1.old rfl) (go.2 H locs ls hv hR hS)⟩
  · cases hi
theorem snd_pop (d : decode cc pc = .ok (.pop, 1)) : Snd own nm cc nL ret hh pc (i_pop (pc + 1)) := by
  intro D ev _ lv st h nx hi
  unfold i_pop at hi
  split at hi
  · cases hi
    exact ⟨xle.rf, fun G p l e s m args below meth c h0 r hM h1 go H locs ls hv hR hS => lv_pop hM.1 hM.2.1 d rfl (go.2 H locs ls hv hR hS)⟩
  · cases hi
    exact ⟨xle.rf, fun G p l e s m args below meth c h0 r hM h1 go H locs ls hv hR hS => lv_pop hM.1 hM.2.1 d (xcv_cat hM.2.2.2.2.2.2.2.2.1.old rfl) (go.2 H locs ls hv hR hS)⟩
  · cases hi
theorem snd_idiv (d : decode cc pc = .ok (.idiv, 1)) : Snd own nm cc nL ret hh pc (i_iz (fun x y => x / y) (pc + 1)) := by
  intro D ev _ lv st h nx hi
  unfold i_iz at hi
  split at hi
  · rename_i y x st
    by_cases q : y = 0
    · rw [if_pos q] at hi
      cases hi
    · rw [if_neg q] at hi
      cases hi
      exact ⟨xle.rf, fun G p l e s m args below meth c h0 r hM h1 go H locs ls hv hR hS => lv_idiv hM.1 hM.2.1 d q (go.2 H locs ls hv hR hS)⟩
  · cases hi
theorem snd_irem (d : decode cc pc = .ok (.irem, 1)) : Snd own nm cc nL ret hh pc (i_iz (fun x y => x - x / y * y) (pc + 1)) := by
  intro D ev _ lv st h nx hi
  unfold i_iz at hi
  split at hi
  · rename_i y x st
    by_cases q : y = 0
    · rw [if_pos q] at hi
      cases hi
    · rw [if_neg q] at hi
      cases hi
      exact ⟨xle.rf, fun G p l e s m args below meth c h0 r hM h1 go H locs ls hv hR hS => lv_irem hM.1 hM.2.1 d q (go.2 H locs ls hv hR hS)⟩
  · cases hi
theorem snd_ldiv (d : decode cc pc = .ok (.ldiv, 1)) : Snd own nm cc nL ret hh pc (i_lz (fun x y => x / y) (pc + 1)) := by
  intro D ev _ lv st h nx hi
  unfold i_lz at hi
  split at hi
  · rename_i y x st
    by_cases q : y = 0
    · rw [if_pos q] at hi
      cases hi
    · rw [if_neg q] at hi
      cases hi
      exact ⟨xle.rf, fun G p l e s m args below meth c h0 r hM h1 go H locs ls hv hR hS => lv_ldiv hM.1 hM.2.1 d q (go.2 H locs ls hv hR hS)⟩
  · cases hi
theorem snd_lrem (d : decode cc pc = .ok (.lrem, 1)) : Snd own nm cc nL ret hh pc (i_lz (fun x y => x - x / y * y) (pc + 1)) := by
  intro D ev _ lv st h nx hi
  unfold i_lz at hi
  split at hi
  · rename_i y x st
    by_cases q : y = 0
    · rw [if_pos q] at hi
      cases hi
    · rw [if_neg q] at hi
      cases hi
      exact ⟨xle.rf, fun G p l e s m args below meth c h0 r hM h1 go H locs ls hv hR hS => lv_lrem hM.1 hM.2.1 d q (go.2 H locs ls hv hR hS)⟩
  · cases hi
theorem snd_iconst {n : Int} {v : Int32} (d : decode cc pc = .ok (.iconst n, 1)) (hv0 : Int32.ofInt n = v) : Snd own nm cc nL ret hh pc (i_const (.int v) (pc + 1)) := by
  intro D ev _ lv st h nx hi
  cases hi
  exact ⟨xle.rf, fun G p l e s m args below meth c h0 r hM h1 go H locs ls hv hR hS => lv_iconst hM.1 hM.2.1 d hv0 (go.2 H locs ls hv hR hS)⟩
theorem snd_bipush {n : Int} {v : Int32} (d : decode cc pc = .ok (.bipush n, 2)) (hv0 : (Int8.ofInt n).toInt32 = v) : Snd own nm cc nL ret hh pc (i_const (.int v) (pc + 2)) := by
  intro D ev _ lv st h nx hi
  cases hi
  exact ⟨xle.rf, fun G p l e s m args below meth c h0 r hM h1 go H locs ls hv hR hS => lv_bipush hM.1 hM.2.1 d hv0 (go.2 H locs ls hv hR hS)⟩
theorem snd_sipush {n : Int} {v : Int32} (d : decode cc pc = .ok (.sipush n, 3)) (hv0 : (Int16.ofInt n).toInt32 = v) : Snd own nm cc nL ret hh pc (i_const (.int v) (pc + 3)) := by
  intro D ev _ lv st h nx hi
  cases hi
  exact ⟨xle.rf, fun G p l e s m args below meth c h0 r hM h1 go H locs ls hv hR hS => lv_sipush hM.1 hM.2.1 d hv0 (go.2 H locs ls hv hR hS)⟩
theorem snd_lconst {n : Fin 2} {v : Int64} (d : decode cc pc = .ok (.lconst n, 1)) (hv0 : Int64.ofNat (n : Nat) = v) : Snd own nm cc nL ret hh pc (i_const (.long v) (pc + 1)) := by
  intro D ev _ lv st h nx hi
  cases hi
  exact ⟨xle.rf, fun G p l e s m args below meth c h0 r hM h1 go H locs ls hv hR hS => lv_lconst hM.1 hM.2.1 d hv0 (go.2 H locs ls hv hR hS)⟩
theorem snd_null (d : decode cc pc = .ok (.aconst_null, 1)) : Snd own nm cc nL ret hh pc (i_const (.null) (pc + 1)) := by
  intro D ev _ lv st h nx hi
  cases hi
  exact ⟨xle.rf, fun G p l e s m args below meth c h0 r hM h1 go H locs ls hv hR hS => lv_null hM.1 hM.2.1 d (go.2 H locs ls hv hR hS)⟩
theorem snd_ldc {i : Nat} {v : Int32} (d : decode cc pc = .ok (.ldc i, 2)) (hw : Cond.constant own i v ∈ lw_all) : Snd own nm cc nL ret hh pc (i_const (.int v) (pc + 2)) := by
  intro D ev _ lv st h nx hi
  cases hi
  exact ⟨xle.rf, fun G p l e s m args below meth c h0 r hM h1 go H locs ls hv hR hS => lv_ldc hM.1 hM.2.1 hM.2.2.2.1 (hM.2.2.2.2.1 _ hw) d (go.2 H locs ls hv hR hS)⟩
theorem snd_ldc_w {i : Nat} {v : Int32} (d : decode cc pc = .ok (.ldc_w i, 3)) (hw : Cond.constant own i v ∈ lw_all) : Snd own nm cc nL ret hh pc (i_const (.int v) (pc + 3)) := by
  intro D ev _ lv st h nx hi
  cases hi
  exact ⟨xle.rf, fun G p l e s m args below meth c h0 r hM h1 go H locs ls hv hR hS => lv_ldcw hM.1 hM.2.1 hM.2.2.2.1 (hM.2.2.2.2.1 _ hw) d (go.2 H locs ls hv hR hS)⟩
theorem snd_ldc2 {i : Nat} {v : Int64} (d : decode cc pc = .ok (.ldc2_w i, 3)) (hw : Cond.constantLong own i v ∈ lw_all) : Snd own nm cc nL ret hh pc (i_const (.long v) (pc + 3)) := by
  intro D ev _ lv st h nx hi
  cases hi
  exact ⟨xle.rf, fun G p l e s m args below meth c h0 r hM h1 go H locs ls hv hR hS => lv_ldc2 hM.1 hM.2.1 hM.2.2.2.1 (hM.2.2.2.2.1 _ hw) d (go.2 H locs ls hv hR hS)⟩
theorem snd_iload_n {k : Fin 4} {i : Nat} (d : decode cc pc = .ok (.iload_n k, 1)) (hk : (k : Nat) = i) : Snd own nm cc nL ret hh pc (i_iload i (pc + 1)) := by
  intro D ev _ lv st h nx hi
  unfold i_iload at hi
  split at hi
  · rename_i x heq
    cases hi
    exact ⟨xle.rf, fun G p l e s m args below meth c h0 r hM h1 go H locs ls hv hR hS => lv_iload_n hM.1 hM.2.1 d hk (xlv_at1 hv heq rfl) (go.2 H locs ls hv hR hS)⟩
  · cases hi
theorem snd_lload_n {k : Fin 4} {i : Nat} (d : decode cc pc = .ok (.lload_n k, 1)) (hk : (k : Nat) = i) : Snd own nm cc nL ret hh pc (i_lload i (pc + 1)) := by
  intro D ev _ lv st h nx hi
  unfold i_lload at hi
  split at hi
  · rename_i x heq
    cases hi
    exact ⟨xle.rf, fun G p l e s m args below meth c h0 r hM h1 go H locs ls hv hR hS => lv_lload_n hM.1 hM.2.1 d hk (xlv_at2 hv heq) (go.2 H locs ls hv hR hS)⟩
  · cases hi
theorem snd_aload_n {k : Fin 4} {i : Nat} (d : decode cc pc = .ok (.aload_n k, 1)) (hk : (k : Nat) = i) : Snd own nm cc nL ret hh pc (i_aload i (pc + 1)) := by
  intro D ev _ lv st h nx hi
  unfold i_aload at hi
  split at hi
  · rename_i x heq
    cases hi
    refine ⟨xle.rf, fun G p l e s m args below meth c h0 r hM h1 go H locs ls hv hR hS => ?_⟩
    have hu := xlv_at1 hv heq rfl
    have k : W _ _ _ _ _ _ _ _ _ _ _ _ _ _ _ (F0 m (pc + 1) ls (xcv G (.ref x) :: st.map (xcv G))) := (go.2 H locs ls hv hR hS)
    rcases xcv_rn hM.2.2.2.2.2.2.2.2.1.old x with q | ⟨t, q⟩
    · rw [q] at hu k
      exact lv_aload_nN hM.1 hM.2.1 d hk hu k
    · rw [q] at hu k
      exact lv_aload_n hM.1 hM.2.1 d hk hu k
  · rename_i heq
    cases hi
    exact ⟨xle.rf, fun G p l e s m args below meth c h0 r hM h1 go H locs ls hv hR hS => lv_aload_nN hM.1 hM.2.1 d hk (xlv_at1 hv heq rfl) (go.2 H locs ls hv hR hS)⟩
  · cases hi
theorem snd_iload {i : Nat} (d : decode cc pc = .ok (.iload i, 2)) : Snd own nm cc nL ret hh pc (i_iload i (pc + 2)) := by
  intro D ev _ lv st h nx hi
  unfold i_iload at hi
  split at hi
  · rename_i x heq
    cases hi
    exact ⟨xle.rf, fun G p l e s m args below meth c h0 r hM h1 go H locs ls hv hR hS => lv_iload hM.1 hM.2.1 d (xlv_at1 hv heq rfl) (go.2 H locs ls hv hR hS)⟩
  · cases hi
theorem snd_lload {i : Nat} (d : decode cc pc = .ok (.lload i, 2)) : Snd own nm cc nL ret hh pc (i_lload i (pc + 2)) := by
  intro D ev _ lv st h nx hi
  unfold i_lload at hi
  split at hi
  · rename_i x heq
    cases hi
    exact ⟨xle.rf, fun G p l e s m args below meth c h0 r hM h1 go H locs ls hv hR hS => lv_lload hM.1 hM.2.1 d (xlv_at2 hv heq) (go.2 H locs ls hv hR hS)⟩
  · cases hi
theorem snd_aload {i : Nat} (d : decode cc pc = .ok (.aload i, 2)) : Snd own nm cc nL ret hh pc (i_aload i (pc + 2)) := by
  intro D ev _ lv st h nx hi
  unfold i_aload at hi
  split at hi
  · rename_i x heq
    cases hi
    refine ⟨xle.rf, fun G p l e s m args below meth c h0 r hM h1 go H locs ls hv hR hS => ?_⟩
    have hu := xlv_at1 hv heq rfl
    have k : W _ _ _ _ _ _ _ _ _ _ _ _ _ _ _ (F0 m (pc + 2) ls (xcv G (.ref x) :: st.map (xcv G))) := (go.2 H locs ls hv hR hS)
    rcases xcv_rn hM.2.2.2.2.2.2.2.2.1.old x with q | ⟨t, q⟩
    · rw [q] at hu k
      exact lv_aloadN hM.1 hM.2.1 d hu k
    · rw [q] at hu k
      exact lv_aload hM.1 hM.2.1 d hu k
  · rename_i heq
    cases hi
    exact ⟨xle.rf, fun G p l e s m args below meth c h0 r hM h1 go H locs ls hv hR hS => lv_aloadN hM.1 hM.2.1 d (xlv_at1 hv heq rfl) (go.2 H locs ls hv hR hS)⟩
  · cases hi
theorem snd_istore_n {k : Fin 4} {i : Nat} (d : decode cc pc = .ok (.istore_n k, 1)) (hk : (k : Nat) = i) (hn : i < nL) : Snd own nm cc nL ret hh pc (i_istore i (pc + 1)) := by
  intro D ev _ lv st h nx hi
  unfold i_istore at hi
  split at hi
  · cases hi
    exact ⟨xle.rf, fun G p l e s m args below meth c h0 r hM h1 go H locs ls hv hR hS => lv_istore_n hM.1 hM.2.1 d hk hv hn rfl (fun ls' hv' => go.2 H locs ls' (lv_mono hv' (xlv_st1 hM.2.2.2.2.2.2.2.2.1.old rfl)) hR hS)⟩
  · cases hi
theorem snd_lstore_n {k : Fin 4} {i : Nat} (d : decode cc pc = .ok (.lstore_n k, 1)) (hk : (k : Nat) = i) (hn : i + 1 < nL) : Snd own nm cc nL ret hh pc (i_lstore i (pc + 1)) := by
  intro D ev _ lv st h nx hi
  unfold i_lstore at hi
  split at hi
  · cases hi
    exact ⟨xle.rf, fun G p l e s m args below meth c h0 r hM h1 go H locs ls hv hR hS => lv_lstore_n hM.1 hM.2.1 d hk hv hn rfl (fun ls' hv' => go.2 H locs ls' (lv_mono hv' (xlv_st2 hM.2.2.2.2.2.2.2.2.1.old)) hR hS)⟩
  · cases hi
theorem snd_astore_n {k : Fin 4} {i : Nat} (d : decode cc pc = .ok (.astore_n k, 1)) (hk : (k : Nat) = i) (hn : i < nL) : Snd own nm cc nL ret hh pc (i_astore i (pc + 1)) := by
  intro D ev _ lv st h nx hi
  unfold i_astore at hi
  split at hi
  · rename_i x st
    cases hi
    refine ⟨xle.rf, fun G p l e s m args below meth c h0 r hM h1 go H locs ls hv hR hS => ?_⟩
    show W _ _ _ _ _ _ _ _ _ _ _ _ _ _ _ (F0 m pc ls (xcv G (.ref x) :: st.map (xcv G)))
    rcases xcv_rn hM.2.2.2.2.2.2.2.2.1.old x with q | ⟨t, q⟩
    · rw [q]
      exact lv_astore_nN hM.1 hM.2.1 d hk hv hn rfl (fun ls' hv' => go.2 H locs ls' (lv_mono hv' (xlv_st1 hM.2.2.2.2.2.2.2.2.1.old q.symm)) hR hS)
    · rw [q]
      exact lv_astore_n hM.1 hM.2.1 d hk hv hn rfl (fun ls' hv' => go.2 H locs ls' (lv_mono hv' (xlv_st1 hM.2.2.2.2.2.2.2.2.1.old q.symm)) hR hS)
  · cases hi
    exact ⟨xle.rf, fun G p l e s m args below meth c h0 r hM h1 go H locs ls hv hR hS => lv_astore_nN hM.1 hM.2.1 d hk hv hn rfl (fun ls' hv' => go.2 H locs ls' (lv_mono hv' (xlv_st1 hM.2.2.2.2.2.2.2.2.1.old rfl)) hR hS)⟩
  · cases hi
theorem snd_istore {i : Nat} (d : decode cc pc = .ok (.istore i, 2)) (hn : i < nL) : Snd own nm cc nL ret hh pc (i_istore i (pc + 2)) := by
  intro D ev _ lv st h nx hi
  unfold i_istore at hi
  split at hi
  · cases hi
    exact ⟨xle.rf, fun G p l e s m args below meth c h0 r hM h1 go H locs ls hv hR hS => lv_istore hM.1 hM.2.1 d hv hn rfl (fun ls' hv' => go.2 H locs ls' (lv_mono hv' (xlv_st1 hM.2.2.2.2.2.2.2.2.1.old rfl)) hR hS)⟩
  · cases hi
theorem snd_lstore {i : Nat} (d : decode cc pc = .ok (.lstore i, 2)) (hn : i + 1 < nL) : Snd own nm cc nL ret hh pc (i_lstore i (pc + 2)) := by
  intro D ev _ lv st h nx hi
  unfold i_lstore at hi
  split at hi
  · cases hi
    exact ⟨xle.rf, fun G p l e s m args below meth c h0 r hM h1 go H locs ls hv hR hS => lv_lstore hM.1 hM.2.1 d hv hn rfl (fun ls' hv' => go.2 H locs ls' (lv_mono hv' (xlv_st2 hM.2.2.2.2.2.2.2.2.1.old)) hR hS)⟩
  · cases hi
theorem snd_astore {i : Nat} (d : decode cc pc = .ok (.astore i, 2)) (hn : i < nL) : Snd own nm cc nL ret hh pc (i_astore i (pc + 2)) := by
  intro D ev _ lv st h nx hi
  unfold i_astore at hi
  split at hi
  · rename_i x st
    cases hi
    refine ⟨xle.rf, fun G p l e s m args below meth c h0 r hM h1 go H locs ls hv hR hS => ?_⟩
    show W _ _ _ _ _ _ _ _ _ _ _ _ _ _ _ (F0 m pc ls (xcv G (.ref x) :: st.map (xcv G)))
    rcases xcv_rn hM.2.2.2.2.2.2.2.2.1.old x with q | ⟨t, q⟩
    · rw [q]
      exact lv_astoreN hM.1 hM.2.1 d hv hn rfl (fun ls' hv' => go.2 H locs ls' (lv_mono hv' (xlv_st1 hM.2.2.2.2.2.2.2.2.1.old q.symm)) hR hS)
    · rw [q]
      exact lv_astore hM.1 hM.2.1 d hv hn rfl (fun ls' hv' => go.2 H locs ls' (lv_mono hv' (xlv_st1 hM.2.2.2.2.2.2.2.2.1.old q.symm)) hR hS)
  · cases hi
    exact ⟨xle.rf, fun G p l e s m args below meth c h0 r hM h1 go H locs ls hv hR hS => lv_astoreN hM.1 hM.2.1 d hv hn rfl (fun ls' hv' => go.2 H locs ls' (lv_mono hv' (xlv_st1 hM.2.2.2.2.2.2.2.2.1.old rfl)) hR hS)⟩
  · cases hi
theorem snd_iinc {i : Nat} {n : Int} {v : Int32} (d : decode cc pc = .ok (.iinc i n, 3)) (hn : i < nL) (hv0 : Int32.ofInt n = v) : Snd own nm cc nL ret hh pc (i_iinc i v (pc + 3)) := by
  intro D ev _ lv st h nx hi
  unfold i_iinc at hi
  split at hi
  · rename_i x heq
    cases hi
    refine ⟨xle.rf, fun G p l e s m args below meth c h0 r hM h1 go H locs ls hv hR hS => ?_⟩
    obtain ⟨k, hk⟩ := List.getElem?_of_mem (show (i, Value.int x) ∈ xlv G lv from List.mem_append_left _ (xlv1_mem.mpr ⟨.int x, heq, rfl, rfl⟩))
    exact lv_iinc hM.1 hM.2.1 d hv hk (by rw [hv0]) hn rfl (fun ls' hv' => go.2 H locs ls' (lv_mono hv' (xlv_st1 hM.2.2.2.2.2.2.2.2.1.old rfl)) hR hS)
  · cases hi
theorem snd_if_eq {off : Int} {t : Nat} (d : decode cc pc = .ok (.ifCond .eq off, 3)) (ht : (pc : Int) + off = (t : Int)) : Snd own nm cc nL ret hh pc (i_if1 (fun x => x = 0) t (pc + 3)) := by
  intro D ev _ lv st h nx hi
  unfold i_if1 at hi
  split at hi
  · rename_i x st
    by_cases q : x = 0
    · rw [if_pos q] at hi
      cases hi
      exact ⟨xle.rf, fun G p l e s m args below meth c h0 r hM h1 go H locs ls hv hR hS => lv_if_eq hM.1 hM.2.1 d ht (fun _ => (go.2 H locs ls hv hR hS)) (fun z => absurd q z)⟩
    · rw [if_neg q] at hi
      cases hi
      exact ⟨xle.rf, fun G p l e s m args below meth c h0 r hM h1 go H locs ls hv hR hS => lv_if_eq hM.1 hM.2.1 d ht (fun z => absurd z q) (fun _ => (go.2 H locs ls hv hR hS))⟩
  · cases hi
theorem snd_if_ne {off : Int} {t : Nat} (d : decode cc pc = .ok (.ifCond .ne off, 3)) (ht : (pc : Int) + off = (t : Int)) : Snd own nm cc nL ret hh pc (i_if1 (fun x => ¬ x = 0) t (pc + 3)) := by
  intro D ev _ lv st h nx hi
  unfold i_if1 at hi
  split at hi
  · rename_i x st
    by_cases q : ¬ x = 0
    · rw [if_pos q] at hi
      cases hi
      exact ⟨xle.rf, fun G p l e s m args below meth c h0 r hM h1 go H locs ls hv hR hS => lv_if_ne hM.1 hM.2.1 d ht (fun _ => (go.2 H locs ls hv hR hS)) (fun z => absurd z q)⟩
    · rw [if_neg q] at hi
      cases hi
      exact ⟨xle.rf, fun G p l e s m args below meth c h0 r hM h1 go H locs ls hv hR hS => lv_if_ne hM.1 hM.2.1 d ht (fun z => absurd z q) (fun _ => (go.2 H locs ls hv hR hS))⟩
  · cases hi
theorem snd_if_lt {off : Int} {t : Nat} (d : decode cc pc = .ok (.ifCond .lt off, 3)) (ht : (pc : Int) + off = (t : Int)) : Snd own nm cc nL ret hh pc (i_if1 (fun x => x < 0) t (pc + 3)) := by
  intro D ev _ lv st h nx hi
  unfold i_if1 at hi
  split at hi
  · rename_i x st
    by_cases q : x < 0
    · rw [if_pos q] at hi
      cases hi
      exact ⟨xle.rf, fun G p l e s m args below meth c h0 r hM h1 go H locs ls hv hR hS => lv_if_lt hM.1 hM.2.1 d ht (fun _ => (go.2 H locs ls hv hR hS)) (fun z => absurd q z)⟩
    · rw [if_neg q] at hi
      cases hi
      exact ⟨xle.rf, fun G p l e s m args below meth c h0 r hM h1 go H locs ls hv hR hS => lv_if_lt hM.1 hM.2.1 d ht (fun z => absurd z q) (fun _ => (go.2 H locs ls hv hR hS))⟩
  · cases hi
theorem snd_if_ge {off : Int} {t : Nat} (d : decode cc pc = .ok (.ifCond .ge off, 3)) (ht : (pc : Int) + off = (t : Int)) : Snd own nm cc nL ret hh pc (i_if1 (fun x => 0 ≤ x) t (pc + 3)) := by
  intro D ev _ lv st h nx hi
  unfold i_if1 at hi
  split at hi
  · rename_i x st
    by_cases q : 0 ≤ x
    · rw [if_pos q] at hi
      cases hi
      exact ⟨xle.rf, fun G p l e s m args below meth c h0 r hM h1 go H locs ls hv hR hS => lv_if_ge hM.1 hM.2.1 d ht (fun _ => (go.2 H locs ls hv hR hS)) (fun z => absurd q z)⟩
    · rw [if_neg q] at hi
      cases hi
      exact ⟨xle.rf, fun G p l e s m args below meth c h0 r hM h1 go H locs ls hv hR hS => lv_if_ge hM.1 hM.2.1 d ht (fun z => absurd z q) (fun _ => (go.2 H locs ls hv hR hS))⟩
  · cases hi
theorem snd_if_gt {off : Int} {t : Nat} (d : decode cc pc = .ok (.ifCond .gt off, 3)) (ht : (pc : Int) + off = (t : Int)) : Snd own nm cc nL ret hh pc (i_if1 (fun x => 0 < x) t (pc + 3)) := by
  intro D ev _ lv st h nx hi
  unfold i_if1 at hi
  split at hi
  · rename_i x st
    by_cases q : 0 < x
    · rw [if_pos q] at hi
      cases hi
      exact ⟨xle.rf, fun G p l e s m args below meth c h0 r hM h1 go H locs ls hv hR hS => lv_if_gt hM.1 hM.2.1 d ht (fun _ => (go.2 H locs ls hv hR hS)) (fun z => absurd q z)⟩
    · rw [if_neg q] at hi
      cases hi
      exact ⟨xle.rf, fun G p l e s m args below meth c h0 r hM h1 go H locs ls hv hR hS => lv_if_gt hM.1 hM.2.1 d ht (fun z => absurd z q) (fun _ => (go.2 H locs ls hv hR hS))⟩
  · cases hi
theorem snd_if_le {off : Int} {t : Nat} (d : decode cc pc = .ok (.ifCond .le off, 3)) (ht : (pc : Int) + off = (t : Int)) : Snd own nm cc nL ret hh pc (i_if1 (fun x => x ≤ 0) t (pc + 3)) := by
  intro D ev _ lv st h nx hi
  unfold i_if1 at hi
  split at hi
  · rename_i x st
    by_cases q : x ≤ 0
    · rw [if_pos q] at hi
      cases hi
      exact ⟨xle.rf, fun G p l e s m args below meth c h0 r hM h1 go H locs ls hv hR hS => lv_if_le hM.1 hM.2.1 d ht (fun _ => (go.2 H locs ls hv hR hS)) (fun z => absurd q z)⟩
    · rw [if_neg q] at hi
      cases hi
      exact ⟨xle.rf, fun G p l e s m args below meth c h0 r hM h1 go H locs ls hv hR hS => lv_if_le hM.1 hM.2.1 d ht (fun z => absurd z q) (fun _ => (go.2 H locs ls hv hR hS))⟩
  · cases hi
theorem snd_icmp_eq {off : Int} {t : Nat} (d : decode cc pc = .ok (.if_icmp .eq off, 3)) (ht : (pc : Int) + off = (t : Int)) : Snd own nm cc nL ret hh pc (i_if2 (fun x y => x = y) t (pc + 3)) := by
  intro D ev _ lv st h nx hi
  unfold i_if2 at hi
  split at hi
  · rename_i y x st
    by_cases q : x = y
    · rw [if_pos q] at hi
      cases hi
      exact ⟨xle.rf, fun G p l e s m args below meth c h0 r hM h1 go H locs ls hv hR hS => lv_icmp_eq hM.1 hM.2.1 d ht (fun _ => (go.2 H locs ls hv hR hS)) (fun z => absurd q z)⟩
    · rw [if_neg q] at hi
      cases hi
      exact ⟨xle.rf, fun G p l e s m args below meth c h0 r hM h1 go H locs ls hv hR hS => lv_icmp_eq hM.1 hM.2.1 d ht (fun z => absurd z q) (fun _ => (go.2 H locs ls hv hR hS))⟩
  · cases hi
theorem snd_icmp_ne {off : Int} {t : Nat} (d : decode cc pc = .ok (.if_icmp .ne off, 3)) (ht : (pc : Int) + off = (t : Int)) : Snd own nm cc nL ret hh pc (i_if2 (fun x y => ¬ x = y) t (pc + 3)) := by
  intro D ev _ lv st h nx hi
  unfold i_if2 at hi
  split at hi
  · rename_i y x st
    by_cases q : ¬ x = y
    · rw [if_pos q] at hi
      cases hi
      exact ⟨xle.rf, fun G p l e s m args below meth c h0 r hM h1 go H locs ls hv hR hS => lv_icmp_ne hM.1 hM.2.1 d ht (fun _ => (go.2 H locs ls hv hR hS)) (fun z => absurd z q)⟩
    · rw [if_neg q] at hi
      cases hi
      exact ⟨xle.rf, fun G p l e s m args below meth c h0 r hM h1 go H locs ls hv hR hS => lv_icmp_ne hM.1 hM.2.1 d ht (fun z => absurd z q) (fun _ => (go.2 H locs ls hv hR hS))⟩
  · cases hi
theorem snd_icmp_lt {off : Int} {t : Nat} (d : decode cc pc = .ok (.if_icmp .lt off, 3)) (ht : (pc : Int) + off = (t : Int)) : Snd own nm cc nL ret hh pc (i_if2 (fun x y => x < y) t (pc + 3)) := by
  intro D ev _ lv st h nx hi
  unfold i_if2 at hi
  split at hi
  · rename_i y x st
    by_cases q : x < y
    · rw [if_pos q] at hi
      cases hi
      exact ⟨xle.rf, fun G p l e s m args below meth c h0 r hM h1 go H locs ls hv hR hS => lv_icmp_lt hM.1 hM.2.1 d ht (fun _ => (go.2 H locs ls hv hR hS)) (fun z => absurd q z)⟩
    · rw [if_neg q] at hi
      cases hi
      exact ⟨xle.rf, fun G p l e s m args below meth c h0 r hM h1 go H locs ls hv hR hS => lv_icmp_lt hM.1 hM.2.1 d ht (fun z => absurd z q) (fun _ => (go.2 H locs ls hv hR hS))⟩
  · cases hi
theorem snd_icmp_ge {off : Int} {t : Nat} (d : decode cc pc = .ok (.if_icmp .ge off, 3)) (ht : (pc : Int) + off = (t : Int)) : Snd own nm cc nL ret hh pc (i_if2 (fun x y => y ≤ x) t (pc + 3)) := by
  intro D ev _ lv st h nx hi
  unfold i_if2 at hi
  split at hi
  · rename_i y x st
    by_cases q : y ≤ x
    · rw [if_pos q] at hi
      cases hi
      exact ⟨xle.rf, fun G p l e s m args below meth c h0 r hM h1 go H locs ls hv hR hS => lv_icmp_ge hM.1 hM.2.1 d ht (fun _ => (go.2 H locs ls hv hR hS)) (fun z => absurd q z)⟩
    · rw [if_neg q] at hi
      cases hi
      exact ⟨xle.rf, fun G p l e s m args below meth c h0 r hM h1 go H locs ls hv hR hS => lv_icmp_ge hM.1 hM.2.1 d ht (fun z => absurd z q) (fun _ => (go.2 H locs ls hv hR hS))⟩
  · cases hi
theorem snd_icmp_gt {off : Int} {t : Nat} (d : decode cc pc = .ok (.if_icmp .gt off, 3)) (ht : (pc : Int) + off = (t : Int)) : Snd own nm cc nL ret hh pc (i_if2 (fun x y => y < x) t (pc + 3)) := by
  intro D ev _ lv st h nx hi
  unfold i_if2 at hi
  split at hi
  · rename_i y x st
    by_cases q : y < x
    · rw [if_pos q] at hi
      cases hi
      exact ⟨xle.rf, fun G p l e s m args below meth c h0 r hM h1 go H locs ls hv hR hS => lv_icmp_gt hM.1 hM.2.1 d ht (fun _ => (go.2 H locs ls hv hR hS)) (fun z => absurd q z)⟩
    · rw [if_neg q] at hi
      cases hi
      exact ⟨xle.rf, fun G p l e s m args below meth c h0 r hM h1 go H locs ls hv hR hS => lv_icmp_gt hM.1 hM.2.1 d ht (fun z => absurd z q) (fun _ => (go.2 H locs ls hv hR hS))⟩
  · cases hi
theorem snd_icmp_le {off : Int} {t : Nat} (d : decode cc pc = .ok (.if_icmp .le off, 3)) (ht : (pc : Int) + off = (t : Int)) : Snd own nm cc nL ret hh pc (i_if2 (fun x y => x ≤ y) t (pc + 3)) := by
  intro D ev _ lv st h nx hi
  unfold i_if2 at hi
  split at hi
  · rename_i y x st
    by_cases q : x ≤ y
    · rw [if_pos q] at hi
      cases hi
      exact ⟨xle.rf, fun G p l e s m args below meth c h0 r hM h1 go H locs ls hv hR hS => lv_icmp_le hM.1 hM.2.1 d ht (fun _ => (go.2 H locs ls hv hR hS)) (fun z => absurd q z)⟩
    · rw [if_neg q] at hi
      cases hi
      exact ⟨xle.rf, fun G p l e s m args below meth c h0 r hM h1 go H locs ls hv hR hS => lv_icmp_le hM.1 hM.2.1 d ht (fun z => absurd z q) (fun _ => (go.2 H locs ls hv hR hS))⟩
  · cases hi
theorem snd_goto {off : Int} {t : Nat} (d : decode cc pc = .ok (.goto off, 3)) (ht : (pc : Int) + off = (t : Int)) : Snd own nm cc nL ret hh pc (i_goto t) := by
  intro D ev _ lv st h nx hi
  cases hi
  exact ⟨xle.rf, fun G p l e s m args below meth c h0 r hM h1 go H locs ls hv hR hS => lv_goto hM.1 hM.2.1 d ht (go.2 H locs ls hv hR hS)⟩
theorem snd_ifnull {off : Int} {t : Nat} (d : decode cc pc = .ok (.ifnull off, 3)) (ht : (pc : Int) + off = (t : Int)) : Snd own nm cc nL ret hh pc (i_ifnull t (pc + 3)) := by
  intro D ev _ lv st h nx hi
  unfold i_ifnull at hi
  split at hi
  · cases hi
    exact ⟨xle.rf, fun G p l e s m args below meth c h0 r hM h1 go H locs ls hv hR hS => lv_ifnullN hM.1 hM.2.1 d ht (go.2 H locs ls hv hR hS)⟩
  · rename_i a st
    by_cases q : a < 64
    · rw [if_pos q] at hi
      cases hi
    · rw [if_neg q] at hi
      cases hi
      refine ⟨xle.rf, fun G p l e s m args below meth c h0 r hM h1 go H locs ls hv hR hS => ?_⟩
      show W _ _ _ _ _ _ _ _ _ _ _ _ _ _ _ (F0 m pc ls (xcv G (.ref a) :: st.map (xcv G)))
      rw [xcv_own (Nat.not_lt.mp q)]
      exact lv_ifnull hM.1 hM.2.1 d (go.2 H locs ls hv hR hS)
  · cases hi
theorem snd_ifnonnull {off : Int} {t : Nat} (d : decode cc pc = .ok (.ifnonnull off, 3)) (ht : (pc : Int) + off = (t : Int)) : Snd own nm cc nL ret hh pc (i_ifnonnull t (pc + 3)) := by
  intro D ev _ lv st h nx hi
  unfold i_ifnonnull at hi
  split at hi
  · cases hi
    exact ⟨xle.rf, fun G p l e s m args below meth c h0 r hM h1 go H locs ls hv hR hS => lv_ifnonnullN hM.1 hM.2.1 d (go.2 H locs ls hv hR hS)⟩
  · rename_i a st
    by_cases q : a < 64
    · rw [if_pos q] at hi
      cases hi
    · rw [if_neg q] at hi
      cases hi
      refine ⟨xle.rf, fun G p l e s m args below meth c h0 r hM h1 go H locs ls hv hR hS => ?_⟩
      show W _ _ _ _ _ _ _ _ _ _ _ _ _ _ _ (F0 m pc ls (xcv G (.ref a) :: st.map (xcv G)))
      rw [xcv_own (Nat.not_lt.mp q)]
      exact lv_ifnonnull hM.1 hM.2.1 d ht (go.2 H locs ls hv hR hS)
  · cases hi
theorem xsw_spec {pc : Nat} {dflt lo hi : Int} {offs : Array Int} {ts : List Nat} {dt : Nat} (hd : (pc : Int) + dflt = (dt : Int)) (hlen : hi - lo + 1 = (ts.length : Int)) (hts : offs.toList.map (fun o => (pc : Int) + o) = ts.map (fun t : Nat => (t : Int))) (x : Int32) :
    ((x.toInt < lo ∨ hi < x.toInt) ∧ xsw lo ts dt x = dt) ∨ (¬ x.toInt < lo ∧ ¬ hi < x.toInt ∧ ∃ off, offs[(x.toInt - lo).toNat]? = some off ∧ (pc : Int) + off = (xsw lo ts dt x : Int)) := by
  unfold xsw
  by_cases h1 : x.toInt < lo
  · exact Or.inl ⟨Or.inl h1, if_pos h1⟩
  · rw [if_neg h1]
    by_cases h2 : hi < x.toInt
    · refine Or.inl ⟨Or.inr h2, ?_⟩
      rw [List.getD_eq_getElem?_getD, List.getElem?_eq_none (by omega)]
      rfl
    · refine Or.inr ⟨h1, h2, ?_⟩
      have hk : (x.toInt - lo).toNat < ts.length := by omega
      have h3 : (offs.toList.map (fun o => (pc : Int) + o))[(x.toInt - lo).toNat]? = some ((ts[(x.toInt - lo).toNat] : Nat) : Int) := by
        rw [hts, List.getElem?_map, List.getElem?_eq_getElem hk]; rfl
      rw [List.getElem?_map] at h3
      cases ho : offs.toList[(x.toInt - lo).toNat]? with
      | none => rw [ho] at h3; cases h3
      | some off =>
        rw [ho] at h3
        refine ⟨off, by rw [← Array.getElem?_toList]; exact ho, ?_⟩
        rw [List.getD_eq_getElem?_getD, List.getElem?_eq_getElem hk]
        exact Option.some.inj h3
theorem snd_tsw {dflt lo hi : Int} {offs : Array Int} {len : Nat} {ts : List Nat} {dt : Nat} (d : decode cc pc = .ok (.tableswitch dflt lo hi offs, len)) (hd : (pc : Int) + dflt = (dt : Int)) (hlen : hi - lo + 1 = (ts.length : Int)) (hts : offs.toList.map (fun o => (pc : Int) + o) = ts.map (fun t : Nat => (t : Int))) : Snd own nm cc nL ret hh pc (i_tsw lo ts dt) := by
  intro D ev _ lv st h nx hi
  unfold i_tsw at hi
  split at hi
  · rename_i x st
    cases hi
    refine ⟨xle.rf, fun G p l e s m args below meth c h0 r hM h1 go H locs ls hv hR hS => ?_⟩
    have k := (go.2 H locs ls hv hR hS)
    rcases xsw_spec hd hlen hts x with ⟨q1, q2⟩ | ⟨q1, q2, off, q3, q4⟩
    · exact lv_tableOut hM.1 hM.2.1 d q1 (by rw [q2]; exact hd) k
    · exact lv_tableIn hM.1 hM.2.1 d q1 q2 q3 q4 k
  · cases hi
end SND
