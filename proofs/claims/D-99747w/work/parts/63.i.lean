set_option maxRecDepth 100000
section SND7
variable {own nm : String} {cc : ByteArray} {nL : Nat} {ret : Option FieldType} {hh : List (Nat × Nat × Nat × Nat)} {pc : Nat}
theorem snd_no : Snd own nm cc nL ret hh pc i_no := by
  intro D ev _ lv st h nx hi
  cases hi
theorem xlsw_spec {pc dt : Nat} {dflt k : Int} {x : Int32} (hd : (pc : Int) + dflt = (dt : Int)) (hk : x.toInt = k) : ∀ (l : List (Int × Int)) (qs : List (Int × Nat)), l.map (fun q => (q.1, (pc : Int) + q.2)) = qs.map (fun q : Int × Nat => (q.1, (q.2 : Int))) → (pc : Int) + Op.lookupswitch.offset l dflt k = (xlsw qs dt x : Int) := by
  intro l
  induction l with
  | nil =>
    intro qs h
    cases qs with
    | nil => exact hd
    | cons q qs => cases h
  | cons a l ih =>
    intro qs h
    cases qs with
    | nil => cases h
    | cons q qs =>
      obtain ⟨a1, a2⟩ := a
      obtain ⟨q1, q2⟩ := q
      rw [List.map_cons, List.map_cons, List.cons.injEq, Prod.mk.injEq] at h
      obtain ⟨⟨e1, e2⟩, h⟩ := h
      dsimp only at e1 e2
      rw [Op.lookupswitch.offset_cons]
      show _ = ((if x.toInt = q1 then q2 else xlsw qs dt x : Nat) : Int)
      rw [hk, ← e1]
      by_cases c : a1 = k
      · rw [if_pos c, if_pos c.symm]
        exact e2
      · rw [if_neg c, if_neg (fun z => c z.symm)]
        exact ih qs h
theorem snd_lsw {dflt : Int} {ps : Array (Int × Int)} {len dt : Nat} {qs : List (Int × Nat)} (d : decode cc pc = .ok (.lookupswitch dflt ps, len)) (hp : (ps.toList.zip (ps.toList.drop 1)).all (fun (a, next) => a.1 < next.1) = true) (hd : (pc : Int) + dflt = (dt : Int)) (hq : ps.toList.map (fun q => (q.1, (pc : Int) + q.2)) = qs.map (fun q : Int × Nat => (q.1, (q.2 : Int)))) : Snd own nm cc nL ret hh pc (i_lsw qs dt) := by
  intro D ev _ lv st h nx hi
  unfold i_lsw at hi
  split at hi
  · rename_i x st
    cases hi
    exact ⟨xle.rf, fun G p l e s m args below meth c h0 r hM h1 go H locs ls hv hR hS => lv_lookup hM.1 hM.2.1 d hp rfl (xlsw_spec hd rfl _ qs hq) (go.2 H locs ls hv hR hS)⟩
  · cases hi
/-- a call in a place that a handler covers -/
theorem snd_cvh {cs : List Nat} {t k na ci maxL : Nat} {y : MethodName} {w : vw_C} {bytes : ByteArray} {rt : Option FieldType} {h2 : List (Nat × Nat × Nat × Nat)} {x0 : ExceptionTableEntry} {name : String} (ht : tableOf hh = [x0]) (hcov : covers x0 pc = true) (hct : x0.catchType ≠ 0) (hhp : x0.handlerPc = t) (hlk : Cond.classLink own x0.catchType name ∈ lw_all) (hcs : ∀ c ∈ cs, ∃ v, xcls[c]? = some v ∧ Cond.castable v.1 name ∈ lw_tbl)
    (hinf : xinf[k]? = some (some (y, bytes, maxL, rt, h2))) (hL : maxL ≤ 40) (hw : xcls[ci]? = some w) (mode : xVm own cc nL pc na w.1 y (xws (y, bytes, maxL, rt, h2)) maxL) : Snd own nm cc nL ret hh pc (i_cvh cs t ci k na (pc + 3)) := by
  intro D ev hev lv st h nx hi
  unfold i_cvh at hi
  split at hi
  · rename_i a rest hst
    split at hi
    · rename_i hok
      obtain ⟨u, h1, hb⟩ := xOn_s hi
      obtain ⟨fs, h3⟩ := xck_s h1
      cases hr : ev k (.ref a :: (st.take na).reverse) h with
      | none => rw [hr] at hb; cases hb
      | some r' =>
        rw [hr] at hb
        obtain ⟨hle, hmet⟩ := hev k _ h r' hr
        have hcase : (∃ v h', r' = (.inl (some v), h') ∧ nx = .inl (pc + 3, lv, v :: rest, h')) ∨ (∃ q h' ci' fs' v', r' = (.inr q, h') ∧ nx = .inl (t, lv, [.ref q], h') ∧ h'.1 q = some (.inr (ci', fs')) ∧ xcls[ci']? = some v' ∧ Cond.castable v'.1 name ∈ lw_tbl) := by
          match r', hb with
          | (.inl (some v), h'), hb => cases hb; exact Or.inl ⟨v, h', rfl, rfl⟩
          | (.inr q, h'), hb =>
            obtain ⟨u, g1, g2⟩ := xOn_s (show xOn (xckc h' cs q) _ = some nx from hb)
            cases g2
            obtain ⟨ci', fs', g3, g4⟩ := xckc_s g1
            obtain ⟨v', g5, g6⟩ := hcs ci' g4
            exact Or.inr ⟨q, h', ci', fs', v', rfl, rfl, g3, g5, g6⟩
        have hnh : xnh nx = r'.2 := by
          rcases hcase with ⟨v, h', rfl, rfl⟩ | ⟨q, h', ci', fs', v', rfl, rfl, -⟩ <;> rfl
        refine ⟨by rw [hnh]; exact hle, fun G p l e s m args below meth c h0 r hM h9 go H locs ls hv hR hS => ?_⟩
        have hm := hmet _ hinf G l hM.2.2.2.2.2.2.2.2.2.2.1
        have hle2 : xle r'.2 r.2 := by
          rcases hcase with ⟨v, h', rfl, rfl⟩ | ⟨q, h', ci', fs', v', rfl, rfl, -⟩ <;> exact go.1
        have hKn := hM.2.2.2.2.2.2.2.2.1
        obtain ⟨tt, e1, hcell⟩ := xrecv hKn hR h3 hw
        have hlen : na < st.length := by
          rcases Nat.lt_or_ge na st.length with q | q
          · exact q
          · rw [List.drop_eq_nil_of_le q] at hst
            cases hst
        show W _ _ _ _ _ _ _ _ _ _ _ _ _ _ _ (F0 m pc ls (st.map (xcv G)))
        rw [xstk (G := G) (st := st) na, hst]
        show W _ _ _ _ _ _ _ _ _ _ _ _ _ _ _ (F0 m pc ls (_ ++ xcv G (.ref a) :: rest.map (xcv G)))
        rw [e1]
        have hpre := xpre (.ref a :: (st.take na).reverse) hKn hR hS
        rw [List.map_cons, e1] at hpre
        have q1 := h9.1; have q2 := h9.2; have q3 := hle.1; have q4 := hle.2
        refine xafter (mode p l e _ s m args below meth c H locs _ _ _ _ _ _ _ _ _ tt _ _ ls ⟨hM.1, hM.2.1, hM.2.2.1, hM.2.2.2.1, hM.2.2.2.2.1⟩ hKn.2.1 hm rfl rfl (xroom hL) ⟨xblind _ _ _, hcell, hpre⟩ (by rw [List.length_map, List.length_reverse, List.length_take]; omega) hv.1 (xok4 hok) (xfit h9 hle hle2 _) (fun _ _ _ _ _ => trivial) ⟨_, (hKn.1.1 ci w hw).2⟩) hS (fun v H1 locs1 g1 g2 g3 => ?_) (fun q ci1 fs1 w1 H1 locs1 g1 g2 g3 g4 g5 g6 => ?_)
        · rcases hcase with ⟨v', h', rfl, rfl⟩ | ⟨q, h', ci', fs', v', rfl, rfl, -⟩
          · cases g1
            have k0 := go.2 H1 locs1 ls hv g2 g3
            dsimp only at q3 q4
            exact W_num (by dsimp only; omega) (by dsimp only; omega) k0
          · cases g1
        · rcases hcase with ⟨v', h', rfl, rfl⟩ | ⟨q', h', ci', fs', v', rfl, rfl, z1, z2, z3⟩
          · cases g1
          · cases g1
            have k0 : W p l e _ s m args below meth c H1 locs1 (h'.2.1 - h0.2.1) (h'.2.2 - h0.2.2) _ (F0 m t ls [xcv G (.ref q)]) := go.2 H1 locs1 ls hv g5 g6
            rw [xcv_own g2] at k0
            obtain ⟨r0, y1, cell, y2, y3, y4, y5⟩ := (g5.2.2.2.1 q _ g2 z1).1
            have hxt := hM.2.2.2.2.2.2.2.2.2.1
            rw [ht] at hxt
            dsimp only at q3 q4
            subst hhp
            exact vx_catch hM.2.2.2.1 [] x0 [] hxt (fun z hz => absurd hz List.not_mem_nil) hcov hct (hM.2.2.2.2.1 _ hlk) (va_Nw.use rfl (hKn.2.1.1 _ z3 rfl)) y2 y4 (by rw [y3]; exact (hKn.1.1 ci' _ z2).2.1) (W_num (by dsimp only; omega) (by dsimp only; omega) k0)
    · cases hi
  · cases hi
/-! all own cells in one list -/
def xall (G : xG) (h : xH) : va_W := (List.range h.2.1).filterMap (fun a => if 64 ≤ a then (h.1 a).map (fun e => (xadr G a, xce G e)) else none)
theorem xall_mem {G : xG} {h : xH} {q : Nat × va_E} : q ∈ xall G h ↔ ∃ a e, a < h.2.1 ∧ 64 ≤ a ∧ h.1 a = some e ∧ q = (xadr G a, xce G e) := by
  unfold xall
  rw [List.mem_filterMap]
  constructor
  · rintro ⟨a, ha, hq⟩
    split at hq
    · rename_i h64
      cases he : h.1 a with
      | none => rw [he] at hq; cases hq
      | some e =>
        rw [he] at hq
        cases hq
        exact ⟨a, e, List.mem_range.mp ha, h64, he, rfl⟩
    · cases hq
  · rintro ⟨a, e, h1, h2, h3, rfl⟩
    exact ⟨a, List.mem_range.mpr h1, by rw [if_pos h2, h3]; rfl⟩
theorem xall_pw {G : xG} {h : xH} : (xall G h).Pairwise (fun p q => p.1 < q.1) := by
  unfold xall
  rw [List.pairwise_filterMap]
  refine List.Pairwise.imp ?_ List.pairwise_lt_range
  intro a b hab p hp q hq
  split at hp
  · rename_i ha
    split at hq
    · rename_i hb
      cases he : h.1 a with
      | none => rw [he] at hp; cases hp
      | some e =>
        cases he2 : h.1 b with
        | none => rw [he2] at hq; cases hq
        | some e2 =>
          rw [he] at hp; rw [he2] at hq
          cases hp; cases hq
          show gS G + (a - 64) < gS G + (b - 64)
          omega
    · cases hq
  · cases hp
theorem xall_D {G : xG} {h : xH} : va_D (xfr G) (xall G h) := by
  refine ⟨fun i j p q hp hq hpq => ?_, fun k q hk => ?_⟩
  · have hpw := List.pairwise_iff_getElem.mp (xall_pw (G := G) (h := h))
    obtain ⟨hi, rfl⟩ := List.getElem?_eq_some_iff.mp hp
    obtain ⟨hj, rfl⟩ := List.getElem?_eq_some_iff.mp hq
    rcases Nat.lt_trichotomy i j with c | c | c
    · exact absurd hpq (Nat.ne_of_lt (hpw i j hi hj c))
    · exact c
    · exact absurd hpq.symm (Nat.ne_of_lt (hpw j i hj hi c))
  · obtain ⟨a, e, -, -, -, rfl⟩ := xall_mem.mp (List.mem_of_getElem? hk)
    show gS G ≤ gS G + (a - 64)
    omega
theorem xall_P {G : xG} {h : xH} {s : State} {H : Heap} (hR : xRp G h s H) : va_P (gD G) xcls (xall G h) H := by
  intro k q hk
  obtain ⟨a, e, -, h2, h3, rfl⟩ := xall_mem.mp (List.mem_of_getElem? hk)
  exact (hR.2.2.2.1 a e h2 h3).1
theorem xall_at {G : xG} {h : xH} {s : State} {H : Heap} {a : Nat} {e : xE} (hR : xRp G h s H) (ha : 64 ≤ a) (he : h.1 a = some e) : ∃ k : Nat, (xall G h)[k]? = some (xadr G a, xce G e) := List.getElem?_of_mem (xall_mem.mpr ⟨a, e, hR.2.2.1 a e he, ha, he, rfl⟩)
theorem W_sz {p : Program} {l : Launch} {e : Env} {R : Room} {s : State} {m : MethodId} {args : Array Value} {below : List Frame} {meth : Method} {c : Code} {H : Heap} {locs : List Loc} {cells slots : Nat} {Q : State → Prop} {g : JFrame} (h : H.size ≤ s.heap.size + cells → W p l e R s m args below meth c H locs cells slots Q g) : W p l e R s m args below meth c H locs cells slots Q g := fun T hT X => h (by rw [← hT]; exact X.same.2.2.1) T hT X
/-- one cell of the list is changed, and nothing else -/
theorem xcopied {G : xG} {h : xH} {s : State} {H H1 : Heap} {dd k : Nat} {e0 e : xE} (hR : xRp G h s H) (hd : 64 ≤ dd) (he0 : h.1 dd = some e0) (hk : (xall G h)[k]? = some (xadr G dd, xce G e0)) (hP1 : va_P (gD G) xcls ((xall G h).set k (xadr G dd, xce G e)) H1) (hg : xgood1 e) (hold : ∀ q : Nat, q < H.size → ¬ xfr G q → H1[q]? = H[q]?) (z : H1.size = H.size) : xRp G (xset h dd e) s H1 := by
  have hkl := (List.getElem?_eq_some_iff.mp hk).1
  refine ⟨hR.1, z.trans hR.2.1, fun b e1 hb => ?_, fun b e1 hb64 hb => ?_, fun b e1 hb64 hb => ?_, fun b hb1 hb2 => ?_⟩
  · by_cases q : b = dd
    · rw [q]; exact hR.2.2.1 dd e0 he0
    · exact hR.2.2.1 b e1 ((if_neg q).symm.trans hb)
  · by_cases q : b = dd
    · subst q
      have hb' : some e = some e1 := (if_pos rfl).symm.trans hb
      cases hb'
      exact ⟨hP1 k _ (List.getElem?_set_self hkl), hg⟩
    · have hb' : h.1 b = some e1 := (if_neg q).symm.trans hb
      obtain ⟨j, hj⟩ := xall_at hR hb64 hb'
      have hjk : k ≠ j := by
        rintro rfl
        rw [hk] at hj
        exact q (xadr_inj hb64 hd (congrArg Prod.fst (Option.some.inj hj)).symm)
      exact ⟨hP1 j _ (by rw [List.getElem?_set_ne hjk]; exact hj), (hR.2.2.2.1 b e1 hb64 hb').2⟩
  · have hb' : h.1 b = some e1 := (if_neg (by omega)).symm.trans hb
    exact (hR.2.2.2.2.1 b e1 hb64 hb').kept hold
  · by_cases q : b = dd
    · exact ⟨e, if_pos q⟩
    · obtain ⟨e1, he1⟩ := hR.2.2.2.2.2 b hb1 hb2
      exact ⟨e1, (if_neg q).trans he1⟩
theorem xcpr_s {sp dp n : Int32} {n0 n1 : Nat} (h : xcpr sp dp n n0 n1 = true) : ¬ sp < 0 ∧ ¬ dp < 0 ∧ ¬ n < 0 ∧ sp.toNatClampNeg + n.toNatClampNeg ≤ n0 ∧ dp.toNatClampNeg + n.toNatClampNeg ≤ n1 := of_decide_eq_true h
theorem xcpb_s {h h' : xH} {s : Nat} {sp : Int32} {dd : Nat} {dp n : Int32} (e : xcpb h s sp dd dp n = some h') : ∃ n0 n1 f g, h.1 s = some (.inl (1, n0, .inl f)) ∧ h.1 dd = some (.inl (1, n1, .inl g)) ∧ 64 ≤ s ∧ 64 ≤ dd ∧ xcpr sp dp n n0 n1 = true ∧ h' = xset h dd (.inl (1, n1, .inl (va_cpy f g sp.toNatClampNeg dp.toNatClampNeg n.toNatClampNeg))) := by
  unfold xcpb at e
  split at e
  · rename_i n0 f n1 g h1 h2
    split at e
    · rename_i hc
      cases e
      exact ⟨n0, n1, f, g, h1, h2, hc.1, hc.2.1, hc.2.2, rfl⟩
    · cases e
  · cases e
theorem snd_cpb {index : Nat} (d : decode cc pc = .ok (.invokestatic index, 3)) (hlk : Cond.methodLink own index arraycopyName ∈ lw_all) (hnat : Cond.native arraycopyName ∈ lw_all) (hst : Cond.static arraycopyName ∈ lw_all) (hini : Cond.initialized "java/lang/System" ∈ lw_all) : Snd own nm cc nL ret hh pc (i_cpb (pc + 3)) := by
  intro D ev _ lv st h nx hi
  unfold i_cpb at hi
  split at hi
  · rename_i n dp dd sp ss st
    split at hi
    · rename_i hok
      obtain ⟨h', h1, h2⟩ := xOn_s hi
      cases h2
      obtain ⟨n0, n1, f, g, g1, g2, hs64, hd64, hc, rfl⟩ := xcpb_s h1
      obtain ⟨c1, c2, c3, c4, c5⟩ := xcpr_s hc
      refine ⟨xle.rf, fun G p l e s m args below meth c h0 r hM h9 go H locs ls hv hR hS => ?_⟩
      have hts := hM.2.2.2.2.1
      have hR : xRp G h s H := hR
      obtain ⟨k0, hk0⟩ := xall_at hR hs64 g1
      obtain ⟨k1, hk1⟩ := xall_at hR hd64 g2
      have gd0 := (hR.2.2.2.1 ss _ hs64 g1).2.1 n0 f rfl
      have gd1 := (hR.2.2.2.1 dd _ hd64 g2).2.1 n1 g rfl
      show W _ _ _ _ _ _ _ _ _ _ _ _ _ _ _ (F0 m pc ls (.int n :: .int dp :: xcv G (.ref dd) :: .int sp :: xcv G (.ref ss) :: st.map (xcv G)))
      rw [xcv_own hs64, xcv_own hd64]
      have h8 := xok4 (G := G) hok
      refine va_copyi (ty := .byte) (H0 := H) hM.1 hM.2.1 (hM.2.2.1.trans hv.1.symm) hM.2.2.2.1 (hts _ hlk) (hts _ hnat) (hts _ hst) (hts _ hini) hM.2.2.2.2.2.2.2.2.1.1 (xall_P hR) xall_D ⟨Nat.le_refl _, fun _ _ _ => rfl, hS.2.2⟩ k0 k1 1 1 hk0 hk1 rfl rfl rfl c1 c2 c3 c4 c5 (fun i _ => gd0 _) (by show 1 ≤ D + 1 + 16; omega) (by show _ + (nativeFrameWords "java/lang/System" "arraycopy" 5 + 11) ≤ 64 * (D + 1 + 16); have : nativeFrameWords "java/lang/System" "arraycopy" 5 ≤ 100 := (by decide +kernel); omega) d (fun H1 locs1 hP1 hD1 hS1 => ?_)
      refine W_sz (fun hsz => ?_)
      have z0 := hM.2.2.2.2.2.2.2.2.2.2.2.2
      have z1 := hM.2.2.2.2.2.2.2.2.2.2.2.1
      have z2 := hR.1; have z3 := hR.2.1; have z4 := h9.1; have z5 := hS1.1
      have hz : H1.size = H.size := by
        dsimp only at hsz
        omega
      refine go.2 H1 locs1 ls hv (xcopied hR hd64 g2 hk1 hP1 (And.intro (fun n' f' h' j => ?_) (And.intro (fun t n f h' => nomatch h') (fun t n f h' => by cases h'; decide))) hS1.2.1 hz) ⟨Nat.le_trans hS.1 hS1.1, fun q q1 q2 => (hS1.2.1 q (Nat.lt_of_lt_of_le q1 hS.1) q2).trans (hS.2.1 q q1 q2), hS1.2.2⟩
      cases h'
      show fits .byte (.int (va_cpy f g sp.toNatClampNeg dp.toNatClampNeg n.toNatClampNeg j)) = true
      unfold va_cpy
      split
      · exact gd0 _
      · exact gd1 _
    · cases hi
  · cases hi
end SND7
