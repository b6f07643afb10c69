/-! SOUNDNESS (own work): what an abstract heap says of the machine's; contracts; an instruction's soundness -/
/-- class numbers and slots; array classes by kind; the old cells as values; the heap's size at the law's start -/
abbrev xG : Type := va_G × (Nat → ClassId) × (Nat → Value) × Nat
def gD (G : xG) : va_G := G.1
def gA (G : xG) : Nat → ClassId := G.2.1
def gO (G : xG) : Nat → Value := G.2.2.1
def gS (G : xG) : Nat := G.2.2.2
def xadr (G : xG) (a : Nat) : Nat := gS G + (a - 64)
def xfr (G : xG) : Nat → Prop := fun q => gS G ≤ q
def xcv (G : xG) (v : Value) : Value := match v with
  | .ref a => if a < 64 then gO G a else .ref (xadr G a)
  | v => v
def xT0 : u_T := fun _ => ("", "", "", false)
def xcls : List vw_C := [(RX1, TX1, 22), (RX2, TX2, 8), (RX3, TX3, 7), (RX4, TX4, 5), (RX5, TX5, 32), (RX6, TX6, 7), (RX7, TX7, 4), (RX9, xT0, 0), (RX10, xT0, 0), (RX11, xT0, 0), (RX12, xT0, 0), (RX14, TX14, 1), (RX15, TX15, 1), (RX16, TX16, 1), (RX17, TX17, 3), (RX19, xT0, 0), (RX20, TX20, 2), (RX21, TX21, 1), (RX22, TX22, 1), (RX23, TX23, 1), (RX24, TX24, 8), (RJ2, TJ2, 3), (RJ5, TJ5, 4), (RJ14, TJ14, 4), (RJ18, xT0, 0)]
def xknd (t : Nat) : FieldType := match t with
  | 0 => .int
  | 1 => .byte
  | 2 => .boolean
  | 3 => .long
  | 4 => .object "java/lang/Object"
  | 5 => .object "SwollenHouse$State"
  | 6 => .array .int
  | _ => .object "SwollenHouse$Mark"
def xtys (G : xG) : List (ClassId × FieldType) := [(gA G 0, .int), (gA G 1, .byte), (gA G 2, .boolean), (gA G 3, .long), (gA G 4, .object "java/lang/Object"), (gA G 5, .object "SwollenHouse$State"), (gA G 6, .array .int), (gA G 7, .object "SwollenHouse$Mark")]
def xnf (ci : Nat) : Nat := match xcls[ci]? with
  | some q => q.2.2
  | none => 0
def xce (G : xG) (e : xE) : va_E := match e with
  | .inl (t, n, .inl f) => .inl (gA G t, n, .inl f)
  | .inl (t, n, .inr (.inl f)) => .inl (gA G t, n, .inr (.inl f))
  | .inl (t, n, .inr (.inr f)) => .inl (gA G t, n, .inr (.inr (.inr (.inr (fun j => (f j).map (xadr G))))))
  | .inr (ci, fs) => .inr (ci, (List.range (xnf ci)).map (fun k => xcv G (fs k)))
/-- an old cell: the script, a text of the program, an empty array -/
def xoat (G : xG) (s : State) (H : Heap) (a : Nat) (e : xE) : Prop := ∃ b, gO G a = .ref b ∧ b < gS G ∧ match e with
  | .inl (t, n, .inl f) => ∃ cell : Cell, H[b]? = some cell ∧ s.isArrayOf cell (xknd t) ∧ cell.vm ≠ .unknown ∧ n ≤ cell.slots.size ∧ cell.slots.size.toInt32 = nI n ∧ (∀ j, j < n → cell.slots[j]? = some (.int (f j))) ∧ t ≤ 2 ∧ (t = 1 → s.vm.findClass "[B" = some cell.cls ∧ cell.vm.isStatics = false)
  | .inl (t, n, .inr (.inr _)) => ∃ cell : Cell, H[b]? = some cell ∧ s.isArrayOf cell (xknd t) ∧ cell.vm ≠ .unknown ∧ cell.vm.isStatics = false ∧ cell.slots.size.toInt32 = nI n ∧ n = 0 ∧ s.vm.findClass "[Ljava/lang/Object;" = some cell.cls ∧ t = 4
  | .inl (_, _, .inr (.inl _)) => False
  | .inr (ci, fs) => ci = 22 ∧ va_O RJ5 b (xfr G) s H ∧ va_OF RJ5 "value" "[B" (xcv G (fs 0)) b (xfr G) s H ∧ va_OF RJ5 "coder" "B" (xcv G (fs 1)) b (xfr G) s H
/-- bytes fit; references in arrays are own cells -/
def xgood1 (e : xE) : Prop := (∀ n f, e = .inl (1, n, .inl f) → ∀ j, fits .byte (.int (f j)) = true) ∧ (∀ t n f, e = .inl (t, n, .inr (.inr f)) → ∀ j y, f j = some y → 64 ≤ y) ∧ ∀ t n f, e = .inl (t, n, f) → t < 8
theorem xtys_at (G : xG) {t : Nat} (h : t < 8) : (xtys G)[t]? = some (gA G t, xknd t) := by
  match t, h with
  | 0, _ => rfl
  | 1, _ => rfl
  | 2, _ => rfl
  | 3, _ => rfl
  | 4, _ => rfl
  | 5, _ => rfl
  | 6, _ => rfl
  | 7, _ => rfl
def xRp (G : xG) (h : xH) (s : State) (H : Heap) : Prop :=
  64 ≤ h.2.1 ∧ H.size = gS G + (h.2.1 - 64) ∧ (∀ a e, h.1 a = some e → a < h.2.1) ∧ (∀ a e, 64 ≤ a → h.1 a = some e → va_at (gD G) xcls (xadr G a, xce G e) H ∧ xgood1 e) ∧ (∀ a e, a < 64 → h.1 a = some e → xoat G s H a e) ∧ ∀ a, 64 ≤ a → a < h.2.1 → ∃ e, h.1 a = some e
theorem xadr_inj {G : xG} {a b : Nat} (ha : 64 ≤ a) (hb : 64 ≤ b) (h : xadr G a = xadr G b) : a = b := by
  unfold xadr at h; omega
theorem xoat.kept {G : xG} {s : State} {H H1 : Heap} {a : Nat} {e : xE} (h : xoat G s H a e) (hz : ∀ q : Nat, q < H.size → ¬ xfr G q → H1[q]? = H[q]?) : xoat G s H1 a e := by
  obtain ⟨b, h1, h2, h3⟩ := h
  have hb : ¬ xfr G b := Nat.not_le.mpr h2
  refine ⟨b, h1, h2, ?_⟩
  match e, h3 with
  | .inl (t, n, .inl f), ⟨z0, h3, h4⟩ => exact ⟨z0, by rw [hz b (Array.getElem?_eq_some_iff.mp h3).1 hb]; exact h3, h4⟩
  | .inl (t, n, .inr (.inr f)), ⟨z0, h3, h4⟩ => exact ⟨z0, by rw [hz b (Array.getElem?_eq_some_iff.mp h3).1 hb]; exact h3, h4⟩
  | .inr (ci, fs), ⟨h3, h4, h5, h6⟩ => exact ⟨h3, h4.kept hz, h5.kept hz, h6.kept hz⟩
theorem xoat.moved {G : xG} {s U : State} {H : Heap} {a : Nat} {e : xE} (hvm : s.vm.Alike U.vm) (h : xoat G s H a e) : xoat G U H a e := by
  obtain ⟨b, h1, h2, h3⟩ := h
  refine ⟨b, h1, h2, ?_⟩
  match e, h3 with
  | .inl (t, n, .inl f), ⟨z0, h3, h4, h5, h6, h7, h8, h9, h10⟩ => exact ⟨z0, h3, State.isArrayOf_alike hvm h4, h5, h6, h7, h8, h9, fun q => ⟨by rw [hvm.findClass]; exact (h10 q).1, (h10 q).2⟩⟩
  | .inl (t, n, .inr (.inr f)), ⟨z0, h3, h4, h5, h6, h7, h8, h9, h10⟩ => exact ⟨z0, h3, State.isArrayOf_alike hvm h4, h5, h6, h7, h8, by rw [hvm.findClass]; exact h9, h10⟩
  | .inr (ci, fs), ⟨h3, h4, h5, h6⟩ => exact ⟨h3, va_O.moved hvm h4, va_OF.moved hvm h5, va_OF.moved hvm h6⟩
theorem xRp.moved {G : xG} {h : xH} {s U : State} {H : Heap} (hvm : s.vm.Alike U.vm) (hR : xRp G h s H) : xRp G h U H :=
  ⟨hR.1, hR.2.1, hR.2.2.1, hR.2.2.2.1, fun a e ha he => (hR.2.2.2.2.1 a e ha he).moved hvm, hR.2.2.2.2.2⟩
/-- a cell of the machine's own is changed -/
theorem xRp.set {G : xG} {h : xH} {s : State} {H H1 : Heap} {a : Nat} {e0 e : xE} (hR : xRp G h s H) (ha : 64 ≤ a) (he0 : h.1 a = some e0) (he : va_at (gD G) xcls (xadr G a, xce G e) H1) (hg : xgood1 e) (z : H1.size = H.size) (oq : ∀ q : Nat, q ≠ xadr G a → H1[q]? = H[q]?) : xRp G (xset h a e) s H1 := by
  refine ⟨hR.1, z.trans hR.2.1, fun b e1 hb => ?_, fun b e1 hb64 hb => ?_, fun b e1 hb64 hb => ?_, fun b hb1 hb2 => ?_⟩
  · by_cases q : b = a
    · rw [q]; exact hR.2.2.1 a e0 he0
    · exact hR.2.2.1 b e1 ((if_neg q).symm.trans hb)
  · by_cases q : b = a
    · subst q
      have hb' : some e = some e1 := (if_pos rfl).symm.trans hb
      cases hb'
      exact ⟨he, hg⟩
    · have hb' : h.1 b = some e1 := (if_neg q).symm.trans hb
      obtain ⟨g1, g2⟩ := hR.2.2.2.1 b e1 hb64 hb'
      exact ⟨g1.kept (oq _ (fun z => q (xadr_inj hb64 ha z))), g2⟩
  · have hb' : h.1 b = some e1 := (if_neg (by omega)).symm.trans hb
    exact (hR.2.2.2.2.1 b e1 hb64 hb').kept (fun q _ hq => oq q (fun z => hq (by rw [z]; unfold xfr xadr; omega)))
  · by_cases q : b = a
    · exact ⟨e, if_pos q⟩
    · obtain ⟨e1, he1⟩ := hR.2.2.2.2.2 b hb1 hb2
      exact ⟨e1, (if_neg q).trans he1⟩
/-- a cell is made -/
theorem xRp.new {G : xG} {h : xH} {s : State} {H H1 : Heap} {e : xE} {n : Nat} (hR : xRp G h s H) (he : va_at (gD G) xcls (H.size, xce G e) H1) (hg : xgood1 e) (z : H1.size = H.size + 1) (oq : ∀ q : Nat, q < H.size → H1[q]? = H[q]?) : xRp G (xnew h e n) s H1 := by
  have hz : H.size = xadr G h.2.1 := hR.2.1
  refine ⟨Nat.le_succ_of_le hR.1, ?_, fun b e1 hb => ?_, fun b e1 hb64 hb => ?_, fun b e1 hb64 hb => ?_, fun b hb1 hb2 => ?_⟩
  · show H1.size = gS G + (h.2.1 + 1 - 64)
    have := hR.1; have := hR.2.1
    omega
  · show b < h.2.1 + 1
    by_cases q : b = h.2.1
    · omega
    · exact Nat.lt_succ_of_lt (hR.2.2.1 b e1 ((if_neg q).symm.trans hb))
  · by_cases q : b = h.2.1
    · subst q
      have hb' : some e = some e1 := (if_pos rfl).symm.trans hb
      cases hb'
      exact ⟨by rw [← hz]; exact he, hg⟩
    · have hb' : h.1 b = some e1 := (if_neg q).symm.trans hb
      obtain ⟨g1, g2⟩ := hR.2.2.2.1 b e1 hb64 hb'
      exact ⟨g1.kept (oq _ g1.lt), g2⟩
  · have hb' : h.1 b = some e1 := (if_neg (by have := hR.1; omega)).symm.trans hb
    exact (hR.2.2.2.2.1 b e1 hb64 hb').kept (fun q hq _ => oq q hq)
  · by_cases q : b = h.2.1
    · exact ⟨e, if_pos q⟩
    · have hb3 : b < h.2.1 + 1 := hb2
      obtain ⟨e1, he1⟩ := hR.2.2.2.2.2 b hb1 (by omega)
      exact ⟨e1, (if_neg q).trans he1⟩
/-! what is known of the tables -/
def xnk : Cond → Bool
  | .fieldLinkNest _ _ _ _ _ _ => true
  | .methodLinkNest _ _ _ _ => true
  | .declares _ => true
  | .castable _ _ => true
  | _ => false
theorem xnk_warm {w : Cond} (hk : xnk w = true) {s U : State} (hW : s.WarmedH U.vm) (h : va_Nw w s) : va_Nw w U := by
  cases w <;> first | exact va_Nw.warmF hW h | exact va_Nw.warmM hW h | exact va_Nw.warmC hW h | exact va_Nw.warmD hW h | exact Bool.noConfusion (show false = true from hk)
/-- a private method of a class above, by its receiver -/
def xselE : Cond := .selects "java/lang/StringBuilder" ⟨"java/lang/AbstractStringBuilder", "ensureCapacityInternal", "(I)V"⟩ ⟨"java/lang/AbstractStringBuilder", "ensureCapacityInternal", "(I)V"⟩
def xAO2 (U : State) : Prop := (Cond.arrayOver (.array .int)).before #[] U = true
theorem xAO2.moved {u U : State} (hvm : u.vm.Alike U.vm) (h : xAO2 u) : xAO2 U := by
  unfold xAO2 Cond.before at h ⊢
  simp only [Cond.holds, Cond.value, beq_iff_eq] at h ⊢
  cases hc : u.vm.findClass (FieldType.array .int).toString with
  | none => simp [hc] at h
  | some comp =>
    have hc' : U.vm.findClass (FieldType.array .int).toString = some comp := by rw [hvm.findClass]; exact hc
    simp only [hc, hc', Option.bind_some, Option.bind_eq_some_iff, Option.map_eq_some_iff] at h ⊢
    obtain ⟨c, hi, k, hk, hb⟩ := h
    obtain ⟨k', hk', he⟩ := hvm.2.2 _ _ hk
    have hi' : (U.vm.classes.findIdx? fun (x : Class) => match x.kind with | .array component _ => component == comp | _ => false) = some c := by
      have hb0 : U.vm.bare = u.vm.bare := by first | exact hvm.bare_eq | exact hvm.bare_eq.symm
      have z := (va_idx_bare U.vm comp).symm
      rw [hb0] at z
      exact z.trans ((va_idx_bare u.vm comp).trans hi)
    refine ⟨c, hi', k', hk', ?_⟩
    rw [he, hvm.findClass]
    exact hb
def xNw (U : State) : Prop := (∀ w ∈ lw_tbl, xnk w = true → va_Nw w U) ∧ va_Nw xselE U ∧ xAO2 U
theorem xNw.warm {s U : State} (hW : s.WarmedH U.vm) (h : xNw s) : xNw U := ⟨fun w hw hk => xnk_warm hk hW (h.1 w hw hk), word_at hW (good_of_word rfl) h.2.1, h.2.2.moved hW.alike⟩
def xlits : List (Nat × String × Nat) := [(48, "()<=+-*;", 2), (141, "room door person damp swells ", 4), (83, "room door gap person in damp swells day walk plane wedge force oak pine elm lime not and or ", 6), (195, "oak pine elm lime ", 8), (216, "gap ", 10), (170, "in ", 12), (265, "wet swell space date ", 14), (267, "not ", 16), (249, "and or ", 18), (225, "day walk plane wedge force ", 20)]
def xstat (G : xG) : List (String × String × String × Value) := [("java/lang/String", "COMPACT_STRINGS", "Z", .int 1), ("java/util/ArrayList", "EMPTY_ELEMENTDATA", "[Ljava/lang/Object;", gO G 1), ("java/util/ArrayList", "DEFAULTCAPACITY_EMPTY_ELEMENTDATA", "[Ljava/lang/Object;", gO G 22), ("java/lang/Throwable", "UNASSIGNED_STACK", "[Ljava/lang/StackTraceElement;", gO G 33), ("java/lang/Throwable", "SUPPRESSED_SENTINEL", "Ljava/util/List;", gO G 34), ("jdk/internal/util/Preconditions", "SIOOBE_FORMATTER", "Ljava/util/function/BiFunction;", gO G 35)]
def xKn (G : xG) (U : State) (H : Heap) : Prop :=
  va_K (gD G) xcls (xtys G) U ∧ xNw U ∧ (va_AO "java/lang/Object" U ∧ va_AO "SwollenHouse$State" U ∧ va_AO "SwollenHouse$Mark" U) ∧
  (∃ mi, gO G 23 = .ref mi ∧ va_Mi "[Ljava/lang/Object;" mi U) ∧ (∀ q ∈ xlits, ∃ b, gO G q.2.2 = .ref b ∧ vk_R "SwollenHouse$Reader" q.1 q.2.1 b U) ∧
  (∀ q ∈ xstat G, va_Z q.1 q.2.1 q.2.2.1 q.2.2.2 (xfr G) U H) ∧ (vx_L Bundle.tN "UNASSIGNED_STACK" Bundle.steD (xfr G) U H ∧ vx_L Bundle.tN "SUPPRESSED_SENTINEL" Bundle.listD (xfr G) U H) ∧
  ((gO G 33 = .null ∨ ∃ t, gO G 33 = .ref t) ∧ (gO G 34 = .null ∨ ∃ t, gO G 34 = .ref t) ∧ (gO G 35 = .null ∨ ∃ t, gO G 35 = .ref t) ∧ (∃ t, gO G 1 = .ref t ∧ ∃ u, gO G 22 = .ref u ∧ t ≠ u) ∧ ∀ a, a < 64 → gO G a = .null ∨ ∃ t, gO G a = .ref t ∧ (a < 23 → t < gS G))
theorem xKn.warm {G : xG} {s U : State} {H : Heap} (hW : s.WarmedH U.vm) (h : xKn G s H) : xKn G U H := by
  obtain ⟨h1, h2, ⟨h3, h4, h5⟩, ⟨mi, h6, h7⟩, h8, h9, ⟨h10, h11⟩, h12⟩ := h
  exact ⟨va_K.moved hW.alike h1, h2.warm hW, ⟨h3.moved hW.alike, h4.moved hW.alike, h5.moved hW.alike⟩, ⟨mi, h6, h7.moved hW.alike⟩, fun q hq => by
    obtain ⟨b, g1, g2⟩ := h8 q hq
    exact ⟨b, g1, g2.warm hW⟩, fun q hq => va_Z.moved hW.alike (h9 q hq), ⟨vx_L.moved hW.alike h10, vx_L.moved hW.alike h11⟩, h12⟩
theorem xKn.kept {G : xG} {s : State} {H H1 : Heap} (h : xKn G s H) (hz : ∀ q : Nat, q < H.size → ¬ xfr G q → H1[q]? = H[q]?) : xKn G s H1 := by
  obtain ⟨h1, h2, h3, h4, h8, h9, ⟨h10, h11⟩, h12⟩ := h
  exact ⟨h1, h2, h3, h4, h8, fun q hq => (h9 q hq).kept hz, ⟨h10.kept hz, h11.kept hz⟩, h12⟩
/-! contracts -/
def xrm (D mc ms : Nat) : Room := { frames := D + 16, cells := mc, slots := ms, locals := 64 * (D + 16) }
def xle (h h' : xH) : Prop := h.2.1 ≤ h'.2.1 ∧ h.2.2 ≤ h'.2.2
theorem xle.rf {h : xH} : xle h h := ⟨Nat.le_refl _, Nat.le_refl _⟩
theorem xle.tr {a b c : xH} (h1 : xle a b) (h2 : xle b c) : xle a c := ⟨Nat.le_trans h1.1 h2.1, Nat.le_trans h1.2 h2.2⟩
def xPc (G : xG) (as : List Value) (h : xH) : Array Value → State → Prop := fun v U => v = (as.map (xcv G)).toArray ∧ xRp G h U U.heap ∧ xKn G U U.heap
def xQc (G : xG) (r : xR) : Array Value → State → Outcome → State → Prop := fun _ st o t => (∃ v, r.1 = .inl v ∧ o = .returned (v.map (xcv G))) ∧ xRp G r.2 t t.heap ∧ va_F (xfr G) st t
def xXC (G : xG) (r : xR) : Addr → String → State → State → Prop := fun q E st t => (∃ a c fs w, r.1 = .inr a ∧ 64 ≤ a ∧ q = xadr G a ∧ r.2.1 a = some (.inr (c, fs)) ∧ xcls[c]? = some w ∧ E = w.1) ∧ xRp G r.2 t t.heap ∧ va_F (xfr G) st t
/-- a method's name, code, locals, answer, handlers -/
abbrev xMi : Type := MethodName × ByteArray × Nat × Option FieldType × List (Nat × Nat × Nat × Nat)
def xws (q : xMi) : List Cond := match q.2.2.2.2 with
  | [] => ws_ q.1 q.2.1 q.2.2.1 q.2.2.2.1
  | hh => wsW_ q.1 q.2.1 q.2.2.1 q.2.2.2.1 hh
