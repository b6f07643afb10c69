/-! THE ABSTRACT MACHINE (own work): a heap as a function, locals as lists, one instruction a closure; exF: what a method's code comes to, without fuel. -/
abbrev xA : Type := (Nat → Int32) ⊕ (Nat → Int64) ⊕ (Nat → Option Nat)
/-- a cell: an array (kind, length, contents) or an object (class number, fields) -/
abbrev xE : Type := (Nat × Nat × xA) ⊕ (Nat × (Nat → Value))
/-- a heap: cells, the next address, slots made -/
abbrev xH : Type := (Nat → Option xE) × Nat × Nat
/-- locals: of one slot; longs -/
abbrev xL : Type := List (Option Value) × List (Option Int64)
/-- a result: returned a value or threw a cell; the heap -/
abbrev xR : Type := (Option Value ⊕ Nat) × xH
abbrev xS : Type := Nat × xL × List Value × xH
abbrev xN : Type := Option (xS ⊕ xR)
abbrev xV : Type := Nat → List Value → xH → Option xR
abbrev xI : Type := xV → xL → List Value → xH → xN
abbrev xC : Type := List (Nat × xI)
def xStep (ev : xV) (C : xC) (s : xS) : xN := match C.lookup s.1 with
  | none => none
  | some i => i ev s.2.1 s.2.2.1 s.2.2.2
def exN (ev : xV) (C : xC) : Nat → xS → Option xR
  | 0, _ => none
  | n + 1, s => match xStep ev C s with
    | none => none
    | some (.inl s') => exN ev C n s'
    | some (.inr r) => some r
theorem exN_succ {ev : xV} {C : xC} : ∀ (n : Nat) (s : xS) (r : xR), exN ev C n s = some r → exN ev C (n + 1) s = some r := by
  intro n
  induction n with
  | zero => intro s r h; cases h
  | succ n ih =>
    intro s r h
    rw [exN] at h ⊢
    cases hs : xStep ev C s with
    | none => rw [hs] at h; cases h
    | some x =>
      rw [hs] at h
      cases x with
      | inl s' => exact ih s' r h
      | inr r' => exact h
theorem exN_le {ev : xV} {C : xC} {n k : Nat} {s : xS} {r : xR} (hnk : n ≤ k) (h : exN ev C n s = some r) : exN ev C k s = some r := by
  induction hnk with
  | refl => exact h
  | step _ ih => exact exN_succ _ _ _ ih
theorem exN_det {ev : xV} {C : xC} {n k : Nat} {s : xS} {r r' : xR} (h : exN ev C n s = some r) (h' : exN ev C k s = some r') : r = r' := by
  rcases Nat.le_total n k with q | q
  · exact Option.some.inj ((exN_le q h).symm.trans h')
  · exact Option.some.inj (h.symm.trans (exN_le q h'))
theorem exO_ex (ev : xV) (C : xC) (s : xS) : ∃ o : Option xR, ∀ r, o = some r ↔ ∃ n, exN ev C n s = some r := by
  rcases Classical.em (∃ r n, exN ev C n s = some r) with h | h
  · obtain ⟨r, n, h⟩ := h
    exact ⟨some r, fun r' => ⟨fun e => ⟨n, by rw [h, e]⟩, fun ⟨k, e⟩ => by rw [exN_det h e]⟩⟩
  · exact ⟨none, fun r' => ⟨(fun e => nomatch e), fun ⟨k, e⟩ => absurd ⟨r', k, e⟩ h⟩⟩
noncomputable def exO (ev : xV) (C : xC) (s : xS) : Option xR := Classical.choose (exO_ex ev C s)
theorem exO_iff {ev : xV} {C : xC} {s : xS} {r : xR} : exO ev C s = some r ↔ ∃ n, exN ev C n s = some r := Classical.choose_spec (exO_ex ev C s) r
noncomputable def exF (ev : xV) (C : xC) (pc : Nat) (lv : xL) (st : List Value) (h : xH) : Option xR := exO ev C (pc, lv, st, h)
def xK (F : xS → Option xR) : xN → Option xR
  | none => none
  | some (.inl s) => F s
  | some (.inr r) => some r
theorem exO_eq (ev : xV) (C : xC) (s : xS) : exO ev C s = xK (exO ev C) (xStep ev C s) := by
  have key : ∀ r, exO ev C s = some r ↔ xK (exO ev C) (xStep ev C s) = some r := by
    intro r
    rw [exO_iff]
    constructor
    · rintro ⟨n, h⟩
      cases n with
      | zero => cases h
      | succ n =>
        rw [exN] at h
        cases hs : xStep ev C s with
        | none => rw [hs] at h; cases h
        | some x =>
          rw [hs] at h
          cases x with
          | inl s' => exact exO_iff.mpr ⟨n, h⟩
          | inr r' => exact h
    · intro h
      cases hs : xStep ev C s with
      | none => rw [hs] at h; cases h
      | some x =>
        rw [hs] at h
        cases x with
        | inl s' =>
          obtain ⟨n, hn⟩ := exO_iff.mp h
          exact ⟨n + 1, by rw [exN, hs]; exact hn⟩
        | inr r' => exact ⟨1, by rw [exN, hs]; exact h⟩
  cases h1 : exO ev C s with
  | some r => exact ((key r).mp h1).symm
  | none =>
    cases h2 : xK (exO ev C) (xStep ev C s) with
    | none => rfl
    | some r => rw [(key r).mpr h2] at h1; cases h1
/-- the next state, or the end -/
theorem exF_at {ev : xV} {C : xC} {pc : Nat} {i : xI} (hl : C.lookup pc = some i) (lv : xL) (st : List Value) (h : xH) : exF ev C pc lv st h = xK (exO ev C) (i ev lv st h) := by
  show exO ev C (pc, lv, st, h) = _
  rw [exO_eq]
  show xK _ (match C.lookup pc with | none => none | some i => i ev lv st h) = _
  rw [hl]
theorem exF_j {ev : xV} {C : xC} {pc pc' : Nat} {i : xI} {lv lv' : xL} {st st' : List Value} {h h' : xH} (hl : C.lookup pc = some i) (hi : i ev lv st h = some (.inl (pc', lv', st', h'))) : exF ev C pc lv st h = exF ev C pc' lv' st' h' := by
  rw [exF_at hl, hi]; rfl
theorem exF_r {ev : xV} {C : xC} {pc : Nat} {i : xI} {lv : xL} {st : List Value} {h : xH} {r : xR} (hl : C.lookup pc = some i) (hi : i ev lv st h = some (.inr r)) : exF ev C pc lv st h = some r := by
  rw [exF_at hl, hi]; rfl
theorem exF_b {ev : xV} {C : xC} {pc p1 p2 : Nat} {i : xI} {lv l1 l2 : xL} {st s1 s2 : List Value} {h h1 h2 : xH} {c : Prop} [Decidable c] (hl : C.lookup pc = some i) (hi : i ev lv st h = if c then some (.inl (p1, l1, s1, h1)) else some (.inl (p2, l2, s2, h2))) : exF ev C pc lv st h = if c then exF ev C p1 l1 s1 h1 else exF ev C p2 l2 s2 h2 := by
  rw [exF_at hl, hi]
  by_cases q : c
  · rw [if_pos q, if_pos q]; rfl
  · rw [if_neg q, if_neg q]; rfl
/-- behind a read -/
def xO {α : Type} (o : Option α) (K : α → Option xR) : Option xR := match o with
  | some v => K v
  | none => none
theorem xO_s {α : Type} (v : α) (K : α → Option xR) : xO (some v) K = K v := rfl
theorem xO_n {α : Type} (K : α → Option xR) : xO none K = none := rfl
def xOn {α : Type} (o : Option α) (K : α → xN) : xN := match o with
  | some v => K v
  | none => none
theorem exF_o {ev : xV} {C : xC} {pc : Nat} {i : xI} {lv : xL} {st : List Value} {h : xH} {α : Type} {o : Option α} {pc' : Nat} {lv' : xL} {st' : α → List Value} {h' : α → xH} (hl : C.lookup pc = some i) (hi : i ev lv st h = xOn o (fun v => some (.inl (pc', lv', st' v, h' v)))) : exF ev C pc lv st h = xO o (fun v => exF ev C pc' lv' (st' v) (h' v)) := by
  rw [exF_at hl, hi]
  cases o <;> rfl
/-- behind a call with an answer -/
def xB (o : Option xR) (K : Value → xH → Option xR) : Option xR := match o with
  | some (.inl (some v), h) => K v h
  | some (.inr q, h) => some (.inr q, h)
  | _ => none
theorem xB_s (v : Value) (h : xH) (K : Value → xH → Option xR) : xB (some (.inl (some v), h)) K = K v h := rfl
theorem xB_x (q : Nat) (h : xH) (K : Value → xH → Option xR) : xB (some (.inr q, h)) K = some (.inr q, h) := rfl
/-- behind a call without one -/
def xBv (o : Option xR) (K : xH → Option xR) : Option xR := match o with
  | some (.inl none, h) => K h
  | some (.inr q, h) => some (.inr q, h)
  | _ => none
theorem xBv_s (h : xH) (K : xH → Option xR) : xBv (some (.inl none, h)) K = K h := rfl
theorem xBv_x (q : Nat) (h : xH) (K : xH → Option xR) : xBv (some (.inr q, h)) K = some (.inr q, h) := rfl
def xBn (o : Option xR) (n : Nat) (lv : xL) (st : List Value) : xN := match o with
  | some (.inl (some v), h) => some (.inl (n, lv, v :: st, h))
  | some (.inr q, h) => some (.inr (.inr q, h))
  | _ => none
def xBvn (o : Option xR) (n : Nat) (lv : xL) (st : List Value) : xN := match o with
  | some (.inl none, h) => some (.inl (n, lv, st, h))
  | some (.inr q, h) => some (.inr (.inr q, h))
  | _ => none
theorem xBn_k {ev : xV} {C : xC} (o : Option xR) (n : Nat) (lv : xL) (st : List Value) : xK (exO ev C) (xBn o n lv st) = xB o (fun v h => exF ev C n lv (v :: st) h) := by
  match o with
  | none => rfl
  | some (.inl none, h) => rfl
  | some (.inl (some v), h) => rfl
  | some (.inr q, h) => rfl
theorem xBvn_k {ev : xV} {C : xC} (o : Option xR) (n : Nat) (lv : xL) (st : List Value) : xK (exO ev C) (xBvn o n lv st) = xBv o (fun h => exF ev C n lv st h) := by
  match o with
  | none => rfl
  | some (.inl none, h) => rfl
  | some (.inl (some v), h) => rfl
  | some (.inr q, h) => rfl
theorem exF_c {ev : xV} {C : xC} {pc n : Nat} {i : xI} {lv : xL} {st st' : List Value} {h : xH} {o : Option xR} (hl : C.lookup pc = some i) (hi : i ev lv st h = xBn o n lv st') : exF ev C pc lv st h = xB o (fun v h => exF ev C n lv (v :: st') h) := by
  rw [exF_at hl, hi]; exact xBn_k o n lv st'
theorem exF_cv {ev : xV} {C : xC} {pc n : Nat} {i : xI} {lv : xL} {st st' : List Value} {h : xH} {o : Option xR} (hl : C.lookup pc = some i) (hi : i ev lv st h = xBvn o n lv st') : exF ev C pc lv st h = xBv o (fun h => exF ev C n lv st' h) := by
  rw [exF_at hl, hi]; exact xBvn_k o n lv st'
/-- the entry's locals: the arguments one behind another -/
def xEnt1 : List Value → List (Option Value)
  | [] => []
  | .long _ :: l => none :: none :: xEnt1 l
  | v :: l => some v :: xEnt1 l
def xEnt2 : List Value → List (Option Int64)
  | [] => []
  | .long x :: l => some x :: none :: xEnt2 l
  | _ :: l => none :: xEnt2 l
/-- n locals, m of them with room for longs (0 or n) -/
def xEnt (n m : Nat) (as : List Value) : xL := ((xEnt1 as ++ List.replicate (n - (xEnt1 as).length) none), if m = 0 then [] else xEnt2 as ++ List.replicate (n - (xEnt2 as).length) none)
/-! reads and writes of the heap -/
def xup (f : Nat → Option xE) (a : Nat) (e : xE) : Nat → Option xE := fun b => if b = a then some e else f b
def xset (h : xH) (a : Nat) (e : xE) : xH := (xup h.1 a e, h.2)
def xuv (f : Nat → Value) (k : Nat) (v : Value) : Nat → Value := fun j => if j = k then v else f j
def xul (f : Nat → Int64) (k : Nat) (v : Int64) : Nat → Int64 := fun j => if j = k then v else f j
def xuq (f : Nat → Option Nat) (k : Nat) (v : Option Nat) : Nat → Option Nat := fun j => if j = k then v else f j
/-- an object's field -/
def xgf (h : xH) (a ci k : Nat) : Option Value := match h.1 a with
  | some (.inr (c, fs)) => if c = ci then some (fs k) else none
  | _ => none
def xpf (h : xH) (a ci k : Nat) (v : Value) : Option xH := match h.1 a with
  | some (.inr (c, fs)) => if 64 ≤ a ∧ c = ci then some (xset h a (.inr (ci, xuv fs k v))) else none
  | _ => none
/-- which class -/
def xcl (h : xH) (a : Nat) : Option Nat := match h.1 a with
  | some (.inr (c, _)) => some c
  | _ => none
/-- an array of ints (kind t): a place -/
def xai (h : xH) (t a : Nat) (i : Int32) : Option Int32 := match h.1 a with
  | some (.inl (t', n, .inl f)) => if t' = t ∧ ¬ (i < 0 ∨ n ≤ i.toNatClampNeg) then some (f i.toNatClampNeg) else none
  | _ => none
def xsi (h : xH) (t a : Nat) (i v : Int32) : Option xH := match h.1 a with
  | some (.inl (t', n, .inl f)) => if 64 ≤ a ∧ t' = t ∧ ¬ (i < 0 ∨ n ≤ i.toNatClampNeg) then some (xset h a (.inl (t, n, .inl (upd f i.toNatClampNeg v)))) else none
  | _ => none
def xal (h : xH) (t a : Nat) (i : Int32) : Option Int64 := match h.1 a with
  | some (.inl (t', n, .inr (.inl f))) => if t' = t ∧ ¬ (i < 0 ∨ n ≤ i.toNatClampNeg) then some (f i.toNatClampNeg) else none
  | _ => none
def xsl (h : xH) (t a : Nat) (i : Int32) (v : Int64) : Option xH := match h.1 a with
  | some (.inl (t', n, .inr (.inl f))) => if 64 ≤ a ∧ t' = t ∧ ¬ (i < 0 ∨ n ≤ i.toNatClampNeg) then some (xset h a (.inl (t, n, .inr (.inl (xul f i.toNatClampNeg v))))) else none
  | _ => none
def xaq (h : xH) (t a : Nat) (i : Int32) : Option (Option Nat) := match h.1 a with
  | some (.inl (t', n, .inr (.inr f))) => if t' = t ∧ ¬ (i < 0 ∨ n ≤ i.toNatClampNeg) then some (f i.toNatClampNeg) else none
  | _ => none
def xsq (h : xH) (t a : Nat) (i : Int32) (v : Option Nat) : Option xH := match h.1 a with
  | some (.inl (t', n, .inr (.inr f))) => if 64 ≤ a ∧ t' = t ∧ ¬ (i < 0 ∨ n ≤ i.toNatClampNeg) then some (xset h a (.inl (t, n, .inr (.inr (xuq f i.toNatClampNeg v))))) else none
  | _ => none
def xlen (h : xH) (a : Nat) : Option Int32 := match h.1 a with
  | some (.inl (_, n, _)) => some (nI n)
  | _ => none
/-- a new cell of n slots -/
def xnew (h : xH) (e : xE) (n : Nat) : xH := (xup h.1 h.2.1 e, h.2.1 + 1, h.2.2 + n)
