/-! THE INSTRUCTIONS (own work), a closure each; n: the next pc -/
def ok4 : List Value → Bool
  | [] => true
  | [_] => true
  | [_, _] => true
  | [_, _, _] => true
  | [_, _, _, _] => true
  | _ => false
def bI (b : Bool) : Int32 := match b with
  | true => nI 1
  | false => nI 0
def i_const (v : Value) (n : Nat) : xI := fun _ lv st h => some (.inl (n, lv, v :: st, h))
def i_iload (k n : Nat) : xI := fun _ lv st h => match lv.1[k]? with
  | some (some (.int x)) => some (.inl (n, lv, .int x :: st, h))
  | _ => none
def i_lload (k n : Nat) : xI := fun _ lv st h => match lv.2[k]? with
  | some (some x) => some (.inl (n, lv, .long x :: st, h))
  | _ => none
def i_aload (k n : Nat) : xI := fun _ lv st h => match lv.1[k]? with
  | some (some (.ref x)) => some (.inl (n, lv, .ref x :: st, h))
  | some (some .null) => some (.inl (n, lv, .null :: st, h))
  | _ => none
def i_istore (k n : Nat) : xI := fun _ lv st h => match st with
  | .int x :: st => some (.inl (n, (lv.1.set k (some (.int x)), (lv.2.set k none).set (k - 1) none), st, h))
  | _ => none
def i_astore (k n : Nat) : xI := fun _ lv st h => match st with
  | .ref x :: st => some (.inl (n, (lv.1.set k (some (.ref x)), (lv.2.set k none).set (k - 1) none), st, h))
  | .null :: st => some (.inl (n, (lv.1.set k (some .null), (lv.2.set k none).set (k - 1) none), st, h))
  | _ => none
def i_lstore (k n : Nat) : xI := fun _ lv st h => match st with
  | .long x :: st => some (.inl (n, ((lv.1.set k none).set (k + 1) none, (((lv.2.set (k - 1) none).set (k + 1) none).set k (some x))), st, h))
  | _ => none
def i_iinc (k : Nat) (d : Int32) (n : Nat) : xI := fun _ lv st h => match lv.1[k]? with
  | some (some (.int x)) => some (.inl (n, (lv.1.set k (some (.int (x + d))), (lv.2.set k none).set (k - 1) none), st, h))
  | _ => none
def i_ii (f : Int32 → Int32 → Int32) (n : Nat) : xI := fun _ lv st h => match st with
  | .int y :: .int x :: st => some (.inl (n, lv, .int (f x y) :: st, h))
  | _ => none
def i_iz (f : Int32 → Int32 → Int32) (n : Nat) : xI := fun _ lv st h => match st with
  | .int y :: .int x :: st => xOn (if y = 0 then none else some (f x y)) (fun v => some (.inl (n, lv, .int v :: st, h)))
  | _ => none
def i_ll (f : Int64 → Int64 → Int64) (n : Nat) : xI := fun _ lv st h => match st with
  | .long y :: .long x :: st => some (.inl (n, lv, .long (f x y) :: st, h))
  | _ => none
def i_lz (f : Int64 → Int64 → Int64) (n : Nat) : xI := fun _ lv st h => match st with
  | .long y :: .long x :: st => xOn (if y = 0 then none else some (f x y)) (fun v => some (.inl (n, lv, .long v :: st, h)))
  | _ => none
def i_li (f : Int64 → Int32 → Int64) (n : Nat) : xI := fun _ lv st h => match st with
  | .int y :: .long x :: st => some (.inl (n, lv, .long (f x y) :: st, h))
  | _ => none
def i_lcmp (n : Nat) : xI := fun _ lv st h => match st with
  | .long y :: .long x :: st => some (.inl (n, lv, .int (lg_cmp x y) :: st, h))
  | _ => none
def i_i1 (f : Int32 → Int32) (n : Nat) : xI := fun _ lv st h => match st with
  | .int x :: st => some (.inl (n, lv, .int (f x) :: st, h))
  | _ => none
def i_i2l (n : Nat) : xI := fun _ lv st h => match st with
  | .int x :: st => some (.inl (n, lv, .long x.toInt64 :: st, h))
  | _ => none
def i_l2i (n : Nat) : xI := fun _ lv st h => match st with
  | .long x :: st => some (.inl (n, lv, .int x.toInt32 :: st, h))
  | _ => none
/-- a value of one word -/
def x1w : Value → Bool
  | .long _ => false
  | .double _ => false
  | _ => true
def i_dup (n : Nat) : xI := fun _ lv st h => match st with
  | .int x :: st => some (.inl (n, lv, .int x :: .int x :: st, h))
  | .ref x :: st => some (.inl (n, lv, .ref x :: .ref x :: st, h))
  | _ => none
def i_dup_x1 (n : Nat) : xI := fun _ lv st h => match st with
  | .int x :: .ref y :: st => some (.inl (n, lv, .int x :: .ref y :: .int x :: st, h))
  | .ref x :: .ref y :: st => some (.inl (n, lv, .ref x :: .ref y :: .ref x :: st, h))
  | _ => none
def i_dup_x2 (n : Nat) : xI := fun _ lv st h => match st with
  | .int x :: .int y :: .ref z :: st => some (.inl (n, lv, .int x :: .int y :: .ref z :: .int x :: st, h))
  | _ => none
def i_dup2 (n : Nat) : xI := fun _ lv st h => match st with
  | .int x :: .ref y :: st => some (.inl (n, lv, .int x :: .ref y :: .int x :: .ref y :: st, h))
  | _ => none
def i_pop (n : Nat) : xI := fun _ lv st h => match st with
  | .int _ :: st => some (.inl (n, lv, st, h))
  | .ref _ :: st => some (.inl (n, lv, st, h))
  | _ => none
def i_if1 (p : Int32 → Prop) [DecidablePred p] (t n : Nat) : xI := fun _ lv st h => match st with
  | .int x :: st => if p x then some (.inl (t, lv, st, h)) else some (.inl (n, lv, st, h))
  | _ => none
def i_if2 (p : Int32 → Int32 → Prop) [DecidableRel p] (t n : Nat) : xI := fun _ lv st h => match st with
  | .int y :: .int x :: st => if p x y then some (.inl (t, lv, st, h)) else some (.inl (n, lv, st, h))
  | _ => none
def i_goto (t : Nat) : xI := fun _ lv st h => some (.inl (t, lv, st, h))
/-- null: one of the machine's own cells is never null -/
def i_ifnull (t n : Nat) : xI := fun _ lv st h => match st with
  | .null :: st => some (.inl (t, lv, st, h))
  | .ref a :: st => if a < 64 then none else some (.inl (n, lv, st, h))
  | _ => none
def i_ifnonnull (t n : Nat) : xI := fun _ lv st h => match st with
  | .null :: st => some (.inl (n, lv, st, h))
  | .ref a :: st => if a < 64 then none else some (.inl (t, lv, st, h))
  | _ => none
/-- where a switch goes: from lo on, ts; else d -/
def xsw (lo : Int) (ts : List Nat) (d : Nat) (x : Int32) : Nat := if x.toInt < lo then d else ts.getD (x.toInt - lo).toNat d
def i_tsw (lo : Int) (ts : List Nat) (d : Nat) : xI := fun _ lv st h => match st with
  | .int x :: st => some (.inl (xsw lo ts d x, lv, st, h))
  | _ => none
def xlsw (ps : List (Int × Nat)) (d : Nat) (x : Int32) : Nat := match ps with
  | [] => d
  | (k, t) :: ps => if x.toInt = k then t else xlsw ps d x
def i_lsw (ps : List (Int × Nat)) (d : Nat) : xI := fun _ lv st h => match st with
  | .int x :: st => some (.inl (xlsw ps d x, lv, st, h))
  | _ => none
def i_getf (ci k n : Nat) : xI := fun _ lv st h => match st with
  | .ref a :: st => xOn (xgf h a ci k) (fun v => some (.inl (n, lv, v :: st, h)))
  | _ => none
def i_putfi (ci k n : Nat) : xI := fun _ lv st h => match st with
  | .int x :: .ref a :: st => xOn (xpf h a ci k (.int x)) (fun h => some (.inl (n, lv, st, h)))
  | _ => none
def i_putfl (ci k n : Nat) : xI := fun _ lv st h => match st with
  | .long x :: .ref a :: st => xOn (xpf h a ci k (.long x)) (fun h => some (.inl (n, lv, st, h)))
  | _ => none
def i_putfr (ci k n : Nat) : xI := fun _ lv st h => match st with
  | .ref x :: .ref a :: st => xOn (xpf h a ci k (.ref x)) (fun h => some (.inl (n, lv, st, h)))
  | .null :: .ref a :: st => xOn (xpf h a ci k .null) (fun h => some (.inl (n, lv, st, h)))
  | _ => none
/-- a field of a small type: what is put must fit -/
def i_putfn (ty : FieldType) (ci k n : Nat) : xI := fun _ lv st h => match st with
  | .int x :: .ref a :: st => xOn (if narrow ty (.int x) = .int x ∧ fits ty (.int x) = true then xpf h a ci k (.int x) else none) (fun h => some (.inl (n, lv, st, h)))
  | _ => none
def i_ai (t n : Nat) : xI := fun _ lv st h => match st with
  | .int i :: .ref a :: st => xOn (xai h t a i) (fun v => some (.inl (n, lv, .int v :: st, h)))
  | _ => none
def i_al (t n : Nat) : xI := fun _ lv st h => match st with
  | .int i :: .ref a :: st => xOn (xal h t a i) (fun v => some (.inl (n, lv, .long v :: st, h)))
  | _ => none
def i_aq (t n : Nat) : xI := fun _ lv st h => match st with
  | .int i :: .ref a :: st => xOn (xaq h t a i) (fun v => some (.inl (n, lv, va_rf v :: st, h)))
  | _ => none
def i_si (f : Int32 → Int32) (t n : Nat) : xI := fun _ lv st h => match st with
  | .int v :: .int i :: .ref a :: st => xOn (xsi h t a i (f v)) (fun h => some (.inl (n, lv, st, h)))
  | _ => none
def i_sl (t n : Nat) : xI := fun _ lv st h => match st with
  | .long v :: .int i :: .ref a :: st => xOn (xsl h t a i v) (fun h => some (.inl (n, lv, st, h)))
  | _ => none
/-- the cell is an object of one of the classes cs -/
def xckc (h : xH) (cs : List Nat) (a : Nat) : Option Unit := match h.1 a with
  | some (.inr (c, _)) => if c ∈ cs then some () else none
  | _ => none
/-- a place of an array of references: the value's class must be one of cs -/
def xsqc (h : xH) (cs : List Nat) (t a : Nat) (i : Int32) (v : Nat) : Option xH := match xckc h cs v with
  | some _ => if 64 ≤ v then xsq h t a i (some v) else none
  | none => none
def i_sq (cs : List Nat) (t n : Nat) : xI := fun _ lv st h => match st with
  | .ref v :: .int i :: .ref a :: st => xOn (xsqc h cs t a i v) (fun h => some (.inl (n, lv, st, h)))
  | .null :: .int i :: .ref a :: st => xOn (xsq h t a i none) (fun h => some (.inl (n, lv, st, h)))
  | _ => none
def i_len (n : Nat) : xI := fun _ lv st h => match st with
  | .ref a :: st => xOn (xlen h a) (fun v => some (.inl (n, lv, .int v :: st, h)))
  | _ => none
/-- how many places are asked for -/
def xcnt (x : Int32) : Option Nat := if x < 0 ∨ 100000 < x.toNatClampNeg then none else some x.toNatClampNeg
def i_newa (t : Nat) (z : xA) (n : Nat) : xI := fun _ lv st h => match st with
  | .int x :: st => xOn (xcnt x) (fun k => some (.inl (n, lv, .ref h.2.1 :: st, xnew h (.inl (t, k, z)) k)))
  | _ => none
/-- an array of n arrays of k ints -/
def xgrid (h : xH) (n k : Nat) : xH := (fun a => if a = h.2.1 then some (.inl (6, n, .inr (.inr (fun i => if i < n then some (h.2.1 + 1 + i) else none)))) else if h.2.1 < a ∧ a ≤ h.2.1 + n then some (.inl (0, k, .inl (fun _ => 0))) else h.1 a, h.2.1 + 1 + n, h.2.2 + n + n * k)
def xcnt2 (x y : Int32) : Option (Nat × Nat) := match xcnt x, xcnt y with
  | some n, some k => some (n, k)
  | _, _ => none
def i_multi (n : Nat) : xI := fun _ lv st h => match st with
  | .int y :: .int x :: st => xOn (xcnt2 x y) (fun q => some (.inl (n, lv, .ref h.2.1 :: st, xgrid h q.1 q.2)))
  | _ => none
def i_new (ci N : Nat) (fs : Nat → Value) (n : Nat) : xI := fun _ lv st h => some (.inl (n, lv, .ref h.2.1 :: st, xnew h (.inr (ci, fs)) N))
/-- the receiver is of the class -/
def xck (h : xH) (a ci : Nat) : Option Unit := match h.1 a with
  | some (.inr (c, _)) => if c = ci then some () else none
  | _ => none
/-- calls with an answer: static; the class known; the class looked for -/
def i_cs (k na n : Nat) : xI := fun ev lv st h => if (decide (na ≤ st.length) && ok4 (st.drop na)) = true then xBn (ev k (st.take na).reverse h) n lv (st.drop na) else none
def i_csv (k na n : Nat) : xI := fun ev lv st h => if (decide (na ≤ st.length) && ok4 (st.drop na)) = true then xBvn (ev k (st.take na).reverse h) n lv (st.drop na) else none
def i_cv (ci k na n : Nat) : xI := fun ev lv st h => match st.drop na with
  | .ref a :: r => if ok4 r = true then xOn (xck h a ci) (fun _ => xBn (ev k (.ref a :: (st.take na).reverse) h) n lv r) else none
  | _ => none
def i_cvv (ci k na n : Nat) : xI := fun ev lv st h => match st.drop na with
  | .ref a :: r => if ok4 r = true then xOn (xck h a ci) (fun _ => xBvn (ev k (.ref a :: (st.take na).reverse) h) n lv r) else none
  | _ => none
def i_ca (sel : List (Nat × Nat)) (na n : Nat) : xI := fun ev lv st h => match st.drop na with
  | .ref a :: r => if ok4 r = true then xOn (xcl h a) (fun ci => xOn (sel.lookup ci) (fun k => xBn (ev k (.ref a :: (st.take na).reverse) h) n lv r)) else none
  | _ => none
theorem exF_cd {ev : xV} {C : xC} {pc n : Nat} {i : xI} {lv : xL} {st st' : List Value} {h : xH} {o : Option xR} {u : Option Unit} (hl : C.lookup pc = some i) (hi : i ev lv st h = xOn u (fun _ => xBn o n lv st')) : exF ev C pc lv st h = xO u (fun _ => xB o (fun v h => exF ev C n lv (v :: st') h)) := by
  rw [exF_at hl, hi]
  cases u with
  | none => rfl
  | some u => exact xBn_k o n lv st'
theorem exF_cdv {ev : xV} {C : xC} {pc n : Nat} {i : xI} {lv : xL} {st st' : List Value} {h : xH} {o : Option xR} {u : Option Unit} (hl : C.lookup pc = some i) (hi : i ev lv st h = xOn u (fun _ => xBvn o n lv st')) : exF ev C pc lv st h = xO u (fun _ => xBv o (fun h => exF ev C n lv st' h)) := by
  rw [exF_at hl, hi]
  cases u with
  | none => rfl
  | some u => exact xBvn_k o n lv st'
theorem exF_ca {ev : xV} {C : xC} {pc n : Nat} {i : xI} {lv : xL} {st st' as : List Value} {h : xH} {u : Option Nat} {sel : List (Nat × Nat)} (hl : C.lookup pc = some i) (hi : i ev lv st h = xOn u (fun ci => xOn (sel.lookup ci) (fun k => xBn (ev k as h) n lv st'))) : exF ev C pc lv st h = xO u (fun ci => xO (sel.lookup ci) (fun k => xB (ev k as h) (fun v h => exF ev C n lv (v :: st') h))) := by
  rw [exF_at hl, hi]
  cases u with
  | none => rfl
  | some u =>
    show xK _ (xOn (sel.lookup u) _) = xO (sel.lookup u) _
    cases sel.lookup u with
    | none => rfl
    | some k => exact xBn_k _ n lv st'
/-- a constructor, or super's method: the receiver's class is one of cs -/
def i_ci (cs : List Nat) (k na n : Nat) : xI := fun ev lv st h => match st.drop na with
  | .ref a :: r => if ok4 r = true then xOn (xckc h cs a) (fun _ => xBvn (ev k (.ref a :: (st.take na).reverse) h) n lv r) else none
  | _ => none
def i_cir (cs : List Nat) (k na n : Nat) : xI := fun ev lv st h => match st.drop na with
  | .ref a :: r => if ok4 r = true then xOn (xckc h cs a) (fun _ => xBn (ev k (.ref a :: (st.take na).reverse) h) n lv r) else none
  | _ => none
/-- Object's constructor -/
def i_oi (n : Nat) : xI := fun _ lv st h => match st with
  | .ref a :: st => if 64 ≤ a ∧ ok4 st = true then some (.inl (n, lv, st, h)) else none
  | _ => none
/-- returns -/
def i_iret : xI := fun _ _ st h => match st with
  | [.int x] => some (.inr (.inl (some (.int x)), h))
  | _ => none
def i_zret : xI := fun _ _ st h => match st with
  | [.int x] => if x = nI 0 ∨ x = nI 1 then some (.inr (.inl (some (.int x)), h)) else none
  | _ => none
def i_nret (ty : FieldType) : xI := fun _ _ st h => match st with
  | [.int x] => if narrow ty (.int x) = .int x then some (.inr (.inl (some (.int x)), h)) else none
  | _ => none
def i_lret : xI := fun _ _ st h => match st with
  | [.long x] => some (.inr (.inl (some (.long x)), h))
  | _ => none
def i_aret : xI := fun _ _ st h => match st with
  | [.ref x] => some (.inr (.inl (some (.ref x)), h))
  | [.null] => some (.inr (.inl (some .null), h))
  | _ => none
def i_vret : xI := fun _ _ st h => match st with
  | [] => some (.inr (.inl none, h))
  | _ => none
/-- throw: a cell of one of the classes cs -/
def i_throw (cs : List Nat) : xI := fun _ _ st h => match st with
  | .ref a :: _ => xOn (xckc h cs a) (fun _ => some (.inr (.inr a, h)))
  | _ => none
/-- a cast that holds -/
def i_cast (cs : List Nat) (n : Nat) : xI := fun _ lv st h => match st with
  | .ref a :: st => xOn (xckc h cs a) (fun _ => some (.inl (n, lv, .ref a :: st, h)))
  | .null :: st => some (.inl (n, lv, .null :: st, h))
  | _ => none
/-- not walked -/
def i_no : xI := fun _ _ _ _ => none
theorem exF_z {ev : xV} {C : xC} {pc : Nat} {i : xI} {lv : xL} {st : List Value} {h : xH} {r : xR} {c : Prop} [Decidable c] (hl : C.lookup pc = some i) (hi : i ev lv st h = if c then some (.inr r) else none) : exF ev C pc lv st h = if c then some r else none := by
  rw [exF_at hl, hi]
  by_cases q : c
  · rw [if_pos q, if_pos q]; rfl
  · rw [if_neg q, if_neg q]; rfl
theorem exF_t {ev : xV} {C : xC} {pc : Nat} {i : xI} {lv : xL} {st : List Value} {h : xH} {r : xR} {o : Option Unit} (hl : C.lookup pc = some i) (hi : i ev lv st h = xOn o (fun _ => some (.inr r))) : exF ev C pc lv st h = xO o (fun _ => some r) := by
  rw [exF_at hl, hi]
  cases o <;> rfl
theorem i_zret_b {ev : xV} {lv : xL} {h : xH} (b : Bool) : i_zret ev lv [.int (bI b)] h = some (.inr (.inl (some (.int (bI b))), h)) := by
  cases b <;> rfl
theorem i_zret_0 {ev : xV} {lv : xL} {h : xH} : i_zret ev lv [.int (nI 0)] h = some (.inr (.inl (some (.int (nI 0))), h)) := rfl
theorem i_zret_1 {ev : xV} {lv : xL} {h : xH} : i_zret ev lv [.int (nI 1)] h = some (.inr (.inl (some (.int (nI 1))), h)) := rfl
/-! what the JDK's own code needs -/
/-- a part of an array copied into another -/
def xcpr (sp dp n : Int32) (n0 n1 : Nat) : Bool := decide (¬ sp < 0 ∧ ¬ dp < 0 ∧ ¬ n < 0 ∧ sp.toNatClampNeg + n.toNatClampNeg ≤ n0 ∧ dp.toNatClampNeg + n.toNatClampNeg ≤ n1)
def xcpb (h : xH) (s : Nat) (sp : Int32) (d : Nat) (dp n : Int32) : Option xH := match h.1 s, h.1 d with
  | some (.inl (1, n0, .inl f)), some (.inl (1, n1, .inl g)) => if 64 ≤ s ∧ 64 ≤ d ∧ xcpr sp dp n n0 n1 = true then some (xset h d (.inl (1, n1, .inl (va_cpy f g sp.toNatClampNeg dp.toNatClampNeg n.toNatClampNeg)))) else none
  | _, _ => none
def xcpok (h : xH) (cs : List Nat) (f : Nat → Option Nat) (sp n : Nat) : Bool := (List.range n).all (fun i => match f (sp + i) with
  | none => true
  | some y => (xckc h cs y).isSome)
def xcpq (h : xH) (cs : List Nat) (s : Nat) (sp : Int32) (d : Nat) (dp n : Int32) : Option xH := match h.1 s, h.1 d with
  | some (.inl (4, n0, .inr (.inr f))), some (.inl (4, n1, .inr (.inr g))) => if 64 ≤ d ∧ xcpr sp dp n n0 n1 = true ∧ (64 ≤ s ∨ s = 1) ∧ xcpok h cs f sp.toNatClampNeg n.toNatClampNeg = true then some (xset h d (.inl (4, n1, .inr (.inr (va_cpy f g sp.toNatClampNeg dp.toNatClampNeg n.toNatClampNeg))))) else none
  | _, _ => none
def i_cpb (n : Nat) : xI := fun _ lv st h => match st with
  | .int k :: .int dp :: .ref d :: .int sp :: .ref s :: st => if ok4 st = true then xOn (xcpb h s sp d dp k) (fun h => some (.inl (n, lv, st, h))) else none
  | _ => none
def i_cpq (cs : List Nat) (n : Nat) : xI := fun _ lv st h => match st with
  | .int k :: .int dp :: .ref d :: .int sp :: .ref s :: st => if ok4 st = true then xOn (xcpq h cs s sp d dp k) (fun h => some (.inl (n, lv, st, h))) else none
  | _ => none
/-- an array of bytes, copied whole -/
def xcln (h : xH) (a : Nat) : Option (Nat × xA) := match h.1 a with
  | some (.inl (1, n, .inl f)) => if 64 ≤ a then some (n, .inl f) else none
  | _ => none
def i_clone (n : Nat) : xI := fun _ lv st h => match st with
  | .ref a :: st => if ok4 st = true then xOn (xcln h a) (fun q => some (.inl (n, lv, .ref h.2.1 :: st, xnew h (.inl (1, q.1, q.2)) q.1))) else none
  | _ => none
/-- an array of the kind t -/
def xkd (h : xH) (t a : Nat) : Option Unit := match h.1 a with
  | some (.inl (t', _, _)) => if t' = t then some () else none
  | _ => none
/-- getClass of an array of objects -/
def i_getC (n : Nat) : xI := fun _ lv st h => match st with
  | .ref a :: st => if ok4 st = true then xOn (xkd h 4 a) (fun _ => some (.inl (n, lv, .ref 23 :: st, h))) else none
  | _ => none
/-- a cast of a new array of bytes -/
def i_castB (n : Nat) : xI := fun _ lv st h => match st with
  | .ref a :: st => xOn (xkd h 1 a) (fun _ => some (.inl (n, lv, .ref a :: st, h)))
  | _ => none
/-- two references: the same, or known to be others -/
def xaeq (a b : Nat) : Option Bool := if a < 64 ∧ b < 64 then (if a = b then some true else if a = 1 ∧ b = 22 then some false else none) else if 23 ≤ a ∧ a < 64 then none else if 23 ≤ b ∧ b < 64 then none else some (decide (a = b))
def i_acmp (w : Bool) (t n : Nat) : xI := fun _ lv st h => match st with
  | .ref b :: .ref a :: st => xOn (xaeq a b) (fun q => some (.inl (bif q == w then t else n, lv, st, h)))
  | _ => none
def i_inst (cs : List Nat) (n : Nat) : xI := fun _ lv st h => match st with
  | .ref a :: st => xOn (xckc h cs a) (fun _ => some (.inl (n, lv, .int (nI 1) :: st, h)))
  | _ => none
/-- new NoSuchElementException() -/
def i_mk0 (n : Nat) : xI := fun _ lv st h => if ok4 st = true then some (.inl (n, lv, .ref h.2.1 :: st, xnew h (.inr (24, fun _ => .null)) 6)) else none
theorem exF_a {ev : xV} {C : xC} {pc t n : Nat} {i : xI} {lv : xL} {st st' : List Value} {h : xH} {o : Option Bool} {w : Bool} (hl : C.lookup pc = some i) (hi : i ev lv st h = xOn o (fun q => some (.inl (bif q == w then t else n, lv, st', h)))) : exF ev C pc lv st h = xO o (fun q => exF ev C (bif q == w then t else n) lv st' h) := by
  rw [exF_at hl, hi]
  cases o <;> rfl
/-- a call in a place that a handler covers: what is thrown (a cell of the classes cs) is caught at t -/
def xBh (o : Option xR) (cs : List Nat) (n t : Nat) (lv : xL) (st : List Value) : xN := match o with
  | some (.inl (some v), h) => some (.inl (n, lv, v :: st, h))
  | some (.inr q, h) => xOn (xckc h cs q) (fun _ => some (.inl (t, lv, [.ref q], h)))
  | _ => none
def xBk (o : Option xR) (cs : List Nat) (K : Value → xH → Option xR) (Kx : Nat → xH → Option xR) : Option xR := match o with
  | some (.inl (some v), h) => K v h
  | some (.inr q, h) => xO (xckc h cs q) (fun _ => Kx q h)
  | _ => none
theorem xBk_s (v : Value) (h : xH) (cs : List Nat) (K : Value → xH → Option xR) (Kx : Nat → xH → Option xR) : xBk (some (.inl (some v), h)) cs K Kx = K v h := rfl
theorem xBk_x (q : Nat) (h : xH) (cs : List Nat) (K : Value → xH → Option xR) (Kx : Nat → xH → Option xR) : xBk (some (.inr q, h)) cs K Kx = xO (xckc h cs q) (fun _ => Kx q h) := rfl
def i_cvh (cs : List Nat) (t ci k na n : Nat) : xI := fun ev lv st h => match st.drop na with
  | .ref a :: r => if ok4 r = true then xOn (xck h a ci) (fun _ => xBh (ev k (.ref a :: (st.take na).reverse) h) cs n t lv r) else none
  | _ => none
theorem exF_ch {ev : xV} {C : xC} {pc n t : Nat} {i : xI} {lv : xL} {st st' : List Value} {h : xH} {o : Option xR} {u : Option Unit} {cs : List Nat} (hl : C.lookup pc = some i) (hi : i ev lv st h = xOn u (fun _ => xBh o cs n t lv st')) : exF ev C pc lv st h = xO u (fun _ => xBk o cs (fun v h => exF ev C n lv (v :: st') h) (fun q h => exF ev C t lv [.ref q] h)) := by
  rw [exF_at hl, hi]
  cases u with
  | none => rfl
  | some u =>
    show xK _ (xBh o cs n t lv st') = xBk o cs _ _
    match o with
    | none => rfl
    | some (.inl none, h) => rfl
    | some (.inl (some v), h) => rfl
    | some (.inr q, h) =>
      show xK _ (xOn (xckc h cs q) _) = xO (xckc h cs q) _
      cases xckc h cs q <;> rfl
