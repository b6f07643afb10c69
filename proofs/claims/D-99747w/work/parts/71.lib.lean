set_option maxRecDepth 100000
/-! LOOPS (own work) -/
def itr {α : Type} (f : Nat → α → α) : Nat → α → α
  | 0, a => a
  | n + 1, a => f n (itr f n a)
/-- a counted loop that runs to its end -/
theorem lp0 {α β : Type} (F : Nat → α → β) (f : Nat → α → α) (a : α) (n : Nat) (step : ∀ k, k < n → F k (itr f k a) = F (k + 1) (f k (itr f k a))) : F 0 a = F n (itr f n a) := by
  have h : ∀ k, k ≤ n → F 0 a = F k (itr f k a) := by
    intro k
    induction k with
    | zero => intro _; rfl
    | succ k ih =>
      intro hk
      rw [ih (by omega), step k (by omega)]
      rfl
  exact h n (Nat.le_refl n)
/-- with a fact kept -/
theorem lpP {α β : Type} (F : Nat → α → β) (f : Nat → α → α) (P : Nat → α → Prop) (a : α) (n : Nat) (h0 : P 0 a) (step : ∀ k x, k < n → P k x → F k x = F (k + 1) (f k x) ∧ P (k + 1) (f k x)) : F 0 a = F n (itr f n a) ∧ P n (itr f n a) := by
  have h : ∀ k, k ≤ n → F 0 a = F k (itr f k a) ∧ P k (itr f k a) := by
    intro k
    induction k with
    | zero => intro _; exact ⟨rfl, h0⟩
    | succ k ih =>
      intro hk
      obtain ⟨h1, h2⟩ := ih (by omega)
      obtain ⟨h3, h4⟩ := step k _ (by omega) h2
      exact ⟨h1.trans h3, h4⟩
  exact h n (Nat.le_refl n)
/-- a loop that may end early: what it comes to -/
def lps {α β : Type} (f : Nat → α → α ⊕ β) : Nat → Nat → α → α ⊕ β
  | 0, _, a => .inl a
  | n + 1, k, a => match f k a with
    | .inl a' => lps f n (k + 1) a'
    | .inr b => .inr b
theorem lpX {α β γ : Type} (F : Nat → α → γ) (R : β → γ) (f : Nat → α → α ⊕ β) (P : Nat → α → Prop) (N : Nat) (step : ∀ k x, k < N → P k x → (∃ x', f k x = .inl x' ∧ F k x = F (k + 1) x' ∧ P (k + 1) x') ∨ (∃ b, f k x = .inr b ∧ F k x = R b)) :
    ∀ n k a, k + n = N → P k a → (∃ a', lps f n k a = .inl a' ∧ F k a = F N a' ∧ P N a') ∨ (∃ b, lps f n k a = .inr b ∧ F k a = R b) := by
  intro n
  induction n with
  | zero =>
    intro k a hk hp
    have : k = N := by omega
    subst this
    exact Or.inl ⟨a, rfl, rfl, hp⟩
  | succ n ih =>
    intro k a hk hp
    rcases step k a (by omega) hp with ⟨x', h1, h2, h3⟩ | ⟨b, h1, h2⟩
    · rcases ih (k + 1) x' (by omega) h3 with ⟨a', g1, g2, g3⟩ | ⟨b, g1, g2⟩
      · exact Or.inl ⟨a', by rw [lps, h1]; exact g1, h2.trans g2, g3⟩
      · exact Or.inr ⟨b, by rw [lps, h1]; exact g1, h2.trans g2⟩
    · exact Or.inr ⟨b, by rw [lps, h1], h2⟩
/-! SETS AS BITS -/
def bit (k : Nat) : Int32 := nI 1 <<< (nI k &&& 31)
def isin (s : Int32) (k : Nat) : Bool := decide (s >>> (nI k &&& 31) &&& nI 1 = nI 1)
theorem or_nI0 (x : Int32) : x ||| nI 0 = x := Int32.or_zero
theorem setOf_congr {p q : Nat → Bool} : ∀ n, (∀ k, k < n → p k = q k) → setOf p n = setOf q n := by
  intro n
  induction n with
  | zero => intro _; rfl
  | succ n ih =>
    intro h
    rw [setOf, setOf, ih (fun k hk => h k (by omega)), h n (by omega)]
def tb (s : Int32) (k : Nat) : Bool := s.toBitVec.getLsbD k
theorem sh_amt : ∀ k : Nat, k < 32 → ((nI k &&& 31).toBitVec.smod 32).toNat = k := by decide
theorem isin_tb {s : Int32} {k : Nat} (h : k < 32) : isin s k = tb s k := by
  have e1 : (s >>> (nI k &&& 31) &&& nI 1 = nI 1) ↔ (s.toBitVec.sshiftRight k &&& 1#32 = 1#32) := by
    rw [← Int32.toBitVec_inj, Int32.toBitVec_and, Int32.toBitVec_shiftRight, BitVec.sshiftRight', sh_amt k h]
    exact Iff.rfl
  unfold isin tb
  rw [Bool.eq_iff_iff, decide_eq_true_iff, e1, BitVec.and_one_eq_setWidth_ofBool_getLsbD, BitVec.getLsbD_sshiftRight]
  have e2 : (!decide (32 ≤ 0) && if k + 0 < 32 then s.toBitVec.getLsbD (k + 0) else s.toBitVec.msb) = s.toBitVec.getLsbD k := by
    rw [if_pos (by omega)]
    simp
  rw [e2]
  cases s.toBitVec.getLsbD k <;> decide
theorem tb_or (x y : Int32) (k : Nat) : tb (x ||| y) k = (tb x k || tb y k) := by
  unfold tb
  rw [Int32.toBitVec_or, BitVec.getLsbD_or]
theorem tb_and (x y : Int32) (k : Nat) : tb (x &&& y) k = (tb x k && tb y k) := by
  unfold tb
  rw [Int32.toBitVec_and, BitVec.getLsbD_and]
theorem tb_xor (x y : Int32) (k : Nat) : tb (x ^^^ y) k = (tb x k ^^ tb y k) := by
  unfold tb
  rw [Int32.toBitVec_xor, BitVec.getLsbD_xor]
theorem tb_bit {n : Nat} (h : n < 32) (k : Nat) : tb (bit n) k = decide (k = n) := by
  have e1 : (bit n).toBitVec = 1#32 <<< n := by
    unfold bit
    rw [Int32.toBitVec_shiftLeft, BitVec.shiftLeft_eq', sh_amt n h]
    rfl
  unfold tb
  rw [e1, BitVec.getLsbD_shiftLeft]
  by_cases q : k = n
  · subst q
    simp [h]
  · by_cases q2 : k < n
    · simp [q2, q]
    · have : k - n ≠ 0 := by omega
      simp [q, BitVec.getLsbD_one, this]
theorem tb_0 (k : Nat) : tb (nI 0) k = false := by
  unfold tb
  show (0#32).getLsbD k = false
  exact BitVec.getLsbD_zero
theorem tb_setOf {p : Nat → Bool} : ∀ (n : Nat), n ≤ 32 → ∀ k, tb (setOf p n) k = (decide (k < n) && p k) := by
  intro n
  induction n with
  | zero => intro _ k; rw [setOf, tb_0]; simp
  | succ n ih =>
    intro hn k
    rw [setOf, tb_or, ih (by omega)]
    have hb : tb (bif p n then nI 1 <<< (nI n &&& 31) else nI 0) k = (p n && decide (k = n)) := by
      cases p n
      · exact tb_0 k
      · exact (tb_bit (by omega) k).trans (by simp)
    rw [hb]
    by_cases q : k = n
    · subst q
      simp
    · have : (k < n + 1) ↔ (k < n) := by omega
      simp [q, this]
theorem tb_ext {x y : Int32} (h : ∀ k, k < 32 → tb x k = tb y k) : x = y := by
  apply Int32.toBitVec_inj.mp
  apply BitVec.eq_of_getLsbD_eq
  intro i hi
  exact h i hi
theorem isin_setOf {p : Nat → Bool} {n k : Nat} (hn : n ≤ 32) (hk : k < n) : isin (setOf p n) k = p k := by
  rw [isin_tb (by omega), tb_setOf n hn]
  simp [hk]
/-! NUMBERS -/
theorem nI_mulI (a b : Nat) : nI a * nI b = nI (a * b) := (Int32.ofNat_mul a b).symm
theorem nI_l0 {n : Nat} (h : n < 2 ^ 31) : (nI n < 0) = False := eq_false (nI_pos h)
theorem nI_g0 {n : Nat} (h : n < 2 ^ 31) : (0 ≤ nI n) = True := eq_true (nI_pos' h)
theorem nI_e0 {n : Nat} (h : n < 2 ^ 31) : (nI n = 0) ↔ n = 0 := nI_eq (a := n) (b := 0) h (by decide)
theorem nI_gt0 {n : Nat} (h : n < 2 ^ 31) : (0 < nI n) ↔ 0 < n := nI_ltI (a := 0) (b := n) (by decide) h
theorem nI_le0 {n : Nat} (h : n < 2 ^ 31) : (nI n ≤ 0) ↔ n = 0 := by
  rw [show (0 : Int32) = nI 0 from rfl, nI_leI h (by decide)]
  omega
theorem nI_subI {a b : Nat} (h : b ≤ a) : nI a - nI b = nI (a - b) := by
  have e : nI (a - b) + nI b = nI a := by rw [nI_add, Nat.sub_add_cancel h]
  rw [← e, Int32.add_sub_cancel]
theorem nI_subpos {a b : Nat} (ha : a < 2 ^ 30) (hb : b < 2 ^ 30) : (0 < nI a - nI b) ↔ b < a := by
  have h1 : (nI a).toInt = a := nI_toInt (by omega)
  have h2 : (nI b).toInt = b := nI_toInt (by omega)
  have h3 : (nI a - nI b).toInt = (a : Int) - b := by
    rw [Int32.toInt_sub, h1, h2]
    exact Int.bmod_eq_of_le (by omega) (by omega)
  rw [Int32.lt_iff_toInt_lt, h3]
  show (0 : Int) < _ ↔ _
  omega
theorem nI_subT {a b : Nat} (ha : a < 2 ^ 30) (hb : b < 2 ^ 30) : (nI a - nI b).toInt = (a : Int) - b := by
  rw [Int32.toInt_sub, nI_toInt (by omega), nI_toInt (by omega)]
  exact Int.bmod_eq_of_le (by omega) (by omega)
/-- a number within a range -/
theorem nI_rng {x : Int32} {n : Nat} (hn : n < 2 ^ 31) (h0 : 0 ≤ x) (h1 : x < nI n) : ∃ k, k < n ∧ x = nI k := by
  obtain ⟨j, hj, rfl⟩ := nI_of (Int32.not_lt.mpr h0)
  exact ⟨j, (nI_ltI hj hn).mp h1, rfl⟩
theorem bI_1 {b : Bool} : (bI b = nI 1) ↔ b = true := by cases b <;> decide
theorem ite_bI {c : Prop} [Decidable c] {α : Type} (f : Int32 → α) : (if c then f (nI 1) else f (nI 0)) = f (bI (decide c)) := by
  by_cases h : c
  · rw [if_pos h, decide_eq_true h]; rfl
  · rw [if_neg h, decide_eq_false h]; rfl
