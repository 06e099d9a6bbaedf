/-! ints as naturals, bit by bit; sets as numbers -/
theorem nx_and (a b : Nat) : nI a &&& nI b = nI (a &&& b) := by
  apply Int32.toBitVec_inj.1
  show BitVec.ofNat 32 a &&& BitVec.ofNat 32 b = BitVec.ofNat 32 (a &&& b)
  apply BitVec.eq_of_getLsbD_eq
  intro i hi
  simp [hi]
theorem nx_or (a b : Nat) : nI a ||| nI b = nI (a ||| b) := by
  apply Int32.toBitVec_inj.1
  show BitVec.ofNat 32 a ||| BitVec.ofNat 32 b = BitVec.ofNat 32 (a ||| b)
  apply BitVec.eq_of_getLsbD_eq
  intro i hi
  simp [hi]
theorem nx_xor (a b : Nat) : nI a ^^^ nI b = nI (a ^^^ b) := by
  apply Int32.toBitVec_inj.1
  show BitVec.ofNat 32 a ^^^ BitVec.ofNat 32 b = BitVec.ofNat 32 (a ^^^ b)
  apply BitVec.eq_of_getLsbD_eq
  intro i hi
  simp [hi]
theorem s_l : ∀ n, n < 32 → ((nI n &&& 31).toBitVec.smod 32).toNat = n := by decide +kernel
theorem nx_shl1 {k : Nat} (h : k < 32) : (1 : Int32) <<< (nI k &&& 31) = nI (2 ^ k) := by
  rw [show (1 : Int32) = nI 1 from rfl, pk_shlN _ k (s_l k h) (by rw [Nat.one_mul]; exact Nat.pow_lt_pow_right (by decide) h), Nat.one_mul]
theorem nx_shl {a k : Nat} (hk : k < 32) (h : a * 2 ^ k < 2 ^ 32) : nI a <<< (nI k &&& 31) = nI (a * 2 ^ k) := pk_shlN _ k (s_l k hk) h
theorem nx_shr {a k : Nat} (h : a < 2147483648) (hk : k < 32) : nI a >>> (nI k &&& 31) = nI (a >>> k) := by
  rw [pk_shrN h _ k (s_l k hk), Nat.shiftRight_eq_div_pow]
/-- (x >> k) & 1 -/
theorem nx_bit1 {a k : Nat} (h : a < 2147483648) (hk : k < 32) : nI a >>> (nI k &&& 31) &&& 1 = b2i (a.testBit k) := by
  rw [nx_shr h hk, show (1 : Int32) = nI 1 from rfl, nx_and, Nat.and_one_is_mod, Nat.testBit, Nat.and_comm, Nat.and_one_is_mod]
  rcases Nat.mod_two_eq_zero_or_one (a >>> k) with e | e <;> rw [e] <;> rfl
/-- the set of those below k that hold -/
def ks (p : Nat → Bool) : Nat → Nat
  | 0 => 0
  | k + 1 => ks p k ||| (if p k = true then 2 ^ k else 0)
theorem ks_s (p : Nat → Bool) (k : Nat) : ks p (k + 1) = ks p k ||| (if p k = true then 2 ^ k else 0) := rfl
theorem ks_bit (p : Nat → Bool) (i : Nat) : ∀ k, (ks p k).testBit i = (decide (i < k) && p i) := by
  intro k
  induction k with
  | zero => simp [ks]
  | succ k ih =>
    rw [ks_s, Nat.testBit_or, ih]
    by_cases h : i = k
    · subst h
      cases hp : p i <;> simp [hp, Nat.testBit_two_pow_self]
    · have h2 : ¬ (k = i) := fun e => h e.symm
      have h3 : (i < k + 1) ↔ (i < k) := by omega
      cases hp : p k <;> simp [h2, h3, Nat.testBit_two_pow]
theorem ks_lt (p : Nat → Bool) : ∀ k, ks p k < 2 ^ k := by
  intro k
  induction k with
  | zero => simp [ks]
  | succ k ih =>
    rw [ks_s]
    refine Nat.or_lt_two_pow ?_ ?_
    · exact Nat.lt_of_lt_of_le ih (Nat.pow_le_pow_right (by decide) (by omega))
    · split
      · exact Nat.pow_lt_pow_right (by decide) (by omega)
      · exact Nat.two_pow_pos _
theorem ks_lt4 (p : Nat → Bool) : ks p 4 < 16 := ks_lt p 4
theorem and_lt16 {a b : Nat} (h : a < 16) : a &&& b < 16 := Nat.lt_of_le_of_lt Nat.and_le_left h
/-- a bit of a set of four longs -/
def bitJ (f : Nat → Int64) (v : Nat) : Bool := decide (f (v / 64) >>> ((nI (v % 64)).toInt64 &&& 63) &&& 1 = 1)
