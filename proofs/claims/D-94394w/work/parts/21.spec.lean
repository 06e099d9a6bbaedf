/-! WHAT A CASE AND ITS RECORD SAY: pure words over a slot n (numbers), b (sets), s (answers) -/
def cnt (p : Nat → Bool) : Nat → Nat
  | 0 => 0
  | k + 1 => cnt p k + (if p k = true then 1 else 0)
theorem cnt_le (p : Nat → Bool) : ∀ k, cnt p k ≤ k
  | 0 => Nat.le_refl 0
  | k + 1 => by have := cnt_le p k; unfold cnt; split <;> omega
theorem cnt_s (p : Nat → Bool) (k : Nat) : nI (cnt p k) + b2i (p k) = nI (cnt p (k + 1)) := by
  show _ = nI (cnt p k + if p k = true then 1 else 0)
  cases h : p k
  · rw [b2i_f, nIl, nI_add]; rfl
  · rw [b2i_t, nI_1]; rfl
/-- sizes of the facts lo .. hi - 1 together -/
def szP (n : Nat → Nat) (lo : Nat) : Nat → Nat
  | 0 => 1
  | h + 1 => if lo ≤ h then szP n lo h * n (60 + h) else 1
theorem szP_ge (n : Nat → Nat) {lo hi : Nat} (h : hi ≤ lo) : szP n lo hi = 1 := by
  cases hi with
  | zero => rfl
  | succ k => unfold szP; rw [if_neg (by omega)]
theorem szP_low (n : Nat → Nat) (lo : Nat) : ∀ hi, lo < hi → szP n lo hi = n (60 + lo) * szP n (lo + 1) hi := by
  intro hi
  induction hi with
  | zero => intro h; omega
  | succ k ih =>
    intro h
    by_cases hk : lo = k
    · subst hk
      unfold szP
      rw [if_pos (Nat.le_refl _), if_neg (by omega), szP_ge n (Nat.le_refl _), Nat.one_mul, Nat.mul_one]
    · have hlt : lo < k := by omega
      show (if lo ≤ k then szP n lo k * n (60 + k) else 1) = n (60 + lo) * (if lo + 1 ≤ k then szP n (lo + 1) k * n (60 + k) else 1)
      rw [if_pos (by omega), if_pos (by omega), ih hlt, Nat.mul_assoc]
theorem szP_pos (n : Nat → Nat) (lo : Nat) : ∀ hi, (∀ f, f < hi → 0 < n (60 + f)) → 0 < szP n lo hi := by
  intro hi
  induction hi with
  | zero => intro _; exact Nat.one_pos
  | succ k ih =>
    intro h
    unfold szP
    split
    · exact Nat.mul_pos (ih (fun f hf => h f (by omega))) (h k (by omega))
    · exact Nat.one_pos
/-- which value of all a fact has in a world -/
def valN (n : Nat → Nat) (w f : Nat) : Nat := n (56 + f) + w / szP n (f + 1) (n 0) % n (60 + f)
/-- a slot's numbers, as ints from the place o on (7, how many rows the plan has, apart) -/
def SRo (f : Nat → Int32) (o : Nat) (n : Nat → Nat) : Prop := ∀ k, k < 400 → k ≠ 7 → f (o + k) = nI (n k)
def SR (f : Nat → Int32) (n : Nat → Nat) : Prop := ∀ k, k < 400 → k ≠ 7 → f k = nI (n k)
theorem SR.o {f : Nat → Int32} {n : Nat → Nat} (h : SR f n) : SRo f 0 n := fun k h1 h2 => by rw [Nat.zero_add]; exact h k h1 h2
/-- sizes and places of a slot in order -/
def SOK (n : Nat → Nat) : Prop := n 0 ≤ 4 ∧ n 1 ≤ 24 ∧ n 2 = szP n 0 (n 0) ∧ n 2 ≤ 256 ∧ n 3 ≤ 12 ∧ n 4 ≤ 4 ∧ n 5 ≤ 99 ∧ n 6 ≤ n 3 ∧
  (∀ f, f < n 0 → 2 ≤ n (60 + f) ∧ n (60 + f) ≤ 6 ∧ n (56 + f) + n (60 + f) ≤ n 1) ∧
  (∀ v, v < n 1 → n (8 + v) < n 0 ∧ 1 ≤ n (32 + v) ∧ n (32 + v) ≤ 9) ∧
  (∀ q, q < n 3 → n (64 + q) ≤ 99) ∧
  (∀ w, w < n 4 → n (76 + 6 * w) + n (76 + 6 * w + 1) + n (76 + 6 * w + 2) + n (76 + 6 * w + 3) = 16 ∧ n (76 + 6 * w + 4) < 16 ∧ n (76 + 6 * w + 5) < 4096) ∧
  (∀ k, k < n 6 → n (100 + 4 * k) < n 4 ∧ n (100 + 4 * k + 1) < n 3 ∧ n (100 + 4 * k + 2) < 2 * n 3 ∧ n (100 + 4 * k + 3) ≤ n 5) ∧
  (∀ j k, j < n 6 → k < n 6 → n (100 + 4 * j + 1) = n (100 + 4 * k + 1) → j = k)
/-- what one may be (kinds as bits); the kinds that answer so; the kinds left by some of what was heard -/
def mayB (n : Nat → Nat) (w : Nat) : Nat := ks (fun k => decide (0 < n (76 + 6 * w + k))) 4
def ans (s : Nat → Nat) (w q v k : Nat) : Nat := s (4 * (256 * (12 * w + q) + v) + k)
def kFor (s : Nat → Nat) (w q v a : Nat) : Nat := ks (fun k => decide (ans s w q v k = a)) 4
def fitG (n s : Nat → Nat) (some w v start : Nat) : Nat → Nat
  | 0 => start
  | k + 1 => if some.testBit k = true ∧ n (100 + 4 * k) = w then fitG n s some w v start k &&& kFor s w (n (100 + 4 * k + 1)) v (n (100 + 4 * k + 2)) else fitG n s some w v start k
theorem fitG_s (n s : Nat → Nat) (some w v start k : Nat) : fitG n s some w v start (k + 1) = if some.testBit k = true ∧ n (100 + 4 * k) = w then fitG n s some w v start k &&& kFor s w (n (100 + 4 * k + 1)) v (n (100 + 4 * k + 2)) else fitG n s some w v start k := rfl
/-- .. of one's own kinds, by the answers 'some' -/
def fitN (n s : Nat → Nat) (some w v : Nat) : Nat := fitG n s some w v (mayB n w) (n 6)
theorem fitG_le (n s : Nat → Nat) (some w v : Nat) {start : Nat} (h : start < 16) : ∀ k, fitG n s some w v start k < 16 := by
  intro k
  induction k with
  | zero => exact h
  | succ k ih => unfold fitG; split; exact and_lt16 ih; exact ih
theorem fitG_0 (n s : Nat → Nat) (some w v : Nat) {start : Nat} {j : Nat} : ∀ k, j ≤ k → fitG n s some w v start j = 0 → fitG n s some w v start k = 0 := by
  intro k hk h
  induction k with
  | zero => rw [show j = 0 by omega] at h; exact h
  | succ k ih =>
    by_cases e : j = k + 1
    · subst e; exact h
    · have h2 := ih (by omega)
      unfold fitG
      split
      · rw [h2, Nat.zero_and]
      · exact h2
theorem fitG_and (n s : Nat → Nat) (some w v a b : Nat) : ∀ k, fitG n s some w v (a &&& b) k = fitG n s some w v a k &&& b := by
  intro k
  induction k with
  | zero => rfl
  | succ k ih =>
    unfold fitG
    split
    · rw [ih, Nat.and_assoc, Nat.and_assoc, Nat.and_comm b]
    · exact ih
/-- the answers of a slot, as numbers -/
def AR (f : Nat → Int32) (s : Nat → Nat) (n : Nat → Nat) (b : Nat → Int64) : Prop := ∀ w q v k, w < n 4 → q < n 3 → v < n 2 → k < 4 → bitJ b v = true → f (4 * (256 * (12 * w + q) + v) + k) = nI (ans s w q v k) ∧ ans s w q v k < 2 * n 3
/-- which worlds are left by the fitting kinds g of the first k witnesses -/
def lfk (b : Nat → Int64) (g : Nat → Nat → Nat) (v : Nat) : Nat → Bool
  | 0 => bitJ b v
  | k + 1 => lfk b g v k && decide (g k v ≠ 0)
def anyB (p : Nat → Bool) : Nat → Bool
  | 0 => false
  | k + 1 => anyB p k || p k
/-- a question's worlds -/
def inB (b : Nat → Int64) (q v : Nat) : Bool := bitJ (fun k => b (4 + 4 * q + k)) v
/-- 1 sure, 0 sure that not, -1 open -/
def sureI (some others : Bool) : Int32 := if some = others then -1 else b2i some
/-- what stands in the fitting kinds' table for a world and witness; which questions were put -/
def fitV (n s : Nat → Nat) (b : Nat → Int64) (some w v : Nat) : Nat := if bitJ b v = true then fitN n s some w v else 0
def fitF (f : Nat → Int32) (n s : Nat → Nat) (b : Nat → Int64) (some w0 v0 : Nat) : Nat → Int32 := fun i => if (i / 256 < w0 ∧ i % 256 < n 2) ∨ (i / 256 = w0 ∧ i % 256 < v0) then nI (fitV n s b some (i / 256) (i % 256)) else f i
def askd (n : Nat → Nat) (j : Nat) : Nat → Bool
  | 0 => false
  | k + 1 => askd n j k || decide (n (100 + 4 * k + 1) = j)
def putF (f : Nat → Int32) (n : Nat → Nat) (k : Nat) : Nat → Int32 := fun j => if j < 12 then b2i (askd n j k) else f j
def fitM (M : MM) (n s : Nat → Nat) (some : Nat) : MM := wC (wC M 57 (fitF (mA M 57) n s (mJ M 43) some (n 4) 0)) 58 (putF (mA M 58) n (n 6))
theorem fitF_step {f : Nat → Int32} {n s : Nat → Nat} {b : Nat → Int64} {some w v : Nat} (h2 : n 2 ≤ 256) (hv : v < n 2) : upF (fitF f n s b some w v) (256 * w + v) (nI (fitV n s b some w v)) = fitF f n s b some w (v + 1) := by
  funext i
  unfold upF fitF
  by_cases hi : i = 256 * w + v
  · subst hi
    have e1 : (256 * w + v) / 256 = w := by omega
    have e2 : (256 * w + v) % 256 = v := by omega
    rw [if_pos rfl, if_pos (Or.inr ⟨e1, by omega⟩), e1, e2]
  · rw [if_neg hi]
    by_cases c1 : (i / 256 < w ∧ i % 256 < n 2) ∨ (i / 256 = w ∧ i % 256 < v)
    · rw [if_pos c1, if_pos (by omega)]
    · rw [if_neg c1, if_neg (by omega)]
theorem fitF_row {f : Nat → Int32} {n s : Nat → Nat} {b : Nat → Int64} {some w : Nat} (h2 : n 2 ≤ 256) : fitF f n s b some w (n 2) = fitF f n s b some (w + 1) 0 := by
  funext i
  unfold fitF
  by_cases c1 : (i / 256 < w ∧ i % 256 < n 2) ∨ (i / 256 = w ∧ i % 256 < n 2)
  · rw [if_pos c1, if_pos (by omega)]
  · rw [if_neg c1, if_neg (by omega)]
theorem fitF_0 {f : Nat → Int32} {n s : Nat → Nat} {b : Nat → Int64} {some : Nat} : fitF f n s b some 0 0 = f := by
  funext i
  unfold fitF
  rw [if_neg (by omega)]
/-- what fits, laid out: for the worlds and witnesses there are -/
def FitIs (f : Nat → Int32) (n : Nat → Nat) (g : Nat → Nat → Nat) : Prop := ∀ w v, w < n 4 → v < n 2 → f (256 * w + v) = nI (g w v)
theorem fitF_is {f : Nat → Int32} {n s : Nat → Nat} {b : Nat → Int64} {some : Nat} (h2 : n 2 ≤ 256) : FitIs (fitF f n s b some (n 4) 0) n (fitV n s b some) := by
  intro w v hw hv
  have e1 : (256 * w + v) / 256 = w := by omega
  have e2 : (256 * w + v) % 256 = v := by omega
  unfold fitF
  rw [if_pos (Or.inl ⟨by omega, by omega⟩), e1, e2]
