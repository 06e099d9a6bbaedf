/-! THE SMALL MACHINE: typed memory, and what it says of the real heap -/
set_option maxRecDepth 100000
abbrev MM : Type := Nat × (Nat → Nat × Nat) × (Nat → Nat → Int32) × (Nat → Nat → Int64) × (Nat → Nat → Value)
def mN (M : MM) : Nat := M.1
def mT (M : MM) : Nat → Nat × Nat := M.2.1
def mA (M : MM) : Nat → Nat → Int32 := M.2.2.1
def mJ (M : MM) : Nat → Nat → Int64 := M.2.2.2.1
def mV (M : MM) : Nat → Nat → Value := M.2.2.2.2
def up2 {α : Type} (f : Nat → Nat → α) (c k : Nat) (v : α) : Nat → Nat → α := fun c' k' => if c' = c ∧ k' = k then v else f c' k'
def wA (M : MM) (A : Nat → Nat → Int32) : MM := (M.1, M.2.1, A, M.2.2.2.1, M.2.2.2.2)
def wJ (M : MM) (J : Nat → Nat → Int64) : MM := (M.1, M.2.1, M.2.2.1, J, M.2.2.2.2)
def wV (M : MM) (V : Nat → Nat → Value) : MM := (M.1, M.2.1, M.2.2.1, M.2.2.2.1, V)
def sA (M : MM) (c k : Nat) (v : Int32) : MM := wA M (up2 (mA M) c k v)
def sJ (M : MM) (c k : Nat) (v : Int64) : MM := wJ M (up2 (mJ M) c k v)
def sV (M : MM) (c k : Nat) (v : Value) : MM := wV M (up2 (mV M) c k v)
/-- a new cell: all its places zero, null -/
def mNew (M : MM) (t n : Nat) : MM := (M.1 + 1, fun c => if c = M.1 then (t, n) else M.2.1 c, fun c k => if c = M.1 then 0 else M.2.2.1 c k, fun c k => if c = M.1 then 0 else M.2.2.2.1 c k, fun c k => if c = M.1 then .null else M.2.2.2.2 c k)
/-- cells of which nothing is known -/
def mJunk (M : MM) (j : Nat) : MM := (M.1 + j, fun c => if M.1 ≤ c then (63, 0) else M.2.1 c, M.2.2.1, M.2.2.2.1, M.2.2.2.2)
/-- the environment of a run: launch, base, the heap below it, classes' numbers and slots, array classes, references from outside, the script -/
abbrev ME : Type := Launch × Nat × Heap × va_G × (Nat → ClassId) × (Nat → Option Nat) × Nat × (Nat → Int32)
def eL (X : ME) : Launch := X.1
def eB (X : ME) : Nat := X.2.1
def eH (X : ME) : Heap := X.2.2.1
def eD (X : ME) : va_G := X.2.2.2.1
def eC (X : ME) : Nat → ClassId := X.2.2.2.2.1
def eS (X : ME) : Nat → Option Nat := X.2.2.2.2.2.1
def eN (X : ME) : Nat := X.2.2.2.2.2.2.1
def eX (X : ME) : Nat → Int32 := X.2.2.2.2.2.2.2
def mcl : List vw_C := [(RX0, TX0, 24), (RX1, TX1, 1), (RX2, TX2, 8), (RX3, TX3, 7), (RX4, TX4, 3), (RX5, TX5, 18), (RX6, TX6, 4), (RX7, TX7, 6), (RX8, TX8, 5), (RX9, TX9, 48), (RX10, TX10, 7), (RX11, TX11, 3), (RX17, fun _ => ("", "", "", false), 0), (RX13, TX13, 2), (RX14, TX14, 5), (RX15, TX15, 2), (RX16, TX16, 1)]
def mty : Nat → Nat → FieldType := fun t => match t with
  | 0 => tyX0 | 1 => tyX1 | 2 => tyX2 | 3 => tyX3 | 4 => tyX4 | 5 => tyX5 | 6 => tyX6 | 7 => tyX7 | 8 => tyX8 | 9 => tyX9 | 10 => tyX10 | 11 => tyX11 | 12 => fun _ => .int | 13 => tyX13 | 14 => tyX14 | 15 => tyX15 | _ => tyX16
def maty : List FieldType := [.byte, .short, .int, .long, .boolean, .object RX1, .object RX6, .object RX11, .object RX4, .object RX12]
theorem mcl_c {P : Nat → vw_C → Prop} (h0 : P 0 (RX0, TX0, 24)) (h1 : P 1 (RX1, TX1, 1)) (h2 : P 2 (RX2, TX2, 8)) (h3 : P 3 (RX3, TX3, 7)) (h4 : P 4 (RX4, TX4, 3)) (h5 : P 5 (RX5, TX5, 18)) (h6 : P 6 (RX6, TX6, 4)) (h7 : P 7 (RX7, TX7, 6)) (h8 : P 8 (RX8, TX8, 5)) (h9 : P 9 (RX9, TX9, 48)) (h10 : P 10 (RX10, TX10, 7)) (h11 : P 11 (RX11, TX11, 3)) (h12 : P 12 (RX17, fun _ => ("", "", "", false), 0)) (h13 : P 13 (RX13, TX13, 2)) (h14 : P 14 (RX14, TX14, 5)) (h15 : P 15 (RX15, TX15, 2)) (h16 : P 16 (RX16, TX16, 1)) : ∀ (t : Nat) (q : vw_C), mcl[t]? = some q → P t q := by
  intro t q h
  match t, h with
  | 0, h => cases h; exact h0
  | 1, h => cases h; exact h1
  | 2, h => cases h; exact h2
  | 3, h => cases h; exact h3
  | 4, h => cases h; exact h4
  | 5, h => cases h; exact h5
  | 6, h => cases h; exact h6
  | 7, h => cases h; exact h7
  | 8, h => cases h; exact h8
  | 9, h => cases h; exact h9
  | 10, h => cases h; exact h10
  | 11, h => cases h; exact h11
  | 12, h => cases h; exact h12
  | 13, h => cases h; exact h13
  | 14, h => cases h; exact h14
  | 15, h => cases h; exact h15
  | 16, h => cases h; exact h16
  | k + 17, h => simp [mcl] at h
theorem mcl_in : ∀ (t : Nat) (q : vw_C), mcl[t]? = some q → ∀ w ∈ u_ws q.1 q.2.1 q.2.2, w ∈ lw_all :=
  mcl_c (P := fun _ (q : vw_C) => ∀ w ∈ u_ws q.1 q.2.1 q.2.2, w ∈ lw_all) in_X0 in_X1 in_X2 in_X3 in_X4 in_X5 in_X6 in_X7 in_X8 in_X9 in_X10 in_X11 (fun w h => by simp [u_ws] at h) in_X13 in_X14 in_X15 in_X16
theorem mcl_ty : ∀ (t : Nat) (q : vw_C), mcl[t]? = some q → ∀ k, k < q.2.2 → parseFieldDescriptor (q.2.1 k).2.2.1 = some (mty t k) :=
  mcl_c (P := fun t (q : vw_C) => ∀ k, k < q.2.2 → parseFieldDescriptor (q.2.1 k).2.2.1 = some (mty t k)) tyX0_ok tyX1_ok tyX2_ok tyX3_ok tyX4_ok tyX5_ok tyX6_ok tyX7_ok tyX8_ok tyX9_ok tyX10_ok tyX11_ok (fun k h => absurd h (Nat.not_lt_zero k)) tyX13_ok tyX14_ok tyX15_ok tyX16_ok
theorem mcl_nm : ∀ (t : Nat) (q : vw_C), mcl[t]? = some q → ∀ a, a < q.2.2 → ∀ b, b < q.2.2 → a ≠ b → (q.2.1 a).2.1 ≠ (q.2.1 b).2.1 :=
  mcl_c (P := fun _ (q : vw_C) => ∀ a, a < q.2.2 → ∀ b, b < q.2.2 → a ≠ b → (q.2.1 a).2.1 ≠ (q.2.1 b).2.1) nmX0 nmX1 nmX2 nmX3 nmX4 nmX5 nmX6 nmX7 nmX8 nmX9 nmX10 nmX11 (fun k h => absurd h (Nat.not_lt_zero k)) nmX13 nmX14 nmX15 nmX16
/-- what a place holds, by its type -/
def fval (M : MM) (c k : Nat) : FieldType → Value
  | .long => .long (mJ M c k)
  | .object _ => mV M c k
  | .array _ => mV M c k
  | .float => .float 0
  | .double => .double 0
  | _ => .int (mA M c k)
/-- a value of the small machine, in the real one -/
def rv (X : ME) : Value → Value
  | .ref i => .ref (eB X + i)
  | .retAddr k => va_rf (eS X k)
  | v => v
def mcell (X : ME) (M : MM) (H : Heap) (c : Nat) : Prop :=
  (∀ q, mcl[(mT M c).1]? = some q → t_OB (eB X + c) ((eD X).1 (mT M c).1) q.2.2 ((eD X).2 (mT M c).1) H (fun k => rv X (fval M c k (mty (mT M c).1 k)))) ∧
  (∀ i ty, (mT M c).1 = 32 + i → maty[i]? = some ty → H[eB X + c]? = some (arrV (eC X i) (mT M c).2 (fun k => rv X (fval M c k ty))))
def HR (X : ME) (M : MM) (H : Heap) : Prop := H.size = eB X + mN M ∧ (∀ q, q < eB X → H[q]? = (eH X)[q]?) ∧ (∀ c, c < mN M → mcell X M H c) ∧ ∀ c, mN M ≤ c → (mT M c).1 = 63
theorem rv_cat (X : ME) (v : Value) : (rv X v).category = v.category := by
  cases v with
  | retAddr k =>
    show (va_rf (eS X k)).category = 1
    cases eS X k <;> rfl
  | _ => rfl
theorem rv_cats (X : ME) (l : List Value) : ((l.map (rv X)).map fun v => v.category).sum = (l.map fun v => v.category).sum := by
  congr 1
  rw [List.map_map]
  exact List.map_congr_left fun v _ => rv_cat X v
theorem mcell.to {X : ME} {M M1 : MM} {H H1 : Heap} {c : Nat} (h : mcell X M H c) (h1 : H1[eB X + c]? = H[eB X + c]?) (hT : mT M1 c = mT M c) (hv : ∀ k ty, fval M1 c k ty = fval M c k ty) : mcell X M1 H1 c := by
  refine ⟨fun q hq => ?_, fun i ty hi hty => ?_⟩
  · rw [hT] at hq ⊢
    exact ((h.1 q hq).kept h1).to (fun k _ => by rw [hv])
  · rw [hT] at hi ⊢
    rw [h1, h.2 i ty hi hty]
    congr 2
    funext k
    rw [hv]
theorem HR.put {X : ME} {M M1 : MM} {H H1 : Heap} {c t k : Nat} {q : vw_C} {v : Value} {cell : Cell} (h : HR X M H) (hc : c < mN M) (hT : (mT M c).1 = t) (hq : mcl[t]? = some q) (hk : k < q.2.2)
    (hap : ∀ a b, a < q.2.2 → b < q.2.2 → a ≠ b → (eD X).2 t a ≠ (eD X).2 t b) (e0 : H[eB X + c]? = some cell) (e1 : H1[eB X + c]? = some (cell.setSlot ((eD X).2 t k) (rv X v))) (e2 : H1.size = H.size) (e3 : ∀ z, z ≠ eB X + c → H1[z]? = H[z]?)
    (hM : mN M1 = mN M) (hMT : mT M1 = mT M) (hv : fval M1 c k (mty t k) = v) (ho : ∀ c' k' ty, (c' ≠ c ∨ k' ≠ k) → fval M1 c' k' ty = fval M c' k' ty) : HR X M1 H1 := by
  obtain ⟨z1, z2, z3, z4⟩ := h
  refine ⟨by rw [e2, z1, hM], fun x hx => by rw [e3 x (by omega)]; exact z2 x hx, fun c' hc' => ?_, fun c' hc' => by rw [hMT]; exact z4 c' (by rw [← hM]; exact hc')⟩
  rw [hM] at hc'
  by_cases hcc : c' = c
  · subst hcc
    refine ⟨fun q' hq' => ?_, fun i ty hi _ => ?_⟩
    · rw [hMT, hT] at hq' ⊢
      rw [hq] at hq'
      cases hq'
      obtain ⟨cell0, r1, r2, r3, r4⟩ := (z3 c' hc').1 q (by rw [hT]; exact hq)
      cases e0.symm.trans r1
      rw [hT] at r2 r4
      refine t_OB.to (V := updV (fun k => rv X (fval M c' k (mty t k))) k (rv X v)) ⟨_, e1, r2, r3, t_set r4 hap hk _⟩ (fun j _ => ?_)
      unfold updV
      split
      · rename_i hj
        rw [hj, hv]
      · rename_i hj
        rw [ho c' j _ (Or.inr hj)]
    · rw [hMT, hT] at hi
      have : t < 17 := by have := (List.getElem?_eq_some_iff.mp hq).1; simpa [mcl] using this
      omega
  · exact (z3 c' hc').to (e3 _ (by omega)) (by rw [hMT]) (fun k' ty => ho c' k' ty (Or.inl hcc))
theorem HR.ast {X : ME} {M M1 : MM} {H H1 : Heap} {c i k : Nat} {ty : FieldType} {v : Value} (h : HR X M H) (hc : c < mN M) (hT : (mT M c).1 = 32 + i) (hq : maty[i]? = some ty)
    (e1 : H1[eB X + c]? = some ((arrV (eC X i) (mT M c).2 (fun k => rv X (fval M c k ty))).setSlot k (rv X v))) (e2 : H1.size = H.size) (e3 : ∀ z, z ≠ eB X + c → H1[z]? = H[z]?)
    (hM : mN M1 = mN M) (hMT : mT M1 = mT M) (hv : fval M1 c k ty = v) (ho : ∀ c' k' ty, (c' ≠ c ∨ k' ≠ k) → fval M1 c' k' ty = fval M c' k' ty) : HR X M1 H1 := by
  obtain ⟨z1, z2, z3, z4⟩ := h
  refine ⟨by rw [e2, z1, hM], fun x hx => by rw [e3 x (by omega)]; exact z2 x hx, fun c' hc' => ?_, fun c' hc' => by rw [hMT]; exact z4 c' (by rw [← hM]; exact hc')⟩
  rw [hM] at hc'
  by_cases hcc : c' = c
  · subst hcc
    refine ⟨fun q' hq' => ?_, fun i' ty' hi hty' => ?_⟩
    · rw [hMT, hT] at hq'
      have : 32 + i < 17 := by have := (List.getElem?_eq_some_iff.mp hq').1; simpa [mcl] using this
      omega
    · rw [hMT] at hi ⊢
      have hii : i' = i := by omega
      subst hii
      cases hq.symm.trans hty'
      rw [e1, arrV_store]
      congr 2
      funext j
      unfold updV
      split
      · rename_i hj
        rw [hj, hv]
      · rename_i hj
        rw [ho c' j _ (Or.inr hj)]
  · exact (z3 c' hc').to (e3 _ (by omega)) (by rw [hMT]) (fun k' ty => ho c' k' ty (Or.inl hcc))
theorem HR.push {X : ME} {M : MM} {H H1 : Heap} {t n : Nat} (h : HR X M H) (z1 : H1.size = H.size + 1) (o1 : ∀ q, q < H.size → H1[q]? = H[q]?) (hn : mcell X (mNew M t n) H1 (mN M)) : HR X (mNew M t n) H1 := by
  obtain ⟨y1, y2, y3, y4⟩ := h
  refine ⟨by rw [z1, y1]; rfl, fun q hq => by rw [o1 q (by omega)]; exact y2 q hq, fun c hc => ?_, fun c hc => ?_⟩
  rotate_left
  · have hc : mN M + 1 ≤ c := hc
    have hne : ¬ c = M.1 := by intro e; rw [e] at hc; exact absurd hc (by unfold mN; omega)
    have := y4 c (by omega)
    simpa [mT, mNew, hne] using this
  have hc : c < mN M + 1 := hc
  by_cases hcc : c = mN M
  · rw [hcc]; exact hn
  · have hlt : c < mN M := by omega
    have hne : ¬ c = M.1 := hcc
    refine (y3 c hlt).to (o1 _ (by omega)) (by simp [mT, mNew, hne]) (fun k ty => ?_)
    cases ty <;> simp [fval, mA, mJ, mV, mNew, hne]
theorem HR.junk {X : ME} {M : MM} {H H1 : Heap} {j : Nat} (h : HR X M H) (z1 : H1.size = H.size + j) (o1 : ∀ q, q < H.size → H1[q]? = H[q]?) : HR X (mJunk M j) H1 := by
  obtain ⟨y1, y2, y3, y4⟩ := h
  refine ⟨by rw [z1, y1]; show _ = eB X + (mN M + j); omega, fun q hq => by rw [o1 q (by omega)]; exact y2 q hq, fun c hc => ?_, fun c hc => ?_⟩
  rotate_left
  · have hc : mN M + j ≤ c := hc
    have hge : M.1 ≤ c := Nat.le_trans (Nat.le_add_right _ j) hc
    simp [mT, mJunk, hge]
  by_cases hlt : c < mN M
  · have hne : ¬ M.1 ≤ c := Nat.not_le.mpr hlt
    refine (y3 c hlt).to (o1 _ (by omega)) (by simp [mT, mJunk, hne]) (fun k ty => ?_)
    cases ty <;> rfl
  · have hge : M.1 ≤ c := Nat.not_lt.mp hlt
    have hT : mT (mJunk M j) c = (63, 0) := by simp [mT, mJunk, hge]
    refine ⟨fun q hq => ?_, fun i ty hi hty => ?_⟩
    · rw [hT] at hq; simp [mcl] at hq
    · rw [hT] at hi
      have : i = 31 := by have : 63 = 32 + i := hi; omega
      rw [this] at hty; simp [maty] at hty
/-- no place changes but one -/
theorem fv_sA {M : MM} {c k : Nat} {x : Int32} : ∀ c' k' ty, (c' ≠ c ∨ k' ≠ k) → fval (sA M c k x) c' k' ty = fval M c' k' ty := by
  intro c' k' ty h
  have hn : ¬ (c' = c ∧ k' = k) := fun z => h.elim (fun q => q z.1) (fun q => q z.2)
  cases ty <;> simp [fval, sA, wA, mA, mJ, mV, up2, hn]
theorem fv_sJ {M : MM} {c k : Nat} {x : Int64} : ∀ c' k' ty, (c' ≠ c ∨ k' ≠ k) → fval (sJ M c k x) c' k' ty = fval M c' k' ty := by
  intro c' k' ty h
  have hn : ¬ (c' = c ∧ k' = k) := fun z => h.elim (fun q => q z.1) (fun q => q z.2)
  cases ty <;> simp [fval, sJ, wJ, mA, mJ, mV, up2, hn]
theorem fv_sV {M : MM} {c k : Nat} {x : Value} : ∀ c' k' ty, (c' ≠ c ∨ k' ≠ k) → fval (sV M c k x) c' k' ty = fval M c' k' ty := by
  intro c' k' ty h
  have hn : ¬ (c' = c ∧ k' = k) := fun z => h.elim (fun q => q z.1) (fun q => q z.2)
  cases ty <;> simp [fval, sV, wV, mA, mJ, mV, up2, hn]
theorem HR.lt {X : ME} {M : MM} {H : Heap} {c : Nat} {q : vw_C} (h : HR X M H) (hq : mcl[(mT M c).1]? = some q) : c < mN M := by
  rcases Nat.lt_or_ge c (mN M) with g | g
  · exact g
  · have := (List.getElem?_eq_some_iff.mp hq).1
    rw [h.2.2.2 c g] at this
    simp [mcl] at this
theorem HR.ltA {X : ME} {M : MM} {H : Heap} {c i : Nat} {ty : FieldType} (h : HR X M H) (hT : (mT M c).1 = 32 + i) (hq : maty[i]? = some ty) : c < mN M := by
  rcases Nat.lt_or_ge c (mN M) with g | g
  · exact g
  · have := (List.getElem?_eq_some_iff.mp hq).1
    rw [h.2.2.2 c g] at hT
    simp [maty] at this
    omega
def kd : FieldType → Nat
  | .long => 1
  | .object _ => 2
  | .array _ => 2
  | .float => 3
  | .double => 3
  | _ => 0
theorem fval_A {M : MM} {c k : Nat} {ty : FieldType} (h : kd ty = 0) : fval M c k ty = .int (mA M c k) := by cases ty <;> first | rfl | cases h
theorem fval_J {M : MM} {c k : Nat} {ty : FieldType} (h : kd ty = 1) : fval M c k ty = .long (mJ M c k) := by cases ty <;> first | rfl | cases h
theorem fval_V {M : MM} {c k : Nat} {ty : FieldType} (h : kd ty = 2) : fval M c k ty = mV M c k := by cases ty <;> first | rfl | cases h
theorem up2_s {α : Type} (f : Nat → Nat → α) (c k : Nat) (v : α) : up2 f c k v c k = v := by simp [up2]
