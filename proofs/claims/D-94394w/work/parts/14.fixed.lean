/-! THE REFERENCE: its fixed cells; helper laws for walks -/
set_option maxRecDepth 100000
theorem G.in {X : ME} {y : MI} {d a b : Nat} {as L' : List Value} {M : MM} {Q : MR → MM → Prop} (hL : entL y.2.2.1 as = L') (hy : plainName y.1.cls = true) (hl : (entA as).length ≤ y.2.2.1) (h : G X y d a b 0 L' [] M Q) : GM X y d a b as M Q := G.met hy hl (by rw [hL]; exact h)
theorem G.stk {X : ME} {y : MI} {d a b pc : Nat} {L st st' : List Value} {M : MM} {Q : MR → MM → Prop} (h : st = st') (k : G X y d a b pc L st' M Q) : G X y d a b pc L st M Q := h ▸ k
theorem G.loc {X : ME} {y : MI} {d a b pc : Nat} {L L' st : List Value} {M : MM} {Q : MR → MM → Prop} (h : L = L') (k : G X y d a b pc L' st M Q) : G X y d a b pc L st M Q := h ▸ k
theorem G.mem {X : ME} {y : MI} {d a b pc : Nat} {L st : List Value} {M M' : MM} {Q : MR → MM → Prop} (h : M = M') (k : G X y d a b pc L st M' Q) : G X y d a b pc L st M Q := h ▸ k
theorem s_ialdv {X : ME} {y : MI} {d a b pc : Nat} {L st : List Value} {M : MM} {Q : MR → MM → Prop} {i j n : Nat} {x v : Int32} (hd : decode y.2.1 pc = .ok (.iaload, 1)) (hT : mT M i = (34, n)) (hx : x = nI j) (hj : j < n) (hn : n < 2147483648) (hv : mA M i j = v) (kk : G X y d a b (pc + 1) L (.int v :: st) M Q) : G X y d a b pc L (.int x :: .ref i :: st) M Q := s_iald hd hT hx hj hn (by rw [hv]; exact kk)
theorem s_baldv {X : ME} {y : MI} {d a b pc : Nat} {L st : List Value} {M : MM} {Q : MR → MM → Prop} {i j n : Nat} {x v : Int32} (hd : decode y.2.1 pc = .ok (.baload, 1)) (hT : mT M i = (32, n)) (hx : x = nI j) (hj : j < n) (hn : n < 2147483648) (hv : mA M i j = v) (kk : G X y d a b (pc + 1) L (.int v :: st) M Q) : G X y d a b pc L (.int x :: .ref i :: st) M Q := s_bald hd hT hx hj hn (by rw [hv]; exact kk)
theorem s_zaldv {X : ME} {y : MI} {d a b pc : Nat} {L st : List Value} {M : MM} {Q : MR → MM → Prop} {i j n : Nat} {x v : Int32} (hd : decode y.2.1 pc = .ok (.baload, 1)) (hT : mT M i = (36, n)) (hx : x = nI j) (hj : j < n) (hn : n < 2147483648) (hv : mA M i j = v) (kk : G X y d a b (pc + 1) L (.int v :: st) M Q) : G X y d a b pc L (.int x :: .ref i :: st) M Q := s_zald hd hT hx hj hn (by rw [hv]; exact kk)
theorem s_laldv {X : ME} {y : MI} {d a b pc : Nat} {L st : List Value} {M : MM} {Q : MR → MM → Prop} {i j n : Nat} {x : Int32} {v : Int64} (hd : decode y.2.1 pc = .ok (.laload, 1)) (hT : mT M i = (35, n)) (hx : x = nI j) (hj : j < n) (hn : n < 2147483648) (hv : mJ M i j = v) (kk : G X y d a b (pc + 1) L (.long v :: st) M Q) : G X y d a b pc L (.int x :: .ref i :: st) M Q := s_lald hd hT hx hj hn (by rw [hv]; exact kk)
theorem s_getIv {X : ME} {y : MI} {d a b pc : Nat} {L st : List Value} {M : MM} {Q : MR → MM → Prop} {i t k idx : Nat} {v : Int32} (hd : decode y.2.1 pc = .ok (.getfield idx, 3)) (hf : LkF y.1.cls idx t k) (hT : (mT M i).1 = t) (hy : kd (mty t k) = 0) (hv : mA M i k = v) (kk : G X y d a b (pc + 3) L (.int v :: st) M Q) : G X y d a b pc L (.ref i :: st) M Q := s_getI hd hf hT hy (by rw [hv]; exact kk)
/-- counting down from above -/
theorem upto {P : Nat → Prop} (N : Nat) (hN : P N) (hs : ∀ k, k < N → P (k + 1) → P k) : ∀ k, k ≤ N → P k := by
  intro k hk
  obtain ⟨j, rfl⟩ : ∃ j, N = k + j := ⟨N - k, by omega⟩
  clear hk
  induction j generalizing k with
  | zero => exact hN
  | succ j ih =>
    by_cases h0 : k < k + (j + 1)
    · exact hs k h0 (ih (k + 1) (by rw [show k + 1 + j = k + (j + 1) by omega]; exact hN) (fun m hm => hs m (by omega)))
    · omega
/-- a place whose locals are known in part, from one where less is known -/
theorem G.locU {X : ME} {y : MI} {d a b pc : Nat} {L L' st : List Value} {M : MM} {Q : MR → MM → Prop} (k : G X y d a b pc L' st M Q) (h : ∀ (i : Nat) (x : Value), L'[i]? = some x → x ≠ vU → L[i]? = some x) : G X y d a b pc L st M Q :=
  fun p e s m args below meth c H locs cells slots mc ms ls C D => k p e s m args below meth c H locs cells slots mc ms ls C ⟨D.1, ⟨D.2.1.1, D.2.1.2.1, fun i x hx hu => D.2.1.2.2 i x (h i x hx hu) hu⟩, D.2.2⟩
theorem nIl (n : Nat) : (OfNat.ofNat n : Int32) = nI (OfNat.ofNat n) := rfl
theorem ex_ks {X : ME} {y : MI} {d a b pc : Nat} {L st : List Value} {M' : MM} {Q : MR → MM → Prop} {w : Value} (h : G X y d a b pc L (w :: st) M' Q) : ∀ v M1, ex (some w) M' (.inl v) M1 → G X y d a b pc L (v.toList ++ st) M1 Q := fun _ _ g => by obtain ⟨g1, g2⟩ := g; cases g1; subst g2; exact h
theorem ex_kv {X : ME} {y : MI} {d a b pc : Nat} {L st : List Value} {M' : MM} {Q : MR → MM → Prop} (h : G X y d a b pc L st M' Q) : ∀ v M1, ex none M' (.inl v) M1 → G X y d a b pc L (v.toList ++ st) M1 Q := fun _ _ g => by obtain ⟨g1, g2⟩ := g; cases g1; subst g2; exact h
theorem nI_inc (k : Nat) : nI k + Int32.ofInt 1 = nI (k + 1) := nI_1 k
def b2i (b : Bool) : Int32 := if b = true then 1 else 0
theorem b2i_01 (b : Bool) : b2i b = 0 ∨ b2i b = 1 := by cases b <;> simp [b2i]
theorem b2i_t : b2i true = 1 := rfl
theorem b2i_f : b2i false = 0 := rfl
theorem b2i_eq0 {b : Bool} : b2i b = 0 ↔ b = false := by cases b <;> simp [b2i]
theorem b2i_ne0 {b : Bool} : ¬ b2i b = 0 ↔ b = true := by cases b <;> simp [b2i]
/-- where the memory's A, J part is written, tags and references stay -/
theorem mT_wA {M : MM} {A} : mT (wA M A) = mT M := rfl
theorem mV_wA {M : MM} {A} : mV (wA M A) = mV M := rfl
theorem mJ_wA {M : MM} {A} : mJ (wA M A) = mJ M := rfl
theorem mA_wA {M : MM} {A} : mA (wA M A) = A := rfl
theorem mN_wA {M : MM} {A} : mN (wA M A) = mN M := rfl
theorem mT_wJ {M : MM} {A} : mT (wJ M A) = mT M := rfl
theorem mV_wJ {M : MM} {A} : mV (wJ M A) = mV M := rfl
theorem mJ_wJ {M : MM} {A} : mJ (wJ M A) = A := rfl
theorem mA_wJ {M : MM} {A} : mA (wJ M A) = mA M := rfl
theorem mN_wJ {M : MM} {A} : mN (wJ M A) = mN M := rfl
theorem wA_wA {M : MM} {A B} : wA (wA M A) B = wA M B := rfl
theorem wJ_wJ {M : MM} {A B} : wJ (wJ M A) B = wJ M B := rfl
theorem wA_self {M : MM} : wA M (mA M) = M := rfl
theorem wJ_self {M : MM} : wJ M (mJ M) = M := rfl
theorem wA_wJ {M : MM} {A B} : wJ (wA M A) B = wA (wJ M B) A := rfl
theorem up2_ne {α : Type} {f : Nat → Nat → α} {c k c' k' : Nat} {v : α} (h : c' ≠ c ∨ k' ≠ k) : up2 f c k v c' k' = f c' k' := by
  unfold up2
  rw [if_neg]
  intro e
  exact h.elim (fun q => q e.1) (fun q => q e.2)
/-- a cell's ints (longs) written anew -/
def wC (M : MM) (c : Nat) (f : Nat → Int32) : MM := wA M (fun c' k => if c' = c then f k else mA M c' k)
def wD (M : MM) (c : Nat) (f : Nat → Int64) : MM := wJ M (fun c' k => if c' = c then f k else mJ M c' k)
def upF {α : Type} (f : Nat → α) (k : Nat) (v : α) : Nat → α := fun j => if j = k then v else f j
theorem upF_s {α : Type} (f : Nat → α) (k : Nat) (v : α) : upF f k v k = v := by simp [upF]
theorem upF_n {α : Type} {f : Nat → α} {k j : Nat} {v : α} (h : j ≠ k) : upF f k v j = f j := by simp [upF, h]
theorem mA_wC {M : MM} {c : Nat} {f : Nat → Int32} : mA (wC M c f) c = f := by funext k; simp [wC, mA, wA]
theorem mA_wCn {M : MM} {c c' : Nat} {f : Nat → Int32} (h : c' ≠ c) : mA (wC M c f) c' = mA M c' := by funext k; simp [wC, mA, wA, h]
theorem mJ_wD {M : MM} {c : Nat} {f : Nat → Int64} : mJ (wD M c f) c = f := by funext k; simp [wD, mJ, wJ]
theorem mJ_wDn {M : MM} {c c' : Nat} {f : Nat → Int64} (h : c' ≠ c) : mJ (wD M c f) c' = mJ M c' := by funext k; simp [wD, mJ, wJ, h]
theorem mJ_wC {M : MM} {c : Nat} {f : Nat → Int32} : mJ (wC M c f) = mJ M := rfl
theorem mA_wD {M : MM} {c : Nat} {f : Nat → Int64} : mA (wD M c f) = mA M := rfl
theorem mT_wC {M : MM} {c : Nat} {f : Nat → Int32} : mT (wC M c f) = mT M := rfl
theorem mV_wC {M : MM} {c : Nat} {f : Nat → Int32} : mV (wC M c f) = mV M := rfl
theorem mN_wC {M : MM} {c : Nat} {f : Nat → Int32} : mN (wC M c f) = mN M := rfl
theorem mT_wD {M : MM} {c : Nat} {f : Nat → Int64} : mT (wD M c f) = mT M := rfl
theorem mV_wD {M : MM} {c : Nat} {f : Nat → Int64} : mV (wD M c f) = mV M := rfl
theorem mN_wD {M : MM} {c : Nat} {f : Nat → Int64} : mN (wD M c f) = mN M := rfl
theorem sA_C {M : MM} {c k : Nat} {v : Int32} : sA M c k v = wC M c (upF (mA M c) k v) := by
  unfold sA wC
  congr 1
  funext c' k'
  by_cases hc : c' = c
  · subst hc
    by_cases hk : k' = k <;> simp [up2, upF, hk]
  · simp [up2, hc]
theorem sJ_D {M : MM} {c k : Nat} {v : Int64} : sJ M c k v = wD M c (upF (mJ M c) k v) := by
  unfold sJ wD
  congr 1
  funext c' k'
  by_cases hc : c' = c
  · subst hc
    by_cases hk : k' = k <;> simp [up2, upF, hk]
  · simp [up2, hc]
theorem wC_wC {M : MM} {c : Nat} {f g : Nat → Int32} : wC (wC M c f) c g = wC M c g := by
  unfold wC
  rw [wA_wA]
  congr 1
  funext c' k
  by_cases h : c' = c <;> simp [h, mA, wA]
theorem wD_wD {M : MM} {c : Nat} {f g : Nat → Int64} : wD (wD M c f) c g = wD M c g := by
  unfold wD
  rw [wJ_wJ]
  congr 1
  funext c' k
  by_cases h : c' = c <;> simp [h, mJ, wJ]
theorem wC_comm {M : MM} {c c' : Nat} {f g : Nat → Int32} (h : c ≠ c') : wC (wC M c f) c' g = wC (wC M c' g) c f := by
  unfold wC
  rw [wA_wA, wA_wA]
  congr 1
  funext z k
  by_cases h1 : z = c
  · subst h1; simp [mA, wA, h]
  · by_cases h2 : z = c'
    · subst h2; simp [mA, wA, h1]
    · simp [mA, wA, h1, h2]
theorem wC_wD {M : MM} {c c' : Nat} {f : Nat → Int32} {g : Nat → Int64} : wD (wC M c f) c' g = wC (wD M c' g) c f := rfl
theorem wC_self {M : MM} {c : Nat} : wC M c (mA M c) = M := by
  unfold wC
  rw [show (fun c' k => if c' = c then mA M c k else mA M c' k) = mA M from by funext c' k; by_cases h : c' = c <;> simp [h]]
  exact wA_self
theorem wD_self {M : MM} {c : Nat} : wD M c (mJ M c) = M := by
  unfold wD
  rw [show (fun c' k => if c' = c then mJ M c k else mJ M c' k) = mJ M from by funext c' k; by_cases h : c' = c <;> simp [h]]
  exact wJ_self
theorem sA_wC {M : MM} {c k : Nat} {f : Nat → Int32} {v : Int32} : sA (wC M c f) c k v = wC M c (upF f k v) := by rw [sA_C, mA_wC, wC_wC]
theorem sJ_wD {M : MM} {c k : Nat} {f : Nat → Int64} {v : Int64} : sJ (wD M c f) c k v = wD M c (upF f k v) := by rw [sJ_D, mJ_wD, wD_wD]
def MFT : List (Nat × (Nat × Nat)) := [(41, (9, 48)), (42, (34, 2000)), (43, (35, 260)), (44, (35, 220)), (45, (34, 4)), (46, (34, 4)), (47, (35, 240)), (48, (32, 900)), (49, (32, 900)), (50, (34, 24)), (51, (35, 240)), (52, (34, 100)), (53, (34, 3)), (54, (34, 49152)), (55, (35, 4)), (56, (35, 4)), (57, (34, 4096)), (58, (36, 48)), (59, (34, 3072)), (60, (34, 4)), (61, (34, 48)), (62, (34, 6)), (63, (34, 6))]
def MFV : List (Nat × Nat × Nat) := [(41, 0, 42), (41, 1, 43), (41, 2, 44), (41, 6, 45), (41, 7, 46), (41, 8, 47), (41, 9, 48), (41, 10, 49), (41, 22, 50), (41, 23, 51), (41, 24, 52), (41, 28, 53), (41, 31, 54), (41, 32, 55), (41, 33, 56), (41, 34, 57), (41, 35, 58), (41, 36, 59), (41, 42, 60), (41, 43, 61), (41, 44, 62), (41, 46, 63)]
def MF (M : MM) : Prop := (∀ p ∈ MFT, mT M p.1 = p.2) ∧ ∀ p ∈ MFV, mV M p.1 p.2.1 = .ref p.2.2
theorem MF.t41 {M : MM} (F : MF M) : mT M 41 = (9, 48) := F.1 (41, (9, 48)) (by decide)
theorem MF.t42 {M : MM} (F : MF M) : mT M 42 = (34, 2000) := F.1 (42, (34, 2000)) (by decide)
theorem MF.t43 {M : MM} (F : MF M) : mT M 43 = (35, 260) := F.1 (43, (35, 260)) (by decide)
theorem MF.t44 {M : MM} (F : MF M) : mT M 44 = (35, 220) := F.1 (44, (35, 220)) (by decide)
theorem MF.t45 {M : MM} (F : MF M) : mT M 45 = (34, 4) := F.1 (45, (34, 4)) (by decide)
theorem MF.t46 {M : MM} (F : MF M) : mT M 46 = (34, 4) := F.1 (46, (34, 4)) (by decide)
theorem MF.t47 {M : MM} (F : MF M) : mT M 47 = (35, 240) := F.1 (47, (35, 240)) (by decide)
theorem MF.t48 {M : MM} (F : MF M) : mT M 48 = (32, 900) := F.1 (48, (32, 900)) (by decide)
theorem MF.t49 {M : MM} (F : MF M) : mT M 49 = (32, 900) := F.1 (49, (32, 900)) (by decide)
theorem MF.t50 {M : MM} (F : MF M) : mT M 50 = (34, 24) := F.1 (50, (34, 24)) (by decide)
theorem MF.t51 {M : MM} (F : MF M) : mT M 51 = (35, 240) := F.1 (51, (35, 240)) (by decide)
theorem MF.t52 {M : MM} (F : MF M) : mT M 52 = (34, 100) := F.1 (52, (34, 100)) (by decide)
theorem MF.t53 {M : MM} (F : MF M) : mT M 53 = (34, 3) := F.1 (53, (34, 3)) (by decide)
theorem MF.t54 {M : MM} (F : MF M) : mT M 54 = (34, 49152) := F.1 (54, (34, 49152)) (by decide)
theorem MF.t55 {M : MM} (F : MF M) : mT M 55 = (35, 4) := F.1 (55, (35, 4)) (by decide)
theorem MF.t56 {M : MM} (F : MF M) : mT M 56 = (35, 4) := F.1 (56, (35, 4)) (by decide)
theorem MF.t57 {M : MM} (F : MF M) : mT M 57 = (34, 4096) := F.1 (57, (34, 4096)) (by decide)
theorem MF.t58 {M : MM} (F : MF M) : mT M 58 = (36, 48) := F.1 (58, (36, 48)) (by decide)
theorem MF.t59 {M : MM} (F : MF M) : mT M 59 = (34, 3072) := F.1 (59, (34, 3072)) (by decide)
theorem MF.t60 {M : MM} (F : MF M) : mT M 60 = (34, 4) := F.1 (60, (34, 4)) (by decide)
theorem MF.t61 {M : MM} (F : MF M) : mT M 61 = (34, 48) := F.1 (61, (34, 48)) (by decide)
theorem MF.t62 {M : MM} (F : MF M) : mT M 62 = (34, 6) := F.1 (62, (34, 6)) (by decide)
theorem MF.t63 {M : MM} (F : MF M) : mT M 63 = (34, 6) := F.1 (63, (34, 6)) (by decide)
theorem MF.v41_0 {M : MM} (F : MF M) : mV M 41 0 = .ref 42 := F.2 (41, 0, 42) (by decide)
theorem MF.v41_1 {M : MM} (F : MF M) : mV M 41 1 = .ref 43 := F.2 (41, 1, 43) (by decide)
theorem MF.v41_2 {M : MM} (F : MF M) : mV M 41 2 = .ref 44 := F.2 (41, 2, 44) (by decide)
theorem MF.v41_6 {M : MM} (F : MF M) : mV M 41 6 = .ref 45 := F.2 (41, 6, 45) (by decide)
theorem MF.v41_7 {M : MM} (F : MF M) : mV M 41 7 = .ref 46 := F.2 (41, 7, 46) (by decide)
theorem MF.v41_8 {M : MM} (F : MF M) : mV M 41 8 = .ref 47 := F.2 (41, 8, 47) (by decide)
theorem MF.v41_9 {M : MM} (F : MF M) : mV M 41 9 = .ref 48 := F.2 (41, 9, 48) (by decide)
theorem MF.v41_10 {M : MM} (F : MF M) : mV M 41 10 = .ref 49 := F.2 (41, 10, 49) (by decide)
theorem MF.v41_22 {M : MM} (F : MF M) : mV M 41 22 = .ref 50 := F.2 (41, 22, 50) (by decide)
theorem MF.v41_23 {M : MM} (F : MF M) : mV M 41 23 = .ref 51 := F.2 (41, 23, 51) (by decide)
theorem MF.v41_24 {M : MM} (F : MF M) : mV M 41 24 = .ref 52 := F.2 (41, 24, 52) (by decide)
theorem MF.v41_28 {M : MM} (F : MF M) : mV M 41 28 = .ref 53 := F.2 (41, 28, 53) (by decide)
theorem MF.v41_31 {M : MM} (F : MF M) : mV M 41 31 = .ref 54 := F.2 (41, 31, 54) (by decide)
theorem MF.v41_32 {M : MM} (F : MF M) : mV M 41 32 = .ref 55 := F.2 (41, 32, 55) (by decide)
theorem MF.v41_33 {M : MM} (F : MF M) : mV M 41 33 = .ref 56 := F.2 (41, 33, 56) (by decide)
theorem MF.v41_34 {M : MM} (F : MF M) : mV M 41 34 = .ref 57 := F.2 (41, 34, 57) (by decide)
theorem MF.v41_35 {M : MM} (F : MF M) : mV M 41 35 = .ref 58 := F.2 (41, 35, 58) (by decide)
theorem MF.v41_36 {M : MM} (F : MF M) : mV M 41 36 = .ref 59 := F.2 (41, 36, 59) (by decide)
theorem MF.v41_42 {M : MM} (F : MF M) : mV M 41 42 = .ref 60 := F.2 (41, 42, 60) (by decide)
theorem MF.v41_43 {M : MM} (F : MF M) : mV M 41 43 = .ref 61 := F.2 (41, 43, 61) (by decide)
theorem MF.v41_44 {M : MM} (F : MF M) : mV M 41 44 = .ref 62 := F.2 (41, 44, 62) (by decide)
theorem MF.v41_46 {M : MM} (F : MF M) : mV M 41 46 = .ref 63 := F.2 (41, 46, 63) (by decide)
theorem MF.g41 {M : MM} (F : MF M) : (mT M 41).1 = 9 := by rw [F.t41]
theorem MF.q41 {M : MM} (F : MF M) : mcl[(mT M 41).1]? = some (RX9, TX9, 48) := by rw [F.t41]; rfl
theorem MF.to {M M1 : MM} (F : MF M) (h1 : mT M1 = mT M) (h2 : mV M1 = mV M) : MF M1 := by unfold MF; rw [h1, h2]; exact F
def CFT : List (Nat × (Nat × Nat)) := [(0, (0, 24)), (1, (37, 4)), (2, (1, 1)), (3, (1, 1)), (4, (1, 1)), (5, (1, 1)), (6, (32, 900)), (7, (2, 8)), (8, (3, 7)), (9, (4, 3)), (24, (7, 6)), (25, (34, 12)), (26, (34, 12)), (27, (34, 12)), (28, (34, 12)), (29, (40, 3)), (30, (32, 3072)), (31, (33, 1024)), (32, (34, 2)), (33, (8, 5)), (34, (7, 6)), (35, (34, 12)), (36, (34, 12)), (37, (34, 12)), (38, (34, 12)), (39, (34, 4)), (40, (34, 6))]
def CFV : List (Nat × Nat × Nat) := [(0, 0, 1), (0, 1, 6), (0, 5, 7), (0, 6, 8), (0, 10, 9), (0, 11, 29), (0, 13, 30), (0, 14, 31), (0, 15, 32), (0, 20, 33), (0, 23, 40), (9, 1, 24), (24, 0, 25), (24, 1, 26), (24, 2, 27), (24, 3, 28), (33, 0, 34), (33, 1, 39), (33, 4, 0), (34, 0, 35), (34, 1, 36), (34, 2, 37), (34, 3, 38)]
def CF (M : MM) : Prop := (∀ p ∈ CFT, mT M p.1 = p.2) ∧ ∀ p ∈ CFV, mV M p.1 p.2.1 = .ref p.2.2
theorem CF.t0 {M : MM} (F : CF M) : mT M 0 = (0, 24) := F.1 (0, (0, 24)) (by decide)
theorem CF.t1 {M : MM} (F : CF M) : mT M 1 = (37, 4) := F.1 (1, (37, 4)) (by decide)
theorem CF.t2 {M : MM} (F : CF M) : mT M 2 = (1, 1) := F.1 (2, (1, 1)) (by decide)
theorem CF.t3 {M : MM} (F : CF M) : mT M 3 = (1, 1) := F.1 (3, (1, 1)) (by decide)
theorem CF.t4 {M : MM} (F : CF M) : mT M 4 = (1, 1) := F.1 (4, (1, 1)) (by decide)
theorem CF.t5 {M : MM} (F : CF M) : mT M 5 = (1, 1) := F.1 (5, (1, 1)) (by decide)
theorem CF.t6 {M : MM} (F : CF M) : mT M 6 = (32, 900) := F.1 (6, (32, 900)) (by decide)
theorem CF.t7 {M : MM} (F : CF M) : mT M 7 = (2, 8) := F.1 (7, (2, 8)) (by decide)
theorem CF.t8 {M : MM} (F : CF M) : mT M 8 = (3, 7) := F.1 (8, (3, 7)) (by decide)
theorem CF.t9 {M : MM} (F : CF M) : mT M 9 = (4, 3) := F.1 (9, (4, 3)) (by decide)
theorem CF.t24 {M : MM} (F : CF M) : mT M 24 = (7, 6) := F.1 (24, (7, 6)) (by decide)
theorem CF.t25 {M : MM} (F : CF M) : mT M 25 = (34, 12) := F.1 (25, (34, 12)) (by decide)
theorem CF.t26 {M : MM} (F : CF M) : mT M 26 = (34, 12) := F.1 (26, (34, 12)) (by decide)
theorem CF.t27 {M : MM} (F : CF M) : mT M 27 = (34, 12) := F.1 (27, (34, 12)) (by decide)
theorem CF.t28 {M : MM} (F : CF M) : mT M 28 = (34, 12) := F.1 (28, (34, 12)) (by decide)
theorem CF.t29 {M : MM} (F : CF M) : mT M 29 = (40, 3) := F.1 (29, (40, 3)) (by decide)
theorem CF.t30 {M : MM} (F : CF M) : mT M 30 = (32, 3072) := F.1 (30, (32, 3072)) (by decide)
theorem CF.t31 {M : MM} (F : CF M) : mT M 31 = (33, 1024) := F.1 (31, (33, 1024)) (by decide)
theorem CF.t32 {M : MM} (F : CF M) : mT M 32 = (34, 2) := F.1 (32, (34, 2)) (by decide)
theorem CF.t33 {M : MM} (F : CF M) : mT M 33 = (8, 5) := F.1 (33, (8, 5)) (by decide)
theorem CF.t34 {M : MM} (F : CF M) : mT M 34 = (7, 6) := F.1 (34, (7, 6)) (by decide)
theorem CF.t35 {M : MM} (F : CF M) : mT M 35 = (34, 12) := F.1 (35, (34, 12)) (by decide)
theorem CF.t36 {M : MM} (F : CF M) : mT M 36 = (34, 12) := F.1 (36, (34, 12)) (by decide)
theorem CF.t37 {M : MM} (F : CF M) : mT M 37 = (34, 12) := F.1 (37, (34, 12)) (by decide)
theorem CF.t38 {M : MM} (F : CF M) : mT M 38 = (34, 12) := F.1 (38, (34, 12)) (by decide)
theorem CF.t39 {M : MM} (F : CF M) : mT M 39 = (34, 4) := F.1 (39, (34, 4)) (by decide)
theorem CF.t40 {M : MM} (F : CF M) : mT M 40 = (34, 6) := F.1 (40, (34, 6)) (by decide)
theorem CF.v0_0 {M : MM} (F : CF M) : mV M 0 0 = .ref 1 := F.2 (0, 0, 1) (by decide)
theorem CF.v0_1 {M : MM} (F : CF M) : mV M 0 1 = .ref 6 := F.2 (0, 1, 6) (by decide)
theorem CF.v0_5 {M : MM} (F : CF M) : mV M 0 5 = .ref 7 := F.2 (0, 5, 7) (by decide)
theorem CF.v0_6 {M : MM} (F : CF M) : mV M 0 6 = .ref 8 := F.2 (0, 6, 8) (by decide)
theorem CF.v0_10 {M : MM} (F : CF M) : mV M 0 10 = .ref 9 := F.2 (0, 10, 9) (by decide)
theorem CF.v0_11 {M : MM} (F : CF M) : mV M 0 11 = .ref 29 := F.2 (0, 11, 29) (by decide)
theorem CF.v0_13 {M : MM} (F : CF M) : mV M 0 13 = .ref 30 := F.2 (0, 13, 30) (by decide)
theorem CF.v0_14 {M : MM} (F : CF M) : mV M 0 14 = .ref 31 := F.2 (0, 14, 31) (by decide)
theorem CF.v0_15 {M : MM} (F : CF M) : mV M 0 15 = .ref 32 := F.2 (0, 15, 32) (by decide)
theorem CF.v0_20 {M : MM} (F : CF M) : mV M 0 20 = .ref 33 := F.2 (0, 20, 33) (by decide)
theorem CF.v0_23 {M : MM} (F : CF M) : mV M 0 23 = .ref 40 := F.2 (0, 23, 40) (by decide)
theorem CF.v9_1 {M : MM} (F : CF M) : mV M 9 1 = .ref 24 := F.2 (9, 1, 24) (by decide)
theorem CF.v24_0 {M : MM} (F : CF M) : mV M 24 0 = .ref 25 := F.2 (24, 0, 25) (by decide)
theorem CF.v24_1 {M : MM} (F : CF M) : mV M 24 1 = .ref 26 := F.2 (24, 1, 26) (by decide)
theorem CF.v24_2 {M : MM} (F : CF M) : mV M 24 2 = .ref 27 := F.2 (24, 2, 27) (by decide)
theorem CF.v24_3 {M : MM} (F : CF M) : mV M 24 3 = .ref 28 := F.2 (24, 3, 28) (by decide)
theorem CF.v33_0 {M : MM} (F : CF M) : mV M 33 0 = .ref 34 := F.2 (33, 0, 34) (by decide)
theorem CF.v33_1 {M : MM} (F : CF M) : mV M 33 1 = .ref 39 := F.2 (33, 1, 39) (by decide)
theorem CF.v33_4 {M : MM} (F : CF M) : mV M 33 4 = .ref 0 := F.2 (33, 4, 0) (by decide)
theorem CF.v34_0 {M : MM} (F : CF M) : mV M 34 0 = .ref 35 := F.2 (34, 0, 35) (by decide)
theorem CF.v34_1 {M : MM} (F : CF M) : mV M 34 1 = .ref 36 := F.2 (34, 1, 36) (by decide)
theorem CF.v34_2 {M : MM} (F : CF M) : mV M 34 2 = .ref 37 := F.2 (34, 2, 37) (by decide)
theorem CF.v34_3 {M : MM} (F : CF M) : mV M 34 3 = .ref 38 := F.2 (34, 3, 38) (by decide)
theorem CF.g0 {M : MM} (F : CF M) : (mT M 0).1 = 0 := by rw [F.t0]
theorem CF.q0 {M : MM} (F : CF M) : mcl[(mT M 0).1]? = some (RX0, TX0, 24) := by rw [F.t0]; rfl
theorem CF.g2 {M : MM} (F : CF M) : (mT M 2).1 = 1 := by rw [F.t2]
theorem CF.q2 {M : MM} (F : CF M) : mcl[(mT M 2).1]? = some (RX1, TX1, 1) := by rw [F.t2]; rfl
theorem CF.g3 {M : MM} (F : CF M) : (mT M 3).1 = 1 := by rw [F.t3]
theorem CF.q3 {M : MM} (F : CF M) : mcl[(mT M 3).1]? = some (RX1, TX1, 1) := by rw [F.t3]; rfl
theorem CF.g4 {M : MM} (F : CF M) : (mT M 4).1 = 1 := by rw [F.t4]
theorem CF.q4 {M : MM} (F : CF M) : mcl[(mT M 4).1]? = some (RX1, TX1, 1) := by rw [F.t4]; rfl
theorem CF.g5 {M : MM} (F : CF M) : (mT M 5).1 = 1 := by rw [F.t5]
theorem CF.q5 {M : MM} (F : CF M) : mcl[(mT M 5).1]? = some (RX1, TX1, 1) := by rw [F.t5]; rfl
theorem CF.g7 {M : MM} (F : CF M) : (mT M 7).1 = 2 := by rw [F.t7]
theorem CF.q7 {M : MM} (F : CF M) : mcl[(mT M 7).1]? = some (RX2, TX2, 8) := by rw [F.t7]; rfl
theorem CF.g8 {M : MM} (F : CF M) : (mT M 8).1 = 3 := by rw [F.t8]
theorem CF.q8 {M : MM} (F : CF M) : mcl[(mT M 8).1]? = some (RX3, TX3, 7) := by rw [F.t8]; rfl
theorem CF.g9 {M : MM} (F : CF M) : (mT M 9).1 = 4 := by rw [F.t9]
theorem CF.q9 {M : MM} (F : CF M) : mcl[(mT M 9).1]? = some (RX4, TX4, 3) := by rw [F.t9]; rfl
theorem CF.g24 {M : MM} (F : CF M) : (mT M 24).1 = 7 := by rw [F.t24]
theorem CF.q24 {M : MM} (F : CF M) : mcl[(mT M 24).1]? = some (RX7, TX7, 6) := by rw [F.t24]; rfl
theorem CF.g33 {M : MM} (F : CF M) : (mT M 33).1 = 8 := by rw [F.t33]
theorem CF.q33 {M : MM} (F : CF M) : mcl[(mT M 33).1]? = some (RX8, TX8, 5) := by rw [F.t33]; rfl
theorem CF.g34 {M : MM} (F : CF M) : (mT M 34).1 = 7 := by rw [F.t34]
theorem CF.q34 {M : MM} (F : CF M) : mcl[(mT M 34).1]? = some (RX7, TX7, 6) := by rw [F.t34]; rfl
theorem CF.to {M M1 : MM} (F : CF M) (h1 : mT M1 = mT M) (h2 : mV M1 = mV M) : CF M1 := by unfold CF; rw [h1, h2]; exact F
