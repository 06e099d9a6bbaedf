/-! ROWS of the small machine: pure instructions -/
set_option maxRecDepth 100000
section GROWS
variable {X : ME} {y : MI} {d a b pc : Nat} {L st : List Value} {M : MM} {Q : MR → MM → Prop}
theorem s_iconst {n : Int} {v : Int32} (hd : decode y.2.1 pc = .ok (.iconst n, 1)) (hv : Int32.ofInt n = v) (k : G X y d a b (pc + 1) L (.int v :: st) M Q) : G X y d a b pc L (st) M Q := fun p e s m args below meth c H locs cells slots mc ms ls C D => lv_iconst C.1 C.2.1 hd hv (k p e s m args below meth c H locs cells slots mc ms ls C D)
theorem s_bipush {n : Int} {v : Int32} (hd : decode y.2.1 pc = .ok (.bipush n, 2)) (hv : (Int8.ofInt n).toInt32 = v) (k : G X y d a b (pc + 2) L (.int v :: st) M Q) : G X y d a b pc L (st) M Q := fun p e s m args below meth c H locs cells slots mc ms ls C D => lv_bipush C.1 C.2.1 hd hv (k p e s m args below meth c H locs cells slots mc ms ls C D)
theorem s_sipush {n : Int} {v : Int32} (hd : decode y.2.1 pc = .ok (.sipush n, 3)) (hv : (Int16.ofInt n).toInt32 = v) (k : G X y d a b (pc + 3) L (.int v :: st) M Q) : G X y d a b pc L (st) M Q := fun p e s m args below meth c H locs cells slots mc ms ls C D => lv_sipush C.1 C.2.1 hd hv (k p e s m args below meth c H locs cells slots mc ms ls C D)
theorem s_lconst {n : Fin 2} {v : Int64} (hd : decode y.2.1 pc = .ok (.lconst n, 1)) (hv : Int64.ofNat (n : Nat) = v) (k : G X y d a b (pc + 1) L (.long v :: st) M Q) : G X y d a b pc L (st) M Q := fun p e s m args below meth c H locs cells slots mc ms ls C D => lv_lconst C.1 C.2.1 hd hv (k p e s m args below meth c H locs cells slots mc ms ls C D)
theorem s_null  (hd : decode y.2.1 pc = .ok (.aconst_null, 1)) (k : G X y d a b (pc + 1) L (.null :: st) M Q) : G X y d a b pc L (st) M Q := fun p e s m args below meth c H locs cells slots mc ms ls C D => lv_null C.1 C.2.1 hd (k p e s m args below meth c H locs cells slots mc ms ls C D)
theorem s_iload_n {j : Fin 4} {x : Int32} (hd : decode y.2.1 pc = .ok (.iload_n j, 1)) (hl : L[(j : Nat)]? = some (.int x)) (k : G X y d a b (pc + 1) L (.int x :: st) M Q) : G X y d a b pc L (st) M Q := fun p e s m args below meth c H locs cells slots mc ms ls C D => lv_iload_n C.1 C.2.1 hd rfl (D.2.1.2.2 _ _ hl (fun h => by cases h)) (k p e s m args below meth c H locs cells slots mc ms ls C D)
theorem s_iload {j : Nat} {x : Int32} (hd : decode y.2.1 pc = .ok (.iload j, 2)) (hl : L[j]? = some (.int x)) (k : G X y d a b (pc + 2) L (.int x :: st) M Q) : G X y d a b pc L (st) M Q := fun p e s m args below meth c H locs cells slots mc ms ls C D => lv_iload C.1 C.2.1 hd (D.2.1.2.2 _ _ hl (fun h => by cases h)) (k p e s m args below meth c H locs cells slots mc ms ls C D)
theorem s_lload_n {j : Fin 4} {x : Int64} (hd : decode y.2.1 pc = .ok (.lload_n j, 1)) (hl : L[(j : Nat)]? = some (.long x)) (k : G X y d a b (pc + 1) L (.long x :: st) M Q) : G X y d a b pc L (st) M Q := fun p e s m args below meth c H locs cells slots mc ms ls C D => lv_lload_n C.1 C.2.1 hd rfl (D.2.1.2.2 _ _ hl (fun h => by cases h)) (k p e s m args below meth c H locs cells slots mc ms ls C D)
theorem s_lload {j : Nat} {x : Int64} (hd : decode y.2.1 pc = .ok (.lload j, 2)) (hl : L[j]? = some (.long x)) (k : G X y d a b (pc + 2) L (.long x :: st) M Q) : G X y d a b pc L (st) M Q := fun p e s m args below meth c H locs cells slots mc ms ls C D => lv_lload C.1 C.2.1 hd (D.2.1.2.2 _ _ hl (fun h => by cases h)) (k p e s m args below meth c H locs cells slots mc ms ls C D)
/-- a reference -/
def isR : Value → Prop
  | .ref _ => True
  | .null => True
  | .retAddr _ => True
  | _ => False
theorem isR.of {X : ME} {v : Value} (h : isR v) : ∃ r : Option Nat, rv X v = va_rf r := by
  cases v with
  | ref i => exact ⟨some _, rfl⟩
  | null => exact ⟨none, rfl⟩
  | retAddr k => exact ⟨eS X k, rfl⟩
  | _ => exact h.elim
theorem isR.cat {v : Value} (h : isR v) : v.category = 1 := by
  cases v <;> first | rfl | exact h.elim
theorem isR.nu {v : Value} (h : isR v) : v ≠ vU := by
  intro e
  subst e
  exact h
theorem s_aload {j : Nat} {v : Value} (hd : decode y.2.1 pc = .ok (.aload j, 2)) (hl : L[j]? = some v) (hv : isR v) (k : G X y d a b (pc + 2) L (v :: st) M Q) : G X y d a b pc L st M Q := by
  intro p e s m args below meth c H locs cells slots mc ms ls C D
  have hs := D.2.1.2.2 _ _ hl hv.nu
  have kk := k p e s m args below meth c H locs cells slots mc ms ls C D
  obtain ⟨r, hr⟩ := hv.of (X := X)
  rw [hr] at hs
  rw [List.map_cons, hr] at kk
  cases r with
  | none => exact lv_aloadN C.1 C.2.1 hd hs kk
  | some q => exact lv_aload C.1 C.2.1 hd hs kk
theorem s_aload_n {j : Fin 4} {v : Value} (hd : decode y.2.1 pc = .ok (.aload_n j, 1)) (hl : L[(j : Nat)]? = some v) (hv : isR v) (k : G X y d a b (pc + 1) L (v :: st) M Q) : G X y d a b pc L st M Q := by
  intro p e s m args below meth c H locs cells slots mc ms ls C D
  have hs := D.2.1.2.2 _ _ hl hv.nu
  have kk := k p e s m args below meth c H locs cells slots mc ms ls C D
  obtain ⟨r, hr⟩ := hv.of (X := X)
  rw [hr] at hs
  rw [List.map_cons, hr] at kk
  cases r with
  | none => exact lv_aload_nN C.1 C.2.1 hd rfl hs kk
  | some q => exact lv_aload_n C.1 C.2.1 hd rfl hs kk
/-- storing -/
def clob (L : List Value) : Nat → List Value
  | 0 => L
  | j + 1 => if (L.getD j vU).category = 2 then L.set j vU else L
def stL (L : List Value) (i : Nat) (v : Value) : List Value := (clob L i).set i v
def stL2 (L : List Value) (i : Nat) (v : Value) : List Value := ((clob L i).set (i + 1) vU).set i v
/-- the known locals, as the kit lists them -/
def lvOf (X : ME) (L : List Value) : List (Nat × Value) := (List.range L.length).filterMap fun i => if L.getD i vU = vU then none else some (i, rv X (L.getD i vU))
theorem lvOf_mem {X : ME} {L : List Value} {i : Nat} {v : Value} (h : L[i]? = some v) (hv : v ≠ vU) : (i, rv X v) ∈ lvOf X L := by
  refine List.mem_filterMap.mpr ⟨i, List.mem_range.mpr (List.getElem?_eq_some_iff.mp h).1, ?_⟩
  have : L.getD i vU = v := by simp [List.getD, h]
  rw [this, if_neg hv]
theorem LR.has {X : ME} {n : Nat} {L : List Value} {ls : Array Slot} (h : LR X n L ls) : lv_has ls n (lvOf X L) := by
  refine ⟨h.1, h.2.1, fun q hq => ?_⟩
  obtain ⟨i, -, hi⟩ := List.mem_filterMap.mp hq
  by_cases hu : L.getD i vU = vU
  · rw [if_pos hu] at hi; cases hi
  · rw [if_neg hu] at hi
    cases hi
    cases hl : L[i]? with
    | none => exact absurd (by simp [List.getD, hl]) hu
    | some v =>
      have e : L.getD i vU = v := by simp [List.getD, hl]
      rw [e] at hu ⊢
      exact h.2.2 i v hl hu
theorem clob_get {L : List Value} {i k : Nat} {w : Value} (h : (clob L i)[k]? = some w) (hw : w ≠ vU) : L[k]? = some w ∧ (k + 1 = i → w.category ≠ 2) := by
  cases i with
  | zero => exact ⟨h, fun z => by omega⟩
  | succ j =>
    replace h : (if (L.getD j vU).category = 2 then L.set j vU else L)[k]? = some w := h
    by_cases hc : (L.getD j vU).category = 2
    · rw [if_pos hc] at h
      by_cases hk : k = j
      · subst hk
        rw [List.getElem?_set] at h
        simp only [if_true] at h
        split at h
        · cases h; exact absurd rfl hw
        · cases h
      · rw [List.getElem?_set_ne (Ne.symm hk)] at h
        exact ⟨h, fun z => absurd (by omega) hk⟩
    · rw [if_neg hc] at h
      refine ⟨h, fun z => ?_⟩
      have hk : k = j := by omega
      subst hk
      intro h2
      exact hc (by simp [List.getD, h, h2])
theorem lvOf_at {X : ME} {L : List Value} {i : Nat} {v : Value} (h : L[i]? = some v) (hv : v ≠ vU) : ∃ k : Nat, (lvOf X L)[k]? = some (i, rv X v) := List.getElem?_of_mem (lvOf_mem h hv)
theorem LR.back1 {X : ME} {n i : Nat} {L : List Value} {ls ls' : Array Slot} {v : Value} (h : LR X n L ls) (hi : i < n) (hc : v.category = 1) (h' : lv_has ls' n ((i, rv X v) :: (lvOf X L).filter (fun q => !(q.1 == i) && !(q.1 + 1 == i && q.2.category == 2)))) : LR X n (stL L i v) ls' := by
  obtain ⟨h1, h2, h3⟩ := h'
  refine ⟨h1, h2, fun k w hk hw => ?_⟩
  by_cases hki : k = i
  · subst hki
    unfold stL at hk
    rw [List.getElem?_set] at hk
    simp only [if_true] at hk
    split at hk
    · cases hk; exact h3 _ List.mem_cons_self
    · cases hk
  · unfold stL at hk
    rw [List.getElem?_set_ne (Ne.symm hki)] at hk
    obtain ⟨g1, g2⟩ := clob_get hk hw
    refine h3 (k, rv X w) (List.mem_cons_of_mem _ (List.mem_filter.mpr ⟨lvOf_mem g1 hw, ?_⟩))
    simp only [rv_cat]
    by_cases hkk : k + 1 = i
    · simp [hki, g2 hkk]
    · simp [hki, hkk]
theorem LR.back2 {X : ME} {n i : Nat} {L : List Value} {ls ls' : Array Slot} {v : Value} (h : LR X n L ls) (hi : i + 1 < n) (hc : v.category = 2) (h' : lv_has ls' n ((i, rv X v) :: (lvOf X L).filter (fun q => !(q.1 == i) && (!(q.1 == i + 1) && !(q.1 + 1 == i && q.2.category == 2))))) : LR X n (stL2 L i v) ls' := by
  obtain ⟨h1, h2, h3⟩ := h'
  refine ⟨h1, h2, fun k w hk hw => ?_⟩
  by_cases hki : k = i
  · subst hki
    unfold stL2 at hk
    rw [List.getElem?_set] at hk
    simp only [if_true] at hk
    split at hk
    · cases hk; exact h3 _ List.mem_cons_self
    · cases hk
  · unfold stL2 at hk
    rw [List.getElem?_set_ne (Ne.symm hki)] at hk
    by_cases hk1 : k = i + 1
    · subst hk1
      rw [List.getElem?_set] at hk
      simp only [if_true] at hk
      split at hk
      · cases hk; exact absurd rfl hw
      · cases hk
    · rw [List.getElem?_set_ne (Ne.symm hk1)] at hk
      obtain ⟨g1, g2⟩ := clob_get hk hw
      refine h3 (k, rv X w) (List.mem_cons_of_mem _ (List.mem_filter.mpr ⟨lvOf_mem g1 hw, ?_⟩))
      simp only [rv_cat]
      by_cases hkk : k + 1 = i
      · simp [hki, hk1, g2 hkk]
      · simp [hki, hk1, hkk]
theorem s_istore_n {j : Fin 4} {x : Int32} {L' : List Value} (hd : decode y.2.1 pc = .ok (.istore_n j, 1)) (hn : (j : Nat) < y.2.2.1) (hL : stL L j (.int x) = L') (k : G X y d a b (pc + 1) L' st M Q) : G X y d a b pc L (.int x :: st) M Q := by
  subst hL
  intro p e s m args below meth c H locs cells slots mc ms ls C D
  exact lv_istore_n C.1 C.2.1 hd rfl D.2.1.has hn rfl (fun ls1 h1 => k p e s m args below meth c H locs cells slots mc ms ls1 C ⟨D.1, LR.back1 D.2.1 hn rfl h1, D.2.2⟩)
theorem s_istore {j : Nat} {x : Int32} {L' : List Value} (hd : decode y.2.1 pc = .ok (.istore j, 2)) (hn : j < y.2.2.1) (hL : stL L j (.int x) = L') (k : G X y d a b (pc + 2) L' st M Q) : G X y d a b pc L (.int x :: st) M Q := by
  subst hL
  intro p e s m args below meth c H locs cells slots mc ms ls C D
  exact lv_istore C.1 C.2.1 hd D.2.1.has hn rfl (fun ls1 h1 => k p e s m args below meth c H locs cells slots mc ms ls1 C ⟨D.1, LR.back1 D.2.1 hn rfl h1, D.2.2⟩)
theorem s_lstore_n {j : Fin 4} {x : Int64} {L' : List Value} (hd : decode y.2.1 pc = .ok (.lstore_n j, 1)) (hn : (j : Nat) + 1 < y.2.2.1) (hL : stL2 L j (.long x) = L') (k : G X y d a b (pc + 1) L' st M Q) : G X y d a b pc L (.long x :: st) M Q := by
  subst hL
  intro p e s m args below meth c H locs cells slots mc ms ls C D
  exact lv_lstore_n C.1 C.2.1 hd rfl D.2.1.has hn rfl (fun ls1 h1 => k p e s m args below meth c H locs cells slots mc ms ls1 C ⟨D.1, LR.back2 D.2.1 hn rfl h1, D.2.2⟩)
theorem s_lstore {j : Nat} {x : Int64} {L' : List Value} (hd : decode y.2.1 pc = .ok (.lstore j, 2)) (hn : j + 1 < y.2.2.1) (hL : stL2 L j (.long x) = L') (k : G X y d a b (pc + 2) L' st M Q) : G X y d a b pc L (.long x :: st) M Q := by
  subst hL
  intro p e s m args below meth c H locs cells slots mc ms ls C D
  exact lv_lstore C.1 C.2.1 hd D.2.1.has hn rfl (fun ls1 h1 => k p e s m args below meth c H locs cells slots mc ms ls1 C ⟨D.1, LR.back2 D.2.1 hn rfl h1, D.2.2⟩)
theorem s_astore_n {j : Fin 4} {v : Value} {L' : List Value} (hd : decode y.2.1 pc = .ok (.astore_n j, 1)) (hn : (j : Nat) < y.2.2.1) (hv : isR v) (hL : stL L j v = L') (k : G X y d a b (pc + 1) L' st M Q) : G X y d a b pc L (v :: st) M Q := by
  subst hL
  intro p e s m args below meth c H locs cells slots mc ms ls C D
  have hh := D.2.1.has
  have kk : ∀ ls1, lv_has ls1 y.2.2.1 (((j : Nat), rv X v) :: (lvOf X L).filter (fun q => !(q.1 == (j : Nat)) && !(q.1 + 1 == (j : Nat) && q.2.category == 2))) → W p (eL X) e (gR d mc ms) s m args below meth c H locs cells slots (gZ X Q below args s mc ms) (F0 m (pc + 1) ls1 (st.map (rv X))) := fun ls1 h1 => k p e s m args below meth c H locs cells slots mc ms ls1 C ⟨D.1, LR.back1 D.2.1 hn hv.cat h1, D.2.2⟩
  obtain ⟨r, hr⟩ := hv.of (X := X)
  rw [List.map_cons]
  rw [hr] at kk ⊢
  cases r with
  | none => exact lv_astore_nN C.1 C.2.1 hd rfl hh hn rfl kk
  | some q => exact lv_astore_n C.1 C.2.1 hd rfl hh hn rfl kk
theorem s_astore {j : Nat} {v : Value} {L' : List Value} (hd : decode y.2.1 pc = .ok (.astore j, 2)) (hn : j < y.2.2.1) (hv : isR v) (hL : stL L j v = L') (k : G X y d a b (pc + 2) L' st M Q) : G X y d a b pc L (v :: st) M Q := by
  subst hL
  intro p e s m args below meth c H locs cells slots mc ms ls C D
  have hh := D.2.1.has
  have kk : ∀ ls1, lv_has ls1 y.2.2.1 (((j : Nat), rv X v) :: (lvOf X L).filter (fun q => !(q.1 == (j : Nat)) && !(q.1 + 1 == (j : Nat) && q.2.category == 2))) → W p (eL X) e (gR d mc ms) s m args below meth c H locs cells slots (gZ X Q below args s mc ms) (F0 m (pc + 2) ls1 (st.map (rv X))) := fun ls1 h1 => k p e s m args below meth c H locs cells slots mc ms ls1 C ⟨D.1, LR.back1 D.2.1 hn hv.cat h1, D.2.2⟩
  obtain ⟨r, hr⟩ := hv.of (X := X)
  rw [List.map_cons]
  rw [hr] at kk ⊢
  cases r with
  | none => exact lv_astoreN C.1 C.2.1 hd hh hn rfl kk
  | some q => exact lv_astore C.1 C.2.1 hd hh hn rfl kk
theorem s_iinc {j : Nat} {n : Int} {x v : Int32} {L' : List Value} (hd : decode y.2.1 pc = .ok (.iinc j n, 3)) (hl : L[j]? = some (.int x)) (hv : x + Int32.ofInt n = v) (hn : j < y.2.2.1) (hL : stL L j (.int v) = L') (k : G X y d a b (pc + 3) L' st M Q) : G X y d a b pc L st M Q := by
  subst hL
  intro p e s m args below meth c H locs cells slots mc ms ls C D
  obtain ⟨i, hi⟩ := lvOf_at (X := X) hl (fun h => by cases h)
  exact lv_iinc C.1 C.2.1 hd D.2.1.has hi hv hn rfl (fun ls1 h1 => k p e s m args below meth c H locs cells slots mc ms ls1 C ⟨D.1, LR.back1 (v := .int v) D.2.1 hn rfl h1, D.2.2⟩)
theorem s_iadd {x z : Int32} (hd : decode y.2.1 pc = .ok (.iadd, 1)) (k : G X y d a b (pc + 1) L (.int (x + z) :: st) M Q) : G X y d a b pc L (.int z :: .int x :: st) M Q := fun p e s m args below meth c H locs cells slots mc ms ls C D => lv_iadd C.1 C.2.1 hd (k p e s m args below meth c H locs cells slots mc ms ls C D)
theorem s_isub {x z : Int32} (hd : decode y.2.1 pc = .ok (.isub, 1)) (k : G X y d a b (pc + 1) L (.int (x - z) :: st) M Q) : G X y d a b pc L (.int z :: .int x :: st) M Q := fun p e s m args below meth c H locs cells slots mc ms ls C D => lv_isub C.1 C.2.1 hd (k p e s m args below meth c H locs cells slots mc ms ls C D)
theorem s_imul {x z : Int32} (hd : decode y.2.1 pc = .ok (.imul, 1)) (k : G X y d a b (pc + 1) L (.int (x * z) :: st) M Q) : G X y d a b pc L (.int z :: .int x :: st) M Q := fun p e s m args below meth c H locs cells slots mc ms ls C D => lv_imul C.1 C.2.1 hd (k p e s m args below meth c H locs cells slots mc ms ls C D)
theorem s_iand {x z : Int32} (hd : decode y.2.1 pc = .ok (.iand, 1)) (k : G X y d a b (pc + 1) L (.int (x &&& z) :: st) M Q) : G X y d a b pc L (.int z :: .int x :: st) M Q := fun p e s m args below meth c H locs cells slots mc ms ls C D => lv_iand C.1 C.2.1 hd (k p e s m args below meth c H locs cells slots mc ms ls C D)
theorem s_ior {x z : Int32} (hd : decode y.2.1 pc = .ok (.ior, 1)) (k : G X y d a b (pc + 1) L (.int (x ||| z) :: st) M Q) : G X y d a b pc L (.int z :: .int x :: st) M Q := fun p e s m args below meth c H locs cells slots mc ms ls C D => lv_ior C.1 C.2.1 hd (k p e s m args below meth c H locs cells slots mc ms ls C D)
theorem s_ixor {x z : Int32} (hd : decode y.2.1 pc = .ok (.ixor, 1)) (k : G X y d a b (pc + 1) L (.int (x ^^^ z) :: st) M Q) : G X y d a b pc L (.int z :: .int x :: st) M Q := fun p e s m args below meth c H locs cells slots mc ms ls C D => lv_ixor C.1 C.2.1 hd (k p e s m args below meth c H locs cells slots mc ms ls C D)
theorem s_ishl {x z : Int32} (hd : decode y.2.1 pc = .ok (.ishl, 1)) (k : G X y d a b (pc + 1) L (.int (x <<< (z &&& 31)) :: st) M Q) : G X y d a b pc L (.int z :: .int x :: st) M Q := fun p e s m args below meth c H locs cells slots mc ms ls C D => lv_ishl C.1 C.2.1 hd (k p e s m args below meth c H locs cells slots mc ms ls C D)
theorem s_ishr {x z : Int32} (hd : decode y.2.1 pc = .ok (.ishr, 1)) (k : G X y d a b (pc + 1) L (.int (x >>> (z &&& 31)) :: st) M Q) : G X y d a b pc L (.int z :: .int x :: st) M Q := fun p e s m args below meth c H locs cells slots mc ms ls C D => lv_ishr C.1 C.2.1 hd (k p e s m args below meth c H locs cells slots mc ms ls C D)
theorem s_ladd {x z : Int64} (hd : decode y.2.1 pc = .ok (.ladd, 1)) (k : G X y d a b (pc + 1) L (.long (x + z) :: st) M Q) : G X y d a b pc L (.long z :: .long x :: st) M Q := fun p e s m args below meth c H locs cells slots mc ms ls C D => lv_ladd C.1 C.2.1 hd (k p e s m args below meth c H locs cells slots mc ms ls C D)
theorem s_lsub {x z : Int64} (hd : decode y.2.1 pc = .ok (.lsub, 1)) (k : G X y d a b (pc + 1) L (.long (x - z) :: st) M Q) : G X y d a b pc L (.long z :: .long x :: st) M Q := fun p e s m args below meth c H locs cells slots mc ms ls C D => lv_lsub C.1 C.2.1 hd (k p e s m args below meth c H locs cells slots mc ms ls C D)
theorem s_lmul {x z : Int64} (hd : decode y.2.1 pc = .ok (.lmul, 1)) (k : G X y d a b (pc + 1) L (.long (x * z) :: st) M Q) : G X y d a b pc L (.long z :: .long x :: st) M Q := fun p e s m args below meth c H locs cells slots mc ms ls C D => lv_lmul C.1 C.2.1 hd (k p e s m args below meth c H locs cells slots mc ms ls C D)
theorem s_land {x z : Int64} (hd : decode y.2.1 pc = .ok (.land, 1)) (k : G X y d a b (pc + 1) L (.long (x &&& z) :: st) M Q) : G X y d a b pc L (.long z :: .long x :: st) M Q := fun p e s m args below meth c H locs cells slots mc ms ls C D => lv_land C.1 C.2.1 hd (k p e s m args below meth c H locs cells slots mc ms ls C D)
theorem s_lor {x z : Int64} (hd : decode y.2.1 pc = .ok (.lor, 1)) (k : G X y d a b (pc + 1) L (.long (x ||| z) :: st) M Q) : G X y d a b pc L (.long z :: .long x :: st) M Q := fun p e s m args below meth c H locs cells slots mc ms ls C D => lv_lor C.1 C.2.1 hd (k p e s m args below meth c H locs cells slots mc ms ls C D)
theorem s_lxor {x z : Int64} (hd : decode y.2.1 pc = .ok (.lxor, 1)) (k : G X y d a b (pc + 1) L (.long (x ^^^ z) :: st) M Q) : G X y d a b pc L (.long z :: .long x :: st) M Q := fun p e s m args below meth c H locs cells slots mc ms ls C D => lv_lxor C.1 C.2.1 hd (k p e s m args below meth c H locs cells slots mc ms ls C D)
theorem s_idiv {x z : Int32} (hd : decode y.2.1 pc = .ok (.idiv, 1)) (hz : ¬ z = 0) (k : G X y d a b (pc + 1) L (.int (x / z) :: st) M Q) : G X y d a b pc L (.int z :: .int x :: st) M Q := fun p e s m args below meth c H locs cells slots mc ms ls C D => lv_idiv C.1 C.2.1 hd hz (k p e s m args below meth c H locs cells slots mc ms ls C D)
theorem s_irem {x z : Int32} (hd : decode y.2.1 pc = .ok (.irem, 1)) (hz : ¬ z = 0) (k : G X y d a b (pc + 1) L (.int (x - x / z * z) :: st) M Q) : G X y d a b pc L (.int z :: .int x :: st) M Q := fun p e s m args below meth c H locs cells slots mc ms ls C D => lv_irem C.1 C.2.1 hd hz (k p e s m args below meth c H locs cells slots mc ms ls C D)
theorem s_ldiv {x z : Int64} (hd : decode y.2.1 pc = .ok (.ldiv, 1)) (hz : ¬ z = 0) (k : G X y d a b (pc + 1) L (.long (x / z) :: st) M Q) : G X y d a b pc L (.long z :: .long x :: st) M Q := fun p e s m args below meth c H locs cells slots mc ms ls C D => lv_ldiv C.1 C.2.1 hd hz (k p e s m args below meth c H locs cells slots mc ms ls C D)
theorem s_lrem {x z : Int64} (hd : decode y.2.1 pc = .ok (.lrem, 1)) (hz : ¬ z = 0) (k : G X y d a b (pc + 1) L (.long (x - x / z * z) :: st) M Q) : G X y d a b pc L (.long z :: .long x :: st) M Q := fun p e s m args below meth c H locs cells slots mc ms ls C D => lv_lrem C.1 C.2.1 hd hz (k p e s m args below meth c H locs cells slots mc ms ls C D)
theorem s_ineg {x : Int32} (hd : decode y.2.1 pc = .ok (.ineg, 1)) (k : G X y d a b (pc + 1) L (.int (-x) :: st) M Q) : G X y d a b pc L (.int x :: st) M Q := fun p e s m args below meth c H locs cells slots mc ms ls C D => lv_ineg C.1 C.2.1 hd (k p e s m args below meth c H locs cells slots mc ms ls C D)
theorem s_iushr {x z : Int32} (hd : decode y.2.1 pc = .ok (.iushr, 1)) (k : G X y d a b (pc + 1) L (.int (x.toUInt32 >>> (z.toUInt32 &&& Int32.toUInt32 31)).toInt32 :: st) M Q) : G X y d a b pc L (.int z :: .int x :: st) M Q := fun p e s m args below meth c H locs cells slots mc ms ls C D => lv_iushr C.1 C.2.1 hd rfl (k p e s m args below meth c H locs cells slots mc ms ls C D)
theorem s_lshl {x : Int64} {z : Int32} (hd : decode y.2.1 pc = .ok (.lshl, 1)) (k : G X y d a b (pc + 1) L (.long (x <<< (z.toInt64 &&& 63)) :: st) M Q) : G X y d a b pc L (.int z :: .long x :: st) M Q := fun p e s m args below meth c H locs cells slots mc ms ls C D => lv_lshl C.1 C.2.1 hd rfl (k p e s m args below meth c H locs cells slots mc ms ls C D)
theorem s_lshr {x : Int64} {z : Int32} (hd : decode y.2.1 pc = .ok (.lshr, 1)) (k : G X y d a b (pc + 1) L (.long (x >>> (z.toInt64 &&& 63)) :: st) M Q) : G X y d a b pc L (.int z :: .long x :: st) M Q := fun p e s m args below meth c H locs cells slots mc ms ls C D => lv_lshr C.1 C.2.1 hd rfl (k p e s m args below meth c H locs cells slots mc ms ls C D)
theorem s_i2l {x : Int32} (hd : decode y.2.1 pc = .ok (.i2l, 1)) (k : G X y d a b (pc + 1) L (.long x.toInt64 :: st) M Q) : G X y d a b pc L (.int x :: st) M Q := fun p e s m args below meth c H locs cells slots mc ms ls C D => lv_i2l C.1 C.2.1 hd rfl (k p e s m args below meth c H locs cells slots mc ms ls C D)
theorem s_l2i {x : Int64} (hd : decode y.2.1 pc = .ok (.l2i, 1)) (k : G X y d a b (pc + 1) L (.int x.toInt32 :: st) M Q) : G X y d a b pc L (.long x :: st) M Q := fun p e s m args below meth c H locs cells slots mc ms ls C D => lv_l2i C.1 C.2.1 hd rfl (k p e s m args below meth c H locs cells slots mc ms ls C D)
theorem s_i2b {x : Int32} (hd : decode y.2.1 pc = .ok (.i2b, 1)) (k : G X y d a b (pc + 1) L (.int x.toInt8.toInt32 :: st) M Q) : G X y d a b pc L (.int x :: st) M Q := fun p e s m args below meth c H locs cells slots mc ms ls C D => lv_i2b C.1 C.2.1 hd rfl (k p e s m args below meth c H locs cells slots mc ms ls C D)
theorem s_i2s {x : Int32} (hd : decode y.2.1 pc = .ok (.i2s, 1)) (k : G X y d a b (pc + 1) L (.int x.toInt16.toInt32 :: st) M Q) : G X y d a b pc L (.int x :: st) M Q := fun p e s m args below meth c H locs cells slots mc ms ls C D => lv_i2s C.1 C.2.1 hd rfl (k p e s m args below meth c H locs cells slots mc ms ls C D)
theorem s_i2c {x : Int32} (hd : decode y.2.1 pc = .ok (.i2c, 1)) (k : G X y d a b (pc + 1) L (.int (x.toUInt32 % 65536).toInt32 :: st) M Q) : G X y d a b pc L (.int x :: st) M Q := fun p e s m args below meth c H locs cells slots mc ms ls C D => lv_i2c C.1 C.2.1 hd rfl (k p e s m args below meth c H locs cells slots mc ms ls C D)
theorem s_lcmp {x z : Int64} (hd : decode y.2.1 pc = .ok (.lcmp, 1)) (k : G X y d a b (pc + 1) L (.int (lg_cmp x z) :: st) M Q) : G X y d a b pc L (.long z :: .long x :: st) M Q := fun p e s m args below meth c H locs cells slots mc ms ls C D => W.lcmp C.1 C.2.1 hd (k p e s m args below meth c H locs cells slots mc ms ls C D)
theorem s_dup {v : Value} (hd : decode y.2.1 pc = .ok (.dup, 1)) (hv : v.category = 1) (k : G X y d a b (pc + 1) L (v :: v :: st) M Q) : G X y d a b pc L (v :: st) M Q := fun p e s m args below meth c H locs cells slots mc ms ls C D => lv_dup C.1 C.2.1 hd (by rw [rv_cat]; exact hv) (k p e s m args below meth c H locs cells slots mc ms ls C D)
theorem s_pop {v : Value} (hd : decode y.2.1 pc = .ok (.pop, 1)) (hv : v.category = 1) (k : G X y d a b (pc + 1) L (st) M Q) : G X y d a b pc L (v :: st) M Q := fun p e s m args below meth c H locs cells slots mc ms ls C D => lv_pop C.1 C.2.1 hd (by rw [rv_cat]; exact hv) (k p e s m args below meth c H locs cells slots mc ms ls C D)
theorem s_dup_x1 {v w : Value} (hd : decode y.2.1 pc = .ok (.dup_x1, 1)) (hv : v.category = 1) (hw : w.category = 1) (k : G X y d a b (pc + 1) L (v :: w :: v :: st) M Q) : G X y d a b pc L (v :: w :: st) M Q := fun p e s m args below meth c H locs cells slots mc ms ls C D => lv_dup_x1 C.1 C.2.1 hd (by rw [rv_cat]; exact hv) (by rw [rv_cat]; exact hw) (k p e s m args below meth c H locs cells slots mc ms ls C D)
theorem s_dup2 {v w : Value} (hd : decode y.2.1 pc = .ok (.dup2, 1)) (hv : v.category = 1) (hw : w.category = 1) (k : G X y d a b (pc + 1) L (v :: w :: v :: w :: st) M Q) : G X y d a b pc L (v :: w :: st) M Q := fun p e s m args below meth c H locs cells slots mc ms ls C D => lv_dup2_11 C.1 C.2.1 hd (by rw [rv_cat]; exact hv) (by rw [rv_cat]; exact hw) (k p e s m args below meth c H locs cells slots mc ms ls C D)
theorem s_if_eq {x : Int32} {off : Int} {tgt : Nat} (hd : decode y.2.1 pc = .ok (.ifCond .eq off, 3)) (ht : (pc : Int) + off = (tgt : Int)) (kt : x = 0 → G X y d a b tgt L st M Q) (kf : ¬ x = 0 → G X y d a b (pc + 3) L st M Q) : G X y d a b pc L (.int x :: st) M Q := fun p e s m args below meth c H locs cells slots mc ms ls C D => lv_if_eq C.1 C.2.1 hd ht (fun h => kt h p e s m args below meth c H locs cells slots mc ms ls C D) (fun h => kf h p e s m args below meth c H locs cells slots mc ms ls C D)
theorem s_icmp_eq {x z : Int32} {off : Int} {tgt : Nat} (hd : decode y.2.1 pc = .ok (.if_icmp .eq off, 3)) (ht : (pc : Int) + off = (tgt : Int)) (kt : x = z → G X y d a b tgt L st M Q) (kf : ¬ x = z → G X y d a b (pc + 3) L st M Q) : G X y d a b pc L (.int z :: .int x :: st) M Q := fun p e s m args below meth c H locs cells slots mc ms ls C D => lv_icmp_eq C.1 C.2.1 hd ht (fun h => kt h p e s m args below meth c H locs cells slots mc ms ls C D) (fun h => kf h p e s m args below meth c H locs cells slots mc ms ls C D)
theorem s_if_ne {x : Int32} {off : Int} {tgt : Nat} (hd : decode y.2.1 pc = .ok (.ifCond .ne off, 3)) (ht : (pc : Int) + off = (tgt : Int)) (kt : ¬ x = 0 → G X y d a b tgt L st M Q) (kf : x = 0 → G X y d a b (pc + 3) L st M Q) : G X y d a b pc L (.int x :: st) M Q := fun p e s m args below meth c H locs cells slots mc ms ls C D => lv_if_ne C.1 C.2.1 hd ht (fun h => kt h p e s m args below meth c H locs cells slots mc ms ls C D) (fun h => kf h p e s m args below meth c H locs cells slots mc ms ls C D)
theorem s_icmp_ne {x z : Int32} {off : Int} {tgt : Nat} (hd : decode y.2.1 pc = .ok (.if_icmp .ne off, 3)) (ht : (pc : Int) + off = (tgt : Int)) (kt : ¬ x = z → G X y d a b tgt L st M Q) (kf : x = z → G X y d a b (pc + 3) L st M Q) : G X y d a b pc L (.int z :: .int x :: st) M Q := fun p e s m args below meth c H locs cells slots mc ms ls C D => lv_icmp_ne C.1 C.2.1 hd ht (fun h => kt h p e s m args below meth c H locs cells slots mc ms ls C D) (fun h => kf h p e s m args below meth c H locs cells slots mc ms ls C D)
theorem s_if_lt {x : Int32} {off : Int} {tgt : Nat} (hd : decode y.2.1 pc = .ok (.ifCond .lt off, 3)) (ht : (pc : Int) + off = (tgt : Int)) (kt : x < 0 → G X y d a b tgt L st M Q) (kf : ¬ x < 0 → G X y d a b (pc + 3) L st M Q) : G X y d a b pc L (.int x :: st) M Q := fun p e s m args below meth c H locs cells slots mc ms ls C D => lv_if_lt C.1 C.2.1 hd ht (fun h => kt h p e s m args below meth c H locs cells slots mc ms ls C D) (fun h => kf h p e s m args below meth c H locs cells slots mc ms ls C D)
theorem s_icmp_lt {x z : Int32} {off : Int} {tgt : Nat} (hd : decode y.2.1 pc = .ok (.if_icmp .lt off, 3)) (ht : (pc : Int) + off = (tgt : Int)) (kt : x < z → G X y d a b tgt L st M Q) (kf : ¬ x < z → G X y d a b (pc + 3) L st M Q) : G X y d a b pc L (.int z :: .int x :: st) M Q := fun p e s m args below meth c H locs cells slots mc ms ls C D => lv_icmp_lt C.1 C.2.1 hd ht (fun h => kt h p e s m args below meth c H locs cells slots mc ms ls C D) (fun h => kf h p e s m args below meth c H locs cells slots mc ms ls C D)
theorem s_if_ge {x : Int32} {off : Int} {tgt : Nat} (hd : decode y.2.1 pc = .ok (.ifCond .ge off, 3)) (ht : (pc : Int) + off = (tgt : Int)) (kt : 0 ≤ x → G X y d a b tgt L st M Q) (kf : ¬ 0 ≤ x → G X y d a b (pc + 3) L st M Q) : G X y d a b pc L (.int x :: st) M Q := fun p e s m args below meth c H locs cells slots mc ms ls C D => lv_if_ge C.1 C.2.1 hd ht (fun h => kt h p e s m args below meth c H locs cells slots mc ms ls C D) (fun h => kf h p e s m args below meth c H locs cells slots mc ms ls C D)
theorem s_icmp_ge {x z : Int32} {off : Int} {tgt : Nat} (hd : decode y.2.1 pc = .ok (.if_icmp .ge off, 3)) (ht : (pc : Int) + off = (tgt : Int)) (kt : z ≤ x → G X y d a b tgt L st M Q) (kf : ¬ z ≤ x → G X y d a b (pc + 3) L st M Q) : G X y d a b pc L (.int z :: .int x :: st) M Q := fun p e s m args below meth c H locs cells slots mc ms ls C D => lv_icmp_ge C.1 C.2.1 hd ht (fun h => kt h p e s m args below meth c H locs cells slots mc ms ls C D) (fun h => kf h p e s m args below meth c H locs cells slots mc ms ls C D)
theorem s_if_gt {x : Int32} {off : Int} {tgt : Nat} (hd : decode y.2.1 pc = .ok (.ifCond .gt off, 3)) (ht : (pc : Int) + off = (tgt : Int)) (kt : 0 < x → G X y d a b tgt L st M Q) (kf : ¬ 0 < x → G X y d a b (pc + 3) L st M Q) : G X y d a b pc L (.int x :: st) M Q := fun p e s m args below meth c H locs cells slots mc ms ls C D => lv_if_gt C.1 C.2.1 hd ht (fun h => kt h p e s m args below meth c H locs cells slots mc ms ls C D) (fun h => kf h p e s m args below meth c H locs cells slots mc ms ls C D)
theorem s_icmp_gt {x z : Int32} {off : Int} {tgt : Nat} (hd : decode y.2.1 pc = .ok (.if_icmp .gt off, 3)) (ht : (pc : Int) + off = (tgt : Int)) (kt : z < x → G X y d a b tgt L st M Q) (kf : ¬ z < x → G X y d a b (pc + 3) L st M Q) : G X y d a b pc L (.int z :: .int x :: st) M Q := fun p e s m args below meth c H locs cells slots mc ms ls C D => lv_icmp_gt C.1 C.2.1 hd ht (fun h => kt h p e s m args below meth c H locs cells slots mc ms ls C D) (fun h => kf h p e s m args below meth c H locs cells slots mc ms ls C D)
theorem s_if_le {x : Int32} {off : Int} {tgt : Nat} (hd : decode y.2.1 pc = .ok (.ifCond .le off, 3)) (ht : (pc : Int) + off = (tgt : Int)) (kt : x ≤ 0 → G X y d a b tgt L st M Q) (kf : ¬ x ≤ 0 → G X y d a b (pc + 3) L st M Q) : G X y d a b pc L (.int x :: st) M Q := fun p e s m args below meth c H locs cells slots mc ms ls C D => lv_if_le C.1 C.2.1 hd ht (fun h => kt h p e s m args below meth c H locs cells slots mc ms ls C D) (fun h => kf h p e s m args below meth c H locs cells slots mc ms ls C D)
theorem s_icmp_le {x z : Int32} {off : Int} {tgt : Nat} (hd : decode y.2.1 pc = .ok (.if_icmp .le off, 3)) (ht : (pc : Int) + off = (tgt : Int)) (kt : x ≤ z → G X y d a b tgt L st M Q) (kf : ¬ x ≤ z → G X y d a b (pc + 3) L st M Q) : G X y d a b pc L (.int z :: .int x :: st) M Q := fun p e s m args below meth c H locs cells slots mc ms ls C D => lv_icmp_le C.1 C.2.1 hd ht (fun h => kt h p e s m args below meth c H locs cells slots mc ms ls C D) (fun h => kf h p e s m args below meth c H locs cells slots mc ms ls C D)
theorem s_goto {off : Int} {tgt : Nat} (hd : decode y.2.1 pc = .ok (.goto off, 3)) (ht : (pc : Int) + off = (tgt : Int)) (k : G X y d a b tgt L st M Q) : G X y d a b pc L st M Q := fun p e s m args below meth c H locs cells slots mc ms ls C D => lv_goto C.1 C.2.1 hd ht (k p e s m args below meth c H locs cells slots mc ms ls C D)
theorem s_ifnull_r {i : Nat} {off : Int} (hd : decode y.2.1 pc = .ok (.ifnull off, 3)) (k : G X y d a b (pc + 3) L st M Q) : G X y d a b pc L (.ref i :: st) M Q := fun p e s m args below meth c H locs cells slots mc ms ls C D => lv_ifnull C.1 C.2.1 hd (k p e s m args below meth c H locs cells slots mc ms ls C D)
theorem s_ifnonnull_r {i : Nat} {off : Int} {tgt : Nat} (hd : decode y.2.1 pc = .ok (.ifnonnull off, 3)) (ht : (pc : Int) + off = (tgt : Int)) (k : G X y d a b tgt L st M Q) : G X y d a b pc L (.ref i :: st) M Q := fun p e s m args below meth c H locs cells slots mc ms ls C D => lv_ifnonnull C.1 C.2.1 hd ht (k p e s m args below meth c H locs cells slots mc ms ls C D)
theorem s_ifnull_n {off : Int} {tgt : Nat} (hd : decode y.2.1 pc = .ok (.ifnull off, 3)) (ht : (pc : Int) + off = (tgt : Int)) (k : G X y d a b tgt L st M Q) : G X y d a b pc L (.null :: st) M Q := fun p e s m args below meth c H locs cells slots mc ms ls C D => lv_ifnullN C.1 C.2.1 hd ht (k p e s m args below meth c H locs cells slots mc ms ls C D)
theorem s_ifnonnull_n {off : Int} (hd : decode y.2.1 pc = .ok (.ifnonnull off, 3)) (k : G X y d a b (pc + 3) L st M Q) : G X y d a b pc L (.null :: st) M Q := fun p e s m args below meth c H locs cells slots mc ms ls C D => lv_ifnonnullN C.1 C.2.1 hd (k p e s m args below meth c H locs cells slots mc ms ls C D)
end GROWS
