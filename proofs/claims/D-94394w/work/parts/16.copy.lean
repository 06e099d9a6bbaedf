/-! arraycopy, both arrays of one type, in range -/
set_option maxRecDepth 100000
/-- the memory behind a copy of n places from sp of the cell i to dp of the cell j -/
def cpF {α : Type} (f : Nat → Nat → α) (i sp j dp n : Nat) : Nat → Nat → α := fun c k => if c = j ∧ dp ≤ k ∧ k < dp + n then f i (sp + (k - dp)) else f c k
def cpM (M : MM) (i sp j dp n : Nat) : Nat → MM
  | 0 => wA M (cpF (mA M) i sp j dp n)
  | 1 => wJ M (cpF (mJ M) i sp j dp n)
  | _ => wV M (cpF (mV M) i sp j dp n)
theorem HR.arr {X : ME} {M M1 : MM} {H H1 : Heap} {c i : Nat} {ty : FieldType} (h : HR X M H) (hT : (mT M c).1 = 32 + i) (hq : maty[i]? = some ty)
    (e1 : H1[eB X + c]? = some (arrV (eC X i) (mT M c).2 (fun k => rv X (fval M1 c k ty)))) (e2 : H1.size = H.size) (e3 : ∀ z, z ≠ eB X + c → H1[z]? = H[z]?)
    (hM : mN M1 = mN M) (hMT : mT M1 = mT M) (ho : ∀ c' k' ty, c' ≠ c → fval M1 c' k' ty = fval M c' k' ty) : HR X M1 H1 := by
  obtain ⟨z1, z2, z3, z4⟩ := h
  refine ⟨by rw [e2, z1, hM], fun x hx => by rw [e3 x (by omega)]; exact z2 x hx, fun c' hc' => ?_, fun c' hc' => by rw [hMT]; exact z4 c' (by rw [← hM]; exact hc')⟩
  rw [hM] at hc'
  by_cases hcc : c' = c
  · subst hcc
    refine ⟨fun q' hq' => ?_, fun i' ty' hi hty' => ?_⟩
    · rw [hMT, hT] at hq'
      have : 32 + i < 17 := by have := (List.getElem?_eq_some_iff.mp hq').1; simpa [mcl] using this
      omega
    · rw [hMT] at hi ⊢
      have hii : i' = i := by omega
      subst hii
      cases hq.symm.trans hty'
      exact e1
  · exact (z3 c' hc').to (e3 _ (by omega)) (by rw [hMT]) (fun k' ty => ho c' k' ty hcc)
theorem cpM_o {M : MM} {i sp j dp n d : Nat} : ∀ c' k' ty, c' ≠ j → fval (cpM M i sp j dp n d) c' k' ty = fval M c' k' ty := by
  intro c' k' ty h
  match d with
  | 0 => cases ty <;> simp [fval, cpM, wA, mA, mJ, mV, cpF, h]
  | 1 => cases ty <;> simp [fval, cpM, wJ, mA, mJ, mV, cpF, h]
  | d + 2 => cases ty <;> simp [fval, cpM, wV, mA, mJ, mV, cpF, h]
theorem cpM_T {M : MM} {i sp j dp n d : Nat} : mT (cpM M i sp j dp n d) = mT M := by
  match d with
  | 0 => rfl
  | 1 => rfl
  | d + 2 => rfl
theorem cpM_N {M : MM} {i sp j dp n d : Nat} : mN (cpM M i sp j dp n d) = mN M := by
  match d with
  | 0 => rfl
  | 1 => rfl
  | d + 2 => rfl
theorem cpM_v {M : MM} {i sp j dp n k : Nat} {ty : FieldType} (h3 : kd ty ≠ 3) : fval (cpM M i sp j dp n (kd ty)) j k ty = if dp ≤ k ∧ k < dp + n then fval M i (sp + (k - dp)) ty else fval M j k ty := by
  cases ty <;> first | exact absurd rfl h3 | (by_cases h : dp ≤ k ∧ k < dp + n <;> simp [fval, cpM, kd, wA, wJ, wV, mA, mJ, mV, cpF, h])
theorem nI_nn {z : Int32} (hz : ¬ z < 0) : z.toInt = (z.toNatClampNeg : Int) := by
  have hz0 : (0 : Int) ≤ z.toInt := by
    have := Int32.not_lt.mp hz
    simpa using Int32.le_iff_toInt_le.mp this
  show z.toInt = ((z.toInt.toNat : Nat) : Int)
  omega
section GCPY
variable {X : ME} {y : MI} {d a b pc : Nat} {L st : List Value} {M : MM} {Q : MR → MM → Prop}
theorem s_acopy {idx i j sp dp n n0 n1 ti : Nat} {x0 x1 x2 : Int32} {ty : FieldType} (hd : decode y.2.1 pc = .ok (.invokestatic idx, 3)) (hl : Cond.methodLink y.1.cls idx arraycopyName ∈ lw_all) (hTi : mT M i = (32 + ti, n0)) (hTj : mT M j = (32 + ti, n1)) (hty : maty[ti]? = some ty) (h3 : kd ty ≠ 3)
    (e0 : x0 = nI sp) (e1 : x1 = nI dp) (e2 : x2 = nI n) (b0 : n0 < 2147483648) (b1 : n1 < 2147483648) (h4 : sp + n ≤ n0) (h5 : dp + n ≤ n1)
    (hfit : ∀ k, k < n → (kd ty ≠ 2 ∧ fits ty (fval M i (sp + k) ty) = true) ∨ (fval M i (sp + k) ty = .null ∧ kd ty = 2) ∨ ∃ (r : Nat) (q : vw_C) (C0 : String), fval M i (sp + k) ty = .ref r ∧ mcl[(mT M r).1]? = some q ∧ ty = .object C0 ∧ (q.1 = C0 ∨ Cond.castable q.1 C0 ∈ lw_tbl))
    (h8 : (st.map fun v => v.category).sum ≤ 8) (kk : G X y (d + 1) a b (pc + 3) L st (cpM M i sp j dp n (kd ty)) Q) : G X y (d + 1) a b pc L (.int x2 :: .int x1 :: .ref j :: .int x0 :: .ref i :: st) M Q := by
  subst e0
  subst e1
  subst e2
  intro p e s m args below meth c H locs cells slots mc ms ls C D T hT X0
  have hK := gKK C
  have h0i : (mT M i).1 = 32 + ti := by rw [hTi]
  have h0j : (mT M j).1 = 32 + ti := by rw [hTj]
  have hi := D.1.ltA h0i hty
  have hj := D.1.ltA h0j hty
  have hci := (D.1.2.2.1 i hi).2 ti _ h0i hty
  have hcj := (D.1.2.2.1 j hj).2 ti _ h0j hty
  rw [hTi] at hci
  rw [hTj] at hcj
  have q1 : (nI sp).toNatClampNeg = sp := nI_clamp (by omega)
  have q2 : (nI dp).toNatClampNeg = dp := nI_clamp (by omega)
  have q3 : (nI n).toNatClampNeg = n := nI_clamp (by omega)
  have p1 : ¬ nI sp < 0 := nI_pos (by omega)
  have p2 : ¬ nI dp < 0 := nI_pos (by omega)
  have p3 : ¬ nI n < 0 := nI_pos (by omega)
  obtain ⟨-, k0, hk0, cm0, hkk0⟩ := (hK.2.1 ti _ hty).1 n0 (fun k => rv X (fval M i k ty))
  obtain ⟨-, k1, hk1, cm1, hkk1⟩ := (hK.2.1 ti _ hty).1 n1 (fun k => rv X (fval M j k ty))
  have hts := C.2.2.2.2.2.2.1
  have key : ∀ k, k < n → (arrV (eC X ti) n0 (fun k => rv X (fval M i k ty))).slots.getD ((nI sp).toNatClampNeg + k) .null = rv X (fval M i (sp + k) ty) := fun k hk => by
    rw [q1, Array.getD_eq_getD_getElem?, arrV_read _ _ (by omega)]
    rfl
  obtain ⟨vm', X', step⟩ := X0.arraycopy C.1 C.2.2.2.2.2.1 (hts _ hl) (hts _ q708) (hts _ q707) (hts _ q181) (srcPos := nI sp) (destPos := nI dp) (n := nI n) (by rw [hT]; exact hci) (by rw [hT]; exact hcj)
    (fun _ h => by cases h) (fun _ h => by cases h) (fun h => by cases h) (fun h => by cases h) hk0 hk1 hkk0 hkk1 (by simp) p1 p2 p3
    (by rw [nI_nn p1, nI_nn p3, arrV_size, q1, q3]; omega) (by rw [nI_nn p2, nI_nn p3, arrV_size, q2, q3]; omega)
    (fun vm₁ hal k hk => by
      rw [q3] at hk
      rw [key k hk]
      rcases hfit k hk with ⟨hk2, hf⟩ | ⟨hf, hk2⟩ | ⟨r, q, C0, hf, hq, rfl, hc⟩
      · have hrv : rv X (fval M i (sp + k) ty) = fval M i (sp + k) ty := by cases ty <;> first | rfl | exact absurd rfl hk2
        rw [hrv]
        refine ⟨hf, ?_⟩
        cases ty <;> first | exact trivial | exact absurd rfl hk2
      · rw [hf]
        refine ⟨?_, trivial⟩
        cases ty <;> first | rfl | (cases hk2; done)
      · rw [hf]
        have hri := D.1.lt (c := r) hq
        obtain ⟨cv, u1, u2, u3, -⟩ := (D.1.2.2.1 r hri).1 q hq
        obtain ⟨-, hfc, kv, hkv, hkind⟩ := hK.1 _ q hq
        obtain ⟨kA, comp, r1, r2, r3, -⟩ := (hK.2.1 ti _ hty).2
        cases hk1.symm.trans r1
        cases hkk1.symm.trans r2
        obtain ⟨kE, hkE, -⟩ := Vm.findClass_spec r3
        obtain ⟨kC', hkC', -⟩ := hal.2.2 _ _ (show s.vm.classes[cv.cls]? = some kv by rw [u2]; exact hkv)
        obtain ⟨kE', hkE', -⟩ := hal.2.2 _ _ hkE
        refine ⟨rfl, cv, (by rw [← hT] at u1; exact u1), (fun q h => by rw [u3] at h; cases h), ⟨kC', hkC'⟩, ⟨kE', hkE'⟩, ?_⟩
        show vm₁.assignable _ _ = true
        rw [hal.assignable, u2]
        rcases hc with hc | hc
        · subst hc
          cases hfc.symm.trans r3
          exact va_assign ⟨hfc, kv, hkv, hkind⟩
        · obtain ⟨c0, t0, f1, f2, f3⟩ := Cond.castable_spec ((gNw hK hc rfl).use (A := args) rfl)
          cases hfc.symm.trans f1
          cases r3.symm.trans f2
          exact f3)
    (g := F0 m pc ls ((.int (nI n) :: .int (nI dp) :: .ref j :: .int (nI sp) :: .ref i :: st).map (rv X))) rfl (D.2.1.1.trans C.2.2.2.2.1.symm) (rest := st.map (rv X)) rfl (by rw [C.2.1]; exact hd) (Nat.succ_le_succ (Nat.zero_le _))
    (by rw [rv_cats]; have : nativeFrameWords "java/lang/System" "arraycopy" 5 + 11 ≤ 10000 := by decide
        show 2 * 0 + _ + _ ≤ 10300 + 64 * (d + 1); omega)
  have hcp : copied (arrV (eC X ti) n0 (fun k => rv X (fval M i k ty))) (arrV (eC X ti) n1 (fun k => rv X (fval M j k ty))) (nI sp) (nI dp) (nI n) = arrV (eC X ti) n1 (fun k => rv X (fval (cpM M i sp j dp n (kd ty)) j k ty)) := by
    show (arrV _ _ _).storeRun (nI dp).toNatClampNeg ((arrV _ _ _).stretch (nI sp).toNatClampNeg (nI n).toNatClampNeg) = _
    rw [q1, q2, q3, va_copied (rv X) _ _ (fun k => fval M i k ty) (fun k => fval M j k ty) h4]
    congr 1
    funext k
    rw [cpM_v h3]
    unfold va_cpy
    split <;> rfl
  rw [hcp] at X' step
  have hheap : ((T.setVm vm').setCell (eB X + j) (arrV (eC X ti) n1 (fun k => rv X (fval (cpM M i sp j dp n (kd ty)) j k ty)))).heap = H.setIfInBounds (eB X + j) (arrV (eC X ti) n1 (fun k => rv X (fval (cpM M i sp j dp n (kd ty)) j k ty))) := by rw [← hT]; rfl
  have hsz : eB X + j < H.size := by rw [D.1.1]; omega
  obtain ⟨t, a1, b1⟩ := kk p e s m args below meth c _ _ cells slots mc ms ls C ⟨D.1.arr (c := j) (H1 := H.setIfInBounds (eB X + j) (arrV (eC X ti) n1 (fun k => rv X (fval (cpM M i sp j dp n (kd ty)) j k ty)))) h0j hty (by rw [hTj]; simp [hsz]) (by simp) (fun z hz => by rw [Array.getElem?_setIfInBounds_ne (Ne.symm hz)]) cpM_N cpM_T cpM_o, D.2.1, fun w hw => by
      rcases List.mem_append.mp hw with h | h
      · exact D.2.2.1 w h
      · obtain ⟨z, -, hz⟩ := List.mem_map.mp h
        rw [← hz]
        exact Nat.le_add_right _ _, D.2.2.2.1, D.2.2.2.2.1, by rw [Array.size_setIfInBounds]; exact D.2.2.2.2.2⟩ _ hheap X'
  exact ⟨t, step t a1, b1⟩
end GCPY
