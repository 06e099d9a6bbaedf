/-! THE REFERENCE: a case's words -/
set_option maxRecDepth 100000
section MC1
variable {X : ME} {M : MM} {n : Nat → Nat}
theorem M_valueIn (F : MF M) {o w f : Nat} (ho : o + 400 ≤ 2000) (hR : SRo (mA M 42) o n) (h4 : n 0 ≤ 4) (hs : ∀ g, g < n 0 → 2 ≤ n (60 + g) ∧ n (60 + g) ≤ 6 ∧ n (56 + g) + n (60 + g) ≤ n 1) (h24 : n 1 ≤ 24) (hf : f < n 0) (hw : w < 2147483648) (d : Nat) : GM X mX9_valueIn d 0 0 [.ref 41, .int (nI o), .int (nI w), .int (nI f)] M (ex (some (.int (nI (valN n w f)))) M) := by
  refine G.in (L' := [_, _, _, _, vU, vU]) rfl rfl (Nat.le_of_ble_eq_true rfl) ?_
  refine s_iload_n dX9_valueIn_0 rfl ?_
  refine s_istore (L' := [_, _, _, _, _, _]) dX9_valueIn_1 (by decide) rfl ?_
  refine s_aload_n dX9_valueIn_3 rfl trivial ?_
  refine s_getV (v := .ref 42) dX9_valueIn_4 fX9_7_9 F.g41 rfl F.v41_0 ?_
  refine s_iload_n dX9_valueIn_7 rfl ?_
  refine s_iconst (v := 0) dX9_valueIn_8 rfl ?_
  refine s_iadd dX9_valueIn_9 ?_
  refine s_ialdv (j := o + (0)) (v := nI (n (0))) dX9_valueIn_10 F.t42 (by simp only [nIl, nI_add, pk_mul, Nat.add_assoc]) (by omega) (by decide) (hR _ (by omega) (by omega)) ?_
  refine s_iconst (v := 1) dX9_valueIn_11 rfl ?_
  refine s_isub dX9_valueIn_12 ?_
  refine s_istore (L' := [_, _, _, _, _, _]) dX9_valueIn_13 (by decide) rfl ?_
  have loop : ∀ j, f + j + 1 ≤ n 0 → G X mX9_valueIn d 0 0 15 [.ref 41, .int (nI o), .int (nI w), .int (nI f), .int (nI (w / szP n (f + j + 1) (n 0))), .int (nI (f + j))] [] M (ex (some (.int (nI (valN n w f)))) M) := by
    intro j
    induction j with
    | zero =>
      intro hj
      have hsf := hs f hf
      refine s_iload dX9_valueIn_15 rfl ?_
      refine s_iload_n dX9_valueIn_17 rfl ?_
      refine s_icmp_le (tgt := 44) dX9_valueIn_18 (by decide) (fun _ => ?_) (fun h => absurd (nI_le (Nat.le_refl _) (by omega)) h)
      refine s_aload_n dX9_valueIn_44 rfl trivial ?_
      refine s_getV (v := .ref 42) dX9_valueIn_45 fX9_7_9 F.g41 rfl F.v41_0 ?_
      refine s_iload_n dX9_valueIn_48 rfl ?_
      refine s_bipush (v := 56) dX9_valueIn_49 rfl ?_
      refine s_iadd dX9_valueIn_51 ?_
      refine s_iload_n dX9_valueIn_52 rfl ?_
      refine s_iadd dX9_valueIn_53 ?_
      refine s_ialdv (j := o + (56 + f)) (v := nI (n (56 + f))) dX9_valueIn_54 F.t42 (by simp only [nIl, nI_add, pk_mul, Nat.add_assoc]) (by omega) (by decide) (hR _ (by omega) (by omega)) ?_
      refine s_iload dX9_valueIn_55 rfl ?_
      refine s_aload_n dX9_valueIn_57 rfl trivial ?_
      refine s_getV (v := .ref 42) dX9_valueIn_58 fX9_7_9 F.g41 rfl F.v41_0 ?_
      refine s_iload_n dX9_valueIn_61 rfl ?_
      refine s_bipush (v := 60) dX9_valueIn_62 rfl ?_
      refine s_iadd dX9_valueIn_64 ?_
      refine s_iload_n dX9_valueIn_65 rfl ?_
      refine s_iadd dX9_valueIn_66 ?_
      refine s_ialdv (j := o + (60 + f)) (v := nI (n (60 + f))) dX9_valueIn_67 F.t42 (by simp only [nIl, nI_add, pk_mul, Nat.add_assoc]) (by omega) (by decide) (hR _ (by omega) (by omega)) ?_
      refine s_irem dX9_valueIn_68 (nI_ne0 (by omega) (by omega)) ?_
      refine G.stk (st' := [.int (nI (w / szP n (f + 1) (n 0) % n (60 + f))), .int (nI (n (56 + f)))]) (by rw [pk_rem (Nat.lt_of_le_of_lt (Nat.div_le_self _ _) hw) (by omega) (by omega)]) ?_
      refine s_iadd dX9_valueIn_69 ?_
      exact s_iret dX9_valueIn_70 rfl ⟨by rw [nI_add]; rfl, rfl⟩
    | succ j ih =>
      intro hj
      have hsf := hs (f + j + 1) (by omega)
      refine s_iload dX9_valueIn_15 rfl ?_
      refine s_iload_n dX9_valueIn_17 rfl ?_
      refine s_icmp_le (tgt := 44) dX9_valueIn_18 (by decide) (fun h => absurd h (nI_ge (show f < f + (j + 1) by omega) (by omega))) (fun _ => ?_)
      refine s_iload dX9_valueIn_21 rfl ?_
      refine s_aload_n dX9_valueIn_23 rfl trivial ?_
      refine s_getV (v := .ref 42) dX9_valueIn_24 fX9_7_9 F.g41 rfl F.v41_0 ?_
      refine s_iload_n dX9_valueIn_27 rfl ?_
      refine s_bipush (v := 60) dX9_valueIn_28 rfl ?_
      refine s_iadd dX9_valueIn_30 ?_
      refine s_iload dX9_valueIn_31 rfl ?_
      refine s_iadd dX9_valueIn_33 ?_
      refine s_ialdv (j := o + (60 + (f + j + 1))) (v := nI (n (60 + (f + j + 1)))) dX9_valueIn_34 F.t42 (by simp only [nIl, nI_add, pk_mul, Nat.add_assoc]) (by omega) (by decide) (hR _ (by omega) (by omega)) ?_
      refine s_idiv dX9_valueIn_35 (nI_ne0 (by omega) (by omega)) ?_
      refine s_istore (L' := [_, _, _, _, _, _]) dX9_valueIn_36 (by decide) rfl ?_
      refine s_iinc (v := nI (f + j)) (L' := [_, _, _, _, _, _]) dX9_valueIn_38 rfl (pk_m1 (f + j)) (by decide) rfl ?_
      refine s_goto (tgt := 15) dX9_valueIn_41 (by decide) ?_
      refine G.loc (L' := [.ref 41, .int (nI o), .int (nI w), .int (nI f), .int (nI (w / szP n (f + j + 1) (n 0))), .int (nI (f + j))]) ?_ (ih (by omega))
      rw [pk_div (Nat.lt_of_le_of_lt (Nat.div_le_self _ _) hw) (by omega) (by omega), szP_low n (f + j + 1) (n 0) (by omega), Nat.div_div_eq_div_mul, Nat.mul_comm]
      rfl
  refine G.loc (L' := [.ref 41, .int (nI o), .int (nI w), .int (nI f), .int (nI (w / szP n (f + (n 0 - 1 - f) + 1) (n 0))), .int (nI (f + (n 0 - 1 - f)))]) ?_ (loop (n 0 - 1 - f) (by omega))
  rw [show (1 : Int32) = nI 1 from rfl, pk_sub (show 1 ≤ n 0 by omega), show f + (n 0 - 1 - f) + 1 = n 0 by omega, szP_ge n (Nat.le_refl _), Nat.div_one, show f + (n 0 - 1 - f) = n 0 - 1 by omega]
theorem M_size (F : MF M) (hR : SR (mA M 42) n) (h2 : n 2 ≤ 256) (d : Nat) : GM X mX9_size (d + 1) 0 0 [.ref 41, .int 0] M (ex (some (.int (nI (cnt (bitJ (mJ M 43)) (n 2))))) M) := by
  refine G.in (L' := [_, _, vU, vU]) rfl rfl (Nat.le_of_ble_eq_true rfl) ?_
  refine s_iconst (v := 0) dX9_size_0 rfl ?_
  refine s_istore_n (L' := [_, _, _, _]) dX9_size_1 (by decide) rfl ?_
  refine s_iconst (v := 0) dX9_size_2 rfl ?_
  refine s_istore_n (L' := [_, _, _, _]) dX9_size_3 (by decide) rfl ?_
  refine upto (P := fun k => G X mX9_size (d + 1) 0 0 4 [.ref 41, .int 0, .int (nI (cnt (bitJ (mJ M 43)) k)), .int (nI k)] [] M (ex (some (.int (nI (cnt (bitJ (mJ M 43)) (n 2))))) M)) (n 2) ?_ (fun k hk ih => ?_) 0 (Nat.zero_le _)
  · refine s_iload_n dX9_size_4 rfl ?_
    refine s_aload_n dX9_size_5 rfl trivial ?_
    refine s_getV (v := .ref 42) dX9_size_6 fX9_7_9 F.g41 rfl F.v41_0 ?_
    refine s_iconst (v := 2) dX9_size_9 rfl ?_
    refine s_ialdv (j := 2) (v := nI (n (2))) dX9_size_10 F.t42 (by simp only [nIl, nI_add, pk_mul]) (by omega) (by decide) (hR _ (by omega) (by omega)) ?_
    refine s_icmp_ge (tgt := 40) dX9_size_11 (by decide) (fun _ => ?_) (fun h => absurd (nI_le (Nat.le_refl _) (by omega)) h)
    refine s_iload_n dX9_size_40 rfl ?_
    exact s_iret dX9_size_41 rfl ⟨rfl, rfl⟩
  · refine s_iload_n dX9_size_4 rfl ?_
    refine s_aload_n dX9_size_5 rfl trivial ?_
    refine s_getV (v := .ref 42) dX9_size_6 fX9_7_9 F.g41 rfl F.v41_0 ?_
    refine s_iconst (v := 2) dX9_size_9 rfl ?_
    refine s_ialdv (j := 2) (v := nI (n (2))) dX9_size_10 F.t42 (by simp only [nIl, nI_add, pk_mul]) (by omega) (by decide) (hR _ (by omega) (by omega)) ?_
    refine s_icmp_ge (tgt := 40) dX9_size_11 (by decide) (fun h => absurd h (nI_ge hk (by omega))) (fun _ => ?_)
    refine s_iload_n dX9_size_14 rfl ?_
    refine s_aload_n dX9_size_15 rfl trivial ?_
    refine s_getV (v := .ref 43) dX9_size_16 fX9_13_9 F.g41 rfl F.v41_1 ?_
    refine s_iload_n dX9_size_19 rfl ?_
    refine s_iload_n dX9_size_20 rfl ?_
    refine s_callS (M_inSet (b := 0) F.t43 (by decide) (by omega) (by omega) d) dX9_size_21 zX9_inSet rfl q1611 q1610 rfl rfl (Nat.le_of_ble_eq_true rfl) (Nat.le_refl _) (Nat.le_refl _) (ex_ks ?_) ex_x
    refine s_if_eq (tgt := 31) dX9_size_24 (by decide) (fun c1 => ?_) (fun c1 => ?_)
    · refine s_iconst (v := 0) dX9_size_31 rfl ?_
      refine s_iadd dX9_size_32 ?_
      refine s_istore_n (L' := [_, _, _, _]) dX9_size_33 (by decide) rfl ?_
      refine s_iinc (v := nI (k + 1)) (L' := [_, _, _, _]) dX9_size_34 rfl (nI_inc _) (by decide) rfl ?_
      refine s_goto (tgt := 4) dX9_size_37 (by decide) ?_
      refine G.loc ?_ ih
      rw [← cnt_s, show b2i (bitJ (mJ M 43) k) = 0 by simpa only [Nat.zero_add] using c1]
    · refine s_iconst (v := 1) dX9_size_27 rfl ?_
      refine s_goto (tgt := 32) dX9_size_28 (by decide) ?_
      refine s_iadd dX9_size_32 ?_
      refine s_istore_n (L' := [_, _, _, _]) dX9_size_33 (by decide) rfl ?_
      refine s_iinc (v := nI (k + 1)) (L' := [_, _, _, _]) dX9_size_34 rfl (nI_inc _) (by decide) rfl ?_
      refine s_goto (tgt := 4) dX9_size_37 (by decide) ?_
      refine G.loc ?_ ih
      have c2 : bitJ (mJ M 43) k = true := by simpa only [Nat.zero_add] using b2i_ne0.mp c1
      rw [← cnt_s, c2]
      rfl
end MC1

