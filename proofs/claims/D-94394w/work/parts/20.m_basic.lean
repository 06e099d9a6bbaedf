/-! THE REFERENCE: small methods -/
set_option maxRecDepth 100000
section MB1
variable {X : ME} {M : MM}
theorem M_is (F : MF M) (x : Int32) (d : Nat) : GM X mX9_is d 0 0 [.ref 41, .int x] M (ex (some (.int (b2i (decide (x = 0))))) (sA M 41 3 x)) := by
  refine G.in (L' := [_, _]) rfl rfl (Nat.le_of_ble_eq_true rfl) ?_
  refine s_aload_n dX9_is_0 rfl trivial ?_
  refine s_iload_n dX9_is_1 rfl ?_
  refine s_putI dX9_is_2 (Or.inl wX9_103_9) F.g41 rfl ?_
  refine s_iload_n dX9_is_5 rfl ?_
  refine s_if_ne (tgt := 13) dX9_is_6 (by decide) (fun c1 => ?_) (fun c1 => ?_)
  · refine s_iconst (v := 0) dX9_is_13 rfl ?_
    exact s_zret dX9_is_14 rfl (Or.inl rfl) ⟨by simp [b2i, c1], rfl⟩
  · refine s_iconst (v := 1) dX9_is_9 rfl ?_
    refine s_goto (tgt := 14) dX9_is_10 (by decide) ?_
    exact s_zret dX9_is_14 rfl (Or.inr rfl) ⟨by simp [b2i, c1], rfl⟩
theorem M_refuse (F : MF M) (x : Int32) (d : Nat) : GM X mX9_refuse d 0 0 [.ref 41, .int x] M (ex (some (.int (-1))) (sA M 41 3 x)) := by
  refine G.in (L' := [_, _]) rfl rfl (Nat.le_of_ble_eq_true rfl) ?_
  refine s_aload_n dX9_refuse_0 rfl trivial ?_
  refine s_iload_n dX9_refuse_1 rfl ?_
  refine s_putI dX9_refuse_2 (Or.inl wX9_103_9) F.g41 rfl ?_
  refine s_iconst (v := -1) dX9_refuse_5 rfl ?_
  exact s_iret dX9_refuse_6 rfl ⟨rfl, rfl⟩
theorem M_gives (F : MF M) (x : Int32) (d : Nat) : GM X mX9_gives d 0 0 [.ref 41, .int x] M (ex (some (.int x)) (sA M 41 3 0)) := by
  refine G.in (L' := [_, _]) rfl rfl (Nat.le_of_ble_eq_true rfl) ?_
  refine s_aload_n dX9_gives_0 rfl trivial ?_
  refine s_iconst (v := 0) dX9_gives_1 rfl ?_
  refine s_putI dX9_gives_2 (Or.inl wX9_103_9) F.g41 rfl ?_
  refine s_iload_n dX9_gives_5 rfl ?_
  exact s_iret dX9_gives_6 rfl ⟨rfl, rfl⟩
theorem M_isTray (x : Int32) (d : Nat) : GM X mX9_isTray d 0 0 [.int x] M (ex (some (.int (b2i (decide (0 ≤ x ∧ x < 4))))) M) := by
  refine G.in (L' := [_]) rfl rfl (Nat.le_of_ble_eq_true rfl) ?_
  refine s_iload_n dX9_isTray_0 rfl ?_
  refine s_if_lt (tgt := 13) dX9_isTray_1 (by decide) (fun c1 => ?_) (fun c1 => ?_)
  · refine s_iconst (v := 0) dX9_isTray_13 rfl ?_
    exact s_zret dX9_isTray_14 rfl (Or.inl rfl) ⟨by simp [b2i, Int32.not_le.mpr c1], rfl⟩
  · refine s_iload_n dX9_isTray_4 rfl ?_
    refine s_iconst (v := 4) dX9_isTray_5 rfl ?_
    refine s_icmp_ge (tgt := 13) dX9_isTray_6 (by decide) (fun c2 => ?_) (fun c2 => ?_)
    · refine s_iconst (v := 0) dX9_isTray_13 rfl ?_
      exact s_zret dX9_isTray_14 rfl (Or.inl rfl) ⟨by simp [b2i, Int32.not_lt.mpr c2], rfl⟩
    · refine s_iconst (v := 1) dX9_isTray_9 rfl ?_
      refine s_goto (tgt := 14) dX9_isTray_10 (by decide) ?_
      exact s_zret dX9_isTray_14 rfl (Or.inr rfl) ⟨by simp [b2i, Int32.not_lt.mp c1, Int32.not_le.mp c2], rfl⟩
theorem M_isKind (x : Int32) (d : Nat) : GM X mX9_isKind d 0 0 [.int x] M (ex (some (.int (b2i (decide (0 ≤ x ∧ x < 4))))) M) := by
  refine G.in (L' := [_]) rfl rfl (Nat.le_of_ble_eq_true rfl) ?_
  refine s_iload_n dX9_isKind_0 rfl ?_
  refine s_if_lt (tgt := 13) dX9_isKind_1 (by decide) (fun c1 => ?_) (fun c1 => ?_)
  · refine s_iconst (v := 0) dX9_isKind_13 rfl ?_
    exact s_zret dX9_isKind_14 rfl (Or.inl rfl) ⟨by simp [b2i, Int32.not_le.mpr c1], rfl⟩
  · refine s_iload_n dX9_isKind_4 rfl ?_
    refine s_iconst (v := 4) dX9_isKind_5 rfl ?_
    refine s_icmp_ge (tgt := 13) dX9_isKind_6 (by decide) (fun c2 => ?_) (fun c2 => ?_)
    · refine s_iconst (v := 0) dX9_isKind_13 rfl ?_
      exact s_zret dX9_isKind_14 rfl (Or.inl rfl) ⟨by simp [b2i, Int32.not_lt.mpr c2], rfl⟩
    · refine s_iconst (v := 1) dX9_isKind_9 rfl ?_
      refine s_goto (tgt := 14) dX9_isKind_10 (by decide) ?_
      exact s_zret dX9_isKind_14 rfl (Or.inr rfl) ⟨by simp [b2i, Int32.not_lt.mp c1, Int32.not_le.mp c2], rfl⟩
theorem M_isWorld (F : MF M) (x : Int32) (d : Nat) : GM X mX9_isWorld d 0 0 [.ref 41, .int x] M (ex (some (.int (b2i (decide (0 ≤ x ∧ x < mA M 42 2))))) M) := by
  refine G.in (L' := [_, _]) rfl rfl (Nat.le_of_ble_eq_true rfl) ?_
  refine s_iload_n dX9_isWorld_0 rfl ?_
  refine s_if_lt (tgt := 18) dX9_isWorld_1 (by decide) (fun c1 => ?_) (fun c1 => ?_)
  · refine s_iconst (v := 0) dX9_isWorld_18 rfl ?_
    exact s_zret dX9_isWorld_19 rfl (Or.inl rfl) ⟨by simp [b2i, Int32.not_le.mpr c1], rfl⟩
  · refine s_iload_n dX9_isWorld_4 rfl ?_
    refine s_aload_n dX9_isWorld_5 rfl trivial ?_
    refine s_getV (v := .ref 42) dX9_isWorld_6 fX9_7_9 F.g41 rfl F.v41_0 ?_
    refine s_iconst (v := 2) dX9_isWorld_9 rfl ?_
    refine s_iald (j := 2) dX9_isWorld_10 F.t42 (by simp only [nIl, nI_add, pk_mul]) (by omega) (by decide) ?_
    refine s_icmp_ge (tgt := 18) dX9_isWorld_11 (by decide) (fun c2 => ?_) (fun c2 => ?_)
    · refine s_iconst (v := 0) dX9_isWorld_18 rfl ?_
      exact s_zret dX9_isWorld_19 rfl (Or.inl rfl) ⟨by simp [b2i, Int32.not_lt.mpr c2], rfl⟩
    · refine s_iconst (v := 1) dX9_isWorld_14 rfl ?_
      refine s_goto (tgt := 19) dX9_isWorld_15 (by decide) ?_
      exact s_zret dX9_isWorld_19 rfl (Or.inr rfl) ⟨by simp [b2i, Int32.not_lt.mp c1, Int32.not_le.mp c2], rfl⟩
theorem M_ofWitness (F : MF M) {w k : Nat} (hw : w < 4) (hk : k < 6) (d : Nat) : GM X mX9_ofWitness d 0 0 [.ref 41, .int (nI w), .int (nI k)] M (ex (some (.int (mA M 42 (76 + 6 * w + k)))) M) := by
  refine G.in (L' := [_, _, _]) rfl rfl (Nat.le_of_ble_eq_true rfl) ?_
  refine s_aload_n dX9_ofWitness_0 rfl trivial ?_
  refine s_getV (v := .ref 42) dX9_ofWitness_1 fX9_7_9 F.g41 rfl F.v41_0 ?_
  refine s_bipush (v := 76) dX9_ofWitness_4 rfl ?_
  refine s_bipush (v := 6) dX9_ofWitness_6 rfl ?_
  refine s_iload_n dX9_ofWitness_8 rfl ?_
  refine s_imul dX9_ofWitness_9 ?_
  refine s_iadd dX9_ofWitness_10 ?_
  refine s_iload_n dX9_ofWitness_11 rfl ?_
  refine s_iadd dX9_ofWitness_12 ?_
  refine s_iald (j := 76 + 6 * w + k) dX9_ofWitness_13 F.t42 (by simp only [nIl, nI_add, pk_mul]) (by omega) (by decide) ?_
  exact s_iret dX9_ofWitness_14 rfl ⟨rfl, rfl⟩
theorem M_ofHeard (F : MF M) {k j : Nat} (hw : k < 12) (hk : j < 4) (d : Nat) : GM X mX9_ofHeard d 0 0 [.ref 41, .int (nI k), .int (nI j)] M (ex (some (.int (mA M 42 (100 + 4 * k + j)))) M) := by
  refine G.in (L' := [_, _, _]) rfl rfl (Nat.le_of_ble_eq_true rfl) ?_
  refine s_aload_n dX9_ofHeard_0 rfl trivial ?_
  refine s_getV (v := .ref 42) dX9_ofHeard_1 fX9_7_9 F.g41 rfl F.v41_0 ?_
  refine s_bipush (v := 100) dX9_ofHeard_4 rfl ?_
  refine s_iconst (v := 4) dX9_ofHeard_6 rfl ?_
  refine s_iload_n dX9_ofHeard_7 rfl ?_
  refine s_imul dX9_ofHeard_8 ?_
  refine s_iadd dX9_ofHeard_9 ?_
  refine s_iload_n dX9_ofHeard_10 rfl ?_
  refine s_iadd dX9_ofHeard_11 ?_
  refine s_iald (j := 100 + 4 * k + j) dX9_ofHeard_12 F.t42 (by simp only [nIl, nI_add, pk_mul]) (by omega) (by decide) ?_
  exact s_iret dX9_ofHeard_13 rfl ⟨rfl, rfl⟩
theorem M_saysAs (F : MF M) {w q v k : Nat} (hw : w < 4) (hq : q < 12) (hv : v < 256) (hk : k < 4) (d : Nat) : GM X mX9_saysAs d 0 0 [.ref 41, .int (nI w), .int (nI q), .int (nI v), .int (nI k)] M (ex (some (.int (mA M 54 (4 * (256 * (12 * w + q) + v) + k)))) M) := by
  refine G.in (L' := [_, _, _, _, _]) rfl rfl (Nat.le_of_ble_eq_true rfl) ?_
  refine s_aload_n dX9_saysAs_0 rfl trivial ?_
  refine s_getV (v := .ref 54) dX9_saysAs_1 fX9_60_9 F.g41 rfl F.v41_31 ?_
  refine s_iconst (v := 4) dX9_saysAs_4 rfl ?_
  refine s_sipush (v := 256) dX9_saysAs_5 rfl ?_
  refine s_bipush (v := 12) dX9_saysAs_8 rfl ?_
  refine s_iload_n dX9_saysAs_10 rfl ?_
  refine s_imul dX9_saysAs_11 ?_
  refine s_iload_n dX9_saysAs_12 rfl ?_
  refine s_iadd dX9_saysAs_13 ?_
  refine s_imul dX9_saysAs_14 ?_
  refine s_iload_n dX9_saysAs_15 rfl ?_
  refine s_iadd dX9_saysAs_16 ?_
  refine s_imul dX9_saysAs_17 ?_
  refine s_iload dX9_saysAs_18 rfl ?_
  refine s_iadd dX9_saysAs_20 ?_
  refine s_iald (j := 4 * (256 * (12 * w + q) + v) + k) dX9_saysAs_21 F.t54 (by simp only [nIl, nI_add, pk_mul]) (by omega) (by decide) ?_
  exact s_iret dX9_saysAs_22 rfl ⟨rfl, rfl⟩
theorem M_status (F : MF M) (d : Nat) : GM X mX9_status d 0 0 [.ref 41] M (ex (some (.int (mA M 41 3))) M) := by
  refine G.in (L' := [_]) rfl rfl (Nat.le_of_ble_eq_true rfl) ?_
  refine s_aload_n dX9_status_0 rfl trivial ?_
  refine s_getI dX9_status_1 fX9_103_9 F.g41 rfl ?_
  exact s_iret dX9_status_4 rfl ⟨rfl, rfl⟩
theorem M_top (F : MF M) (d : Nat) : GM X mX9_top d 0 0 [.ref 41] M (ex (some (.long (mJ M 41 4))) M) := by
  refine G.in (L' := [_]) rfl rfl (Nat.le_of_ble_eq_true rfl) ?_
  refine s_aload_n dX9_top_0 rfl trivial ?_
  refine s_getJ dX9_top_1 fX9_106_9 F.g41 rfl ?_
  exact s_lret dX9_top_4 rfl ⟨rfl, rfl⟩
theorem M_bottom (F : MF M) (d : Nat) : GM X mX9_bottom d 0 0 [.ref 41] M (ex (some (.long (mJ M 41 5))) M) := by
  refine G.in (L' := [_]) rfl rfl (Nat.le_of_ble_eq_true rfl) ?_
  refine s_aload_n dX9_bottom_0 rfl trivial ?_
  refine s_getJ dX9_bottom_1 fX9_20_9 F.g41 rfl ?_
  exact s_lret dX9_bottom_4 rfl ⟨rfl, rfl⟩
theorem M_inSet {c b n v : Nat} (hT : mT M c = (35, n)) (hn : n < 2147483648) (hb : b + v / 64 < n) (hv : v < 256) (d : Nat) : GM X mX9_inSet d 0 0 [.ref c, .int (nI b), .int (nI v)] M (ex (some (.int (b2i (bitJ (fun k => mJ M c (b + k)) v)))) M) := by
  refine G.in (L' := [_, _, _]) rfl rfl (Nat.le_of_ble_eq_true rfl) ?_
  refine s_aload_n dX9_inSet_0 rfl trivial ?_
  refine s_iload_n dX9_inSet_1 rfl ?_
  refine s_iload_n dX9_inSet_2 rfl ?_
  refine s_bipush (v := 64) dX9_inSet_3 rfl ?_
  refine s_idiv dX9_inSet_5 (by decide) ?_
  refine s_iadd dX9_inSet_6 ?_
  refine s_lald (j := b + v / 64) dX9_inSet_7 hT (by rw [nIl, pk_div (by omega) (by decide) (by decide), nI_add]) (by omega) hn ?_
  refine s_iload_n dX9_inSet_8 rfl ?_
  refine s_bipush (v := 64) dX9_inSet_9 rfl ?_
  refine s_irem dX9_inSet_11 (by decide) ?_
  refine s_lshr dX9_inSet_12 ?_
  refine s_lconst (v := 1) dX9_inSet_13 rfl ?_
  refine s_land dX9_inSet_14 ?_
  refine s_lconst (v := 1) dX9_inSet_15 rfl ?_
  refine s_lcmp dX9_inSet_16 ?_
  refine s_if_ne (tgt := 24) dX9_inSet_17 (by decide) (fun c1 => ?_) (fun c1 => ?_)
  · refine s_iconst (v := 0) dX9_inSet_24 rfl ?_
    exact s_zret dX9_inSet_25 rfl (Or.inl rfl) ⟨by rw [nIl, pk_rem (by omega) (by decide) (by decide), lg_cmp_eq] at c1; simp [bitJ, b2i, c1], rfl⟩
  · refine s_iconst (v := 1) dX9_inSet_20 rfl ?_
    refine s_goto (tgt := 25) dX9_inSet_21 (by decide) ?_
    exact s_zret dX9_inSet_25 rfl (Or.inr rfl) ⟨by rw [nIl, pk_rem (by omega) (by decide) (by decide), lg_cmp_eq] at c1; simp [bitJ, b2i, c1], rfl⟩
theorem M_isPossible (F : MF M) {v : Nat} (hv : v < 256) (d : Nat) : GM X mX9_isPossible (d + 1) 0 0 [.ref 41, .int (nI v)] M (ex (some (.int (b2i (bitJ (mJ M 43) v)))) M) := by
  refine G.in (L' := [_, _]) rfl rfl (Nat.le_of_ble_eq_true rfl) ?_
  refine s_aload_n dX9_isPossible_0 rfl trivial ?_
  refine s_getV (v := .ref 43) dX9_isPossible_1 fX9_13_9 F.g41 rfl F.v41_1 ?_
  refine s_iconst (v := 0) dX9_isPossible_4 rfl ?_
  refine s_iload_n dX9_isPossible_5 rfl ?_
  refine s_callS (M_inSet (b := 0) F.t43 (by decide) (by omega) hv d) dX9_isPossible_6 zX9_inSet rfl q1611 q1610 rfl rfl (Nat.le_of_ble_eq_true rfl) (Nat.le_refl _) (Nat.le_refl _) (ex_ks ?_) ex_x
  exact s_zret dX9_isPossible_9 rfl (b2i_01 _) ⟨by simp only [Nat.zero_add], rfl⟩
theorem M_isIn (F : MF M) {q v : Nat} (hq : q < 12) (hv : v < 256) (d : Nat) : GM X mX9_isIn (d + 1) 0 0 [.ref 41, .int (nI q), .int (nI v)] M (ex (some (.int (b2i (bitJ (fun k => mJ M 43 (4 + 4 * q + k)) v)))) M) := by
  refine G.in (L' := [_, _, _]) rfl rfl (Nat.le_of_ble_eq_true rfl) ?_

  refine s_aload_n dX9_isIn_0 rfl trivial ?_
  refine s_getV (v := .ref 43) dX9_isIn_1 fX9_13_9 F.g41 rfl F.v41_1 ?_
  refine s_iconst (v := 4) dX9_isIn_4 rfl ?_
  refine s_iconst (v := 4) dX9_isIn_5 rfl ?_
  refine s_iload_n dX9_isIn_6 rfl ?_
  refine s_imul dX9_isIn_7 ?_
  refine s_iadd dX9_isIn_8 ?_
  refine G.stk (st' := [.int (nI (4 + 4 * q)), .ref 43]) (by simp only [nIl, nI_add, pk_mul]) ?_
  refine s_iload_n dX9_isIn_9 rfl ?_
  refine s_callS (M_inSet (b := 4 + 4 * q) F.t43 (by decide) (by omega) hv d) dX9_isIn_10 zX9_inSet rfl q1611 q1610 rfl rfl (Nat.le_of_ble_eq_true rfl) (Nat.le_refl _) (Nat.le_refl _) (ex_ks ?_) ex_x
  exact s_zret dX9_isIn_13 rfl (b2i_01 _) ⟨rfl, rfl⟩
end MB1

