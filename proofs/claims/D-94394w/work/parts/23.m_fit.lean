/-! THE REFERENCE: kinds that fit, worlds that are left -/
set_option maxRecDepth 100000
section MF1
variable {X : ME} {M : MM} {n s : Nat → Nat}
theorem M_mayBe (F : MF M) (hR : SR (mA M 42) n) {w : Nat} (hw : w < 4) (hb : ∀ k, k < 4 → n (76 + 6 * w + k) < 2147483648) (d : Nat) : GM X mX9_mayBe (d + 1) 0 0 [.ref 41, .int (nI w)] M (ex (some (.int (nI (mayB n w)))) M) := by
  refine G.in (L' := [_, _, vU, vU]) rfl rfl (Nat.le_of_ble_eq_true rfl) ?_
  refine s_iconst (v := 0) dX9_mayBe_0 rfl ?_
  refine s_istore_n (L' := [_, _, _, _]) dX9_mayBe_1 (by decide) rfl ?_
  refine s_iconst (v := 0) dX9_mayBe_2 rfl ?_
  refine s_istore_n (L' := [_, _, _, _]) dX9_mayBe_3 (by decide) rfl ?_
  refine upto (P := fun k => G X mX9_mayBe (d + 1) 0 0 4 [.ref 41, .int (nI w), .int (nI (ks (fun k => decide (0 < n (76 + 6 * w + k))) k)), .int (nI k)] [] M (ex (some (.int (nI (mayB n w)))) M)) 4 ?_ (fun k hk ih => ?_) 0 (Nat.zero_le _)
  · refine s_iload_n dX9_mayBe_4 rfl ?_
    refine s_iconst (v := 4) dX9_mayBe_5 rfl ?_
    refine s_icmp_ge (tgt := 34) dX9_mayBe_6 (by decide) (fun _ => ?_) (fun h => absurd (by rw [nIl]; exact nI_le (Nat.le_refl _) (by omega)) h)
    refine s_iload_n dX9_mayBe_34 rfl ?_
    exact s_iret dX9_mayBe_35 rfl ⟨rfl, rfl⟩
  · refine s_iload_n dX9_mayBe_4 rfl ?_
    refine s_iconst (v := 4) dX9_mayBe_5 rfl ?_
    refine s_icmp_ge (tgt := 34) dX9_mayBe_6 (by decide) (fun h => absurd h (by rw [nIl]; exact nI_ge hk (by omega))) (fun _ => ?_)
    refine s_iload_n dX9_mayBe_9 rfl ?_
    refine s_aload_n dX9_mayBe_10 rfl trivial ?_
    refine s_iload_n dX9_mayBe_11 rfl ?_
    refine s_iload_n dX9_mayBe_12 rfl ?_
    refine s_callV (M_ofWitness F hw (show k < 6 by omega) d) dX9_mayBe_13 zX9_ofWitness oX9_ofWitness q1617 rfl F.q41 rfl rfl (Nat.le_of_ble_eq_true rfl) (Nat.le_refl _) (Nat.le_refl _) (ex_ks ?_) ex_x
    refine G.stk (st' := [.int (nI (n (76 + 6 * w + k))), .int (nI (ks (fun k => decide (0 < n (76 + 6 * w + k))) k))]) (by rw [hR _ (by omega) (by omega)]) ?_
    have hbk := hb k hk
    by_cases h0 : 0 < n (76 + 6 * w + k)
    · refine s_if_le (tgt := 25) dX9_mayBe_16 (by decide) (fun h => absurd h (nI_nle h0 hbk)) (fun _ => ?_)
      refine s_iconst (v := 1) dX9_mayBe_19 rfl ?_
      refine s_iload_n dX9_mayBe_20 rfl ?_
      refine s_ishl dX9_mayBe_21 ?_
      refine s_goto (tgt := 26) dX9_mayBe_22 (by decide) ?_
      refine s_ior dX9_mayBe_26 ?_
      refine s_istore_n (L' := [_, _, _, _]) dX9_mayBe_27 (by decide) rfl ?_
      refine s_iinc (v := nI (k + 1)) (L' := [_, _, _, _]) dX9_mayBe_28 rfl (nI_inc _) (by decide) rfl ?_
      refine s_goto (tgt := 4) dX9_mayBe_31 (by decide) ?_
      refine G.loc ?_ ih
      rw [nx_shl1 (by omega), nx_or, ks_s, if_pos (by simpa using h0)]
    · refine s_if_le (tgt := 25) dX9_mayBe_16 (by decide) (fun _ => ?_) (fun h => absurd (by rw [show n (76 + 6 * w + k) = 0 by omega]; decide) h)
      refine s_iconst (v := 0) dX9_mayBe_25 rfl ?_
      refine s_ior dX9_mayBe_26 ?_
      refine s_istore_n (L' := [_, _, _, _]) dX9_mayBe_27 (by decide) rfl ?_
      refine s_iinc (v := nI (k + 1)) (L' := [_, _, _, _]) dX9_mayBe_28 rfl (nI_inc _) (by decide) rfl ?_
      refine s_goto (tgt := 4) dX9_mayBe_31 (by decide) ?_
      refine G.loc ?_ ih
      rw [nIl, nx_or, ks_s, if_neg (by simpa using h0)]
theorem M_kindsFor (F : MF M) {w q v a : Nat} (hA : ∀ k, k < 4 → mA M 54 (4 * (256 * (12 * w + q) + v) + k) = nI (ans s w q v k) ∧ ans s w q v k < 2147483648) (hw : w < 4) (hq : q < 12) (hv : v < 256) (ha : a < 2147483648) (d : Nat) : GM X mX9_kindsFor (d + 1) 0 0 [.ref 41, .int (nI w), .int (nI q), .int (nI v), .int (nI a)] M (ex (some (.int (nI (kFor s w q v a)))) M) := by
  refine G.in (L' := [_, _, _, _, _, vU, vU]) rfl rfl (Nat.le_of_ble_eq_true rfl) ?_
  refine s_iconst (v := 0) dX9_kindsFor_0 rfl ?_
  refine s_istore (L' := [_, _, _, _, _, _, _]) dX9_kindsFor_1 (by decide) rfl ?_
  refine s_iconst (v := 0) dX9_kindsFor_3 rfl ?_
  refine s_istore (L' := [_, _, _, _, _, _, _]) dX9_kindsFor_4 (by decide) rfl ?_
  refine upto (P := fun k => G X mX9_kindsFor (d + 1) 0 0 6 [.ref 41, .int (nI w), .int (nI q), .int (nI v), .int (nI a), .int (nI (ks (fun k => decide (ans s w q v k = a)) k)), .int (nI k)] [] M (ex (some (.int (nI (kFor s w q v a)))) M)) 4 ?_ (fun k hk ih => ?_) 0 (Nat.zero_le _)
  · refine s_iload dX9_kindsFor_6 rfl ?_
    refine s_iconst (v := 4) dX9_kindsFor_8 rfl ?_
    refine s_icmp_ge (tgt := 45) dX9_kindsFor_9 (by decide) (fun _ => ?_) (fun h => absurd (by rw [nIl]; exact nI_le (Nat.le_refl _) (by omega)) h)
    refine s_iload dX9_kindsFor_45 rfl ?_
    exact s_iret dX9_kindsFor_47 rfl ⟨rfl, rfl⟩
  · refine s_iload dX9_kindsFor_6 rfl ?_
    refine s_iconst (v := 4) dX9_kindsFor_8 rfl ?_
    refine s_icmp_ge (tgt := 45) dX9_kindsFor_9 (by decide) (fun h => absurd h (by rw [nIl]; exact nI_ge hk (by omega))) (fun _ => ?_)
    refine s_iload dX9_kindsFor_12 rfl ?_
    refine s_aload_n dX9_kindsFor_14 rfl trivial ?_
    refine s_iload_n dX9_kindsFor_15 rfl ?_
    refine s_iload_n dX9_kindsFor_16 rfl ?_
    refine s_iload_n dX9_kindsFor_17 rfl ?_
    refine s_iload dX9_kindsFor_18 rfl ?_
    refine s_callV (M_saysAs F hw hq hv hk d) dX9_kindsFor_20 zX9_saysAs oX9_saysAs q2072 rfl F.q41 rfl rfl (Nat.le_of_ble_eq_true rfl) (Nat.le_refl _) (Nat.le_refl _) (ex_ks ?_) ex_x
    refine G.stk (st' := [.int (nI (ans s w q v k)), .int (nI (ks (fun k => decide (ans s w q v k = a)) k))]) (by rw [(hA k hk).1]) ?_
    refine s_iload dX9_kindsFor_23 rfl ?_
    by_cases h0 : ans s w q v k = a
    · refine s_icmp_ne (tgt := 35) dX9_kindsFor_25 (by decide) (fun h => absurd (by rw [h0]) h) (fun _ => ?_)
      refine s_iconst (v := 1) dX9_kindsFor_28 rfl ?_
      refine s_iload dX9_kindsFor_29 rfl ?_
      refine s_ishl dX9_kindsFor_31 ?_
      refine s_goto (tgt := 36) dX9_kindsFor_32 (by decide) ?_
      refine s_ior dX9_kindsFor_36 ?_
      refine s_istore (L' := [_, _, _, _, _, _, _]) dX9_kindsFor_37 (by decide) rfl ?_
      refine s_iinc (v := nI (k + 1)) (L' := [_, _, _, _, _, _, _]) dX9_kindsFor_39 rfl (nI_inc _) (by decide) rfl ?_
      refine s_goto (tgt := 6) dX9_kindsFor_42 (by decide) ?_
      refine G.loc ?_ ih
      rw [nx_shl1 (by omega), nx_or, ks_s, if_pos (by simpa using h0)]
    · refine s_icmp_ne (tgt := 35) dX9_kindsFor_25 (by decide) (fun _ => ?_) (fun h => absurd h (fun h => h0 ((nI_eq (hA k hk).2 ha).mp h)))
      refine s_iconst (v := 0) dX9_kindsFor_35 rfl ?_
      refine s_ior dX9_kindsFor_36 ?_
      refine s_istore (L' := [_, _, _, _, _, _, _]) dX9_kindsFor_37 (by decide) rfl ?_
      refine s_iinc (v := nI (k + 1)) (L' := [_, _, _, _, _, _, _]) dX9_kindsFor_39 rfl (nI_inc _) (by decide) rfl ?_
      refine s_goto (tgt := 6) dX9_kindsFor_42 (by decide) ?_
      refine G.loc ?_ ih
      rw [nIl, nx_or, ks_s, if_neg (by simpa using h0)]
end MF1

