/-! THE REFERENCE: laying out what fits -/
set_option maxRecDepth 100000
section MF2
variable {X : ME} {M : MM} {n s : Nat → Nat}
theorem SOK.may (h : SOK n) {w k : Nat} (hw : w < n 4) (hk : k < 4) : n (76 + 6 * w + k) ≤ 16 := by
  obtain ⟨h1, -⟩ := h.2.2.2.2.2.2.2.2.2.2.2.1 w hw
  rcases (show k = 0 ∨ k = 1 ∨ k = 2 ∨ k = 3 by omega) with rfl | rfl | rfl | rfl <;> omega
set_option maxHeartbeats 2000000 in
theorem M_fitsBy (F : MF M) (hR : SR (mA M 42) n) (hO : SOK n) (hA : AR (mA M 54) s n (mJ M 43)) {some : Nat} (hs : some < 4096) (d : Nat) : GM X mX9_fitsBy (d + 2) 0 0 [.ref 41, .int (nI some)] M (ex none (fitM M n s some)) := by
  obtain ⟨o0, o1, o2, o2b, o3, o4, o5, o6, oF, oV, oQ, oW, oH, oD⟩ := id hO
  refine G.in (L' := [_, _, vU, vU, vU, vU]) rfl rfl (Nat.le_of_ble_eq_true rfl) ?_
  refine s_iconst (v := 0) dX9_fitsBy_0 rfl ?_
  refine s_istore_n (L' := [_, _, _, _, _, _]) dX9_fitsBy_1 (by decide) rfl ?_
  have h6 : n 6 ≤ 12 := by omega
  -- the last loop: what was put
  have last : ∀ k, k ≤ n 6 → G X mX9_fitsBy (d + 2) 0 0 164 [.ref 41, .int (nI some), .int (nI k), vU, vU, vU] [] (wC (wC M 57 (fitF (mA M 57) n s (mJ M 43) some (n 4) 0)) 58 (putF (mA M 58) n k)) (ex none (fitM M n s some)) := by
    refine upto (n 6) ?_ (fun k hk ih => ?_)
    · have F1 : MF (wC (wC M 57 (fitF (mA M 57) n s (mJ M 43) some (n 4) 0)) 58 (putF (mA M 58) n (n 6))) := F.to rfl rfl
      have F := F1
      refine s_iload_n dX9_fitsBy_164 rfl ?_
      refine s_aload_n dX9_fitsBy_165 rfl trivial ?_
      refine s_getV (v := .ref 42) dX9_fitsBy_166 fX9_7_9 F.g41 rfl F.v41_0 ?_
      refine s_bipush (v := 6) dX9_fitsBy_169 rfl ?_
      refine s_ialdv (j := 6) (v := nI (n 6)) dX9_fitsBy_171 F.t42 (by simp only [nIl, nI_add, pk_mul]) (by omega) (by decide) (by rw [mA_wCn (by decide), mA_wCn (by decide), hR _ (by omega) (by omega)]) ?_
      refine s_icmp_ge (tgt := 193) dX9_fitsBy_172 (by decide) (fun _ => ?_) (fun h => absurd (nI_le (Nat.le_refl _) (by omega)) h)
      exact s_vret dX9_fitsBy_193 rfl ⟨rfl, rfl⟩
    · have F1 : MF (wC (wC M 57 (fitF (mA M 57) n s (mJ M 43) some (n 4) 0)) 58 (putF (mA M 58) n k)) := F.to rfl rfl
      have hq := (oH k hk).2.1
      have F := F1
      refine s_iload_n dX9_fitsBy_164 rfl ?_
      refine s_aload_n dX9_fitsBy_165 rfl trivial ?_
      refine s_getV (v := .ref 42) dX9_fitsBy_166 fX9_7_9 F.g41 rfl F.v41_0 ?_
      refine s_bipush (v := 6) dX9_fitsBy_169 rfl ?_
      refine s_ialdv (j := 6) (v := nI (n 6)) dX9_fitsBy_171 F.t42 (by simp only [nIl, nI_add, pk_mul]) (by omega) (by decide) (by rw [mA_wCn (by decide), mA_wCn (by decide), hR _ (by omega) (by omega)]) ?_
      refine s_icmp_ge (tgt := 193) dX9_fitsBy_172 (by decide) (fun h => absurd h (nI_ge hk (by omega))) (fun _ => ?_)
      refine s_aload_n dX9_fitsBy_175 rfl trivial ?_
      refine s_getV (v := .ref 58) dX9_fitsBy_176 fX9_72_9 F.g41 rfl F.v41_35 ?_
      refine s_aload_n dX9_fitsBy_179 rfl trivial ?_
      refine s_iload_n dX9_fitsBy_180 rfl ?_
      refine s_iconst (v := 1) dX9_fitsBy_181 rfl ?_
      refine s_callV (M_ofHeard F (show k < 12 by omega) (show 1 < 4 by decide) (d + 1)) dX9_fitsBy_182 zX9_ofHeard oX9_ofHeard q2021 rfl F.q41 rfl rfl (Nat.le_of_ble_eq_true rfl) (Nat.le_refl _) (Nat.le_refl _) (ex_ks ?_) ex_x
      refine G.stk (st' := [.int (nI (n (100 + 4 * k + 1))), .ref 58]) (by rw [mA_wCn (by decide), mA_wCn (by decide), hR _ (by omega) (by omega)]) ?_
      refine s_iconst (v := 1) dX9_fitsBy_185 rfl ?_
      refine s_zast (j := n (100 + 4 * k + 1)) dX9_fitsBy_186 F.t58 (rfl) (by omega) (by decide) ?_
      refine s_iinc (v := nI (k + 1)) (L' := [_, _, _, _, _, _]) dX9_fitsBy_187 rfl (nI_inc _) (by decide) rfl ?_
      refine s_goto (tgt := 164) dX9_fitsBy_190 (by decide) ?_
      refine G.mem ?_ ih
      rw [sA_wC]
      congr 1
      funext j
      unfold upF putF
      by_cases hj : j = n (100 + 4 * k + 1)
      · subst hj
        rw [if_pos rfl, if_pos (by omega)]
        simp [askd, b2i]
      · rw [if_neg hj]
        by_cases h12 : j < 12
        · rw [if_pos h12, if_pos h12]
          have hj' : ¬ n (100 + 4 * k + 1) = j := fun e => hj e.symm
          simp [askd, hj']
        · rw [if_neg h12, if_neg h12]
  -- the loop ahead of it: nothing is put
  have mid : ∀ k, k ≤ 12 → G X mX9_fitsBy (d + 2) 0 0 143 [.ref 41, .int (nI some), .int (nI k), vU, vU, vU] [] (wC (wC M 57 (fitF (mA M 57) n s (mJ M 43) some (n 4) 0)) 58 (fun j => if j < k then 0 else mA M 58 j)) (ex none (fitM M n s some)) := by
    refine upto 12 ?_ (fun k hk ih => ?_)
    · refine s_iload_n dX9_fitsBy_143 rfl ?_
      refine s_bipush (v := 12) dX9_fitsBy_144 rfl ?_
      refine s_icmp_ge (tgt := 162) dX9_fitsBy_146 (by decide) (fun _ => ?_) (fun h => absurd (by rw [nIl]; exact nI_le (Nat.le_refl _) (by omega)) h)
      refine s_iconst (v := 0) dX9_fitsBy_162 rfl ?_
      refine s_istore_n (L' := [_, _, _, _, _, _]) dX9_fitsBy_163 (by decide) rfl ?_
      refine G.mem ?_ (last 0 (Nat.zero_le _))
      congr 1
    · have F1 : MF (wC (wC M 57 (fitF (mA M 57) n s (mJ M 43) some (n 4) 0)) 58 (fun j => if j < k then 0 else mA M 58 j)) := F.to rfl rfl
      have F := F1
      refine s_iload_n dX9_fitsBy_143 rfl ?_
      refine s_bipush (v := 12) dX9_fitsBy_144 rfl ?_
      refine s_icmp_ge (tgt := 162) dX9_fitsBy_146 (by decide) (fun h => absurd h (by rw [nIl]; exact nI_ge hk (by omega))) (fun _ => ?_)
      refine s_aload_n dX9_fitsBy_149 rfl trivial ?_
      refine s_getV (v := .ref 58) dX9_fitsBy_150 fX9_72_9 F.g41 rfl F.v41_35 ?_
      refine s_iload_n dX9_fitsBy_153 rfl ?_
      refine s_iconst (v := 0) dX9_fitsBy_154 rfl ?_
      refine s_zast (j := k) dX9_fitsBy_155 F.t58 (rfl) (by omega) (by decide) ?_
      refine s_iinc (v := nI (k + 1)) (L' := [_, _, _, _, _, _]) dX9_fitsBy_156 rfl (nI_inc _) (by decide) rfl ?_
      refine s_goto (tgt := 143) dX9_fitsBy_159 (by decide) ?_
      refine G.mem ?_ ih
      rw [sA_wC]
      congr 1
      funext j
      unfold upF
      by_cases hj : j = k
      · subst hj
        rw [if_pos rfl, if_pos (by omega)]
        rfl
      · rw [if_neg hj]
        dsimp only
        by_cases h12 : j < k
        · rw [if_pos h12, if_pos (by omega)]
        · rw [if_neg h12, if_neg (by omega)]
  -- witnesses
  have outer : ∀ w, w ≤ n 4 → G X mX9_fitsBy (d + 2) 0 0 2 [.ref 41, .int (nI some), .int (nI w), vU, vU, vU] [] (wC M 57 (fitF (mA M 57) n s (mJ M 43) some w 0)) (ex none (fitM M n s some)) := by
    refine upto (n 4) ?_ (fun w hw ih => ?_)
    · have F1 : MF (wC M 57 (fitF (mA M 57) n s (mJ M 43) some (n 4) 0)) := F.to rfl rfl
      have F := F1
      refine s_iload_n dX9_fitsBy_2 rfl ?_
      refine s_aload_n dX9_fitsBy_3 rfl trivial ?_
      refine s_getV (v := .ref 42) dX9_fitsBy_4 fX9_7_9 F.g41 rfl F.v41_0 ?_
      refine s_iconst (v := 4) dX9_fitsBy_7 rfl ?_
      refine s_ialdv (j := 4) (v := nI (n 4)) dX9_fitsBy_8 F.t42 (by simp only [nIl, nI_add, pk_mul]) (by omega) (by decide) (by rw [mA_wCn (by decide), hR _ (by omega) (by omega)]) ?_
      refine s_icmp_ge (tgt := 141) dX9_fitsBy_9 (by decide) (fun _ => ?_) (fun h => absurd (nI_le (Nat.le_refl _) (by omega)) h)
      refine s_iconst (v := 0) dX9_fitsBy_141 rfl ?_
      refine s_istore_n (L' := [_, _, _, _, _, _]) dX9_fitsBy_142 (by decide) rfl ?_
      refine G.mem ?_ (mid 0 (Nat.zero_le _))
      rw [show (fun j => if j < 0 then (0 : Int32) else mA M 58 j) = mA (wC M 57 (fitF (mA M 57) n s (mJ M 43) some (n 4) 0)) 58 by rw [mA_wCn (by decide)]; funext j; rfl, wC_self]
    · -- worlds
      have hmay : mayB n w < 16 := ks_lt4 _
      have inner : ∀ v, v ≤ n 2 → G X mX9_fitsBy (d + 2) 0 0 14 [.ref 41, .int (nI some), .int (nI w), .int (nI v), vU, vU] [] (wC M 57 (fitF (mA M 57) n s (mJ M 43) some w v)) (ex none (fitM M n s some)) := by
        refine upto (n 2) ?_ (fun v hv ihv => ?_)
        · have F1 : MF (wC M 57 (fitF (mA M 57) n s (mJ M 43) some w (n 2))) := F.to rfl rfl
          have F := F1
          refine s_iload_n dX9_fitsBy_14 rfl ?_
          refine s_aload_n dX9_fitsBy_15 rfl trivial ?_
          refine s_getV (v := .ref 42) dX9_fitsBy_16 fX9_7_9 F.g41 rfl F.v41_0 ?_
          refine s_iconst (v := 2) dX9_fitsBy_19 rfl ?_
          refine s_ialdv (j := 2) (v := nI (n 2)) dX9_fitsBy_20 F.t42 (by simp only [nIl, nI_add, pk_mul]) (by omega) (by decide) (by rw [mA_wCn (by decide), hR _ (by omega) (by omega)]) ?_
          refine s_icmp_ge (tgt := 135) dX9_fitsBy_21 (by decide) (fun _ => ?_) (fun h => absurd (nI_le (Nat.le_refl _) (by omega)) h)
          refine s_iinc (v := nI (w + 1)) (L' := [_, _, _, _, _, _]) dX9_fitsBy_135 rfl (nI_inc _) (by decide) rfl ?_
          refine s_goto (tgt := 2) dX9_fitsBy_138 (by decide) ?_
          refine G.mem (by rw [fitF_row o2b]) (G.locU ih (by intro i x hx hu; rcases i with _ | _ | _ | _ | _ | _ | i <;> simp_all))
        · have F1 : MF (wC M 57 (fitF (mA M 57) n s (mJ M 43) some w v)) := F.to rfl rfl
          have F := F1
          have hfin : ∀ x : Value, G X mX9_fitsBy (d + 2) 0 0 115 [.ref 41, .int (nI some), .int (nI w), .int (nI v), .int (nI (fitV n s (mJ M 43) some w v)), x] [] (wC M 57 (fitF (mA M 57) n s (mJ M 43) some w v)) (ex none (fitM M n s some)) := by
            intro x
            refine s_aload_n dX9_fitsBy_115 rfl trivial ?_
            refine s_getV (v := .ref 57) dX9_fitsBy_116 fX9_69_9 F.g41 rfl F.v41_34 ?_
            refine s_sipush (v := 256) dX9_fitsBy_119 rfl ?_
            refine s_iload_n dX9_fitsBy_122 rfl ?_
            refine s_imul dX9_fitsBy_123 ?_
            refine s_iload_n dX9_fitsBy_124 rfl ?_
            refine s_iadd dX9_fitsBy_125 ?_
            refine s_iload dX9_fitsBy_126 rfl ?_
            refine s_iast (j := 256 * w + v) dX9_fitsBy_128 F.t57 (by simp only [nIl, nI_add, pk_mul]) (by omega) (by decide) ?_
            refine s_iinc (v := nI (v + 1)) (L' := [_, _, _, _, _, _]) dX9_fitsBy_129 rfl (nI_inc _) (by decide) rfl ?_
            refine s_goto (tgt := 14) dX9_fitsBy_132 (by decide) ?_
            refine G.mem (by rw [sA_wC, fitF_step o2b hv]) (G.locU ihv (by intro i x hx hu; rcases i with _ | _ | _ | _ | _ | _ | i <;> simp_all))
          refine s_iload_n dX9_fitsBy_14 rfl ?_
          refine s_aload_n dX9_fitsBy_15 rfl trivial ?_
          refine s_getV (v := .ref 42) dX9_fitsBy_16 fX9_7_9 F.g41 rfl F.v41_0 ?_
          refine s_iconst (v := 2) dX9_fitsBy_19 rfl ?_
          refine s_ialdv (j := 2) (v := nI (n 2)) dX9_fitsBy_20 F.t42 (by simp only [nIl, nI_add, pk_mul]) (by omega) (by decide) (by rw [mA_wCn (by decide), hR _ (by omega) (by omega)]) ?_
          refine s_icmp_ge (tgt := 135) dX9_fitsBy_21 (by decide) (fun h => absurd h (nI_ge hv (by omega))) (fun _ => ?_)
          refine s_aload_n dX9_fitsBy_24 rfl trivial ?_
          refine s_iload_n dX9_fitsBy_25 rfl ?_
          refine s_callV (M_isPossible F (show v < 256 by omega) d) dX9_fitsBy_26 zX9_isPossible oX9_isPossible q1606 rfl F.q41 rfl rfl (Nat.le_of_ble_eq_true rfl) (Nat.le_refl _) (Nat.le_refl _) (ex_ks ?_) ex_x
          by_cases hp : bitJ (mJ M 43) v = true
          · refine s_if_eq (tgt := 40) dX9_fitsBy_29 (by decide) (fun h => absurd h (by show ¬ b2i (bitJ (mJ M 43) v) = 0; rw [hp]; decide)) (fun _ => ?_)
            refine s_aload_n dX9_fitsBy_32 rfl trivial ?_
            refine s_iload_n dX9_fitsBy_33 rfl ?_
            refine s_callV (M_mayBe (n := n) F (by intro k h1 h2; rw [mA_wCn (by decide)]; exact hR k h1 h2) (show w < 4 by omega) (fun k hk => by have := hO.may hw hk; omega) d) dX9_fitsBy_34 zX9_mayBe oX9_mayBe q2108 rfl F.q41 rfl rfl (Nat.le_of_ble_eq_true rfl) (Nat.le_refl _) (Nat.le_refl _) (ex_ks ?_) ex_x
            refine s_goto (tgt := 41) dX9_fitsBy_37 (by decide) ?_
            refine s_istore (L' := [_, _, _, _, _, _]) dX9_fitsBy_41 (by decide) rfl ?_
            refine s_iconst (v := 0) dX9_fitsBy_43 rfl ?_
            refine s_istore (L' := [_, _, _, _, _, _]) dX9_fitsBy_44 (by decide) rfl ?_
            have eV : fitV n s (mJ M 43) some w v = fitG n s some w v (mayB n w) (n 6) := by unfold fitV; rw [if_pos hp]; rfl
            have kl : ∀ k, k ≤ n 6 → G X mX9_fitsBy (d + 2) 0 0 46 [.ref 41, .int (nI some), .int (nI w), .int (nI v), .int (nI (fitG n s some w v (mayB n w) k)), .int (nI k)] [] (wC M 57 (fitF (mA M 57) n s (mJ M 43) some w v)) (ex none (fitM M n s some)) := by
              refine upto (n 6) ?_ (fun k hk ihk => ?_)
              · refine s_iload dX9_fitsBy_46 rfl ?_
                refine s_aload_n dX9_fitsBy_48 rfl trivial ?_
                refine s_getV (v := .ref 42) dX9_fitsBy_49 fX9_7_9 F.g41 rfl F.v41_0 ?_
                refine s_bipush (v := 6) dX9_fitsBy_52 rfl ?_
                refine s_ialdv (j := 6) (v := nI (n 6)) dX9_fitsBy_54 F.t42 (by simp only [nIl, nI_add, pk_mul]) (by omega) (by decide) (by rw [mA_wCn (by decide), hR _ (by omega) (by omega)]) ?_
                refine s_icmp_ge (tgt := 115) dX9_fitsBy_55 (by decide) (fun _ => ?_) (fun h => absurd (nI_le (Nat.le_refl _) (by omega)) h)
                rw [← eV]
                exact hfin _
              · have hg := fitG_le n s some w v hmay k
                refine s_iload dX9_fitsBy_46 rfl ?_
                refine s_aload_n dX9_fitsBy_48 rfl trivial ?_
                refine s_getV (v := .ref 42) dX9_fitsBy_49 fX9_7_9 F.g41 rfl F.v41_0 ?_
                refine s_bipush (v := 6) dX9_fitsBy_52 rfl ?_
                refine s_ialdv (j := 6) (v := nI (n 6)) dX9_fitsBy_54 F.t42 (by simp only [nIl, nI_add, pk_mul]) (by omega) (by decide) (by rw [mA_wCn (by decide), hR _ (by omega) (by omega)]) ?_
                refine s_icmp_ge (tgt := 115) dX9_fitsBy_55 (by decide) (fun h => absurd h (nI_ge hk (by omega))) (fun _ => ?_)
                refine s_iload dX9_fitsBy_58 rfl ?_
                by_cases h0 : fitG n s some w v (mayB n w) k = 0
                · refine s_if_eq (tgt := 115) dX9_fitsBy_60 (by decide) (fun _ => ?_) (fun h => absurd (by rw [h0]; rfl) h)
                  have e0 := fitG_0 n s some w v (n 6) (Nat.le_of_lt hk) h0
                  exact G.loc (by rw [eV, e0, h0]) (hfin (.int (nI k)))
                · refine s_if_eq (tgt := 115) dX9_fitsBy_60 (by decide) (fun h => absurd h (nI_ne0 (by omega) (by omega))) (fun _ => ?_)
                  refine s_iload_n dX9_fitsBy_63 rfl ?_
                  refine s_iload dX9_fitsBy_64 rfl ?_
                  refine s_ishr dX9_fitsBy_66 ?_
                  refine s_iconst (v := 1) dX9_fitsBy_67 rfl ?_
                  refine s_iand dX9_fitsBy_68 ?_
                  refine s_iconst (v := 1) dX9_fitsBy_69 rfl ?_
                  have hHk := oH k hk
                  refine G.stk (st' := [.int 1, .int (b2i (some.testBit k))]) (by rw [nx_bit1 (by omega) (by omega)]) ?_
                  by_cases hb : some.testBit k = true
                  · refine s_icmp_ne (tgt := 109) dX9_fitsBy_70 (by decide) (fun h => absurd (by rw [hb]; rfl) h) (fun _ => ?_)
                    refine s_aload_n dX9_fitsBy_73 rfl trivial ?_
                    refine s_iload dX9_fitsBy_74 rfl ?_
                    refine s_iconst (v := 0) dX9_fitsBy_76 rfl ?_
                    refine s_callV (M_ofHeard F (show k < 12 by omega) (show 0 < 4 by decide) (d + 1)) dX9_fitsBy_77 zX9_ofHeard oX9_ofHeard q2021 rfl F.q41 rfl rfl (Nat.le_of_ble_eq_true rfl) (Nat.le_refl _) (Nat.le_refl _) (ex_ks ?_) ex_x
                    refine G.stk (st' := [.int (nI (n (100 + 4 * k)))]) (by rw [mA_wCn (by decide), Nat.add_zero, hR _ (by omega) (by omega)]) ?_
                    refine s_iload_n dX9_fitsBy_80 rfl ?_
                    by_cases hw2 : n (100 + 4 * k) = w
                    · refine s_icmp_ne (tgt := 109) dX9_fitsBy_81 (by decide) (fun h => absurd (by rw [hw2]) h) (fun _ => ?_)
                      refine s_iload dX9_fitsBy_84 rfl ?_
                      refine s_aload_n dX9_fitsBy_86 rfl trivial ?_
                      refine s_iload_n dX9_fitsBy_87 rfl ?_
                      refine s_aload_n dX9_fitsBy_88 rfl trivial ?_
                      refine s_iload dX9_fitsBy_89 rfl ?_
                      refine s_iconst (v := 1) dX9_fitsBy_91 rfl ?_
                      refine s_callV (M_ofHeard F (show k < 12 by omega) (show 1 < 4 by decide) (d + 1)) dX9_fitsBy_92 zX9_ofHeard oX9_ofHeard q2021 rfl F.q41 rfl rfl (Nat.le_of_ble_eq_true rfl) (Nat.le_refl _) (Nat.le_refl _) (ex_ks ?_) ex_x
                      refine G.stk (st' := [.int (nI (n (100 + 4 * k + 1))), .int (nI w), .ref 41, .int (nI (fitG n s some w v (mayB n w) k))]) (by rw [mA_wCn (by decide), hR _ (by omega) (by omega)]) ?_
                      refine s_iload_n dX9_fitsBy_95 rfl ?_
                      refine s_aload_n dX9_fitsBy_96 rfl trivial ?_
                      refine s_iload dX9_fitsBy_97 rfl ?_
                      refine s_iconst (v := 2) dX9_fitsBy_99 rfl ?_
                      refine s_callV (M_ofHeard F (show k < 12 by omega) (show 2 < 4 by decide) (d + 1)) dX9_fitsBy_100 zX9_ofHeard oX9_ofHeard q2021 rfl F.q41 rfl rfl (Nat.le_of_ble_eq_true rfl) (Nat.le_refl _) (Nat.le_refl _) (ex_ks ?_) ex_x
                      refine G.stk (st' := [.int (nI (n (100 + 4 * k + 2))), .int (nI v), .int (nI (n (100 + 4 * k + 1))), .int (nI w), .ref 41, .int (nI (fitG n s some w v (mayB n w) k))]) (by rw [mA_wCn (by decide), hR _ (by omega) (by omega)]) ?_
                      refine s_callV (M_kindsFor (s := s) F (fun k' hk' => by rw [mA_wCn (by decide)]; have := hA w (n (100 + 4 * k + 1)) v k' hw hHk.2.1 hv hk' hp; exact ⟨this.1, by omega⟩) (by omega) (by omega) (by omega) (by omega) d) dX9_fitsBy_103 zX9_kindsFor oX9_kindsFor q2112 rfl F.q41 rfl rfl (Nat.le_of_ble_eq_true rfl) (Nat.le_refl _) (Nat.le_refl _) (ex_ks ?_) ex_x
                      refine s_iand dX9_fitsBy_106 ?_
                      refine s_istore (L' := [_, _, _, _, _, _]) dX9_fitsBy_107 (by decide) rfl ?_
                      refine s_iinc (v := nI (k + 1)) (L' := [_, _, _, _, _, _]) dX9_fitsBy_109 rfl (nI_inc _) (by decide) rfl ?_
                      refine s_goto (tgt := 46) dX9_fitsBy_112 (by decide) ?_
                      refine G.loc ?_ ihk
                      rw [nx_and, fitG_s, if_pos ⟨hb, hw2⟩]
                    · refine s_icmp_ne (tgt := 109) dX9_fitsBy_81 (by decide) (fun _ => ?_) (fun h => absurd h (fun h => hw2 ((nI_eq (by omega) (by omega)).mp h)))
                      refine s_iinc (v := nI (k + 1)) (L' := [_, _, _, _, _, _]) dX9_fitsBy_109 rfl (nI_inc _) (by decide) rfl ?_
                      refine s_goto (tgt := 46) dX9_fitsBy_112 (by decide) ?_
                      refine G.loc ?_ ihk
                      rw [fitG_s, if_neg (fun h => hw2 h.2)]
                  · refine s_icmp_ne (tgt := 109) dX9_fitsBy_70 (by decide) (fun _ => ?_) (fun h => absurd h (by simp only [Bool.not_eq_true] at hb; rw [hb]; decide))
                    refine s_iinc (v := nI (k + 1)) (L' := [_, _, _, _, _, _]) dX9_fitsBy_109 rfl (nI_inc _) (by decide) rfl ?_
                    refine s_goto (tgt := 46) dX9_fitsBy_112 (by decide) ?_
                    refine G.loc ?_ ihk
                    rw [fitG_s, if_neg (fun h => hb h.1)]
            exact kl 0 (Nat.zero_le _)
          · refine s_if_eq (tgt := 40) dX9_fitsBy_29 (by decide) (fun _ => ?_) (fun h => absurd (by show b2i (bitJ (mJ M 43) v) = 0; simp only [Bool.not_eq_true] at hp; rw [hp]; rfl) h)
            refine s_iconst (v := 0) dX9_fitsBy_40 rfl ?_
            refine s_istore (L' := [_, _, _, _, _, _]) dX9_fitsBy_41 (by decide) rfl ?_
            refine s_iconst (v := 0) dX9_fitsBy_43 rfl ?_
            refine s_istore (L' := [_, _, _, _, _, _]) dX9_fitsBy_44 (by decide) rfl ?_
            have eV : fitV n s (mJ M 43) some w v = 0 := by unfold fitV; rw [if_neg hp]
            have hfin0 := hfin (.int 0)
            rw [eV] at hfin0
            refine s_iload dX9_fitsBy_46 rfl ?_
            refine s_aload_n dX9_fitsBy_48 rfl trivial ?_
            refine s_getV (v := .ref 42) dX9_fitsBy_49 fX9_7_9 F.g41 rfl F.v41_0 ?_
            refine s_bipush (v := 6) dX9_fitsBy_52 rfl ?_
            refine s_ialdv (j := 6) (v := nI (n 6)) dX9_fitsBy_54 F.t42 (by simp only [nIl, nI_add, pk_mul]) (by omega) (by decide) (by rw [mA_wCn (by decide), hR _ (by omega) (by omega)]) ?_
            refine s_icmp_ge (tgt := 115) dX9_fitsBy_55 (by decide) (fun c1 => ?_) (fun c1 => ?_)
            · exact hfin0
            · refine s_iload dX9_fitsBy_58 rfl ?_
              refine s_if_eq (tgt := 115) dX9_fitsBy_60 (by decide) (fun _ => ?_) (fun h => absurd (rfl) h)
              exact hfin0
      have F1 : MF (wC M 57 (fitF (mA M 57) n s (mJ M 43) some w 0)) := F.to rfl rfl
      have F := F1
      refine s_iload_n dX9_fitsBy_2 rfl ?_
      refine s_aload_n dX9_fitsBy_3 rfl trivial ?_
      refine s_getV (v := .ref 42) dX9_fitsBy_4 fX9_7_9 F.g41 rfl F.v41_0 ?_
      refine s_iconst (v := 4) dX9_fitsBy_7 rfl ?_
      refine s_ialdv (j := 4) (v := nI (n 4)) dX9_fitsBy_8 F.t42 (by simp only [nIl, nI_add, pk_mul]) (by omega) (by decide) (by rw [mA_wCn (by decide), hR _ (by omega) (by omega)]) ?_
      refine s_icmp_ge (tgt := 141) dX9_fitsBy_9 (by decide) (fun h => absurd h (nI_ge hw (by omega))) (fun _ => ?_)
      refine s_iconst (v := 0) dX9_fitsBy_12 rfl ?_
      refine s_istore_n (L' := [_, _, _, _, _, _]) dX9_fitsBy_13 (by decide) rfl ?_
      exact inner 0 (Nat.zero_le _)
  have h0 := outer 0 (Nat.zero_le _)
  rw [fitF_0, wC_self] at h0
  exact h0
end MF2

