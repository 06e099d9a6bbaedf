/-! THE REFERENCE: laying out what fits -/
set_option maxRecDepth 100000
section MF2
variable {X : ME} {M : MM} {n s : Nat → Nat}
theorem SOK.may (h : SOK n) {w k : Nat} (hw : w < n 4) (hk : k < 4) : n (76 + 6 * w + k) ≤ 16 := by
  obtain ⟨h1, -⟩ := h.2.2.2.2.2.2.2.2.2.2.2.1 w hw
  rcases (show k = 0 ∨ k = 1 ∨ k = 2 ∨ k = 3 by omega) with rfl | rfl | rfl | rfl <;> (try rw [Nat.add_zero]) <;> omega
set_option maxHeartbeats 2000000 in
theorem M_fitsBy (F : MF M) (hR : SR (mA M 42) n) (hO : SOK n) (hA : AR (mA M 54) s n (mJ M 43)) {some : Nat} (hs : some < 4096) (d : Nat) : GM X mX9_fitsBy (d + 2) 0 0 [.ref 41, .int (nI some)] M (ex none (fitM M n s some)) := by
  obtain ⟨o0, o1, o2, o2b, o3, o4, o5, o6, oF, oV, oQ, oW, oH, oD⟩ := id hO
  refine G.in (L' := [_, _, vU, vU, vU, vU]) rfl rfl (Nat.le_of_ble_eq_true rfl) ?_
  refine s_iconst (v := 0) dX9_fitsBy_0 rfl ?_
  refine s_istore_n (L' := [_, _, _, _, _, _]) dX9_fitsBy_1 (by decide) rfl ?_
  have h6 : n 6 ≤ 12 := by omega
  -- the last loop: what was put
  have last : ∀ k, k ≤ n 6 → G X mX9_fitsBy (d + 2) 0 0 164 [.ref 41, .int (nI some), .int (nI k), vU, vU, vU] [] (wC (wC M 57 (fitF (mA M 57) n s (mJ M 43) some (n 4) 0)) 58 (putF (mA M 58) n k)) (ex none (fitM M n s some)) := by
    refine upto (n 6) ?_ (fun k hk ih => ?_)
    · have F1 : MF (wC (wC M 57 (fitF (mA M 57) n s (mJ M 43) some (n 4) 0)) 58 (putF (mA M 58) n (n 6))) := F.to rfl rfl
      have F := F1
      refine s_iload_n dX9_fitsBy_164 rfl ?_
      refine s_aload_n dX9_fitsBy_165 rfl trivial ?_
      refine s_getV (v := .ref 42) dX9_fitsBy_166 fX9_7_9 F.g41 rfl F.v41_0 ?_
      refine s_bipush (v := 6) dX9_fitsBy_169 rfl ?_
      refine s_ialdv (j := 6) (v := nI (n 6)) dX9_fitsBy_171 F.t42 (by simp only [nIl, nI_add, pk_mul]) (by omega) (by decide) (by rw [mA_wCn (by decide), mA_wCn (by decide), hR _ (by omega) (by omega)]) ?_
      refine s_icmp_ge (tgt := 193) dX9_fitsBy_172 (by decide) (fun _ => ?_) (fun h => absurd (nI_le (Nat.le_refl _) (by omega)) h)
      exact s_vret dX9_fitsBy_193 rfl ⟨rfl, rfl⟩
    · have F1 : MF (wC (wC M 57 (fitF (mA M 57) n s (mJ M 43) some (n 4) 0)) 58 (putF (mA M 58) n k)) := F.to rfl rfl
      have hq := (oH k hk).2.1
      have F := F1
      refine s_iload_n dX9_fitsBy_164 rfl ?_
      refine s_aload_n dX9_fitsBy_165 rfl trivial ?_
      refine s_getV (v := .ref 42) dX9_fitsBy_166 fX9_7_9 F.g41 rfl F.v41_0 ?_
      refine s_bipush (v := 6) dX9_fitsBy_169 rfl ?_
      refine s_ialdv (j := 6) (v := nI (n 6)) dX9_fitsBy_171 F.t42 (by simp only [nIl, nI_add, pk_mul]) (by omega) (by decide) (by rw [mA_wCn (by decide), mA_wCn (by decide), hR _ (by omega) (by omega)]) ?_
      refine s_icmp_ge (tgt := 193) dX9_fitsBy_172 (by decide) (fun h => absurd h (nI_ge hk (by omega))) (fun _ => ?_)
      refine s_aload_n dX9_fitsBy_175 rfl trivial ?_
      refine s_getV (v := .ref 58) dX9_fitsBy_176 fX9_72_9 F.g41 rfl F.v41_35 ?_
      refine s_aload_n dX9_fitsBy_179 rfl trivial ?_
      refine s_iload_n dX9_fitsBy_180 rfl ?_
      refine s_iconst (v := 1) dX9_fitsBy_181 rfl ?_
      refine s_callV (M_ofHeard F (show k < 12 by omega) (show 1 < 4 by decide) (d + 1)) dX9_fitsBy_182 zX9_ofHeard oX9_ofHeard q2021 rfl F.q41 rfl rfl (Nat.le_of_ble_eq_true rfl) (Nat.le_refl _) (Nat.le_refl _) (ex_ks ?_) ex_x
      refine G.stk (st' := [.int (nI (n (100 + 4 * k + 1))), .ref 58]) (by rw [mA_wCn (by decide), mA_wCn (by decide), hR _ (by omega) (by omega)]) ?_
      refine s_iconst (v := 1) dX9_fitsBy_185 rfl ?_
      refine s_zast (j := n (100 + 4 * k + 1)) dX9_fitsBy_186 F.t58 (rfl) (by omega) (by decide) ?_
      refine s_iinc (v := nI (k + 1)) (L' := [_, _, _, _, _, _]) dX9_fitsBy_187 rfl (nI_inc _) (by decide) rfl ?_
      refine s_goto (tgt := 164) dX9_fitsBy_190 (by decide) ?_
      refine G.mem ?_ ih
      rw [sA_wC]
      congr 1
      funext j
      unfold upF putF
      by_cases hj : j = n (100 + 4 * k + 1)
      · subst hj
        rw [if_pos rfl, if_pos (by omega)]
        simp [askd, b2i]
      · rw [if_neg hj]
        by_cases h12 : j < 12
        · rw [if_pos h12, if_pos h12]
          have hj' : ¬ n (100 + 4 * k + 1) = j := fun e => hj e.symm
          simp [askd, hj']
        · rw [if_neg h12, if_neg h12]
  -- the loop ahead of it: nothing is put
  have mid : ∀ k, k ≤ 12 → G X mX9_fitsBy (d + 2) 0 0 143 [.ref 41, .int (nI some), .int (nI k), vU, vU, vU] [] (wC (wC M 57 (fitF (mA M 57) n s (mJ M 43) some (n 4) 0)) 58 (fun j => if j < k then 0 else mA M 58 j)) (ex none (fitM M n s some)) := by
    refine upto 12 ?_ (fun k hk ih => ?_)
    · refine s_iload_n dX9_fitsBy_143 rfl ?_
      refine s_bipush (v := 12) dX9_fitsBy_144 rfl ?_
      refine s_icmp_ge (tgt := 162) dX9_fitsBy_146 (by decide) (fun _ => ?_) (fun h => absurd (by rw [nIl]; exact nI_le (Nat.le_refl _) (by omega)) h)
      refine s_iconst (v := 0) dX9_fitsBy_162 rfl ?_
      refine s_istore_n (L' := [_, _, _, _, _, _]) dX9_fitsBy_163 (by decide) rfl ?_
      refine G.mem ?_ (last 0 (Nat.zero_le _))
      congr 1
    · have F1 : MF (wC (wC M 57 (fitF (mA M 57) n s (mJ M 43) some (n 4) 0)) 58 (fun j => if j < k then 0 else mA M 58 j)) := F.to rfl rfl
      have F := F1
      refine s_iload_n dX9_fitsBy_143 rfl ?_
      refine s_bipush (v := 12) dX9_fitsBy_144 rfl ?_
      refine s_icmp_ge (tgt := 162) dX9_fitsBy_146 (by decide) (fun h => absurd h (by rw [nIl]; exact nI_ge hk (by omega))) (fun _ => ?_)
      refine s_aload_n dX9_fitsBy_149 rfl trivial ?_
      refine s_getV (v := .ref 58) dX9_fitsBy_150 fX9_72_9 F.g41 rfl F.v41_35 ?_
      refine s_iload_n dX9_fitsBy_153 rfl ?_
      refine s_iconst (v := 0) dX9_fitsBy_154 rfl ?_
      refine s_zast (j := k) dX9_fitsBy_155 F.t58 (rfl) (by omega) (by decide) ?_
      refine s_iinc (v := nI (k + 1)) (L' := [_, _, _, _, _, _]) dX9_fitsBy_156 rfl (nI_inc _) (by decide) rfl ?_
      refine s_goto (tgt := 143) dX9_fitsBy_159 (by decide) ?_
      refine G.mem ?_ ih
      rw [sA_wC]
      congr 1
      funext j
      unfold upF
      by_cases hj : j = k
      · subst hj
        rw [if_pos rfl, if_pos (by omega)]
        rfl
      · rw [if_neg hj]
        dsimp only
        by_cases h12 : j < k
        · rw [if_pos h12, if_pos (by omega)]
        · rw [if_neg h12, if_neg (by omega)]
  -- witnesses
  have outer : ∀ w, w ≤ n 4 → G X mX9_fitsBy (d + 2) 0 0 2 [.ref 41, .int (nI some), .int (nI w), vU, vU, vU] [] (wC M 57 (fitF (mA M 57) n s (mJ M 43) some w 0)) (ex none (fitM M n s some)) := by
    refine upto (n 4) ?_ (fun w hw ih => ?_)
    · have F1 : MF (wC M 57 (fitF (mA M 57) n s (mJ M 43) some (n 4) 0)) := F.to rfl rfl
      have F := F1
      refine s_iload_n dX9_fitsBy_2 rfl ?_
      refine s_aload_n dX9_fitsBy_3 rfl trivial ?_
      refine s_getV (v := .ref 42) dX9_fitsBy_4 fX9_7_9 F.g41 rfl F.v41_0 ?_
      refine s_iconst (v := 4) dX9_fitsBy_7 rfl ?_
      refine s_ialdv (j := 4) (v := nI (n 4)) dX9_fitsBy_8 F.t42 (by simp only [nIl, nI_add, pk_mul]) (by omega) (by decide) (by rw [mA_wCn (by decide), hR _ (by omega) (by omega)]) ?_
      refine s_icmp_ge (tgt := 141) dX9_fitsBy_9 (by decide) (fun _ => ?_) (fun h => absurd (nI_le (Nat.le_refl _) (by omega)) h)
      refine s_iconst (v := 0) dX9_fitsBy_141 rfl ?_
      refine s_istore_n (L' := [_, _, _, _, _, _]) dX9_fitsBy_142 (by decide) rfl ?_
      refine G.mem ?_ (mid 0 (Nat.zero_le _))
      rw [show (fun j => if j < 0 then (0 : Int32) else mA M 58 j) = mA (wC M 57 (fitF (mA M 57) n s (mJ M 43) some (n 4) 0)) 58 by rw [mA_wCn (by decide)]; funext j; rfl, wC_self]
    · -- worlds
      have hmay : mayB n w < 16 := ks_lt4 _
      have inner : ∀ v, v ≤ n 2 → G X mX9_fitsBy (d + 2) 0 0 14 [.ref 41, .int (nI some), .int (nI w), .int (nI v), vU, vU] [] (wC M 57 (fitF (mA M 57) n s (mJ M 43) some w v)) (ex none (fitM M n s some)) := by
        refine upto (n 2) ?_ (fun v hv ihv => ?_)
        · have F1 : MF (wC M 57 (fitF (mA M 57) n s (mJ M 43) some w (n 2))) := F.to rfl rfl
          have F := F1
          refine s_iload_n dX9_fitsBy_14 rfl ?_
          refine s_aload_n dX9_fitsBy_15 rfl trivial ?_
          refine s_getV (v := .ref 42) dX9_fitsBy_16 fX9_7_9 F.g41 rfl F.v41_0 ?_
          refine s_iconst (v := 2) dX9_fitsBy_19 rfl ?_
          refine s_ialdv (j := 2) (v := nI (n 2)) dX9_fitsBy_20 F.t42 (by simp only [nIl, nI_add, pk_mul]) (by omega) (by decide) (by rw [mA_wCn (by decide), hR _ (by omega) (by omega)]) ?_
          refine s_icmp_ge (tgt := 135) dX9_fitsBy_21 (by decide) (fun _ => ?_) (fun h => absurd (nI_le (Nat.le_refl _) (by omega)) h)
          refine s_iinc (v := nI (w + 1)) (L' := [_, _, _, _, _, _]) dX9_fitsBy_135 rfl (nI_inc _) (by decide) rfl ?_
          refine s_goto (tgt := 2) dX9_fitsBy_138 (by decide) ?_
          refine G.mem (by rw [fitF_row o2b]) (G.locU ih (by intro i x hx hu; rcases i with _ | _ | _ | _ | _ | _ | i <;> simp_all))
        · have F1 : MF (wC M 57 (fitF (mA M 57) n s (mJ M 43) some w v)) := F.to rfl rfl
          have F := F1
          have hfin : ∀ x : Value, G X mX9_fitsBy (d + 2) 0 0 115 [.ref 41, .int (nI some), .int (nI w), .int (nI v), .int (nI (fitV n s (mJ M 43) some w v)), x] [] (wC M 57 (fitF (mA M 57) n s (mJ M 43) some w v)) (ex none (fitM M n s some)) := by
            intro x
            refine s_aload_n dX9_fitsBy_115 rfl trivial ?_
            refine s_getV (v := .ref 57) dX9_fitsBy_116 fX9_69_9 F.g41 rfl F.v41_34 ?_
            refine s_sipush (v := 256) dX9_fitsBy_119 rfl ?_
            refine s_iload_n dX9_fitsBy_122 rfl ?_
            refine s_imul dX9_fitsBy_123 ?_
            refine s_iload_n dX9_fitsBy_124 rfl ?_
            refine s_iadd dX9_fitsBy_125 ?_
            refine s_iload dX9_fitsBy_126 rfl ?_
            refine s_iast (j := 256 * w + v) dX9_fitsBy_128 F.t57 (by simp only [nIl, nI_add, pk_mul]) (by omega) (by decide) ?_
            refine s_iinc (v := nI (v + 1)) (L' := [_, _, _, _, _, _]) dX9_fitsBy_129 rfl (nI_inc _) (by decide) rfl ?_
            refine s_goto (tgt := 14) dX9_fitsBy_132 (by decide) ?_
            refine G.mem (by rw [sA_wC, fitF_step o2b hv]) (G.locU ihv (by intro i x hx hu; rcases i with _ | _ | _ | _ | _ | _ | i <;> simp_all))
          refine s_iload_n dX9_fitsBy_14 rfl ?_
          refine s_aload_n dX9_fitsBy_15 rfl trivial ?_
          refine s_getV (v := .ref 42) dX9_fitsBy_16 fX9_7_9 F.g41 rfl F.v41_0 ?_
          refine s_iconst (v := 2) dX9_fitsBy_19 rfl ?_
          refine s_ialdv (j := 2) (v := nI (n 2)) dX9_fitsBy_20 F.t42 (by simp only [nIl, nI_add, pk_mul]) (by omega) (by decide) (by rw [mA_wCn (by decide), hR _ (by omega) (by omega)]) ?_
          refine s_icmp_ge (tgt := 135) dX9_fitsBy_21 (by decide) (fun h => absurd h (nI_ge hv (by omega))) (fun _ => ?_)
          refine s_aload_n dX9_fitsBy_24 rfl trivial ?_
          refine s_iload_n dX9_fitsBy_25 rfl ?_
          refine s_callV (M_isPossible F (show v < 256 by omega) d) dX9_fitsBy_26 zX9_isPossible oX9_isPossible q1606 rfl F.q41 rfl rfl (Nat.le_of_ble_eq_true rfl) (Nat.le_refl _) (Nat.le_refl _) (ex_ks ?_) ex_x
          by_cases hp : bitJ (mJ M 43) v = true
          · refine s_if_eq (tgt := 40) dX9_fitsBy_29 (by decide) (fun h => absurd h (by show ¬ b2i (bitJ (mJ M 43) v) = 0; rw [hp]; decide)) (fun _ => ?_)
            refine s_aload_n dX9_fitsBy_32 rfl trivial ?_
            refine s_iload_n dX9_fitsBy_33 rfl ?_
            refine s_callV (M_mayBe (n := n) F (by intro k h1 h2; rw [mA_wCn (by decide)]; exact hR k h1 h2) (show w < 4 by omega) (fun k hk => by have := hO.may hw hk; omega) d) dX9_fitsBy_34 zX9_mayBe oX9_mayBe q2108 rfl F.q41 rfl rfl (Nat.le_of_ble_eq_true rfl) (Nat.le_refl _) (Nat.le_refl _) (ex_ks ?_) ex_x
            refine s_goto (tgt := 41) dX9_fitsBy_37 (by decide) ?_
            refine s_istore (L' := [_, _, _, _, _, _]) dX9_fitsBy_41 (by decide) rfl ?_
            refine s_iconst (v := 0) dX9_fitsBy_43 rfl ?_
            refine s_istore (L' := [_, _, _, _, _, _]) dX9_fitsBy_44 (by decide) rfl ?_
            have eV : fitV n s (mJ M 43) some w v = fitG n s some w v (mayB n w) (n 6) := by unfold fitV; rw [if_pos hp]; rfl
            have kl : ∀ k, k ≤ n 6 → G X mX9_fitsBy (d + 2) 0 0 46 [.ref 41, .int (nI some), .int (nI w), .int (nI v), .int (nI (fitG n s some w v (mayB n w) k)), .int (nI k)] [] (wC M 57 (fitF (mA M 57) n s (mJ M 43) some w v)) (ex none (fitM M n s some)) := by
              refine upto (n 6) ?_ (fun k hk ihk => ?_)
              · refine s_iload dX9_fitsBy_46 rfl ?_
                refine s_aload_n dX9_fitsBy_48 rfl trivial ?_
                refine s_getV (v := .ref 42) dX9_fitsBy_49 fX9_7_9 F.g41 rfl F.v41_0 ?_
                refine s_bipush (v := 6) dX9_fitsBy_52 rfl ?_
                refine s_ialdv (j := 6) (v := nI (n 6)) dX9_fitsBy_54 F.t42 (by simp only [nIl, nI_add, pk_mul]) (by omega) (by decide) (by rw [mA_wCn (by decide), hR _ (by omega) (by omega)]) ?_
                refine s_icmp_ge (tgt := 115) dX9_fitsBy_55 (by decide) (fun _ => ?_) (fun h => absurd (nI_le (Nat.le_refl _) (by omega)) h)
                rw [← eV]
                exact hfin _
              · have hg := fitG_le n s some w v hmay k
                refine s_iload dX9_fitsBy_46 rfl ?_
                refine s_aload_n dX9_fitsBy_48 rfl trivial ?_
                refine s_getV (v := .ref 42) dX9_fitsBy_49 fX9_7_9 F.g41 rfl F.v41_0 ?_
                refine s_bipush (v := 6) dX9_fitsBy_52 rfl ?_
                refine s_ialdv (j := 6) (v := nI (n 6)) dX9_fitsBy_54 F.t42 (by simp only [nIl, nI_add, pk_mul]) (by omega) (by decide) (by rw [mA_wCn (by decide), hR _ (by omega) (by omega)]) ?_
                refine s_icmp_ge (tgt := 115) dX9_fitsBy_55 (by decide) (fun h => absurd h (nI_ge hk (by omega))) (fun _ => ?_)
                refine s_iload dX9_fitsBy_58 rfl ?_
                by_cases h0 : fitG n s some w v (mayB n w) k = 0
                · refine s_if_eq (tgt := 115) dX9_fitsBy_60 (by decide) (fun _ => ?_) (fun h => absurd (by rw [h0]; rfl) h)
                  have e0 := fitG_0 n s some w v (n 6) (Nat.le_of_lt hk) h0
                  exact G.loc (by rw [eV, e0, h0]) (hfin (.int (nI k)))
                · refine s_if_eq (tgt := 115) dX9_fitsBy_60 (by decide) (fun h => absurd h (nI_ne0 (by omega) (by omega))) (fun _ => ?_)
                  refine s_iload_n dX9_fitsBy_63 rfl ?_
                  refine s_iload dX9_fitsBy_64 rfl ?_
                  refine s_ishr dX9_fitsBy_66 ?_
                  refine s_iconst (v := 1) dX9_fitsBy_67 rfl ?_
                  refine s_iand dX9_fitsBy_68 ?_
                  refine s_iconst (v := 1) dX9_fitsBy_69 rfl ?_
                  have hHk := oH k hk
                  refine G.stk (st' := [.int 1, .int (b2i (some.testBit k))]) (by rw [nx_bit1 (by omega) (by omega)]) ?_
                  by_cases hb : some.testBit k = true
                  · refine s_icmp_ne (tgt := 109) dX9_fitsBy_70 (by decide) (fun h => absurd (by rw [hb]; rfl) h) (fun _ => ?_)
                    refine s_aload_n dX9_fitsBy_73 rfl trivial ?_
                    refine s_iload dX9_fitsBy_74 rfl ?_
                    refine s_iconst (v := 0) dX9_fitsBy_76 rfl ?_
                    refine s_callV (M_ofHeard F (show k < 12 by omega) (show 0 < 4 by decide) (d + 1)) dX9_fitsBy_77 zX9_ofHeard oX9_ofHeard q2021 rfl F.q41 rfl rfl (Nat.le_of_ble_eq_true rfl) (Nat.le_refl _) (Nat.le_refl _) (ex_ks ?_) ex_x
                    refine G.stk (st' := [.int (nI (n (100 + 4 * k)))]) (by rw [mA_wCn (by decide), Nat.add_zero, hR _ (by omega) (by omega)]) ?_
                    refine s_iload_n dX9_fitsBy_80 rfl ?_
                    by_cases hw2 : n (100 + 4 * k) = w
                    · refine s_icmp_ne (tgt := 109) dX9_fitsBy_81 (by decide) (fun h => absurd (by rw [hw2]) h) (fun _ => ?_)
                      refine s_iload dX9_fitsBy_84 rfl ?_
                      refine s_aload_n dX9_fitsBy_86 rfl trivial ?_
                      refine s_iload_n dX9_fitsBy_87 rfl ?_
                      refine s_aload_n dX9_fitsBy_88 rfl trivial ?_
                      refine s_iload dX9_fitsBy_89 rfl ?_
                      refine s_iconst (v := 1) dX9_fitsBy_91 rfl ?_
                      refine s_callV (M_ofHeard F (show k < 12 by omega) (show 1 < 4 by decide) (d + 1)) dX9_fitsBy_92 zX9_ofHeard oX9_ofHeard q2021 rfl F.q41 rfl rfl (Nat.le_of_ble_eq_true rfl) (Nat.le_refl _) (Nat.le_refl _) (ex_ks ?_) ex_x
                      refine G.stk (st' := [.int (nI (n (100 + 4 * k + 1))), .int (nI w), .ref 41, .int (nI (fitG n s some w v (mayB n w) k))]) (by rw [mA_wCn (by decide), hR _ (by omega) (by omega)]) ?_
                      refine s_iload_n dX9_fitsBy_95 rfl ?_
                      refine s_aload_n dX9_fitsBy_96 rfl trivial ?_
                      refine s_iload dX9_fitsBy_97 rfl ?_
                      refine s_iconst (v := 2) dX9_fitsBy_99 rfl ?_
                      refine s_callV (M_ofHeard F (show k < 12 by omega) (show 2 < 4 by decide) (d + 1)) dX9_fitsBy_100 zX9_ofHeard oX9_ofHeard q2021 rfl F.q41 rfl rfl (Nat.le_of_ble_eq_true rfl) (Nat.le_refl _) (Nat.le_refl _) (ex_ks ?_) ex_x
                      refine G.stk (st' := [.int (nI (n (100 + 4 * k + 2))), .int (nI v), .int (nI (n (100 + 4 * k + 1))), .int (nI w), .ref 41, .int (nI (fitG n s some w v (mayB n w) k))]) (by rw [mA_wCn (by decide), hR _ (by omega) (by omega)]) ?_
                      refine s_callV (M_kindsFor (s := s) F (fun k' hk' => by rw [mA_wCn (by decide)]; have := hA w (n (100 + 4 * k + 1)) v k' hw hHk.2.1 hv hk' hp; exact ⟨this.1, by omega⟩) (by omega) (by omega) (by omega) (by omega) d) dX9_fitsBy_103 zX9_kindsFor oX9_kindsFor q2112 rfl F.q41 rfl rfl (Nat.le_of_ble_eq_true rfl) (Nat.le_refl _) (Nat.le_refl _) (ex_ks ?_) ex_x
                      refine s_iand dX9_fitsBy_106 ?_
                      refine s_istore (L' := [_, _, _, _, _, _]) dX9_fitsBy_107 (by decide) rfl ?_
                      refine s_iinc (v := nI (k + 1)) (L' := [_, _, _, _, _, _]) dX9_fitsBy_109 rfl (nI_inc _) (by decide) rfl ?_
                      refine s_goto (tgt := 46) dX9_fitsBy_112 (by decide) ?_
                      refine G.loc ?_ ihk
                      rw [nx_and, fitG_s, if_pos ⟨hb, hw2⟩]
                    · refine s_icmp_ne (tgt := 109) dX9_fitsBy_81 (by decide) (fun _ => ?_) (fun h => absurd h (fun h => hw2 ((nI_eq (by omega) (by omega)).mp h)))
                      refine s_iinc (v := nI (k + 1)) (L' := [_, _, _, _, _, _]) dX9_fitsBy_109 rfl (nI_inc _) (by decide) rfl ?_
                      refine s_goto (tgt := 46) dX9_fitsBy_112 (by decide) ?_
                      refine G.loc ?_ ihk
                      rw [fitG_s, if_neg (fun h => hw2 h.2)]
                  · refine s_icmp_ne (tgt := 109) dX9_fitsBy_70 (by decide) (fun _ => ?_) (fun h => absurd h (by simp only [Bool.not_eq_true] at hb; rw [hb]; decide))
                    refine s_iinc (v := nI (k + 1)) (L' := [_, _, _, _, _, _]) dX9_fitsBy_109 rfl (nI_inc _) (by decide) rfl ?_
                    refine s_goto (tgt := 46) dX9_fitsBy_112 (by decide) ?_
                    refine G.loc ?_ ihk
                    rw [fitG_s, if_neg (fun h => hb h.1)]
            exact kl 0 (Nat.zero_le _)
          · refine s_if_eq (tgt := 40) dX9_fitsBy_29 (by decide) (fun _ => ?_) (fun h => absurd (by show b2i (bitJ (mJ M 43) v) = 0; simp only [Bool.not_eq_true] at hp; rw [hp]; rfl) h)
            refine s_iconst (v := 0) dX9_fitsBy_40 rfl ?_
            refine s_istore (L' := [_, _, _, _, _, _]) dX9_fitsBy_41 (by decide) rfl ?_
            refine s_iconst (v := 0) dX9_fitsBy_43 rfl ?_
            refine s_istore (L' := [_, _, _, _, _, _]) dX9_fitsBy_44 (by decide) rfl ?_
            have eV : fitV n s (mJ M 43) some w v = 0 := by unfold fitV; rw [if_neg hp]
            have hfin0 := hfin (.int 0)
            rw [eV] at hfin0
            refine s_iload dX9_fitsBy_46 rfl ?_
            refine s_aload_n dX9_fitsBy_48 rfl trivial ?_
            refine s_getV (v := .ref 42) dX9_fitsBy_49 fX9_7_9 F.g41 rfl F.v41_0 ?_
            refine s_bipush (v := 6) dX9_fitsBy_52 rfl ?_
            refine s_ialdv (j := 6) (v := nI (n 6)) dX9_fitsBy_54 F.t42 (by simp only [nIl, nI_add, pk_mul]) (by omega) (by decide) (by rw [mA_wCn (by decide), hR _ (by omega) (by omega)]) ?_
            refine s_icmp_ge (tgt := 115) dX9_fitsBy_55 (by decide) (fun c1 => ?_) (fun c1 => ?_)
            · exact hfin0
            · refine s_iload dX9_fitsBy_58 rfl ?_
              refine s_if_eq (tgt := 115) dX9_fitsBy_60 (by decide) (fun _ => ?_) (fun h => absurd (rfl) h)
              exact hfin0
      have F1 : MF (wC M 57 (fitF (mA M 57) n s (mJ M 43) some w 0)) := F.to rfl rfl
      have F := F1
      refine s_iload_n dX9_fitsBy_2 rfl ?_
      refine s_aload_n dX9_fitsBy_3 rfl trivial ?_
      refine s_getV (v := .ref 42) dX9_fitsBy_4 fX9_7_9 F.g41 rfl F.v41_0 ?_
      refine s_iconst (v := 4) dX9_fitsBy_7 rfl ?_
      refine s_ialdv (j := 4) (v := nI (n 4)) dX9_fitsBy_8 F.t42 (by simp only [nIl, nI_add, pk_mul]) (by omega) (by decide) (by rw [mA_wCn (by decide), hR _ (by omega) (by omega)]) ?_
      refine s_icmp_ge (tgt := 141) dX9_fitsBy_9 (by decide) (fun h => absurd h (nI_ge hw (by omega))) (fun _ => ?_)
      refine s_iconst (v := 0) dX9_fitsBy_12 rfl ?_
      refine s_istore_n (L' := [_, _, _, _, _, _]) dX9_fitsBy_13 (by decide) rfl ?_
      exact inner 0 (Nat.zero_le _)
  have h0 := outer 0 (Nat.zero_le _)
  rw [fitF_0, wC_self] at h0
  exact h0
theorem nI_m1 {h : Nat} (hh : h < 31) : nI (2 ^ h) - 1 = nI (2 ^ h - 1) := by rw [show (1 : Int32) = nI 1 from rfl, pk_sub (Nat.one_le_two_pow)]
theorem M_fitsAll (F : MF M) (hR : SR (mA M 42) n) (hO : SOK n) (hA : AR (mA M 54) s n (mJ M 43)) (d : Nat) : GM X mX9_fitsAll (d + 3) 0 0 [.ref 41] M (ex none (fitM M n s (2 ^ n 6 - 1))) := by
  have h6 : n 6 ≤ 12 := by have := hO.2.2.2.2.2.2.2.1; have := hO.2.2.2.2.1; omega
  have hp : 2 ^ n 6 ≤ 2 ^ 12 := Nat.pow_le_pow_right (by decide) h6
  refine G.in (L' := [_]) rfl rfl (Nat.le_of_ble_eq_true rfl) ?_
  refine s_aload_n dX9_fitsAll_0 rfl trivial ?_
  refine s_iconst (v := 1) dX9_fitsAll_1 rfl ?_
  refine s_aload_n dX9_fitsAll_2 rfl trivial ?_
  refine s_getV (v := .ref 42) dX9_fitsAll_3 fX9_7_9 F.g41 rfl F.v41_0 ?_
  refine s_bipush (v := 6) dX9_fitsAll_6 rfl ?_
  refine s_ialdv (j := 6) (v := nI (n (6))) dX9_fitsAll_8 F.t42 (by simp only [nIl, nI_add, pk_mul]) (by omega) (by decide) (hR _ (by omega) (by omega)) ?_
  refine s_ishl dX9_fitsAll_9 ?_
  refine s_iconst (v := 1) dX9_fitsAll_10 rfl ?_
  refine s_isub dX9_fitsAll_11 ?_
  refine G.stk (st' := [.int (nI (2 ^ n 6 - 1)), .ref 41]) (by rw [nx_shl1 (by omega), nI_m1 (by omega)]) ?_
  refine s_callV (M_fitsBy F hR hO hA (show 2 ^ n 6 - 1 < 4096 by have : (2 : Nat) ^ 12 = 4096 := rfl; omega) d) dX9_fitsAll_12 zX9_fitsBy oX9_fitsBy q2104 rfl F.q41 rfl rfl (Nat.le_of_ble_eq_true rfl) (Nat.le_refl _) (Nat.le_refl _) (ex_kv ?_) ex_x
  exact s_vret dX9_fitsAll_15 rfl ⟨rfl, rfl⟩
theorem M_isLeftAt (F : MF M) (hR : SR (mA M 42) n) (hO : SOK n) {l v : Nat} {g : Nat → Nat → Nat} (hl : l < 4) (hv : v < n 2) (hF : FitIs (fun i => mA M 57 (1024 * l + i)) n g) (hg : ∀ w v, g w v < 16) (d : Nat) : GM X mX9_isLeftAt (d + 2) 0 0 [.ref 41, .int (nI l), .int (nI v)] M (ex (some (.int (b2i (lfk (mJ M 43) g v (n 4))))) M) := by
  obtain ⟨o0, o1, o2, o2b, o3, o4, o5, o6, -⟩ := id hO
  refine G.in (L' := [_, _, _, vU, vU]) rfl rfl (Nat.le_of_ble_eq_true rfl) ?_
  refine s_aload_n dX9_isLeftAt_0 rfl trivial ?_
  refine s_iload_n dX9_isLeftAt_1 rfl ?_
  refine s_callV (M_isPossible F (show v < 256 by omega) d) dX9_isLeftAt_2 zX9_isPossible oX9_isPossible q1606 rfl F.q41 rfl rfl (Nat.le_of_ble_eq_true rfl) (Nat.le_refl _) (Nat.le_refl _) (ex_ks ?_) ex_x
  refine s_istore_n (L' := [_, _, _, _, _]) dX9_isLeftAt_5 (by decide) rfl ?_
  refine s_iconst (v := 0) dX9_isLeftAt_6 rfl ?_
  refine s_istore (L' := [_, _, _, _, _]) dX9_isLeftAt_7 (by decide) rfl ?_
  refine upto (P := fun k => G X mX9_isLeftAt (d + 2) 0 0 9 [.ref 41, .int (nI l), .int (nI v), .int (b2i (lfk (mJ M 43) g v k)), .int (nI k)] [] M (ex (some (.int (b2i (lfk (mJ M 43) g v (n 4))))) M)) (n 4) ?_ (fun k hk ih => ?_) 0 (Nat.zero_le _)
  · refine s_iload dX9_isLeftAt_9 rfl ?_
    refine s_aload_n dX9_isLeftAt_11 rfl trivial ?_
    refine s_getV (v := .ref 42) dX9_isLeftAt_12 fX9_7_9 F.g41 rfl F.v41_0 ?_
    refine s_iconst (v := 4) dX9_isLeftAt_15 rfl ?_
    refine s_ialdv (j := 4) (v := nI (n (4))) dX9_isLeftAt_16 F.t42 (by simp only [nIl, nI_add, pk_mul]) (by omega) (by decide) (hR _ (by omega) (by omega)) ?_
    refine s_icmp_ge (tgt := 58) dX9_isLeftAt_17 (by decide) (fun _ => ?_) (fun h => absurd (nI_le (Nat.le_refl _) (by omega)) h)
    refine s_iload_n dX9_isLeftAt_58 rfl ?_
    exact s_zret dX9_isLeftAt_59 rfl (b2i_01 _) ⟨rfl, rfl⟩
  · refine s_iload dX9_isLeftAt_9 rfl ?_
    refine s_aload_n dX9_isLeftAt_11 rfl trivial ?_
    refine s_getV (v := .ref 42) dX9_isLeftAt_12 fX9_7_9 F.g41 rfl F.v41_0 ?_
    refine s_iconst (v := 4) dX9_isLeftAt_15 rfl ?_
    refine s_ialdv (j := 4) (v := nI (n (4))) dX9_isLeftAt_16 F.t42 (by simp only [nIl, nI_add, pk_mul]) (by omega) (by decide) (hR _ (by omega) (by omega)) ?_
    refine s_icmp_ge (tgt := 58) dX9_isLeftAt_17 (by decide) (fun h => absurd h (nI_ge hk (by omega))) (fun _ => ?_)
    refine s_iload_n dX9_isLeftAt_20 rfl ?_
    by_cases h1 : lfk (mJ M 43) g v k = true
    · refine s_if_eq (tgt := 50) dX9_isLeftAt_21 (by decide) (fun h => absurd h (by rw [h1]; decide)) (fun _ => ?_)
      refine s_aload_n dX9_isLeftAt_24 rfl trivial ?_
      refine s_getV (v := .ref 57) dX9_isLeftAt_25 fX9_69_9 F.g41 rfl F.v41_34 ?_
      refine s_sipush (v := 1024) dX9_isLeftAt_28 rfl ?_
      refine s_iload_n dX9_isLeftAt_31 rfl ?_
      refine s_imul dX9_isLeftAt_32 ?_
      refine s_sipush (v := 256) dX9_isLeftAt_33 rfl ?_
      refine s_iload dX9_isLeftAt_36 rfl ?_
      refine s_imul dX9_isLeftAt_38 ?_
      refine s_iadd dX9_isLeftAt_39 ?_
      refine s_iload_n dX9_isLeftAt_40 rfl ?_
      refine s_iadd dX9_isLeftAt_41 ?_
      refine s_ialdv (j := 1024 * l + (256 * k + v)) (v := nI (g k v)) dX9_isLeftAt_42 F.t57 (by simp only [nIl, nI_add, pk_mul, Nat.add_assoc]) (by omega) (by decide) (hF k v hk hv) ?_
      by_cases h2 : g k v = 0
      · refine s_if_eq (tgt := 50) dX9_isLeftAt_43 (by decide) (fun _ => ?_) (fun h => absurd (by rw [h2]; rfl) h)
        refine s_iconst (v := 0) dX9_isLeftAt_50 rfl ?_
        refine s_istore_n (L' := [_, _, _, _, _]) dX9_isLeftAt_51 (by decide) rfl ?_
        refine s_iinc (v := nI (k + 1)) (L' := [_, _, _, _, _]) dX9_isLeftAt_52 rfl (nI_inc _) (by decide) rfl ?_
        refine s_goto (tgt := 9) dX9_isLeftAt_55 (by decide) ?_
        refine G.loc ?_ ih
        simp [lfk, h1, h2, b2i]
      · refine s_if_eq (tgt := 50) dX9_isLeftAt_43 (by decide) (fun h => absurd h (nI_ne0 (by omega) (by have := hg k v; omega))) (fun _ => ?_)
        refine s_iconst (v := 1) dX9_isLeftAt_46 rfl ?_
        refine s_goto (tgt := 51) dX9_isLeftAt_47 (by decide) ?_
        refine s_istore_n (L' := [_, _, _, _, _]) dX9_isLeftAt_51 (by decide) rfl ?_
        refine s_iinc (v := nI (k + 1)) (L' := [_, _, _, _, _]) dX9_isLeftAt_52 rfl (nI_inc _) (by decide) rfl ?_
        refine s_goto (tgt := 9) dX9_isLeftAt_55 (by decide) ?_
        refine G.loc ?_ ih
        simp [lfk, h1, h2, b2i]
    · refine s_if_eq (tgt := 50) dX9_isLeftAt_21 (by decide) (fun _ => ?_) (fun h => absurd (by simp only [Bool.not_eq_true] at h1; rw [h1]; rfl) h)
      refine s_iconst (v := 0) dX9_isLeftAt_50 rfl ?_
      refine s_istore_n (L' := [_, _, _, _, _]) dX9_isLeftAt_51 (by decide) rfl ?_
      refine s_iinc (v := nI (k + 1)) (L' := [_, _, _, _, _]) dX9_isLeftAt_52 rfl (nI_inc _) (by decide) rfl ?_
      refine s_goto (tgt := 9) dX9_isLeftAt_55 (by decide) ?_
      refine G.loc ?_ ih
      simp [lfk, h1, b2i]
theorem M_leftAt (F : MF M) (hR : SR (mA M 42) n) (hO : SOK n) {l : Nat} {g : Nat → Nat → Nat} (hl : l < 4) (hF : FitIs (fun i => mA M 57 (1024 * l + i)) n g) (hg : ∀ w v, g w v < 16) (d : Nat) : GM X mX9_leftAt (d + 3) 0 0 [.ref 41, .int (nI l)] M (ex (some (.int (nI (cnt (fun v => lfk (mJ M 43) g v (n 4)) (n 2))))) M) := by
  obtain ⟨o0, o1, o2, o2b, o3, o4, o5, o6, -⟩ := id hO
  refine G.in (L' := [_, _, vU, vU]) rfl rfl (Nat.le_of_ble_eq_true rfl) ?_
  refine s_iconst (v := 0) dX9_leftAt_0 rfl ?_
  refine s_istore_n (L' := [_, _, _, _]) dX9_leftAt_1 (by decide) rfl ?_
  refine s_iconst (v := 0) dX9_leftAt_2 rfl ?_
  refine s_istore_n (L' := [_, _, _, _]) dX9_leftAt_3 (by decide) rfl ?_
  refine upto (P := fun k => G X mX9_leftAt (d + 3) 0 0 4 [.ref 41, .int (nI l), .int (nI (cnt (fun v => lfk (mJ M 43) g v (n 4)) k)), .int (nI k)] [] M (ex (some (.int (nI (cnt (fun v => lfk (mJ M 43) g v (n 4)) (n 2))))) M)) (n 2) ?_ (fun k hk ih => ?_) 0 (Nat.zero_le _)
  · refine s_iload_n dX9_leftAt_4 rfl ?_
    refine s_aload_n dX9_leftAt_5 rfl trivial ?_
    refine s_getV (v := .ref 42) dX9_leftAt_6 fX9_7_9 F.g41 rfl F.v41_0 ?_
    refine s_iconst (v := 2) dX9_leftAt_9 rfl ?_
    refine s_ialdv (j := 2) (v := nI (n (2))) dX9_leftAt_10 F.t42 (by simp only [nIl, nI_add, pk_mul]) (by omega) (by decide) (hR _ (by omega) (by omega)) ?_
    refine s_icmp_ge (tgt := 37) dX9_leftAt_11 (by decide) (fun _ => ?_) (fun h => absurd (nI_le (Nat.le_refl _) (by omega)) h)
    refine s_iload_n dX9_leftAt_37 rfl ?_
    exact s_iret dX9_leftAt_38 rfl ⟨rfl, rfl⟩
  · refine s_iload_n dX9_leftAt_4 rfl ?_
    refine s_aload_n dX9_leftAt_5 rfl trivial ?_
    refine s_getV (v := .ref 42) dX9_leftAt_6 fX9_7_9 F.g41 rfl F.v41_0 ?_
    refine s_iconst (v := 2) dX9_leftAt_9 rfl ?_
    refine s_ialdv (j := 2) (v := nI (n (2))) dX9_leftAt_10 F.t42 (by simp only [nIl, nI_add, pk_mul]) (by omega) (by decide) (hR _ (by omega) (by omega)) ?_
    refine s_icmp_ge (tgt := 37) dX9_leftAt_11 (by decide) (fun h => absurd h (nI_ge hk (by omega))) (fun _ => ?_)
    refine s_iload_n dX9_leftAt_14 rfl ?_
    refine s_aload_n dX9_leftAt_15 rfl trivial ?_
    refine s_iload_n dX9_leftAt_16 rfl ?_
    refine s_iload_n dX9_leftAt_17 rfl ?_
    refine s_callV (M_isLeftAt F hR hO hl hk hF hg d) dX9_leftAt_18 zX9_isLeftAt oX9_isLeftAt q2120 rfl F.q41 rfl rfl (Nat.le_of_ble_eq_true rfl) (Nat.le_refl _) (Nat.le_refl _) (ex_ks ?_) ex_x
    by_cases h1 : lfk (mJ M 43) g k (n 4) = true
    · refine s_if_eq (tgt := 28) dX9_leftAt_21 (by decide) (fun h => absurd h (by rw [h1]; decide)) (fun _ => ?_)
      refine s_iconst (v := 1) dX9_leftAt_24 rfl ?_
      refine s_goto (tgt := 29) dX9_leftAt_25 (by decide) ?_
      refine s_iadd dX9_leftAt_29 ?_
      refine s_istore_n (L' := [_, _, _, _]) dX9_leftAt_30 (by decide) rfl ?_
      refine s_iinc (v := nI (k + 1)) (L' := [_, _, _, _]) dX9_leftAt_31 rfl (nI_inc _) (by decide) rfl ?_
      refine s_goto (tgt := 4) dX9_leftAt_34 (by decide) ?_
      refine G.loc ?_ ih
      rw [← cnt_s, h1]
      rfl
    · refine s_if_eq (tgt := 28) dX9_leftAt_21 (by decide) (fun _ => ?_) (fun h => absurd (by simp only [Bool.not_eq_true] at h1; rw [h1]; rfl) h)
      refine s_iconst (v := 0) dX9_leftAt_28 rfl ?_
      refine s_iadd dX9_leftAt_29 ?_
      refine s_istore_n (L' := [_, _, _, _]) dX9_leftAt_30 (by decide) rfl ?_
      refine s_iinc (v := nI (k + 1)) (L' := [_, _, _, _]) dX9_leftAt_31 rfl (nI_inc _) (by decide) rfl ?_
      refine s_goto (tgt := 4) dX9_leftAt_34 (by decide) ?_
      refine G.loc ?_ ih
      simp only [Bool.not_eq_true] at h1
      rw [← cnt_s, h1]
      rfl
theorem M_sureAt (F : MF M) (hR : SR (mA M 42) n) (hO : SOK n) {l q : Nat} {g : Nat → Nat → Nat} (hl : l < 4) (hq : q < 12) (hF : FitIs (fun i => mA M 57 (1024 * l + i)) n g) (hg : ∀ w v, g w v < 16) (d : Nat) : GM X mX9_sureAt (d + 3) 0 0 [.ref 41, .int (nI l), .int (nI q)] M (ex (some (.int (sureI (anyB (fun v => lfk (mJ M 43) g v (n 4) && inB (mJ M 43) q v) (n 2)) (anyB (fun v => lfk (mJ M 43) g v (n 4) && !inB (mJ M 43) q v) (n 2))))) M) := by
  obtain ⟨o0, o1, o2, o2b, o3, o4, o5, o6, -⟩ := id hO
  obtain ⟨p1, hp1⟩ : ∃ p, p = (fun v => lfk (mJ M 43) g v (n 4) && inB (mJ M 43) q v) := ⟨_, rfl⟩
  obtain ⟨p2, hp2⟩ : ∃ p, p = (fun v => lfk (mJ M 43) g v (n 4) && !inB (mJ M 43) q v) := ⟨_, rfl⟩
  rw [← hp1, ← hp2]
  refine G.in (L' := [_, _, _, vU, vU, vU]) rfl rfl (Nat.le_of_ble_eq_true rfl) ?_
  refine s_iconst (v := 0) dX9_sureAt_0 rfl ?_
  refine s_istore_n (L' := [_, _, _, _, _, _]) dX9_sureAt_1 (by decide) rfl ?_
  refine s_iconst (v := 0) dX9_sureAt_2 rfl ?_
  refine s_istore (L' := [_, _, _, _, _, _]) dX9_sureAt_3 (by decide) rfl ?_
  refine s_iconst (v := 0) dX9_sureAt_5 rfl ?_
  refine s_istore (L' := [_, _, _, _, _, _]) dX9_sureAt_6 (by decide) rfl ?_
  refine upto (P := fun k => G X mX9_sureAt (d + 3) 0 0 8 [.ref 41, .int (nI l), .int (nI q), .int (b2i (anyB p1 k)), .int (b2i (anyB p2 k)), .int (nI k)] [] M (ex (some (.int (sureI (anyB p1 (n 2)) (anyB p2 (n 2))))) M)) (n 2) ?_ (fun k hk ih => ?_) 0 (Nat.zero_le _)
  · refine s_iload dX9_sureAt_8 rfl ?_
    refine s_aload_n dX9_sureAt_10 rfl trivial ?_
    refine s_getV (v := .ref 42) dX9_sureAt_11 fX9_7_9 F.g41 rfl F.v41_0 ?_
    refine s_iconst (v := 2) dX9_sureAt_14 rfl ?_
    refine s_ialdv (j := 2) (v := nI (n (2))) dX9_sureAt_15 F.t42 (by simp only [nIl, nI_add, pk_mul]) (by omega) (by decide) (hR _ (by omega) (by omega)) ?_
    refine s_icmp_ge (tgt := 80) dX9_sureAt_16 (by decide) (fun _ => ?_) (fun h => absurd (nI_le (Nat.le_refl _) (by omega)) h)
    refine s_iload_n dX9_sureAt_80 rfl ?_
    refine s_iload dX9_sureAt_81 rfl ?_
    cases e1 : anyB p1 (n 2) <;> cases e2 : anyB p2 (n 2)
    · refine s_icmp_ne (tgt := 90) dX9_sureAt_83 (by decide) (fun h => absurd (rfl) h) (fun _ => ?_)
      refine s_iconst (v := -1) dX9_sureAt_86 rfl ?_
      refine s_goto (tgt := 99) dX9_sureAt_87 (by decide) ?_
      exact s_iret dX9_sureAt_99 rfl ⟨rfl, rfl⟩
    · refine s_icmp_ne (tgt := 90) dX9_sureAt_83 (by decide) (fun _ => ?_) (fun h => absurd h (by decide))
      refine s_iload_n dX9_sureAt_90 rfl ?_
      refine s_if_eq (tgt := 98) dX9_sureAt_91 (by decide) (fun _ => ?_) (fun h => absurd (rfl) h)
      refine s_iconst (v := 0) dX9_sureAt_98 rfl ?_
      exact s_iret dX9_sureAt_99 rfl ⟨rfl, rfl⟩
    · refine s_icmp_ne (tgt := 90) dX9_sureAt_83 (by decide) (fun _ => ?_) (fun h => absurd h (by decide))
      refine s_iload_n dX9_sureAt_90 rfl ?_
      refine s_if_eq (tgt := 98) dX9_sureAt_91 (by decide) (fun h => absurd h (by decide)) (fun _ => ?_)
      refine s_iconst (v := 1) dX9_sureAt_94 rfl ?_
      refine s_goto (tgt := 99) dX9_sureAt_95 (by decide) ?_
      exact s_iret dX9_sureAt_99 rfl ⟨rfl, rfl⟩
    · refine s_icmp_ne (tgt := 90) dX9_sureAt_83 (by decide) (fun h => absurd (rfl) h) (fun _ => ?_)
      refine s_iconst (v := -1) dX9_sureAt_86 rfl ?_
      refine s_goto (tgt := 99) dX9_sureAt_87 (by decide) ?_
      exact s_iret dX9_sureAt_99 rfl ⟨rfl, rfl⟩
  · have hs1 : anyB p1 (k + 1) = (anyB p1 k || p1 k) := rfl
    have hs2 : anyB p2 (k + 1) = (anyB p2 k || p2 k) := rfl
    refine s_iload dX9_sureAt_8 rfl ?_
    refine s_aload_n dX9_sureAt_10 rfl trivial ?_
    refine s_getV (v := .ref 42) dX9_sureAt_11 fX9_7_9 F.g41 rfl F.v41_0 ?_
    refine s_iconst (v := 2) dX9_sureAt_14 rfl ?_
    refine s_ialdv (j := 2) (v := nI (n (2))) dX9_sureAt_15 F.t42 (by simp only [nIl, nI_add, pk_mul]) (by omega) (by decide) (hR _ (by omega) (by omega)) ?_
    refine s_icmp_ge (tgt := 80) dX9_sureAt_16 (by decide) (fun h => absurd h (nI_ge hk (by omega))) (fun _ => ?_)
    refine s_aload_n dX9_sureAt_19 rfl trivial ?_
    refine s_iload_n dX9_sureAt_20 rfl ?_
    refine s_iload dX9_sureAt_21 rfl ?_
    refine s_callV (M_isLeftAt F hR hO hl hk hF hg d) dX9_sureAt_23 zX9_isLeftAt oX9_isLeftAt q2120 rfl F.q41 rfl rfl (Nat.le_of_ble_eq_true rfl) (Nat.le_refl _) (Nat.le_refl _) (ex_ks ?_) ex_x
    by_cases h1 : lfk (mJ M 43) g k (n 4) = true
    · refine s_if_ne (tgt := 32) dX9_sureAt_26 (by decide) (fun _ => ?_) (fun h => absurd h (by rw [h1]; decide))
      have e1 : p1 k = inB (mJ M 43) q k := by rw [hp1]; simp [h1]
      have e2 : p2 k = !inB (mJ M 43) q k := by rw [hp2]; simp [h1]
      have s2 : G X mX9_sureAt (d + 3) 0 0 52 [.ref 41, .int (nI l), .int (nI q), .int (b2i (anyB p1 (k + 1))), .int (b2i (anyB p2 k)), .int (nI k)] [] M (ex (some (.int (sureI (anyB p1 (n 2)) (anyB p2 (n 2))))) M) := by
        refine s_iload dX9_sureAt_52 rfl ?_
        cases e3 : anyB p2 k
        · refine s_if_ne (tgt := 67) dX9_sureAt_54 (by decide) (fun h => absurd (by decide) h) (fun _ => ?_)
          refine s_aload_n dX9_sureAt_57 rfl trivial ?_
          refine s_iload_n dX9_sureAt_58 rfl ?_
          refine s_iload dX9_sureAt_59 rfl ?_
          refine s_callV (M_isIn F hq (show k < 256 by omega) (d + 1)) dX9_sureAt_61 zX9_isIn oX9_isIn q2049 rfl F.q41 rfl rfl (Nat.le_of_ble_eq_true rfl) (Nat.le_refl _) (Nat.le_refl _) (ex_ks ?_) ex_x
          cases e4 : inB (mJ M 43) q k
          · refine s_if_ne (tgt := 71) dX9_sureAt_64 (by decide) (fun h => absurd (by show b2i (inB (mJ M 43) q k) = 0; rw [e4]; decide) h) (fun _ => ?_)
            refine s_iconst (v := 1) dX9_sureAt_67 rfl ?_
            refine s_goto (tgt := 72) dX9_sureAt_68 (by decide) ?_
            refine s_istore (L' := [_, _, _, _, _, _]) dX9_sureAt_72 (by decide) rfl ?_
            refine s_iinc (v := nI (k + 1)) (L' := [_, _, _, _, _, _]) dX9_sureAt_74 rfl (nI_inc _) (by decide) rfl ?_
            refine s_goto (tgt := 8) dX9_sureAt_77 (by decide) ?_
            refine G.loc ?_ ih
            rw [hs2, e3, e2, e4]; rfl
          · refine s_if_ne (tgt := 71) dX9_sureAt_64 (by decide) (fun _ => ?_) (fun h => absurd h (by show ¬ b2i (inB (mJ M 43) q k) = 0; rw [e4]; decide))
            refine s_iconst (v := 0) dX9_sureAt_71 rfl ?_
            refine s_istore (L' := [_, _, _, _, _, _]) dX9_sureAt_72 (by decide) rfl ?_
            refine s_iinc (v := nI (k + 1)) (L' := [_, _, _, _, _, _]) dX9_sureAt_74 rfl (nI_inc _) (by decide) rfl ?_
            refine s_goto (tgt := 8) dX9_sureAt_77 (by decide) ?_
            refine G.loc ?_ ih
            rw [hs2, e3, e2, e4]; rfl
        · refine s_if_ne (tgt := 67) dX9_sureAt_54 (by decide) (fun _ => ?_) (fun h => absurd h (by decide))
          refine s_iconst (v := 1) dX9_sureAt_67 rfl ?_
          refine s_goto (tgt := 72) dX9_sureAt_68 (by decide) ?_
          refine s_istore (L' := [_, _, _, _, _, _]) dX9_sureAt_72 (by decide) rfl ?_
          refine s_iinc (v := nI (k + 1)) (L' := [_, _, _, _, _, _]) dX9_sureAt_74 rfl (nI_inc _) (by decide) rfl ?_
          refine s_goto (tgt := 8) dX9_sureAt_77 (by decide) ?_
          refine G.loc ?_ ih
          rw [hs2, e3]; rfl
      refine s_iload_n dX9_sureAt_32 rfl ?_
      cases e3 : anyB p1 k
      · refine s_if_ne (tgt := 46) dX9_sureAt_33 (by decide) (fun h => absurd (by decide) h) (fun _ => ?_)
        refine s_aload_n dX9_sureAt_36 rfl trivial ?_
        refine s_iload_n dX9_sureAt_37 rfl ?_
        refine s_iload dX9_sureAt_38 rfl ?_
        refine s_callV (M_isIn F hq (show k < 256 by omega) (d + 1)) dX9_sureAt_40 zX9_isIn oX9_isIn q2049 rfl F.q41 rfl rfl (Nat.le_of_ble_eq_true rfl) (Nat.le_refl _) (Nat.le_refl _) (ex_ks ?_) ex_x
        cases e4 : inB (mJ M 43) q k
        · refine s_if_eq (tgt := 50) dX9_sureAt_43 (by decide) (fun _ => ?_) (fun h => absurd (by show b2i (inB (mJ M 43) q k) = 0; rw [e4]; decide) h)
          refine s_iconst (v := 0) dX9_sureAt_50 rfl ?_
          refine s_istore_n (L' := [_, _, _, _, _, _]) dX9_sureAt_51 (by decide) rfl ?_
          refine G.loc ?_ s2
          rw [hs1, e3, e1, e4]; rfl
        · refine s_if_eq (tgt := 50) dX9_sureAt_43 (by decide) (fun h => absurd h (by show ¬ b2i (inB (mJ M 43) q k) = 0; rw [e4]; decide)) (fun _ => ?_)
          refine s_iconst (v := 1) dX9_sureAt_46 rfl ?_
          refine s_goto (tgt := 51) dX9_sureAt_47 (by decide) ?_
          refine s_istore_n (L' := [_, _, _, _, _, _]) dX9_sureAt_51 (by decide) rfl ?_
          refine G.loc ?_ s2
          rw [hs1, e3, e1, e4]; rfl
      · refine s_if_ne (tgt := 46) dX9_sureAt_33 (by decide) (fun _ => ?_) (fun h => absurd h (by decide))
        refine s_iconst (v := 1) dX9_sureAt_46 rfl ?_
        refine s_goto (tgt := 51) dX9_sureAt_47 (by decide) ?_
        refine s_istore_n (L' := [_, _, _, _, _, _]) dX9_sureAt_51 (by decide) rfl ?_
        refine G.loc ?_ s2
        rw [hs1, e3]; rfl
    · refine s_if_ne (tgt := 32) dX9_sureAt_26 (by decide) (fun h => absurd (by simp only [Bool.not_eq_true] at h1; rw [h1]; decide) h) (fun _ => ?_)
      refine s_goto (tgt := 74) dX9_sureAt_29 (by decide) ?_
      refine s_iinc (v := nI (k + 1)) (L' := [_, _, _, _, _, _]) dX9_sureAt_74 rfl (nI_inc _) (by decide) rfl ?_
      refine s_goto (tgt := 8) dX9_sureAt_77 (by decide) ?_
      refine G.loc ?_ ih
      rw [hs1, hs2, hp1, hp2]
      simp [h1]
theorem M_putToday (F : MF M) (hR : SR (mA M 42) n) (hO : SOK n) (d : Nat) : GM X mX9_putToday (d + 1) 0 0 [.ref 41] M (ex (some (.int (nI (cnt (fun k => decide (n (100 + 4 * k + 3) = n 5)) (n 6))))) M) := by
  obtain ⟨o0, o1, o2, o2b, o3, o4, o5, o6, oF, oV, oQ, oW, oH, oD⟩ := id hO
  refine G.in (L' := [_, vU, vU]) rfl rfl (Nat.le_of_ble_eq_true rfl) ?_
  refine s_iconst (v := 0) dX9_putToday_0 rfl ?_
  refine s_istore_n (L' := [_, _, _]) dX9_putToday_1 (by decide) rfl ?_
  refine s_iconst (v := 0) dX9_putToday_2 rfl ?_
  refine s_istore_n (L' := [_, _, _]) dX9_putToday_3 (by decide) rfl ?_
  refine upto (P := fun k => G X mX9_putToday (d + 1) 0 0 4 [.ref 41, .int (nI (cnt (fun k => decide (n (100 + 4 * k + 3) = n 5)) k)), .int (nI k)] [] M (ex (some (.int (nI (cnt (fun k => decide (n (100 + 4 * k + 3) = n 5)) (n 6))))) M)) (n 6) ?_ (fun k hk ih => ?_) 0 (Nat.zero_le _)
  · refine s_iload_n dX9_putToday_4 rfl ?_
    refine s_aload_n dX9_putToday_5 rfl trivial ?_
    refine s_getV (v := .ref 42) dX9_putToday_6 fX9_7_9 F.g41 rfl F.v41_0 ?_
    refine s_bipush (v := 6) dX9_putToday_9 rfl ?_
    refine s_ialdv (j := 6) (v := nI (n (6))) dX9_putToday_11 F.t42 (by simp only [nIl, nI_add, pk_mul]) (by omega) (by decide) (hR _ (by omega) (by omega)) ?_
    refine s_icmp_ge (tgt := 44) dX9_putToday_12 (by decide) (fun _ => ?_) (fun h => absurd (nI_le (Nat.le_refl _) (by omega)) h)
    refine s_iload_n dX9_putToday_44 rfl ?_
    exact s_iret dX9_putToday_45 rfl ⟨rfl, rfl⟩
  · have hd := (oH k hk).2.2.2
    refine s_iload_n dX9_putToday_4 rfl ?_
    refine s_aload_n dX9_putToday_5 rfl trivial ?_
    refine s_getV (v := .ref 42) dX9_putToday_6 fX9_7_9 F.g41 rfl F.v41_0 ?_
    refine s_bipush (v := 6) dX9_putToday_9 rfl ?_
    refine s_ialdv (j := 6) (v := nI (n (6))) dX9_putToday_11 F.t42 (by simp only [nIl, nI_add, pk_mul]) (by omega) (by decide) (hR _ (by omega) (by omega)) ?_
    refine s_icmp_ge (tgt := 44) dX9_putToday_12 (by decide) (fun h => absurd h (nI_ge hk (by omega))) (fun _ => ?_)
    refine s_iload_n dX9_putToday_15 rfl ?_
    refine s_aload_n dX9_putToday_16 rfl trivial ?_
    refine s_iload_n dX9_putToday_17 rfl ?_
    refine s_iconst (v := 3) dX9_putToday_18 rfl ?_
    refine s_callV (M_ofHeard F (show k < 12 by omega) (show 3 < 4 by decide) d) dX9_putToday_19 zX9_ofHeard oX9_ofHeard q2021 rfl F.q41 rfl rfl (Nat.le_of_ble_eq_true rfl) (Nat.le_refl _) (Nat.le_refl _) (ex_ks ?_) ex_x
    refine G.stk (st' := [.int (nI (n (100 + 4 * k + 3))), .int (nI (cnt (fun k => decide (n (100 + 4 * k + 3) = n 5)) k))]) (by rw [hR _ (by omega) (by omega)]) ?_
    refine s_aload_n dX9_putToday_22 rfl trivial ?_
    refine s_getV (v := .ref 42) dX9_putToday_23 fX9_7_9 F.g41 rfl F.v41_0 ?_
    refine s_iconst (v := 5) dX9_putToday_26 rfl ?_
    refine s_ialdv (j := 5) (v := nI (n (5))) dX9_putToday_27 F.t42 (by simp only [nIl, nI_add, pk_mul]) (by omega) (by decide) (hR _ (by omega) (by omega)) ?_
    by_cases h0 : n (100 + 4 * k + 3) = n 5
    · refine s_icmp_ne (tgt := 35) dX9_putToday_28 (by decide) (fun h => absurd (by rw [h0]) h) (fun _ => ?_)
      refine s_iconst (v := 1) dX9_putToday_31 rfl ?_
      refine s_goto (tgt := 36) dX9_putToday_32 (by decide) ?_
      refine s_iadd dX9_putToday_36 ?_
      refine s_istore_n (L' := [_, _, _]) dX9_putToday_37 (by decide) rfl ?_
      refine s_iinc (v := nI (k + 1)) (L' := [_, _, _]) dX9_putToday_38 rfl (nI_inc _) (by decide) rfl ?_
      refine s_goto (tgt := 4) dX9_putToday_41 (by decide) ?_
      refine G.loc ?_ ih
      rw [← cnt_s]
      simp [h0, b2i]
    · refine s_icmp_ne (tgt := 35) dX9_putToday_28 (by decide) (fun _ => ?_) (fun h => absurd h (fun h => h0 ((nI_eq (by omega) (by omega)).mp h)))
      refine s_iconst (v := 0) dX9_putToday_35 rfl ?_
      refine s_iadd dX9_putToday_36 ?_
      refine s_istore_n (L' := [_, _, _]) dX9_putToday_37 (by decide) rfl ?_
      refine s_iinc (v := nI (k + 1)) (L' := [_, _, _]) dX9_putToday_38 rfl (nI_inc _) (by decide) rfl ?_
      refine s_goto (tgt := 4) dX9_putToday_41 (by decide) ?_
      refine G.loc ?_ ih
      rw [← cnt_s]
      simp [h0, b2i]
end MF2

