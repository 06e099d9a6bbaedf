/-! what the machine throws by itself -/
set_option maxRecDepth 100000
def exN : Nat → List String
  | 0 => ["java/lang/IndexOutOfBoundsException", "java/lang/RuntimeException", "java/lang/Exception"]
  | _ => ["java/lang/RuntimeException", "java/lang/Exception"]
set_option maxHeartbeats 4000000 in
theorem exA_at : vx_atM "java/lang/ArrayIndexOutOfBoundsException" ["java/lang/IndexOutOfBoundsException", "java/lang/RuntimeException", "java/lang/Exception"] = ([166, 235, 244, 249, 252, 254, 236, 237, 202, 203, 238, 243, 250, 270, 225, 271, 227, 272, 229, 239, 241, 231, 619, 620, 269, 231, 658, 659, 660, 661, 673, 661, 662, 663, 613, 630, 613, 614, 615, 616, 219, 616, 617, 618, 619, 221, 178, 632, 285, 633, 635, 634, 636, 180, 657, 671, 674, 247, 666, 667, 669, 665, 234, 233, 664] : List Nat).filterMap (fun i => lw_tbl[i]?) := by decide +kernel
set_option maxHeartbeats 4000000 in
theorem exN_at : vx_atM "java/lang/NegativeArraySizeException" ["java/lang/RuntimeException", "java/lang/Exception"] = ([166, 235, 244, 249, 252, 254, 236, 237, 202, 203, 238, 243, 250, 270, 225, 271, 227, 272, 229, 239, 241, 231, 619, 620, 269, 231, 610, 611, 612, 613, 630, 613, 614, 615, 616, 219, 616, 617, 618, 619, 221, 178, 632, 285, 633, 635, 634, 636, 177, 609, 628, 631, 248, 623, 624, 626, 622, 234, 233, 621] : List Nat).filterMap (fun i => lw_tbl[i]?) := by decide +kernel
theorem ex_at : ∀ k : Nat, ∀ w ∈ vx_atM (mexn k) (exN k), w ∈ lw_tbl := by
  intro k w h
  match k, h with
  | 0, h =>
    rw [show mexn 0 = "java/lang/ArrayIndexOutOfBoundsException" from rfl, show exN 0 = ["java/lang/IndexOutOfBoundsException", "java/lang/RuntimeException", "java/lang/Exception"] from rfl, exA_at] at h
    obtain ⟨i, -, hi⟩ := List.mem_filterMap.mp h
    exact List.mem_of_getElem? hi
  | k + 1, h =>
    rw [show mexn (k + 1) = "java/lang/NegativeArraySizeException" from rfl, show exN (k + 1) = ["java/lang/RuntimeException", "java/lang/Exception"] from rfl, exN_at] at h
    obtain ⟨i, -, hi⟩ := List.mem_filterMap.mp h
    exact List.mem_of_getElem? hi
set_option maxHeartbeats 4000000 in
theorem exA_g : (vx_atM "java/lang/ArrayIndexOutOfBoundsException" ["java/lang/IndexOutOfBoundsException", "java/lang/RuntimeException", "java/lang/Exception"]).all (fun w => (goodWord w || mNw w) && vx_ot w) = true := by decide +kernel
set_option maxHeartbeats 4000000 in
theorem exN_g : (vx_atM "java/lang/NegativeArraySizeException" ["java/lang/RuntimeException", "java/lang/Exception"]).all (fun w => (goodWord w || mNw w) && vx_ot w) = true := by decide +kernel
theorem ex_g : ∀ k : Nat, ∀ w ∈ vx_atM (mexn k) (exN k), (goodWord w = true ∨ mNw w = true) ∧ vx_ot w = true := by
  intro k w h
  match k, h with
  | 0, h => have := List.all_eq_true.mp exA_g w h; simpa using this
  | k + 1, h => have := List.all_eq_true.mp exN_g w h; simpa using this
section GEXC
variable {X : ME} {y : MI} {d a b pc : Nat} {L st : List Value} {M : MM} {Q : MR → MM → Prop}
theorem nw_tabs : ∀ w : Cond, mNw w = true → w.onTables = true := by
  intro w h
  cases w <;> first | rfl | cases h
theorem g_note {p : Program} {e : Env} {s : State} {m : MethodId} {args : Array Value} {below : List Frame} {meth : Method} {c : Code} {H : Heap} {locs : List Loc} {cells slots mc ms : Nat} {ls : Array Slot} {k nb a2 b2 : Nat} {text : String} (C : GCtx X y p s m args meth c) (D : GDyn X y a b L M s H locs cells slots mc ms ls) (hd : 12 ≤ d) (htext : (text == notModelled) = false) (hnb : (stringBytes (stringToUtf16 text)).size ≤ nb) (hnb1 : nb ≤ 1000)
    (h8 : (st.map fun v => v.category).sum ≤ 8) (ha : a2 + 3 ≤ a) (hb : b2 + (nb + 10) ≤ b) (hk : ∀ j, GT X y d a2 b2 pc L (.inr k) (mJunk M j) Q) : vx_Note p (eL X) e (gR d mc ms) s m args below meth c H locs cells slots (gZ X Q below args s mc ms) (F0 m pc ls (st.map (rv X))) (mexn k) text := by
  have hK := gKK C
  have hts := C.2.2.2.2.2.2.1
  have hlen : (exN k).length ≤ 3 := by match k with | 0 => decide | k + 1 => exact Nat.le_of_ble_eq_true rfl
  have ha3 := D.2.2.2.1
  have hb3 := D.2.2.2.2.1
  refine vx_vm C.1 hK.2.2.2.2.2.1.2 (cls := mexn k) (names := exN k) (nb := nb) (A := mOut X) ?_ ?_ ?_ ?_ (fun w hw => ?_) (fun w hw => (ex_g k w hw).2) (hK.2.2.2.2.2.2.1.1.kept (gH0 C)) (hK.2.2.2.2.2.2.1.2.kept (gH0 C)) (gS C D) (D.2.1.1.trans C.2.2.2.2.1.symm) htext hnb hnb1 (by show _ < d; omega) (by rw [rv_cats]; show _ ≤ 10300 + 64 * d; omega) (by omega) (by show cells + 3 ≤ mc; omega) (by show slots + (nb + 10) ≤ ms; omega) C.2.2.2.1 (fun H1 q9 ce z1 o1 S1 g1 g2 g3 => ?_)
  · match k with | 0 => decide +kernel | k + 1 => exact (by decide +kernel : Bundle.fit "java/lang/NegativeArraySizeException" = true)
  · match k with
    | 0 => exact (by decide +kernel : ∀ n ∈ exN 0, Bundle.fit n = true)
    | k + 1 => exact (by decide +kernel : ∀ n ∈ exN 1, Bundle.fit n = true)
  · match k with | 0 => decide +kernel | k + 1 => exact (by decide +kernel : ("java/lang/NegativeArraySizeException" == "java/lang/StackOverflowError") = false)
  · match k with | 0 => decide +kernel | k + 1 => exact (by decide +kernel : ("java/lang/NegativeArraySizeException" == "java/lang/OutOfMemoryError") = false)
  · rcases (ex_g k w hw).1 with h | h
    · exact hts w (lw_g (ex_at k w hw) h)
    · exact (gNw hK (ex_at k w hw) h).use (nw_tabs w h)
  · obtain ⟨j, hj⟩ : ∃ j, H1.size = H.size + j := ⟨H1.size - H.size, by omega⟩
    exact hk j p e s m args below meth c H1 locs (cells + 3) (slots + (nb + 10)) mc ms ls _ q9 (mexn k) ce C ⟨D.1.junk hj o1, D.2.1, D.2.2.1, by omega, by omega, Nat.le_trans D.2.2.2.2.2 z1⟩ g1 g2 g3 rfl
theorem idx_nm (i : Int32) (n : Nat) : ((toString "Index " ++ toString i ++ toString " out of bounds for length " ++ toString n : String) == notModelled) = false := index_text_modelled i n

theorem s_bald_out {c0 n a2 b2 : Nat} {i : Int32} (hd : decode y.2.1 pc = .ok (.baload, 1)) (hT : mT M c0 = (32, n)) (hout : ¬ vp_in i n) (hn : n < 2147483648) (h12 : 12 ≤ d) (h8 : (st.map fun v => v.category).sum ≤ 8) (ha : a2 + 3 ≤ a) (hb : b2 + (212 + 10) ≤ b) (hk : ∀ j, GT X y d a2 b2 pc L (.inr 0) (mJunk M j) Q) : G X y d a b pc L (.int i :: .ref c0 :: st) M Q := by
  intro p e s m args below meth c H locs cells slots mc ms ls C D T hT0 X0
  have hty : maty[0]? = some .byte := rfl
  have h0 : (mT M c0).1 = 32 + 0 := by rw [hT]
  have hi := D.1.ltA h0 hty
  have hc := (D.1.2.2.1 c0 hi).2 0 _ h0 hty
  have hn2 : (mT M c0).2 = n := by rw [hT]
  obtain ⟨t, st1, q⟩ := g_note (st := st) (pc := pc) C D h12 (idx_nm i n) (index_text_bytes i (n := n) hn) (by decide) h8 ha hb hk T hT0 X0
  refine ⟨t, ?_, q⟩
  have h1 := X0.baloadOut C.1 (by rw [hT0]; exact hc) (((gKK C).2.1 0 _ hty).1 _ _) (j := i) (by show (i < 0 ∨ (arrV _ _ _).slots.size ≤ _); rw [arrV_size, hn2]; exact Classical.byContradiction hout) (g := F0 m pc ls ((.int i :: .ref c0 :: st).map (rv X))) rfl (rest := st.map (rv X)) rfl (by rw [C.2.1]; exact hd) t
  simp only [arrV_size, hn2] at h1
  exact h1 st1
theorem s_sald_out {c0 n a2 b2 : Nat} {i : Int32} (hd : decode y.2.1 pc = .ok (.saload, 1)) (hT : mT M c0 = (33, n)) (hout : ¬ vp_in i n) (hn : n < 2147483648) (h12 : 12 ≤ d) (h8 : (st.map fun v => v.category).sum ≤ 8) (ha : a2 + 3 ≤ a) (hb : b2 + (212 + 10) ≤ b) (hk : ∀ j, GT X y d a2 b2 pc L (.inr 0) (mJunk M j) Q) : G X y d a b pc L (.int i :: .ref c0 :: st) M Q := by
  intro p e s m args below meth c H locs cells slots mc ms ls C D T hT0 X0
  have hty : maty[1]? = some .short := rfl
  have h0 : (mT M c0).1 = 32 + 1 := by rw [hT]
  have hi := D.1.ltA h0 hty
  have hc := (D.1.2.2.1 c0 hi).2 1 _ h0 hty
  have hn2 : (mT M c0).2 = n := by rw [hT]
  obtain ⟨t, st1, q⟩ := g_note (st := st) (pc := pc) C D h12 (idx_nm i n) (index_text_bytes i (n := n) hn) (by decide) h8 ha hb hk T hT0 X0
  refine ⟨t, ?_, q⟩
  have h1 := X0.saloadOut C.1 (by rw [hT0]; exact hc) (((gKK C).2.1 1 _ hty).1 _ _) (j := i) (by show (i < 0 ∨ (arrV _ _ _).slots.size ≤ _); rw [arrV_size, hn2]; exact Classical.byContradiction hout) (g := F0 m pc ls ((.int i :: .ref c0 :: st).map (rv X))) rfl (rest := st.map (rv X)) rfl (by rw [C.2.1]; exact hd) t
  simp only [arrV_size, hn2] at h1
  exact h1 st1
theorem s_iald_out {c0 n a2 b2 : Nat} {i : Int32} (hd : decode y.2.1 pc = .ok (.iaload, 1)) (hT : mT M c0 = (34, n)) (hout : ¬ vp_in i n) (hn : n < 2147483648) (h12 : 12 ≤ d) (h8 : (st.map fun v => v.category).sum ≤ 8) (ha : a2 + 3 ≤ a) (hb : b2 + (212 + 10) ≤ b) (hk : ∀ j, GT X y d a2 b2 pc L (.inr 0) (mJunk M j) Q) : G X y d a b pc L (.int i :: .ref c0 :: st) M Q := by
  intro p e s m args below meth c H locs cells slots mc ms ls C D T hT0 X0
  have hty : maty[2]? = some .int := rfl
  have h0 : (mT M c0).1 = 32 + 2 := by rw [hT]
  have hi := D.1.ltA h0 hty
  have hc := (D.1.2.2.1 c0 hi).2 2 _ h0 hty
  have hn2 : (mT M c0).2 = n := by rw [hT]
  obtain ⟨t, st1, q⟩ := g_note (st := st) (pc := pc) C D h12 (idx_nm i n) (index_text_bytes i (n := n) hn) (by decide) h8 ha hb hk T hT0 X0
  refine ⟨t, ?_, q⟩
  have h1 := X0.ialoadOut C.1 (by rw [hT0]; exact hc) (((gKK C).2.1 2 _ hty).1 _ _) (j := i) (by show (i < 0 ∨ (arrV _ _ _).slots.size ≤ _); rw [arrV_size, hn2]; exact Classical.byContradiction hout) (g := F0 m pc ls ((.int i :: .ref c0 :: st).map (rv X))) rfl (rest := st.map (rv X)) rfl (by rw [C.2.1]; exact hd) t
  simp only [arrV_size, hn2] at h1
  exact h1 st1
theorem s_lald_out {c0 n a2 b2 : Nat} {i : Int32} (hd : decode y.2.1 pc = .ok (.laload, 1)) (hT : mT M c0 = (35, n)) (hout : ¬ vp_in i n) (hn : n < 2147483648) (h12 : 12 ≤ d) (h8 : (st.map fun v => v.category).sum ≤ 8) (ha : a2 + 3 ≤ a) (hb : b2 + (212 + 10) ≤ b) (hk : ∀ j, GT X y d a2 b2 pc L (.inr 0) (mJunk M j) Q) : G X y d a b pc L (.int i :: .ref c0 :: st) M Q := by
  intro p e s m args below meth c H locs cells slots mc ms ls C D T hT0 X0
  have hty : maty[3]? = some .long := rfl
  have h0 : (mT M c0).1 = 32 + 3 := by rw [hT]
  have hi := D.1.ltA h0 hty
  have hc := (D.1.2.2.1 c0 hi).2 3 _ h0 hty
  have hn2 : (mT M c0).2 = n := by rw [hT]
  obtain ⟨t, st1, q⟩ := g_note (st := st) (pc := pc) C D h12 (idx_nm i n) (index_text_bytes i (n := n) hn) (by decide) h8 ha hb hk T hT0 X0
  refine ⟨t, ?_, q⟩
  have h1 := X0.laloadOut C.1 (by rw [hT0]; exact hc) (((gKK C).2.1 3 _ hty).1 _ _) (j := i) (by show (i < 0 ∨ (arrV _ _ _).slots.size ≤ _); rw [arrV_size, hn2]; exact Classical.byContradiction hout) (g := F0 m pc ls ((.int i :: .ref c0 :: st).map (rv X))) rfl (rest := st.map (rv X)) rfl (by rw [C.2.1]; exact hd) t
  simp only [arrV_size, hn2] at h1
  exact h1 st1
theorem s_bast_out {c0 n a2 b2 : Nat} {i : Int32} {x : Int32} (hd : decode y.2.1 pc = .ok (.bastore, 1)) (hT : mT M c0 = (32, n)) (hout : ¬ vp_in i n) (hn : n < 2147483648) (h12 : 12 ≤ d) (h8 : (st.map fun v => v.category).sum ≤ 8) (ha : a2 + 3 ≤ a) (hb : b2 + (212 + 10) ≤ b) (hk : ∀ j, GT X y d a2 b2 pc L (.inr 0) (mJunk M j) Q) : G X y d a b pc L (.int x :: .int i :: .ref c0 :: st) M Q := by
  intro p e s m args below meth c H locs cells slots mc ms ls C D T hT0 X0
  have hty : maty[0]? = some .byte := rfl
  have h0 : (mT M c0).1 = 32 + 0 := by rw [hT]
  have hi := D.1.ltA h0 hty
  have hc := (D.1.2.2.1 c0 hi).2 0 _ h0 hty
  have hn2 : (mT M c0).2 = n := by rw [hT]
  obtain ⟨t, st1, q⟩ := g_note (st := st) (pc := pc) C D h12 (idx_nm i n) (index_text_bytes i (n := n) hn) (by decide) h8 ha hb hk T hT0 X0
  refine ⟨t, ?_, q⟩
  have h1 := X0.bastoreOut C.1 (by rw [hT0]; exact hc) (((gKK C).2.1 0 _ hty).1 _ _) (j := i) (by show (i < 0 ∨ (arrV _ _ _).slots.size ≤ _); rw [arrV_size, hn2]; exact Classical.byContradiction hout) (g := F0 m pc ls ((.int x :: .int i :: .ref c0 :: st).map (rv X))) rfl (rest := st.map (rv X)) rfl (by rw [C.2.1]; exact hd) t
  simp only [arrV_size, hn2] at h1
  exact h1 st1
theorem s_sast_out {c0 n a2 b2 : Nat} {i : Int32} {x : Int32} (hd : decode y.2.1 pc = .ok (.sastore, 1)) (hT : mT M c0 = (33, n)) (hout : ¬ vp_in i n) (hn : n < 2147483648) (h12 : 12 ≤ d) (h8 : (st.map fun v => v.category).sum ≤ 8) (ha : a2 + 3 ≤ a) (hb : b2 + (212 + 10) ≤ b) (hk : ∀ j, GT X y d a2 b2 pc L (.inr 0) (mJunk M j) Q) : G X y d a b pc L (.int x :: .int i :: .ref c0 :: st) M Q := by
  intro p e s m args below meth c H locs cells slots mc ms ls C D T hT0 X0
  have hty : maty[1]? = some .short := rfl
  have h0 : (mT M c0).1 = 32 + 1 := by rw [hT]
  have hi := D.1.ltA h0 hty
  have hc := (D.1.2.2.1 c0 hi).2 1 _ h0 hty
  have hn2 : (mT M c0).2 = n := by rw [hT]
  obtain ⟨t, st1, q⟩ := g_note (st := st) (pc := pc) C D h12 (idx_nm i n) (index_text_bytes i (n := n) hn) (by decide) h8 ha hb hk T hT0 X0
  refine ⟨t, ?_, q⟩
  have h1 := X0.sastoreOut C.1 (by rw [hT0]; exact hc) (((gKK C).2.1 1 _ hty).1 _ _) (j := i) (by show (i < 0 ∨ (arrV _ _ _).slots.size ≤ _); rw [arrV_size, hn2]; exact Classical.byContradiction hout) (g := F0 m pc ls ((.int x :: .int i :: .ref c0 :: st).map (rv X))) rfl (rest := st.map (rv X)) rfl (by rw [C.2.1]; exact hd) t
  simp only [arrV_size, hn2] at h1
  exact h1 st1
theorem s_iast_out {c0 n a2 b2 : Nat} {i : Int32} {x : Int32} (hd : decode y.2.1 pc = .ok (.iastore, 1)) (hT : mT M c0 = (34, n)) (hout : ¬ vp_in i n) (hn : n < 2147483648) (h12 : 12 ≤ d) (h8 : (st.map fun v => v.category).sum ≤ 8) (ha : a2 + 3 ≤ a) (hb : b2 + (212 + 10) ≤ b) (hk : ∀ j, GT X y d a2 b2 pc L (.inr 0) (mJunk M j) Q) : G X y d a b pc L (.int x :: .int i :: .ref c0 :: st) M Q := by
  intro p e s m args below meth c H locs cells slots mc ms ls C D T hT0 X0
  have hty : maty[2]? = some .int := rfl
  have h0 : (mT M c0).1 = 32 + 2 := by rw [hT]
  have hi := D.1.ltA h0 hty
  have hc := (D.1.2.2.1 c0 hi).2 2 _ h0 hty
  have hn2 : (mT M c0).2 = n := by rw [hT]
  obtain ⟨t, st1, q⟩ := g_note (st := st) (pc := pc) C D h12 (idx_nm i n) (index_text_bytes i (n := n) hn) (by decide) h8 ha hb hk T hT0 X0
  refine ⟨t, ?_, q⟩
  have h1 := X0.iastoreOut C.1 (by rw [hT0]; exact hc) (((gKK C).2.1 2 _ hty).1 _ _) (j := i) (by show (i < 0 ∨ (arrV _ _ _).slots.size ≤ _); rw [arrV_size, hn2]; exact Classical.byContradiction hout) (g := F0 m pc ls ((.int x :: .int i :: .ref c0 :: st).map (rv X))) rfl (rest := st.map (rv X)) rfl (by rw [C.2.1]; exact hd) t
  simp only [arrV_size, hn2] at h1
  exact h1 st1
theorem s_last_out {c0 n a2 b2 : Nat} {i : Int32} {x : Int64} (hd : decode y.2.1 pc = .ok (.lastore, 1)) (hT : mT M c0 = (35, n)) (hout : ¬ vp_in i n) (hn : n < 2147483648) (h12 : 12 ≤ d) (h8 : (st.map fun v => v.category).sum ≤ 8) (ha : a2 + 3 ≤ a) (hb : b2 + (212 + 10) ≤ b) (hk : ∀ j, GT X y d a2 b2 pc L (.inr 0) (mJunk M j) Q) : G X y d a b pc L (.long x :: .int i :: .ref c0 :: st) M Q := by
  intro p e s m args below meth c H locs cells slots mc ms ls C D T hT0 X0
  have hty : maty[3]? = some .long := rfl
  have h0 : (mT M c0).1 = 32 + 3 := by rw [hT]
  have hi := D.1.ltA h0 hty
  have hc := (D.1.2.2.1 c0 hi).2 3 _ h0 hty
  have hn2 : (mT M c0).2 = n := by rw [hT]
  obtain ⟨t, st1, q⟩ := g_note (st := st) (pc := pc) C D h12 (idx_nm i n) (index_text_bytes i (n := n) hn) (by decide) h8 ha hb hk T hT0 X0
  refine ⟨t, ?_, q⟩
  have h1 := X0.lastoreOut C.1 (by rw [hT0]; exact hc) (((gKK C).2.1 3 _ hty).1 _ _) (j := i) (by show (i < 0 ∨ (arrV _ _ _).slots.size ≤ _); rw [arrV_size, hn2]; exact Classical.byContradiction hout) (g := F0 m pc ls ((.long x :: .int i :: .ref c0 :: st).map (rv X))) rfl (rest := st.map (rv X)) rfl (by rw [C.2.1]; exact hd) t
  simp only [arrV_size, hn2] at h1
  exact h1 st1
theorem s_newa_neg {at_ : ArrayType} {x : Int32} {a2 b2 : Nat} (hd : decode y.2.1 pc = .ok (.newarray at_, 2)) (h0 : x < 0) (h12 : 12 ≤ d) (h8 : (st.map fun v => v.category).sum ≤ 8) (ha : a2 + 3 ≤ a) (hb : b2 + (44 + 10) ≤ b) (hk : ∀ j, GT X y d a2 b2 pc L (.inr 1) (mJunk M j) Q) : G X y d a b pc L (.int x :: st) M Q := by
  intro p e s m args below meth c H locs cells slots mc ms ls C D T hT0 X0
  obtain ⟨t, st1, q⟩ := g_note (k := 1) (st := st) (pc := pc) C D h12 (negative_text_modelled h0) (negative_text_bytes x) (by decide) h8 ha hb hk T hT0 X0
  exact ⟨t, X0.newarrayNegative C.1 (g := F0 m pc ls ((.int x :: st).map (rv X))) rfl h0 (rest := st.map (rv X)) rfl (by rw [C.2.1]; exact hd) t st1, q⟩
end GEXC
