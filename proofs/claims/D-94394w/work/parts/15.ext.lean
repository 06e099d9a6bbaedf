/-! WHAT LIES OUTSIDE: statics, String constants, their letters; casts; arraycopy -/
set_option maxRecDepth 100000
section GEXT
variable {X : ME} {y : MI} {d a b pc : Nat} {L st : List Value} {M : MM} {Q : MR → MM → Prop}
theorem g_gets {p : Program} {e : Env} {s : State} {m : MethodId} {args : Array Value} {below : List Frame} {meth : Method} {c : Code} {H : Heap} {locs : List Loc} {cells slots mc ms : Nat} {ls : Array Slot} {idx : Nat} {C0 n0 d0 : String} {v : Value} (hd : decode y.2.1 pc = .ok (.getstatic idx, 3)) (hl : Cond.fieldLink y.1.cls idx C0 n0 d0 ∈ lw_all) (C : GCtx X y p s m args meth c) (D : GDyn X y a b L M s H locs cells slots mc ms ls) (hZ : va_Z C0 n0 d0 (rv X v) (mOut X) s (eH X)) (kk : G X y d a b (pc + 3) L (v :: st) M Q) : W p (eL X) e (gR d mc ms) s m args below meth c H locs cells slots (gZ X Q below args s mc ms) (F0 m pc ls (st.map (rv X))) :=
  va_gets C.1 C.2.1 (hZ.kept (gH0 C)) (gS C D) C.2.2.2.2.2.1 (C.2.2.2.2.2.2.1 _ hl) (fun _ h => h) hd (kk p e s m args below meth c H locs cells slots mc ms ls C D)
theorem s_gets0 {idx : Nat} (hd : decode y.2.1 pc = .ok (.getstatic idx, 3)) (hl : Cond.fieldLink y.1.cls idx Bundle.tN "UNASSIGNED_STACK" Bundle.steD ∈ lw_all) (kk : G X y d a b (pc + 3) L (.retAddr 40 :: st) M Q) : G X y d a b pc L st M Q := fun p e s m args below meth c H locs cells slots mc ms ls C D => g_gets (v := .retAddr 40) hd hl C D (gKK C).2.2.2.2.2.2.2.1.1 kk
theorem s_gets1 {idx : Nat} (hd : decode y.2.1 pc = .ok (.getstatic idx, 3)) (hl : Cond.fieldLink y.1.cls idx Bundle.tN "SUPPRESSED_SENTINEL" Bundle.listD ∈ lw_all) (kk : G X y d a b (pc + 3) L (.retAddr 41 :: st) M Q) : G X y d a b pc L st M Q := fun p e s m args below meth c H locs cells slots mc ms ls C D => g_gets (v := .retAddr 41) hd hl C D (gKK C).2.2.2.2.2.2.2.1.2.1 kk
theorem s_gets2 {idx : Nat} (hd : decode y.2.1 pc = .ok (.getstatic idx, 3)) (hl : Cond.fieldLink y.1.cls idx "java/lang/String" "COMPACT_STRINGS" "Z" ∈ lw_all) (kk : G X y d a b (pc + 3) L (.int 1 :: st) M Q) : G X y d a b pc L st M Q := fun p e s m args below meth c H locs cells slots mc ms ls C D => g_gets (v := .int 1) hd hl C D (gKK C).2.2.2.2.2.2.2.1.2.2.1 kk
theorem s_gets3 {idx : Nat} (hd : decode y.2.1 pc = .ok (.getstatic idx, 3)) (hl : Cond.fieldLink y.1.cls idx "jdk/internal/util/Preconditions" "SIOOBE_FORMATTER" "Ljava/util/function/BiFunction;" ∈ lw_all) (kk : G X y d a b (pc + 3) L (.retAddr 42 :: st) M Q) : G X y d a b pc L st M Q := fun p e s m args below meth c H locs cells slots mc ms ls C D => g_gets (v := .retAddr 42) hd hl C D (gKK C).2.2.2.2.2.2.2.1.2.2.2 kk
theorem rv_some {X : ME} {k ad : Nat} (h : eS X k = some ad) : rv X (.retAddr k) = .ref ad := by show va_rf (eS X k) = _; rw [h]; rfl
/-- a String constant's two fields -/
theorem s_strC {idx k : Nat} {q : String × Nat × String} (hk : mstr[k]? = some q) (hd : decode y.2.1 pc = .ok (.getfield idx, 3)) (hl : Cond.fieldLink y.1.cls idx "java/lang/String" "coder" "B" ∈ lw_all) (kk : G X y d a b (pc + 3) L (.int 0 :: st) M Q) : G X y d a b pc L (.retAddr (1 + k) :: st) M Q := by
  intro p e s m args below meth c H locs cells slots mc ms ls C D
  obtain ⟨ad, av, e0, e00, e1, e2, e3, e4, e5⟩ := (gKK C).2.2.2.2.2.2.2.2.1 k _ hk
  have w := kk p e s m args below meth c H locs cells slots mc ms ls C D
  rw [List.map_cons, rv_some e0]
  exact vk_getf C.1 C.2.1 (e3.kept (gH0 C)) (gS C D) C.2.2.2.2.2.1 (C.2.2.2.2.2.2.1 _ hl) (fun _ h => h) hd w
theorem s_strV {idx k : Nat} {q : String × Nat × String} (hk : mstr[k]? = some q) (hd : decode y.2.1 pc = .ok (.getfield idx, 3)) (hl : Cond.fieldLink y.1.cls idx "java/lang/String" "value" "[B" ∈ lw_all) (kk : G X y d a b (pc + 3) L (.retAddr (100 + k) :: st) M Q) : G X y d a b pc L (.retAddr (1 + k) :: st) M Q := by
  intro p e s m args below meth c H locs cells slots mc ms ls C D
  obtain ⟨ad, av, e0, e00, e1, e2, e3, e4, e5⟩ := (gKK C).2.2.2.2.2.2.2.2.1 k _ hk
  have w := kk p e s m args below meth c H locs cells slots mc ms ls C D
  rw [List.map_cons, rv_some e00] at w
  rw [List.map_cons, rv_some e0]
  exact vk_getf C.1 C.2.1 (e4.kept (gH0 C)) (gS C D) C.2.2.2.2.2.1 (C.2.2.2.2.2.2.1 _ hl) (fun _ h => h) hd w
theorem s_strL {k : Nat} {q : String × Nat × String} (hk : mstr[k]? = some q) (hd : decode y.2.1 pc = .ok (.arraylength, 1)) (kk : G X y d a b (pc + 1) L (.int (nI (mstrB.getD k []).length) :: st) M Q) : G X y d a b pc L (.retAddr (100 + k) :: st) M Q := by
  intro p e s m args below meth c H locs cells slots mc ms ls C D
  obtain ⟨ad, av, e0, e00, e1, e2, e3, e4, e5⟩ := (gKK C).2.2.2.2.2.2.2.2.1 k _ hk
  have w := kk p e s m args below meth c H locs cells slots mc ms ls C D
  rw [List.map_cons, rv_some e00]
  obtain ⟨cell, h1, h2, h3, h4, h5, h6, h7⟩ := (e5.kept (gH0 C)).kept (gS C D).2.1
  exact W.alen C.1 C.2.1 h1 h2 h5 rfl rfl hd w
theorem s_strB {k j : Nat} {x : Int32} {q : String × Nat × String} (hk : mstr[k]? = some q) (hd : decode y.2.1 pc = .ok (.baload, 1)) (hx : x = nI j) (hj : j < (mstrB.getD k []).length) (h31 : (mstrB.getD k []).length < 2147483648) (kk : G X y d a b (pc + 1) L (.int ((mstrB.getD k []).getD j 0) :: st) M Q) : G X y d a b pc L (.int x :: .retAddr (100 + k) :: st) M Q := by
  subst hx
  intro p e s m args below meth c H locs cells slots mc ms ls C D
  obtain ⟨ad, av, e0, e00, e1, e2, e3, e4, e5⟩ := (gKK C).2.2.2.2.2.2.2.2.1 k _ hk
  have w := kk p e s m args below meth c H locs cells slots mc ms ls C D
  rw [List.map_cons, List.map_cons, rv_some e00]
  obtain ⟨cell, h1, h2, h3, h4, h5, h6, h7⟩ := (e5.kept (gH0 C)).kept (gS C D).2.1
  obtain ⟨g1, g2⟩ := nI_bd hj h31
  exact W.bald C.1 C.2.1 h1 h2 h3 (by rw [g2]; intro h; exact h.elim (fun h => g1 (Or.inl h)) (fun h => absurd hj (by omega))) (by rw [g2]; exact h6 j hj) rfl rfl hd w
/-- a call through a String constant -/
theorem s_callStr {z : MI} {n idx k a1 b1 a2 b2 : Nat} {q : String × Nat × String} {as stk : List Value} {Q' : MR → MM → Prop} (hk : mstr[k]? = some q) (hM : GM X z d a1 b1 (.retAddr (1 + k) :: as) M Q') (hnt : ∀ r M', ¬ Q' (.inr r) M') (hd : decode y.2.1 pc = .ok (.invokevirtual idx, 3)) (hz : LkZ z n) (h0 : z.2.2.2.2 = []) (ho : LkO z) (hc : z.1.cls = "java/lang/String") (hl : Cond.methodLink y.1.cls idx z.1 ∈ lw_all) (hn : as.length = n)
    (hs : stk = as.reverse ++ .retAddr (1 + k) :: st) (h8 : (st.map fun v => v.category).sum ≤ 8) (ha : a2 + a1 ≤ a) (hb : b2 + b1 ≤ b) (hkk : ∀ v M', Q' (.inl v) M' → G X y (d + 1) a2 b2 (pc + 3) L (v.toList ++ st) M' Q) : G X y (d + 1) a b pc L stk M Q := by
  intro p e s m args below meth c H locs cells slots mc ms ls C D
  obtain ⟨ad, av, e0, e00, e1, e2, e3, e4, e5⟩ := (gKK C).2.2.2.2.2.2.2.2.1 k _ hk
  have hW8 : 2 * (F0 m pc ls (stk.map (rv X))).monitorRoom + ((st.map (rv X)).map fun v => v.category).sum ≤ 8 := by rw [rv_cats]; show 2 * 0 + _ ≤ 8; omega
  have hcap : cells + a1 ≤ (gR (d + 1) mc ms).cells ∧ slots + b1 ≤ (gR (d + 1) mc ms).slots := ⟨by show cells + a1 ≤ mc; have := D.2.2.2.1; omega, by show slots + b1 ≤ ms; have := D.2.2.2.2.1; omega⟩
  have hMet := hM.met hnt
  obtain ⟨nm, cc, mL, rt, hh⟩ := z
  have h0 : hh = [] := h0
  subst h0
  have hts := C.2.2.2.2.2.2.1
  have hcell : ∃ cellB : Cell, H[ad]? = some cellB ∧ cellB.vm.isStatics = false ∧ s.vm.findClass nm.cls = some cellB.cls := by
    obtain ⟨cell, h1, h2, h3, h4⟩ := (e2.kept (gH0 C)).kept (gS C D).2.1
    exact ⟨cell, h1, h2, by rw [show nm.cls = "java/lang/String" from hc]; exact h3⟩
  have hP : PreV s H nm.cls ad (va_Pc ((.retAddr (1 + k) :: as).map (rv X)) (fun U => HR X M U.heap ∧ KK X U)) (as.map (rv X)) :=
    ⟨gPc_blind, hcell, fun U hU hW => ⟨by rw [List.map_cons, rv_some e0], by rw [hU]; exact D.1, (gKK C).warm hW⟩⟩
  have hstk : stk.map (rv X) = (as.map (rv X)).reverse ++ .ref ad :: st.map (rv X) := by rw [hs, List.map_append, List.map_reverse, List.map_cons, rv_some e0]
  refine g_contN (a1 := a1) (b1 := b1) C D ha hb (va_runV (gFix C) hMet (cwV n hts (lw_V hl ho.1 ho.2 hz.2.2.2 hz.1) rfl rfl rfl ⟨rfl, hz.2.2.1⟩ (gRoom (z := (nm, cc, mL, rt, [])) hz.2.1)) hP rfl (by rw [List.length_map]; exact hn) D.2.1.1 hstk hW8 hd hcap) hkk
/-- the class name of a cell's tag -/
def mname (t : Nat) : Option String := match mcl[t]? with | some q => some q.1 | none => if 32 ≤ t then (maty[t - 32]?).map (fun ty => "[" ++ ty.toString) else none
theorem gRecvT {i : Nat} {E : String} {p : Program} {s : State} {m : MethodId} {args : Array Value} {meth : Method} {c : Code} {H : Heap} (C : GCtx X y p s m args meth c) (hR : HR X M H) (hE : mname (mT M i).1 = some E) : ∃ cellB : Cell, H[eB X + i]? = some cellB ∧ cellB.vm.isStatics = false ∧ s.vm.findClass E = some cellB.cls := by
  unfold mname at hE
  cases hq : mcl[(mT M i).1]? with
  | some q =>
    rw [hq] at hE
    cases hE
    exact gRecv C hR hq
  | none =>
    rw [hq] at hE
    simp only at hE
    by_cases h32 : 32 ≤ (mT M i).1
    · rw [if_pos h32] at hE
      cases hy : maty[(mT M i).1 - 32]? with
      | none => rw [hy] at hE; cases hE
      | some ty =>
        rw [hy] at hE
        cases hE
        have h0 : (mT M i).1 = 32 + ((mT M i).1 - 32) := by omega
        have hi := hR.ltA h0 hy
        refine ⟨_, (hR.2.2.1 i hi).2 _ ty h0 hy, rfl, ?_⟩
        have h2 := ((gKK C).2.1 _ ty hy).2
        cases ty with
        | object C0 => obtain ⟨kA, comp, u1, u2, u3, u4⟩ := h2; exact u4
        | _ => exact h2
    · rw [if_neg h32] at hE; cases hE
/-- casts and tests by the class of the cell -/
theorem s_cast {i idx : Nat} {E nm : String} (hd : decode y.2.1 pc = .ok (.checkcast idx, 3)) (hl : Cond.classLink y.1.cls idx nm ∈ lw_all) (hE : mname (mT M i).1 = some E) (hc : E = nm) (kk : G X y d a b (pc + 3) L (.ref i :: st) M Q) : G X y d a b pc L (.ref i :: st) M Q := by
  subst hc
  intro p e s m args below meth c H locs cells slots mc ms ls C D
  obtain ⟨cell, h1, h2, h3⟩ := gRecvT C D.1 hE
  have w := kk p e s m args below meth c H locs cells slots mc ms ls C D
  intro T hT X0
  obtain ⟨vm', X', stp⟩ := X0.checkcastYes C.1 C.2.2.2.2.2.1 (C.2.2.2.2.2.2.1 _ hl) (by rw [hT]; exact h1) h2 h3 (va_asg _ _) (g := F0 m pc ls ((.ref i :: st).map (rv X))) rfl rfl (by rw [C.2.1]; exact hd)
  obtain ⟨t, a1, b1⟩ := w (T.setVm vm') hT X'
  exact ⟨t, stp t a1, b1⟩
theorem s_instY {i idx : Nat} {E nm : String} (hd : decode y.2.1 pc = .ok (.instanceof idx, 3)) (hl : Cond.classLink y.1.cls idx nm ∈ lw_all) (hE : mname (mT M i).1 = some E) (hc : E = nm) (kk : G X y d a b (pc + 3) L (.int 1 :: st) M Q) : G X y d a b pc L (.ref i :: st) M Q := by
  subst hc
  intro p e s m args below meth c H locs cells slots mc ms ls C D
  obtain ⟨cell, h1, h2, h3⟩ := gRecvT C D.1 hE
  have w := kk p e s m args below meth c H locs cells slots mc ms ls C D
  intro T hT X0
  obtain ⟨vm', X', stp⟩ := X0.instanceofYes C.1 C.2.2.2.2.2.1 (C.2.2.2.2.2.2.1 _ hl) (by rw [hT]; exact h1) h2 h3 (va_asg _ _) (g := F0 m pc ls ((.ref i :: st).map (rv X))) rfl rfl (by rw [C.2.1]; exact hd)
  obtain ⟨t, a1, b1⟩ := w (T.setVm vm') hT X'
  exact ⟨t, stp t a1, b1⟩
theorem s_instN {i idx : Nat} {E nm : String} (hd : decode y.2.1 pc = .ok (.instanceof idx, 3)) (hl : Cond.classLink y.1.cls idx nm ∈ lw_all) (hE : mname (mT M i).1 = some E) (hc : (E, nm) ∈ mNc) (kk : G X y d a b (pc + 3) L (.int 0 :: st) M Q) : G X y d a b pc L (.ref i :: st) M Q := fun p e s m args below meth c H locs cells slots mc ms ls C D =>
  va_instNo C.1 C.2.1 C.2.2.2.2.2.1 (C.2.2.2.2.2.2.1 _ hl) ((gKK C).2.2.2.1 _ hc) (gRecvT C D.1 hE) hd (kk p e s m args below meth c H locs cells slots mc ms ls C D)
end GEXT
