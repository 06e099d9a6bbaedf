/-! CALLS of the small machine, what is thrown and caught -/
set_option maxRecDepth 100000
/-- what a callee asks of the tables -/
def LkZ (z : MI) (n : Nat) : Prop := (match z with | (nm, cc, mL, r, []) => Cond.code nm cc mL r ∈ lw_all | (nm, cc, mL, r, h :: t) => Cond.codeWith nm cc mL r (h :: t) ∈ lw_all) ∧ z.2.2.1 ≤ 45 ∧ (z.1.cls ≠ "java/lang/invoke/MethodHandle" ∧ z.1.cls ≠ "java/lang/invoke/VarHandle" ∧ (parseMethodDescriptor z.1.desc).map (fun d => d.parameters.length) = some n) ∧ Cond.initialized z.1.cls ∈ lw_all
/-- it is an object's, and its own class selects it -/
def LkO (z : MI) : Prop := Cond.instanceMethod z.1 ∈ lw_all ∧ Cond.selects z.1.cls z.1 z.1 ∈ lw_all
theorem LkZ.good {z : MI} {n : Nat} (h : LkZ z n) : GoodIn lw_all (mws z) := by
  obtain ⟨nm, cc, mL, r, hh⟩ := z
  cases hh with
  | nil => exact lw_meth h.1
  | cons x t => exact lw_methW h.1
section GCALLS
variable {X : ME} {y : MI} {d a b pc : Nat} {L st : List Value} {M : MM} {Q : MR → MM → Prop}
theorem gFix {p : Program} {s : State} {m : MethodId} {args : Array Value} {meth : Method} {c : Code} (C : GCtx X y p s m args meth c) : CallFix p m c y.2.1 y.2.2.1 s args lw_all y.1.cls := ⟨C.1, C.2.1, C.2.2.2.2.1, C.2.2.2.2.2.1, C.2.2.2.2.2.2.1⟩
theorem g_cont {a1 b1 a2 b2 : Nat} {stk : List Value} {Q' : MR → MM → Prop} {A' : Array Value} {p : Program} {e : Env} {s : State} {m : MethodId} {args : Array Value} {below : List Frame} {meth : Method} {c : Code} {H : Heap} {locs : List Loc} {cells slots mc ms : Nat} {ls : Array Slot}
    (C : GCtx X y p s m args meth c) (D : GDyn X y a b L M s H locs cells slots mc ms ls) (ha : a2 + a1 ≤ a) (hb : b2 + b1 ≤ b)
    (hr : vx_Run p (eL X) e (gR d mc ms) s m args below meth c H locs cells slots a1 b1 (F0 m pc ls stk) (st.map (rv X)) (gQ X Q' A') (gX X Q') (mOut X))
    (hk : ∀ v M', Q' (.inl v) M' → G X y d a2 b2 (pc + 3) L (v.toList ++ st) M' Q) (hx : ∀ r M', Q' (.inr r) M' → GT X y d a2 b2 pc L r M' Q) :
    W p (eL X) e (gR d mc ms) s m args below meth c H locs cells slots (gZ X Q below args s mc ms) (F0 m pc ls stk) := by
  intro T hT X0
  have hloc : ∀ {L0 : List Loc}, (∀ q ∈ L0, mOut X q.base) → ∀ z ∈ locs ++ L0, mOut X z.base := fun hL z hz => by
    rcases List.mem_append.mp hz with h | h
    · exact D.2.2.1 z h
    · exact hL z h
  rcases hr T hT X0 with ⟨v, st₀, t, T', L0, h0, X', hL, e1, e2, ⟨v', M', hv, hR, hq⟩, stp⟩ | ⟨q, st₀, t, T', L0, E, ce, h0, X', hL, e1, e2, ⟨M', hR, hE⟩, hce, hcv, hcl, stp⟩
  · cases hv
    have w := hk v' M' hq p e s m args below meth c T'.heap (locs ++ L0) (cells + a1) (slots + b1) mc ms ls C ⟨by rw [e1]; exact hR, D.2.1, hloc hL, by have := D.2.2.2.1; omega, by have := D.2.2.2.2.1; omega, (vx_frame X'.same).1⟩
    rw [show (v'.toList ++ st).map (rv X) = (v'.map (rv X)).toList ++ st.map (rv X) by cases v' <;> rfl] at w
    obtain ⟨t2, s1, s2⟩ := w T' rfl X'
    exact ⟨t2, stp t2 s1, s2⟩
  · have D' : GDyn X y a2 b2 L M' s T'.heap (locs ++ L0) (cells + a1) (slots + b1) mc ms ls := ⟨by rw [e1]; exact hR, D.2.1, hloc hL, by have := D.2.2.2.1; omega, by have := D.2.2.2.2.1; omega, (vx_frame X'.same).1⟩
    have hce' : T'.heap[q]? = some ce := by rw [e1]; exact hce
    rcases hE with ⟨i, w, h1, h2, h3, h4, h5⟩ | ⟨k, h1, h2⟩
    · obtain ⟨t2, s1, s2⟩ := hx (.inl i) M' h5 p e s m args below meth c T'.heap (locs ++ L0) (cells + a1) (slots + b1) mc ms ls (st.map (rv X)) q E ce C D' hce' hcv hcl ⟨w, h1, h2, h3, h4⟩ T' rfl X'
      exact ⟨t2, stp.trans s1, s2⟩
    · obtain ⟨t2, s1, s2⟩ := hx (.inr k) M' h2 p e s m args below meth c T'.heap (locs ++ L0) (cells + a1) (slots + b1) mc ms ls (st.map (rv X)) q E ce C D' hce' hcv hcl h1 T' rfl X'
      exact ⟨t2, stp.trans s1, s2⟩
theorem g_contN {a1 b1 a2 b2 : Nat} {stk : List Value} {Q' : MR → MM → Prop} {A' : Array Value} {p : Program} {e : Env} {s : State} {m : MethodId} {args : Array Value} {below : List Frame} {meth : Method} {c : Code} {H : Heap} {locs : List Loc} {cells slots mc ms : Nat} {ls : Array Slot}
    (C : GCtx X y p s m args meth c) (D : GDyn X y a b L M s H locs cells slots mc ms ls) (ha : a2 + a1 ≤ a) (hb : b2 + b1 ≤ b)
    (hr : va_Run p (eL X) e (gR d mc ms) s m args below meth c H locs cells slots a1 b1 (F0 m pc ls stk) (st.map (rv X)) (gQ X Q' A') (mOut X))
    (hk : ∀ v M', Q' (.inl v) M' → G X y d a2 b2 (pc + 3) L (v.toList ++ st) M' Q) :
    W p (eL X) e (gR d mc ms) s m args below meth c H locs cells slots (gZ X Q below args s mc ms) (F0 m pc ls stk) := by
  intro T hT X0
  obtain ⟨v, st₀, t, T', L0, h0, X', hL, e1, e2, ⟨v', M', hv, hR, hq⟩, stp⟩ := hr T hT X0
  cases hv
  have w := hk v' M' hq p e s m args below meth c T'.heap (locs ++ L0) (cells + a1) (slots + b1) mc ms ls C ⟨by rw [e1]; exact hR, D.2.1, fun z hz => by
    rcases List.mem_append.mp hz with h | h
    · exact D.2.2.1 z h
    · exact hL z h, by have := D.2.2.2.1; omega, by have := D.2.2.2.2.1; omega, (vx_frame X'.same).1⟩
  rw [show (v'.toList ++ st).map (rv X) = (v'.map (rv X)).toList ++ st.map (rv X) by cases v' <;> rfl] at w
  obtain ⟨t2, s1, s2⟩ := w T' rfl X'
  exact ⟨t2, stp t2 s1, s2⟩
/-- a contract of a method that doesn't throw -/
theorem GM.met {z : MI} {as : List Value} {Q' : MR → MM → Prop} (h : GM X z d a b as M Q') (hn : ∀ r M', ¬ Q' (.inr r) M') : Met (eL X) z.1 (mws z) (gR d a b) (va_Pc (as.map (rv X)) (fun U => HR X M U.heap ∧ KK X U)) (gQ X Q') a b (mOut X) :=
  MetFree.mono h (fun _ _ h => h) (fun _ _ _ _ _ h => h) (fun ar s o t _ hq => by
    rcases hq with hq | ⟨q, -, E, ce, L0, ⟨M', -, hE⟩, -⟩
    · exact hq
    · rcases hE with ⟨i, w, -, -, -, -, h5⟩ | ⟨k, -, h2⟩
      · exact (hn _ _ h5).elim
      · exact (hn _ _ h2).elim)
theorem gPre {as : List Value} {p : Program} {s : State} {m : MethodId} {args : Array Value} {meth : Method} {c : Code} {H : Heap} (C : GCtx X y p s m args meth c) (hR : HR X M H) : PreS s H (va_Pc (as.map (rv X)) (fun U => HR X M U.heap ∧ KK X U)) (as.map (rv X)) :=
  ⟨gPc_blind, fun U hU hW => ⟨rfl, by rw [hU]; exact hR, (gKK C).warm hW⟩⟩
theorem gRecv {i : Nat} {q : vw_C} {p : Program} {s : State} {m : MethodId} {args : Array Value} {meth : Method} {c : Code} {H : Heap} (C : GCtx X y p s m args meth c) (hR : HR X M H) (hq : mcl[(mT M i).1]? = some q) : ∃ cellB : Cell, H[eB X + i]? = some cellB ∧ cellB.vm.isStatics = false ∧ s.vm.findClass q.1 = some cellB.cls := by
  obtain ⟨cell, q1, q2, q3, -⟩ := (hR.2.2.1 i (hR.lt hq)).1 q hq
  obtain ⟨-, hfc, -⟩ := (gKK C).1 _ q hq
  exact ⟨cell, q1, by rw [q3]; rfl, by rw [q2]; exact hfc⟩
theorem gPreV {i : Nat} {q : vw_C} {as : List Value} {p : Program} {s : State} {m : MethodId} {args : Array Value} {meth : Method} {c : Code} {H : Heap} (C : GCtx X y p s m args meth c) (hR : HR X M H) (hq : mcl[(mT M i).1]? = some q) : PreV s H q.1 (eB X + i) (va_Pc ((.ref i :: as).map (rv X)) (fun U => HR X M U.heap ∧ KK X U)) (as.map (rv X)) :=
  ⟨gPc_blind, gRecv C hR hq, fun U hU hW => ⟨rfl, by rw [hU]; exact hR, (gKK C).warm hW⟩⟩
theorem gRoom {z : MI} {d a1 b1 mc ms : Nat} (hz : z.2.2.1 ≤ 45) : (gR d a1 b1).frames + 1 ≤ (gR (d + 1) mc ms).frames ∧ 8 + (z.2.2.1 + 11) + (gR d a1 b1).locals ≤ (gR (d + 1) mc ms).locals := ⟨Nat.le_refl _, by show 8 + (z.2.2.1 + 11) + (10300 + 64 * d) ≤ 10300 + 64 * (d + 1); omega⟩
theorem gStk {X : ME} {stk as : List Value} {i : Nat} {st : List Value} (h : stk = as.reverse ++ .ref i :: st) : stk.map (rv X) = (as.map (rv X)).reverse ++ .ref (eB X + i) :: st.map (rv X) := by rw [h, List.map_append, List.map_reverse]; rfl
/-- through an object, a method of its own class -/
theorem s_callV {z : MI} {n i idx a1 b1 a2 b2 : Nat} {q : vw_C} {as stk : List Value} {Q' : MR → MM → Prop} (hM : GM X z d a1 b1 (.ref i :: as) M Q') (hd : decode y.2.1 pc = .ok (.invokevirtual idx, 3)) (hz : LkZ z n) (ho : LkO z) (hl : Cond.methodLink y.1.cls idx z.1 ∈ lw_all) (hn : as.length = n) (hq : mcl[(mT M i).1]? = some q) (hc : q.1 = z.1.cls)
    (hs : stk = as.reverse ++ .ref i :: st) (h8 : (st.map fun v => v.category).sum ≤ 8) (ha : a2 + a1 ≤ a) (hb : b2 + b1 ≤ b) (hk : ∀ v M', Q' (.inl v) M' → G X y (d + 1) a2 b2 (pc + 3) L (v.toList ++ st) M' Q) (hx : ∀ r M', Q' (.inr r) M' → GT X y (d + 1) a2 b2 pc L r M' Q) : G X y (d + 1) a b pc L stk M Q := by
  intro p e s m args below meth c H locs cells slots mc ms ls C D
  have hP := gPreV (as := as) C D.1 hq
  rw [hc] at hP
  have hW8 : 2 * (F0 m pc ls (stk.map (rv X))).monitorRoom + ((st.map (rv X)).map fun v => v.category).sum ≤ 8 := by rw [rv_cats]; show 2 * 0 + _ ≤ 8; omega
  have hcap : cells + a1 ≤ (gR (d + 1) mc ms).cells ∧ slots + b1 ≤ (gR (d + 1) mc ms).slots := ⟨by show cells + a1 ≤ mc; have := D.2.2.2.1; omega, by show slots + b1 ≤ ms; have := D.2.2.2.2.1; omega⟩
  obtain ⟨nm, cc, mL, rt, hh⟩ := z
  have hts := C.2.2.2.2.2.2.1
  cases hh with
  | nil =>
    exact g_cont (a1 := a1) (b1 := b1) C D ha hb (vx_runV (gFix C) hM (cwV n hts (lw_V hl ho.1 ho.2 hz.2.2.2 hz.1) rfl rfl rfl ⟨rfl, hz.2.2.1⟩ (gRoom (z := (nm, cc, mL, rt, [])) hz.2.1)) hP rfl (by rw [List.length_map]; exact hn) D.2.1.1 (gStk hs) hW8 hd hcap) hk hx
  | cons x t =>
    exact g_cont (a1 := a1) (b1 := b1) C D ha hb (vx_runVX (gFix C) hM (vx_cwVW n hts (lw_VW hl ho.1 ho.2 hz.2.2.2 hz.1) rfl rfl rfl ⟨rfl, hz.2.2.1⟩ (gRoom (z := (nm, cc, mL, rt, x :: t)) hz.2.1)) hP rfl (by rw [List.length_map]; exact hn) D.2.1.1 (gStk hs) hW8 hd hcap) hk hx
/-- a static method -/
theorem s_callS {z : MI} {n idx a1 b1 a2 b2 : Nat} {as stk : List Value} {Q' : MR → MM → Prop} (hM : GM X z d a1 b1 as M Q') (hd : decode y.2.1 pc = .ok (.invokestatic idx, 3)) (hz : LkZ z n) (h0 : z.2.2.2.2 = []) (hst : Cond.static z.1 ∈ lw_all) (hl : Cond.methodLink y.1.cls idx z.1 ∈ lw_all) (hn : as.length = n)
    (hs : stk = as.reverse ++ st) (h8 : (st.map fun v => v.category).sum ≤ 8) (ha : a2 + a1 ≤ a) (hb : b2 + b1 ≤ b) (hk : ∀ v M', Q' (.inl v) M' → G X y (d + 1) a2 b2 (pc + 3) L (v.toList ++ st) M' Q) (hx : ∀ r M', Q' (.inr r) M' → GT X y (d + 1) a2 b2 pc L r M' Q) : G X y (d + 1) a b pc L stk M Q := by
  intro p e s m args below meth c H locs cells slots mc ms ls C D
  have hW8 : 2 * (F0 m pc ls (stk.map (rv X))).monitorRoom + ((st.map (rv X)).map fun v => v.category).sum ≤ 8 := by rw [rv_cats]; show 2 * 0 + _ ≤ 8; omega
  have hcap : cells + a1 ≤ (gR (d + 1) mc ms).cells ∧ slots + b1 ≤ (gR (d + 1) mc ms).slots := ⟨by show cells + a1 ≤ mc; have := D.2.2.2.1; omega, by show slots + b1 ≤ ms; have := D.2.2.2.2.1; omega⟩
  obtain ⟨nm, cc, mL, rt, hh⟩ := z
  have h0 : hh = [] := h0
  subst h0
  have hts := C.2.2.2.2.2.2.1
  exact g_cont (a1 := a1) (b1 := b1) C D ha hb (vx_runS (gFix C) hM (va_cwS n hts (lw_S hl hst hz.2.2.2 hz.1) rfl rfl rfl hz.2.2.1 (gRoom (z := (nm, cc, mL, rt, [])) hz.2.1)) (gPre C D.1) rfl (by rw [List.length_map]; exact hn) D.2.1.1 (by show stk.map (rv X) = _; rw [hs, List.map_append, List.map_reverse]) hW8 hd hcap) hk hx
/-- a constructor -/
theorem s_callI {z : MI} {n i idx a1 b1 a2 b2 : Nat} {as stk : List Value} {Q' : MR → MM → Prop} (hM : GM X z d a1 b1 (.ref i :: as) M Q') (hnt : ∀ r M', ¬ Q' (.inr r) M') (hd : decode y.2.1 pc = .ok (.invokespecial idx, 3)) (hz : LkZ z n) (h0 : z.2.2.2.2 = []) (hr0 : z.2.2.2.1 = none) (hin : Cond.instanceMethod z.1 ∈ lw_all) (hnm : z.1.name = "<init>")
    (hl : Cond.methodLink y.1.cls idx z.1 ∈ lw_all ∨ ∃ host, Cond.methodLinkNest y.1.cls idx z.1 host ∈ lw_tbl) (hn : as.length = n)
    (hs : stk = as.reverse ++ .ref i :: st) (h8 : (st.map fun v => v.category).sum ≤ 8) (ha : a2 + a1 ≤ a) (hb : b2 + b1 ≤ b) (hk : ∀ v M', Q' (.inl v) M' → G X y (d + 1) a2 b2 (pc + 3) L (v.toList ++ st) M' Q) : G X y (d + 1) a b pc L stk M Q := by
  intro p e s m args below meth c H locs cells slots mc ms ls C D
  have hW8 : 2 * (F0 m pc ls (stk.map (rv X))).monitorRoom + ((st.map (rv X)).map fun v => v.category).sum ≤ 8 := by rw [rv_cats]; show 2 * 0 + _ ≤ 8; omega
  have hcap : cells + a1 ≤ (gR (d + 1) mc ms).cells ∧ slots + b1 ≤ (gR (d + 1) mc ms).slots := ⟨by show cells + a1 ≤ mc; have := D.2.2.2.1; omega, by show slots + b1 ≤ ms; have := D.2.2.2.2.1; omega⟩
  have hMet := hM.met hnt
  obtain ⟨nm, cc, mL, rt, hh⟩ := z
  have h0 : hh = [] := h0
  subst h0
  have hr0 : rt = none := hr0
  subst hr0
  have hts := C.2.2.2.2.2.2.1
  have hg := hz.good
  rcases hl with hl | ⟨host, hl⟩
  · exact g_contN (a1 := a1) (b1 := b1) C D ha hb (va_runI (gFix C) hMet (cwI n hts hg rfl rfl rfl (hts _ hz.2.2.2) (hts _ hl) (hts _ hin) hnm hz.2.2.1 (gRoom (z := (nm, cc, mL, none, [])) hz.2.1)) (gPre (as := .ref i :: as) C D.1) rfl (by rw [List.length_map]; exact hn) D.2.1.1 (gStk hs) hW8 hd hcap) hk
  · exact g_contN (a1 := a1) (b1 := b1) C D ha hb (va_runIN (gFix C) hMet ⟨va_cnB n hts hg rfl rfl rfl (gNw (gKK C) hl rfl) (hts _ hz.2.2.2) hz.2.2.1 (gRoom (z := (nm, cc, mL, none, [])) hz.2.1), hnm, hts _ hin⟩ (gPre (as := .ref i :: as) C D.1) rfl (by rw [List.length_map]; exact hn) D.2.1.1 (gStk hs) hW8 hd hcap) hk
/-- a nest mate's private method -/
theorem s_callN {z : MI} {n i idx a1 b1 a2 b2 : Nat} {q : vw_C} {host : String} {as stk : List Value} {Q' : MR → MM → Prop} (hM : GM X z d a1 b1 (.ref i :: as) M Q') (hnt : ∀ r M', ¬ Q' (.inr r) M') (hd : decode y.2.1 pc = .ok (.invokevirtual idx, 3)) (hz : LkZ z n) (h0 : z.2.2.2.2 = []) (ho : LkO z) (hl : Cond.methodLinkNest y.1.cls idx z.1 host ∈ lw_tbl) (hn : as.length = n) (hq : mcl[(mT M i).1]? = some q) (hc : q.1 = z.1.cls)
    (hs : stk = as.reverse ++ .ref i :: st) (h8 : (st.map fun v => v.category).sum ≤ 8) (ha : a2 + a1 ≤ a) (hb : b2 + b1 ≤ b) (hk : ∀ v M', Q' (.inl v) M' → G X y (d + 1) a2 b2 (pc + 3) L (v.toList ++ st) M' Q) : G X y (d + 1) a b pc L stk M Q := by
  intro p e s m args below meth c H locs cells slots mc ms ls C D
  have hP := gPreV (as := as) C D.1 hq
  rw [hc] at hP
  have hW8 : 2 * (F0 m pc ls (stk.map (rv X))).monitorRoom + ((st.map (rv X)).map fun v => v.category).sum ≤ 8 := by rw [rv_cats]; show 2 * 0 + _ ≤ 8; omega
  have hcap : cells + a1 ≤ (gR (d + 1) mc ms).cells ∧ slots + b1 ≤ (gR (d + 1) mc ms).slots := ⟨by show cells + a1 ≤ mc; have := D.2.2.2.1; omega, by show slots + b1 ≤ ms; have := D.2.2.2.2.1; omega⟩
  have hMet := hM.met hnt
  obtain ⟨nm, cc, mL, rt, hh⟩ := z
  have h0 : hh = [] := h0
  subst h0
  have hts := C.2.2.2.2.2.2.1
  have hg := hz.good
  exact g_contN (a1 := a1) (b1 := b1) C D ha hb (va_runVN (C := nm.cls) (gFix C) hMet ⟨va_cnB n hts hg rfl rfl rfl (gNw (gKK C) hl rfl) (hts _ hz.2.2.2) hz.2.2.1 (gRoom (z := (nm, cc, mL, rt, [])) hz.2.1), hts _ ho.1, hts _ ho.2⟩ hP rfl (by rw [List.length_map]; exact hn) D.2.1.1 (gStk hs) hW8 hd hcap) hk
/-- a method of a class above, or one that overrides it -/
theorem s_callU {z : MI} {x : MethodName} {n i idx a1 b1 a2 b2 : Nat} {q : vw_C} {as stk : List Value} {Q' : MR → MM → Prop} (hM : GM X z d a1 b1 (.ref i :: as) M Q') (hnt : ∀ r M', ¬ Q' (.inr r) M') (hd : decode y.2.1 pc = .ok (.invokevirtual idx, 3)) (hz : LkZ z n) (h0 : z.2.2.2.2 = []) (hl : Cond.methodLink y.1.cls idx x ∈ lw_all) (hsm : Cond.sameMethod x.cls x.cls x.name x.desc ∈ lw_all)
    (hdc : (∃ bb mm rr, Cond.instanceMethod x ∈ lw_all ∧ Cond.code x bb mm rr ∈ lw_all) ∨ Cond.declares x ∈ lw_tbl) (hx1 : x.cls ≠ "java/lang/invoke/MethodHandle" ∧ x.cls ≠ "java/lang/invoke/VarHandle" ∧ (parseMethodDescriptor x.desc).map (fun d => d.parameters.length) = some n) (hin : Cond.instanceMethod z.1 ∈ lw_all) (hsel : Cond.selects q.1 x z.1 ∈ lw_all) (hn : as.length = n) (hq : mcl[(mT M i).1]? = some q)
    (hs : stk = as.reverse ++ .ref i :: st) (h8 : (st.map fun v => v.category).sum ≤ 8) (ha : a2 + a1 ≤ a) (hb : b2 + b1 ≤ b) (hk : ∀ v M', Q' (.inl v) M' → G X y (d + 1) a2 b2 (pc + 3) L (v.toList ++ st) M' Q) : G X y (d + 1) a b pc L stk M Q := by
  intro p e s m args below meth c H locs cells slots mc ms ls C D
  have hP := gPreV (as := as) C D.1 hq
  have hW8 : 2 * (F0 m pc ls (stk.map (rv X))).monitorRoom + ((st.map (rv X)).map fun v => v.category).sum ≤ 8 := by rw [rv_cats]; show 2 * 0 + _ ≤ 8; omega
  have hcap : cells + a1 ≤ (gR (d + 1) mc ms).cells ∧ slots + b1 ≤ (gR (d + 1) mc ms).slots := ⟨by show cells + a1 ≤ mc; have := D.2.2.2.1; omega, by show slots + b1 ≤ ms; have := D.2.2.2.2.1; omega⟩
  have hMet := hM.met hnt
  obtain ⟨nm, cc, mL, rt, hh⟩ := z
  have h0 : hh = [] := h0
  subst h0
  have hts := C.2.2.2.2.2.2.1
  have hg := hz.good
  have hR := gRoom (z := (nm, cc, mL, rt, [])) (d := d) (a1 := a1) (b1 := b1) (mc := mc) (ms := ms) hz.2.1
  have hdec : va_Decl s ⟨x.cls, x.name, x.desc⟩ := by
    rcases hdc with ⟨bb, mm, rr, h1, h2⟩ | h
    · exact va_Decl.of (hts _ h1) (hts _ h2)
    · exact va_Decl.abs (gNw (gKK C) h rfl)
  have hCU : va_CU (gR (d + 1) mc ms) s args y.1.cls q.1 x.cls idx x nm cc mL rt (mws (nm, cc, mL, rt, [])) (gR d a1 b1) a1 b1 n :=
    ⟨⟨rfl, rfl, hR.1, hR.2, pay_in hts hg, List.mem_cons_self⟩, hts _ hz.1, hts _ hz.2.2.2, ⟨hx1.1, hx1.2.1⟩, fun sig h => by have h2 := hx1.2.2; rw [h] at h2; exact (Option.some.inj h2).symm, hts _ hl, hts _ hsm, hdec, hts _ hsel, hts _ hin⟩
  exact g_contN (a1 := a1) (b1 := b1) C D ha hb (va_runU (gFix C) hMet hCU hP rfl (by rw [List.length_map]; exact hn) D.2.1.1 (gStk hs) hW8 hd hcap) hk
/-- super.m(..) -/
theorem s_callSU {z : MI} {n i idx a1 b1 a2 b2 : Nat} {q : vw_C} {as stk : List Value} {Q' : MR → MM → Prop} (hM : GM X z d a1 b1 (.ref i :: as) M Q') (hnt : ∀ r M', ¬ Q' (.inr r) M') (hd : decode y.2.1 pc = .ok (.invokespecial idx, 3)) (hz : LkZ z n) (h0 : z.2.2.2.2 = []) (hl : Cond.methodLink y.1.cls idx z.1 ∈ lw_all) (hsm : Cond.sameMethod z.1.cls z.1.cls z.1.name z.1.desc ∈ lw_all) (hsu : Cond.superclass y.1.cls z.1.cls ∈ lw_all) (hin : Cond.instanceMethod z.1 ∈ lw_all) (hni : z.1.name ≠ "<init>") (hn : as.length = n) (hq : mcl[(mT M i).1]? = some q)
    (hs : stk = as.reverse ++ .ref i :: st) (h8 : (st.map fun v => v.category).sum ≤ 8) (ha : a2 + a1 ≤ a) (hb : b2 + b1 ≤ b) (hk : ∀ v M', Q' (.inl v) M' → G X y (d + 1) a2 b2 (pc + 3) L (v.toList ++ st) M' Q) : G X y (d + 1) a b pc L stk M Q := by
  intro p e s m args below meth c H locs cells slots mc ms ls C D
  have hP := gPreV (as := as) C D.1 hq
  have hW8 : 2 * (F0 m pc ls (stk.map (rv X))).monitorRoom + ((st.map (rv X)).map fun v => v.category).sum ≤ 8 := by rw [rv_cats]; show 2 * 0 + _ ≤ 8; omega
  have hcap : cells + a1 ≤ (gR (d + 1) mc ms).cells ∧ slots + b1 ≤ (gR (d + 1) mc ms).slots := ⟨by show cells + a1 ≤ mc; have := D.2.2.2.1; omega, by show slots + b1 ≤ ms; have := D.2.2.2.2.1; omega⟩
  have hMet := hM.met hnt
  obtain ⟨nm, cc, mL, rt, hh⟩ := z
  have h0 : hh = [] := h0
  subst h0
  have hts := C.2.2.2.2.2.2.1
  have hg := hz.good
  have hR := gRoom (z := (nm, cc, mL, rt, [])) (d := d) (a1 := a1) (b1 := b1) (mc := mc) (ms := ms) hz.2.1
  obtain ⟨-, hat⟩ := (gKK C).1 _ q hq
  have hCS : va_CS (gR (d + 1) mc ms) s args y.1.cls idx nm cc mL rt (mws (nm, cc, mL, rt, [])) (gR d a1 b1) a1 b1 n :=
    ⟨⟨rfl, rfl, hR.1, hR.2, pay_in hts hg, List.mem_cons_self⟩, hts _ hl, hts _ hsm, hts _ hsu, hts _ hin, hts _ hz.2.2.2, hts _ hz.1, hni, fun sig h => by have h2 := hz.2.2.1.2.2; rw [h] at h2; exact (Option.some.inj h2).symm⟩
  exact g_contN (a1 := a1) (b1 := b1) C D ha hb (va_runSU hat (gFix C) hMet hCS hP rfl (by rw [List.length_map]; exact hn) D.2.1.1 (gStk hs) hW8 hd hcap) hk
/-- 'throw x' -/
theorem s_athrow {i : Nat} {q : vw_C} (hd : decode y.2.1 pc = .ok (.athrow, 1)) (hq : mcl[(mT M i).1]? = some q) (hk : GT X y d a b pc L (.inl i) M Q) : G X y d a b pc L (.ref i :: st) M Q := by
  intro p e s m args below meth c H locs cells slots mc ms ls C D
  obtain ⟨cell, q1, q2, q3, -⟩ := (D.1.2.2.1 i (D.1.lt hq)).1 q hq
  obtain ⟨-, hfc, -⟩ := (gKK C).1 _ q hq
  exact vx_athrow C.1 C.2.1 hd (hk p e s m args below meth c H locs cells slots mc ms ls (st.map (rv X)) (eB X + i) q.1 cell C D q1 q3 (by rw [q2]; exact hfc) ⟨q, rfl, D.1.lt hq, hq, rfl⟩)
/-- not caught here -/
theorem t_out {r : Nat ⊕ Nat} (hout : ∀ x ∈ tableOf y.2.2.2.2, covers x pc = false) (hQ : Q (.inr r) M) : GT X y d a b pc L r M Q := by
  intro p e s m args below meth c H locs cells slots mc ms ls rest q E ce C D h1 h2 h3 h4
  refine vx_out (E := E) (ce := ce) (mc := mc) (ms := ms) (by rw [C.2.2.2.2.2.2.2.2.1]; exact hout) C.2.2.2.1 h1 h2 h3 (fun t ht _ => ⟨M, by rw [ht]; exact D.1, ?_⟩) D.2.2.1 (by have := D.2.2.2.1; omega) (by have := D.2.2.2.2.1; omega)
  cases r with
  | inl i => obtain ⟨w, g1, g2, g3, g4⟩ := h4; exact Or.inl ⟨i, w, g1, g2, g3, g4, hQ⟩
  | inr k => exact Or.inr ⟨k, h4, hQ⟩
/-- caught: an object of the small machine -/
theorem t_catch {i : Nat} {q : vw_C} {name : String} (pre : List ExceptionTableEntry) (x : ExceptionTableEntry) (suf : List ExceptionTableEntry) (hsplit : tableOf y.2.2.2.2 = pre ++ x :: suf) (hpass : ∀ z ∈ pre, covers z pc = false ∨ (z.catchType ≠ 0 ∧ ∃ nm : String, Cond.classLink y.1.cls z.catchType nm ∈ lw_all ∧ (q.1, nm) ∈ mNc)) (hx : covers x pc = true) (h0 : x.catchType ≠ 0)
    (hl : Cond.classLink y.1.cls x.catchType name ∈ lw_all) (hq : mcl[(mT M i).1]? = some q) (hc : Cond.castable q.1 name ∈ lw_tbl) (hk : G X y d a b x.handlerPc L [.ref i] M Q) : GT X y d a b pc L (.inl i) M Q := by
  intro p e s m args below meth c H locs cells slots mc ms ls rest q0 E ce C D h1 h2 h3 h4
  obtain ⟨w, g1, g2, g3, g4⟩ := h4
  cases hq.symm.trans g3
  subst g4
  subst g1
  have hts := C.2.2.2.2.2.2.1
  exact vx_catch C.2.2.2.2.2.1 pre x suf (by rw [C.2.2.2.2.2.2.2.2.1]; exact hsplit) (fun z hz => (hpass z hz).imp (fun h => h) (fun ⟨u1, nm, u2, u3⟩ => ⟨u1, nm, hts _ u2, (gKK C).2.2.2.1 _ u3⟩)) hx h0 (hts _ hl) ((gNw (gKK C) hc rfl).use rfl) h1 h2 h3 (hk p e s m args below meth c H locs cells slots mc ms ls C D)
/-- caught: an exception of the machine's own, which the handler lays away at once -/
theorem t_catchN {k j : Nat} {name : String} (pre : List ExceptionTableEntry) (x : ExceptionTableEntry) (suf : List ExceptionTableEntry) (hsplit : tableOf y.2.2.2.2 = pre ++ x :: suf) (hpass : ∀ z ∈ pre, covers z pc = false ∨ (z.catchType ≠ 0 ∧ ∃ nm : String, Cond.classLink y.1.cls z.catchType nm ∈ lw_all ∧ (mexn k, nm) ∈ mNc)) (hx : covers x pc = true) (h0 : x.catchType ≠ 0)
    (hl : Cond.classLink y.1.cls x.catchType name ∈ lw_all) (hc : Cond.castable (mexn k) name ∈ lw_tbl) {len : Nat} (hd : decode y.2.1 x.handlerPc = .ok (.astore j, 2) ∧ len = 2 ∨ (∃ f : Fin 4, decode y.2.1 x.handlerPc = .ok (.astore_n f, 1) ∧ (f : Nat) = j) ∧ len = 1) (hn : j < y.2.2.1) (hk : G X y d a b (x.handlerPc + len) (stL L j vU) [] M Q) : GT X y d a b pc L (.inr k) M Q := by
  intro p e s m args below meth c H locs cells slots mc ms ls rest q0 E ce C D h1 h2 h3 h4
  subst h4
  have hts := C.2.2.2.2.2.2.1
  have hLR : ∀ ls1 : Array Slot, lv_has ls1 y.2.2.1 ((j, Value.ref q0) :: (lvOf X L).filter (fun q => !(q.1 == j) && !(q.1 + 1 == j && q.2.category == 2))) → LR X y.2.2.1 (stL L j vU) ls1 := by
    intro ls1 hh
    obtain ⟨u1, u2, u3⟩ := hh
    refine ⟨u1, u2, fun k w hk hw => ?_⟩
    by_cases hki : k = j
    · subst hki
      unfold stL at hk
      rw [List.getElem?_set] at hk
      simp only [if_true] at hk
      split at hk
      · cases hk; exact absurd rfl hw
      · cases hk
    · unfold stL at hk
      rw [List.getElem?_set_ne (Ne.symm hki)] at hk
      obtain ⟨v1, v2⟩ := clob_get hk hw
      refine u3 (k, rv X w) (List.mem_cons_of_mem _ (List.mem_filter.mpr ⟨lvOf_mem v1 hw, ?_⟩))
      simp only [rv_cat]
      by_cases hkk : k + 1 = j
      · simp [hki, v2 hkk]
      · simp [hki, hkk]
  have fin : ∀ ls1, lv_has ls1 y.2.2.1 ((j, Value.ref q0) :: (lvOf X L).filter (fun q => !(q.1 == j) && !(q.1 + 1 == j && q.2.category == 2))) → W p (eL X) e (gR d mc ms) s m args below meth c H locs cells slots (gZ X Q below args s mc ms) (F0 m (x.handlerPc + len) ls1 []) := fun ls1 hh => hk p e s m args below meth c H locs cells slots mc ms ls1 C ⟨D.1, hLR ls1 hh, D.2.2⟩
  refine vx_catch C.2.2.2.2.2.1 pre x suf (by rw [C.2.2.2.2.2.2.2.2.1]; exact hsplit) (fun z hz => (hpass z hz).imp (fun h => h) (fun ⟨u1, nm, u2, u3⟩ => ⟨u1, nm, hts _ u2, (gKK C).2.2.2.1 _ u3⟩)) hx h0 (hts _ hl) ((gNw (gKK C) hc rfl).use rfl) h1 h2 h3 ?_
  rcases hd with ⟨hd, rfl⟩ | ⟨⟨f, hd, rfl⟩, rfl⟩
  · exact lv_astore C.1 C.2.1 hd D.2.1.has hn rfl fin
  · exact lv_astore_n C.1 C.2.1 hd rfl D.2.1.has hn rfl fin
end GCALLS
/-- an exact end -/
def ex (v : Option Value) (M' : MM) : MR → MM → Prop := fun r M => r = .inl v ∧ M = M'
theorem ex_nt {v : Option Value} {M' : MM} : ∀ r M, ¬ ex v M' (.inr r) M := fun _ _ h => by cases h.1
theorem ex_k {v : Option Value} {M' : MM} {P : Option Value → MM → Prop} (h : P v M') : ∀ w M, ex v M' (.inl w) M → P w M := fun _ _ g => by obtain ⟨g1, g2⟩ := g; cases g1; subst g2; exact h
theorem ex_x {v : Option Value} {M' : MM} {P : (Nat ⊕ Nat) → MM → Prop} : ∀ r M, ex v M' (.inr r) M → P r M := fun _ _ h => by cases h.1
