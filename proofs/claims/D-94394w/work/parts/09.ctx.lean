/-! WHAT IS KNOWN ALL THROUGH A RUN; the judgement G of a frame, the contract GM of a method -/
set_option maxRecDepth 100000
/-- the String constants: class, entry, text; their signs -/
def mstr : List (String × Nat × String) := [("AskingCourt$Reader", 76, "honest"), ("AskingCourt$Reader", 78, "turns"), ("AskingCourt$Reader", 80, "other"), ("AskingCourt$Reader", 82, "silent"), ("AskingCourt$Reader", 84, "fact"), ("AskingCourt$Reader", 86, "has"), ("AskingCourt$Reader", 88, "never"), ("AskingCourt$Reader", 90, "question"), ("AskingCourt$Reader", 92, "fee"), ("AskingCourt$Reader", 94, "asks"), ("AskingCourt$Reader", 96, "witness"), ("AskingCourt$Reader", 98, "knows"), ("AskingCourt$Reader", 100, "may"), ("AskingCourt$Reader", 102, "hides"), ("AskingCourt$Reader", 104, "or"), ("AskingCourt$Reader", 106, "and"), ("AskingCourt$Reader", 108, "not"), ("AskingCourt$Reader", 110, "ask"), ("AskingCourt$Reader", 112, "best"), ("AskingCourt$Reader", 114, "next"), ("AskingCourt$Reader", 118, "rule"), ("AskingCourt$Reader", 120, "when"), ("AskingCourt$Reader", 122, "sure"), ("AskingCourt$Reader", 124, "yes"), ("AskingCourt$Reader", 126, "no"), ("AskingCourt$Reader", 128, "left"), ("AskingCourt$Reader", 130, "end"), ("AskingCourtModel", 206, " fact never question witness has fee asks knows may hides or and not honest turns other silent ask best next rule when sure yes no left end ")]
def mstrB : List (List Int32) := [[104, 111, 110, 101, 115, 116], [116, 117, 114, 110, 115], [111, 116, 104, 101, 114], [115, 105, 108, 101, 110, 116], [102, 97, 99, 116], [104, 97, 115], [110, 101, 118, 101, 114], [113, 117, 101, 115, 116, 105, 111, 110], [102, 101, 101], [97, 115, 107, 115], [119, 105, 116, 110, 101, 115, 115], [107, 110, 111, 119, 115], [109, 97, 121], [104, 105, 100, 101, 115], [111, 114], [97, 110, 100], [110, 111, 116], [97, 115, 107], [98, 101, 115, 116], [110, 101, 120, 116], [114, 117, 108, 101], [119, 104, 101, 110], [115, 117, 114, 101], [121, 101, 115], [110, 111], [108, 101, 102, 116], [101, 110, 100], [32, 102, 97, 99, 116, 32, 110, 101, 118, 101, 114, 32, 113, 117, 101, 115, 116, 105, 111, 110, 32, 119, 105, 116, 110, 101, 115, 115, 32, 104, 97, 115, 32, 102, 101, 101, 32, 97, 115, 107, 115, 32, 107, 110, 111, 119, 115, 32, 109, 97, 121, 32, 104, 105, 100, 101, 115, 32, 111, 114, 32, 97, 110, 100, 32, 110, 111, 116, 32, 104, 111, 110, 101, 115, 116, 32, 116, 117, 114, 110, 115, 32, 111, 116, 104, 101, 114, 32, 115, 105, 108, 101, 110, 116, 32, 97, 115, 107, 32, 98, 101, 115, 116, 32, 110, 101, 120, 116, 32, 114, 117, 108, 101, 32, 119, 104, 101, 110, 32, 115, 117, 114, 101, 32, 121, 101, 115, 32, 110, 111, 32, 108, 101, 102, 116, 32, 101, 110, 100, 32]]
/-- what no method of this system touches -/
def mOut (X : ME) : Nat → Prop := fun q => eB X ≤ q
def mNw : Cond → Bool
  | .fieldLinkNest _ _ _ _ _ _ => true
  | .methodLinkNest _ _ _ _ => true
  | .castable _ _ => true
  | .declares _ => true
  | _ => false
def mNc : List (String × String) := [("AskingCourt$Refused", "java/lang/NegativeArraySizeException"), ("AskingCourt$Refused", "java/lang/ArrayIndexOutOfBoundsException"), ("AskingCourt$Refused", "java/lang/IndexOutOfBoundsException"), ("[B", "[S"), ("[B", "[I"), ("[S", "[B"), ("[S", "[I"), ("[I", "[B"), ("[I", "[S"), ("[J", "[B"), ("[J", "[S"), ("[J", "[I")]
def mAO : List String := [RX1, RX6, RX11, RX4, RX12]
/-- a String constant's object -/
def mS1 (X : ME) (s : State) (k : Nat) (q : String × Nat × String) : Prop := ∃ ad av : Nat, eS X (1 + k) = some ad ∧ eS X (100 + k) = some av ∧ vk_R q.1 q.2.1 q.2.2 ad s ∧ va_O "java/lang/String" ad (mOut X) s (eH X) ∧ va_OF "java/lang/String" "coder" "B" (.int 0) ad (mOut X) s (eH X) ∧ va_OF "java/lang/String" "value" "[B" (.ref av) ad (mOut X) s (eH X) ∧ va_T .byte av (mstrB.getD k []).length (fun j => .int ((mstrB.getD k []).getD j 0)) (mOut X) s (eH X)
def KK (X : ME) (s : State) : Prop :=
  (∀ (t : Nat) (q : vw_C), mcl[t]? = some q → u_Kn s q.1 q.2.1 q.2.2 ((eD X).1 t) ((eD X).2 t)) ∧
  (∀ (i : Nat) (ty : FieldType), maty[i]? = some ty → ArrOfT s (eC X i) ty ∧ va_RA s (eC X i) ty) ∧
  (∀ w ∈ lw_tbl, mNw w = true → va_Nw w s) ∧
  (∀ q ∈ mNc, va_Nc q.1 q.2 s) ∧
  (∀ C ∈ mAO, va_AO C s) ∧
  (eB X = (eH X).size ∧ (eL X).stackTraces = false) ∧
  (vx_Zq Bundle.tN "UNASSIGNED_STACK" Bundle.steD (mOut X) s (eH X) ∧ vx_Zq Bundle.tN "SUPPRESSED_SENTINEL" Bundle.listD (mOut X) s (eH X)) ∧
  (va_Z Bundle.tN "UNASSIGNED_STACK" Bundle.steD (va_rf (eS X 40)) (mOut X) s (eH X) ∧ va_Z Bundle.tN "SUPPRESSED_SENTINEL" Bundle.listD (va_rf (eS X 41)) (mOut X) s (eH X) ∧ va_Z "java/lang/String" "COMPACT_STRINGS" "Z" (.int 1) (mOut X) s (eH X) ∧ va_Z "jdk/internal/util/Preconditions" "SIOOBE_FORMATTER" "Ljava/util/function/BiFunction;" (va_rf (eS X 42)) (mOut X) s (eH X)) ∧
  (∀ (k : Nat) (q : String × Nat × String), mstr[k]? = some q → mS1 X s k q) ∧
  (∃ b : Nat, eS X 0 = some b ∧ b < eB X ∧ va_X b (eN X) (eX X) s (eH X))
theorem KK.warm {X : ME} {s U : State} (h : KK X s) (hW : s.WarmedH U.vm) : KK X U := by
  have hvm : s.vm.Alike U.vm := hW.alike
  obtain ⟨h1, h2, h3, h4, h5, h6, h7, h8, h9, b, hb1, hb2, hb3⟩ := h
  refine ⟨fun t q hq => u_Kn_moved hvm (h1 t q hq), fun i ty hi => ⟨arrOfT_moved hvm (h2 i ty hi).1, (h2 i ty hi).2.moved hvm⟩, fun w hw hn => ?_, fun q hq => (h4 q hq).moved hvm, fun C hC => (h5 C hC).moved hvm, h6,
    ⟨vx_Zq.moved hvm h7.1, vx_Zq.moved hvm h7.2⟩, ⟨va_Z.moved hvm h8.1, va_Z.moved hvm h8.2.1, va_Z.moved hvm h8.2.2.1, va_Z.moved hvm h8.2.2.2⟩, fun k q hq => ?_, b, hb1, hb2, va_X.moved hvm hb3⟩
  · have hz := h3 w hw hn
    cases w <;> first | exact (Bool.noConfusion hn) | exact va_Nw.warmF hW hz | exact va_Nw.warmM hW hz | exact va_Nw.warmC hW hz | exact va_Nw.warmD hW hz
  · obtain ⟨ad, av, e0, e00, e1, e2, e3, e4, e5⟩ := h9 k q hq
    exact ⟨ad, av, e0, e00, e1.warm hW, va_O.moved hvm e2, va_OF.moved hvm e3, va_OF.moved hvm e4, va_T.moved hvm e5⟩
/-- a method: its name, code, locals, answer, handlers -/
abbrev MI : Type := MethodName × ByteArray × Nat × Option FieldType × List (Nat × Nat × Nat × Nat)
def mws : MI → List Cond
  | (n, c, L, r, []) => ws_ n c L r
  | (n, c, L, r, h :: t) => wsW_ n c L r (h :: t)
abbrev vU : Value := .float 0
def LR (X : ME) (nL : Nat) (L : List Value) (ls : Array Slot) : Prop := ls.size = nL ∧ lv_wf ls ∧ ∀ (i : Nat) (v : Value), L[i]? = some v → v ≠ vU → ls[i]? = some (Slot.val (rv X v))
/-- how a method ends: with an answer (or none), with a thrown object of the small machine, with an exception of the machine's own -/
abbrev MR : Type := Option Value ⊕ (Nat ⊕ Nat)
def mexn : Nat → String
  | 0 => "java/lang/ArrayIndexOutOfBoundsException"
  | _ => "java/lang/NegativeArraySizeException"
def gQ (X : ME) (Q : MR → MM → Prop) : Array Value → State → Outcome → State → Prop := fun _ _ o t => ∃ (v : Option Value) (M : MM), o = .returned (v.map (rv X)) ∧ HR X M t.heap ∧ Q (.inl v) M
def gX (X : ME) (Q : MR → MM → Prop) : Addr → String → State → State → Prop := fun q E _ t => ∃ M : MM, HR X M t.heap ∧ ((∃ (c : Nat) (r : vw_C), q = eB X + c ∧ c < mN M ∧ mcl[(mT M c).1]? = some r ∧ r.1 = E ∧ Q (.inr (.inl c)) M) ∨ ∃ k : Nat, E = mexn k ∧ Q (.inr (.inr k)) M)
def gR (d mc ms : Nat) : Room := { frames := d, cells := mc, slots := ms, locals := 10300 + 64 * d }
def gZ (X : ME) (Q : MR → MM → Prop) (below : List Frame) (args : Array Value) (s : State) (mc ms : Nat) : State → Prop := vx_MQ below (gQ X Q) (gX X Q) args s mc ms (mOut X)
def GCtx (X : ME) (y : MI) (p : Program) (s : State) (m : MethodId) (args : Array Value) (meth : Method) (c : Code) : Prop :=
  p.tables.exec = Jvm.exec ∧ c.code = y.2.1 ∧ meth.sig.returnType = y.2.2.2.1 ∧ meth.locks = false ∧ c.maxLocals = y.2.2.1 ∧ s.vm.findClass y.1.cls = some m.cls ∧ (∀ w ∈ lw_all, w.before args s = true) ∧ meth.name = y.1.name ∧ c.exceptionTable.toList = tableOf y.2.2.2.2 ∧ KK X s ∧ eB X ≤ s.heap.size ∧ ∀ q, q < eB X → s.heap[q]? = (eH X)[q]?
def GDyn (X : ME) (y : MI) (a b : Nat) (L : List Value) (M : MM) (s : State) (H : Heap) (locs : List Loc) (cells slots mc ms : Nat) (ls : Array Slot) : Prop :=
  HR X M H ∧ LR X y.2.2.1 L ls ∧ (∀ z ∈ locs, mOut X z.base) ∧ cells + a ≤ mc ∧ slots + b ≤ ms ∧ s.heap.size ≤ H.size
/-- from pc with locals L, stack st, memory M (at most d frames, a new cells, b new places from here on) the method ends as Q says -/
def G (X : ME) (y : MI) (d a b pc : Nat) (L st : List Value) (M : MM) (Q : MR → MM → Prop) : Prop :=
  ∀ (p : Program) (e : Env) (s : State) (m : MethodId) (args : Array Value) (below : List Frame) (meth : Method) (c : Code) (H : Heap) (locs : List Loc) (cells slots mc ms : Nat) (ls : Array Slot),
    GCtx X y p s m args meth c → GDyn X y a b L M s H locs cells slots mc ms ls →
    W p (eL X) e (gR d mc ms) s m args below meth c H locs cells slots (gZ X Q below args s mc ms) (F0 m pc ls (st.map (rv X)))
/-- the same, with a thrown object over the frame -/
def GT (X : ME) (y : MI) (d a b pc : Nat) (L : List Value) (r : Nat ⊕ Nat) (M : MM) (Q : MR → MM → Prop) : Prop :=
  ∀ (p : Program) (e : Env) (s : State) (m : MethodId) (args : Array Value) (below : List Frame) (meth : Method) (c : Code) (H : Heap) (locs : List Loc) (cells slots mc ms : Nat) (ls : Array Slot) (rest : List Value) (q : Addr) (E : String) (ce : Cell),
    GCtx X y p s m args meth c → GDyn X y a b L M s H locs cells slots mc ms ls → H[q]? = some ce → ce.vm = .none → s.vm.findClass E = some ce.cls →
    (match r with | .inl i => ∃ w : vw_C, q = eB X + i ∧ i < mN M ∧ mcl[(mT M i).1]? = some w ∧ w.1 = E | .inr k => E = mexn k) →
    vx_W p (eL X) e (gR d mc ms) s m args below meth c H locs cells slots (gZ X Q below args s mc ms) (F0 m pc ls rest) q
/-- a method's contract -/
def GM (X : ME) (y : MI) (d a b : Nat) (as : List Value) (M : MM) (Q : MR → MM → Prop) : Prop :=
  vx_Met (eL X) y.1 (mws y) (gR d a b) (va_Pc (as.map (rv X)) (fun U => HR X M U.heap ∧ KK X U)) (gQ X Q) (gX X Q) a b (mOut X)
def entA : List Value → List Value
  | [] => []
  | v :: r => if v.category = 2 then v :: vU :: entA r else v :: entA r
def entL (n : Nat) (as : List Value) : List Value := entA as ++ List.replicate (n - (entA as).length) vU
theorem rf_of (U : State) : U.WarmedH U.vm := State.WarmedH.refl U
theorem gPc_blind {X : ME} {as : List Value} {M : MM} : FrameBlind (va_Pc (as.map (rv X)) (fun U => HR X M U.heap ∧ KK X U)) := fun a U g mk h => ⟨h.1, h.2.1, h.2.2.warm (U := U.calling g mk a) (rf_of U)⟩
theorem lg_len (X : ME) : ∀ as : List Value, (lg_sl (as.map (rv X))).length = (entA as).length := by
  intro as
  induction as with
  | nil => rfl
  | cons v r ih =>
    simp only [List.map_cons, entA]
    by_cases hc : v.category = 2
    · simp [lg_sl, rv_cat, hc] at ih ⊢; omega
    · simp [lg_sl, rv_cat, hc] at ih ⊢; omega
theorem lv_args_ent (X : ME) : ∀ (as : List Value) (n i : Nat) (v : Value), (entA as)[i]? = some v → v ≠ vU → (n + i, rv X v) ∈ lv_args n (as.map (rv X)) := by
  intro as
  induction as with
  | nil => intro n i v h; simp [entA] at h
  | cons w r ih =>
    intro n i v h hv
    unfold entA at h
    by_cases hc : w.category = 2
    · rw [if_pos hc] at h
      match i, h with
      | 0, h => cases h; simp [lv_args]
      | 1, h => cases h; exact absurd rfl hv
      | k + 2, h =>
        have h' : (entA r)[k]? = some v := by simpa using h
        have := ih (n + 2) k v h' hv
        simp only [List.map_cons, lv_args, rv_cat, hc, if_true]
        exact List.mem_cons_of_mem _ (by rw [show n + (k + 2) = n + 2 + k by omega]; exact this)
    · rw [if_neg hc] at h
      match i, h with
      | 0, h => cases h; simp [lv_args]
      | k + 1, h =>
        have h' : (entA r)[k]? = some v := by simpa using h
        have := ih (n + 1) k v h' hv
        simp only [List.map_cons, lv_args, rv_cat, hc, if_false]
        exact List.mem_cons_of_mem _ (by rw [show n + (k + 1) = n + 1 + k by omega]; exact this)
theorem LR.entry {X : ME} {as : List Value} {n : Nat} (h : (entA as).length ≤ n) : LR X n (entL n as) ((lg_sl (as.map (rv X)) ++ List.replicate (n - (lg_sl (as.map (rv X))).length) Slot.unset).toArray) := by
  obtain ⟨h1, h2, h3⟩ := lv_entry (as.map (rv X)) (n := n) (by rw [lg_len]; exact h)
  refine ⟨h1, h2, fun i v hi hv => ?_⟩
  unfold entL at hi
  by_cases hl : i < (entA as).length
  · rw [List.getElem?_append_left hl] at hi
    have := h3 _ (lv_args_ent X as 0 i v hi hv)
    simpa using this
  · rw [List.getElem?_append_right (by omega)] at hi
    have := List.mem_of_getElem? hi
    exact absurd (List.eq_of_mem_replicate this) hv
theorem G.met {X : ME} {y : MI} {d a b : Nat} {as : List Value} {M : MM} {Q : MR → MM → Prop} (hy : plainName y.1.cls = true) (hl : (entA as).length ≤ y.2.2.1) (h : G X y d a b 0 (entL y.2.2.1 as) [] M Q) : GM X y d a b as M Q := by
  obtain ⟨n, cc, mL, rt, hh⟩ := y
  have body : ∀ p e s m args below meth c s₁, BodyLoose p (eL X) n (headSpec (mws (n, cc, mL, rt, hh)) (gR d a b)) cc mL rt e s m args below meth c s₁ → c.maxLocals = mL → c.exceptionTable.toList = tableOf hh → va_Pc (as.map (rv X)) (fun U => HR X M U.heap ∧ KK X U) args s →
      W p (eL X) e (headSpec (mws (n, cc, mL, rt, hh)) (gR d a b)).room s m args below meth c s.heap [] 0 0 (vx_MQ below (gQ X Q) (gX X Q) args s a b (mOut X)) (entryFrame m args mL) := by
    intro p e s m args below meth c s₁ B hml ht hP
    obtain ⟨rfl, hR, hK⟩ := hP
    rw [lg_entry_eq]
    have hts : ∀ w ∈ lw_all, w.before ((as.map (rv X)).toArray) s = true := by
      have h0 := atoms_spec (ws := mws (n, cc, mL, rt, hh)) B.pre
      intro w hw
      cases hh with
      | nil => exact h0 w (List.mem_cons_of_mem _ hw)
      | cons x t => exact h0 w (List.mem_cons_of_mem _ hw)
    exact h p e s m _ below meth c s.heap [] 0 0 a b _ ⟨B.exec, B.bytes, B.returns, B.notSynchronized, hml, findClass_of_methodNamed B.named, hts, (name_of_methodNamed B.named B.method).1, ht, hK, by rw [hR.1]; omega, hR.2.1⟩
      ⟨hR, LR.entry hl, fun z hz => absurd hz List.not_mem_nil, by omega, by omega, Nat.le_refl _⟩
  unfold GM
  cases hh with
  | nil => exact vx_ofW (cc := cc) (maxL := mL) (ret := rt) hy rfl (fun p e s m args below meth c s₁ B hml ht hP => body p e s m args below meth c s₁ B hml (by
      show c.exceptionTable.toList = []
      cases hc : c.exceptionTable.toList with
      | nil => rfl
      | cons x t => exact (ht x (by rw [hc]; exact List.mem_cons_self)).elim) hP)
  | cons x t => exact vx_ofWH (cc := cc) (maxL := mL) (ret := rt) (hh := x :: t) hy rfl (fun p e s m args below meth c s₁ B hml hP => body p e s m args below meth c s₁ B hml (vx_table (x := n) B (atoms_spec (ws := mws (n, cc, mL, rt, x :: t)) B.pre _ List.mem_cons_self)) hP)
