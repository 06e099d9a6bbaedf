/-! ROWS of the small machine: the heap, what is made, the ends of a method -/
set_option maxRecDepth 100000
/-- a field's link word, in the class own at the entry idx: place k of the class t -/
def LkF (own : String) (idx t k : Nat) : Prop := ∃ q : vw_C, mcl[t]? = some q ∧ k < q.2.2 ∧ (Cond.fieldLink own idx (q.2.1 k).1 (q.2.1 k).2.1 (q.2.1 k).2.2.1 ∈ lw_all ∨ ∃ host : String, Cond.fieldLinkNest own idx (q.2.1 k).1 (q.2.1 k).2.1 (q.2.1 k).2.2.1 host ∈ lw_tbl)
/-- .. and it isn't final -/
def LkW (own : String) (idx t k : Nat) : Prop := ∃ q : vw_C, mcl[t]? = some q ∧ k < q.2.2 ∧ (q.2.1 k).2.2.2 = false ∧ (Cond.fieldLink own idx (q.2.1 k).1 (q.2.1 k).2.1 (q.2.1 k).2.2.1 ∈ lw_all ∨ ∃ host : String, Cond.fieldLinkNest own idx (q.2.1 k).1 (q.2.1 k).2.1 (q.2.1 k).2.2.1 host ∈ lw_tbl)
/-- .. a final one, of the class itself -/
def LkI (own : String) (idx t k : Nat) : Prop := ∃ q : vw_C, mcl[t]? = some q ∧ k < q.2.2 ∧ (q.2.1 k).2.2.2 = true ∧ (q.2.1 k).1 = own ∧ Cond.fieldLink own idx (q.2.1 k).1 (q.2.1 k).2.1 (q.2.1 k).2.2.1 ∈ lw_all
/-- a class to be made: t, of N places -/
def LkC (own : String) (idx t N : Nat) : Prop := ∃ q : vw_C, mcl[t]? = some q ∧ q.2.2 = N ∧ Cond.classLink own idx q.1 ∈ lw_all ∧ Cond.instantiable q.1 q.2.2 ∈ lw_all ∧ Cond.initialized q.1 ∈ lw_all
/-- an array of references to be made -/
def LkA (own : String) (idx i : Nat) : Prop := ∃ C : String, maty[i]? = some (.object C) ∧ Cond.classLink own idx C ∈ lw_all ∧ C ∈ mAO
section GHEAP
variable {X : ME} {y : MI} {d a b pc : Nat} {L st : List Value} {M : MM} {Q : MR → MM → Prop}
theorem gS {X : ME} {y : MI} {p : Program} {s : State} {m : MethodId} {args : Array Value} {meth : Method} {c : Code} {a b : Nat} {L : List Value} {M : MM} {H : Heap} {locs : List Loc} {cells slots mc ms : Nat} {ls : Array Slot} (C : GCtx X y p s m args meth c) (D : GDyn X y a b L M s H locs cells slots mc ms ls) : va_S (mOut X) s.heap H locs :=
  ⟨D.2.2.2.2.2, fun q _ h2 => by
    have hlt : q < eB X := Nat.not_le.mp h2
    rw [D.1.2.1 q hlt, C.2.2.2.2.2.2.2.2.2.2.2 q hlt], D.2.2.1⟩
theorem gKK {X : ME} {y : MI} {p : Program} {s : State} {m : MethodId} {args : Array Value} {meth : Method} {c : Code} (C : GCtx X y p s m args meth c) : KK X s := C.2.2.2.2.2.2.2.2.2.1
theorem gNw {X : ME} {s : State} (h : KK X s) {w : Cond} (hw : w ∈ lw_tbl) (hn : mNw w = true) : va_Nw w s := h.2.2.1 w hw hn
/-- the heap below the base, as at the claim's start -/
theorem gH0 {X : ME} {y : MI} {p : Program} {s : State} {m : MethodId} {args : Array Value} {meth : Method} {c : Code} (C : GCtx X y p s m args meth c) : ∀ q : Nat, q < (eH X).size → ¬ mOut X q → s.heap[q]? = (eH X)[q]? := fun q hq _ => C.2.2.2.2.2.2.2.2.2.2.2 q (by rw [(gKK C).2.2.2.2.2.1.1]; exact hq)
theorem g_get {i t k idx : Nat} {v : Value} (hd : decode y.2.1 pc = .ok (.getfield idx, 3)) (hf : LkF y.1.cls idx t k) (hT : (mT M i).1 = t) (hv : fval M i k (mty t k) = v) (kk : G X y d a b (pc + 3) L (v :: st) M Q) : G X y d a b pc L (.ref i :: st) M Q := by
  intro p e s m args below meth c H locs cells slots mc ms ls C D
  obtain ⟨q, hq, hk, hl⟩ := hf
  have hK := gKK C
  have hi := D.1.lt (c := i) (by rw [hT]; exact hq)
  obtain ⟨cell, q1, q2, q3, q4⟩ := (D.1.2.2.1 i hi).1 q (by rw [hT]; exact hq)
  rw [hT] at q2 q4
  obtain ⟨hS, hfc, kC, hkC, hkind⟩ := hK.1 t _ hq
  obtain ⟨cf, kf, fi, f, hfi, hsl⟩ := hS k hk
  have hst := (u_facts hfc hkC (u_lays C.2.2.2.2.2.2.1 (mcl_in t q hq) hk) hfi).1
  have hslot : cell.slots[f.slot]? = some (rv X v) := by
    rw [hsl, q4 k hk]
    show some (rv X (fval M i k (mty t k))) = _
    rw [hv]
  have hkn : cell.vm ≠ .unknown := by rw [q3]; exact fun h => by cases h
  have w := kk p e s m args below meth c H locs cells slots mc ms ls C D
  rcases hl with hl | ⟨host, hl⟩
  · exact W.getf C.1 C.2.1 C.2.2.2.2.2.1 (C.2.2.2.2.2.2.1 _ hl) hfi hst q1 hkn hslot rfl rfl hd w
  · exact va_Wgetf C.1 C.2.1 C.2.2.2.2.2.1 ((gNw hK hl rfl).use rfl) hfi hst q1 hkn hslot rfl rfl hd w
theorem s_getI {i t k idx : Nat} (hd : decode y.2.1 pc = .ok (.getfield idx, 3)) (hf : LkF y.1.cls idx t k) (hT : (mT M i).1 = t) (hy : kd (mty t k) = 0) (kk : G X y d a b (pc + 3) L (.int (mA M i k) :: st) M Q) : G X y d a b pc L (.ref i :: st) M Q := g_get hd hf hT (fval_A hy) kk
theorem s_getJ {i t k idx : Nat} (hd : decode y.2.1 pc = .ok (.getfield idx, 3)) (hf : LkF y.1.cls idx t k) (hT : (mT M i).1 = t) (hy : kd (mty t k) = 1) (kk : G X y d a b (pc + 3) L (.long (mJ M i k) :: st) M Q) : G X y d a b pc L (.ref i :: st) M Q := g_get hd hf hT (fval_J hy) kk
theorem s_getV {i t k idx : Nat} {v : Value} (hd : decode y.2.1 pc = .ok (.getfield idx, 3)) (hf : LkF y.1.cls idx t k) (hT : (mT M i).1 = t) (hy : kd (mty t k) = 2) (hv : mV M i k = v) (kk : G X y d a b (pc + 3) L (v :: st) M Q) : G X y d a b pc L (.ref i :: st) M Q := g_get hd hf hT ((fval_V hy).trans hv) kk
theorem g_put {i t k idx : Nat} {v : Value} {M1 : MM} (hd : decode y.2.1 pc = .ok (.putfield idx, 3)) (hf : LkW y.1.cls idx t k ∨ (LkI y.1.cls idx t k ∧ y.1.name = "<init>")) (hT : (mT M i).1 = t) (hn : ∀ X : ME, narrow (mty t k) (rv X v) = rv X v) (hfit : ∀ X : ME, fits (mty t k) (rv X v) = true)
    (e1 : mN M1 = mN M) (e2 : mT M1 = mT M) (e3 : fval M1 i k (mty t k) = v) (e4 : ∀ c' k' ty, (c' ≠ i ∨ k' ≠ k) → fval M1 c' k' ty = fval M c' k' ty) (kk : G X y d a b (pc + 3) L st M1 Q) : G X y d a b pc L (v :: .ref i :: st) M Q := by
  intro p e s m args below meth c H locs cells slots mc ms ls C D
  have hK := gKK C
  obtain ⟨q, hq, hk⟩ : ∃ q : vw_C, mcl[t]? = some q ∧ k < q.2.2 := by
    rcases hf with ⟨q, h1, h2, -⟩ | ⟨⟨q, h1, h2, -⟩, -⟩ <;> exact ⟨q, h1, h2⟩
  have hi := D.1.lt (c := i) (by rw [hT]; exact hq)
  obtain ⟨cell, q1, q2, q3, q4⟩ := (D.1.2.2.1 i hi).1 q (by rw [hT]; exact hq)
  rw [hT] at q2 q4
  obtain ⟨hS, hfc, kC, hkC, hkind⟩ := hK.1 t _ hq
  obtain ⟨cf, kf, fi, f, hfi, hsl⟩ := hS k hk
  have hts := C.2.2.2.2.2.2.1
  have hst := (u_facts hfc hkC (u_lays hts (mcl_in t q hq) hk) hfi).1
  have hap : ∀ x z, x < q.2.2 → z < q.2.2 → x ≠ z → (eD X).2 t x ≠ (eD X).2 t z := by
    intro x z hx hz hne
    obtain ⟨_, _, _, fa, hia, ea⟩ := hS x hx
    obtain ⟨_, _, _, fb, hib, eb⟩ := hS z hz
    rw [← ea, ← eb]
    refine u_apart (u_lays hts (mcl_in t q hq) hx) (u_lays hts (mcl_in t q hq) hz) hia hib ?_
    rw [(State.fieldFound?_type hia (mcl_ty t q hq x hx)).1, (State.fieldFound?_type hib (mcl_ty t q hq z hz)).1]
    exact mcl_nm t q hq x hx z hz hne
  have hlt : f.slot < cell.slots.size := by rw [hsl]; exact k2_hasslot (q4 k hk)
  have fin : ∀ H' : Heap, H'[eB X + i]? = some (cell.setSlot f.slot (rv X v)) → H'.size = H.size → (∀ z, z ≠ eB X + i → H'[z]? = H[z]?) → W p (eL X) e (gR d mc ms) s m args below meth c H' (locs ++ [⟨eB X + i, f.slot⟩]) cells slots (gZ X Q below args s mc ms) (F0 m (pc + 3) ls (st.map (rv X))) := by
    intro H' f1 f2 f3
    rw [hsl] at f1
    refine kk p e s m args below meth c H' _ cells slots mc ms ls C ⟨D.1.put hi hT hq hk hap q1 f1 f2 f3 e1 e2 e3 e4, D.2.1, fun z hz => ?_, D.2.2.2.1, D.2.2.2.2.1, by rw [f2]; exact D.2.2.2.2.2⟩
    rcases List.mem_append.mp hz with h | h
    · exact D.2.2.1 z h
    · rw [List.mem_singleton.mp h]; exact Nat.le_add_right _ _
  rcases hf with ⟨q', h1, -, hfin, hl⟩ | ⟨⟨q', h1, -, hfin, hown, hl⟩, hin⟩
  · cases hq.symm.trans h1
    have hlay := hts _ (mcl_in t q hq _ (u_in_lay hk))
    unfold u_lay at hlay
    rw [if_neg (by rw [hfin]; decide)] at hlay
    have h6 := u_store hfc hkC hkind hlay hfi (mcl_ty t q hq k hk) (hn X) (hfit X)
    rcases hl with hl | ⟨host, hl⟩
    · exact W.putK C.1 C.2.1 (f := f) ⟨C.2.2.2.2.2.1, hts _ hl, ⟨_, _, _, hfi⟩, hst⟩ (by rw [q2]; exact h6) q1 q3 hlt rfl rfl hd fin
    · exact va_WputK C.1 C.2.1 (f := f) C.2.2.2.2.2.1 ((gNw hK hl rfl).use rfl) hfi hst (by rw [q2]; exact h6) q1 q3 hlt rfl rfl hd fin
  · cases hq.symm.trans h1
    have hlay := hts _ (mcl_in t q hq _ (u_in_lay hk))
    unfold u_lay at hlay
    rw [if_pos hfin] at hlay
    have hcf : m.cls = cf := by
      obtain ⟨_, _, c', _, _, _, -, -, hf', -, -, -, hown2, -⟩ := Cond.laysFinal_spec hlay
      have e1 : c' = cf := by have := hfi.symm.trans hf'; simp at this; exact this.1.symm
      rw [hown] at hown2
      rw [← e1]; exact Option.some.inj (C.2.2.2.2.2.1.symm.trans hown2)
    have h6 := u_fits hfc hkC hkind (Or.inr hlay) hfi (mcl_ty t q hq k hk) (hn X) (hfit X)
    exact W.putFinK C.1 C.2.1 C.2.2.2.2.2.1 (hts _ hl) hfi hst hcf (C.2.2.2.2.2.2.2.1.trans hin) (by rw [q2]; exact h6) q1 q3 hlt rfl rfl hd fin
theorem s_putI {i t k idx : Nat} {x : Int32} (hd : decode y.2.1 pc = .ok (.putfield idx, 3)) (hf : LkW y.1.cls idx t k ∨ (LkI y.1.cls idx t k ∧ y.1.name = "<init>")) (hT : (mT M i).1 = t) (hy : mty t k = .int) (kk : G X y d a b (pc + 3) L st (sA M i k x) Q) : G X y d a b pc L (.int x :: .ref i :: st) M Q := g_put (M1 := sA M i k x) hd hf hT (fun _ => by rw [hy]; rfl) (fun _ => by rw [hy]; rfl) rfl rfl (by rw [hy]; exact congrArg Value.int (up2_s _ _ _ _)) fv_sA kk
theorem s_putZ {i t k idx : Nat} {x : Int32} (hd : decode y.2.1 pc = .ok (.putfield idx, 3)) (hf : LkW y.1.cls idx t k ∨ (LkI y.1.cls idx t k ∧ y.1.name = "<init>")) (hT : (mT M i).1 = t) (hy : mty t k = .boolean) (hx : x = 0 ∨ x = 1) (kk : G X y d a b (pc + 3) L st (sA M i k x) Q) : G X y d a b pc L (.int x :: .ref i :: st) M Q := g_put (M1 := sA M i k x) hd hf hT (fun _ => by rw [hy]; rcases hx with rfl | rfl <;> rfl) (fun _ => by rw [hy]; rcases hx with rfl | rfl <;> rfl) rfl rfl (by rw [hy]; exact congrArg Value.int (up2_s _ _ _ _)) fv_sA kk
theorem s_putJ {i t k idx : Nat} {x : Int64} (hd : decode y.2.1 pc = .ok (.putfield idx, 3)) (hf : LkW y.1.cls idx t k ∨ (LkI y.1.cls idx t k ∧ y.1.name = "<init>")) (hT : (mT M i).1 = t) (hy : mty t k = .long) (kk : G X y d a b (pc + 3) L st (sJ M i k x) Q) : G X y d a b pc L (.long x :: .ref i :: st) M Q := g_put (M1 := sJ M i k x) hd hf hT (fun _ => by rw [hy]; rfl) (fun _ => by rw [hy]; rfl) rfl rfl (by rw [hy]; exact congrArg Value.long (up2_s _ _ _ _)) fv_sJ kk
theorem nar_R {X : ME} {ty : FieldType} {v : Value} (h : kd ty = 2) (hv : isR v) : narrow ty (rv X v) = rv X v ∧ fits ty (rv X v) = true := by
  obtain ⟨r, hr⟩ := hv.of (X := X)
  rw [hr]
  cases ty <;> first | (cases h; done) | (cases r <;> exact ⟨rfl, rfl⟩)
theorem s_putV {i t k idx : Nat} {v : Value} (hd : decode y.2.1 pc = .ok (.putfield idx, 3)) (hf : LkW y.1.cls idx t k ∨ (LkI y.1.cls idx t k ∧ y.1.name = "<init>")) (hT : (mT M i).1 = t) (hy : kd (mty t k) = 2) (hv : isR v) (kk : G X y d a b (pc + 3) L st (sV M i k v) Q) : G X y d a b pc L (v :: .ref i :: st) M Q := g_put (M1 := sV M i k v) hd hf hT (fun _ => (nar_R hy hv).1) (fun _ => (nar_R hy hv).2) rfl rfl ((fval_V hy).trans (up2_s _ _ _ _)) fv_sV kk
theorem nI_bd {j n : Nat} (h1 : j < n) (h2 : n < 2147483648) : ¬ (nI j < 0 ∨ n ≤ (nI j).toNatClampNeg) ∧ (nI j).toNatClampNeg = j := ⟨nI_in h1 h2, nI_clamp (Nat.lt_trans h1 h2)⟩
theorem s_iald {i j n : Nat} {x : Int32} (hd : decode y.2.1 pc = .ok (.iaload, 1)) (hT : mT M i = (34, n)) (hx : x = nI j) (hj : j < n) (hn : n < 2147483648) (kk : G X y d a b (pc + 1) L (.int (mA M i j) :: st) M Q) : G X y d a b pc L (.int x :: .ref i :: st) M Q := by
  subst hx
  intro p e s m args below meth c H locs cells slots mc ms ls C D
  have hty : maty[2]? = some .int := rfl
  have h0 : (mT M i).1 = 32 + 2 := by rw [hT]
  have hi := D.1.ltA h0 hty
  have hc := (D.1.2.2.1 i hi).2 2 _ h0 hty
  obtain ⟨g1, g2⟩ := nI_bd hj hn
  have hn2 : (mT M i).2 = n := by rw [hT]
  exact W.iald C.1 C.2.1 hc (((gKK C).2.1 2 _ hty).1 _ _) (fun h => by cases h) (by rw [arrV_size, hn2]; exact g1) (by rw [g2, arrV_read _ _ (by rw [hn2]; exact hj)]; rfl) rfl rfl hd (kk p e s m args below meth c H locs cells slots mc ms ls C D)
theorem s_bald {i j n : Nat} {x : Int32} (hd : decode y.2.1 pc = .ok (.baload, 1)) (hT : mT M i = (32, n)) (hx : x = nI j) (hj : j < n) (hn : n < 2147483648) (kk : G X y d a b (pc + 1) L (.int (mA M i j) :: st) M Q) : G X y d a b pc L (.int x :: .ref i :: st) M Q := by
  subst hx
  intro p e s m args below meth c H locs cells slots mc ms ls C D
  have hty : maty[0]? = some .byte := rfl
  have h0 : (mT M i).1 = 32 + 0 := by rw [hT]
  have hi := D.1.ltA h0 hty
  have hc := (D.1.2.2.1 i hi).2 0 _ h0 hty
  obtain ⟨g1, g2⟩ := nI_bd hj hn
  have hn2 : (mT M i).2 = n := by rw [hT]
  exact W.bald C.1 C.2.1 hc (((gKK C).2.1 0 _ hty).1 _ _) (fun h => by cases h) (by rw [arrV_size, hn2]; exact g1) (by rw [g2, arrV_read _ _ (by rw [hn2]; exact hj)]; rfl) rfl rfl hd (kk p e s m args below meth c H locs cells slots mc ms ls C D)
theorem s_sald {i j n : Nat} {x : Int32} (hd : decode y.2.1 pc = .ok (.saload, 1)) (hT : mT M i = (33, n)) (hx : x = nI j) (hj : j < n) (hn : n < 2147483648) (kk : G X y d a b (pc + 1) L (.int (mA M i j) :: st) M Q) : G X y d a b pc L (.int x :: .ref i :: st) M Q := by
  subst hx
  intro p e s m args below meth c H locs cells slots mc ms ls C D
  have hty : maty[1]? = some .short := rfl
  have h0 : (mT M i).1 = 32 + 1 := by rw [hT]
  have hi := D.1.ltA h0 hty
  have hc := (D.1.2.2.1 i hi).2 1 _ h0 hty
  obtain ⟨g1, g2⟩ := nI_bd hj hn
  have hn2 : (mT M i).2 = n := by rw [hT]
  exact W.sald C.1 C.2.1 hc (((gKK C).2.1 1 _ hty).1 _ _) (fun h => by cases h) (by rw [arrV_size, hn2]; exact g1) (by rw [g2, arrV_read _ _ (by rw [hn2]; exact hj)]; rfl) rfl rfl hd (kk p e s m args below meth c H locs cells slots mc ms ls C D)
theorem s_zald {i j n : Nat} {x : Int32} (hd : decode y.2.1 pc = .ok (.baload, 1)) (hT : mT M i = (36, n)) (hx : x = nI j) (hj : j < n) (hn : n < 2147483648) (kk : G X y d a b (pc + 1) L (.int (mA M i j) :: st) M Q) : G X y d a b pc L (.int x :: .ref i :: st) M Q := by
  subst hx
  intro p e s m args below meth c H locs cells slots mc ms ls C D
  have hty : maty[4]? = some .boolean := rfl
  have h0 : (mT M i).1 = 32 + 4 := by rw [hT]
  have hi := D.1.ltA h0 hty
  have hc := (D.1.2.2.1 i hi).2 4 _ h0 hty
  obtain ⟨g1, g2⟩ := nI_bd hj hn
  have hn2 : (mT M i).2 = n := by rw [hT]
  exact W.zald C.1 C.2.1 hc (((gKK C).2.1 4 _ hty).1 _ _) (fun h => by cases h) (by rw [arrV_size, hn2]; exact g1) (by rw [g2, arrV_read _ _ (by rw [hn2]; exact hj)]; rfl) rfl rfl hd (kk p e s m args below meth c H locs cells slots mc ms ls C D)
theorem s_lald {i j n : Nat} {x : Int32} (hd : decode y.2.1 pc = .ok (.laload, 1)) (hT : mT M i = (35, n)) (hx : x = nI j) (hj : j < n) (hn : n < 2147483648) (kk : G X y d a b (pc + 1) L (.long (mJ M i j) :: st) M Q) : G X y d a b pc L (.int x :: .ref i :: st) M Q := by
  subst hx
  intro p e s m args below meth c H locs cells slots mc ms ls C D
  have hty : maty[3]? = some .long := rfl
  have h0 : (mT M i).1 = 32 + 3 := by rw [hT]
  have hi := D.1.ltA h0 hty
  have hc := (D.1.2.2.1 i hi).2 3 _ h0 hty
  obtain ⟨g1, g2⟩ := nI_bd hj hn
  have hn2 : (mT M i).2 = n := by rw [hT]
  exact W.lald C.1 C.2.1 hc (((gKK C).2.1 3 _ hty).1 _ _) (fun h => by cases h) (by rw [arrV_size, hn2]; exact g1) (by rw [g2, arrV_read _ _ (by rw [hn2]; exact hj)]; rfl) rfl rfl hd (kk p e s m args below meth c H locs cells slots mc ms ls C D)
theorem s_aald {i j n ti : Nat} {x : Int32} {C0 : String} {v : Value} (hd : decode y.2.1 pc = .ok (.aaload, 1)) (hT : mT M i = (32 + ti, n)) (hty : maty[ti]? = some (.object C0)) (hx : x = nI j) (hj : j < n) (hn : n < 2147483648) (hv : mV M i j = v) (kk : G X y d a b (pc + 1) L (v :: st) M Q) : G X y d a b pc L (.int x :: .ref i :: st) M Q := by
  subst hx
  subst hv
  intro p e s m args below meth c H locs cells slots mc ms ls C D
  have h0 : (mT M i).1 = 32 + ti := by rw [hT]
  have hi := D.1.ltA h0 hty
  have hc := (D.1.2.2.1 i hi).2 ti _ h0 hty
  obtain ⟨g1, g2⟩ := nI_bd hj hn
  have hn2 : (mT M i).2 = n := by rw [hT]
  exact W.aald C.1 C.2.1 hc (((gKK C).2.1 ti _ hty).1 _ _) rfl (fun h => by cases h) (by rw [arrV_size, hn2]; exact g1) (by rw [g2, arrV_read _ _ (by rw [hn2]; exact hj)]; rfl) rfl rfl hd (kk p e s m args below meth c H locs cells slots mc ms ls C D)
theorem s_alen {i n ti : Nat} {ty : FieldType} (hd : decode y.2.1 pc = .ok (.arraylength, 1)) (hT : mT M i = (32 + ti, n)) (hty : maty[ti]? = some ty) (kk : G X y d a b (pc + 1) L (.int (nI n) :: st) M Q) : G X y d a b pc L (.ref i :: st) M Q := by
  intro p e s m args below meth c H locs cells slots mc ms ls C D
  have h0 : (mT M i).1 = 32 + ti := by rw [hT]
  have hi := D.1.ltA h0 hty
  have hc := (D.1.2.2.1 i hi).2 ti _ h0 hty
  have hn2 : (mT M i).2 = n := by rw [hT]
  exact W.alen C.1 C.2.1 hc (((gKK C).2.1 ti _ hty).1 _ _) (by rw [arrV_size, hn2]; rfl) rfl rfl hd (kk p e s m args below meth c H locs cells slots mc ms ls C D)
/-- the law's script -/
theorem s_sld {j : Nat} {x : Int32} (hd : decode y.2.1 pc = .ok (.iaload, 1)) (hx : x = nI j) (hj : j < eN X) (hn : eN X < 2147483648) (kk : G X y d a b (pc + 1) L (.int (eX X j) :: st) M Q) : G X y d a b pc L (.int x :: .retAddr 0 :: st) M Q := by
  subst hx
  intro p e s m args below meth c H locs cells slots mc ms ls C D
  obtain ⟨b0, hb0, hlt, hX⟩ := (gKK C).2.2.2.2.2.2.2.2.2
  have hr : rv X (.retAddr 0) = .ref b0 := by show va_rf (eS X 0) = _; rw [hb0]; rfl
  have w := kk p e s m args below meth c H locs cells slots mc ms ls C D
  rw [List.map_cons, List.map_cons, hr]
  have hX' : va_X b0 (eN X) (eX X) s s.heap := hX.kept (C.2.2.2.2.2.2.2.2.2.2.2 _ hlt)
  refine va_sld C.1 C.2.1 hX' (by have := C.2.2.2.2.2.2.2.2.2.2.1; omega) (show ¬ eB X ≤ b0 by omega) (gS C D) (vp_in_nI hj hn) hd ?_
  rw [nI_clamp (Nat.lt_trans hj hn)]
  exact w
theorem s_slen (hd : decode y.2.1 pc = .ok (.arraylength, 1)) (kk : G X y d a b (pc + 1) L (.int (nI (eN X)) :: st) M Q) : G X y d a b pc L (.retAddr 0 :: st) M Q := by
  intro p e s m args below meth c H locs cells slots mc ms ls C D
  obtain ⟨b0, hb0, hlt, hX⟩ := (gKK C).2.2.2.2.2.2.2.2.2
  have hr : rv X (.retAddr 0) = .ref b0 := by show va_rf (eS X 0) = _; rw [hb0]; rfl
  have w := kk p e s m args below meth c H locs cells slots mc ms ls C D
  rw [List.map_cons, hr]
  have hX' : va_X b0 (eN X) (eX X) s s.heap := hX.kept (C.2.2.2.2.2.2.2.2.2.2.2 _ hlt)
  exact va_slen C.1 C.2.1 hX' (by have := C.2.2.2.2.2.2.2.2.2.2.1; omega) (show ¬ eB X ≤ b0 by omega) (gS C D) hd w
theorem s_iast {i j n : Nat} {z : Int32} {x : Int32} (hd : decode y.2.1 pc = .ok (.iastore, 1)) (hT : mT M i = (34, n)) (hx : z = nI j) (hj : j < n) (hn : n < 2147483648) (kk : G X y d a b (pc + 1) L st (sA M i j (x)) Q) : G X y d a b pc L (.int x :: .int z :: .ref i :: st) M Q := by
  subst hx
  intro p e s m args below meth c H locs cells slots mc ms ls C D
  have hty : maty[2]? = some .int := rfl
  have h0 : (mT M i).1 = 32 + 2 := by rw [hT]
  have hi := D.1.ltA h0 hty
  have hc := (D.1.2.2.1 i hi).2 2 _ h0 hty
  obtain ⟨g1, g2⟩ := nI_bd hj hn
  have hn2 : (mT M i).2 = n := by rw [hT]
  refine W.iast C.1 C.2.1 hc (((gKK C).2.1 2 _ hty).1 _ _) (fun h => by cases h) (by rw [arrV_size, hn2]; exact g1) rfl rfl hd (fun H' f1 f2 f3 => ?_)
  rw [g2] at f1
  refine kk p e s m args below meth c H' _ cells slots mc ms ls C ⟨D.1.ast (M1 := sA M i j (x)) (v := Value.int (x)) hi h0 hty f1 f2 f3 rfl rfl (congrArg Value.int (up2_s _ _ _ _)) fv_sA, D.2.1, fun w hw => ?_, D.2.2.2.1, D.2.2.2.2.1, by rw [f2]; exact D.2.2.2.2.2⟩
  rcases List.mem_append.mp hw with h | h
  · exact D.2.2.1 w h
  · rw [List.mem_singleton.mp h]; exact Nat.le_add_right _ _
theorem s_bast {i j n : Nat} {z : Int32} {x : Int32} (hd : decode y.2.1 pc = .ok (.bastore, 1)) (hT : mT M i = (32, n)) (hx : z = nI j) (hj : j < n) (hn : n < 2147483648) (kk : G X y d a b (pc + 1) L st (sA M i j (x.toInt8.toInt32)) Q) : G X y d a b pc L (.int x :: .int z :: .ref i :: st) M Q := by
  subst hx
  intro p e s m args below meth c H locs cells slots mc ms ls C D
  have hty : maty[0]? = some .byte := rfl
  have h0 : (mT M i).1 = 32 + 0 := by rw [hT]
  have hi := D.1.ltA h0 hty
  have hc := (D.1.2.2.1 i hi).2 0 _ h0 hty
  obtain ⟨g1, g2⟩ := nI_bd hj hn
  have hn2 : (mT M i).2 = n := by rw [hT]
  refine W.bast C.1 C.2.1 hc (((gKK C).2.1 0 _ hty).1 _ _) (fun h => by cases h) (by rw [arrV_size, hn2]; exact g1) rfl rfl hd (fun H' f1 f2 f3 => ?_)
  rw [g2] at f1
  refine kk p e s m args below meth c H' _ cells slots mc ms ls C ⟨D.1.ast (M1 := sA M i j (x.toInt8.toInt32)) (v := Value.int (x.toInt8.toInt32)) hi h0 hty f1 f2 f3 rfl rfl (congrArg Value.int (up2_s _ _ _ _)) fv_sA, D.2.1, fun w hw => ?_, D.2.2.2.1, D.2.2.2.2.1, by rw [f2]; exact D.2.2.2.2.2⟩
  rcases List.mem_append.mp hw with h | h
  · exact D.2.2.1 w h
  · rw [List.mem_singleton.mp h]; exact Nat.le_add_right _ _
theorem s_sast {i j n : Nat} {z : Int32} {x : Int32} (hd : decode y.2.1 pc = .ok (.sastore, 1)) (hT : mT M i = (33, n)) (hx : z = nI j) (hj : j < n) (hn : n < 2147483648) (kk : G X y d a b (pc + 1) L st (sA M i j (x.toInt16.toInt32)) Q) : G X y d a b pc L (.int x :: .int z :: .ref i :: st) M Q := by
  subst hx
  intro p e s m args below meth c H locs cells slots mc ms ls C D
  have hty : maty[1]? = some .short := rfl
  have h0 : (mT M i).1 = 32 + 1 := by rw [hT]
  have hi := D.1.ltA h0 hty
  have hc := (D.1.2.2.1 i hi).2 1 _ h0 hty
  obtain ⟨g1, g2⟩ := nI_bd hj hn
  have hn2 : (mT M i).2 = n := by rw [hT]
  refine W.sast C.1 C.2.1 hc (((gKK C).2.1 1 _ hty).1 _ _) (fun h => by cases h) (by rw [arrV_size, hn2]; exact g1) rfl rfl hd (fun H' f1 f2 f3 => ?_)
  rw [g2] at f1
  refine kk p e s m args below meth c H' _ cells slots mc ms ls C ⟨D.1.ast (M1 := sA M i j (x.toInt16.toInt32)) (v := Value.int (x.toInt16.toInt32)) hi h0 hty f1 f2 f3 rfl rfl (congrArg Value.int (up2_s _ _ _ _)) fv_sA, D.2.1, fun w hw => ?_, D.2.2.2.1, D.2.2.2.2.1, by rw [f2]; exact D.2.2.2.2.2⟩
  rcases List.mem_append.mp hw with h | h
  · exact D.2.2.1 w h
  · rw [List.mem_singleton.mp h]; exact Nat.le_add_right _ _
theorem s_zast {i j n : Nat} {z : Int32} {x : Int32} (hd : decode y.2.1 pc = .ok (.bastore, 1)) (hT : mT M i = (36, n)) (hx : z = nI j) (hj : j < n) (hn : n < 2147483648) (kk : G X y d a b (pc + 1) L st (sA M i j (x &&& 1)) Q) : G X y d a b pc L (.int x :: .int z :: .ref i :: st) M Q := by
  subst hx
  intro p e s m args below meth c H locs cells slots mc ms ls C D
  have hty : maty[4]? = some .boolean := rfl
  have h0 : (mT M i).1 = 32 + 4 := by rw [hT]
  have hi := D.1.ltA h0 hty
  have hc := (D.1.2.2.1 i hi).2 4 _ h0 hty
  obtain ⟨g1, g2⟩ := nI_bd hj hn
  have hn2 : (mT M i).2 = n := by rw [hT]
  refine W.zast C.1 C.2.1 hc (((gKK C).2.1 4 _ hty).1 _ _) (fun h => by cases h) (by rw [arrV_size, hn2]; exact g1) rfl rfl hd (fun H' f1 f2 f3 => ?_)
  rw [g2] at f1
  refine kk p e s m args below meth c H' _ cells slots mc ms ls C ⟨D.1.ast (M1 := sA M i j (x &&& 1)) (v := Value.int (x &&& 1)) hi h0 hty f1 f2 f3 rfl rfl (congrArg Value.int (up2_s _ _ _ _)) fv_sA, D.2.1, fun w hw => ?_, D.2.2.2.1, D.2.2.2.2.1, by rw [f2]; exact D.2.2.2.2.2⟩
  rcases List.mem_append.mp hw with h | h
  · exact D.2.2.1 w h
  · rw [List.mem_singleton.mp h]; exact Nat.le_add_right _ _
theorem s_last {i j n : Nat} {z : Int32} {x : Int64} (hd : decode y.2.1 pc = .ok (.lastore, 1)) (hT : mT M i = (35, n)) (hx : z = nI j) (hj : j < n) (hn : n < 2147483648) (kk : G X y d a b (pc + 1) L st (sJ M i j (x)) Q) : G X y d a b pc L (.long x :: .int z :: .ref i :: st) M Q := by
  subst hx
  intro p e s m args below meth c H locs cells slots mc ms ls C D
  have hty : maty[3]? = some .long := rfl
  have h0 : (mT M i).1 = 32 + 3 := by rw [hT]
  have hi := D.1.ltA h0 hty
  have hc := (D.1.2.2.1 i hi).2 3 _ h0 hty
  obtain ⟨g1, g2⟩ := nI_bd hj hn
  have hn2 : (mT M i).2 = n := by rw [hT]
  refine W.last C.1 C.2.1 hc (((gKK C).2.1 3 _ hty).1 _ _) (fun h => by cases h) (by rw [arrV_size, hn2]; exact g1) rfl rfl hd (fun H' f1 f2 f3 => ?_)
  rw [g2] at f1
  refine kk p e s m args below meth c H' _ cells slots mc ms ls C ⟨D.1.ast (M1 := sJ M i j (x)) (v := Value.long (x)) hi h0 hty f1 f2 f3 rfl rfl (congrArg Value.long (up2_s _ _ _ _)) fv_sJ, D.2.1, fun w hw => ?_, D.2.2.2.1, D.2.2.2.2.1, by rw [f2]; exact D.2.2.2.2.2⟩
  rcases List.mem_append.mp hw with h | h
  · exact D.2.2.1 w h
  · rw [List.mem_singleton.mp h]; exact Nat.le_add_right _ _
/-- a reference into an array of a class C0: of that class, or castable to it -/
theorem s_aast {i j n ti r t : Nat} {z : Int32} {C0 : String} {q : vw_C} (hd : decode y.2.1 pc = .ok (.aastore, 1)) (hT : mT M i = (32 + ti, n)) (hty : maty[ti]? = some (.object C0)) (hx : z = nI j) (hj : j < n) (hn : n < 2147483648) (hr : (mT M r).1 = t) (hq : mcl[t]? = some q) (hc : q.1 = C0 ∨ Cond.castable q.1 C0 ∈ lw_tbl)
    (kk : G X y d a b (pc + 1) L st (sV M i j (.ref r)) Q) : G X y d a b pc L (.ref r :: .int z :: .ref i :: st) M Q := by
  subst hx
  intro p e s m args below meth c H locs cells slots mc ms ls C D
  have hK := gKK C
  have h0 : (mT M i).1 = 32 + ti := by rw [hT]
  have hi := D.1.ltA h0 hty
  have hcell := (D.1.2.2.1 i hi).2 ti _ h0 hty
  obtain ⟨g1, g2⟩ := nI_bd hj hn
  have hn2 : (mT M i).2 = n := by rw [hT]
  have hri := D.1.lt (c := r) (by rw [hr]; exact hq)
  obtain ⟨cv, q1, q2, q3, -⟩ := (D.1.2.2.1 r hri).1 q (by rw [hr]; exact hq)
  rw [hr] at q2
  obtain ⟨-, hfc, kv, hkv, hkind⟩ := hK.1 t _ hq
  obtain ⟨kA, comp, k1, k2, k3, -⟩ := (hK.2.1 ti _ hty).2
  obtain ⟨kc, hkc, -⟩ := Vm.findClass_spec k3
  have hasg : s.vm.assignable cv.cls comp = true := by
    rw [q2]
    rcases hc with hc | hc
    · subst hc
      cases hfc.symm.trans k3
      exact va_assign ⟨hfc, kv, hkv, hkind⟩
    · obtain ⟨c0, t0, f1, f2, f3⟩ := Cond.castable_spec ((gNw hK hc rfl).use (A := args) rfl)
      cases hfc.symm.trans f1
      cases k3.symm.trans f2
      exact f3
  refine W.aast C.1 C.2.1 hcell (fun q h => by cases h) (fun h => by cases h) k1 k2 rfl hkc ⟨fun h => g1 (Or.inl h), by rw [arrV_size, hn2, g2]; exact hj⟩ q1 (fun z h => by rw [q3] at h; cases h) (by rw [q2]; exact hkv) hasg rfl rfl hd (fun H' f1 f2 f3 => ?_)
  rw [g2] at f1
  refine kk p e s m args below meth c H' _ cells slots mc ms ls C ⟨D.1.ast (v := .ref r) hi h0 hty f1 f2 f3 rfl rfl (up2_s _ _ _ _) fv_sV, D.2.1, fun w hw => ?_, D.2.2.2.1, D.2.2.2.2.1, by rw [f2]; exact D.2.2.2.2.2⟩
  rcases List.mem_append.mp hw with h | h
  · exact D.2.2.1 w h
  · rw [List.mem_singleton.mp h]; exact Nat.le_add_right _ _
/-- what is made -/
theorem s_new {t N idx a1 b1 : Nat} (hd : decode y.2.1 pc = .ok (.new idx, 3)) (hl : LkC y.1.cls idx t N) (ha : a1 + 1 ≤ a) (hb : b1 + N ≤ b) (kk : G X y d a1 b1 (pc + 3) L (.ref (mN M) :: st) (mNew M t N) Q) : G X y d a b pc L st M Q := by
  intro p e s m args below meth c H locs cells slots mc ms ls C D
  obtain ⟨q, hq, rfl, h1, h2, h3⟩ := hl
  have hts := C.2.2.2.2.2.2.1
  have hKn := (gKK C).1 t q hq
  obtain ⟨D1, D2, D3, D4, D5, D6⟩ := D
  refine W.newcK C.1 C.2.1 C.2.2.2.2.2.1 (hts _ h1) (hts _ h2) (hts _ h3) rfl hd (show cells + 1 ≤ mc by omega) (show slots + q.2.2 ≤ ms by omega) hKn.2.1 D1.1 (fun H1 kC hkC e1 z1 o1 => ?_)
  have hnew : mT (mNew M t q.2.2) (mN M) = (t, q.2.2) := by simp [mT, mNew, mN]
  refine kk p e s m args below meth c H1 locs (cells + 1) (slots + q.2.2) mc ms ls C ⟨D1.push (by rw [z1, D1.1]) (fun z hz => o1 z (by rw [← D1.1]; exact hz)) ⟨fun q' hq' => ?_, fun i ty hi _ => ?_⟩, D2, D3, by omega, by omega, by rw [z1, ← D1.1]; omega⟩
  · rw [hnew] at hq' ⊢
    cases hq.symm.trans hq'
    refine (u_born (mty t) hts (mcl_in t q hq) hKn hkC e1 (mcl_ty t q hq)).to (fun k hk => ?_)
    have hz : ∀ ty : FieldType, kd ty ≠ 3 → defaultValue ty = rv X (fval (mNew M t q.2.2) (mN M) k ty) := by
      intro ty h3
      cases ty <;> first | exact absurd rfl h3 | simp [fval, mA, mJ, mV, mNew, mN, rv, defaultValue]
    refine hz _ ?_
    exact (mcl_c (P := fun t (q : vw_C) => ∀ k, k < q.2.2 → kd (mty t k) ≠ 3) (by decide +kernel) (by decide +kernel) (by decide +kernel) (by decide +kernel) (by decide +kernel) (by decide +kernel) (by decide +kernel) (by decide +kernel) (by decide +kernel) (by decide +kernel) (by decide +kernel) (by decide +kernel) (by decide +kernel) (by decide +kernel) (by decide +kernel) (by decide +kernel) (by decide +kernel)) t q hq k hk
  · rw [hnew] at hi
    have := (List.getElem?_eq_some_iff.mp hq).1
    have h32 : t = 32 + i := hi
    simp [mcl] at this
    omega
theorem mNew_arr {X : ME} {M : MM} {ti n : Nat} {ty : FieldType} {H1 : Heap} {x : Value} (hty : maty[ti]? = some ty) (h3 : kd ty ≠ 3) (hx : defaultValue ty = x) (e1 : H1[eB X + mN M]? = some (arrV (eC X ti) n (fun _ => x))) : mcell X (mNew M (32 + ti) n) H1 (mN M) := by
  have hnew : mT (mNew M (32 + ti) n) (mN M) = (32 + ti, n) := by simp [mT, mNew, mN]
  refine ⟨fun q' hq' => ?_, fun i ty' hi hty' => ?_⟩
  · rw [hnew] at hq'
    have := (List.getElem?_eq_some_iff.mp hq').1
    simp [mcl] at this
    omega
  · rw [hnew] at hi ⊢
    have hii : i = ti := by have : 32 + ti = 32 + i := hi; omega
    subst hii
    cases hty.symm.trans hty'
    rw [e1]
    congr 2
    funext k
    rw [← hx]
    cases ty <;> first | exact absurd rfl h3 | simp [fval, mA, mJ, mV, mNew, mN, rv, defaultValue]
theorem s_newa {at_ : ArrayType} {ti n a1 b1 : Nat} {ty : FieldType} {x : Int32} (hd : decode y.2.1 pc = .ok (.newarray at_, 2)) (hat : newarray.typeOf at_ = ty) (hty : maty[ti]? = some ty) (h3 : kd ty < 2) (hw : Cond.arrayClass ty ∈ lw_all) (hx : x = nI n) (hn : n < 60000) (ha : a1 + 1 ≤ a) (hb : b1 + n ≤ b) (kk : G X y d a1 b1 (pc + 2) L (.ref (mN M) :: st) (mNew M (32 + ti) n) Q) : G X y d a b pc L (.int x :: st) M Q := by
  subst hx
  subst hat
  intro p e s m args below meth c H locs cells slots mc ms ls C D
  have hts := C.2.2.2.2.2.2.1
  obtain ⟨D1, D2, D3, D4, D5, D6⟩ := D
  have hb8 : componentBytes (newarray.typeOf at_) ≤ 8 := by cases at_ <;> decide
  refine va_newaK C.1 C.2.1 (hts _ hw) rfl hd rfl (nI_pos (by omega)) (nI_clamp (by omega)) (Nat.le_trans (Nat.mul_le_mul (Nat.le_of_lt hn) hb8) (by decide)) (show cells + 1 ≤ mc by omega) (show slots + n ≤ ms by omega) D1.1 (fun H1 cA e1 z1 o1 hAr hNm => ?_)
  have hcA : cA = eC X ti := by
    have h2 := ((gKK C).2.1 ti _ hty).2
    have h5 : s.vm.findClass ("[" ++ (newarray.typeOf at_).toString) = some (eC X ti) := by cases at_ <;> exact h2
    exact Option.some.inj (hNm.symm.trans h5)
  rw [hcA] at e1
  exact kk p e s m args below meth c H1 locs (cells + 1) (slots + n) mc ms ls C ⟨D1.push (by rw [z1, D1.1]) (fun z hz => o1 z (by rw [← D1.1]; exact hz)) (mNew_arr hty (by intro h; omega) rfl e1), D2, D3, by omega, by omega, by rw [z1, ← D1.1]; omega⟩
theorem s_anew {ti n idx a1 b1 : Nat} {x : Int32} (hd : decode y.2.1 pc = .ok (.anewarray idx, 3)) (hl : LkA y.1.cls idx ti) (hx : x = nI n) (hn : n < 60000) (ha : a1 + 1 ≤ a) (hb : b1 + n ≤ b) (kk : G X y d a1 b1 (pc + 3) L (.ref (mN M) :: st) (mNew M (32 + ti) n) Q) : G X y d a b pc L (.int x :: st) M Q := by
  subst hx
  intro p e s m args below meth c H locs cells slots mc ms ls C D
  obtain ⟨C0, hty, hcl, hao⟩ := hl
  have hts := C.2.2.2.2.2.2.1
  obtain ⟨D1, D2, D3, D4, D5, D6⟩ := D
  have hcl2 : (nI n).toNatClampNeg = n := nI_clamp (by omega)
  refine W.anew C.1 C.2.1 C.2.2.2.2.2.1 (hts _ hcl) (((gKK C).2.2.2.2.1 C0 hao).use) rfl hd rfl (nI_pos (by omega)) (by rw [hcl2]; omega) (show cells + 1 ≤ mc by omega) (by rw [hcl2]; show slots + n ≤ ms; omega) (fun cA kA comp f1 f2 f3 f4 => ?_)
  rw [hcl2]
  obtain ⟨kA', comp', h1, h2, h3, h4⟩ := ((gKK C).2.1 ti _ hty).2
  have hcA : cA = eC X ti := Option.some.inj (f1.symm.trans h4)
  subst hcA
  rw [D1.1]
  have z1 : (H.push { cls := eC X ti, slots := Array.replicate n Value.null, vm := .none }).size = H.size + 1 := Array.size_push _
  have o1 : ∀ q : Nat, q < H.size → (H.push { cls := eC X ti, slots := Array.replicate n Value.null, vm := .none })[q]? = H[q]? := fun q hq => by rw [Array.getElem?_push]; rw [if_neg (by omega)]
  have e1 : (H.push { cls := eC X ti, slots := Array.replicate n Value.null, vm := .none })[eB X + mN M]? = some (arrV (eC X ti) n (fun _ => .null)) := by
    rw [← D1.1, Array.getElem?_push]
    simp only [if_true]
    rw [arrV_new]
  exact kk p e s m args below meth c _ locs (cells + 1) (slots + n) mc ms ls C ⟨D1.push z1 o1 (mNew_arr hty (by show (2 : Nat) ≠ 3; decide) rfl e1), D2, D3, by omega, by omega, by rw [z1]; omega⟩
/-- constants of the pool -/
theorem s_ldc {idx : Nat} {v : Int32} (hd : decode y.2.1 pc = .ok (.ldc idx, 2)) (hw : Cond.constant y.1.cls idx v ∈ lw_all) (kk : G X y d a b (pc + 2) L (.int v :: st) M Q) : G X y d a b pc L st M Q := fun p e s m args below meth c H locs cells slots mc ms ls C D => W.ldc C.1 C.2.1 C.2.2.2.2.2.1 (C.2.2.2.2.2.2.1 _ hw) rfl hd (kk p e s m args below meth c H locs cells slots mc ms ls C D)
theorem s_ldcw {idx : Nat} {v : Int32} (hd : decode y.2.1 pc = .ok (.ldc_w idx, 3)) (hw : Cond.constant y.1.cls idx v ∈ lw_all) (kk : G X y d a b (pc + 3) L (.int v :: st) M Q) : G X y d a b pc L st M Q := fun p e s m args below meth c H locs cells slots mc ms ls C D => lv_ldcw C.1 C.2.1 C.2.2.2.2.2.1 (C.2.2.2.2.2.2.1 _ hw) hd (kk p e s m args below meth c H locs cells slots mc ms ls C D)
theorem s_ldc2 {idx : Nat} {v : Int64} (hd : decode y.2.1 pc = .ok (.ldc2_w idx, 3)) (hw : Cond.constantLong y.1.cls idx v ∈ lw_all) (kk : G X y d a b (pc + 3) L (.long v :: st) M Q) : G X y d a b pc L st M Q := fun p e s m args below meth c H locs cells slots mc ms ls C D => W.ldc2 C.1 C.2.1 C.2.2.2.2.2.1 (C.2.2.2.2.2.2.1 _ hw) rfl hd (kk p e s m args below meth c H locs cells slots mc ms ls C D)
theorem s_ldcS {idx k : Nat} {tx : String} (hd : decode y.2.1 pc = .ok (.ldc idx, 2)) (hk : mstr[k]? = some (y.1.cls, idx, tx)) (kk : G X y d a b (pc + 2) L (.retAddr (1 + k) :: st) M Q) : G X y d a b pc L st M Q := by
  intro p e s m args below meth c H locs cells slots mc ms ls C D
  obtain ⟨ad, av, e0, -, e1, -⟩ := (gKK C).2.2.2.2.2.2.2.2.1 k _ hk
  have w := kk p e s m args below meth c H locs cells slots mc ms ls C D
  have hr : rv X (.retAddr (1 + k)) = .ref ad := by show va_rf (eS X (1 + k)) = _; rw [e0]; rfl
  rw [List.map_cons, hr] at w
  exact va_ldcS C.1 C.2.1 C.2.2.2.2.2.1 e1 hd w
/-- Object's constructor -/
theorem s_objInit {idx i : Nat} (hd : decode y.2.1 pc = .ok (.invokespecial idx, 3)) (hl : Cond.methodLink y.1.cls idx Lib.objectInit ∈ lw_all) (hs : (st.map fun v => v.category).sum ≤ 8) (kk : G X y (d + 1) a b (pc + 3) L st M Q) : G X y (d + 1) a b pc L (.ref i :: st) M Q := fun p e s m args below meth c H locs cells slots mc ms ls C D =>
  W.objInit C.1 C.2.1 C.2.2.2.2.2.1 (C.2.2.2.2.2.2.1 _ hl) (C.2.2.2.2.2.2.1 _ q202) (C.2.2.2.2.2.2.1 _ q203) rfl (D.2.1.1.trans C.2.2.2.2.1.symm) rfl hd (Nat.succ_le_succ (Nat.zero_le _)) (by show 2 * 0 + ((st.map (rv X)).map fun v => v.category).sum + 12 ≤ 10300 + 64 * (d + 1); rw [rv_cats]; omega) (kk p e s m args below meth c H locs cells slots mc ms ls C D)
/-- switches -/
theorem s_tsIn {dflt lo hi : Int} {offs : Array Int} {len : Nat} {x : Int32} {off : Int} {tgt : Nat} (hd : decode y.2.1 pc = .ok (.tableswitch dflt lo hi offs, len)) (h1 : ¬ x.toInt < lo) (h2 : ¬ hi < x.toInt) (ho : offs[(x.toInt - lo).toNat]? = some off) (ht : (pc : Int) + off = (tgt : Int)) (kk : G X y d a b tgt L st M Q) : G X y d a b pc L (.int x :: st) M Q := fun p e s m args below meth c H locs cells slots mc ms ls C D => lv_tableIn C.1 C.2.1 hd h1 h2 ho ht (kk p e s m args below meth c H locs cells slots mc ms ls C D)
theorem s_tsOut {dflt lo hi : Int} {offs : Array Int} {len : Nat} {x : Int32} {tgt : Nat} (hd : decode y.2.1 pc = .ok (.tableswitch dflt lo hi offs, len)) (h : x.toInt < lo ∨ hi < x.toInt) (ht : (pc : Int) + dflt = (tgt : Int)) (kk : G X y d a b tgt L st M Q) : G X y d a b pc L (.int x :: st) M Q := fun p e s m args below meth c H locs cells slots mc ms ls C D => lv_tableOut C.1 C.2.1 hd h ht (kk p e s m args below meth c H locs cells slots mc ms ls C D)
/-- ends -/
theorem g_end {v : Option Value} (hQ : Q (.inl v) M) {p : Program} {s : State} {m : MethodId} {args : Array Value} {meth : Method} {c : Code} {H : Heap} {locs : List Loc} {cells slots mc ms : Nat} {ls : Array Slot} (D : GDyn X y a b L M s H locs cells slots mc ms ls) : ∀ t : State, t.heap = H → s.WarmedH t.vm → gQ X Q args s (.returned (v.map (rv X))) t := fun t ht _ => ⟨v, M, rfl, by rw [ht]; exact D.1, hQ⟩
theorem s_iret {x : Int32} (hd : decode y.2.1 pc = .ok (.ireturn, 1)) (hr : y.2.2.2.1 = some .int) (hQ : Q (.inl (some (.int x))) M) : G X y d a b pc L [.int x] M Q := fun p e s m args below meth c H locs cells slots mc ms ls C D =>
  vx_ret (W.widen (k := mc) (n := ms) (by have := D.2.2.2.1; omega) (by have := D.2.2.2.2.1; omega) (W.iret C.1 C.2.1 (C.2.2.1.trans hr) (fun t ht hW => g_end (p := p) (m := m) (meth := meth) (c := c) hQ D t ht hW) D.2.2.1 hd (hlocks := C.2.2.2.1)))
theorem s_zret {x : Int32} (hd : decode y.2.1 pc = .ok (.ireturn, 1)) (hr : y.2.2.2.1 = some .boolean) (hx : x = 0 ∨ x = 1) (hQ : Q (.inl (some (.int x))) M) : G X y d a b pc L [.int x] M Q := fun p e s m args below meth c H locs cells slots mc ms ls C D =>
  vx_ret (W.widen (k := mc) (n := ms) (by have := D.2.2.2.1; omega) (by have := D.2.2.2.2.1; omega) (W.zret C.1 C.2.1 (C.2.2.1.trans hr) (by rcases hx with rfl | rfl <;> rfl) (fun t ht hW => g_end (p := p) (m := m) (meth := meth) (c := c) hQ D t ht hW) D.2.2.1 hd (hlocks := C.2.2.2.1)))
theorem s_lret {x : Int64} (hd : decode y.2.1 pc = .ok (.lreturn, 1)) (hr : y.2.2.2.1 = some .long) (hQ : Q (.inl (some (.long x))) M) : G X y d a b pc L [.long x] M Q := fun p e s m args below meth c H locs cells slots mc ms ls C D =>
  vx_ret (W.widen (k := mc) (n := ms) (by have := D.2.2.2.1; omega) (by have := D.2.2.2.2.1; omega) (W.lret C.1 C.2.1 (C.2.2.1.trans hr) (fun t ht hW => g_end (p := p) (m := m) (meth := meth) (c := c) hQ D t ht hW) D.2.2.1 hd (hlocks := C.2.2.2.1)))
theorem s_vret (hd : decode y.2.1 pc = .ok (.return_, 1)) (hr : y.2.2.2.1 = none) (hQ : Q (.inl none) M) : G X y d a b pc L [] M Q := fun p e s m args below meth c H locs cells slots mc ms ls C D =>
  vx_ret (W.widen (k := mc) (n := ms) (by have := D.2.2.2.1; omega) (by have := D.2.2.2.2.1; omega) (W.vret C.1 C.2.1 (C.2.2.1.trans hr) (fun t ht hW => g_end (p := p) (m := m) (meth := meth) (c := c) (v := none) hQ D t ht hW) D.2.2.1 hd (hlocks := C.2.2.2.1)))
theorem s_aret {v : Value} {rt : FieldType} (hd : decode y.2.1 pc = .ok (.areturn, 1)) (hr : y.2.2.2.1 = some rt) (hrt : (∃ n, rt = .object n) ∨ ∃ t, rt = .array t) (hv : isR v) (hQ : Q (.inl (some v)) M) : G X y d a b pc L [v] M Q := fun p e s m args below meth c H locs cells slots mc ms ls C D =>
  vx_ret (W.widen (k := mc) (n := ms) (by have := D.2.2.2.1; omega) (by have := D.2.2.2.2.1; omega) (W.aret C.1 C.2.1 (C.2.2.1.trans hr) hrt (by obtain ⟨r, hr⟩ := hv.of (X := X); rw [hr]; cases r with | none => exact Or.inl rfl | some q => exact Or.inr ⟨q, rfl⟩) (fun t ht hW => g_end (p := p) (m := m) (meth := meth) (c := c) hQ D t ht hW) D.2.2.1 hd (hlocks := C.2.2.2.1)))
end GHEAP
