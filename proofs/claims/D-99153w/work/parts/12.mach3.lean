set_option maxRecDepth 100000
/-! what holds at every method's start, and all through it -/
def nestM : List Cond := [.methodLinkNest "FrostBox$Letter" 1 ⟨"FrostBox$Sum", "<init>", "()V"⟩ "FrostBox", .methodLinkNest "FrostBox$Constant" 1 ⟨"FrostBox$Sum", "<init>", "()V"⟩ "FrostBox", .methodLinkNest "FrostBox$Chain" 3 ⟨"FrostBox$Sum", "<init>", "()V"⟩ "FrostBox", .methodLinkNest "FrostBox$Not" 1 ⟨"FrostBox$Test", "<init>", "()V"⟩ "FrostBox", .methodLinkNest "FrostBox$Compare" 1 ⟨"FrostBox$Test", "<init>", "()V"⟩ "FrostBox", .methodLinkNest "FrostBox$Several" 1 ⟨"FrostBox$Test", "<init>", "()V"⟩ "FrostBox"]
def nestF : List Cond := [.fieldLinkNest "FrostBox$Chain" 27 "FrostBox$Link" "next" "LFrostBox$Link;" "FrostBox", .fieldLinkNest "FrostBox$Several" 20 "FrostBox$Test" "next" "LFrostBox$Test;" "FrostBox", .fieldLinkNest "FrostBox" 221 "FrostBox$Clause" "label" "I" "FrostBox", .fieldLinkNest "FrostBox" 224 "FrostBox$Clause" "test" "LFrostBox$Test;" "FrostBox", .fieldLinkNest "FrostBox" 234 "FrostBox$Clause" "sum" "LFrostBox$Sum;" "FrostBox", .fieldLinkNest "FrostBox" 207 "FrostBox$Clause" "next" "LFrostBox$Clause;" "FrostBox"]
def nestC : List Cond := [.castable "FrostBox$Fault" "FrostBox$Fault", .castable "java/util/NoSuchElementException" "java/util/NoSuchElementException"]
def nestD : List Cond := [.declares ⟨"FrostBox$Sum", "value", "([I)I"⟩, .declares ⟨"FrostBox$Test", "holds", "([I)Z"⟩, .declares ⟨"java/lang/Throwable", "<init>", "()V"⟩, .declares ⟨"java/lang/Throwable", "<init>", "(Ljava/lang/String;)V"⟩, .declares ⟨"java/lang/Exception", "<init>", "()V"⟩, .declares ⟨"java/lang/Exception", "<init>", "(Ljava/lang/String;)V"⟩, .declares ⟨"java/lang/RuntimeException", "<init>", "()V"⟩, .declares ⟨"java/lang/RuntimeException", "<init>", "(Ljava/lang/String;)V"⟩]
def ldcT : List (String × Nat × String × Nat) := [("FrostBox", 198, "y", 0), ("FrostBox", 130, "aonykm", 1), ("FrostBox", 250, "rhle", 2), ("FrostBox", 252, "cwopg", 3), ("FrostBox", 254, "knal", 4), ("FrostBox", 290, "ptlmc", 5), ("FrostBoxModel", 26, "y", 0), ("FrostBoxModel", 32, "aonykm", 1), ("FrostBoxModel", 264, "rhle", 2), ("FrostBoxModel", 270, "cwopg", 3), ("FrostBoxModel", 272, "knal", 4), ("FrostBoxModel", 280, "ptlmc", 5)]
def sLen : List Nat := [1, 6, 4, 5, 4, 5]
def sByt : List (List Int32) := [[121], [97, 111, 110, 121, 107, 109], [114, 104, 108, 101], [99, 119, 111, 112, 103], [107, 110, 97, 108], [112, 116, 108, 109, 99]]
def St (γ : GG) (s : State) : Prop :=
  va_K (gD γ) vwCl (gtys γ) s ∧ vk_S 6 sLen sByt (fun i => gad γ (120 + i)) (fun i => gad γ (130 + i)) (gW γ) s s.heap ∧ (∀ q ∈ ldcT, vk_R q.1 q.2.1 q.2.2.1 (gad γ (120 + q.2.2.2)) s) ∧
  va_Z "java/lang/String" "COMPACT_STRINGS" "Z" (.int 1) (gW γ) s s.heap ∧ va_Z "jdk/internal/util/Preconditions" "SIOOBE_FORMATTER" "Ljava/util/function/BiFunction;" (cv γ (gsio γ)) (gW γ) s s.heap ∧
  va_O "FrostBox$Fault" (gad γ 4) (gW γ) s s.heap ∧ (∀ w ∈ nestM ++ (nestF ++ (nestC ++ nestD)), va_Nw w s) ∧ va_AO "FrostBox$Clause" s ∧ vx_Zq Bundle.tN "UNASSIGNED_STACK" Bundle.steD (gW γ) s s.heap ∧ vx_Zq Bundle.tN "SUPPRESSED_SENTINEL" Bundle.listD (gW γ) s s.heap ∧
  gszA γ ≤ s.heap.size ∧ (∀ q : Nat, gszA γ ≤ q → gW γ q) ∧ (gl γ).stackTraces = false ∧ gsz0 γ ≤ s.heap.size ∧ (gsio γ).isRef = true ∧ (∃ ce : Cell, s.heap[gad γ 4]? = some ce ∧ ce.vm = .none) ∧ va_X (gad γ 5) (gsn γ) (gxs γ) s s.heap ∧ gad γ 5 < s.heap.size ∧ ¬ gW γ (gad γ 5)
theorem St.call {γ : GG} {s U : State} {H : Heap} {locs : List Loc} (h : St γ s) (hU : U.heap = H) (hW : s.WarmedH U.vm) (hS : va_S (gW γ) s.heap H locs) : St γ U := by
  obtain ⟨h1, h2, h3, h4, h5, h6, h7, h8, h9, h10, h11, h12, h13, h14, h15, h16, h17, h18, h19⟩ := h
  have hA := hW.alike
  subst hU
  have hk : ∀ a : Nat, a < s.heap.size → ¬ gW γ a → U.heap[a]? = s.heap[a]? := hS.2.1
  refine ⟨va_K.moved hA h1, (vk_S.moved hA h2).kept hk, fun q hq => vk_R.warm hW (h3 q hq), (va_Z.moved hA h4).kept hk, (va_Z.moved hA h5).kept hk, (va_O.moved hA h6).kept hk, fun w hw => ?_, va_AO.moved hA h8, (vx_Zq.moved hA h9).kept hk, (vx_Zq.moved hA h10).kept hk, Nat.le_trans h11 hS.1, h12, h13, Nat.le_trans h14 hS.1, h15, ?_, (va_X.moved hA h17).kept (hk _ h18 h19), Nat.lt_of_lt_of_le h18 hS.1, h19⟩
  · have h := h7 w hw
    rcases List.mem_append.mp hw with h0 | h0
    · simp only [nestM, List.mem_cons, List.not_mem_nil, or_false] at h0
      rcases h0 with rfl | rfl | rfl | rfl | rfl | rfl <;> exact va_Nw.warmM hW h
    · rcases List.mem_append.mp h0 with h0 | h0
      · simp only [nestF, List.mem_cons, List.not_mem_nil, or_false] at h0
        rcases h0 with rfl | rfl | rfl | rfl | rfl | rfl <;> exact va_Nw.warmF hW h
      · rcases List.mem_append.mp h0 with h0 | h0
        · simp only [nestC, List.mem_cons, List.not_mem_nil, or_false] at h0
          rcases h0 with rfl | rfl <;> exact va_Nw.warmC hW h
        · simp only [nestD, List.mem_cons, List.not_mem_nil, or_false] at h0
          rcases h0 with rfl | rfl | rfl | rfl | rfl | rfl | rfl | rfl <;> exact va_Nw.warmD hW h
  · obtain ⟨ce, e1, e2⟩ := h16
    obtain ⟨cell, g1, -, -, g4⟩ := h6
    exact ⟨ce, by rw [hk _ (Array.getElem?_eq_some_iff.mp g1).1 g4]; exact e1, e2⟩
/-- the world as it lies in a heap that a method has come to -/
def Dyn (γ : GG) (w : Wd) (s : State) (H : Heap) (locs : List Loc) : Prop := (∃ K : List Nat, (∀ r n, gF w r = some n → 200 ≤ r ∧ r - 200 ∈ K) ∧ va_P (gD γ) vwCl (cells γ w K) H ∧ va_D (gW γ) (cells γ w K)) ∧ va_S (gW γ) s.heap H locs ∧ gZ w ≤ CM ∧ s.heap.size ≤ gsz0 γ + gZ w ∧ slT s.heap ≤ gsl0 γ + 8 * gZ w
/-- .. as it lies in a state -/
def Wok (γ : GG) (w : Wd) (U : State) : Prop := (∃ K : List Nat, (∀ r n, gF w r = some n → 200 ≤ r ∧ r - 200 ∈ K) ∧ va_P (gD γ) vwCl (cells γ w K) U.heap ∧ va_D (gW γ) (cells γ w K)) ∧ gZ w ≤ CM ∧ U.heap.size ≤ gsz0 γ + gZ w ∧ slT U.heap ≤ gsl0 γ + 8 * gZ w
abbrev rmD (d c k : Nat) : Room := { frames := d, cells := c, slots := k, locals := 40 * d }
/-- a method's contract -/
def Ctr (γ : GG) (d : Nat) (y : MethodName) (ws : List Cond) (as : List Value) (w : Wd) (Q : Option Value → Wd → Prop) (X : String → Wd → Prop) : Prop :=
  ∀ z sl : Nat, vx_Met (gl γ) y ws (rmD d (gsz0 γ + CM - z) (gsl0 γ + 8 * CM - sl)) (va_Pc (as.map (cv γ)) (fun U => St γ U ∧ Wok γ w U ∧ U.heap.size = z ∧ slT U.heap = sl))
    (fun _ st oc t => (∃ r w', oc = .returned (r.map (cv γ)) ∧ Q r w' ∧ Wok γ w' t) ∧ va_F (gW γ) st t)
    (fun E st t => (∃ w', X E w' ∧ Wok γ w' t) ∧ va_F (gW γ) st t) (gsz0 γ + CM - z) (gsl0 γ + 8 * CM - sl) (gW γ)
/-- what stands in a method's body -/
def Ctx (γ : GG) (d : Nat) (μ : MK) (p : Program) (R : Room) (s : State) (m : MethodId) (args : Array Value) (meth : Method) (c : Code) : Prop :=
  p.tables.exec = Jvm.exec ∧ c.code = kc μ ∧ c.maxLocals = knL μ ∧ meth.sig.returnType = kret μ ∧ meth.locks = false ∧ s.vm.findClass (kown μ) = some m.cls ∧ (∀ w ∈ lw_all, w.before args s = true) ∧ d ≤ R.frames ∧ 40 * d ≤ R.locals ∧
  gsz0 γ + CM - s.heap.size ≤ R.cells ∧ gsl0 γ + 8 * CM - slT s.heap ≤ R.slots ∧ c.exceptionTable.toList = tableOf (khh μ) ∧ meth.name = knm μ ∧ St γ s ∧ slT s.heap ≤ gsl0 γ + 8 * CM
abbrev cwn (γ : GG) (w : Wd) (s : State) : Nat := gsz0 γ + gZ w - s.heap.size
abbrev swn (γ : GG) (w : Wd) (s : State) : Nat := gsl0 γ + 8 * gZ w - slT s.heap
/-- a return of this method's kind with the answer r -/
def RetI (μ : MK) (pc : Nat) (r : Option Value) : Prop :=
  (decode (kc μ) pc = .ok (.ireturn, 1) ∧ ∃ (v : Int32) (ty : FieldType), r = some (.int v) ∧ kret μ = some ty ∧ narrow ty (.int v) = .int v) ∨ (decode (kc μ) pc = .ok (.lreturn, 1) ∧ ∃ v : Int64, r = some (.long v) ∧ kret μ = some .long) ∨
  (decode (kc μ) pc = .ok (.areturn, 1) ∧ ∃ (i : Nat) (n : String), r = some (.ref i) ∧ kret μ = some (.object n)) ∨ (decode (kc μ) pc = .ok (.return_, 1) ∧ r = none ∧ kret μ = none)
def covN (μ : MK) (pc : Nat) : Prop := ∀ x ∈ tableOf (khh μ), covers x pc = false
def Ext (γ : GG) (μ : MK) (p : Program) (e : Env) (R : Room) (s : State) (m : MethodId) (args : Array Value) (below : List Frame) (meth : Method) (c : Code) (Q : Option Value → Wd → Prop) (X : String → Wd → Prop) (QM : State → Prop) : Prop :=
  (∀ (pc : Nat) (lsA : Array Slot) (H : Heap) (locs : List Loc) (w : Wd) (r : Option Value), Dyn γ w s H locs → Q r w → RetI μ pc r → W p (gl γ) e R s m args below meth c H locs (cwn γ w s) (swn γ w s) QM (F0 m pc lsA (r.toList.map (cv γ)))) ∧
  (∀ (pc : Nat) (lsA : Array Slot) (rest : List Value) (H : Heap) (locs : List Loc) (w : Wd) (E : String) (q : Addr) (ce : Cell), Dyn γ w s H locs → X E w → covN μ pc → H[q]? = some ce → ce.vm = .none → s.vm.findClass E = some ce.cls → vx_W p (gl γ) e R s m args below meth c H locs (cwn γ w s) (swn γ w s) QM (F0 m pc lsA rest) q)
/-- THE JUDGEMENT: from here the method comes to its end with Q, or leaves with X -/
def Rch (γ : GG) (d : Nat) (μ : MK) (pc : Nat) (ls : List (Option Value)) (st : List Value) (w : Wd) (Q : Option Value → Wd → Prop) (X : String → Wd → Prop) : Prop :=
  ∀ (p : Program) (e : Env) (R : Room) (s : State) (m : MethodId) (args : Array Value) (below : List Frame) (meth : Method) (c : Code) (QM : State → Prop),
    Ctx γ d μ p R s m args meth c → Ext γ μ p e R s m args below meth c Q X QM →
    ∀ (H : Heap) (locs : List Loc) (lsA : Array Slot), Dyn γ w s H locs → lk γ (knL μ) lsA ls →
      W p (gl γ) e R s m args below meth c H locs (cwn γ w s) (swn γ w s) QM (F0 m pc lsA (st.map (cv γ)))
theorem stand_sl {p : Program} {l : Launch} {e : Env} {R : Room} {s : State} {m : MethodId} {args : Array Value} {below : List Frame} {meth : Method} {c : Code} {T : State} {locs : List Loc} {cells slots : Nat} (X : Stand p l e R s m args below meth c T locs cells slots) :
    slT T.heap ≤ slT s.heap + slots ∧ slT s.heap ≤ slT T.heap ∧ ((T.heap.toList.drop s.heap.size).map (·.slots.size)).sum = slT T.heap - slT s.heap := by
  have h1 : T.slotsUsed = slT T.heap := by
    have := X.book
    simpa [State.slotsTrue, slT] using this
  have h0 : s.slotsUsed = slT s.heap := by
    have h := X.room
    simp only [State.hasRoom, Bool.and_eq_true] at h
    have := h.2
    simpa [State.slotsTrue, slT] using this
  have h2 := X.used
  have h3 : T.slotsUsed = s.slotsUsed + ((T.heap.toList.drop s.heap.size).map (·.slots.size)).sum := X.same.2.2.2.1
  omega
theorem stand_set {p : Program} {l : Launch} {e : Env} {R : Room} {s : State} {m : MethodId} {args : Array Value} {below : List Frame} {meth : Method} {c : Code} {T : State} {locs : List Loc} {cells slots k n : Nat} (X : Stand p l e R s m args below meth c T locs cells slots) (h1 : T.heap.size ≤ s.heap.size + k) (h2 : slT T.heap ≤ slT s.heap + n) : Stand p l e R s m args below meth c T locs k n := by
  obtain ⟨-, -, h5⟩ := stand_sl X
  have h3 := X.same
  refine { X with same := ⟨h3.1, h3.2.1, h1, h3.2.2.2.1, ?_, h3.2.2.2.2.2⟩ }
  show ((T.heap.toList.drop s.heap.size).map (·.slots.size)).sum ≤ n
  rw [h5]
  omega
