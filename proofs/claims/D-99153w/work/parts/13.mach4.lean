set_option maxRecDepth 100000
/-- thrown here: E, with this world -/
def RchX (γ : GG) (d : Nat) (μ : MK) (pc : Nat) (ls : List (Option Value)) (w : Wd) (E : String) (Q : Option Value → Wd → Prop) (X : String → Wd → Prop) : Prop :=
  ∀ (p : Program) (e : Env) (R : Room) (s : State) (m : MethodId) (args : Array Value) (below : List Frame) (meth : Method) (c : Code) (QM : State → Prop),
    Ctx γ d μ p R s m args meth c → Ext γ μ p e R s m args below meth c Q X QM →
    ∀ (H : Heap) (locs : List Loc) (lsA : Array Slot) (rest : List Value) (q : Addr) (ce : Cell), Dyn γ w s H locs → lk γ (knL μ) lsA ls → H[q]? = some ce → ce.vm = .none → s.vm.findClass E = some ce.cls →
      vx_W p (gl γ) e R s m args below meth c H locs (cwn γ w s) (swn γ w s) QM (F0 m pc lsA rest) q
theorem RchX.out {γ : GG} {d : Nat} {μ : MK} {pc : Nat} {ls : List (Option Value)} {w : Wd} {E : String} {Q : Option Value → Wd → Prop} {X : String → Wd → Prop} (hc : covN μ pc) (h : X E w) : RchX γ d μ pc ls w E Q X :=
  fun _ _ _ _ _ _ _ _ _ _ _ hE H locs lsA rest q ce hD _ h1 h2 h3 => hE.2 pc lsA rest H locs w E q ce hD h hc h1 h2 h3
theorem Rch.ret {γ : GG} {d : Nat} {μ : MK} {pc : Nat} {ls : List (Option Value)} {w : Wd} {Q : Option Value → Wd → Prop} {X : String → Wd → Prop} (r : Option Value) (hr : RetI μ pc r) (h : Q r w) : Rch γ d μ pc ls r.toList w Q X := by
  intro p e R s m args below meth c QM hC hE H locs lsA hD hl
  exact hE.1 pc lsA H locs w r hD h hr
theorem Ext.of {γ : GG} {μ : MK} {p : Program} {e : Env} {R : Room} {s : State} {m : MethodId} {args : Array Value} {below : List Frame} {meth : Method} {c : Code} {d : Nat} {Q : Option Value → Wd → Prop} {X : String → Wd → Prop} (hC : Ctx γ d μ p R s m args meth c) :
    Ext γ μ p e R s m args below meth c Q X (vx_MQ below (fun _ st oc t => (∃ r w', oc = .returned (r.map (cv γ)) ∧ Q r w' ∧ Wok γ w' t) ∧ va_F (gW γ) st t)
    (fun E st t => (∃ w', X E w' ∧ Wok γ w' t) ∧ va_F (gW γ) st t) args s (gsz0 γ + CM - s.heap.size) (gsl0 γ + 8 * CM - slT s.heap) (gW γ)) := by
  obtain ⟨hx, hb, hml, hret, hlk, hown, hts, hfr, hlo, hce, hsl, htab, hnm, hSt, -⟩ := hC
  constructor
  · intro pc lsA H locs w r hD hq hr T hT Xs
    obtain ⟨hK, hS, hz, hz2, hz3⟩ := hD
    have hsz := Xs.heapSize
    have hss := (stand_sl Xs).1
    have hwok : ∀ t : State, t.heap = H → Wok γ w t := fun t ht => by
      refine ⟨?_, hz, ?_, ?_⟩
      · rw [ht]; exact hK
      · rw [ht, ← hT]; simp only [cwn] at hsz; omega
      · rw [ht, ← hT]; simp only [swn] at hss; omega
    have hw1 : cwn γ w s ≤ gsz0 γ + CM - s.heap.size := by simp only [cwn]; omega
    have hw2 : swn γ w s ≤ gsl0 γ + 8 * CM - slT s.heap := by simp only [swn]; omega
    have hqc : ∀ t : State, t.heap = H → s.WarmedH t.vm → ((∃ r' w', Outcome.returned (r.map (cv γ)) = .returned (Option.map (cv γ) r') ∧ Q r' w' ∧ Wok γ w' t) ∧ va_F (gW γ) s t) := fun t ht _ => ⟨⟨r, w, rfl, hq, hwok t ht⟩, hS.F ht⟩
    rcases hr with ⟨hd, v, ty, rfl, h1, h2⟩ | ⟨hd, v, rfl, h1⟩ | ⟨hd, i, n, rfl, h1⟩ | ⟨hd, rfl, h1⟩
    · exact vx_ret (W.widen hw1 hw2 (W.zret (v := v) (ty := ty) hx hb (hret.trans h1) h2 hqc hS.2.2 hd hlk)) T hT Xs
    · exact vx_ret (W.widen hw1 hw2 (W.lret (v := v) hx hb (hret.trans h1) hqc hS.2.2 hd hlk)) T hT Xs
    · exact vx_ret (W.widen hw1 hw2 (W.aret (v := .ref (gad γ i)) (rt := .object n) hx hb (hret.trans h1) (Or.inl ⟨n, rfl⟩) (Or.inr ⟨_, rfl⟩) hqc hS.2.2 hd hlk)) T hT Xs
    · exact vx_ret (W.widen hw1 hw2 (W.vret hx hb (hret.trans h1) hqc hS.2.2 hd hlk)) T hT Xs
  · intro pc lsA rest H locs w E q ce hD hq hcov h1 h2 h3 T hT Xs
    obtain ⟨hK, hS, hz, hz2, hz3⟩ := hD
    have hsz := Xs.heapSize
    have hss := (stand_sl Xs).1
    have hwok : ∀ t : State, t.heap = H → Wok γ w t := fun t ht => by
      refine ⟨?_, hz, ?_, ?_⟩
      · rw [ht]; exact hK
      · rw [ht, ← hT]; simp only [cwn] at hsz; omega
      · rw [ht, ← hT]; simp only [swn] at hss; omega
    have hw1 : cwn γ w s ≤ gsz0 γ + CM - s.heap.size := by simp only [cwn]; omega
    have hw2 : swn γ w s ≤ gsl0 γ + 8 * CM - slT s.heap := by simp only [swn]; omega
    exact vx_out (E := E) (ce := ce) (by rw [htab]; exact hcov) hlk h1 h2 h3 (fun t ht _ => ⟨⟨w, hq, hwok t ht⟩, hS.F ht⟩) hS.2.2 hw1 hw2 T hT Xs
theorem Ctr.body {γ : GG} {d : Nat} {μ : MK} {y : MethodName} {ws : List Cond} {as : List Value} {w : Wd} {Q : Option Value → Wd → Prop} {X : String → Wd → Prop} {z sl : Nat} {p : Program} {e : Env} {s : State} {m : MethodId} {args : Array Value} {below : List Frame} {meth : Method} {c : Code} {s₁ : State}
    (hown : kown μ = y.cls) (hnm : knm μ = y.name) (hws : ∀ w ∈ lw_all, w ∈ ws) (hlen : (lg_sl (as.map (cv γ))).length ≤ knL μ)
    (B : BodyLoose p (gl γ) y (headSpec ws (rmD d (gsz0 γ + CM - z) (gsl0 γ + 8 * CM - sl))) (kc μ) (knL μ) (kret μ) e s m args below meth c s₁) (hml : c.maxLocals = knL μ) (htab : c.exceptionTable.toList = tableOf (khh μ))
    (hp : va_Pc (as.map (cv γ)) (fun U => St γ U ∧ Wok γ w U ∧ U.heap.size = z ∧ slT U.heap = sl) args s)
    (h : ∃ k : Nat, Rch γ d μ 0 (lva as ++ List.replicate k none) [] w Q X) :
    W p (gl γ) e (rmD d (gsz0 γ + CM - z) (gsl0 γ + 8 * CM - sl)) s m args below meth c s.heap [] 0 0 (vx_MQ below (fun _ st oc t => (∃ r w', oc = .returned (r.map (cv γ)) ∧ Q r w' ∧ Wok γ w' t) ∧ va_F (gW γ) st t)
      (fun E st t => (∃ w', X E w' ∧ Wok γ w' t) ∧ va_F (gW γ) st t) args s (gsz0 γ + CM - z) (gsl0 γ + 8 * CM - sl) (gW γ)) (entryFrame m args (knL μ)) := by
  obtain ⟨rfl, hSt, ⟨hK, hz, hz2, hz3⟩, rfl, rfl⟩ := hp
  obtain ⟨k, h⟩ := h
  have hts := atoms_spec (ws := ws) B.pre
  have hC : Ctx γ d μ p (rmD d (gsz0 γ + CM - s.heap.size) (gsl0 γ + 8 * CM - slT s.heap)) s m (as.map (cv γ)).toArray meth c :=
    ⟨B.exec, B.bytes, hml, B.returns, B.notSynchronized, by rw [hown]; exact findClass_of_methodNamed B.named, fun w hw => hts w (hws w hw), Nat.le_refl _, Nat.le_refl _, Nat.le_refl _, Nat.le_refl _, htab, by rw [hnm]; exact (name_of_methodNamed B.named B.method).1, hSt, by omega⟩
  rw [lg_entry_eq]
  have hl := lv_entry (as.map (cv γ)) (n := knL μ) hlen
  refine W.widen (Nat.zero_le _) (Nat.zero_le _) (h p e _ s m _ below meth c _ hC (Ext.of hC) s.heap [] _ ⟨hK, va_S.rf, hz, hz2, hz3⟩ ?_)
  show lv_has _ _ (lvl γ 0 _)
  rw [lva_args]
  exact hl
theorem Ctr.of {γ : GG} {d : Nat} {μ : MK} {y : MethodName} {as : List Value} {w : Wd} {Q : Option Value → Wd → Prop} {X : String → Wd → Prop} (hy : plainName y.cls = true) (hown : kown μ = y.cls) (hnm : knm μ = y.name) (hh : khh μ = []) (hlen : (lg_sl (as.map (cv γ))).length ≤ knL μ)
    (h : ∃ k : Nat, Rch γ d μ 0 (lva as ++ List.replicate k none) [] w Q X) : Ctr γ d y (ws_ y (kc μ) (knL μ) (kret μ)) as w Q X := by
  intro z sl
  refine vx_ofW (cc := kc μ) (maxL := knL μ) (ret := kret μ) hy rfl ?_
  intro p e s m args below meth c s₁ B hml ht hp
  refine Ctr.body hown hnm (fun w hw => List.mem_cons_of_mem _ hw) hlen B hml ?_ hp h
  rw [hh]
  cases hl : c.exceptionTable.toList with
  | nil => rfl
  | cons a l => exact (ht a (by rw [hl]; exact List.mem_cons_self)).elim
theorem Ctr.ofH {γ : GG} {d : Nat} {μ : MK} {y : MethodName} {as : List Value} {w : Wd} {Q : Option Value → Wd → Prop} {X : String → Wd → Prop} (hy : plainName y.cls = true) (hown : kown μ = y.cls) (hnm : knm μ = y.name) (hlen : (lg_sl (as.map (cv γ))).length ≤ knL μ)
    (h : ∃ k : Nat, Rch γ d μ 0 (lva as ++ List.replicate k none) [] w Q X) : Ctr γ d y (wsW_ y (kc μ) (knL μ) (kret μ) (khh μ)) as w Q X := by
  intro z sl
  refine vx_ofWH (cc := kc μ) (maxL := knL μ) (ret := kret μ) (hh := khh μ) hy rfl ?_
  intro p e s m args below meth c s₁ B hml hp
  exact Ctr.body hown hnm (fun w hw => List.mem_cons_of_mem _ hw) hlen B hml (vx_table (x := y) B (atoms_spec (ws := wsW_ y (kc μ) (knL μ) (kret μ) (khh μ)) B.pre _ List.mem_cons_self)) hp h
theorem Ctr.blind {γ : GG} {w : Wd} {z sl : Nat} {av : List Value} : FrameBlind (va_Pc av (fun U => St γ U ∧ Wok γ w U ∧ U.heap.size = z ∧ slT U.heap = sl)) := by
  intro a U g mk ⟨h1, h2, h3, h4, h5⟩
  refine ⟨h1, ?_, h3, h4, h5⟩
  exact St.call (U := U.calling g mk a) (H := U.heap) (locs := []) h2 rfl (State.WarmedH.refl U) va_S.rf
/-- behind a callee -/
theorem Rch.run {γ : GG} {d : Nat} {μ : MK} {pc : Nat} {ls : List (Option Value)} {st0 st : List Value} {w : Wd} {Q Qc : Option Value → Wd → Prop} {X Xc : String → Wd → Prop}
    (hr : ∀ (p : Program) (e : Env) (R : Room) (s : State) (m : MethodId) (args : Array Value) (below : List Frame) (meth : Method) (c : Code) (H : Heap) (locs : List Loc) (lsA : Array Slot) (k n : Nat), Ctx γ d μ p R s m args meth c → Dyn γ w s H locs → lk γ (knL μ) lsA ls →
      (∀ U : State, U.heap = H → s.WarmedH U.vm → St γ U ∧ (U.heap.size ≤ gsz0 γ + gZ w → slT U.heap ≤ gsl0 γ + 8 * gZ w → Wok γ w U)) → k + (gsz0 γ + CM - H.size) ≤ R.cells → n + (gsl0 γ + 8 * CM - slT H) ≤ R.slots → H.size ≤ gsz0 γ + gZ w → slT H ≤ gsl0 γ + 8 * gZ w →
      ∃ a : Array Value, vx_Run p (gl γ) e R s m args below meth c H locs k n (gsz0 γ + CM - H.size) (gsl0 γ + 8 * CM - slT H) (F0 m pc lsA (st0.map (cv γ))) (st.map (cv γ)) ((fun _ st oc t => (∃ r w', oc = .returned (r.map (cv γ)) ∧ Qc r w' ∧ Wok γ w' t) ∧ va_F (gW γ) st t) a)
        (fun E st t => (∃ w', Xc E w' ∧ Wok γ w' t) ∧ va_F (gW γ) st t) (gW γ))
    (kk : ∀ r w', Qc r w' → Rch γ d μ (pc + 3) ls (r.toList ++ st) w' Q X) (kx : ∀ E w', Xc E w' → RchX γ d μ pc ls w' E Q X) : Rch γ d μ pc ls st0 w Q X := by
  intro p e R s m args below meth c QM hC hE H locs lsA hD hl T hT Xs
  have hsz := Xs.heapSize
  obtain ⟨hs1, hs2, -⟩ := stand_sl Xs
  obtain ⟨hK, hS, hz, hz2, hz3⟩ := hD
  have hgrow : s.heap.size ≤ H.size := hS.1
  rw [hT] at hsz hs1 hs2
  simp only [cwn] at hsz
  simp only [swn] at hs1
  have hc2 := hC.2.2.2.2.2.2.2.2.2.1
  have hc3 := hC.2.2.2.2.2.2.2.2.2.2.1
  have X1 : Stand p (gl γ) e R s m args below meth c T locs (H.size - s.heap.size) (slT H - slT s.heap) := stand_set Xs (by rw [hT]; omega) (by rw [hT]; omega)
  obtain ⟨a, hrun⟩ := hr p e R s m args below meth c H locs lsA (H.size - s.heap.size) (slT H - slT s.heap) hC ⟨hK, hS, hz, hz2, hz3⟩ hl
    (fun U hU hW => ⟨hC.2.2.2.2.2.2.2.2.2.2.2.2.2.1.call hU hW hS, fun h1 h2 => ⟨by rw [hU]; exact hK, hz, h1, h2⟩⟩) (by omega) (by omega) (by omega) (by omega)
  rcases hrun T hT X1 with ⟨v, st₀, t, T', L, h0, X2, hL, e1, e2, ⟨⟨r, w', hv, hq, ⟨hK', hz', hz2', hz3'⟩⟩, hF⟩, stp⟩ | ⟨q, st₀, t, T', L, E, ce, h0, X2, hL, e1, e2, ⟨⟨w', hq, ⟨hK', hz', hz2', hz3'⟩⟩, hF⟩, hce, hcv, hcl, stp⟩
  · cases hv
    obtain ⟨k1, k2, k3⟩ := vx_keep h0 e1 hS (fun _ _ h => h) (fun _ h => h) hL hF
    have hD' : Dyn γ w' s T'.heap (locs ++ L) := ⟨by rw [e1]; exact hK', k3, hz', by rw [e1] at k1; omega, by
      have := (stand_sl X2).2.1
      rw [e1] at this
      omega⟩
    have X3 : Stand p (gl γ) e R s m args below meth c T' (locs ++ L) (cwn γ w' s) (swn γ w' s) := stand_set X2 (by rw [e1]; simp only [cwn]; omega) (by rw [e1]; simp only [swn]; omega)
    obtain ⟨t2, a1, b1⟩ := kk r w' hq p e R s m args below meth c QM hC hE T'.heap (locs ++ L) lsA hD' hl T' rfl X3
    refine ⟨t2, stp t2 ?_, b1⟩
    have es : (r.toList ++ st).map (cv γ) = (r.map (cv γ)).toList ++ st.map (cv γ) := by cases r <;> rfl
    rw [es] at a1
    exact a1
  · obtain ⟨k1, k2, k3⟩ := vx_keep h0 e1 hS (fun _ _ h => h) (fun _ h => h) hL hF
    have hD' : Dyn γ w' s T'.heap (locs ++ L) := ⟨by rw [e1]; exact hK', k3, hz', by rw [e1] at k1; omega, by
      have := (stand_sl X2).2.1
      rw [e1] at this
      omega⟩
    have X3 : Stand p (gl γ) e R s m args below meth c T' (locs ++ L) (cwn γ w' s) (swn γ w' s) := stand_set X2 (by rw [e1]; simp only [cwn]; omega) (by rw [e1]; simp only [swn]; omega)
    obtain ⟨t2, a1, b1⟩ := kx E w' hq p e R s m args below meth c QM hC hE T'.heap (locs ++ L) lsA (st.map (cv γ)) q ce hD' hl (by rw [e1]; exact hce) hcv hcl T' rfl X3
    exact ⟨t2, stp.trans a1, b1⟩
/-- the receiver's class -/
def RcO (γ : GG) (w : Wd) (i : Nat) (C : String) : Prop := ∀ (s : State) (H : Heap) (locs : List Loc), St γ s → Dyn γ w s H locs → ∃ cell : Cell, H[gad γ i]? = some cell ∧ cell.vm.isStatics = false ∧ s.vm.findClass C = some cell.cls
theorem rcX {γ : GG} {w : Wd} : RcO γ w 1 "FrostBox" := fun s H locs hSt hD => by
  obtain ⟨⟨K, -, hP, -⟩, -⟩ := hD
  exact va_recv (q := (RX1, TX1, 42)) hSt.1 hP (ci := 0) (q0 := 0) rfl rfl
theorem rcM {γ : GG} {w : Wd} : RcO γ w 2 "FrostBoxModel" := fun s H locs hSt hD => by
  obtain ⟨⟨K, -, hP, -⟩, -⟩ := hD
  exact va_recv (q := (RX3, TX3, 56)) hSt.1 hP (ci := 1) (q0 := 1) rfl rfl
theorem rcS {γ : GG} {w : Wd} (i : Nat) (hi : i < 6) : RcO γ w (120 + i) "java/lang/String" := fun s H locs hSt hD => vk_recv (adK := fun i => gad γ (120 + i)) (i := i) hSt.2.1 hi hD.2.1
/-- where a node lies among the cells -/
theorem nd_at {γ : GG} {w : Wd} {K : List Nat} {r ci : Nat} {fs : List Value} (hk : ∀ r n, gF w r = some n → 200 ≤ r ∧ r - 200 ∈ K) (h : gF w r = some (ci, fs)) : ∃ j : Nat, (cells γ w K)[j]? = some (gad γ r, .inr (ci, fs.map (cv γ))) ∧ 50 < j ∧ K[j - (fixL γ w).length]? = some (r - 200) := by
  obtain ⟨h1, h2⟩ := hk r _ h
  obtain ⟨j, hj⟩ := List.getElem?_of_mem h2
  refine ⟨(fixL γ w).length + j, ?_, ?_, ?_⟩
  · unfold cells
    rw [List.getElem?_append_right (Nat.le_add_right _ _), Nat.add_sub_cancel_left]
    unfold nds
    rw [List.getElem?_map, hj]
    have e1 : 200 + (r - 200) = r := by omega
    have e2 : gad γ r = r - 200 := by unfold gad; rw [if_neg (by omega)]
    simp only [Option.map_some, e1, h, e2]
  · rw [fixL_len]; omega
  · rw [Nat.add_sub_cancel_left]; exact hj
theorem rcN {γ : GG} {w : Wd} {r ci N : Nat} {fs : List Value} {C : String} {T : u_T} (h : gF w r = some (ci, fs)) (hc : vwCl[ci]? = some (C, T, N)) : RcO γ w r C := fun s H locs hSt hD => by
  obtain ⟨⟨K, hk, hP, -⟩, -⟩ := hD
  obtain ⟨j, hj, -⟩ := nd_at (γ := γ) hk h
  exact va_recv (q := (C, T, N)) hSt.1 hP hc hj
abbrev DescOk (y : MethodName) (n : Nat) : Prop := y.cls ≠ "java/lang/invoke/MethodHandle" ∧ y.cls ≠ "java/lang/invoke/VarHandle" ∧ (parseMethodDescriptor y.desc).map (fun d => d.parameters.length) = some n
section CALLS
variable {γ : GG} {d d' : Nat} {μ : MK} {pc : Nat} {ls : List (Option Value)} {st0 st as : List Value} {w : Wd} {Q Qc : Option Value → Wd → Prop} {X Xc : String → Wd → Prop} {y : MethodName} {b : ByteArray} {L : Nat} {r : Option FieldType} {idx i n : Nat}
theorem lk_size {γ : GG} {n : Nat} {lsA : Array Slot} {ls : List (Option Value)} (h : lk γ n lsA ls) : lsA.size = n := h.1
/-- invokevirtual of a method of the receiver's own class -/
theorem Rch.callv (hM : Ctr γ d' y (ws_ y b L r) (.ref i :: as) w Qc Xc) (hd : decode (kc μ) pc = .ok (.invokevirtual idx, 3)) (hw : GoodIn lw_all (wsV (kown μ) idx y.cls y (ws_ y b L r))) (hn : DescOk y n) (hr : RcO γ w i y.cls) (hdd : d' < d) (hL : L ≤ 21) (hna : as.length = n) (hst : st0 = as.reverse ++ .ref i :: st) (hrm : (st.map fun v => v.category).sum ≤ 8)
    (kk : ∀ r w', Qc r w' → Rch γ d μ (pc + 3) ls (r.toList ++ st) w' Q X) (kx : ∀ E w', Xc E w' → RchX γ d μ pc ls w' E Q X) : Rch γ d μ pc ls st0 w Q X := by
  refine Rch.run (st := st) (Qc := Qc) (Xc := Xc) ?_ kk kx
  intro p e R s m args below meth c H locs lsA k n' hC hD hl hU h1 h2 h3 h4
  obtain ⟨hx, hb, hml, hret, hlk, hown, hts, hfr, hlo, hce, hsl, htab, hnm, hSt, -⟩ := hC
  refine ⟨(Value.ref (gad γ i) :: as.map (cv γ)).toArray, ?_⟩
  exact vx_runV (As := as.map (cv γ)) (rest := st.map (cv γ)) (g := F0 m pc lsA (st0.map (cv γ))) ⟨hx, hb, hml, hown, hts⟩ (hM H.size (slT H)) (cwV n hts hw rfl rfl rfl ⟨rfl, hn⟩ ⟨by show d' + 1 ≤ _; omega, by show 8 + (L + 11) + 40 * d' ≤ _; omega⟩)
    ⟨Ctr.blind, hr s H locs hSt hD, fun U hH hW => ⟨rfl, (hU U hH hW).1, (hU U hH hW).2 (by rw [hH]; exact h3) (by rw [hH]; exact h4), by rw [hH], by rw [hH]⟩⟩ rfl (by rw [List.length_map]; exact hna) (lk_size hl) (by rw [hst]; simp [cv]) (lv_room (by rw [cv_rest]; exact hrm)) hd ⟨h1, h2⟩
/-- .. with handlers -/
theorem Rch.callvH {hh : List (Nat × Nat × Nat × Nat)} (hM : Ctr γ d' y (wsW_ y b L r hh) (.ref i :: as) w Qc Xc) (hd : decode (kc μ) pc = .ok (.invokevirtual idx, 3)) (hw : GoodIn lw_all (wsV (kown μ) idx y.cls y (wsW_ y b L r hh))) (hn : DescOk y n) (hr : RcO γ w i y.cls) (hdd : d' < d) (hL : L ≤ 21) (hna : as.length = n) (hst : st0 = as.reverse ++ .ref i :: st) (hrm : (st.map fun v => v.category).sum ≤ 8)
    (kk : ∀ r w', Qc r w' → Rch γ d μ (pc + 3) ls (r.toList ++ st) w' Q X) (kx : ∀ E w', Xc E w' → RchX γ d μ pc ls w' E Q X) : Rch γ d μ pc ls st0 w Q X := by
  refine Rch.run (st := st) (Qc := Qc) (Xc := Xc) ?_ kk kx
  intro p e R s m args below meth c H locs lsA k n' hC hD hl hU h1 h2 h3 h4
  obtain ⟨hx, hb, hml, hret, hlk, hown, hts, hfr, hlo, hce, hsl, htab, hnm, hSt, -⟩ := hC
  refine ⟨(Value.ref (gad γ i) :: as.map (cv γ)).toArray, ?_⟩
  exact vx_runVX (As := as.map (cv γ)) (rest := st.map (cv γ)) (g := F0 m pc lsA (st0.map (cv γ))) ⟨hx, hb, hml, hown, hts⟩ (hM H.size (slT H)) (vx_cwVW n hts hw rfl rfl rfl ⟨rfl, hn⟩ ⟨by show d' + 1 ≤ _; omega, by show 8 + (L + 11) + 40 * d' ≤ _; omega⟩)
    ⟨Ctr.blind, hr s H locs hSt hD, fun U hH hW => ⟨rfl, (hU U hH hW).1, (hU U hH hW).2 (by rw [hH]; exact h3) (by rw [hH]; exact h4), by rw [hH], by rw [hH]⟩⟩ rfl (by rw [List.length_map]; exact hna) (lk_size hl) (by rw [hst]; simp [cv]) (lv_room (by rw [cv_rest]; exact hrm)) hd ⟨h1, h2⟩
/-- invokestatic -/
theorem Rch.calls (hM : Ctr γ d' y (ws_ y b L r) as w Qc Xc) (hd : decode (kc μ) pc = .ok (.invokestatic idx, 3)) (hw : GoodIn lw_all (va_wsS (kown μ) idx y (ws_ y b L r))) (hn : DescOk y n) (hdd : d' < d) (hL : L ≤ 21) (hna : as.length = n) (hst : st0 = as.reverse ++ st) (hrm : (st.map fun v => v.category).sum ≤ 8)
    (kk : ∀ r w', Qc r w' → Rch γ d μ (pc + 3) ls (r.toList ++ st) w' Q X) (kx : ∀ E w', Xc E w' → RchX γ d μ pc ls w' E Q X) : Rch γ d μ pc ls st0 w Q X := by
  refine Rch.run (st := st) (Qc := Qc) (Xc := Xc) ?_ kk kx
  intro p e R s m args below meth c H locs lsA k n' hC hD hl hU h1 h2 h3 h4
  obtain ⟨hx, hb, hml, hret, hlk, hown, hts, hfr, hlo, hce, hsl, htab, hnm, hSt, -⟩ := hC
  refine ⟨(as.map (cv γ)).toArray, ?_⟩
  exact vx_runS (As := as.map (cv γ)) (rest := st.map (cv γ)) (g := F0 m pc lsA (st0.map (cv γ))) ⟨hx, hb, hml, hown, hts⟩ (hM H.size (slT H)) (va_cwS n hts hw rfl rfl rfl hn ⟨by show d' + 1 ≤ _; omega, by show 8 + (L + 11) + 40 * d' ≤ _; omega⟩)
    ⟨Ctr.blind, fun U hH hW => ⟨rfl, (hU U hH hW).1, (hU U hH hW).2 (by rw [hH]; exact h3) (by rw [hH]; exact h4), by rw [hH], by rw [hH]⟩⟩ rfl (by rw [List.length_map]; exact hna) (lk_size hl) (by rw [hst]; simp) (lv_room (by rw [cv_rest]; exact hrm)) hd ⟨h1, h2⟩
/-- .. with handlers -/
theorem Rch.callsH {hh : List (Nat × Nat × Nat × Nat)} (hM : Ctr γ d' y (wsW_ y b L r hh) as w Qc Xc) (hd : decode (kc μ) pc = .ok (.invokestatic idx, 3)) (hw : GoodIn lw_all (va_wsS (kown μ) idx y (wsW_ y b L r hh))) (hn : DescOk y n) (hdd : d' < d) (hL : L ≤ 21) (hna : as.length = n) (hst : st0 = as.reverse ++ st) (hrm : (st.map fun v => v.category).sum ≤ 8)
    (kk : ∀ r w', Qc r w' → Rch γ d μ (pc + 3) ls (r.toList ++ st) w' Q X) (kx : ∀ E w', Xc E w' → RchX γ d μ pc ls w' E Q X) : Rch γ d μ pc ls st0 w Q X := by
  refine Rch.run (st := st) (Qc := Qc) (Xc := Xc) ?_ kk kx
  intro p e R s m args below meth c H locs lsA k n' hC hD hl hU h1 h2 h3 h4
  obtain ⟨hx, hb, hml, hret, hlk, hown, hts, hfr, hlo, hce, hsl, htab, hnm, hSt, -⟩ := hC
  refine ⟨(as.map (cv γ)).toArray, ?_⟩
  exact vx_runSX (As := as.map (cv γ)) (rest := st.map (cv γ)) (g := F0 m pc lsA (st0.map (cv γ))) ⟨hx, hb, hml, hown, hts⟩ (hM H.size (slT H)) (vx_cwSW n hts hw rfl rfl rfl hn ⟨by show d' + 1 ≤ _; omega, by show 8 + (L + 11) + 40 * d' ≤ _; omega⟩)
    ⟨Ctr.blind, fun U hH hW => ⟨rfl, (hU U hH hW).1, (hU U hH hW).2 (by rw [hH]; exact h3) (by rw [hH]; exact h4), by rw [hH], by rw [hH]⟩⟩ rfl (by rw [List.length_map]; exact hna) (lk_size hl) (by rw [hst]; simp) (lv_room (by rw [cv_rest]; exact hrm)) hd ⟨h1, h2⟩
/-- a constructor -/
theorem Rch.callI (hM : Ctr γ d' y (ws_ y b L none) (.ref i :: as) w Qc Xc) (hd : decode (kc μ) pc = .ok (.invokespecial idx, 3)) (hw : GoodIn lw_all (ws_ y b L none)) (hini : Cond.initialized y.cls ∈ lw_all) (hl0 : Cond.methodLink (kown μ) idx y ∈ lw_all) (hin : Cond.instanceMethod y ∈ lw_all) (hy1 : y.name = "<init>") (hn : DescOk y n) (hdd : d' < d) (hL : L ≤ 21) (hna : as.length = n) (hst : st0 = as.reverse ++ .ref i :: st) (hrm : (st.map fun v => v.category).sum ≤ 8)
    (kk : ∀ r w', Qc r w' → Rch γ d μ (pc + 3) ls (r.toList ++ st) w' Q X) (kx : ∀ E w', Xc E w' → RchX γ d μ pc ls w' E Q X) : Rch γ d μ pc ls st0 w Q X := by
  refine Rch.run (st := st) (Qc := Qc) (Xc := Xc) ?_ kk kx
  intro p e R s m args below meth c H locs lsA k n' hC hD hl hU h1 h2 h3 h4
  obtain ⟨hx, hb, hml, hret, hlk, hown, hts, hfr, hlo, hce, hsl, htab, hnm, hSt, -⟩ := hC
  refine ⟨(Value.ref (gad γ i) :: as.map (cv γ)).toArray, ?_⟩
  exact vx_runI (As := as.map (cv γ)) (rest := st.map (cv γ)) (g := F0 m pc lsA (st0.map (cv γ))) ⟨hx, hb, hml, hown, hts⟩ (hM H.size (slT H)) (cwI n hts hw rfl rfl rfl (hts _ hini) (hts _ hl0) (hts _ hin) hy1 hn ⟨by show d' + 1 ≤ _; omega, by show 8 + (L + 11) + 40 * d' ≤ _; omega⟩)
    ⟨Ctr.blind, fun U hH hW => ⟨rfl, (hU U hH hW).1, (hU U hH hW).2 (by rw [hH]; exact h3) (by rw [hH]; exact h4), by rw [hH], by rw [hH]⟩⟩ rfl (by rw [List.length_map]; exact hna) (lk_size hl) (by rw [hst]; simp [cv]) (lv_room (by rw [cv_rest]; exact hrm)) hd ⟨h1, h2⟩
/-- a nest mate's private constructor -/
theorem Rch.callIN {host : String} (hM : Ctr γ d' y (ws_ y b L none) (.ref i :: as) w Qc Xc) (hd : decode (kc μ) pc = .ok (.invokespecial idx, 3)) (hw : GoodIn lw_all (ws_ y b L none)) (hini : Cond.initialized y.cls ∈ lw_all) (hl0 : Cond.methodLinkNest (kown μ) idx y host ∈ nestM) (hin : Cond.instanceMethod y ∈ lw_all) (hy1 : y.name = "<init>") (hn : DescOk y n) (hdd : d' < d) (hL : L ≤ 21) (hna : as.length = n) (hst : st0 = as.reverse ++ .ref i :: st) (hrm : (st.map fun v => v.category).sum ≤ 8)
    (kk : ∀ r w', Qc r w' → Rch γ d μ (pc + 3) ls (r.toList ++ st) w' Q X) (kx : ∀ E w', Xc E w' → RchX γ d μ pc ls w' E Q X) : Rch γ d μ pc ls st0 w Q X := by
  refine Rch.run (st := st) (Qc := Qc) (Xc := Xc) ?_ kk kx
  intro p e R s m args below meth c H locs lsA k n' hC hD hl hU h1 h2 h3 h4
  obtain ⟨hx, hb, hml, hret, hlk, hown, hts, hfr, hlo, hce, hsl, htab, hnm, hSt, -⟩ := hC
  refine ⟨(Value.ref (gad γ i) :: as.map (cv γ)).toArray, ?_⟩
  have hnw := hSt.2.2.2.2.2.2.1 _ (List.mem_append_left _ hl0)
  exact vx_runIN (As := as.map (cv γ)) (rest := st.map (cv γ)) (g := F0 m pc lsA (st0.map (cv γ))) ⟨hx, hb, hml, hown, hts⟩ (hM H.size (slT H)) ⟨va_cnB n hts hw rfl rfl rfl hnw (hts _ hini) hn ⟨by show d' + 1 ≤ _; omega, by show 8 + (L + 11) + 40 * d' ≤ _; omega⟩, hy1, hts _ hin⟩
    ⟨Ctr.blind, fun U hH hW => ⟨rfl, (hU U hH hW).1, (hU U hH hW).2 (by rw [hH]; exact h3) (by rw [hH]; exact h4), by rw [hH], by rw [hH]⟩⟩ rfl (by rw [List.length_map]; exact hna) (lk_size hl) (by rw [hst]; simp [cv]) (lv_room (by rw [cv_rest]; exact hrm)) hd ⟨h1, h2⟩
end CALLS
