set_option maxRecDepth 100000
section CALLU
variable {γ : GG} {d d' : Nat} {μ : MK} {pc : Nat} {ls : List (Option Value)} {st0 st as : List Value} {w : Wd} {Q Qc : Option Value → Wd → Prop} {X Xc : String → Wd → Prop} {x y : MethodName} {b : ByteArray} {L : Nat} {r : Option FieldType} {idx i n : Nat}
/-- a call by an abstract method's name -/
theorem Rch.callU {C owner : String} (hM : Ctr γ d' y (ws_ y b L r) (.ref i :: as) w Qc Xc) (hd : decode (kc μ) pc = .ok (.invokevirtual idx, 3)) (hw : GoodIn lw_all (va_wsU (kown μ) idx C owner x y (ws_ y b L r))) (hz : Cond.declares ⟨owner, x.name, x.desc⟩ ∈ nestD) (hn : owner ≠ "java/lang/invoke/MethodHandle" ∧ owner ≠ "java/lang/invoke/VarHandle" ∧ (parseMethodDescriptor x.desc).map (fun d => d.parameters.length) = some n) (hr : RcO γ w i C) (hdd : d' < d) (hL : L ≤ 21) (hna : as.length = n) (hst : st0 = as.reverse ++ .ref i :: st) (hrm : (st.map fun v => v.category).sum ≤ 8)
    (kk : ∀ r w', Qc r w' → Rch γ d μ (pc + 3) ls (r.toList ++ st) w' Q X) (kx : ∀ E w', Xc E w' → RchX γ d μ pc ls w' E Q X) : Rch γ d μ pc ls st0 w Q X := by
  refine Rch.run (st := st) (Qc := Qc) (Xc := Xc) ?_ kk kx
  intro p e R s m args below meth c H locs lsA k n' hC hD hl hU h1 h2 h3 h4
  obtain ⟨hx, hb, hml, hret, hlk, hown, hts, hfr, hlo, hce, hsl, htab, hnm, hSt, -⟩ := hC
  refine ⟨(Value.ref (gad γ i) :: as.map (cv γ)).toArray, ?_⟩
  have hnw := hSt.2.2.2.2.2.2.1 _ (List.mem_append_right _ (List.mem_append_right _ (List.mem_append_right _ hz)))
  exact vx_runU (As := as.map (cv γ)) (rest := st.map (cv γ)) (g := F0 m pc lsA (st0.map (cv γ))) ⟨hx, hb, hml, hown, hts⟩ (hM H.size (slT H)) (va_cwA n hts hw rfl rfl rfl hnw hn ⟨by show d' + 1 ≤ _; omega, by show 8 + (L + 11) + 40 * d' ≤ _; omega⟩)
    ⟨Ctr.blind, hr s H locs hSt hD, fun U hH hW => ⟨rfl, (hU U hH hW).1, (hU U hH hW).2 (by rw [hH]; exact h3) (by rw [hH]; exact h4), by rw [hH], by rw [hH]⟩⟩ rfl (by rw [List.length_map]; exact hna) (lk_size hl) (by rw [hst]; simp [cv]) (lv_room (by rw [cv_rest]; exact hrm)) hd ⟨h1, h2⟩
end CALLU
/-- the words of an abstract call -/
theorem lw_U {own : String} {idx : Nat} {C owner : String} {x y : MethodName} {b : ByteArray} {L : Nat} {r : Option FieldType} (h1 : Cond.methodLink own idx x ∈ lw_all) (h2 : Cond.sameMethod x.cls owner x.name x.desc ∈ lw_all) (h3 : Cond.selects C x y ∈ lw_all) (h4 : Cond.instanceMethod y ∈ lw_all) (h5 : Cond.initialized y.cls ∈ lw_all) (h6 : Cond.code y b L r ∈ lw_all) : GoodIn lw_all (va_wsU own idx C owner x y (ws_ y b L r)) := by
  refine lw_app ?_ (lw_meth h6)
  intro w hw
  simp only [List.mem_cons, List.not_mem_nil, or_false] at hw
  rcases hw with e | e | e | e | e
  · rw [e]; exact h1
  · rw [e]; exact h2
  · rw [e]; exact h3
  · rw [e]; exact h4
  · rw [e]; exact h5
theorem Ctr.mono {γ : GG} {d : Nat} {y : MethodName} {ws : List Cond} {as : List Value} {w : Wd} {Q Q' : Option Value → Wd → Prop} {X X' : String → Wd → Prop} (h : Ctr γ d y ws as w Q X) (hQ : ∀ r w', Q r w' → Q' r w') (hX : ∀ E w', X E w' → X' E w') : Ctr γ d y ws as w Q' X' := by
  intro z sl p e ha hc hk s m args below hf happ hP hT
  obtain ⟨k, o, h1, h2, h3, h4⟩ := h z sl p e ha hc hk s m args below hf happ hP hT
  refine ⟨k, o, h1, h2, h3, ?_⟩
  rcases h4 with ⟨⟨⟨r, w', e1, e2, e3⟩, e4⟩, e5⟩ | ⟨q, e1, E, ce, L, ⟨⟨w', e2, e3⟩, e4⟩, e5⟩
  · exact Or.inl ⟨⟨⟨r, w', e1, hQ r w' e2, e3⟩, e4⟩, e5⟩
  · exact Or.inr ⟨q, e1, E, ce, L, ⟨⟨w', hX E w' e2, e3⟩, e4⟩, e5⟩
