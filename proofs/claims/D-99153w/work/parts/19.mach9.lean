set_option maxRecDepth 100000
abbrev nseN : List String := ["java/lang/RuntimeException", "java/lang/Exception"]
theorem nse_good : ∀ w ∈ (vx_at0 "FrostBox" 398 "java/util/NoSuchElementException" nseN).filter goodWord, w ∈ lw_all := by
  have h : ((vx_at0 "FrostBox" 398 "java/util/NoSuchElementException" nseN).filter goodWord).all (fun w => lw_all.contains w) = true := by decide +kernel
  intro w hw
  have := List.all_eq_true.mp h w hw
  simpa using this
theorem nse_rest : ∀ w ∈ (vx_at0 "FrostBox" 398 "java/util/NoSuchElementException" nseN).filter (fun w => !goodWord w), w ∈ nestC ++ nestD := by
  have h : ((vx_at0 "FrostBox" 398 "java/util/NoSuchElementException" nseN).filter (fun w => !goodWord w)).all (fun w => (nestC ++ nestD).contains w) = true := by decide +kernel
  intro w hw
  have := List.all_eq_true.mp h w hw
  simpa using this
theorem nse_ot : ∀ w ∈ Cond.classLink "FrostBox" 396 "java/util/NoSuchElementException" :: Cond.initialized "java/util/NoSuchElementException" :: vx_at0 "FrostBox" 398 "java/util/NoSuchElementException" nseN, vx_ot w = true := by
  have h : (Cond.classLink "FrostBox" 396 "java/util/NoSuchElementException" :: Cond.initialized "java/util/NoSuchElementException" :: vx_at0 "FrostBox" 398 "java/util/NoSuchElementException" nseN).all vx_ot = true := by decide +kernel
  exact List.all_eq_true.mp h
theorem nest_tab : ∀ w ∈ nestC ++ nestD, w.onTables = true := by
  have h : (nestC ++ nestD).all (·.onTables) = true := by decide +kernel
  exact List.all_eq_true.mp h
theorem R.throwNSE {γ : GG} {d : Nat} {μ : MK} {pc : Nat} {ls : List (Option Value)} {w : Wd} {Q : Option Value → Wd → Prop} {X : String → Wd → Prop} (hZ : gZ w + 1 ≤ CM) (d0 : decode (kc μ) pc = .ok (.new 396, 3)) (d3 : decode (kc μ) (pc + 3) = .ok (.dup, 1)) (d4 : decode (kc μ) (pc + 4) = .ok (.invokespecial 398, 3)) (d7 : decode (kc μ) (pc + 7) = .ok (.athrow, 1)) (ho : kown μ = "FrostBox") (hdd : 6 ≤ d)
    (k : RchX γ d μ (pc + 7) ls (sZ w (gZ w + 1)) "java/util/NoSuchElementException" Q X) : Rch γ d μ pc ls [] w Q X := by
  intro p e R s m args below meth c QM hC hE H locs lsA hD hl
  obtain ⟨⟨K, hk, hP, hDD⟩, hS, hz, hz2, hz3⟩ := hD
  have hc1 := hC.2.2.2.2.2.2.2.2.2.1
  have hc2 := hC.2.2.2.2.2.2.2.2.2.2.1
  have hf1 := hC.2.2.2.2.2.2.2.1
  have hf2 := hC.2.2.2.2.2.2.2.2.1
  have hts := hC.2.2.2.2.2.2.1
  have hSt := hC.2.2.2.2.2.2.2.2.2.2.2.2.2.1
  have hA : ∀ x : Nat, s.heap.size ≤ x → gW γ x := fun x h => hSt.2.2.2.2.2.2.2.2.2.2.2.1 x (Nat.le_trans hSt.2.2.2.2.2.2.2.2.2.2.1 h)
  have hhat : ∀ w ∈ vx_at0 "FrostBox" 398 "java/util/NoSuchElementException" nseN, w.before args s = true := vx_hat (fun w hw => hts w (nse_good w hw)) nse_rest (fun w hw => va_Nw.use (nest_tab w hw) (hSt.2.2.2.2.2.2.1 w (List.mem_append_right _ (List.mem_append_right _ hw))))
  refine vx_make0 (l := gl γ) (own := "FrostBox") (cls := "java/util/NoSuchElementException") (names := nseN) (ik := 396) (ic := 398) (ci := 10) (T0 := fun _ => ("", "", "", false)) hC.1 hC.2.1 hSt.2.2.2.2.2.2.2.2.2.2.2.2.1 (by rw [← ho]; exact hC.2.2.2.2.2.1) (by decide +kernel) (by decide +kernel) (hts _ q1204) (hts _ (lw_g (lw_at lw_m1 23 rfl) rfl)) hhat nse_ot hSt.2.2.2.2.2.2.2.2.1 hSt.2.2.2.2.2.2.2.2.2.1 hS ((lk_size hl).trans hC.2.2.1.symm) d0 d3 d4 hSt.1 hP hDD hA rfl (by show 5 < _; omega) (by show 0 + (13 * 3 + 42) ≤ _; omega) (by simp only [cwn]; omega) (by simp only [swn]; omega) (fun q H1 hP1 hD1 hS1 => ?_)
  refine vx_athrow hC.1 hC.2.1 d7 ?_
  have hlen : (cells γ w K ++ [(q, Sum.inr (10, []))])[(cells γ w K).length]? = some (q, .inr (10, [])) := by simp
  obtain ⟨r, hr1, cell, e1, e2, e3, -⟩ := hP1 _ _ hlen
  have hcl := (hSt.1.1 10 _ rfl).2.1
  refine vx_widen (k := cwn γ (sZ w (gZ w + 1)) s) (n := swn γ (sZ w (gZ w + 1)) s) (by show _ ≤ gsz0 γ + (gZ w + 1) - s.heap.size; simp only [cwn]; omega) (by show _ ≤ gsl0 γ + 8 * (gZ w + 1) - slT s.heap; simp only [swn]; omega) ?_
  refine k p e R s m args below meth c QM hC hE H1 locs lsA [] q cell ⟨⟨K, hk, ?_, ?_⟩, hS1, hZ, by show s.heap.size ≤ gsz0 γ + (gZ w + 1); omega, by show slT s.heap ≤ gsl0 γ + 8 * (gZ w + 1); omega⟩ hl e1 e3 (by rw [e2]; exact hcl)
  · intro j x hx
    refine hP1 j x ?_
    have hx' : (cells γ w K)[j]? = some x := hx
    rw [List.getElem?_append_left (List.getElem?_eq_some_iff.mp hx').1]
    exact hx'
  · exact hDD
