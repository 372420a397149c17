set_option maxRecDepth 100000
def imax (x y : Int32) : Int32 := if x < y then y else x
def imin (x y : Int32) : Int32 := if y < x then y else x
def lmax (x y : Int64) : Int64 := if y < x then x else y
def lmin (x y : Int64) : Int64 := if y < x then y else x
section MATH
variable {γ : GG} {d : Nat} {μ : MK} {pc : Nat} {ls : List (Option Value)} {st : List Value} {w : Wd} {Q : Option Value → Wd → Prop} {X : String → Wd → Prop}
theorem cnt_ok {γ : GG} {d : Nat} {μ : MK} {p : Program} {R : Room} {s : State} {m : MethodId} {args : Array Value} {meth : Method} {c : Code} {w : Wd} {H : Heap} {locs : List Loc} (hC : Ctx γ d μ p R s m args meth c) (hD : Dyn γ w s H locs) : cwn γ w s ≤ R.cells ∧ swn γ w s ≤ R.slots := by
  have h1 := hC.2.2.2.2.2.2.2.2.2.1
  have h2 := hC.2.2.2.2.2.2.2.2.2.2.1
  obtain ⟨-, -, hz, hz2, hz3⟩ := hD
  simp only [cwn, swn]
  omega
theorem R.mmax {x y : Int32} {idx : Nat} (q : Nat) (hd : decode (kc μ) pc = .ok (.invokestatic idx, 3)) (hq : pc + 3 = q) (hl : Cond.methodLink (kown μ) idx Lib.Math.max.name ∈ lw_all) (hs : Cond.static Lib.Math.max.name ∈ lw_all) (hi : Cond.initialized "java/lang/Math" ∈ lw_all) (hc : Cond.code Lib.Math.max.name Lib.Math.max.code 2 (some .int) ∈ lw_all) (hdd : 0 < d) (hrm : (st.map fun v => v.category).sum ≤ 8) (k : Rch γ d μ q ls (.int (imax x y) :: st) w Q X) : Rch γ d μ pc ls (.int y :: .int x :: st) w Q X := by
  subst hq
  intro p e R s m args below meth c QM hC hE H locs lsA hD hll
  have h1 := hC.2.2.2.2.2.2.2.1
  have h2 := hC.2.2.2.2.2.2.2.2.1
  have h3 := cnt_ok hC hD
  have hts := hC.2.2.2.2.2.2.1
  exact va_mmax hC.1 hC.2.1 (hC.2.2.1.trans (lk_size hll).symm) hC.2.2.2.2.2.1 (hts _ hl) (hts _ hs) (hts _ hi) (hts _ hc) (by omega) (by rw [cv_rest]; omega) h3.1 h3.2 hd (k p e R s m args below meth c QM hC hE H locs lsA hD hll)
theorem R.mmin {x y : Int32} {idx : Nat} (q : Nat) (hd : decode (kc μ) pc = .ok (.invokestatic idx, 3)) (hq : pc + 3 = q) (hl : Cond.methodLink (kown μ) idx Lib.Math.min.name ∈ lw_all) (hs : Cond.static Lib.Math.min.name ∈ lw_all) (hi : Cond.initialized "java/lang/Math" ∈ lw_all) (hc : Cond.code Lib.Math.min.name Lib.Math.min.code 2 (some .int) ∈ lw_all) (hdd : 0 < d) (hrm : (st.map fun v => v.category).sum ≤ 8) (k : Rch γ d μ q ls (.int (imin x y) :: st) w Q X) : Rch γ d μ pc ls (.int y :: .int x :: st) w Q X := by
  subst hq
  intro p e R s m args below meth c QM hC hE H locs lsA hD hll
  have h1 := hC.2.2.2.2.2.2.2.1
  have h2 := hC.2.2.2.2.2.2.2.2.1
  have h3 := cnt_ok hC hD
  have hts := hC.2.2.2.2.2.2.1
  exact va_mmin hC.1 hC.2.1 (hC.2.2.1.trans (lk_size hll).symm) hC.2.2.2.2.2.1 (hts _ hl) (hts _ hs) (hts _ hi) (hts _ hc) (by omega) (by rw [cv_rest]; omega) h3.1 h3.2 hd (k p e R s m args below meth c QM hC hE H locs lsA hD hll)
theorem R.mmaxl {x y : Int64} {idx : Nat} (q : Nat) (hd : decode (kc μ) pc = .ok (.invokestatic idx, 3)) (hq : pc + 3 = q) (hl : Cond.methodLink (kown μ) idx Lib.MathLoose.max_long.x ∈ lw_all) (hs : Cond.static Lib.MathLoose.max_long.x ∈ lw_all) (hi : Cond.initialized "java/lang/Math" ∈ lw_all) (hc : Cond.code Lib.MathLoose.max_long.x Lib.MathLoose.max_long.code 4 (some .long) ∈ lw_all) (hdd : 0 < d) (hrm : (st.map fun v => v.category).sum ≤ 8) (k : Rch γ d μ q ls (.long (lmax x y) :: st) w Q X) : Rch γ d μ pc ls (.long y :: .long x :: st) w Q X := by
  subst hq
  intro p e R s m args below meth c QM hC hE H locs lsA hD hll
  have h1 := hC.2.2.2.2.2.2.2.1
  have h2 := hC.2.2.2.2.2.2.2.2.1
  have h3 := cnt_ok hC hD
  have hts := hC.2.2.2.2.2.2.1
  exact va_mmax_long hC.1 hC.2.1 (hC.2.2.1.trans (lk_size hll).symm) hC.2.2.2.2.2.1 (hts _ hl) (hts _ hs) (hts _ hi) (hts _ hc) (by omega) (by rw [cv_rest]; omega) h3.1 h3.2 hd (k p e R s m args below meth c QM hC hE H locs lsA hD hll)
theorem R.mminl {x y : Int64} {idx : Nat} (q : Nat) (hd : decode (kc μ) pc = .ok (.invokestatic idx, 3)) (hq : pc + 3 = q) (hl : Cond.methodLink (kown μ) idx Lib.MathLoose.min_long.x ∈ lw_all) (hs : Cond.static Lib.MathLoose.min_long.x ∈ lw_all) (hi : Cond.initialized "java/lang/Math" ∈ lw_all) (hc : Cond.code Lib.MathLoose.min_long.x Lib.MathLoose.min_long.code 4 (some .long) ∈ lw_all) (hdd : 0 < d) (hrm : (st.map fun v => v.category).sum ≤ 8) (k : Rch γ d μ q ls (.long (lmin x y) :: st) w Q X) : Rch γ d μ pc ls (.long y :: .long x :: st) w Q X := by
  subst hq
  intro p e R s m args below meth c QM hC hE H locs lsA hD hll
  have h1 := hC.2.2.2.2.2.2.2.1
  have h2 := hC.2.2.2.2.2.2.2.2.1
  have h3 := cnt_ok hC hD
  have hts := hC.2.2.2.2.2.2.1
  exact va_mmin_long hC.1 hC.2.1 (hC.2.2.1.trans (lk_size hll).symm) hC.2.2.2.2.2.1 (hts _ hl) (hts _ hs) (hts _ hi) (hts _ hc) (by omega) (by rw [cv_rest]; omega) h3.1 h3.2 hd (k p e R s m args below meth c QM hC hE H locs lsA hD hll)
theorem R.sSIQ {idx : Nat} (q : Nat) (hd : decode (kc μ) pc = .ok (.getstatic idx, 3)) (hq : pc + 3 = q) (ho : kown μ = "java/lang/String") (hw : Cond.fieldLink "java/lang/String" idx "jdk/internal/util/Preconditions" "SIOOBE_FORMATTER" "Ljava/util/function/BiFunction;" ∈ lw_all) (k : ∀ o : Option Nat, Rch γ d μ q ls (rv o :: st) w Q X) : Rch γ d μ pc ls st w Q X := by
  refine R.sSIO q hd hq ho hw ?_
  intro p e R s m args below meth c QM hC hE H locs lsA hD hl
  have h := hC.2.2.2.2.2.2.2.2.2.2.2.2.2.1.2.2.2.2.2.2.2.2.2.2.2.2.2.2.1
  cases hg : gsio γ with
  | null => exact k none p e R s m args below meth c QM hC hE H locs lsA hD hl
  | ref i => exact k (some i) p e R s m args below meth c QM hC hE H locs lsA hD hl
  | int x => rw [hg] at h; cases h
  | long x => rw [hg] at h; cases h
  | float x => rw [hg] at h; cases h
  | double x => rw [hg] at h; cases h
  | retAddr x => rw [hg] at h; cases h
theorem R.ldcSW {idx i : Nat} {tx : String} (q : Nat) (hd : decode (kc μ) pc = .ok (.ldc_w idx, 3)) (hq : pc + 3 = q) (hm : (kown μ, idx, tx, i) ∈ ldcT) (k : Rch γ d μ q ls (.ref (120 + i) :: st) w Q X) : Rch γ d μ pc ls st w Q X := by
  subst hq
  intro p e R s m args below meth c QM hC hE H locs lsA hD hl T hT Xs
  obtain ⟨t, a1, b1⟩ := k p e R s m args below meth c QM hC hE H locs lsA hD hl T hT Xs
  have hZ := hC.2.2.2.2.2.2.2.2.2.2.2.2.2.1.2.2.1 _ hm
  exact ⟨t, Xs.ldcStringW hC.1 (own := kown μ) (text := tx) (index := idx) (a := gad γ (120 + i)) hC.2.2.2.2.2.1 hZ.1 hZ.2 (g := F0 m pc lsA (st.map (cv γ))) rfl (by rw [hC.2.1]; exact hd) t a1, b1⟩
/-- a switch by look-up: the way out -/
theorem lsw_d1 {a oa dflt x : Int} (ha : ¬ x = a) : Op.lookupswitch.offset [(a, oa)] dflt x = dflt := by
  simp [Op.lookupswitch.offset, Ne.symm ha]
theorem lsw_d2 {a b oa ob dflt x : Int} (ha : ¬ x = a) (hb : ¬ x = b) : Op.lookupswitch.offset [(a, oa), (b, ob)] dflt x = dflt := by
  simp [Op.lookupswitch.offset, Ne.symm ha, Ne.symm hb]
end MATH
theorem Ctr.up {γ : GG} {d d' : Nat} {y : MethodName} {ws : List Cond} {as : List Value} {w : Wd} {Q : Option Value → Wd → Prop} {X : String → Wd → Prop} (h : Ctr γ d y ws as w Q X) (hd : d ≤ d') : Ctr γ d' y ws as w Q X := by
  intro z sl p e ha hc hk s m args below hf happ hP hT
  refine h z sl p e ha hc hk s m args below hf ?_ hP hT
  obtain ⟨h1, h2, h3, h4, h5, h6, h7, h8⟩ := (Spec.appliesLoose_iff hf).mp happ
  refine (Spec.appliesLoose_iff hf).mpr ⟨h1, h2, h3, h4, h5, h6, ?_, h8⟩
  have h7 : s.hasRoom e.platform (rmD d' (gsz0 γ + CM - z) (gsl0 γ + 8 * CM - sl)) = true := h7
  show s.hasRoom e.platform (rmD d (gsz0 γ + CM - z) (gsl0 γ + 8 * CM - sl)) = true
  simp only [State.hasRoom, Bool.and_eq_true, decide_eq_true_eq] at h7 ⊢
  obtain ⟨⟨⟨⟨g1, g2, g3, g4, g5, g6⟩, g7⟩, g8⟩, g9⟩ := h7
  exact ⟨⟨⟨⟨by omega, by omega, by omega, by omega, by omega, g6⟩, g7⟩, g8⟩, g9⟩
