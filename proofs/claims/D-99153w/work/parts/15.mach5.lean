set_option maxRecDepth 100000
theorem cells_fix {γ : GG} {w : Wd} {K : List Nat} {q : Nat} {x : Nat × va_E} (h : (fixL γ w)[q]? = some x) : (cells γ w K)[q]? = some x := by
  unfold cells
  rw [List.getElem?_append_left (List.getElem?_eq_some_iff.mp h).1]
  exact h
theorem cells_set {γ : GG} {w w' : Wd} {K : List Nat} {q : Nat} {x y : Nat × va_E} (h : (fixL γ w)[q]? = some y) (e : (fixL γ w).set q x = fixL γ w') (hn : nds γ w K = nds γ w' K) : (cells γ w K).set q x = cells γ w' K := by
  unfold cells
  rw [List.set_append_left _ _ (List.getElem?_eq_some_iff.mp h).1, e, hn]
theorem cells_nd {γ : GG} {w : Wd} {K : List Nat} {j r ci : Nat} {fs : List Value} {A : Nat → Prop} (hD : va_D A (cells γ w K)) (hr : 200 ≤ r) (hj1 : 50 < j) (hj : K[j - (fixL γ w).length]? = some (r - 200)) (hlen : (fixL γ w).length ≤ j) : (cells γ w K).set j (gad γ r, .inr (ci, fs.map (cv γ))) = cells γ (sF w r (ci, fs)) K := by
  have e1 : 200 + (r - 200) = r := by omega
  have e2 : gad γ r = r - 200 := by unfold gad; rw [if_neg (by omega)]
  unfold cells
  rw [List.set_append_right _ _ hlen]
  congr 1
  refine List.ext_getElem? fun i => ?_
  unfold nds
  have hl := (List.getElem?_eq_some_iff.mp hj).1
  by_cases hi : i = j - (fixL γ w).length
  · subst hi
    rw [List.getElem?_set_self (by rw [List.length_map]; exact hl), List.getElem?_map, hj]
    simp only [Option.map_some, e1, e2, gF, sF, if_pos]
  · rw [List.getElem?_set_ne (Ne.symm hi), List.getElem?_map, List.getElem?_map]
    cases hk : K[i]? with
    | none => rfl
    | some z =>
      have hz : z ≠ r - 200 := by
        intro hz
        have h1 : (cells γ w K)[(fixL γ w).length + i]? = some (z, .inr (match gF w (200 + z) with
          | some n => (n.1, n.2.map (cv γ))
          | none => (0, []))) := by
          unfold cells
          rw [List.getElem?_append_right (Nat.le_add_right _ _), Nat.add_sub_cancel_left]
          unfold nds
          rw [List.getElem?_map, hk]
          rfl
        have h2 : (cells γ w K)[j]? = some (r - 200, .inr (match gF w (200 + (r - 200)) with
          | some n => (n.1, n.2.map (cv γ))
          | none => (0, []))) := by
          unfold cells
          rw [List.getElem?_append_right hlen]
          unfold nds
          rw [List.getElem?_map, hj]
          rfl
        have := hD.1 _ _ _ _ h1 h2 hz
        omega
      have hz2 : ¬ 200 + z = r := by omega
      simp only [Option.map_some, gF, sF, if_neg hz2]
def inA (a : Nat) (i : Int32) : Prop := ∃ q n, AI a q n 0 ∧ inb i n
def inB (a : Nat) (i : Int32) : Prop := ∃ q n, AI a q n 1 ∧ inb i n
def znar (x : Int32) : Int32 := vp_nar .boolean x
section MEM
variable {γ : GG} {d : Nat} {μ : MK} {pc : Nat} {ls : List (Option Value)} {st : List Value} {w : Wd} {Q : Option Value → Wd → Prop} {X : String → Wd → Prop}
theorem R.iald {a q0 n : Nat} (ha : AI a q0 n 0) {i : Int32} (q : Nat) (hd : decode (kc μ) pc = .ok (.iaload, 1)) (hq : pc + 1 = q) (hin : inb i n) (k : Rch γ d μ q ls (.int (gA w a i.toInt) :: st) w Q X) : Rch γ d μ pc ls (.int i :: .ref a :: st) w Q X := by
  subst hq
  intro p e R s m args below meth c QM hC hE H locs lsA hD hl
  have h := k p e R s m args below meth c QM hC hE H locs lsA hD hl
  obtain ⟨⟨K, hk, hP, hDD⟩, hS, hz⟩ := hD
  obtain ⟨h1, h2⟩ := ha γ w
  rw [← clampI hin.1] at h
  exact va_iald hC.1 hC.2.1 hC.2.2.2.2.2.2.2.2.2.2.2.2.2.1.1 hP q0 0 (cells_fix h1) rfl (inb_vp hin) hd h
theorem R.bald {a q0 n : Nat} (ha : AI a q0 n 1) {i : Int32} (q : Nat) (hd : decode (kc μ) pc = .ok (.baload, 1)) (hq : pc + 1 = q) (hin : inb i n) (k : Rch γ d μ q ls (.int (gA w a i.toInt) :: st) w Q X) : Rch γ d μ pc ls (.int i :: .ref a :: st) w Q X := by
  subst hq
  intro p e R s m args below meth c QM hC hE H locs lsA hD hl
  have h := k p e R s m args below meth c QM hC hE H locs lsA hD hl
  obtain ⟨⟨K, hk, hP, hDD⟩, hS, hz⟩ := hD
  obtain ⟨h1, h2⟩ := ha γ w
  rw [← clampI hin.1] at h
  exact va_bald hC.1 hC.2.1 hC.2.2.2.2.2.2.2.2.2.2.2.2.2.1.1 hP q0 1 (cells_fix h1) rfl (inb_vp hin) hd h
theorem R.zald {a q0 n : Nat} (ha : AI a q0 n 2) {i : Int32} (q : Nat) (hd : decode (kc μ) pc = .ok (.baload, 1)) (hq : pc + 1 = q) (hin : inb i n) (k : Rch γ d μ q ls (.int (gA w a i.toInt) :: st) w Q X) : Rch γ d μ pc ls (.int i :: .ref a :: st) w Q X := by
  subst hq
  intro p e R s m args below meth c QM hC hE H locs lsA hD hl
  have h := k p e R s m args below meth c QM hC hE H locs lsA hD hl
  obtain ⟨⟨K, hk, hP, hDD⟩, hS, hz⟩ := hD
  obtain ⟨h1, h2⟩ := ha γ w
  rw [← clampI hin.1] at h
  exact va_zald hC.1 hC.2.1 hC.2.2.2.2.2.2.2.2.2.2.2.2.2.1.1 hP q0 2 (cells_fix h1) rfl (inb_vp hin) hd h
theorem R.iaA {a : Nat} {i : Int32} (q : Nat) (hd : decode (kc μ) pc = .ok (.iaload, 1)) (hq : pc + 1 = q) (hin : inA a i) (k : Rch γ d μ q ls (.int (gA w a i.toInt) :: st) w Q X) : Rch γ d μ pc ls (.int i :: .ref a :: st) w Q X := by
  obtain ⟨q0, n, h1, h2⟩ := hin
  exact R.iald h1 q hd hq h2 k
theorem R.baB {a : Nat} {i : Int32} (q : Nat) (hd : decode (kc μ) pc = .ok (.baload, 1)) (hq : pc + 1 = q) (hin : inB a i) (k : Rch γ d μ q ls (.int (gA w a i.toInt) :: st) w Q X) : Rch γ d μ pc ls (.int i :: .ref a :: st) w Q X := by
  obtain ⟨q0, n, h1, h2⟩ := hin
  exact R.bald h1 q hd hq h2 k
theorem R.iast {a q0 n : Nat} (ha : AI a q0 n 0) {i x : Int32} (q : Nat) (hd : decode (kc μ) pc = .ok (.iastore, 1)) (hq : pc + 1 = q) (hin : inb i n) (k : Rch γ d μ q ls st (sA w a i.toInt x) Q X) : Rch γ d μ pc ls (.int x :: .int i :: .ref a :: st) w Q X := by
  subst hq
  intro p e R s m args below meth c QM hC hE H locs lsA hD hl
  obtain ⟨⟨K, hk, hP, hDD⟩, hS, hz⟩ := hD
  obtain ⟨h1, h2⟩ := ha γ w
  refine va_iast hC.1 hC.2.1 hC.2.2.2.2.2.2.2.2.2.2.2.2.2.1.1 hP hDD hS q0 0 (cells_fix h1) rfl (inb_vp hin) hd (fun H1 locs1 hP1 hD1 hS1 => ?_)
  rw [cells_set h1 (h2 i x hin.1) rfl] at hP1 hD1
  exact k p e R s m args below meth c QM hC hE H1 locs1 lsA ⟨⟨K, hk, hP1, hD1⟩, hS1, hz⟩ hl
theorem R.iasA {a : Nat} {i x : Int32} (q : Nat) (hd : decode (kc μ) pc = .ok (.iastore, 1)) (hq : pc + 1 = q) (hin : inA a i) (k : Rch γ d μ q ls st (sA w a i.toInt x) Q X) : Rch γ d μ pc ls (.int x :: .int i :: .ref a :: st) w Q X := by
  obtain ⟨q0, n, h1, h2⟩ := hin
  exact R.iast h1 q hd hq h2 k
theorem R.bast {a q0 n : Nat} (ha : AI a q0 n 1) {i x : Int32} (q : Nat) (hd : decode (kc μ) pc = .ok (.bastore, 1)) (hq : pc + 1 = q) (hin : inb i n) (k : Rch γ d μ q ls st (sA w a i.toInt x.toInt8.toInt32) Q X) : Rch γ d μ pc ls (.int x :: .int i :: .ref a :: st) w Q X := by
  subst hq
  intro p e R s m args below meth c QM hC hE H locs lsA hD hl
  obtain ⟨⟨K, hk, hP, hDD⟩, hS, hz⟩ := hD
  obtain ⟨h1, h2⟩ := ha γ w
  refine va_bast hC.1 hC.2.1 hC.2.2.2.2.2.2.2.2.2.2.2.2.2.1.1 hP hDD hS q0 1 (cells_fix h1) rfl (inb_vp hin) hd (fun H1 locs1 hP1 hD1 hS1 => ?_)
  rw [cells_set h1 (h2 i _ hin.1) rfl] at hP1 hD1
  exact k p e R s m args below meth c QM hC hE H1 locs1 lsA ⟨⟨K, hk, hP1, hD1⟩, hS1, hz⟩ hl
theorem R.zast {a q0 n : Nat} (ha : AI a q0 n 2) {i x : Int32} (q : Nat) (hd : decode (kc μ) pc = .ok (.bastore, 1)) (hq : pc + 1 = q) (hin : inb i n) (k : Rch γ d μ q ls st (sA w a i.toInt (znar x)) Q X) : Rch γ d μ pc ls (.int x :: .int i :: .ref a :: st) w Q X := by
  subst hq
  intro p e R s m args below meth c QM hC hE H locs lsA hD hl
  obtain ⟨⟨K, hk, hP, hDD⟩, hS, hz⟩ := hD
  obtain ⟨h1, h2⟩ := ha γ w
  refine va_zast hC.1 hC.2.1 hC.2.2.2.2.2.2.2.2.2.2.2.2.2.1.1 hP hDD hS q0 2 (cells_fix h1) rfl (inb_vp hin) hd (fun H1 locs1 hP1 hD1 hS1 => ?_)
  rw [cells_set h1 (h2 i _ hin.1) rfl] at hP1 hD1
  exact k p e R s m args below meth c QM hC hE H1 locs1 lsA ⟨⟨K, hk, hP1, hD1⟩, hS1, hz⟩ hl
theorem R.lald {a q0 n : Nat} (ha : AL a q0 n) {i : Int32} (q : Nat) (hd : decode (kc μ) pc = .ok (.laload, 1)) (hq : pc + 1 = q) (hin : inb i n) (k : Rch γ d μ q ls (.long (gL w a i.toInt) :: st) w Q X) : Rch γ d μ pc ls (.int i :: .ref a :: st) w Q X := by
  subst hq
  intro p e R s m args below meth c QM hC hE H locs lsA hD hl
  have h := k p e R s m args below meth c QM hC hE H locs lsA hD hl
  obtain ⟨⟨K, hk, hP, hDD⟩, hS, hz⟩ := hD
  obtain ⟨h1, h2⟩ := ha γ w
  rw [← clampI hin.1] at h
  exact va_lald hC.1 hC.2.1 hC.2.2.2.2.2.2.2.2.2.2.2.2.2.1.1 hP q0 3 (cells_fix h1) rfl (inb_vp hin) hd h
theorem R.last {a q0 n : Nat} (ha : AL a q0 n) {i : Int32} {x : Int64} (q : Nat) (hd : decode (kc μ) pc = .ok (.lastore, 1)) (hq : pc + 1 = q) (hin : inb i n) (k : Rch γ d μ q ls st (sL w a i.toInt x) Q X) : Rch γ d μ pc ls (.long x :: .int i :: .ref a :: st) w Q X := by
  subst hq
  intro p e R s m args below meth c QM hC hE H locs lsA hD hl
  obtain ⟨⟨K, hk, hP, hDD⟩, hS, hz⟩ := hD
  obtain ⟨h1, h2⟩ := ha γ w
  refine va_last hC.1 hC.2.1 hC.2.2.2.2.2.2.2.2.2.2.2.2.2.1.1 hP hDD hS q0 3 (cells_fix h1) rfl (inb_vp hin) hd (fun H1 locs1 hP1 hD1 hS1 => ?_)
  rw [cells_set h1 (h2 i x hin.1) rfl] at hP1 hD1
  exact k p e R s m args below meth c QM hC hE H1 locs1 lsA ⟨⟨K, hk, hP1, hD1⟩, hS1, hz⟩ hl
/-- the array of laws -/
theorem R.aald {i : Int32} (q : Nat) (hd : decode (kc μ) pc = .ok (.aaload, 1)) (hq : pc + 1 = q) (hin : inb i 4) (k : Rch γ d μ q ls (rv (gC w i.toInt) :: st) w Q X) : Rch γ d μ pc ls (.int i :: .ref 27 :: st) w Q X := by
  subst hq
  intro p e R s m args below meth c QM hC hE H locs lsA hD hl
  have h := k p e R s m args below meth c QM hC hE H locs lsA hD hl
  obtain ⟨⟨K, hk, hP, hDD⟩, hS, hz⟩ := hD
  obtain ⟨h1, h2⟩ := ar_27 γ w
  have e1 : ∀ o : Option Nat, cv γ (rv o) = va_rf (o.map (gad γ)) := fun o => by cases o <;> rfl
  rw [← clampI hin.1, List.map_cons, e1] at h
  exact va_aldq hC.1 hC.2.1 hC.2.2.2.2.2.2.2.2.2.2.2.2.2.1.1 hP _ 4 (cells_fix h1) rfl (inb_vp hin) hd h
theorem R.aast {i : Int32} {r : Nat} {fs : List Value} (q : Nat) (hd : decode (kc μ) pc = .ok (.aastore, 1)) (hq : pc + 1 = q) (hin : inb i 4) (hr : gF w r = some (6, fs)) (k : Rch γ d μ q ls st (sC w i.toInt (some r)) Q X) : Rch γ d μ pc ls (.ref r :: .int i :: .ref 27 :: st) w Q X := by
  subst hq
  intro p e R s m args below meth c QM hC hE H locs lsA hD hl
  obtain ⟨⟨K, hk, hP, hDD⟩, hS, hz⟩ := hD
  obtain ⟨h1, h2⟩ := ar_27 γ w
  obtain ⟨j, hj, -⟩ := nd_at (γ := γ) hk hr
  refine va_astq (r := (RX9, TX9, 4)) hC.1 hC.2.1 hC.2.2.2.2.2.2.2.2.2.2.2.2.2.1.1 hP hDD hS _ 4 j 6 (cells_fix h1) rfl hj rfl (inb_vp hin) hd (fun H1 locs1 hP1 hD1 hS1 => ?_)
  rw [cells_set h1 (h2 i r hin.1) rfl] at hP1 hD1
  exact k p e R s m args below meth c QM hC hE H1 locs1 lsA ⟨⟨K, hk, hP1, hD1⟩, hS1, hz⟩ hl
/-- a field of the two objects, read -/
theorem R.getX {k0 idx : Nat} {nm ds : String} {fin : Bool} {v : Value} (q : Nat) (hd : decode (kc μ) pc = .ok (.getfield idx, 3)) (hq : pc + 3 = q) (ho : kown μ = "FrostBox") (hw : Cond.fieldLink "FrostBox" idx "FrostBox" nm ds ∈ lw_all) (hT : TX1 k0 = ("FrostBox", nm, ds, fin)) (hk0 : k0 < 42) (hv : (xF w)[k0]? = some v) (k : Rch γ d μ q ls (v :: st) w Q X) : Rch γ d μ pc ls (.ref 1 :: st) w Q X := by
  subst hq
  intro p e R s m args below meth c QM hC hE H locs lsA hD hl
  have h := k p e R s m args below meth c QM hC hE H locs lsA hD hl
  obtain ⟨⟨K, hk, hP, hDD⟩, hS, hz⟩ := hD
  exact va_get (own := "FrostBox") (ref := "FrostBox") (C := RX1) (T := TX1) (N := 42) hC.1 hC.2.1 hC.2.2.2.2.2.2.1 in_X1 (by rw [← ho]; exact hC.2.2.2.2.2.1) hC.2.2.2.2.2.2.2.2.2.2.2.2.2.1.1 hP 0 (cells_fix rfl) rfl k0 hk0 (by rw [hT]; exact hC.2.2.2.2.2.2.1 _ hw) (fun x hx => by rw [hT] at hx ⊢; exact hx) (v := cv γ v) (by rw [List.getElem?_map, hv]; rfl) hd h
theorem R.getM {k0 idx : Nat} {nm ds : String} {fin : Bool} {v : Value} (q : Nat) (hd : decode (kc μ) pc = .ok (.getfield idx, 3)) (hq : pc + 3 = q) (ho : kown μ = "FrostBoxModel") (hw : Cond.fieldLink "FrostBoxModel" idx "FrostBoxModel" nm ds ∈ lw_all) (hT : TX3 k0 = ("FrostBoxModel", nm, ds, fin)) (hk0 : k0 < 56) (hv : (mF w)[k0]? = some v) (k : Rch γ d μ q ls (v :: st) w Q X) : Rch γ d μ pc ls (.ref 2 :: st) w Q X := by
  subst hq
  intro p e R s m args below meth c QM hC hE H locs lsA hD hl
  have h := k p e R s m args below meth c QM hC hE H locs lsA hD hl
  obtain ⟨⟨K, hk, hP, hDD⟩, hS, hz⟩ := hD
  exact va_get (own := "FrostBoxModel") (ref := "FrostBoxModel") (C := RX3) (T := TX3) (N := 56) hC.1 hC.2.1 hC.2.2.2.2.2.2.1 in_X3 (by rw [← ho]; exact hC.2.2.2.2.2.1) hC.2.2.2.2.2.2.2.2.2.2.2.2.2.1.1 hP 1 (cells_fix rfl) rfl k0 hk0 (by rw [hT]; exact hC.2.2.2.2.2.2.1 _ hw) (fun x hx => by rw [hT] at hx ⊢; exact hx) (v := cv γ v) (by rw [List.getElem?_map, hv]; rfl) hd h
/-- .. and written -/
theorem R.putX {k0 idx : Nat} {nm ds : String} {ty : FieldType} {v : Value} {S : Wd → Wd} (q : Nat) (hd : decode (kc μ) pc = .ok (.putfield idx, 3)) (hq : pc + 3 = q) (ho : kown μ = "FrostBox") (hw : Cond.fieldLink "FrostBox" idx "FrostBox" nm ds ∈ lw_all) (hT : TX1 k0 = ("FrostBox", nm, ds, false)) (hk0 : k0 < 42) (hf : FX 0 k0 xF v S) (hds : parseFieldDescriptor ds = some ty) (hn : narrow ty (cv γ v) = cv γ v) (hft : fits ty (cv γ v) = true) (hnd : ∀ K, nds γ w K = nds γ (S w) K) (hF : gF (S w) = gF w) (hZ : gZ (S w) = gZ w) (k : Rch γ d μ q ls st (S w) Q X) : Rch γ d μ pc ls (v :: .ref 1 :: st) w Q X := by
  subst hq
  intro p e R s m args below meth c QM hC hE H locs lsA hD hl
  obtain ⟨⟨K, hk, hP, hDD⟩, hS, hz⟩ := hD
  refine va_put (own := "FrostBox") (ref := "FrostBox") (C := RX1) (T := TX1) (N := 42) (ty := ty) hC.1 hC.2.1 hC.2.2.2.2.2.2.1 in_X1 tyX1 tyX1_ok nmX1 (by rw [← ho]; exact hC.2.2.2.2.2.1) hC.2.2.2.2.2.2.2.2.2.2.2.2.2.1.1 hP hDD hS 0 (cells_fix (x := (gad γ 1, .inr (0, (xF w).map (cv γ)))) rfl) rfl k0 hk0 (by rw [hT]; exact hC.2.2.2.2.2.2.1 _ hw) (fun x hx => by rw [hT] at hx ⊢; exact hx) (by rw [hT]) (by rw [hT]; exact hds) hn hft (by show k0 < _; rw [List.length_map]; exact hk0) hd (fun H1 locs1 hP1 hD1 hS1 => ?_)
  rw [cells_set (y := (gad γ 1, .inr (0, (xF w).map (cv γ)))) rfl (hf γ w) (hnd K)] at hP1 hD1
  have ecs : cwn γ (S w) s = cwn γ w s ∧ swn γ (S w) s = swn γ w s := by simp only [cwn, swn, hZ]; exact ⟨trivial, trivial⟩
  have h := k p e R s m args below meth c QM hC hE H1 locs1 lsA ⟨⟨K, by rw [hF]; exact hk, hP1, hD1⟩, hS1, by rw [hZ]; exact hz⟩ hl
  rw [ecs.1, ecs.2] at h
  exact h
theorem R.putM {k0 idx : Nat} {nm ds : String} {ty : FieldType} {v : Value} {S : Wd → Wd} (q : Nat) (hd : decode (kc μ) pc = .ok (.putfield idx, 3)) (hq : pc + 3 = q) (ho : kown μ = "FrostBoxModel") (hw : Cond.fieldLink "FrostBoxModel" idx "FrostBoxModel" nm ds ∈ lw_all) (hT : TX3 k0 = ("FrostBoxModel", nm, ds, false)) (hk0 : k0 < 56) (hf : FX 1 k0 mF v S) (hds : parseFieldDescriptor ds = some ty) (hn : narrow ty (cv γ v) = cv γ v) (hft : fits ty (cv γ v) = true) (hnd : ∀ K, nds γ w K = nds γ (S w) K) (hF : gF (S w) = gF w) (hZ : gZ (S w) = gZ w) (k : Rch γ d μ q ls st (S w) Q X) : Rch γ d μ pc ls (v :: .ref 2 :: st) w Q X := by
  subst hq
  intro p e R s m args below meth c QM hC hE H locs lsA hD hl
  obtain ⟨⟨K, hk, hP, hDD⟩, hS, hz⟩ := hD
  refine va_put (own := "FrostBoxModel") (ref := "FrostBoxModel") (C := RX3) (T := TX3) (N := 56) (ty := ty) hC.1 hC.2.1 hC.2.2.2.2.2.2.1 in_X3 tyX3 tyX3_ok nmX3 (by rw [← ho]; exact hC.2.2.2.2.2.1) hC.2.2.2.2.2.2.2.2.2.2.2.2.2.1.1 hP hDD hS 1 (cells_fix (x := (gad γ 2, .inr (1, (mF w).map (cv γ)))) rfl) rfl k0 hk0 (by rw [hT]; exact hC.2.2.2.2.2.2.1 _ hw) (fun x hx => by rw [hT] at hx ⊢; exact hx) (by rw [hT]) (by rw [hT]; exact hds) hn hft (by show k0 < _; rw [List.length_map]; exact hk0) hd (fun H1 locs1 hP1 hD1 hS1 => ?_)
  rw [cells_set (y := (gad γ 2, .inr (1, (mF w).map (cv γ)))) rfl (hf γ w) (hnd K)] at hP1 hD1
  have ecs : cwn γ (S w) s = cwn γ w s ∧ swn γ (S w) s = swn γ w s := by simp only [cwn, swn, hZ]; exact ⟨trivial, trivial⟩
  have h := k p e R s m args below meth c QM hC hE H1 locs1 lsA ⟨⟨K, by rw [hF]; exact hk, hP1, hD1⟩, hS1, by rw [hZ]; exact hz⟩ hl
  rw [ecs.1, ecs.2] at h
  exact h
/-- a made node's field, read -/
theorem R.getN {r ci k0 idx N : Nat} {own ref nm ds C : String} {fin : Bool} {T : u_T} {fs : List Value} {v : Value} (q : Nat) (hd : decode (kc μ) pc = .ok (.getfield idx, 3)) (hq : pc + 3 = q) (ho : kown μ = own) (hc : vwCl[ci]? = some (C, T, N)) (hin : ∀ w ∈ u_ws C T N, w ∈ lw_all) (hw : Cond.fieldLink own idx ref nm ds ∈ lw_all) (hT : T k0 = (ref, nm, ds, fin)) (hk0 : k0 < N) (hr : gF w r = some (ci, fs)) (hv : fs[k0]? = some v) (k : Rch γ d μ q ls (v :: st) w Q X) : Rch γ d μ pc ls (.ref r :: st) w Q X := by
  subst hq
  intro p e R s m args below meth c QM hC hE H locs lsA hD hl
  have h := k p e R s m args below meth c QM hC hE H locs lsA hD hl
  obtain ⟨⟨K, hk, hP, hDD⟩, hS, hz⟩ := hD
  obtain ⟨j, hj, -⟩ := nd_at (γ := γ) hk hr
  exact va_get (own := own) (ref := ref) (C := C) (T := T) (N := N) hC.1 hC.2.1 hC.2.2.2.2.2.2.1 hin (by rw [← ho]; exact hC.2.2.2.2.2.1) hC.2.2.2.2.2.2.2.2.2.2.2.2.2.1.1 hP j hj hc k0 hk0 (by rw [hT]; exact hC.2.2.2.2.2.2.1 _ hw) (fun x hx => by rw [hT] at hx ⊢; exact hx) (v := cv γ v) (by rw [List.getElem?_map, hv]; rfl) hd h
theorem R.getNN {r ci k0 idx N : Nat} {own ref nm ds host C : String} {fin : Bool} {T : u_T} {fs : List Value} {v : Value} (q : Nat) (hd : decode (kc μ) pc = .ok (.getfield idx, 3)) (hq : pc + 3 = q) (ho : kown μ = own) (hc : vwCl[ci]? = some (C, T, N)) (hin : ∀ w ∈ u_ws C T N, w ∈ lw_all) (hw : Cond.fieldLinkNest own idx ref nm ds host ∈ nestF) (hT : T k0 = (ref, nm, ds, fin)) (hk0 : k0 < N) (hr : gF w r = some (ci, fs)) (hv : fs[k0]? = some v) (k : Rch γ d μ q ls (v :: st) w Q X) : Rch γ d μ pc ls (.ref r :: st) w Q X := by
  subst hq
  intro p e R s m args below meth c QM hC hE H locs lsA hD hl
  have h := k p e R s m args below meth c QM hC hE H locs lsA hD hl
  obtain ⟨⟨K, hk, hP, hDD⟩, hS, hz⟩ := hD
  obtain ⟨j, hj, -⟩ := nd_at (γ := γ) hk hr
  have hnw := hC.2.2.2.2.2.2.2.2.2.2.2.2.2.1.2.2.2.2.2.2.1 _ (List.mem_append_right _ (List.mem_append_left _ hw))
  exact va_getN (own := own) (ref := ref) (C := C) (T := T) (N := N) (host := host) hC.1 hC.2.1 hC.2.2.2.2.2.2.1 hin (by rw [← ho]; exact hC.2.2.2.2.2.1) hC.2.2.2.2.2.2.2.2.2.2.2.2.2.1.1 hP j hj hc k0 hk0 (by rw [hT]; exact va_Nw.use rfl hnw) (fun x hx => by rw [hT] at hx ⊢; exact hx) (v := cv γ v) (by rw [List.getElem?_map, hv]; rfl) hd h
theorem nd_put {γ : GG} {w : Wd} {K : List Nat} {j r ci k0 : Nat} {fs : List Value} {v : Value} {A : Nat → Prop} {H1 : Heap} {s : State} {locs1 : List Loc} (hk : ∀ r n, gF w r = some n → 200 ≤ r ∧ r - 200 ∈ K) (hr : gF w r = some (ci, fs)) (hDD : va_D A (cells γ w K)) (hj1 : 50 < j) (hj2 : K[j - (fixL γ w).length]? = some (r - 200)) :
    (cells γ w K).set j (gad γ r, .inr (ci, (fs.map (cv γ)).set k0 (cv γ v))) = cells γ (sF w r (ci, fs.set k0 v)) K ∧ ∀ r' n, gF (sF w r (ci, fs.set k0 v)) r' = some n → 200 ≤ r' ∧ r' - 200 ∈ K := by
  have h200 := (hk r _ hr).1
  constructor
  · rw [← List.map_set]
    exact cells_nd hDD h200 hj1 hj2 (by rw [fixL_len]; omega)
  · intro r' n h
    by_cases e : r' = r
    · subst e
      exact hk _ _ hr
    · refine hk r' n ?_
      simpa [gF, sF, e] using h
theorem R.putN {r ci k0 idx N : Nat} {own ref nm ds C : String} {T : u_T} {ty0 : Nat → FieldType} {fs : List Value} {v : Value} {ty : FieldType} (q : Nat) (hd : decode (kc μ) pc = .ok (.putfield idx, 3)) (hq : pc + 3 = q) (ho : kown μ = own) (hc : vwCl[ci]? = some (C, T, N)) (hin : ∀ w ∈ u_ws C T N, w ∈ lw_all) (hty : ∀ k, k < N → parseFieldDescriptor (T k).2.2.1 = some (ty0 k)) (hnm : ∀ a, a < N → ∀ b, b < N → a ≠ b → (T a).2.1 ≠ (T b).2.1) (hw : Cond.fieldLink own idx ref nm ds ∈ lw_all) (hT : T k0 = (ref, nm, ds, false)) (hk0 : k0 < N) (hds : parseFieldDescriptor ds = some ty) (hn : narrow ty (cv γ v) = cv γ v) (hft : fits ty (cv γ v) = true) (hlen : k0 < fs.length) (hr : gF w r = some (ci, fs)) (k : Rch γ d μ q ls st (sF w r (ci, fs.set k0 v)) Q X) : Rch γ d μ pc ls (v :: .ref r :: st) w Q X := by
  subst hq
  intro p e R s m args below meth c QM hC hE H locs lsA hD hl
  obtain ⟨⟨K, hk, hP, hDD⟩, hS, hz⟩ := hD
  obtain ⟨j, hj, hj1, hj2⟩ := nd_at (γ := γ) hk hr
  refine va_put (own := own) (ref := ref) (C := C) (T := T) (N := N) (ty := ty) hC.1 hC.2.1 hC.2.2.2.2.2.2.1 hin ty0 hty hnm (by rw [← ho]; exact hC.2.2.2.2.2.1) hC.2.2.2.2.2.2.2.2.2.2.2.2.2.1.1 hP hDD hS j hj hc k0 hk0 (by rw [hT]; exact hC.2.2.2.2.2.2.1 _ hw) (fun x hx => by rw [hT] at hx ⊢; exact hx) (by rw [hT]) (by rw [hT]; exact hds) hn hft (by rw [List.length_map]; exact hlen) hd (fun H1 locs1 hP1 hD1 hS1 => ?_)
  obtain ⟨e1, e2⟩ := nd_put (γ := γ) (k0 := k0) (v := v) (H1 := H1) (s := s) (locs1 := locs1) hk hr hDD hj1 hj2
  rw [e1] at hP1 hD1
  exact k p e R s m args below meth c QM hC hE H1 locs1 lsA ⟨⟨K, e2, hP1, hD1⟩, hS1, hz⟩ hl
theorem R.putNN {r ci k0 idx N : Nat} {own ref nm ds host C : String} {T : u_T} {ty0 : Nat → FieldType} {fs : List Value} {v : Value} {ty : FieldType} (q : Nat) (hd : decode (kc μ) pc = .ok (.putfield idx, 3)) (hq : pc + 3 = q) (ho : kown μ = own) (hc : vwCl[ci]? = some (C, T, N)) (hin : ∀ w ∈ u_ws C T N, w ∈ lw_all) (hty : ∀ k, k < N → parseFieldDescriptor (T k).2.2.1 = some (ty0 k)) (hnm : ∀ a, a < N → ∀ b, b < N → a ≠ b → (T a).2.1 ≠ (T b).2.1) (hw : Cond.fieldLinkNest own idx ref nm ds host ∈ nestF) (hT : T k0 = (ref, nm, ds, false)) (hk0 : k0 < N) (hds : parseFieldDescriptor ds = some ty) (hn : narrow ty (cv γ v) = cv γ v) (hft : fits ty (cv γ v) = true) (hlen : k0 < fs.length) (hr : gF w r = some (ci, fs)) (k : Rch γ d μ q ls st (sF w r (ci, fs.set k0 v)) Q X) : Rch γ d μ pc ls (v :: .ref r :: st) w Q X := by
  subst hq
  intro p e R s m args below meth c QM hC hE H locs lsA hD hl
  obtain ⟨⟨K, hk, hP, hDD⟩, hS, hz⟩ := hD
  obtain ⟨j, hj, hj1, hj2⟩ := nd_at (γ := γ) hk hr
  have hnw := hC.2.2.2.2.2.2.2.2.2.2.2.2.2.1.2.2.2.2.2.2.1 _ (List.mem_append_right _ (List.mem_append_left _ hw))
  refine va_putN (own := own) (ref := ref) (C := C) (T := T) (N := N) (ty := ty) (host := host) hC.1 hC.2.1 hC.2.2.2.2.2.2.1 hin ty0 hty hnm (by rw [← ho]; exact hC.2.2.2.2.2.1) hC.2.2.2.2.2.2.2.2.2.2.2.2.2.1.1 hP hDD hS j hj hc k0 hk0 (by rw [hT]; exact va_Nw.use rfl hnw) (fun x hx => by rw [hT] at hx ⊢; exact hx) (by rw [hT]) (by rw [hT]; exact hds) hn hft (by rw [List.length_map]; exact hlen) hd (fun H1 locs1 hP1 hD1 hS1 => ?_)
  obtain ⟨e1, e2⟩ := nd_put (γ := γ) (k0 := k0) (v := v) (H1 := H1) (s := s) (locs1 := locs1) hk hr hDD hj1 hj2
  rw [e1] at hP1 hD1
  exact k p e R s m args below meth c QM hC hE H1 locs1 lsA ⟨⟨K, e2, hP1, hD1⟩, hS1, hz⟩ hl
/-- a final field of a node, written in its constructor -/
theorem R.putF {r ci k0 idx N : Nat} {own nm ds C : String} {T : u_T} {ty0 : Nat → FieldType} {fs : List Value} {v : Value} {ty : FieldType} (q : Nat) (hd : decode (kc μ) pc = .ok (.putfield idx, 3)) (hq : pc + 3 = q) (ho : kown μ = own) (hnmI : knm μ = "<init>") (hc : vwCl[ci]? = some (C, T, N)) (hin : ∀ w ∈ u_ws C T N, w ∈ lw_all) (hty : ∀ k, k < N → parseFieldDescriptor (T k).2.2.1 = some (ty0 k)) (hnm : ∀ a, a < N → ∀ b, b < N → a ≠ b → (T a).2.1 ≠ (T b).2.1) (hw : Cond.fieldLink own idx own nm ds ∈ lw_all) (hT : T k0 = (own, nm, ds, true)) (hk0 : k0 < N) (hds : parseFieldDescriptor ds = some ty) (hn : narrow ty (cv γ v) = cv γ v) (hft : fits ty (cv γ v) = true) (hlen : k0 < fs.length) (hr : gF w r = some (ci, fs)) (k : Rch γ d μ q ls st (sF w r (ci, fs.set k0 v)) Q X) : Rch γ d μ pc ls (v :: .ref r :: st) w Q X := by
  subst hq
  intro p e R s m args below meth c QM hC hE H locs lsA hD hl
  obtain ⟨⟨K, hk, hP, hDD⟩, hS, hz⟩ := hD
  obtain ⟨j, hj, hj1, hj2⟩ := nd_at (γ := γ) hk hr
  refine va_putF (own := own) (ref := own) (C := C) (T := T) (N := N) (ty := ty) hC.1 hC.2.1 hC.2.2.2.2.2.2.1 hin ty0 hty hnm (by rw [← ho]; exact hC.2.2.2.2.2.1) hC.2.2.2.2.2.2.2.2.2.2.2.2.2.1.1 hP hDD hS j hj hc k0 hk0 (by rw [hT]; exact hC.2.2.2.2.2.2.1 _ hw) (fun x hx => by rw [hT] at hx ⊢; exact hx) (by rw [hT]) (by rw [← hnmI]; exact hC.2.2.2.2.2.2.2.2.2.2.2.2.1) (by rw [hT]) (by rw [hT]; exact hds) hn hft (by rw [List.length_map]; exact hlen) hd (fun H1 locs1 hP1 hD1 hS1 => ?_)
  obtain ⟨e1, e2⟩ := nd_put (γ := γ) (k0 := k0) (v := v) (H1 := H1) (s := s) (locs1 := locs1) hk hr hDD hj1 hj2
  rw [e1] at hP1 hD1
  exact k p e R s m args below meth c QM hC hE H1 locs1 lsA ⟨⟨K, e2, hP1, hD1⟩, hS1, hz⟩ hl
/-- a new node -/
theorem R.new {ci idx N : Nat} {own C : String} {T : u_T} {ty0 : Nat → FieldType} {fs : List Value} (q : Nat) (hd : decode (kc μ) pc = .ok (.new idx, 3)) (hq : pc + 3 = q) (ho : kown μ = own) (hc : vwCl[ci]? = some (C, T, N)) (hin : ∀ w ∈ u_ws C T N, w ∈ lw_all) (hty : ∀ k, k < N → parseFieldDescriptor (T k).2.2.1 = some (ty0 k)) (hcl : Cond.classLink own idx C ∈ lw_all) (hinst : Cond.instantiable C N ∈ lw_all) (hini : Cond.initialized C ∈ lw_all) (hfs : ∀ j, j < N → defaultValue (ty0 j) = vp_V fs j) (hcv : fs.map (cv γ) = fs) (hN : N ≤ 8) (hZ : gZ w + 1 ≤ CM)
    (k : ∀ r, 200 ≤ r → gF w r = none → Rch γ d μ q ls (.ref r :: st) (sZ (sF w r (ci, fs)) (gZ w + 1)) Q X) : Rch γ d μ pc ls st w Q X := by
  subst hq
  intro p e R s m args below meth c QM hC hE H locs lsA hD hl
  obtain ⟨⟨K, hk, hP, hDD⟩, hS, hz, hz2, hz3⟩ := hD
  have hc1 := hC.2.2.2.2.2.2.2.2.2.1
  have hc2 := hC.2.2.2.2.2.2.2.2.2.2.1
  have hSt := hC.2.2.2.2.2.2.2.2.2.2.2.2.2.1
  have hA : ∀ x : Nat, s.heap.size ≤ x → gW γ x := fun x h => hSt.2.2.2.2.2.2.2.2.2.2.2.1 x (Nat.le_trans hSt.2.2.2.2.2.2.2.2.2.2.1 h)
  refine va_new (ci := ci) (fs := fs) (C := C) (T := T) (N := N) hC.1 hC.2.1 hC.2.2.2.2.2.2.1 hin ty0 hty (by rw [← ho]; exact hC.2.2.2.2.2.1) (hC.2.2.2.2.2.2.1 _ hcl) (hC.2.2.2.2.2.2.1 _ hinst) (hC.2.2.2.2.2.2.1 _ hini) hSt.1 hP hDD hS hA hc hfs (by simp only [cwn]; omega) (by simp only [swn]; omega) hd (fun a H1 hP1 hD1 hS1 => ?_)
  have e1 : gad γ (200 + a) = a := by unfold gad; rw [if_neg (by omega), Nat.add_sub_cancel_left]
  have hfr : a ∉ K := by
    intro hm
    obtain ⟨i, hi⟩ := List.getElem?_of_mem hm
    have h1 : (cells γ w K ++ [(a, Sum.inr (ci, fs))])[(fixL γ w).length + i]? = some (a, .inr (match gF w (200 + a) with
      | some n => (n.1, n.2.map (cv γ))
      | none => (0, []))) := by
      have hlt := (List.getElem?_eq_some_iff.mp hi).1
      have h0 : (cells γ w K)[(fixL γ w).length + i]? = some (a, .inr (match gF w (200 + a) with
        | some n => (n.1, n.2.map (cv γ))
        | none => (0, []))) := by
        unfold cells
        rw [List.getElem?_append_right (Nat.le_add_right _ _), Nat.add_sub_cancel_left]
        unfold nds
        rw [List.getElem?_map, hi]
        rfl
      rw [List.getElem?_append_left (List.getElem?_eq_some_iff.mp h0).1]
      exact h0
    have h2 : (cells γ w K ++ [(a, Sum.inr (ci, fs))])[(cells γ w K).length]? = some (a, .inr (ci, fs)) := by simp
    have h3 := hD1.1 _ _ _ _ h1 h2 rfl
    have hlt := (List.getElem?_eq_some_iff.mp hi).1
    have h4 : (cells γ w K).length = (fixL γ w).length + K.length := by
      unfold cells nds
      rw [List.length_append, List.length_map]
    omega
  have hgn : gF w (200 + a) = none := by
    cases h : gF w (200 + a) with
    | none => rfl
    | some n =>
      have := (hk _ _ h).2
      rw [Nat.add_sub_cancel_left] at this
      exact absurd this hfr
  have ecell : cells γ w K ++ [(a, Sum.inr (ci, fs))] = cells γ (sZ (sF w (200 + a) (ci, fs)) (gZ w + 1)) (K ++ [a]) := by
    unfold cells
    rw [List.append_assoc]
    show fixL γ w ++ _ = fixL γ w ++ _
    congr 1
    unfold nds
    rw [List.map_append]
    congr 1
    · refine List.map_congr_left fun x hx => ?_
      have hne : ¬ 200 + x = 200 + a := fun e => hfr (by obtain rfl : x = a := by omega
                                                         exact hx)
      simp only [gF, sF, sZ, if_neg hne]
    · simp only [List.map_cons, List.map_nil, gF, sF, sZ, if_pos, hcv]
  rw [ecell] at hP1 hD1
  have h := k (200 + a) (by omega) hgn p e R s m args below meth c QM hC hE H1 locs lsA ⟨⟨K ++ [a], fun r n hr => ?_, hP1, hD1⟩, hS1, hZ, by show s.heap.size ≤ gsz0 γ + (gZ w + 1); omega, by show slT s.heap ≤ gsl0 γ + 8 * (gZ w + 1); omega⟩ hl
  · rw [List.map_cons] at h
    show W p (gl γ) e R s m args below meth c H1 locs _ _ QM (F0 m (pc + 3) lsA (.ref a :: st.map (cv γ)))
    have h' : W p (gl γ) e R s m args below meth c H1 locs (cwn γ (sZ (sF w (200 + a) (ci, fs)) (gZ w + 1)) s) (swn γ (sZ (sF w (200 + a) (ci, fs)) (gZ w + 1)) s) QM (F0 m (pc + 3) lsA (.ref (gad γ (200 + a)) :: st.map (cv γ))) := h
    rw [e1] at h'
    exact W.widen (by show _ ≤ gsz0 γ + (gZ w + 1) - s.heap.size; simp only [cwn]; omega) (by show _ ≤ gsl0 γ + 8 * (gZ w + 1) - slT s.heap; simp only [swn]; omega) h'
  · by_cases e : r = 200 + a
    · subst e
      exact ⟨by omega, by rw [Nat.add_sub_cancel_left]; exact List.mem_append_right _ List.mem_cons_self⟩
    · have := hk r n (by simpa [gF, sF, sZ, e] using hr)
      exact ⟨this.1, List.mem_append_left _ this.2⟩
theorem R.objInit {i idx : Nat} (q : Nat) (hd : decode (kc μ) pc = .ok (.invokespecial idx, 3)) (hq : pc + 3 = q) (hw : Cond.methodLink (kown μ) idx Lib.objectInit ∈ lw_all) (hw2 : Cond.instanceMethod Lib.objectInit ∈ lw_all) (hw3 : Cond.code Lib.objectInit ⟨#[0xb1]⟩ 1 none ∈ lw_all) (hdd : 0 < d) (hrm : (st.map fun v => v.category).sum ≤ 8) (k : Rch γ d μ q ls st w Q X) : Rch γ d μ pc ls (.ref i :: st) w Q X := by
  subst hq
  intro p e R s m args below meth c QM hC hE H locs lsA hD hl
  have h := k p e R s m args below meth c QM hC hE H locs lsA hD hl
  have hfr := hC.2.2.2.2.2.2.2.1
  have hlo := hC.2.2.2.2.2.2.2.2.1
  exact W.objInit (g := F0 m pc lsA ((.ref i :: st).map (cv γ))) hC.1 hC.2.1 hC.2.2.2.2.2.1 (hC.2.2.2.2.2.2.1 _ hw) (hC.2.2.2.2.2.2.1 _ hw2) (hC.2.2.2.2.2.2.1 _ hw3) rfl ((lk_size hl).trans hC.2.2.1.symm) rfl hd (by omega) (by
    have := lv_room (m := m) (pc := pc) (ls := lsA) (rest := (.ref i :: st).map (cv γ)) (st := st.map (cv γ)) (by rw [cv_rest]; exact hrm)
    omega) h
/-- texts -/
theorem R.ldcS {idx i : Nat} {tx : String} (q : Nat) (hd : decode (kc μ) pc = .ok (.ldc idx, 2)) (hq : pc + 2 = q) (hm : (kown μ, idx, tx, i) ∈ ldcT) (k : Rch γ d μ q ls (.ref (120 + i) :: st) w Q X) : Rch γ d μ pc ls st w Q X := by
  subst hq
  intro p e R s m args below meth c QM hC hE H locs lsA hD hl
  exact va_ldcS hC.1 hC.2.1 hC.2.2.2.2.2.1 (hC.2.2.2.2.2.2.2.2.2.2.2.2.2.1.2.2.1 _ hm) hd (k p e R s m args below meth c QM hC hE H locs lsA hD hl)
theorem R.sval {idx i : Nat} (hi : i < 6) (q : Nat) (hd : decode (kc μ) pc = .ok (.getfield idx, 3)) (hq : pc + 3 = q) (ho : kown μ = "java/lang/String") (hw : Cond.fieldLink "java/lang/String" idx "java/lang/String" "value" "[B" ∈ lw_all) (k : Rch γ d μ q ls (.ref (130 + i) :: st) w Q X) : Rch γ d μ pc ls (.ref (120 + i) :: st) w Q X := by
  subst hq
  intro p e R s m args below meth c QM hC hE H locs lsA hD hl
  exact vk_getf hC.1 hC.2.1 (hC.2.2.2.2.2.2.2.2.2.2.2.2.2.1.2.1.1 i hi).2.2.1 hD.2.1 (by rw [← ho]; exact hC.2.2.2.2.2.1) (hC.2.2.2.2.2.2.1 _ hw) (fun x h => h) hd (k p e R s m args below meth c QM hC hE H locs lsA hD hl)
theorem R.scod {idx i : Nat} (hi : i < 6) (q : Nat) (hd : decode (kc μ) pc = .ok (.getfield idx, 3)) (hq : pc + 3 = q) (ho : kown μ = "java/lang/String") (hw : Cond.fieldLink "java/lang/String" idx "java/lang/String" "coder" "B" ∈ lw_all) (k : Rch γ d μ q ls (.int (iz 0) :: st) w Q X) : Rch γ d μ pc ls (.ref (120 + i) :: st) w Q X := by
  subst hq
  intro p e R s m args below meth c QM hC hE H locs lsA hD hl
  exact vk_getf hC.1 hC.2.1 (hC.2.2.2.2.2.2.2.2.2.2.2.2.2.1.2.1.1 i hi).2.1 hD.2.1 (by rw [← ho]; exact hC.2.2.2.2.2.1) (hC.2.2.2.2.2.2.1 _ hw) (fun x h => h) hd (k p e R s m args below meth c QM hC hE H locs lsA hD hl)
theorem R.slen {i : Nat} (hi : i < 6) (q : Nat) (hd : decode (kc μ) pc = .ok (.arraylength, 1)) (hq : pc + 1 = q) (k : Rch γ d μ q ls (.int (iz (sLen.getD i 0)) :: st) w Q X) : Rch γ d μ pc ls (.ref (130 + i) :: st) w Q X := by
  subst hq
  intro p e R s m args below meth c QM hC hE H locs lsA hD hl
  exact va_tlen hC.1 hC.2.1 (hC.2.2.2.2.2.2.2.2.2.2.2.2.2.1.2.1.1 i hi).2.2.2 hD.2.1 (v := iz (sLen.getD i 0)) (by unfold iz; rfl) hd (k p e R s m args below meth c QM hC hE H locs lsA hD hl)
theorem R.sbyt {i : Nat} (hi : i < 6) {j : Int32} (q : Nat) (hd : decode (kc μ) pc = .ok (.baload, 1)) (hq : pc + 1 = q) (hin : inb j (sLen.getD i 0)) (k : Rch γ d μ q ls (.int ((sByt.getD i []).getD j.toNatClampNeg 0) :: st) w Q X) : Rch γ d μ pc ls (.int j :: .ref (130 + i) :: st) w Q X := by
  subst hq
  intro p e R s m args below meth c QM hC hE H locs lsA hD hl
  exact va_tb hC.1 hC.2.1 (hC.2.2.2.2.2.2.2.2.2.2.2.2.2.1.2.1.1 i hi).2.2.2 hD.2.1 (inb_vp hin) rfl hd (k p e R s m args below meth c QM hC hE H locs lsA hD hl)
theorem R.sCS {idx : Nat} (q : Nat) (hd : decode (kc μ) pc = .ok (.getstatic idx, 3)) (hq : pc + 3 = q) (ho : kown μ = "java/lang/String") (hw : Cond.fieldLink "java/lang/String" idx "java/lang/String" "COMPACT_STRINGS" "Z" ∈ lw_all) (k : Rch γ d μ q ls (.int (iz 1) :: st) w Q X) : Rch γ d μ pc ls st w Q X := by
  subst hq
  intro p e R s m args below meth c QM hC hE H locs lsA hD hl
  exact va_gets hC.1 hC.2.1 hC.2.2.2.2.2.2.2.2.2.2.2.2.2.1.2.2.2.1 hD.2.1 (by rw [← ho]; exact hC.2.2.2.2.2.1) (hC.2.2.2.2.2.2.1 _ hw) (fun x h => h) hd (k p e R s m args below meth c QM hC hE H locs lsA hD hl)
theorem R.sSIO {idx : Nat} (q : Nat) (hd : decode (kc μ) pc = .ok (.getstatic idx, 3)) (hq : pc + 3 = q) (ho : kown μ = "java/lang/String") (hw : Cond.fieldLink "java/lang/String" idx "jdk/internal/util/Preconditions" "SIOOBE_FORMATTER" "Ljava/util/function/BiFunction;" ∈ lw_all) (k : Rch γ d μ q ls (gsio γ :: st) w Q X) : Rch γ d μ pc ls st w Q X := by
  subst hq
  intro p e R s m args below meth c QM hC hE H locs lsA hD hl
  exact va_gets hC.1 hC.2.1 hC.2.2.2.2.2.2.2.2.2.2.2.2.2.1.2.2.2.2.1 hD.2.1 (by rw [← ho]; exact hC.2.2.2.2.2.1) (hC.2.2.2.2.2.2.1 _ hw) (fun x h => h) hd (k p e R s m args below meth c QM hC hE H locs lsA hD hl)
/-- the script -/
theorem R.scald {i : Int32} (q : Nat) (hd : decode (kc μ) pc = .ok (.iaload, 1)) (hq : pc + 1 = q) (hin : inb i (gsn γ)) (k : Rch γ d μ q ls (.int (gxs γ i.toNatClampNeg) :: st) w Q X) : Rch γ d μ pc ls (.int i :: .ref 5 :: st) w Q X := by
  subst hq
  intro p e R s m args below meth c QM hC hE H locs lsA hD hl
  have hSt := hC.2.2.2.2.2.2.2.2.2.2.2.2.2.1.2.2.2.2.2.2.2.2.2.2.2.2.2.2.2.2
  exact va_sld hC.1 hC.2.1 hSt.1 hSt.2.1 hSt.2.2 hD.2.1 (inb_vp hin) hd (k p e R s m args below meth c QM hC hE H locs lsA hD hl)
theorem R.sclen (q : Nat) (hd : decode (kc μ) pc = .ok (.arraylength, 1)) (hq : pc + 1 = q) (k : Rch γ d μ q ls (.int (iz (gsn γ)) :: st) w Q X) : Rch γ d μ pc ls (.ref 5 :: st) w Q X := by
  subst hq
  intro p e R s m args below meth c QM hC hE H locs lsA hD hl
  have hSt := hC.2.2.2.2.2.2.2.2.2.2.2.2.2.1.2.2.2.2.2.2.2.2.2.2.2.2.2.2.2.2
  exact va_slen hC.1 hC.2.1 hSt.1 hSt.2.1 hSt.2.2 hD.2.1 hd (k p e R s m args below meth c QM hC hE H locs lsA hD hl)
/-- the kept fault is thrown -/
theorem R.throwF (hd : decode (kc μ) pc = .ok (.athrow, 1)) (k : RchX γ d μ pc ls w "FrostBox$Fault" Q X) : Rch γ d μ pc ls (.ref 4 :: st) w Q X := by
  intro p e R s m args below meth c QM hC hE H locs lsA hD hl
  have hSt := hC.2.2.2.2.2.2.2.2.2.2.2.2.2.1
  obtain ⟨cell, g1, -, g3, g4⟩ := hSt.2.2.2.2.2.1
  obtain ⟨ce, e1, e2⟩ := hSt.2.2.2.2.2.2.2.2.2.2.2.2.2.2.2.1
  cases g1.symm.trans e1
  have hH : H[gad γ 4]? = some cell := by rw [hD.2.1.2.1 _ (Array.getElem?_eq_some_iff.mp g1).1 g4]; exact g1
  exact vx_athrow hC.1 hC.2.1 hd (k p e R s m args below meth c QM hC hE H locs lsA (st.map (cv γ)) (gad γ 4) cell hD hl hH e2 g3)
/-- caught by the method's one handler, which lays the thing into the local k0 -/
theorem RchX.catch {E name : String} {a b t i q : Nat} {k0 : Fin 4} (hh : khh μ = [(a, b, t, i)]) (hcov : a ≤ pc ∧ pc < b) (h0 : i ≠ 0) (hlink : Cond.classLink (kown μ) i name ∈ lw_all) (hcast : Cond.castable E name ∈ nestC) (hd : decode (kc μ) t = .ok (.astore_n k0, 1)) (hq : t + 1 = q) (hn : (k0 : Nat) < knL μ) (hp : ∀ j, j + 1 = (k0 : Nat) → ∀ u, ls[j]? = some u → c1 u = true) (k : Rch γ d μ q (ls.set k0 none) [] w Q X) : RchX γ d μ pc ls w E Q X := by
  subst hq
  intro p e R s m args below meth c QM hC hE H locs lsA rest a0 ce hD hl h1 h2 h3
  have htab := hC.2.2.2.2.2.2.2.2.2.2.2.1
  rw [hh] at htab
  have hnw := hC.2.2.2.2.2.2.2.2.2.2.2.2.2.1.2.2.2.2.2.2.1 _ (List.mem_append_right _ (List.mem_append_right _ (List.mem_append_left _ hcast)))
  refine vx_catch (own := kown μ) (name := name) (E := E) (ce := ce) hC.2.2.2.2.2.1 [] ⟨a, b, t, i⟩ [] htab (fun z hz => nomatch hz) (by simp [covers, hcov.1, hcov.2]) h0 (hC.2.2.2.2.2.2.1 _ hlink) (va_Nw.use rfl hnw) h1 h2 h3 ?_
  refine lv_astore_n (k := k0) hC.1 hC.2.1 hd rfl hl hn rfl (fun ls' h => k p e R s m args below meth c QM hC hE H locs ls' hD ⟨h.1, h.2.1, fun q hq => ?_⟩)
  obtain ⟨u, -, g2, g3⟩ := lvl_mem.mp hq
  rw [Nat.sub_zero] at g2
  have hne : ¬ q.1 = (k0 : Nat) := by
    intro e
    rw [e, List.getElem?_set_self'] at g2
    cases hx : ls[(k0 : Nat)]? with
    | none => rw [hx] at g2; simp at g2
    | some z => rw [hx] at g2; simp at g2
  rw [List.getElem?_set_ne (fun e => hne e.symm)] at g2
  refine h.2.2 q (List.mem_cons.mpr (Or.inr (List.mem_filter.mpr ⟨lvl_mem.mpr ⟨u, Nat.zero_le _, by simpa using g2, g3⟩, ?_⟩)))
  by_cases hj : q.1 + 1 = (k0 : Nat)
  · have := c1_cat (hp _ hj _ g2)
    simp [hne, g3, cv_cat, this]
  · simp [hne, hj]
theorem RchX.catch' {E name : String} {a b t i q k0 : Nat} (hh : khh μ = [(a, b, t, i)]) (hcov : a ≤ pc ∧ pc < b) (h0 : i ≠ 0) (hlink : Cond.classLink (kown μ) i name ∈ lw_all) (hcast : Cond.castable E name ∈ nestC) (hd : decode (kc μ) t = .ok (.astore k0, 2)) (hq : t + 2 = q) (hn : k0 < knL μ) (hp : ∀ j, j + 1 = k0 → ∀ u, ls[j]? = some u → c1 u = true) (k : Rch γ d μ q (ls.set k0 none) [] w Q X) : RchX γ d μ pc ls w E Q X := by
  subst hq
  intro p e R s m args below meth c QM hC hE H locs lsA rest a0 ce hD hl h1 h2 h3
  have htab := hC.2.2.2.2.2.2.2.2.2.2.2.1
  rw [hh] at htab
  have hnw := hC.2.2.2.2.2.2.2.2.2.2.2.2.2.1.2.2.2.2.2.2.1 _ (List.mem_append_right _ (List.mem_append_right _ (List.mem_append_left _ hcast)))
  refine vx_catch (own := kown μ) (name := name) (E := E) (ce := ce) hC.2.2.2.2.2.1 [] ⟨a, b, t, i⟩ [] htab (fun z hz => nomatch hz) (by simp [covers, hcov.1, hcov.2]) h0 (hC.2.2.2.2.2.2.1 _ hlink) (va_Nw.use rfl hnw) h1 h2 h3 ?_
  refine lv_astore hC.1 hC.2.1 hd hl hn rfl (fun ls' h => k p e R s m args below meth c QM hC hE H locs ls' hD ⟨h.1, h.2.1, fun q hq => ?_⟩)
  obtain ⟨u, -, g2, g3⟩ := lvl_mem.mp hq
  rw [Nat.sub_zero] at g2
  have hne : ¬ q.1 = k0 := by
    intro e
    rw [e, List.getElem?_set_self'] at g2
    cases hx : ls[k0]? with
    | none => rw [hx] at g2; simp at g2
    | some z => rw [hx] at g2; simp at g2
  rw [List.getElem?_set_ne (fun e => hne e.symm)] at g2
  refine h.2.2 q (List.mem_cons.mpr (Or.inr (List.mem_filter.mpr ⟨lvl_mem.mpr ⟨u, Nat.zero_le _, by simpa using g2, g3⟩, ?_⟩)))
  by_cases hj : q.1 + 1 = k0
  · have := c1_cat (hp _ hj _ g2)
    simp [hne, g3, cv_cat, this]
  · simp [hne, hj]
end MEM
