/-! fault(2) and text(2), both sides joined -/
section PO
variable {c : Cf} {lm : Int} {h : Hs} {k : Ks} {im : Int × Hs} {hv : Int} {tp : Tp} {pl pl' : Pl} {pk : Pk} {fn : Fnd} {w w' : Wd} {z : Nat} {C K : Int32 → Wd → Prop}
/-- other plans, another tape -/
theorem SX.plx {tp' : Tp} (X : SX c lm h k im hv tp pl pk fn w) (hI : ∀ j, j ≠ 12 → j ≠ 13 → j ≠ 26 → j < 60 → gI w' j = gI w j) (hA : ∀ a, a ≠ 24 → a ≠ 25 → a < 60 → gA w' a = gA w a) (hC : gC w' = gC w) (hF : gF w' = gF w) (T : TpX tp' w') (P : PlX pl' w') : SX c lm h k im hv tp' pl' pk fn w' := by
  obtain ⟨x1, x2, x3, x4, x5, x6, x7, x8, x9, x10, x11, x12, x13, x14, x15, x16⟩ := X
  refine ⟨by rw [hI 28 (by decide) (by decide) (by decide) (by decide)]; exact x1, fun i i1 i2 => (x2 i i1 i2).fr hC (fun r _ => by rw [hF]), by rw [hI 23 (by decide) (by decide) (by decide) (by decide)]; exact x3, by rw [hA 19 (by decide) (by decide) (by decide)]; exact x4, by rw [hA 20 (by decide) (by decide) (by decide)]; exact x5, by rw [hI 29 (by decide) (by decide) (by decide) (by decide)]; exact x6, by rw [hA 31 (by decide) (by decide) (by decide)]; exact x7, by rw [hI 33 (by decide) (by decide) (by decide) (by decide)]; exact x8, by rw [hA 32 (by decide) (by decide) (by decide)]; exact x9, by rw [hI 51 (by decide) (by decide) (by decide) (by decide)]; exact x10, by rw [hA 50 (by decide) (by decide) (by decide)]; exact x11, by rw [hI 30 (by decide) (by decide) (by decide) (by decide)]; exact x12, T, P, ?_, ?_⟩
  · unfold PkX
    rw [hI 39 (by decide) (by decide) (by decide) (by decide), hA 37 (by decide) (by decide) (by decide), hA 38 (by decide) (by decide) (by decide)]
    exact x15
  · unfold FnX
    rw [hI 43 (by decide) (by decide) (by decide) (by decide), hA 40 (by decide) (by decide) (by decide), hA 41 (by decide) (by decide) (by decide), hA 42 (by decide) (by decide) (by decide)]
    exact x16
theorem SM.plx {tp' : Tp} (M : SM c lm h k im hv tp pl pk fn w) (hI : ∀ j, j ≠ 66 → j ≠ 88 → 60 ≤ j → ¬ (68 ≤ j ∧ j ≤ 74) → j ≠ 60 → gI w' j = gI w j) (hA : ∀ a, a ≠ 83 → a ≠ 84 → 60 ≤ a → gA w' a = gA w a) (hL : gL w' 94 = gL w 94) (T : TpM tp' w') (P : PlM pl' w') : SM c lm h k im hv tp' pl' pk fn w' := by
  obtain ⟨x1, x2, x3, x4, x5, x6, x7, x8, x9, x10, x11, x12⟩ := M
  refine ⟨x1.fr (hI 85 (by decide) (by decide) (by decide) (by decide) (by decide)) (hI 92 (by decide) (by decide) (by decide) (by decide) (by decide)) (hA 78 (by decide) (by decide) (by decide)) (hA 80 (by decide) (by decide) (by decide)) (hA 62 (by decide) (by decide) (by decide)) (hA 63 (by decide) (by decide) (by decide)) (x1.2.2.2.2.2.2.1.fr hL (hA 95 (by decide) (by decide) (by decide))), by rw [hI 67 (by decide) (by decide) (by decide) (by decide) (by decide)]; exact x2, by rw [hA 90 (by decide) (by decide) (by decide)]; exact x3, by rw [hI 97 (by decide) (by decide) (by decide) (by decide) (by decide)]; exact x4, by rw [hA 96 (by decide) (by decide) (by decide)]; exact x5, by rw [hI 115 (by decide) (by decide) (by decide) (by decide) (by decide)]; exact x6, by rw [hA 114 (by decide) (by decide) (by decide)]; exact x7, by rw [hI 93 (by decide) (by decide) (by decide) (by decide) (by decide)]; exact x8, T, P, ?_, ?_⟩
  · unfold PkM
    rw [hI 103 (by decide) (by decide) (by decide) (by decide) (by decide), hA 101 (by decide) (by decide) (by decide), hA 102 (by decide) (by decide) (by decide)]
    exact x11
  · unfold FnM
    rw [hI 110 (by decide) (by decide) (by decide) (by decide) (by decide), hA 104 (by decide) (by decide) (by decide), hA 105 (by decide) (by decide) (by decide), hA 109 (by decide) (by decide) (by decide)]
    exact x12
theorem PlX.rd {q : Int} (o : PlOK pl) (P : PlX pl w) (f : fWq q 0 w w') (h : pl.1 ≤ q) : PlX pl w' := by
  refine ⟨by rw [f.1 26 (by decide)]; exact P.1, fun i i0 i1 => ?_⟩
  obtain ⟨o1, o2, o3⟩ := o
  obtain ⟨p1, p2⟩ := P.2 i i0 i1
  have o3 := o3 i i0 i1
  exact ⟨by rw [f.2.2.2.1 i (by omega)]; exact p1, fun t t0 t1 => by rw [f.2.2.1 _ (Or.inl (by omega))]; exact p2 t t0 t1⟩
theorem SX.rdp {q : Int} (ok : SOK c lm h k im hv tp pl pk fn) (X : SX c lm h k im hv tp pl pk fn w) (f : fWq q 0 w w') (hq : pl.1 ≤ q) : SX c lm h k im hv tp pl pk fn w' := by
  refine X.plx (fun j _ a _ _ => f.1 j a) (fun a a1 a2 _ => f.2.1 a a1 a2) f.2.2.2.2.2.2.1 f.2.2.2.2.2.2.2.1 ?_ (PlX.rd ok.2.2.2.2.2.2.2.2.2.2.1 X.2.2.2.2.2.2.2.2.2.2.2.2.2.1 f hq)
  unfold TpX
  rw [f.1 12 (by decide), f.2.1 11 (by decide) (by decide)]
  exact X.2.2.2.2.2.2.2.2.2.2.2.2.1
theorem SM.rdp (ok : SOK c lm h k im hv tp pl pk fn) (M : SM c lm h k im hv tp pl pk fn w) (f : fVr w w') : SM c lm h k im hv tp pl pk fn w' := by
  refine M.plx (fun j _ _ _ a _ => f.1 j a) (fun a a1 a2 _ => f.2.1 a a1 a2) (by rw [f.2.2.2.2.2.1]) ?_ ?_
  · unfold TpM
    rw [f.1 66 (by decide), f.2.1 61 (by decide) (by decide)]
    exact M.2.2.2.2.2.2.2.2.1
  · have P := M.2.2.2.2.2.2.2.2.2.1
    obtain ⟨o1, o2, o3⟩ := ok.2.2.2.2.2.2.2.2.2.2.1
    refine ⟨by rw [f.1 88 (by decide)]; exact P.1, fun i i0 i1 => ?_⟩
    obtain ⟨p1, p2⟩ := P.2 i i0 i1
    have o3 := o3 i i0 i1
    exact ⟨by rw [f.2.2.2.1 i (by omega)]; exact p1, fun t t0 t1 => by rw [f.2.2.1 _ (by omega)]; exact p2 t t0 t1⟩
theorem SM.gx {q : Int} (M : SM c lm h k im hv tp pl pk fn w) (f : fWq q 0 w w') : SM c lm h k im hv tp pl pk fn w' :=
  M.ge (fun j hj => f.1 j (by omega)) (fun a ha => f.2.1 a (by omega) (by omega)) (by rw [f.2.2.2.2.2.1])
theorem m_faultP {r : Int} {R : Wd → Wd → Prop} (ok : SOK c lm h k im hv tp pl pk fn) (M : SM c lm h k im hv tp pl pk fn w) (hm : ∀ (w : Wd) (Q : Wd → Prop), TxL tp.2 tp.1 61 0 w → gI w 66 = iz tp.1 → (∀ w', fVr w w' → gI w' 71 = iz r → R w w' → Q w') → wp_X3_readPlan w Q) (q : ∀ w1 w', SM c lm h k im hv tp pl pk fn w' → fM w w' → R w1 w' → K (iz r) w') : wp_X3_fault (iz 2) w K := by
  unfold wp_X3_fault
  rintro w1 rfl
  obtain ⟨M1, f1⟩ := M.thr ok (iz 0)
  generalize sI w 60 (iz 0) = w1 at M1 f1
  refine m_isIn (v := 2) (by decide) (by decide) (by decide) (fun _ _ => u1 ⟨fun _ => ?_, fun e => absurd e (by decide)⟩) (fun e => absurd (by decide) e)
  unfold b_X3_fault_28
  refine ⟨fun _ => ?_, fun e => absurd e (by decide)⟩
  unfold b_X3_fault_46
  refine ⟨fun e => absurd rfl e, fun _ => ?_⟩
  have T := M1.2.2.2.2.2.2.2.2.1
  refine hm w1 _ ⟨Or.inl ⟨rfl, rfl⟩, by decide, by decide, fun i a b => ?_⟩ T.1 (fun w2 g e hr => ?_)
  · rw [Int.zero_add]
    exact T.2 i a b
  · rw [e]
    exact q w1 w2 (M1.rdp ok g) (f1.trans g.f) hr
theorem op_faultP (I : INV z w) (q : ∀ r1 w2, (∀ K : Int32 → Wd → Prop, (∀ w', INV z w' → K r1 w') → wp_X3_fault (iz 2) w2 K) → C r1 w2) : wp_X1_wholePlan (iz 4) w (fun w5 => C (iz (-1)) w5) (fun w6 => C (gI w6 13) w6) := by
  obtain ⟨c, lm, h, k, im, hv, tp, pl, pk, fn, ok, X, M, hz⟩ := I
  have oT := ok.2.2.2.2.2.2.2.2.2.1
  have oP := ok.2.2.2.2.2.2.2.2.2.2.1
  have T := X.2.2.2.2.2.2.2.2.2.2.2.2.1
  have go : ∀ (r : Int) (w' : Wd), fWq 4 0 w w' → (∀ (w : Wd) (Q : Wd → Prop), TxL tp.2 tp.1 61 0 w → gI w 66 = iz tp.1 → (∀ w', fVr w w' → gI w' 71 = iz r → True → Q w') → wp_X3_readPlan w Q) → C (iz r) w' := by
    intro r w' f hm
    have zz := f.2.2.2.2.2.2.2.2
    exact q _ _ (fun K kk => m_faultP (R := fun _ _ => True) ok (M.gx f) hm (fun _ w2 M2 f2 _ => kk _ (inv_end ok (X.rdp ok f oP.2.1) f2 M2 (by omega))))
  rcases bo_plan (TpOK.tb oT) with ⟨pf, q1, q2, qx, qm⟩ | ⟨e, V, i1, i2, iv, ix, im⟩
  · refine qx 4 w _ _ (by decide) (by decide) T (fun w' f e => ?_)
    rw [e]
    exact go pf w' f (fun w Q T e x => qm w Q T e (fun w' a b => x w' a b trivial))
  · exact ix 4 w _ _ (by decide) (by decide) T (fun w' f _ _ => go (-1) w' f (fun w Q T e x => im w Q T e (fun w' a b _ _ => x w' a b trivial)))
end PO
