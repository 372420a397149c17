/-! a plan whole; fault(2) and text(2) -/
def fVr (w w' : Wd) : Prop := (∀ k, ¬ (68 ≤ k ∧ k ≤ 74) → gI w' k = gI w k) ∧ (∀ a, a ≠ 83 → a ≠ 84 → gA w' a = gA w a) ∧ (∀ t, t < 256 → gA w' 83 t = gA w 83 t) ∧ (∀ t, t ≠ 4 → gA w' 84 t = gA w 84 t) ∧ gJ w' = gJ w ∧ gL w' = gL w ∧ gC w' = gC w ∧ gF w' = gF w ∧ gZ w' = gZ w
theorem fVr.f {w w' : Wd} (f : fVr w w') : fM w w' := by
  obtain ⟨f1, f2, f3, f4, f5, f6, f7, f8, f9⟩ := f
  refine ⟨fun k hk => f1 k (fun e => ?_), fun a ha => f2 a (fun e => ?_) (fun e => ?_), f3, fun t ht => f4 t (by omega), fun _ _ => by rw [f5], fun _ _ => by rw [f6], f7, f8, f9⟩
  · have : k = 68 ∨ k = 69 ∨ k = 70 ∨ k = 71 ∨ k = 72 ∨ k = 73 ∨ k = 74 := by omega
    rcases this with rfl | rfl | rfl | rfl | rfl | rfl | rfl <;> exact absurd hk (by decide)
  · rw [e] at ha
    exact absurd ha (by decide)
  · rw [e] at ha
    exact absurd ha (by decide)
def BoPl (t : Int → Int) (n : Int) : Prop :=
  (∃ pf, 0 ≤ pf ∧ pf ≤ n ∧ (∀ (q : Int) (w : Wd) (Q : Wd → Prop) (X : Wd → Prop), 0 ≤ q → q ≤ 4 → TxX t n w → (∀ w', fWq q 0 w w' → gI w' 13 = iz pf → X w') → wp_X1_wholePlan (iz q) w Q X) ∧ (∀ (w : Wd) (Q : Wd → Prop), TxL t n 61 0 w → gI w 66 = iz n → (∀ w', fVr w w' → gI w' 71 = iz pf → Q w') → wp_X3_readPlan w Q)) ∨
  (∃ (e : Int) (V : Int → Int), 0 < e ∧ e ≤ 16 ∧ (∀ i, 0 ≤ i → i < e → stepOK V (4 * i)) ∧ (∀ (q : Int) (w : Wd) (Q : Wd → Prop) (X : Wd → Prop), 0 ≤ q → q ≤ 4 → TxX t n w → (∀ w', fWq q 0 w w' → gA w' 25 q = iz e → (∀ j, 0 ≤ j → j < 4 * e → gA w' 24 (64 * q + j) = iz (V j)) → Q w') → wp_X1_wholePlan (iz q) w Q X) ∧ (∀ (w : Wd) (Q : Wd → Prop), TxL t n 61 0 w → gI w 66 = iz n → (∀ w', fVr w w' → gI w' 71 = iz (-1) → gA w' 84 4 = iz e → (∀ j, 0 ≤ j → j < 4 * e → gA w' 83 (256 + j) = iz (V j)) → Q w') → wp_X3_readPlan w Q))
theorem bo_plan {t : Int → Int} {n : Int} (B : TB t n) : BoPl t n := by
  have b1 := B.1; have b2 := B.2.1
  have hx : ∀ (q : Int) (w : Wd) (Q : Wd → Prop) (X : Wd → Prop), 0 ≤ q → q ≤ 4 → TxX t n w → (∀ w1, fWq q 0 w w1 → PX t n 0 w1 → gA w1 25 q = iz 0 → lp_X1_wholePlan_14 Q X (iz q) 17 (iz 1) w1) → wp_X1_wholePlan (iz q) w Q X := by
    intro q w Q X c0 c4 T x
    unfold wp_X1_wholePlan
    rintro w1 rfl
    refine ⟨iz_inb (by omega) (by omega) (by omega), ?_⟩
    rintro w2 rfl
    rw [iz_toInt (a := q) (by omega) (by omega)]
    refine ⟨17, x _ (((fWq.refl w).i13 _).s25 _) ((PX.at (p := 0) (w := sI w 13 (iz 0)) ⟨⟨by rw [gI_sI, if_neg (by decide)]; exact T.1, T.2⟩, by rw [gI_sI, if_pos rfl]⟩ 0).set (a := 25) (by decide) q (iz 0) |> fun h => ?_) ?_⟩
    · rw [sI_sI] at h
      exact h
    · rw [g24, if_pos rfl]
  have hm : ∀ (w : Wd) (Q : Wd → Prop), TxL t n 61 0 w → gI w 66 = iz n → (∀ d w1, fVr w w1 → MS0 t n 0 d w1 → lp_X3_readPlan_17 Q 17 (iz 0) (iz 1) w1) → wp_X3_readPlan w Q := by
    intro w Q T e x
    unfold wp_X3_readPlan wp_X3_starts
    rintro w1 rfl w2 rfl w3 rfl w4 rfl w5 rfl
    rw [e]
    have g : ∀ k, gI (sI (sI (sI (sI (sT w 61) 68 (iz 0)) 69 (iz n)) 70 (iz 0)) 71 (iz (-1))) k = if k = 71 then iz (-1) else if k = 70 then iz 0 else if k = 69 then iz n else if k = 68 then iz 0 else gI w k := fun k => by
      rw [gI_sI, gI_sI, gI_sI, gI_sI]
      rfl
    obtain ⟨d, _, _, ed⟩ := ex_iz (gI w 72)
    refine ⟨17, x d _ ⟨fun k hk => ?_, fun _ _ _ => rfl, fun _ _ => rfl, fun _ _ => rfl, rfl, rfl, rfl, rfl, rfl⟩ ⟨by rw [g]; rfl, ⟨0, T.2.1, T.2.2.1, Or.inl ⟨rfl, rfl⟩, by rw [g]; rfl, T.2.2.2⟩, by rw [g]; rfl, ?_, by rw [g]; rfl⟩⟩
    · rw [g, if_neg (by omega), if_neg (by omega), if_neg (by omega), if_neg (by omega)]
    · rw [g, ← ed]
      rfl
  have fin : ∀ {w w1 w' : Wd}, fVr w w1 → fVq 0 w1 w' → fVr w w' := by
    intro w w1 w' f g
    obtain ⟨f1, f2, f3, f4, f5, f6, f7, f8, f9⟩ := f
    obtain ⟨g1, g2, g3, g4, g5, g6, g7, g8, g9⟩ := g
    exact ⟨fun k hk => (g1 k (by omega) (by omega)).trans (f1 k hk), fun a a1 a2 => (g2 a a1 a2).trans (f2 a a1 a2), fun t ht => (g3 t (by omega)).trans (f3 t ht), fun t ht => (g4 t ht).trans (f4 t ht), g5.trans f5, g6.trans f6, g7.trans f7, g8.trans f8, g9.trans f9⟩
  rcases lo_plan B 16 0 0 (by decide) (by decide) (by decide) (by decide) b1 with ⟨pf, q1, q2, qx, qm⟩ | ⟨e, V, i1, i2, iv, ix, im⟩
  · exact Or.inl ⟨pf, q1, q2, fun q w Q X c0 c4 T x => hx q w Q X c0 c4 T (fun w1 f1 S1 e1 => qx q w1 Q X c0 c4 S1 e1 (fun w' g1 g2 => x w' (f1.trans g1 (by decide)) g2)), fun w Q T e x => hm w Q T e (fun d w1 f1 S1 => qm d w1 Q S1 (fun w' g1 g2 => x w' (fin f1 g1) g2))⟩
  · rw [Int.sub_zero] at iv ix im
    refine Or.inr ⟨e, V, i1, i2, iv, fun q w Q X c0 c4 T x => hx q w Q X c0 c4 T (fun w1 f1 S1 e1 => ix q w1 Q X c0 c4 S1 e1 (fun w' g1 g2 g3 => x w' (f1.trans g1 (by decide)) g2 (fun j j0 j1 => ?_))), fun w Q T e x => hm w Q T e (fun d w1 f1 S1 => im d w1 Q S1 (fun w' g1 g2 g3 g4 => x w' (fin f1 g1) g2 g3 (fun j j0 j1 => ?_)))⟩
    · have := g3 j j0 j1
      rw [show 64 * q + 4 * 0 + j = 64 * q + j by omega] at this
      exact this
    · have := g4 j j0 j1
      rw [show (256 : Int) + 4 * 0 + j = 256 + j by omega] at this
      exact this
def plAdd (pl : Pl) (e : Int) (V : Int → Int) : Pl := (pl.1 + 1, (fun q => if q = pl.1 then e else pl.2.1 q), (fun t => if 64 * pl.1 ≤ t then V (t - 64 * pl.1) else pl.2.2 t))
theorem plAdd_ok {pl : Pl} {e : Int} {V : Int → Int} (o : PlOK pl) (h4 : pl.1 < 4) (e0 : 0 < e) (e1 : e ≤ 16) (iv : ∀ i, 0 ≤ i → i < e → stepOK V (4 * i)) : PlOK (plAdd pl e V) := by
  obtain ⟨o1, o2, o3⟩ := o
  refine ⟨(by omega : 0 ≤ pl.1 + 1), (by omega : pl.1 + 1 ≤ 4), fun q q0 q1 => ?_⟩
  have q1 : q < pl.1 + 1 := q1
  show 1 ≤ (if q = pl.1 then e else pl.2.1 q) ∧ (if q = pl.1 then e else pl.2.1 q) ≤ 16 ∧ ∀ i, 0 ≤ i → i < (if q = pl.1 then e else pl.2.1 q) → stepOK (fun t => if 64 * pl.1 ≤ t then V (t - 64 * pl.1) else pl.2.2 t) (64 * q + 4 * i)
  by_cases eq : q = pl.1
  · rw [if_pos eq]
    refine ⟨by omega, e1, fun i i0 i1 => ?_⟩
    have g : ∀ k, 0 ≤ k → (if 64 * pl.1 ≤ 64 * q + 4 * i + k then V (64 * q + 4 * i + k - 64 * pl.1) else pl.2.2 (64 * q + 4 * i + k)) = V (4 * i + k) := fun k k0 => by
      rw [if_pos (by omega), show 64 * q + 4 * i + k - 64 * pl.1 = 4 * i + k by omega]
    refine (iv i i0 i1).cg ?_ (g 1 (by decide)) (g 2 (by decide)) (g 3 (by decide))
    have := g 0 (by decide)
    rw [Int.add_zero, Int.add_zero] at this
    exact this
  · rw [if_neg eq]
    obtain ⟨p1, p2, p3⟩ := o3 q q0 (by omega)
    refine ⟨p1, p2, fun i i0 i1 => ?_⟩
    have g : ∀ k, 0 ≤ k → k < 4 → (if 64 * pl.1 ≤ 64 * q + 4 * i + k then V (64 * q + 4 * i + k - 64 * pl.1) else pl.2.2 (64 * q + 4 * i + k)) = pl.2.2 (64 * q + 4 * i + k) := fun k k0 k4 => by
      rw [if_neg (by omega)]
    refine (p3 i i0 i1).cg ?_ (g 1 (by decide) (by decide)) (g 2 (by decide) (by decide)) (g 3 (by decide) (by decide))
    have := g 0 (by decide) (by decide)
    rw [Int.add_zero] at this
    exact this
