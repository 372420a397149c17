/-! a plan, read on both sides -/
def fWq (q s : Int) (w w' : Wd) : Prop := (∀ k, k ≠ 13 → gI w' k = gI w k) ∧ (∀ a, a ≠ 24 → a ≠ 25 → gA w' a = gA w a) ∧ (∀ t, t < 64 * q + 4 * s ∨ 64 * q + 64 ≤ t → gA w' 24 t = gA w 24 t) ∧ (∀ t, t ≠ q → gA w' 25 t = gA w 25 t) ∧ gJ w' = gJ w ∧ gL w' = gL w ∧ gC w' = gC w ∧ gF w' = gF w ∧ gZ w' = gZ w
def fVq (s : Int) (w w' : Wd) : Prop := (∀ k, k ≠ 70 → k ≠ 71 → gI w' k = gI w k) ∧ (∀ a, a ≠ 83 → a ≠ 84 → gA w' a = gA w a) ∧ (∀ t, t < 256 + 4 * s ∨ 320 ≤ t → gA w' 83 t = gA w 83 t) ∧ (∀ t, t ≠ 4 → gA w' 84 t = gA w 84 t) ∧ gJ w' = gJ w ∧ gL w' = gL w ∧ gC w' = gC w ∧ gF w' = gF w ∧ gZ w' = gZ w
section PN
variable {t : Int → Int} {n p d q s : Int} {w w' w'' : Wd}
theorem fWq.trans {s' : Int} (f : fWq q s w w') (g : fWq q s' w' w'') (h : s ≤ s') : fWq q s w w'' := by
  obtain ⟨f1, f2, f3, f4, f5, f6, f7, f8, f9⟩ := f
  obtain ⟨g1, g2, g3, g4, g5, g6, g7, g8, g9⟩ := g
  exact ⟨fun k a => (g1 k a).trans (f1 k a), fun a a1 a2 => (g2 a a1 a2).trans (f2 a a1 a2), fun t ht => (g3 t (by omega)).trans (f3 t ht), fun t ht => (g4 t ht).trans (f4 t ht), g5.trans f5, g6.trans f6, g7.trans f7, g8.trans f8, g9.trans f9⟩
theorem fVq.trans {s' : Int} (f : fVq s w w') (g : fVq s' w' w'') (h : s ≤ s') : fVq s w w'' := by
  obtain ⟨f1, f2, f3, f4, f5, f6, f7, f8, f9⟩ := f
  obtain ⟨g1, g2, g3, g4, g5, g6, g7, g8, g9⟩ := g
  exact ⟨fun k a b => (g1 k a b).trans (f1 k a b), fun a a1 a2 => (g2 a a1 a2).trans (f2 a a1 a2), fun t ht => (g3 t (by omega)).trans (f3 t ht), fun t ht => (g4 t ht).trans (f4 t ht), g5.trans f5, g6.trans f6, g7.trans f7, g8.trans f8, g9.trans f9⟩
theorem fW.toq (f : fW (64 * q + 4 * s) w w') (h : s ≤ 15) : fWq q s w w' := by
  obtain ⟨f1, f2, f3, f4, f5, f6, f7, f8⟩ := f
  exact ⟨f1, fun a a1 _ => f2 a a1, fun t ht => f3 t (by omega), fun t _ => by rw [f2 25 (by decide)], f4, f5, f6, f7, f8⟩
theorem fV.toq (f : fV (256 + 4 * s) w w') (h : s ≤ 15) : fVq s w w' := by
  obtain ⟨f1, f2, f3, f4, f5, f6, f7, f8⟩ := f
  exact ⟨f1, fun a a1 _ => f2 a a1, fun t ht => f3 t (by omega), fun t _ => by rw [f2 84 (by decide)], f4, f5, f6, f7, f8⟩
theorem fWq.refl (w : Wd) : fWq q s w w := ⟨fun _ _ => rfl, fun _ _ _ => rfl, fun _ _ => rfl, fun _ _ => rfl, rfl, rfl, rfl, rfl, rfl⟩
theorem fVq.refl (w : Wd) : fVq s w w := ⟨fun _ _ _ => rfl, fun _ _ _ => rfl, fun _ _ => rfl, fun _ _ => rfl, rfl, rfl, rfl, rfl, rfl⟩
theorem fWq.i13 (f : fWq q s w w') (v : Int32) : fWq q s w (sI w' 13 v) := by
  obtain ⟨f1, f2⟩ := f
  exact ⟨fun k a => by rw [gI_sI, if_neg a]; exact f1 k a, f2⟩
theorem fWq.s25 (f : fWq q s w w') (v : Int32) : fWq q s w (sA w' 25 q v) := by
  obtain ⟨f1, f2, f3, f4, f5⟩ := f
  refine ⟨f1, fun a a1 a2 => ?_, fun t ht => ?_, fun t ht => ?_, f5⟩
  · rw [sA_sB, gA_n _ a2]
    exact f2 a a1 a2
  · rw [sA_sB, gA_n _ (by decide)]
    exact f3 t ht
  · rw [g24, if_neg ht]
    exact f4 t ht
theorem fVq.i70 (f : fVq s w w') (v : Int32) : fVq s w (sI w' 70 v) := by
  obtain ⟨f1, f2⟩ := f
  exact ⟨fun k a b => by rw [gI_sI, if_neg a]; exact f1 k a b, f2⟩
theorem fVq.i71 (f : fVq s w w') (v : Int32) : fVq s w (sI w' 71 v) := by
  obtain ⟨f1, f2⟩ := f
  exact ⟨fun k a b => by rw [gI_sI, if_neg b]; exact f1 k a b, f2⟩
theorem fVq.s84 (f : fVq s w w') (v : Int32) : fVq s w (sA w' 84 4 v) := by
  obtain ⟨f1, f2, f3, f4, f5⟩ := f
  refine ⟨f1, fun a a1 a2 => ?_, fun t ht => ?_, fun t ht => ?_, f5⟩
  · rw [sA_sB, gA_n _ a2]
    exact f2 a a1 a2
  · rw [sA_sB, gA_n _ (by decide)]
    exact f3 t ht
  · rw [g24, if_neg ht]
    exact f4 t ht
theorem stepOK.cg {f g : Int → Int} {a b : Int} (h : stepOK g b) (e0 : f a = g b) (e1 : f (a + 1) = g (b + 1)) (e2 : f (a + 2) = g (b + 2)) (e3 : f (a + 3) = g (b + 3)) : stepOK f a := by
  unfold stepOK at h ⊢
  rw [e0, e1, e2, e3]
  exact h
def LoP (t : Int → Int) (n : Int) (m : Nat) (s p : Int) : Prop :=
    (∃ pf, p ≤ pf ∧ pf ≤ n ∧ (∀ (q : Int) (w : Wd) (Q : Wd → Prop) (X : Wd → Prop), 0 ≤ q → q ≤ 4 → PX t n p w → gA w 25 q = iz s → (∀ w', fWq q s w w' → gI w' 13 = iz pf → X w') → lp_X1_wholePlan_14 Q X (iz q) (m + 1) (iz 1) w) ∧ (∀ (d : Int) (w : Wd) (Q : Wd → Prop), MS0 t n p d w → (∀ w', fVq s w w' → gI w' 71 = iz pf → Q w') → lp_X3_readPlan_17 Q (m + 1) (iz s) (iz 1) w)) ∨
    (∃ (e : Int) (V : Int → Int), s < e ∧ e ≤ 16 ∧ (∀ i, 0 ≤ i → i < e - s → stepOK V (4 * i)) ∧ (∀ (q : Int) (w : Wd) (Q : Wd → Prop) (X : Wd → Prop), 0 ≤ q → q ≤ 4 → PX t n p w → gA w 25 q = iz s → (∀ w', fWq q s w w' → gA w' 25 q = iz e → (∀ j, 0 ≤ j → j < 4 * (e - s) → gA w' 24 (64 * q + 4 * s + j) = iz (V j)) → Q w') → lp_X1_wholePlan_14 Q X (iz q) (m + 1) (iz 1) w) ∧ (∀ (d : Int) (w : Wd) (Q : Wd → Prop), MS0 t n p d w → (∀ w', fVq s w w' → gI w' 71 = iz (-1) → gA w' 84 4 = iz e → (∀ j, 0 ≤ j → j < 4 * (e - s) → gA w' 83 (256 + 4 * s + j) = iz (V j)) → Q w') → lp_X3_readPlan_17 Q (m + 1) (iz s) (iz 1) w))
theorem x_pend (B : TB t n) {c : Int} {k : Nat} {Q X : Wd → Prop} {l : Int32} (S : PX t n p w) (h0 : 0 ≤ p) (h1 : p ≤ n) (hp : sk t n p = p) (hc : lkc t n p = c) (f : c = -1 → Q (sI w 13 (iz p))) (g : c ≠ -1 → X (sI w 13 (iz p))) : lp_X1_wholePlan_14 Q X l (k + 1) (iz 0) w := by
  have cb := lkc_bd (t := t) (n := n) p
  rw [hc] at cb
  show wl_X1_wholePlan_14 Q X l _ (iz 0) w
  unfold wl_X1_wholePlan_14
  exact t0 (p_look B S h0 h1 hp hc (brn (iz_eq (by omega) (by omega) (by decide) (by decide)) (fun e => u0 (g e)) (fun e => u1 (f e))))
theorem m_pend (B : TB t n) {c : Int} {k : Nat} {Q : Wd → Prop} (S : MS0 t n p d w) (h0 : 0 ≤ p) (h1 : p ≤ n) (hp : sk t n p = p) (hc : lkc t n p = c) (f : c = -1 → Q (sI (sA w 84 4 (iz s)) 70 (iz p))) (g : c ≠ -1 → Q (sI (sI (sA w 84 4 (iz s)) 70 (iz p)) 71 (iz p))) : lp_X3_readPlan_17 Q (k + 1) (iz s) (iz 0) w := by
  have cb := lkc_bd (t := t) (n := n) p
  rw [hc] at cb
  show wl_X3_readPlan_17 Q _ (iz s) (iz 0) w
  unfold wl_X3_readPlan_17
  refine t0 ⟨iz_inb (by decide) (by decide) (by decide), ?_⟩
  rintro w1 rfl
  rw [iz_toInt (by decide) (by decide)]
  have S1 := S.set (a := 84) (by decide) (by decide) 4 (iz s)
  have S2 := S1.at p
  refine m_look' B S1 h0 h1 hp hc (br (iz_eq (by omega) (by omega) (by decide) (by decide)) f (fun e => m_fails S2.2.2.2.2 ?_))
  rw [S2.2.2.1]
  exact g e
theorem lo_plan (B : TB t n) : ∀ (m : Nat) (s p : Int), s + m = 16 → 0 ≤ s → 1 ≤ m → 0 ≤ p → p ≤ n → LoP t n m s p := by
  have b1 := B.1; have b2 := B.2.1
  intro m
  induction m with
  | zero => intro s p _ _ h; exact absurd h (by decide)
  | succ m ih =>
    intro s p hs s0 _ h0 h1
    have eo : ∀ q : Int, (iz 4 * (iz 16 * iz q + iz s)) = iz (64 * q + 4 * s) := fun q => by
      rw [iz_mul, iz_add, iz_mul, show 4 * (16 * q + s) = 64 * q + 4 * s by omega]
    have em : (iz 4 * (iz 64 + iz s)) = iz (256 + 4 * s) := by
      rw [iz_add, iz_mul, show 4 * (64 + s) = 256 + 4 * s by omega]
    rcases bo_step B h0 h1 with ⟨pf, q1, q2, qx, qm⟩ | ⟨p', v, q1, q2, vok, qx, qm⟩
    · refine Or.inl ⟨pf, q1, q2, fun q w Q X c0 c4 S e x => ?_, fun d w Q S x => ?_⟩
      · show wl_X1_wholePlan_14 Q X (iz q) _ (iz 1) w
        unfold wl_X1_wholePlan_14
        rw [iz_toInt (a := q) (by omega) (by omega), e, eo]
        exact t1 ⟨iz_inb (by omega) (by omega) (by omega), qx _ w _ X (by omega) (by omega) S (fun w' f e => x w' (f.toq (by omega)) e)⟩
      · show wl_X3_readPlan_17 Q _ (iz s) (iz 1) w
        unfold wl_X3_readPlan_17
        rw [em]
        refine t1 (qm _ d w _ (by omega) (by omega) S (fun w' f e => ?_))
        rw [e]
        exact br (iz_eq (by omega) (by omega) (by decide) (by decide)) (fun e => by omega) (fun _ => x w' (f.toq (by omega)) e)
    · obtain ⟨k1, k2⟩ := sk_bd t q2
      have hss := sk_sk t n p'
      generalize hp : sk t n p' = p1 at k1 k2 hss
      have cb := lkc_bd (t := t) (n := n) p1
      generalize hc : lkc t n p1 = c at cb
      have hx : ∀ (q : Int) (w : Wd) (Q : Wd → Prop) (X : Wd → Prop), 0 ≤ q → q ≤ 4 → PX t n p w → gA w 25 q = iz s → (∀ w1, fWq q s w w1 → PX t n p1 w1 → gA w1 25 q = iz (s + 1) → (∀ j, 0 ≤ j → j < 4 → gA w1 24 (64 * q + 4 * s + j) = iz (v j)) → (c ≠ 59 → lp_X1_wholePlan_14 Q X (iz q) (m + 1) (iz 0) w1) ∧ (c = 59 → (16 ≤ s + 1 → lp_X1_wholePlan_14 Q X (iz q) (m + 1) (iz 0) w1) ∧ (¬ 16 ≤ s + 1 → lp_X1_wholePlan_14 Q X (iz q) (m + 1) (iz 1) (sI w1 13 (iz (p1 + 1)))))) → lp_X1_wholePlan_14 Q X (iz q) (m + 1 + 1) (iz 1) w := by
        intro q w Q X c0 c4 S e x
        show wl_X1_wholePlan_14 Q X (iz q) _ (iz 1) w
        unfold wl_X1_wholePlan_14
        rw [iz_toInt (a := q) (by omega) (by omega), e, eo]
        have iq : inb (iz q) 5 := iz_inb (by omega) (by omega) (by omega)
        refine t1 ⟨iq, qx _ w _ X (by omega) (by omega) S (fun w10 f S1 v0 v1 v2 v3 => ⟨iq, iq, ?_⟩)⟩
        have e25 : gA w10 25 q = iz s := by
          rw [f.2.1 25 (by decide)]
          exact e
        have f := f.toq (by omega)
        rintro w11 rfl
        rw [e25, iz_add]
        have S2 := S1.set (a := 25) (by decide) q (iz (s + 1))
        have e26 : gA (sI (sA w10 25 q (iz (s + 1))) 13 (iz p1)) 25 q = iz (s + 1) := by
          show gA (sA w10 25 q (iz (s + 1))) 25 q = _
          rw [g24, if_pos rfl]
        have x := x _ ((f.s25 (iz (s + 1))).i13 (iz p1)) (S2.at p1) e26 (fun j j0 j4 => by
          show gA (sA w10 25 q (iz (s + 1))) 24 (64 * q + 4 * s + j) = _
          rw [sA_sB, gA_n _ (by decide)]
          rcases (by omega : j = 0 ∨ j = 1 ∨ j = 2 ∨ j = 3) with rfl | rfl | rfl | rfl
          · rw [Int.add_zero]
            exact v0
          · exact v1
          · exact v2
          · exact v3)
        refine p_look B S2 (by omega) q2 hp hc (brn (iz_eq (by omega) (by omega) (by decide) (by decide)) (fun e => t0 (x.1 e)) (fun e => ⟨iq, ?_⟩))
        rw [e26]
        refine br (iz_le (by omega) (by omega) (by omega) (by omega)) (fun e2 => t0 ((x.2 e).1 e2)) (fun e2 => t1 ?_)
        rintro w1 rfl
        rw [(S2.at p1).2, iz_add]
        exact (x.2 e).2 e2
      have hm : ∀ (d : Int) (w : Wd) (Q : Wd → Prop), MS0 t n p d w → (∀ w1, fVq s w w1 → MS0 t n p1 d w1 → (∀ j, 0 ≤ j → j < 4 → gA w1 83 (256 + 4 * s + j) = iz (v j)) → (c ≠ 59 → lp_X3_readPlan_17 Q (m + 1) (iz (s + 1)) (iz 0) w1) ∧ (c = 59 → (s + 1 = 16 → Q (sI w1 71 (iz p1))) ∧ (¬ s + 1 = 16 → lp_X3_readPlan_17 Q (m + 1) (iz (s + 1)) (iz 1) (sI w1 70 (iz (p1 + 1)))))) → lp_X3_readPlan_17 Q (m + 1 + 1) (iz s) (iz 1) w := by
        intro d w Q S x
        show wl_X3_readPlan_17 Q _ (iz s) (iz 1) w
        unfold wl_X3_readPlan_17
        rw [em]
        refine t1 (qm _ d w _ (by omega) (by omega) S (fun w1 f S1 v0 v1 v2 v3 => ?_))
        have f := f.toq (by omega)
        have S2 := S1.at p1
        have x := x _ (f.i70 (iz p1)) S2 (fun j j0 j4 => by
          show gA w1 83 (256 + 4 * s + j) = _
          rcases (by omega : j = 0 ∨ j = 1 ∨ j = 2 ∨ j = 3) with rfl | rfl | rfl | rfl
          · rw [Int.add_zero]
            exact v0
          · exact v1
          · exact v2
          · exact v3)
        rw [S1.2.2.2.2]
        refine ⟨fun _ => m_look' B S1 (by omega) q2 hp hc ?_, fun e => absurd rfl e⟩
        rw [iz_add]
        refine brn (iz_eq (by omega) (by omega) (by decide) (by decide)) (fun e => t0 (t0 (x.1 e))) (fun e => t1 ?_)
        refine brn (iz_eq (by omega) (by omega) (by decide) (by decide)) (fun e2 => t1 ?_) (fun e2 => m_fails S2.2.2.2.2 ?_)
        · rintro w2 rfl
          rw [S2.2.2.1, iz_add]
          exact (x.2 e).2 e2
        · rw [S2.2.2.1]
          exact (x.2 e).1 e2
      by_cases last : c = -1
      · subst last
        refine Or.inr ⟨s + 1, v, by omega, by omega, fun i i0 i1 => ?_, fun q w Q X c0 c4 S e x => hx q w Q X c0 c4 S e (fun w1 f S1 e1 vv => ⟨fun _ => x_pend B S1 (by omega) k2 hss hc (fun _ => x _ (f.i13 _) e1 (fun j j0 j1 => vv j j0 (by omega))) (fun e => absurd rfl e), fun e => absurd e (by decide)⟩), fun d w Q S x => hm d w Q S (fun w1 f S1 vv => ⟨fun _ => m_pend B S1 (by omega) k2 hss hc (fun _ => x _ ((f.s84 _).i70 _) ?_ ?_ (fun j j0 j1 => ?_)) (fun e => absurd rfl e), fun e => absurd e (by decide)⟩)⟩
        · obtain rfl : i = 0 := by omega
          exact vok
        · rw [gI_sI, if_neg (by decide)]
          exact S1.2.2.2.2
        · show gA (sA w1 84 4 (iz (s + 1))) 84 4 = _
          rw [g24, if_pos rfl]
        · show gA (sA w1 84 4 (iz (s + 1))) 83 _ = _
          rw [sA_sB, gA_n _ (by decide)]
          exact vv j j0 (by omega)
      · by_cases c59 : c = 59
        · by_cases s16 : s + 1 = 16
          · refine Or.inl ⟨p1, by omega, k2, fun q w Q X c0 c4 S e x => hx q w Q X c0 c4 S e (fun w1 f S1 e1 vv => ⟨fun e => absurd c59 e, fun _ => ⟨fun _ => x_pend B S1 (by omega) k2 hss hc (fun e => absurd e last) (fun _ => x _ (f.i13 _) (by rw [gI_sI, if_pos rfl])), fun e => by omega⟩⟩), fun d w Q S x => hm d w Q S (fun w1 f S1 vv => ⟨fun e => absurd c59 e, fun _ => ⟨fun _ => x _ (f.i71 _) (by rw [gI_sI, if_pos rfl]), fun e => absurd s16 e⟩⟩)⟩
          · have pin := lkc_in hc (by omega)
            rcases ih (s + 1) (p1 + 1) (by omega) (by omega) (by omega) (by omega) (by omega) with ⟨pf, i1, i2, ix, im⟩ | ⟨e, V, i1, i2, iv, ix, im⟩
            · refine Or.inl ⟨pf, by omega, i2, fun q w Q X c0 c4 S e x => hx q w Q X c0 c4 S e (fun w1 f S1 e1 vv => ⟨fun e => absurd c59 e, fun _ => ⟨fun e => by omega, fun _ => ix q _ Q X c0 c4 (S1.at (p1 + 1)) e1 (fun w' g1 g2 => x w' ((f.i13 _).trans g1 (by omega)) g2)⟩⟩), fun d w Q S x => hm d w Q S (fun w1 f S1 vv => ⟨fun e => absurd c59 e, fun _ => ⟨fun e => absurd e s16, fun _ => im d _ Q (S1.at (p1 + 1)) (fun w' g1 g2 => x w' ((f.i70 _).trans g1 (by omega)) g2)⟩⟩)⟩
            · refine Or.inr ⟨e, fun j => if j < 4 then v j else V (j - 4), by omega, i2, fun i i0 i1 => ?_, fun q w Q X c0 c4 S ee x => hx q w Q X c0 c4 S ee (fun w1 f S1 e1 vv => ⟨fun e => absurd c59 e, fun _ => ⟨fun e => by omega, fun _ => ix q _ Q X c0 c4 (S1.at (p1 + 1)) e1 (fun w' g1 g2 g3 => x w' ((f.i13 _).trans g1 (by omega)) g2 (fun j j0 j1 => ?_))⟩⟩), fun d w Q S x => hm d w Q S (fun w1 f S1 vv => ⟨fun e => absurd c59 e, fun _ => ⟨fun e => absurd e s16, fun _ => im d _ Q (S1.at (p1 + 1)) (fun w' g1 g2 g3 g4 => x w' ((f.i70 _).trans g1 (by omega)) g2 g3 (fun j j0 j1 => ?_))⟩⟩)⟩
              · by_cases iz0 : i = 0
                · subst iz0
                  exact vok.cg rfl rfl rfl rfl
                · have g : ∀ k, 0 ≤ k → (if 4 * i + k < 4 then v (4 * i + k) else V (4 * i + k - 4)) = V (4 * (i - 1) + k) := fun k k0 => by
                    rw [if_neg (by omega), show 4 * i + k - 4 = 4 * (i - 1) + k by omega]
                  refine (iv (i - 1) (by omega) (by omega)).cg ?_ (g 1 (by decide)) (g 2 (by decide)) (g 3 (by decide))
                  have := g 0 (by decide)
                  rw [Int.add_zero, Int.add_zero] at this
                  exact this
              · show gA w' 24 (64 * q + 4 * s + j) = iz (if j < 4 then v j else V (j - 4))
                by_cases j4 : j < 4
                · rw [if_pos j4, g1.2.2.1 _ (Or.inl (by omega))]
                  exact vv j j0 j4
                · have := g3 (j - 4) (by omega) (by omega)
                  rw [if_neg j4, ← this, show 64 * q + 4 * (s + 1) + (j - 4) = 64 * q + 4 * s + j by omega]
              · show gA w' 83 (256 + 4 * s + j) = iz (if j < 4 then v j else V (j - 4))
                by_cases j4 : j < 4
                · rw [if_pos j4, g1.2.2.1 _ (Or.inl (by omega))]
                  exact vv j j0 j4
                · have := g4 (j - 4) (by omega) (by omega)
                  rw [if_neg j4, ← this, show 256 + 4 * (s + 1) + (j - 4) = 256 + 4 * s + j by omega]
        · refine Or.inl ⟨p1, by omega, k2, fun q w Q X c0 c4 S e x => hx q w Q X c0 c4 S e (fun w1 f S1 e1 vv => ⟨fun _ => x_pend B S1 (by omega) k2 hss hc (fun e => absurd e last) (fun _ => x _ (f.i13 _) (by rw [gI_sI, if_pos rfl])), fun e => absurd e c59⟩), fun d w Q S x => hm d w Q S (fun w1 f S1 vv => ⟨fun _ => m_pend B S1 (by omega) k2 hss hc (fun e => absurd e last) (fun _ => x _ (((f.s84 _).i70 _).i71 _) (by rw [gI_sI, if_pos rfl])), fun e => absurd e c59⟩)⟩
end PN
