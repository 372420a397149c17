/-! the deeds, on: undo, law, habit, images, peek, found, box, count, step -/
section D2
variable {z : Nat} {w : Wd} {C : Int32 → Wd → Prop}
def kPop (k : Ks) : Ks := (k.1 - 1, k.2)
theorem op_undo (I : INV z w) (q : ∀ r1 w2, (∀ K : Int32 → Wd → Prop, (∀ w', INV z w' → K r1 w') → wp_X3_undo w2 K) → C r1 w2) : wp_X1_undo w C := by
  obtain ⟨c, lm, h, k, im, hv, tp, pl, pk, fn, ok, X, M, hz⟩ := I
  obtain ⟨k1, k2, k3⟩ := ok.okk
  have e33 := X.2.2.2.2.2.2.2.1
  have F := X.2.2.2.2.2.2.2.2.1
  unfold wp_X1_undo
  rw [e33]
  refine brn (iz_eq (by omega) (by omega) (by decide) (by decide)) (fun e => ?_) (fun e => q _ _ (fun K kk => ?_))
  · rintro w1 rfl
    have okP : SOK c lm (k.2 (k.1 - 1)) (kPop k) im hv tp pl pk fn := ok.hk (k3 _ (by omega) (by omega)) ⟨(by omega : (0 : Int) ≤ k.1 - 1), (by omega : k.1 - 1 ≤ 40), fun i i1 i2 => k3 i i1 (by have i2 : i < k.1 - 1 := i2; omega)⟩
    have n8 := okP.oh
    rw [iz_sub]
    refine lpe (fun n1 (s : Int32 × Wd) => lp_X1_undo_21 C n1 s.1 s.2) (fun R s => wl_X1_undo_21 C (fun x y => R (x, y)) s.1 s.2) (fun _ _ h => h) (fun i s => 0 ≤ i ∧ ∃ f, s = (iz i, sB (sI w 33 (iz (k.1 - 1))) 31 f) ∧ (∀ t, 0 ≤ t → t < i → f t = gA w 32 (275 * (k.1 - 1) + t))) 275 0 (iz 0, sI w 33 (iz (k.1 - 1))) (by decide) ⟨by decide, gA w 31, ?_, fun j x y => by omega⟩ ?_
    · have := sB_self (sI w 33 (iz (k.1 - 1))) 31
      show _ = (iz 0, sB (sI w 33 (iz (k.1 - 1))) 31 (gA (sI w 33 (iz (k.1 - 1))) 31))
      rw [this]
    rintro R _ i hi ⟨hi0, f, rfl, g1⟩ k4
    have eI : gI (sB (sI w 33 (iz (k.1 - 1))) 31 f) 33 = iz (k.1 - 1) := by rw [gI_sB, gI_sI, if_pos rfl]
    refine br (iz_le (by decide) (by decide) (by omega) (by omega)) (fun e2 => ?_) (fun e2 => ?_)
    · obtain rfl : i = 275 := by omega
      have fx : fX 0 w (sB (sI w 33 (iz (k.1 - 1))) 31 f) := ((fX.refl w).sI (k := 33) (by decide) _).sB (a := 31) (by decide) f
      have X2 : SX c lm (k.2 (k.1 - 1)) (kPop k) im hv tp pl pk fn (sB (sI w 33 (iz (k.1 - 1))) 31 f) := by
        refine X.deed ok fx ?_ eI ?_
        · rw [gA_r]
          exact AXf_shift (F (k.1 - 1) (by omega) (by omega)) n8.1 n8.2.1 n8.2.2.2.2.2.1 (fun t t1 t2 => by rw [Int.zero_add]; exact g1 t t1 t2)
        · rw [gA_n _ (by decide)]
          exact fun i i1 i2 => F i i1 (by have i2 : i < k.1 - 1 := i2; omega)
      rw [eI]
      refine q _ _ (fun K kk => ?_)
      have M2 := M.fr fx
      unfold wp_X3_undo
      rintro w4 rfl
      obtain ⟨M4, f4⟩ := M2.thr ok (iz 0)
      generalize sI (sB (sI w 33 (iz (k.1 - 1))) 31 f) 60 (iz 0) = w4 at M4 f4
      have FM := M4.2.2.2.2.1
      rw [M4.2.2.2.1]
      refine brn (iz_eq (by omega) (by omega) (by decide) (by decide)) (fun _ => ?_) (fun e5 => absurd e5 e)
      rintro w5 rfl
      rw [iz_sub]
      refine lpe (fun n1 (s : Int32 × Wd) => lp_X3_undo_26 K n1 s.1 s.2) (fun R s => wl_X3_undo_26 K (fun x y => R (x, y)) s.1 s.2) (fun _ _ h => h) (fun i s => 0 ≤ i ∧ ∃ f, s = (iz i, sB (sI w4 97 (iz (k.1 - 1))) 90 f) ∧ (∀ t, 0 ≤ t → t < i → f t = gA w4 96 (283 * (k.1 - 1) + t))) 283 0 (iz 0, sI w4 97 (iz (k.1 - 1))) (by decide) ⟨by decide, gA w4 90, ?_, fun j x y => by omega⟩ ?_
      · have := sB_self (sI w4 97 (iz (k.1 - 1))) 90
        show _ = (iz 0, sB (sI w4 97 (iz (k.1 - 1))) 90 (gA (sI w4 97 (iz (k.1 - 1))) 90))
        rw [this]
      rintro R _ i hi ⟨hi0, g, rfl, g2⟩ k5
      have eJ : gI (sB (sI w4 97 (iz (k.1 - 1))) 90 g) 97 = iz (k.1 - 1) := by rw [gI_sB, gI_sI, if_pos rfl]
      refine br (iz_le (by decide) (by decide) (by omega) (by omega)) (fun e3 => ?_) (fun e3 => ?_)
      · obtain rfl : i = 283 := by omega
        rw [eJ]
        have fm : fM w4 (sB (sI w4 97 (iz (k.1 - 1))) 90 g) := ((fM.refl w4).sI (k := 97) (by decide) _).sB (a := 90) (by decide) g
        refine kk _ (inv_end okP X2 (f4.trans fm) (M4.deed ok fm (M4.1.2.2.2.2.2.2.1.fr rfl (gA_n _ (by decide) g)) ?_ eJ ?_) (fx.z0 hz))
        · rw [gA_r]
          exact AMf_shift (FM (k.1 - 1) (by omega) (by omega)) n8.1 n8.2.1 (fun t t1 t2 => by rw [Int.zero_add]; exact g2 t t1 (by have := n8.2.2.2.2.2.1; omega)) n8.2.2.2.2.1
        · rw [gA_n _ (by decide)]
          exact fun i i1 i2 => FM i i1 (by have i2 : i < k.1 - 1 := i2; omega)
      · rw [eJ, iz_mul, iz_add]
        refine ⟨iz_inb (by omega) (by omega) (by omega), iz_inb (by omega) (by omega) (by omega), ?_⟩
        rintro w6 rfl
        rw [iz_toInt (by omega) (by omega), iz_toInt (by omega) (by omega), gA_n _ (by decide), gA_sI]
        obtain ⟨f1, e1, p1, r1⟩ := sA_ex2 (sI w4 97 (iz (k.1 - 1))) 90 g i (gA w4 96 (283 * (k.1 - 1) + i))
        rw [e1, iz_add]
        refine k5 (by omega) _ ⟨by omega, f1, rfl, fun t x y => ?_⟩
        by_cases e6 : t = i
        · subst e6
          exact p1
        · rw [r1 _ e6]
          exact g2 t x (by omega)
    · rw [eI, iz_mul, iz_add]
      refine ⟨iz_inb (by omega) (by omega) (by omega), iz_inb (by omega) (by omega) (by omega), ?_⟩
      rintro w6 rfl
      rw [iz_toInt (by omega) (by omega), iz_toInt (by omega) (by omega), gA_n _ (by decide), gA_sI]
      obtain ⟨f1, e1, p1, r1⟩ := sA_ex2 (sI w 33 (iz (k.1 - 1))) 31 f i (gA w 32 (275 * (k.1 - 1) + i))
      rw [e1, iz_add]
      refine k4 (by omega) _ ⟨by omega, f1, rfl, fun t x y => ?_⟩
      by_cases e6 : t = i
      · subst e6
        exact p1
      · rw [r1 _ e6]
        exact g1 t x (by omega)
  · unfold wp_X3_undo
    rintro w4 rfl
    obtain ⟨M4, f4⟩ := M.thr ok (iz 0)
    rw [M4.2.2.2.1]
    exact brn (iz_eq (by omega) (by omega) (by decide) (by decide)) (fun e5 => absurd e e5) (fun _ => kk _ (inv_end ok X f4 M4 hz))
theorem op_law (I : INV z w) (u : Int32) (q : ∀ r1 w2, (∀ K : Int32 → Wd → Prop, (∀ w', INV z w' → K r1 w') → wp_X3_law u w2 K) → C r1 w2) : wp_X1_law u w C := by
  obtain ⟨a, a1, a2, rfl⟩ := ex_iz u
  obtain ⟨c, lm, h, k, im, hv, tp, pl, pk, fn, ok, X, M, hz⟩ := I
  have l0 := ok.2.1
  have l4 := ok.2.2.1
  unfold wp_X1_law
  rw [X.1, iz_sub]
  refine x_in ⟨a1, a2⟩ (by decide) (by omega) (fun p1 p2 => u1 ?_) (fun n => u0 (q _ _ (fun K kk => ?_)))
  · rintro w3 rfl
    refine q _ _ (fun K kk => ?_)
    have X' : SX (cK c, cR c, cD c, a, cF c) lm h k im hv tp pl pk fn (sI w 29 (iz a)) := by
      obtain ⟨x1, x2, x3, x4, x5, x6, x7⟩ := X
      exact ⟨x1, x2, x3, x4, x5, rfl, x7⟩
    have ok' : SOK (cK c, cR c, cD c, a, cF c) lm h k im hv tp pl pk fn := by
      obtain ⟨⟨o1, o2, o3, o4, o5, o6, o7⟩, o8, o9, o10, o11, o12, o13, o14⟩ := ok
      exact ⟨⟨o1, o2, o3, o4, p1, (by show a < 4; omega), o7⟩, o8, o9, (by show a < lm; omega), o11, o12, o13, o14⟩
    have mk : ∀ w', fM (sI w 29 (iz a)) w' → SM c lm h k im hv tp pl pk fn w' → INV z (sI w' 92 (iz a)) := by
      intro w' f M5
      refine inv_end (w := sI (sI w 29 (iz a)) 92 (iz a)) ok' ?_ ?_ ?_ hz
      · obtain ⟨x1, x2, x3, x4, x5, x6, x7⟩ := X'
        exact ⟨x1, x2, x3, x4, x5, x6, x7⟩
      · obtain ⟨f1, f2⟩ := f
        refine ⟨fun j hj => ?_, f2⟩
        rw [gI_sI, gI_sI, f1 j hj]
      · obtain ⟨⟨h1, h3, h4, h5, h6, h8, h9, h10, h11, h12⟩, m2, m3⟩ := M5
        exact ⟨⟨ok'.1, h3, h4, h5, rfl, h8, h9, p1, (by show a < lm; omega), h12⟩, m2, m3⟩
    have M2 : SM c lm h k im hv tp pl pk fn (sI w 29 (iz a)) := by
      obtain ⟨m1, m2⟩ := M
      exact ⟨m1, m2⟩
    unfold wp_X3_law
    rintro w4 rfl
    obtain ⟨M4, f4⟩ := M2.thr ok (iz 0)
    refine br (iz_eq a1 a2 (by decide) (by decide)) (fun e => ?_) (fun e => ?_)
    · rintro w5 rfl
      exact kk _ (mk _ f4 M4)
    · rw [M4.2.1, iz_sub, i2l (by omega : VR (lm - 1))]
      refine m_isIn ⟨a1, a2⟩ (by decide) (by omega) (fun _ _ => u1 ?_) (fun n => by omega)
      rintro w5 rfl
      exact kk _ (mk _ f4 M4)
  · unfold wp_X3_law
    rintro w4 rfl
    obtain ⟨M4, f4⟩ := M.thr ok (iz 0)
    refine br (iz_eq a1 a2 (by decide) (by decide)) (fun e => by omega) (fun e => ?_)
    rw [M4.2.1, iz_sub, i2l (by omega : VR (lm - 1))]
    exact m_isIn ⟨a1, a2⟩ (by decide) (by omega) (fun _ _ => by omega) (fun _ => u0 (kk _ (inv_end ok X f4 M4 hz)))
theorem op_habit (I : INV z w) (u : Int32) (q : ∀ r1 w2, (∀ K : Int32 → Wd → Prop, (∀ w', INV z w' → K r1 w') → wp_X3_habit u w2 K) → C r1 w2) : wp_X1_habit u w C := by
  obtain ⟨a, a1, a2, rfl⟩ := ex_iz u
  obtain ⟨c, lm, h, k, im, hv, tp, pl, pk, fn, ok, X, M, hz⟩ := I
  have v0 := ok.2.2.2.2.2.2.2.1
  have v9 := ok.2.2.2.2.2.2.2.2.1
  have no : ∀ K : Int32 → Wd → Prop, ¬ (0 ≤ a ∧ a ≤ 9 ∧ a ≠ hv) → (∀ w', INV z w' → K (iz 0) w') → wp_X3_habit (iz a) w K := by
    intro K n kk
    unfold wp_X3_habit
    rintro w4 rfl
    obtain ⟨M4, f4⟩ := M.thr ok (iz 0)
    refine m_isIn ⟨a1, a2⟩ (by decide) (by decide) (fun p1 p2 => t1 ?_) (fun _ => t0 (kk _ (inv_end ok X f4 M4 hz)))
    rw [M4.2.2.2.2.2.2.2.1]
    exact brn (iz_eq a1 a2 (by omega) (by omega)) (fun e => absurd ⟨p1, p2, e⟩ n) (fun _ => kk _ (inv_end ok X f4 M4 hz))
  unfold wp_X1_habit
  refine x_in ⟨a1, a2⟩ (by decide) (by decide) (fun p1 p2 => t1 ?_) (fun n => t0 (q _ _ (fun K kk => no K (fun z => n ⟨z.1, z.2.1⟩) kk)))
  rw [X.2.2.2.2.2.2.2.2.2.2.2.1]
  refine brn (iz_eq a1 a2 (by omega) (by omega)) (fun e => ?_) (fun e => q _ _ (fun K kk => no K (fun z => z.2.2 e) kk))
  rintro w3 rfl
  refine q _ _ (fun K kk => ?_)
  have ok' : SOK c lm h k im a tp pl pk fn := by
    obtain ⟨o1, o2, o3, o4, o5, o6, o7, o8, o9, o10⟩ := ok
    exact ⟨o1, o2, o3, o4, o5, o6, o7, p1, p2, o10⟩
  have M2 : SM c lm h k im hv tp pl pk fn (sI w 30 (iz a)) := by
    obtain ⟨m1, m2⟩ := M
    exact ⟨m1, m2⟩
  unfold wp_X3_habit
  rintro w4 rfl
  obtain ⟨M4, f4⟩ := M2.thr ok (iz 0)
  refine m_isIn ⟨a1, a2⟩ (by decide) (by decide) (fun _ _ => t1 ?_) (fun n => absurd ⟨p1, p2⟩ n)
  rw [M4.2.2.2.2.2.2.2.1]
  refine brn (iz_eq a1 a2 (by omega) (by omega)) (fun _ => ?_) (fun e2 => absurd e2 e)
  rintro w5 rfl
  refine kk _ ⟨c, lm, h, k, im, a, tp, pl, pk, fn, ok', ?_, ?_, hz⟩
  · obtain ⟨x1, x2, x3, x4, x5, x6, x7, x8, x9, x10, x11, x12, x13⟩ := X
    exact ⟨x1, x2, x3, x4, x5, x6, x7, x8, x9, x10, x11, rfl, x13⟩
  · obtain ⟨m1, m2, m3, m4, m5, m6, m7, m8, m9⟩ := M4
    exact ⟨m1, m2, m3, m4, m5, m6, m7, rfl, m9⟩
theorem op_image (I : INV z w) (q : ∀ r1 w2, (∀ K : Int32 → Wd → Prop, (∀ w', INV z w' → K r1 w') → wp_X3_image w2 K) → C r1 w2) : wp_X1_image w C := by
  obtain ⟨c, lm, h, k, im, hv, tp, pl, pk, fn, ok, X, M, hz⟩ := I
  have k0 := ok.1.1
  have k6 := ok.1.2.1
  have A := X.2.2.2.2.2.2.1
  have n8 := ok.oh
  unfold wp_X1_image
  refine x_isHouse (X.hx ok) (fun p => u1 ?_) (fun n => u0 (q _ _ (fun K kk => ?_)))
  · refine lpe (fun n1 (s : Int32 × Wd) => lp_X1_image_11 C n1 s.1 s.2) (fun R s => wl_X1_image_11 C (fun x y => R (x, y)) s.1 s.2) (fun _ _ h => h) (fun i s => 0 ≤ i ∧ ∃ f, s = (iz i, sB w 50 f) ∧ (∀ t, 0 ≤ t → t < i → f t = gA w 31 t)) 275 0 (iz 0, w) (by decide) ⟨by decide, gA w 50, by rw [sB_self], fun j x y => by omega⟩ ?_
    rintro R _ i hi ⟨hi0, f, rfl, g1⟩ k4
    refine br (iz_le (by decide) (by decide) (by omega) (by omega)) (fun e2 => ?_) (fun e2 => ?_)
    · obtain rfl : i = 275 := by omega
      rintro w1 rfl
      refine ⟨iz_inb (by decide) (by decide) (by decide), ?_⟩
      have em := A.2.1
      rw [Int.zero_add] at em
      rw [iz_toInt (by decide) (by decide), gA_sI, gA_n _ (by decide), em]
      refine q _ _ (fun K kk => ?_)
      have A2 : AXf h f 0 := AXf_shift A n8.1 n8.2.1 n8.2.2.2.2.2.1 (fun t t1 t2 => by rw [Int.zero_add]; exact g1 t t1 t2)
      have okP : SOK c lm h k (1, h) hv tp pl pk fn := by
        obtain ⟨o1, o2, o3, o4, o5, o6, o7, o8⟩ := ok
        exact ⟨o1, o2, o3, o4, o5, o6, Or.inr ⟨rfl, o5⟩, o8⟩
      have X2 : SX c lm h k (1, h) hv tp pl pk fn (sI (sB w 50 f) 51 (iz 1)) := by
        obtain ⟨x1, x2, x3, x4, x5, x6, x7, x8, x9, x10, x11, x12, x13⟩ := X
        refine ⟨x1, x2, x3, x4, x5, x6, x7, x8, x9, rfl, fun _ => ?_, x12, x13⟩
        have : gA (sI (sB w 50 f) 51 (iz 1)) 50 = f := gA_r w 50 f
        rw [this]
        exact A2
      have M2 : SM c lm h k im hv tp pl pk fn (sI (sB w 50 f) 51 (iz 1)) := by
        obtain ⟨m1, m2⟩ := M
        exact ⟨m1, m2⟩
      unfold wp_X3_image
      rintro w4 rfl
      obtain ⟨M4, f4⟩ := M2.thr ok (iz 0)
      generalize sI (sI (sB w 50 f) 51 (iz 1)) 60 (iz 0) = w4 at M4 f4
      rw [M4.1.2.1]
      refine brn (iz_eq (by omega) (by omega) (by decide) (by decide)) (fun _ => ?_) (fun e5 => by omega)
      refine m_copy (Or.inl rfl) (Or.inr (Or.inr rfl)) (by decide) (M4.mh ok) (fun g B => ?_)
      rintro w6 rfl
      have e90 : gA (sI (sB w4 114 g) 115 (iz 1)) 90 = gA w4 90 := gA_n w4 (by decide) g
      have em2 := M4.2.2.1.2.1
      rw [Int.zero_add] at em2
      refine ⟨in90 (by decide) (by decide), ?_⟩
      rw [iz_toInt (by decide) (by decide), e90, em2]
      refine kk _ ⟨c, lm, h, k, (1, h), hv, tp, pl, pk, fn, okP, ?_, ?_, ?_⟩
      · have := X2.fr f4
        obtain ⟨x1, x2, x3, x4, x5, x6, x7, x8, x9, x10, x11, x12, x13, x14, x15, x16⟩ := this
        exact ⟨x1, x2, x3, x4, x5, x6, x7, x8, x9, x10, x11, x12, x13, x14, x15, x16⟩
      · obtain ⟨m1, m2, m3, m4, m5, m6, m7, m8⟩ := M4
        refine ⟨?_, m2, m3, m4, m5, rfl, fun _ => ?_, m8⟩
        · have := m1.row (r := 114) (Or.inr (Or.inr (Or.inl rfl))) g
          obtain ⟨h1, h3⟩ := this
          exact ⟨h1, h3⟩
        · have : gA (sI (sB w4 114 g) 115 (iz 1)) 114 = g := gA_r w4 114 g
          rw [this]
          exact B
      · have : gZ w4 = gZ w := f4.2.2.2.2.2.2.2.2
        show gZ w4 ≤ z
        omega
    · refine ⟨iz_inb (by omega) (by omega) (by omega), iz_inb (by omega) (by omega) (by omega), ?_⟩
      rintro w6 rfl
      rw [iz_toInt (by omega) (by omega), gA_n _ (by decide)]
      obtain ⟨f1, e1, p1, r1⟩ := sA_ex2 w 50 f i (gA w 31 i)
      rw [e1, iz_add]
      refine k4 (by omega) _ ⟨by omega, f1, rfl, fun t x y => ?_⟩
      by_cases e6 : t = i
      · subst e6
        exact p1
      · rw [r1 _ e6]
        exact g1 t x (by omega)
  · unfold wp_X3_image
    rintro w4 rfl
    obtain ⟨M4, f4⟩ := M.thr ok (iz 0)
    rw [M4.1.2.1]
    exact brn (iz_eq (by omega) (by omega) (by decide) (by decide)) (fun e5 => absurd n e5) (fun _ => kk _ (inv_end ok X f4 M4 hz))
theorem op_back (I : INV z w) (q : ∀ r1 w2, (∀ K : Int32 → Wd → Prop, (∀ w', INV z w' → K r1 w') → wp_X3_back w2 K) → C r1 w2) : wp_X1_back w C := by
  obtain ⟨c, lm, h, k, im, hv, tp, pl, pk, fn, ok, X, M, hz⟩ := I
  have o7 := ok.2.2.2.2.2.2.1
  unfold wp_X1_back
  rw [X.2.2.2.2.2.2.2.2.2.1]
  refine brn (iz_eq (by omega) (by omega) (by decide) (by decide)) (fun e => ?_) (fun e => q _ _ (fun K kk => ?_))
  · obtain ⟨i1, i2⟩ : im.1 = 1 ∧ HsOK c im.2 := by
      rcases o7 with o7 | o7
      · exact absurd o7 e
      · exact o7
    have A := X.2.2.2.2.2.2.2.2.2.2.1 i1
    have okP : SOK c lm im.2 (0, k.2) im hv tp pl pk fn := ok.hk i2 ⟨Int.le_refl 0, (by decide : (0 : Int) ≤ 40), fun i i1 i2 => by have i2 : i < 0 := i2; omega⟩
    refine lpe (fun n1 (s : Int32 × Wd) => lp_X1_back_11 C n1 s.1 s.2) (fun R s => wl_X1_back_11 C (fun x y => R (x, y)) s.1 s.2) (fun _ _ h => h) (fun i s => 0 ≤ i ∧ ∃ f, s = (iz i, sB w 31 f) ∧ (∀ t, 0 ≤ t → t < i → f t = gA w 50 t)) 275 0 (iz 0, w) (by decide) ⟨by decide, gA w 31, by rw [sB_self], fun j x y => by omega⟩ ?_
    rintro R _ i hi ⟨hi0, f, rfl, g1⟩ k4
    refine br (iz_le (by decide) (by decide) (by omega) (by omega)) (fun e2 => ?_) (fun e2 => ?_)
    · obtain rfl : i = 275 := by omega
      rintro w1 rfl
      have A2 : AXf im.2 f 0 := AXf_shift A i2.1 i2.2.1 i2.2.2.2.2.2.1 (fun t t1 t2 => by rw [Int.zero_add]; exact g1 t t1 t2)
      have e31 : gA (sI (sB w 31 f) 33 (iz 0)) 31 = f := gA_r w 31 f
      have fx : fX 0 w (sI (sB w 31 f) 33 (iz 0)) := ((fX.refl w).sB (a := 31) (by decide) f).sI (k := 33) (by decide) _
      have em := A2.2.1
      rw [Int.zero_add] at em
      refine ⟨iz_inb (by decide) (by decide) (by decide), ?_⟩
      rw [iz_toInt (by decide) (by decide), e31, em]
      refine q _ _ (fun K kk => ?_)
      have X2 : SX c lm im.2 (0, k.2) im hv tp pl pk fn (sI (sB w 31 f) 33 (iz 0)) := X.deed ok fx (by rw [e31]; exact A2) rfl (fun i i1 i2 => by have i2 : i < 0 := i2; omega)
      have M2 := M.fr fx
      unfold wp_X3_back
      rintro w4 rfl
      obtain ⟨M4, f4⟩ := M2.thr ok (iz 0)
      generalize sI (sI (sB w 31 f) 33 (iz 0)) 60 (iz 0) = w4 at M4 f4
      rw [M4.2.2.2.2.2.1]
      refine brn (iz_eq (by omega) (by omega) (by decide) (by decide)) (fun _ => ?_) (fun e5 => absurd e5 e)
      refine m_copy (Or.inr (Or.inr rfl)) (Or.inl rfl) (by decide) ⟨i2, M4.2.2.2.2.2.2.1 i1⟩ (fun g B => ?_)
      rintro w6 rfl
      have e90 : gA (sI (sB w4 90 g) 97 (iz 0)) 90 = g := gA_r w4 90 g
      have em2 := B.2.1
      rw [Int.zero_add] at em2
      refine ⟨in90 (by decide) (by decide), ?_⟩
      rw [iz_toInt (by decide) (by decide), e90, em2]
      have fm : fM w4 (sI (sB w4 90 g) 97 (iz 0)) := ((fM.refl w4).sB (a := 90) (by decide) g).sI (k := 97) (by decide) _
      exact kk _ (inv_end okP X2 (f4.trans fm) (M4.deed ok fm (M4.1.2.2.2.2.2.2.1.fr rfl (gA_n w4 (by decide) g)) (by rw [e90]; exact B) rfl (fun i i1 i2 => by have i2 : i < 0 := i2; omega)) (fx.z0 hz))
    · refine ⟨iz_inb (by omega) (by omega) (by omega), iz_inb (by omega) (by omega) (by omega), ?_⟩
      rintro w6 rfl
      rw [iz_toInt (by omega) (by omega), gA_n _ (by decide)]
      obtain ⟨f1, e1, p1, r1⟩ := sA_ex2 w 31 f i (gA w 50 i)
      rw [e1, iz_add]
      refine k4 (by omega) _ ⟨by omega, f1, rfl, fun t x y => ?_⟩
      by_cases e6 : t = i
      · subst e6
        exact p1
      · rw [r1 _ e6]
        exact g1 t x (by omega)
  · unfold wp_X3_back
    rintro w4 rfl
    obtain ⟨M4, f4⟩ := M.thr ok (iz 0)
    rw [M4.2.2.2.2.2.1]
    exact brn (iz_eq (by omega) (by omega) (by decide) (by decide)) (fun e5 => absurd e e5) (fun _ => kk _ (inv_end ok X f4 M4 hz))
end D2
