/-! the deeds, on: found, box, count, step -/
section D4
variable {z : Nat} {w : Wd} {C : Int32 → Wd → Prop}
theorem znar_ok {l : Int} (h : l = 0 ∨ l = 1) : znar (iz l) = iz l := by
  rcases h with rfl | rfl
  · decide +kernel
  · decide +kernel
def fnMay (c : Cf) (p : Fnd) (a b : Int) : Prop := 0 ≤ b ∧ b < cK c ∧ 0 ≤ a ∧ a ≤ 5 ∧ p.1 ≠ 10
theorem op_found (I : INV z w) (u v : Int32) {lab : Int} (hl : lab = 0 ∨ lab = 1) (q : ∀ r1 w2, (∀ K : Int32 → Wd → Prop, (∀ w', INV z w' → K r1 w') → wp_X3_found u v (iz lab) w2 K) → C r1 w2) : wp_X1_found u v (iz lab) w C := by
  obtain ⟨a, a1, a2, rfl⟩ := ex_iz u
  obtain ⟨b, b1, b2, rfl⟩ := ex_iz v
  obtain ⟨c, lm, h, k, im, hv, tp, pl, pk, fn, ok, X, M, hz⟩ := I
  have okF := ok.2.2.2.2.2.2.2.2.2.2.2.2
  obtain ⟨o1, o2, o3⟩ := okF
  have XP := X.2.2.2.2.2.2.2.2.2.2.2.2.2.2.1
  have XF := X.2.2.2.2.2.2.2.2.2.2.2.2.2.2.2
  have k0 := ok.1.1
  have k6 := ok.1.2.1
  have zn := znar_ok hl
  have mW : ∀ (K : Int32 → Wd → Prop) (w2 : Wd), SM c lm h k im hv tp pl pk fn w2 → (fnMay c fn a b → ∀ w' w4, fM w2 w4 → w' = sI (sA (sA (sA w4 104 fn.1 (iz a)) 105 fn.1 (iz b)) 109 fn.1 (iz lab)) 110 (iz (fn.1 + 1)) → SM c lm h k im hv tp pl pk fn w4 → K (iz (fn.1 + 1)) w') → (¬ fnMay c fn a b → ∀ w', fM w2 w' → SM c lm h k im hv tp pl pk fn w' → K (iz (-1)) w') → wp_X3_found (iz a) (iz b) (iz lab) w2 K := by
    intro K w2 M2 f g
    unfold wp_X3_found
    rintro w4 rfl
    obtain ⟨M4, f4⟩ := M2.thr ok (iz 0)
    generalize sI w2 60 (iz 0) = w4 at M4 f4
    have g := fun n => g n w4 f4 M4
    have e110 := M4.2.2.2.2.2.2.2.2.2.2.2.1
    rw [M4.1.2.1]
    refine br (iz_eq (by omega) (by omega) (by decide) (by decide)) (fun e => g (fun m => by have := m.1; have := m.2.1; omega)) (fun e => ?_)
    refine m_isIn ⟨a1, a2⟩ (by decide) (by decide) (fun p1 p2 => t1 ?_) (fun n => t0 (g (fun m => n ⟨m.2.2.1, m.2.2.2.1⟩)))
    refine m_isKind M4.1 ⟨b1, b2⟩ (fun p3 p4 => t1 ?_) (fun n => t0 (g (fun m => n ⟨m.1, m.2.1⟩)))
    rw [e110]
    refine brn (iz_eq (by omega) (by omega) (by decide) (by decide)) (fun e6 => ?_) (fun e6 => g (fun m => m.2.2.2.2 e6))
    refine ⟨iz_inb (by omega) (by omega) (by omega), ?_⟩
    rintro w5 rfl
    rw [iz_toInt (by omega) (by omega), gI_sA, e110]
    refine ⟨iz_inb (by omega) (by omega) (by omega), ?_⟩
    rintro w6 rfl
    rw [iz_toInt (by omega) (by omega), gI_sA, gI_sA, e110]
    refine ⟨iz_inb (by omega) (by omega) (by omega), ?_⟩
    rintro w7 rfl
    rw [iz_toInt (by omega) (by omega), gI_sA, gI_sA, gI_sA, e110, iz_add, zn]
    rintro w8 rfl
    rw [gI_sI, if_pos rfl]
    exact f ⟨p3, p4, p1, p2, e6⟩ _ w4 f4 rfl M4
  have no : ¬ fnMay c fn a b → C (iz (-1)) w := fun n => q _ _ (fun K kk => mW K w M (fun m => absurd m n) (fun _ w' f M' => kk _ (inv_end ok X f M' hz)))
  have yes : fnMay c fn a b → C (iz (fn.1 + 1)) (sI (sA (sA (sA w 40 fn.1 (iz a)) 41 fn.1 (iz b)) 42 fn.1 (iz lab)) 43 (iz (fn.1 + 1))) := by
    intro may
    refine q _ _ (fun K kk => ?_)
    have fn' : ∃ p : Fnd, p = (fn.1 + 1, ups fn.2.1 fn.1 a, ups fn.2.2.1 fn.1 b, ups fn.2.2.2 fn.1 lab) := ⟨_, rfl⟩
    obtain ⟨p, hp⟩ := fn'
    obtain ⟨m1, m2, m3, m4, m5⟩ := may
    have okp : FnOK p := by
      rw [hp]
      refine ⟨(by omega : (0 : Int) ≤ fn.1 + 1), (by omega : fn.1 + 1 ≤ 10), fun i i1 i2 => ?_⟩
      have i2 : i < fn.1 + 1 := i2
      by_cases e : i = fn.1
      · subst e
        simp only [ups_p]
        omega
      · simp only [ups_n _ _ e]
        exact o3 i i1 (by omega)
    have okS : SOK c lm h k im hv tp pl pk p := by
      obtain ⟨s1, s2, s3, s4, s5, s6, s7, s8, s9, s10, s11, s12, s13⟩ := ok
      exact ⟨s1, s2, s3, s4, s5, s6, s7, s8, s9, s10, s11, s12, okp⟩
    have X2 : SX c lm h k im hv tp pl pk p (sI (sA (sA (sA w 40 fn.1 (iz a)) 41 fn.1 (iz b)) 42 fn.1 (iz lab)) 43 (iz (fn.1 + 1))) := by
      refine X.xfr (fun j h1 h2 => ?_) (fun a' ha => ?_) rfl rfl ?_ ?_
      · rw [gI_sI, if_neg h2]
        rfl
      · funext t
        rw [gA_sI, gA_sA, if_neg (by omega), gA_sA, if_neg (by omega), gA_sA, if_neg (by omega)]
      · refine ⟨?_, fun i i1 i2 => ?_⟩
        · rw [gI_sI, if_neg (by decide)]
          exact XP.1
        · rw [gA_sI, gA_sI]
          simp only [gA_sA, show (37 : Nat) = 42 ↔ False by decide, show (37 : Nat) = 41 ↔ False by decide, show (37 : Nat) = 40 ↔ False by decide, show (38 : Nat) = 42 ↔ False by decide, show (38 : Nat) = 41 ↔ False by decide, show (38 : Nat) = 40 ↔ False by decide, if_false]
          exact XP.2 i i1 i2
      · rw [hp]
        refine ⟨by rw [gI_sI, if_pos rfl], fun i i1 i2 => ?_⟩
        have i2 : i < fn.1 + 1 := i2
        simp only [gA_sI, gA_sA, show (40 : Nat) = 42 ↔ False by decide, show (40 : Nat) = 41 ↔ False by decide, show (41 : Nat) = 42 ↔ False by decide, show (41 : Nat) = 40 ↔ False by decide, show (42 : Nat) = 41 ↔ False by decide, show (42 : Nat) = 40 ↔ False by decide, if_false, if_true]
        by_cases e : i = fn.1
        · simp only [e, if_true, ups_p]
          exact ⟨trivial, trivial, trivial⟩
        · simp only [e, if_false, ups_n _ _ e]
          exact XF.2 i i1 (by omega)
    have M2 : SM c lm h k im hv tp pl pk fn (sI (sA (sA (sA w 40 fn.1 (iz a)) 41 fn.1 (iz b)) 42 fn.1 (iz lab)) 43 (iz (fn.1 + 1))) := by
      refine M.ge (fun j hj => ?_) (fun a' ha => ?_) rfl
      · rw [gI_sI, if_neg (by omega)]
        rfl
      · funext t
        rw [gA_sI, gA_sA, if_neg (by omega), gA_sA, if_neg (by omega), gA_sA, if_neg (by omega)]
    refine mW K _ M2 (fun _ w' w4 f5 hw M4 => ?_) (fun n => absurd ⟨m1, m2, m3, m4, m5⟩ n)
    have MP := M4.2.2.2.2.2.2.2.2.2.2.1
    have MF := M4.2.2.2.2.2.2.2.2.2.2.2
    subst hw
    refine kk _ ⟨c, lm, h, k, im, hv, tp, pl, pk, p, okS, (X2.fr f5).lt (fun j hj => ?_) (fun a' ha => ?_) rfl rfl, M4.xfr (fun j h1 h2 => ?_) (fun a' ha => ?_) rfl ?_ ?_, ?_⟩
    · rw [gI_sI, if_neg (by omega)]
      rfl
    · funext t
      rw [gA_sI, gA_sA, if_neg (by omega), gA_sA, if_neg (by omega), gA_sA, if_neg (by omega)]
    · rw [gI_sI, if_neg h2]
      rfl
    · funext t
      rw [gA_sI, gA_sA, if_neg (by omega), gA_sA, if_neg (by omega), gA_sA, if_neg (by omega)]
    · refine ⟨?_, fun i i1 i2 => ?_⟩
      · rw [gI_sI, if_neg (by decide)]
        exact MP.1
      · rw [gA_sI, gA_sI]
        simp only [gA_sA, show (101 : Nat) = 109 ↔ False by decide, show (101 : Nat) = 105 ↔ False by decide, show (101 : Nat) = 104 ↔ False by decide, show (102 : Nat) = 109 ↔ False by decide, show (102 : Nat) = 105 ↔ False by decide, show (102 : Nat) = 104 ↔ False by decide, if_false]
        exact MP.2 i i1 i2
    · rw [hp]
      refine ⟨by rw [gI_sI, if_pos rfl], fun i i1 i2 => ?_⟩
      have i2 : i < fn.1 + 1 := i2
      simp only [gA_sI, gA_sA, show (104 : Nat) = 109 ↔ False by decide, show (104 : Nat) = 105 ↔ False by decide, show (105 : Nat) = 109 ↔ False by decide, show (105 : Nat) = 104 ↔ False by decide, show (109 : Nat) = 105 ↔ False by decide, show (109 : Nat) = 104 ↔ False by decide, if_false, if_true]
      by_cases e : i = fn.1
      · simp only [e, if_true, ups_p]
        exact ⟨trivial, trivial, trivial⟩
      · simp only [e, if_false, ups_n _ _ e]
        exact MF.2 i i1 (by omega)
    · have e1 : gZ w4 = gZ w := f5.2.2.2.2.2.2.2.2
      show gZ w4 ≤ z
      omega
  unfold wp_X1_found
  refine x_isKind (X.hx ok) ⟨b1, b2⟩ (fun p3 p4 => t1 ?_) (fun n => t0 (no (fun m => n ⟨m.1, m.2.1⟩)))
  refine x_in ⟨a1, a2⟩ (by decide) (by decide) (fun p1 p2 => t1 ?_) (fun n => t0 (no (fun m => n ⟨m.2.2.1, m.2.2.2.1⟩)))
  rw [XF.1]
  refine brn (iz_eq (by omega) (by omega) (by decide) (by decide)) (fun e6 => ?_) (fun e6 => no (fun m => m.2.2.2.2 e6))
  refine ⟨iz_inb (by omega) (by omega) (by omega), ?_⟩
  rintro w5 rfl
  rw [iz_toInt (by omega) (by omega), gI_sA, XF.1]
  refine ⟨iz_inb (by omega) (by omega) (by omega), ?_⟩
  rintro w6 rfl
  rw [iz_toInt (by omega) (by omega), gI_sA, gI_sA, XF.1]
  refine ⟨iz_inb (by omega) (by omega) (by omega), ?_⟩
  rintro w7 rfl
  rw [iz_toInt (by omega) (by omega), gI_sA, gI_sA, gI_sA, XF.1, iz_add, zn]
  rintro w8 rfl
  rw [gI_sI, if_pos rfl]
  exact yes ⟨p3, p4, p1, p2, e6⟩
/-- a box's numbers -/
def o_box (c : Cf) (h : Hs) (b v : Int) : Int := if v = 4 then valO c h b else if v = 5 then hb h b 1 * cD c (5 * hb h b 0 + 1) else if v = 6 then hn h - 1 - b else hb h b v
theorem op_box (I : INV z w) (hc : z + 1 ≤ CM) (u v : Int32) (q : ∀ r1 w2, (∀ K : Int32 → Wd → Prop, (∀ r3 w', INV (z + 1) w' → gI w' 60 = r1 → (r1 = iz 0 → gL w' 3 0 = r3.toInt64) → K r3 w') → wp_X3_box u v w2 K) → C r1 w2) : wp_X0_box u v w C := by
  obtain ⟨a, a1, a2, rfl⟩ := ex_iz u
  obtain ⟨b, b1, b2, rfl⟩ := ex_iz v
  obtain ⟨c, lm, h, k, im, hv, tp, pl, pk, fn, ok, X, M, hz⟩ := I
  have H := X.hx ok
  have hn0 := ok.oh.1
  have hn8 := ok.oh.2.1
  have out : ¬ (0 ≤ a ∧ a < hn h ∧ 0 ≤ b ∧ b ≤ 6) → C (iz 1) (sZ w (gZ w + 1)) := by
    intro n
    refine q _ _ (fun K kk => ?_)
    have fx : fX 1 w (sZ w (gZ w + 1)) := ⟨fun _ _ => rfl, fun _ _ => rfl, fun _ _ => rfl, fun _ _ => rfl, fun _ _ => rfl, fun _ _ => rfl, rfl, fun _ _ => rfl, Nat.le_succ _, Nat.le_refl _⟩
    have M2 := M.fr fx
    have X2 : SX c lm h k im hv tp pl pk fn (sZ w (gZ w + 1)) := X.deed ok fx X.2.2.2.2.2.2.1 X.2.2.2.2.2.2.2.1 X.2.2.2.2.2.2.2.2.1
    have z1 : gZ (sZ w (gZ w + 1)) ≤ z + 1 := by show gZ w + 1 ≤ z + 1; omega
    have fin : b_X3_box_30 K (iz a) (iz b) (iz 1) (sZ w (gZ w + 1)) := by
      unfold b_X3_box_30
      rintro w5 rfl
      obtain ⟨M5, f5⟩ := M2.thr ok (iz 1)
      have e60 : gI (sI (sZ w (gZ w + 1)) 60 (iz 1)) 60 = iz 1 := by rw [gI_sI, if_pos rfl]
      rw [e60]
      exact ⟨fun e => absurd e (by decide), fun _ => kk _ _ (inv_end ok X2 f5 M5 z1) e60 (fun e => absurd e (by decide))⟩
    unfold wp_X3_box
    refine m_isBox M2.1 M90 (M2.mh ok) ⟨a1, a2⟩ (fun p1 p2 => t1 ?_) (fun _ => t0 fin)
    exact m_isIn ⟨b1, b2⟩ (by decide) (by decide) (fun p3 p4 => absurd ⟨p1, p2, p3, p4⟩ n) (fun _ => t0 fin)
  have good : 0 ≤ a → a < hn h → 0 ≤ b → b ≤ 6 → ∀ f, C (iz 0) (sL (sB w 15 f) 3 0 (iz (o_box c h a b)).toInt64) := by
    intro p1 p2 p3 p4 f
    refine q _ _ (fun K kk => ?_)
    generalize hV : (iz (o_box c h a b)).toInt64 = V
    have fx : fX 0 w (sL (sB w 15 f) 3 0 V) := by
      refine ((fX.refl w).sB (a := 15) (by decide) f).tr0 ⟨fun _ _ => rfl, fun _ _ => rfl, fun _ _ => rfl, fun _ _ => rfl, fun _ _ => rfl, fun a' ha => ?_, rfl, fun _ _ => rfl, Nat.le_refl _, Nat.le_refl _⟩
      funext t
      rw [gL_sL, if_neg ha]
    have M2 := M.fr fx
    have X2 : SX c lm h k im hv tp pl pk fn (sL (sB w 15 f) 3 0 V) := (X.s15 ok f).deed ok (z := 0) ⟨fun _ _ => rfl, fun _ _ => rfl, fun _ _ => rfl, fun _ _ => rfl, fun _ _ => rfl, fun a' ha => by funext t; rw [gL_sL, if_neg ha], rfl, fun _ _ => rfl, Nat.le_refl _, Nat.le_refl _⟩ (X.s15 ok f).2.2.2.2.2.2.1 (X.s15 ok f).2.2.2.2.2.2.2.1 (X.s15 ok f).2.2.2.2.2.2.2.2.1
    have eL : gL (sL (sB w 15 f) 3 0 V) 3 0 = V := by rw [gL_sL, if_pos rfl, if_pos rfl]
    have z1 : gZ (sL (sB w 15 f) 3 0 V) ≤ z + 1 := by show gZ w ≤ z + 1; omega
    generalize sL (sB w 15 f) 3 0 V = w2 at fx M2 X2 eL z1
    unfold wp_X3_box
    refine m_isBox M2.1 M90 (M2.mh ok) ⟨a1, a2⟩ (fun _ _ => t1 ?_) (fun n => absurd ⟨p1, p2⟩ n)
    refine m_isIn ⟨b1, b2⟩ (by decide) (by decide) (fun _ _ => t1 ?_) (fun n => absurd ⟨p3, p4⟩ n)
    unfold b_X3_box_30
    rintro w5 rfl
    obtain ⟨M5, f5⟩ := M2.thr ok (iz 0)
    have e60 : gI (sI w2 60 (iz 0)) 60 = iz 0 := by rw [gI_sI, if_pos rfl]
    have eL5 : gL (sI w2 60 (iz 0)) 3 0 = V := eL
    generalize sI w2 60 (iz 0) = w5 at M5 f5 e60 eL5
    rw [e60, iz_toInt (by omega) (by omega)]
    have fin : ∀ w6, MT c lm w5 w6 → K (iz (o_box c h a b)) w6 := by
      intro w6 ms
      refine kk _ _ (inv_end ok X2 (f5.trans ms.1.q.1) (M5.q ok ms.1.q) z1) (ms.2.trans e60) (fun _ => ?_)
      rw [ms.1.1.2.2.2.1 3 (by decide), eL5, hV]
    have self : MT c lm w5 w5 := ⟨M5.1.self, rfl⟩
    have G5 := M5.mh ok
    have vn := G5.2.1
    rw [Int.zero_add] at vn
    refine ⟨fun _ => ⟨fun e => ?_, fun e => ?_, fun e => ?_, fun e => ?_⟩, fun n => absurd (Int32.le_refl _) n⟩
    · unfold o_box at fin
      simp only [if_pos e] at fin
      exact m_valueOfT M5.1 M90 G5 p1 p2 fin
    · unfold o_box at fin
      simp only [if_neg (show ¬ b = 4 by omega), if_pos e] at fin
      exact m_weightOf M5.1 M90 G5 p1 p2 (fin w5 self)
    · unfold o_box at fin
      simp only [if_neg (show ¬ b = 4 by omega), if_neg (show ¬ b = 5 by omega), if_pos e] at fin
      refine ⟨in90 (by decide) (by decide), ?_⟩
      rw [iz_toInt (by decide) (by decide), vn, iz_sub, iz_sub]
      exact fin w5 self
    · unfold o_box at fin
      simp only [if_neg (show ¬ b = 4 by omega), if_neg (show ¬ b = 5 by omega), if_neg (show ¬ b = 6 by omega)] at fin
      rw [iz_mul, iz_add]
      refine ⟨in90 (by omega) (by omega), ?_⟩
      rw [iz_toInt (by omega) (by omega), G5.v p1 p2 p3 (by omega)]
      exact fin w5 self
  have gd : 0 ≤ a → a < hn h → 0 ≤ b → b ≤ 6 → ∀ f, inb (iz 0) 1 ∧ (∀ w3, w3 = sL (sB w 15 f) 3 (iz 0).toInt (iz (o_box c h a b)).toInt64 → C (iz 0) w3) := by
    intro p1 p2 p3 p4 f
    refine ⟨iz_inb (by decide) (by decide) (by decide), ?_⟩
    rintro w3 rfl
    rw [iz_toInt (by decide) (by decide)]
    exact good p1 p2 p3 p4 f
  have gw : 0 ≤ a → a < hn h → 0 ≤ b → b ≤ 6 → inb (iz 0) 1 ∧ (∀ w3, w3 = sL w 3 (iz 0).toInt (iz (o_box c h a b)).toInt64 → C (iz 0) w3) := by
    intro p1 p2 p3 p4
    have := gd p1 p2 p3 p4 (gA w 15)
    rwa [sB_self] at this
  have bad : ¬ (0 ≤ a ∧ a < hn h ∧ 0 ≤ b ∧ b ≤ 6) → gZ w + 1 ≤ CM ∧ (∀ w3, w3 = sZ w (gZ w + 1) → C (iz 1) w3) := by
    intro n
    refine ⟨by omega, ?_⟩
    rintro w3 rfl
    exact out n
  unfold wp_X0_box wp_X1_box
  refine x_isBox H ⟨a1, a2⟩ (fun p1 p2 => t1 ?_) (fun n => t0 (bad (fun m => n ⟨m.1, m.2.1⟩)))
  refine x_in ⟨b1, b2⟩ (by decide) (by decide) (fun p3 p4 => u1 ?_) (fun n => u0 (bad (fun m => n m.2.2)))
  have gd := gd p1 p2 p3 p4
  have gw := gw p1 p2 p3 p4
  have g8 := ok.oh.2.2.2.2.2.2.2 a p1 p2
  unfold o_box at gd gw
  rw [iz_toInt (by omega) (by omega)]
  refine ⟨fun e => ?_, fun e => ?_, fun e => ?_, fun e => ?_, fun e => ?_⟩
  · simp only [if_neg (show ¬ b = 4 by omega), if_neg (show ¬ b = 5 by omega), if_neg (show ¬ b = 6 by omega), e] at gw
    refine x_isLabelled H p1 p2 (fun e2 => t1 ?_) (fun e2 => t0 ?_)
    · rw [e2] at gw
      exact gw
    · rw [e2] at gw
      exact gw
  · simp only [if_pos e] at gd
    exact x_valueOf H p1 p2 gd
  · simp only [if_neg (show ¬ b = 4 by omega), if_pos e] at gw
    exact x_weighs H p1 p2 gw
  · simp only [if_neg (show ¬ b = 4 by omega), if_neg (show ¬ b = 5 by omega), if_pos e] at gw
    exact x_turned H gw
  · simp only [if_neg (show ¬ b = 4 by omega), if_neg (show ¬ b = 5 by omega), if_neg (show ¬ b = 6 by omega)] at gw
    exact x_of H p1 p2 p3 (by omega) gw
/-- what was eaten, as it is logged -/
def oe (h : Hs) : Int := sm (fun i => hg h i 3) (hl h)
def o_cnt (c : Cf) (lm : Int) (h : Hs) (k : Ks) (hv : Int) (tp : Tp) (pl : Pl) (pk : Pk) (fn : Fnd) (v : Int) : Int := if v = 0 then cK c else if v = 1 then hn h else if v = 2 then lm else if v = 3 then pl.1 else if v = 4 then tp.1 else if v = 5 then cH c else if v = 6 then hm h else if v = 7 then pall h else if v = 8 then vsum c h (hn h) else if v = 9 then hv else if v = 10 then pk.1 else if v = 11 then fn.1 else if v = 12 then oe h else if v = 13 then hl h else if v = 14 then k.1 else -1000000
theorem x_eatenAll2 {c : Cf} {h : Hs} {w : Wd} {Q : Int32 → Wd → Prop} (H : HX c h w) (q : Q (iz (oe h)) w) : wp_X1_eatenAll w Q := by
  have l1 := H.hs.2.2.2.2.1; have l2 := H.hs.2.2.2.2.2.1
  have ax := H.ax
  refine lpe (fun n (s : Int32 × Int32 × Wd) => lp_X1_eatenAll_4 Q n s.1 s.2.1 s.2.2) (fun R s => wl_X1_eatenAll_4 Q (fun x y z => R (x, y, z)) s.1 s.2.1 s.2.2) (fun _ _ h => h) (fun i s => 0 ≤ i ∧ s = (iz (sm (fun i => hg h i 3) i), iz i, w)) (hl h) 0 (iz 0, iz 0, w) l1 ⟨by decide, rfl⟩ ?_
  rintro R _ i hi ⟨hi0, rfl⟩ kk
  have e34 := ax.2.2.1
  rw [Int.zero_add] at e34
  refine ⟨iz_inb (by decide) (by decide) (by decide), ?_⟩
  rw [iz_toInt (by decide) (by decide), e34]
  refine br (iz_le (by omega) (by omega) (by omega) (by omega)) (fun e => ?_) (fun e => ?_)
  · obtain rfl : i = hl h := by omega
    exact q
  · have kk := kk (by omega)
    have v := ax.2.2.2.2.2 i 3 hi0 (by omega) (by decide) (by decide)
    rw [Int.zero_add] at v
    rw [sm_s _ hi0] at kk
    rw [iz_mul, iz_add, iz_add]
    refine ⟨iz_inb (by omega) (by omega) (by omega), ?_⟩
    rw [iz_toInt (by omega) (by omega), v, iz_add, iz_add]
    exact kk _ ⟨by omega, rfl⟩
theorem op_count (I : INV z w) (u : Int32) (q : ∀ r1 w2, (∀ K : Int32 → Wd → Prop, (∀ w', INV z w' → K r1 w') → wp_X3_count u w2 K) → C r1 w2) : wp_X1_count u w C := by
  obtain ⟨v, v1, v2, rfl⟩ := ex_iz u
  obtain ⟨c, lm, h, k, im, hv, tp, pl, pk, fn, ok, X, M, hz⟩ := I
  have H := X.hx ok
  have main : ∀ f, C (iz (o_cnt c lm h k hv tp pl pk fn v)) (sB w 15 f) := by
    intro f
    refine q _ _ (fun K kk => ?_)
    have hq := qxs15 w f
    have M2 := M.fr hq.1
    unfold wp_X3_count
    rintro w4 rfl
    obtain ⟨M4, f4⟩ := M2.thr ok (iz 0)
    have k4 : ∀ w5, MS c lm (sI (sB w 15 f) 60 (iz 0)) w5 → K (iz (o_cnt c lm h k hv tp pl pk fn v)) w5 := fun w5 ms => kk _ (inv_end ok (X.q ok hq) (f4.trans ms.q.1) (M4.q ok ms.q) hz)
    generalize sI (sB w 15 f) 60 (iz 0) = w4 at M4 f4 k4
    have self := k4 w4 M4.1.self
    have G4 := M4.mh ok
    have ax := G4.2
    have e40 := ax.1
    have e41 := ax.2.1
    have e42 := ax.2.2.1
    rw [Int.zero_add] at e40 e41 e42
    unfold o_cnt at self k4
    rw [iz_toInt v1 v2]
    refine ⟨?_, ?_, ?_, ?_, ?_, ?_, ?_, ?_, ?_, ?_, ?_, ?_, ?_, ?_, ?_, ?_⟩
    · rintro rfl
      rw [M4.1.2.1]
      exact self
    · rintro rfl
      refine ⟨in90 (by decide) (by decide), ?_⟩
      rw [iz_toInt (by decide) (by decide), e40]
      exact self
    · rintro rfl
      rw [M4.2.1]
      exact self
    · rintro rfl
      rw [M4.2.2.2.2.2.2.2.2.2.1.1]
      exact self
    · rintro rfl
      rw [M4.2.2.2.2.2.2.2.2.1.1]
      exact self
    · rintro rfl
      rw [M4.1.2.2.2.2.1]
      exact self
    · rintro rfl
      refine ⟨in90 (by decide) (by decide), ?_⟩
      rw [iz_toInt (by decide) (by decide), e41]
      exact self
    · rintro rfl
      exact m_sumIn M90 G4 self
    · rintro rfl
      exact m_valueIn M4.1 M90 G4 k4
    · rintro rfl
      rw [M4.2.2.2.2.2.2.2.1]
      exact self
    · rintro rfl
      rw [M4.2.2.2.2.2.2.2.2.2.2.1.1]
      exact self
    · rintro rfl
      rw [M4.2.2.2.2.2.2.2.2.2.2.2.1]
      exact self
    · rintro rfl
      have l1 := ok.oh.2.2.2.2.1; have l2 := ok.oh.2.2.2.2.2.1
      refine lpe (fun n (s : Int32 × Int32 × Wd) => lp_X3_count_158 K n s.1 s.2.1 s.2.2) (fun R s => wl_X3_count_158 K (fun x y z => R (x, y, z)) s.1 s.2.1 s.2.2) (fun _ _ h => h) (fun i s => 0 ≤ i ∧ s = (iz (sm (fun i => hg h i 3) i), iz i, w4)) (hl h) 0 (iz 0, iz 0, w4) l1 ⟨by decide, rfl⟩ ?_
      rintro R _ i hi ⟨hi0, rfl⟩ k5
      refine ⟨in90 (by decide) (by decide), ?_⟩
      rw [iz_toInt (by decide) (by decide), e42]
      refine br (iz_le (by omega) (by omega) (by omega) (by omega)) (fun e => ?_) (fun e => ?_)
      · obtain rfl : i = hl h := by omega
        exact self
      · have k5 := k5 (by omega)
        have v := ax.2.2.2.2.2 i 3 hi0 (by omega) (by decide) (by decide)
        rw [sm_s _ hi0] at k5
        rw [iz_mul, iz_add]
        refine ⟨in90 (by omega) (by omega), ?_⟩
        rw [iz_toInt (by omega) (by omega), show 46 + 4 * i = 0 + (43 + 4 * i + 3) by omega, v, iz_add, iz_add]
        exact k5 _ ⟨by omega, rfl⟩
    · rintro rfl
      refine ⟨in90 (by decide) (by decide), ?_⟩
      rw [iz_toInt (by decide) (by decide), e42]
      exact self
    · rintro rfl
      rw [M4.2.2.2.1]
      exact self
    · intro e
      simp only [if_neg (show ¬ v = 0 by omega), if_neg (show ¬ v = 1 by omega), if_neg (show ¬ v = 2 by omega), if_neg (show ¬ v = 3 by omega), if_neg (show ¬ v = 4 by omega), if_neg (show ¬ v = 5 by omega), if_neg (show ¬ v = 6 by omega), if_neg (show ¬ v = 7 by omega), if_neg (show ¬ v = 8 by omega), if_neg (show ¬ v = 9 by omega), if_neg (show ¬ v = 10 by omega), if_neg (show ¬ v = 11 by omega), if_neg (show ¬ v = 12 by omega), if_neg (show ¬ v = 13 by omega), if_neg (show ¬ v = 14 by omega)] at self
      exact self
  have self := main (gA w 15)
  rw [sB_self] at self
  have ax := H.ax
  have e33 := ax.2.1
  have e34 := ax.2.2.1
  rw [Int.zero_add] at e33 e34
  unfold wp_X1_count
  unfold o_cnt at self main
  rw [iz_toInt v1 v2]
  refine ⟨?_, ?_, ?_, ?_, ?_, ?_, ?_, ?_, ?_, ?_, ?_, ?_, ?_, ?_, ?_, ?_⟩
  · rintro rfl
    rw [H.2.2.1]
    exact self
  · rintro rfl
    exact x_boxMany H self
  · rintro rfl
    rw [X.1]
    exact self
  · rintro rfl
    rw [X.2.2.2.2.2.2.2.2.2.2.2.2.2.1.1]
    exact self
  · rintro rfl
    rw [X.2.2.2.2.2.2.2.2.2.2.2.2.1.1]
    exact self
  · rintro rfl
    rw [H.2.2.2.2.2.1]
    exact self
  · rintro rfl
    refine ⟨iz_inb (by decide) (by decide) (by decide), ?_⟩
    rw [iz_toInt (by decide) (by decide), e33]
    exact self
  · rintro rfl
    exact x_portionsAll H self
  · rintro rfl
    exact x_valueAll H main
  · rintro rfl
    rw [X.2.2.2.2.2.2.2.2.2.2.2.1]
    exact self
  · rintro rfl
    rw [X.2.2.2.2.2.2.2.2.2.2.2.2.2.2.1.1]
    exact self
  · rintro rfl
    rw [X.2.2.2.2.2.2.2.2.2.2.2.2.2.2.2.1]
    exact self
  · rintro rfl
    exact x_eatenAll2 H self
  · rintro rfl
    refine ⟨iz_inb (by decide) (by decide) (by decide), ?_⟩
    rw [iz_toInt (by decide) (by decide), e34]
    exact self
  · rintro rfl
    rw [X.2.2.2.2.2.2.2.1]
    exact self
  · intro e
    simp only [if_neg (show ¬ v = 0 by omega), if_neg (show ¬ v = 1 by omega), if_neg (show ¬ v = 2 by omega), if_neg (show ¬ v = 3 by omega), if_neg (show ¬ v = 4 by omega), if_neg (show ¬ v = 5 by omega), if_neg (show ¬ v = 6 by omega), if_neg (show ¬ v = 7 by omega), if_neg (show ¬ v = 8 by omega), if_neg (show ¬ v = 9 by omega), if_neg (show ¬ v = 10 by omega), if_neg (show ¬ v = 11 by omega), if_neg (show ¬ v = 12 by omega), if_neg (show ¬ v = 13 by omega), if_neg (show ¬ v = 14 by omega)] at self
    exact self
end D4
