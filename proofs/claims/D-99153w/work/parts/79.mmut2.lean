/-! the model's deeds, on: a month, putting in, taking out -/
section MM2
variable {c : Cf} {lm : Int} {h : Hs} {w w' : Wd}
theorem m_goMonth {Q : Wd → Prop} (H : HM c lm w) {r : Nat} (hr : MR r) (G : MH c r h w) (hm9 : hm h < 999) (q : ∀ f, AMf (hPass c h) f 0 → Q (sB w r f)) : wp_X3_goMonth r w Q := by
  unfold wp_X3_goMonth
  have a0 := G.1.1; have a2 := G.1.2.1; have m0 := G.1.2.2.1
  refine m_ages hr G (more := 1) (by decide) (by decide) (fun f1 A1 => ?_)
  have em := A1.2.1
  rw [Int.zero_add] at em
  refine ⟨inM hr (by omega) (by omega), inM hr (by omega) (by omega), ?_⟩
  rintro w3 rfl
  rw [gA_r, iz_toInt (by omega) (by omega), em, iz_add]
  obtain ⟨f0, e0, p0, r0⟩ := sA_ex2 w r f1 41 (iz (hm (hOld h 1) + 1))
  rw [e0]
  have f40 : f0 40 = iz (hn h) := by rw [r0 _ (by omega)]; exact A1.1
  have slot : ∀ b, 0 ≤ b → b < hn h → hb h b 3 = 1 → f0 (5 * b + 4) = iz (hb h b 4) := by
    intro b b1 b2 b3
    rw [r0 _ (by omega)]
    have := A1.2.2.2.2.1 b b1 b2 (by unfold hOld; rw [hb_mk]; simpa using b3)
    rw [Int.zero_add] at this
    rw [this]
    unfold hOld
    rw [hb_mk]
    simp
  have lab : ∀ b, 0 ≤ b → b < hn h → f0 (5 * b + 3) = iz (hb h b 3) := by
    intro b b1 b2
    rw [r0 _ (by omega)]
    have := A1.2.2.2.1 b 3 b1 b2 (by decide) (by decide)
    rw [Int.zero_add] at this
    rw [this]
    unfold hOld
    rw [hb_mk]
    simp
  have hle : ∀ b, b < hn h → 0 ≤ b → hb h b 3 = 0 ∨ hb h b 3 = 1 := fun b b2 b1 => (G.1.2.2.2.2.2.2.2 b b1 b2).2.2.2.2.2.2.1
  refine lpe (fun n1 (s : Int32 × Wd) => lp_X3_goMonth_16 Q r n1 s.1 s.2) (fun R s => wl_X3_goMonth_16 Q r (fun x y => R (x, y)) s.1 s.2) (fun _ _ h => h) (fun i s => 0 ≤ i ∧ ∃ f, s = (iz i, sB w r f) ∧ (∀ b, 0 ≤ b → b < i → f (5 * b + 3) = iz (if hb h b 3 = 1 ∧ hm h + 1 - hb h b 4 < cR c 2 then 1 else 0)) ∧ ∀ t, (∀ j, 0 ≤ j → j < i → t ≠ 5 * j + 3) → f t = f0 t) (hn h) 0 (iz 0, sB w r f0) a0 ⟨by decide, f0, rfl, fun j x y => by omega, fun t _ => rfl⟩ ?_
  rintro R _ i hi ⟨hi0, f, rfl, g1, g2⟩ kk
  have e40 : f 40 = iz (hn h) := by rw [g2 40 (fun j x y => by omega)]; exact f40
  have e41 : f 41 = iz (hm h + 1) := by rw [g2 41 (fun j x y => by omega)]; exact p0
  refine ⟨inM hr (by omega) (by omega), ?_⟩
  rw [iz_toInt (by omega) (by omega), gA_r, e40]
  refine br (iz_le (by omega) (by omega) (by omega) (by omega)) (fun e => ?_) (fun e => ?_)
  · obtain rfl : i = hn h := by omega
    have old : ∀ t, t ≠ 41 → (∀ j, 0 ≤ j → j < hn h → t ≠ 5 * j + 3) → f t = f1 t := fun t t1 t2 => by rw [g2 t t2, r0 t t1]
    refine q f ⟨?_, ?_, ?_, fun b j b1 b2 j1 j2 => ?_, fun b b1 b2 b3 => ?_, fun b j b1 b2 j1 j2 => ?_⟩
    · exact e40
    · exact e41
    · rw [old _ (by omega) (fun j x y => by omega)]
      exact A1.2.2.1
    · unfold hPass at b2 ⊢
      simp only [hn_mk, hb_mk] at b2 ⊢
      by_cases e3 : j = 3
      · subst e3
        rw [Int.zero_add, g1 b b1 b2, if_neg (show ¬ (3 : Int) = 2 by decide), if_pos (show (3 : Int) = 3 from rfl)]
      · rw [old _ (by omega) (fun j x y => by omega)]
        have := A1.2.2.2.1 b j b1 b2 j1 j2
        unfold hOld at this
        simp only [hn_mk, hb_mk] at this
        rw [this, if_neg e3]
    · unfold hPass at b2 b3 ⊢
      simp only [hn_mk, hb_mk] at b2 b3 ⊢
      have b3' : hb h b 3 = 1 := by
        by_cases z : hb h b 3 = 1 ∧ hm h + 1 - hb h b 4 < cR c 2
        · exact z.1
        · simp [z] at b3
      rw [old _ (by omega) (fun j x y => by omega)]
      have := slot b b1 b2 b3'
      rw [r0 _ (by omega)] at this
      rw [Int.zero_add, this]
      simp
    · unfold hPass at b2 ⊢
      simp only [hn_mk, hl_mk, hg_mk] at b2 ⊢
      rw [old _ (by omega) (fun j x y => by omega)]
      exact A1.2.2.2.2.2 b j b1 b2 j1 j2
  · have kk := kk (by omega)
    have gb := G.1.2.2.2.2.2.2.2 i hi0 (by omega)
    have K1 : 0 < cK c := by omega
    have cr := H.1.2.2.1 K1
    have er := H.2.2.1 2 (by decide) (by decide)
    simp only [iz_mul, iz_add]
    refine ⟨inM hr (by omega) (by omega), inM hr (by omega) (by omega), iz_inb (by decide) (by decide) (by decide), ?_⟩
    rw [iz_toInt (by omega) (by omega), iz_toInt (by omega) (by omega), iz_toInt (by omega) (by omega), e41, gA_n w (show 78 ≠ r by omega), er, iz_toInt (by omega) (by omega)]
    have keep : hb h i 3 = 1 → hm h + 1 - hb h i 4 < cR c 2 → R (iz (i + 1), sB w r f) := by
      intro z1 z2
      refine kk _ ⟨by omega, f, rfl, fun b x y => ?_, fun t ht => g2 t (fun j x y => ht j x (by omega))⟩
      by_cases e3 : b = i
      · subst e3
        rw [g2 _ (fun j x y => by omega), lab b hi0 (by omega), if_pos ⟨z1, z2⟩, z1]
      · exact g1 b x (by omega)
    have drop : ¬ (hb h i 3 = 1 ∧ hm h + 1 - hb h i 4 < cR c 2) → ∀ f', f' (5 * i + 3) = iz 0 → (∀ t, t ≠ 5 * i + 3 → f' t = f t) → R (iz (i + 1), sB w r f') := by
      intro z f' x1 x2
      refine kk _ ⟨by omega, f', rfl, fun b x y => ?_, fun t ht => ?_⟩
      · by_cases e3 : b = i
        · subst e3
          rw [x1, if_neg z]
        · rw [x2 _ (by omega)]
          exact g1 b x (by omega)
      · rw [x2 _ (ht i hi0 (by omega))]
        exact g2 t (fun j x y => ht j x (by omega))
    have dropNow : ¬ (hb h i 3 = 1 ∧ hm h + 1 - hb h i 4 < cR c 2) → ∀ w1, w1 = sA (sB w r f) r (5 * i + 3) (iz 0) → R (iz (i + 1), w1) := by
      rintro z w1 rfl
      obtain ⟨f3, e3, p3, r3⟩ := sA_ex2 w r f (5 * i + 3) (iz 0)
      rw [e3]
      exact drop z f3 p3 r3
    by_cases e4 : hb h i 3 = 1
    · have gb4 := gb.2.2.2.2.2.2.2 e4
      rw [g2 (5 * i + 4) (fun j x y => by omega), slot i hi0 (by omega) e4, iz_sub]
      refine br (iz_lt (by omega) (by omega) (by omega) (by omega)) (fun e5 => keep e4 e5) (fun e5 => ⟨inM hr (by omega) (by omega), dropNow (fun z => e5 z.2)⟩)
    · have l0 : hb h i 3 = 0 := by omega
      refine ⟨fun _ => drop (fun z => e4 z.1) f ?_ (fun _ _ => rfl), fun _ => ⟨inM hr (by omega) (by omega), dropNow (fun z => e4 z.1)⟩⟩
      rw [g2 _ (fun j x y => by omega), lab i hi0 (by omega), l0]
theorem m_puts {Q : Wd → Prop} {r : Nat} (hr : MR r) (G : MH c r h w) {k p lab : Int} (h8 : hn h < 8) (q : ∀ f, AMf (hPut h k p lab) f 0 → Q (sB w r f)) : wp_X3_puts r (iz k) (iz p) (iz lab) w Q := by
  unfold wp_X3_puts
  obtain ⟨G1, ax⟩ := G
  have a0 := G1.1
  have en := ax.1
  have em := ax.2.1
  rw [Int.zero_add] at en em
  refine ⟨inM hr (by omega) (by omega), ?_⟩
  rw [iz_toInt (by omega) (by omega), en, iz_mul, iz_sub]
  refine lpe (fun n1 (s : Int32 × Wd) => lp_X3_puts_10 Q r (iz k) (iz p) (iz lab) n1 s.1 s.2) (fun R s => wl_X3_puts_10 Q r (iz k) (iz p) (iz lab) (fun x y => R (x, y)) s.1 s.2) (fun _ _ h => h) (fun i s => 0 ≤ i ∧ ∃ f, s = (iz (5 * hn h - 1 - i), sB w r f) ∧ (∀ t, 5 * hn h - 1 - i < t → t < 5 * hn h → f (t + 5) = gA w r t) ∧ ∀ t, ¬ (5 * hn h - 1 - i + 5 < t ∧ t < 5 * hn h + 5) → f t = gA w r t) (5 * hn h) 0 (iz (5 * hn h - 1), w) (by omega) ⟨by decide, gA w r, by rw [sB_self, Int.sub_zero], fun j x y => by omega, fun t _ => rfl⟩ ?_
  rintro R _ i hi ⟨hi0, f, rfl, g1, g2⟩ kk
  refine br (iz_lt (by omega) (by omega) (by decide) (by decide)) (fun e => ?_) (fun e => ?_)
  · obtain rfl : i = 5 * hn h := by omega
    refine ⟨inM hr (by omega) (by omega), ?_⟩
    rintro w1 rfl
    rw [iz_toInt (by decide) (by decide)]
    obtain ⟨f1, e1, p1, r1⟩ := sA_ex2 w r f 0 (iz k)
    rw [e1]
    refine ⟨inM hr (by omega) (by omega), ?_⟩
    rintro w2 rfl
    rw [iz_toInt (by decide) (by decide)]
    obtain ⟨f2, e2, p2, r2⟩ := sA_ex2 w r f1 1 (iz p)
    rw [e2]
    refine ⟨inM hr (by omega) (by omega), ?_⟩
    rintro w3 rfl
    rw [iz_toInt (by decide) (by decide)]
    obtain ⟨f3, e3, p3, r3⟩ := sA_ex2 w r f2 2 (iz 0)
    rw [e3]
    refine ⟨inM hr (by omega) (by omega), ?_⟩
    rintro w4 rfl
    rw [iz_toInt (by decide) (by decide)]
    obtain ⟨f4, e4, p4, r4⟩ := sA_ex2 w r f3 3 (iz lab)
    rw [e4]
    refine ⟨inM hr (by omega) (by omega), inM hr (by omega) (by omega), ?_⟩
    rintro w5 rfl
    rw [gA_r, iz_toInt (by decide) (by decide), iz_toInt (by decide) (by decide), r4 _ (by omega), r3 _ (by omega), r2 _ (by omega), r1 _ (by omega), g2 _ (by omega), em]
    obtain ⟨f5, e5, p5, r5⟩ := sA_ex2 w r f4 4 (iz (hm h))
    rw [e5]
    refine ⟨inM hr (by omega) (by omega), inM hr (by omega) (by omega), ?_⟩
    rintro w6 rfl
    have low : ∀ t, 5 ≤ t → f5 t = f t := fun t ht => by rw [r5 _ (by omega), r4 _ (by omega), r3 _ (by omega), r2 _ (by omega), r1 _ (by omega)]
    rw [gA_r, iz_toInt (by decide) (by decide), low _ (by omega), g2 _ (by omega), en, iz_add]
    obtain ⟨f6, e6, p6, r6⟩ := sA_ex2 w r f5 40 (iz (hn h + 1))
    rw [e6]
    have low6 : ∀ t, 5 ≤ t → t ≠ 40 → f6 t = f t := fun t ht h4 => by rw [r6 _ h4, low t ht]
    refine q f6 ⟨?_, ?_, ?_, fun b j b1 b2 j1 j2 => ?_, fun b b1 b2 b3 => ?_, fun b j b1 b2 j1 j2 => ?_⟩
    · exact p6
    · rw [low6 _ (by omega) (by omega), g2 _ (by omega)]; exact ax.2.1
    · rw [low6 _ (by omega) (by omega), g2 _ (by omega)]; exact ax.2.2.1
    · unfold hPut at b2 ⊢
      simp only [hn_mk, hb_mk] at b2 ⊢
      by_cases e : b = 0
      · subst e
        rw [if_pos rfl, show (0 : Int) + (5 * 0 + j) = j by omega, r6 _ (by omega), r5 _ (by omega)]
        by_cases j3 : j = 3
        · subst j3
          rw [p4]
          rfl
        · rw [r4 _ j3]
          by_cases j2' : j = 2
          · subst j2'
            rw [p3]
            rfl
          · rw [r3 _ j2']
            by_cases j1' : j = 1
            · subst j1'
              rw [p2]
              rfl
            · obtain rfl : j = 0 := by omega
              rw [r2 _ (by omega), p1]
              rfl
      · rw [if_neg e, low6 _ (by omega) (by omega), show (0 : Int) + (5 * b + j) = (5 * (b - 1) + j) + 5 by omega, g1 _ (by omega) (by omega)]
        have := ax.2.2.2.1 (b - 1) j (by omega) (by omega) j1 j2
        rwa [Int.zero_add] at this
    · unfold hPut at b2 b3 ⊢
      simp only [hn_mk, hb_mk] at b2 b3 ⊢
      by_cases e : b = 0
      · subst e
        rw [if_pos rfl, show (0 : Int) + (5 * 0 + 4) = 4 by omega, r6 _ (by omega), p5]
        simp
      · rw [if_neg e] at b3 ⊢
        rw [low6 _ (by omega) (by omega), show (0 : Int) + (5 * b + 4) = (5 * (b - 1) + 4) + 5 by omega, g1 _ (by omega) (by omega)]
        have := ax.2.2.2.2.1 (b - 1) (by omega) (by omega) b3
        rwa [Int.zero_add] at this
    · unfold hPut at b2 ⊢
      simp only [hn_mk, hl_mk, hg_mk] at b2 ⊢
      rw [low6 _ (by omega) (by omega), g2 _ (by omega)]
      exact ax.2.2.2.2.2 b j b1 b2 j1 j2
  · rw [iz_add]
    refine ⟨inM hr (by omega) (by omega), inM hr (by omega) (by omega), ?_⟩
    rintro w7 rfl
    rw [gA_r, iz_toInt (by omega) (by omega), iz_toInt (by omega) (by omega), g2 _ (by omega)]
    obtain ⟨f1, e1, p1, r1⟩ := sA_ex2 w r f (5 * hn h - 1 - i + 5) (gA w r (5 * hn h - 1 - i))
    rw [e1, iz_add]
    refine kk (by omega) _ ⟨by omega, f1, by rw [show 5 * hn h - 1 - i + -1 = 5 * hn h - 1 - (i + 1) by omega], fun t x y => ?_, fun t ht => ?_⟩
    · by_cases e6 : t = 5 * hn h - 1 - i
      · subst e6
        exact p1
      · rw [r1 _ (by omega)]
        exact g1 t (by omega) y
    · rw [r1 _ (by omega)]
      exact g2 t (by omega)
end MM2
