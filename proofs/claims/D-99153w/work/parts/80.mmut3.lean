/-! the model's deeds, on: taking out, remembering -/
section MM3
variable {c : Cf} {lm : Int} {h : Hs} {w w' : Wd}
theorem m_drops {Q : Wd → Prop} {r : Nat} (hr : MR r) {h0 : Hs} (G : MH c r h0 w) {a : Int} (h1 : 0 ≤ a) (h2 : a < hn h0) (q : ∀ f, AMf (hDrop h0 a) f 0 → Q (sB w r f)) : wp_X3_drops r (iz a) w Q := by
  unfold wp_X3_drops
  obtain ⟨G1, ax⟩ := G
  have n8 := G1.2.1
  have en := ax.1
  rw [Int.zero_add] at en
  rw [iz_mul]
  refine lpe (fun n1 (s : Int32 × Wd) => lp_X3_drops_4 Q r n1 s.1 s.2) (fun R s => wl_X3_drops_4 Q r (fun x y => R (x, y)) s.1 s.2) (fun _ _ h => h) (fun i s => 5 * a ≤ i ∧ ∃ f, s = (iz i, sB w r f) ∧ (∀ t, 5 * a ≤ t → t < i → f t = gA w r (t + 5)) ∧ ∀ t, ¬ (5 * a ≤ t ∧ t < i) → f t = gA w r t) (5 * (hn h0 - 1)) (5 * a) (iz (5 * a), w) (by omega) ⟨by omega, gA w r, by rw [sB_self], fun j x y => by omega, fun t _ => rfl⟩ ?_
  rintro R _ i hi ⟨hi0, f, rfl, g1, g2⟩ kk
  have e40 : f 40 = iz (hn h0) := by rw [g2 _ (by omega), en]
  refine ⟨inM hr (by omega) (by omega), ?_⟩
  rw [iz_toInt (by decide) (by decide), gA_r, e40, iz_sub, iz_mul]
  refine br (iz_le (by omega) (by omega) (by omega) (by omega)) (fun e => ?_) (fun e => ?_)
  · obtain rfl : i = 5 * (hn h0 - 1) := by omega
    refine ⟨inM hr (by omega) (by omega), ?_⟩
    refine lpe (fun n1 (s : Int32 × Wd) => lp_X3_drops_39 Q r n1 s.1 s.2) (fun R s => wl_X3_drops_39 Q r (fun x y => R (x, y)) s.1 s.2) (fun _ _ h => h) (fun i s => 5 * (hn h0 - 1) ≤ i ∧ ∃ f', s = (iz i, sB w r f') ∧ ∀ t, ¬ (5 * (hn h0 - 1) ≤ t ∧ t < i) → f' t = f t) (5 * hn h0) (5 * (hn h0 - 1)) (iz (5 * (hn h0 - 1)), sB w r f) (by omega) ⟨by omega, f, rfl, fun t _ => rfl⟩ ?_
    rintro R2 _ j hj ⟨hj0, f2, rfl, k2⟩ k3
    have e402 : f2 40 = iz (hn h0) := by rw [k2 _ (by omega), e40]
    refine ⟨inM hr (by omega) (by omega), ?_⟩
    rw [iz_toInt (by decide) (by decide), gA_r, e402, iz_mul]
    refine br (iz_le (by omega) (by omega) (by omega) (by omega)) (fun e5 => ?_) (fun e5 => ?_)
    · obtain rfl : j = 5 * hn h0 := by omega
      refine ⟨inM hr (by omega) (by omega), inM hr (by omega) (by omega), ?_⟩
      rintro w1 rfl
      rw [iz_sub]
      obtain ⟨f3, e3, p3, r3⟩ := sA_ex2 w r f2 40 (iz (hn h0 - 1))
      rw [e3]
      have old : ∀ t, t ≠ 40 → ¬ (5 * (hn h0 - 1) ≤ t ∧ t < 5 * hn h0) → f3 t = f t := fun t t1 t2 => by rw [r3 _ t1, k2 _ t2]
      refine q f3 ⟨?_, ?_, ?_, fun b j b1 b2 j1 j2 => ?_, fun b b1 b2 b3 => ?_, fun b j b1 b2 j1 j2 => ?_⟩
      · exact p3
      · rw [old _ (by omega) (by omega), g2 _ (by omega)]; exact ax.2.1
      · rw [old _ (by omega) (by omega), g2 _ (by omega)]; exact ax.2.2.1
      · unfold hDrop at b2 ⊢
        simp only [hn_mk, hb_mk] at b2 ⊢
        rw [old _ (by omega) (by omega)]
        by_cases e6 : b < a
        · rw [if_pos e6, g2 _ (by omega)]
          exact ax.2.2.2.1 b j b1 (by omega) j1 j2
        · have := ax.2.2.2.1 (b + 1) j (by omega) (by omega) j1 j2
          rw [if_neg e6, g1 _ (by omega) (by omega), ← this]
          congr 1
          omega
      · unfold hDrop at b2 b3 ⊢
        simp only [hn_mk, hb_mk] at b2 b3 ⊢
        rw [old _ (by omega) (by omega)]
        by_cases e6 : b < a
        · rw [if_pos e6] at b3 ⊢
          rw [g2 _ (by omega)]
          exact ax.2.2.2.2.1 b b1 (by omega) b3
        · rw [if_neg e6] at b3 ⊢
          have := ax.2.2.2.2.1 (b + 1) (by omega) (by omega) b3
          rw [g1 _ (by omega) (by omega), ← this]
          congr 1
          omega
      · unfold hDrop at b2 ⊢
        simp only [hn_mk, hl_mk, hg_mk] at b2 ⊢
        rw [old _ (by omega) (by omega), g2 _ (by omega)]
        exact ax.2.2.2.2.2 b j b1 b2 j1 j2
    · refine ⟨inM hr (by omega) (by omega), ?_⟩
      rintro w2 rfl
      rw [iz_toInt (by omega) (by omega)]
      obtain ⟨f3, e3, p3, r3⟩ := sA_ex2 w r f2 j (iz 0)
      rw [e3, iz_add]
      exact k3 (by omega) _ ⟨by omega, f3, rfl, fun t ht => by rw [r3 _ (by omega)]; exact k2 t (by omega)⟩
  · rw [iz_add]
    refine ⟨inM hr (by omega) (by omega), inM hr (by omega) (by omega), ?_⟩
    rintro w2 rfl
    rw [iz_toInt (by omega) (by omega), iz_toInt (by omega) (by omega), g2 _ (by omega)]
    obtain ⟨f3, e3, p3, r3⟩ := sA_ex2 w r f i (gA w r (i + 5))
    rw [e3, iz_add]
    refine kk (by omega) _ ⟨by omega, f3, rfl, fun t x y => ?_, fun t ht => ?_⟩
    · by_cases e6 : t = i
      · subst e6
        exact p3
      · rw [r3 _ e6]
        exact g1 t x (by omega)
    · rw [r3 _ (by omega)]
      exact g2 t (by omega)
theorem m_eatsEnd {Q : Int32 → Wd → Prop} (H : HM c lm w) {r : Nat} (hr : MR r) {h0 : Hs} (G : MH c r h0 w) {a : Int} (h1 : 0 ≤ a) (h2 : a < hn h) {L : Int} (en : hn h0 = hn h) (em : hm h0 = hm h) (eb : hb h0 = hb h) (L1 : 0 ≤ L) (L2 : L ≤ 59) (el : hl h0 = L) (nl : ∀ i j, 0 ≤ i → i < L → 0 ≤ j → j < 4 → hg h0 i j = hg (hLog c h a) i j) (nw : ∀ j, 0 ≤ j → j < 4 → hg (hLog c h a) L j = nlog c h a j) (nl2 : hl (hLog c h a) = L + 1) (GL : HsOK c h) (q : ∀ w' f, MS c lm w w' → AMf (hTake c h a) f 0 → Q (iz (valO c h a)) (sB w' r f)) : b_X3_eats_46 Q r (iz a) w := by
  unfold b_X3_eats_46
  have n8 := G.1.2.1
  have ev : valO c h0 a = valO c h a := by unfold valO val; rw [en, em, eb]
  refine m_valueOf H hr G h1 (by omega) (fun w2 M => ?_)
  rw [ev]
  have G2 := G.ms hr M
  obtain ⟨G1, ax⟩ := G2
  have el' := ax.2.2.1
  rw [Int.zero_add, el] at el'
  have v0 := ax.2.2.2.1 a 0 h1 (by omega) (by decide) (by decide)
  have v1 := ax.2.2.2.1 a 1 h1 (by omega) (by decide) (by decide)
  have v2 := ax.2.2.2.1 a 2 h1 (by omega) (by decide) (by decide)
  rw [Int.zero_add, eb] at v0 v1 v2
  rw [iz_toInt (show -2147483648 ≤ 42 by decide) (by decide), el']
  simp only [iz_mul, iz_add]
  refine ⟨inM hr (by omega) (by omega), inM hr (by omega) (by omega), inM hr (by omega) (by omega), ?_⟩
  rintro w3 rfl
  rw [iz_toInt (show -2147483648 ≤ 43 + 4 * L by omega) (by omega), iz_toInt (show -2147483648 ≤ 5 * a + 0 by omega) (by omega), v0]
  obtain ⟨f1, e1, p1, r1⟩ := sA_ex w2 r (43 + 4 * L) (iz (hb h a 0))
  rw [e1]
  refine ⟨inM hr (by omega) (by omega), inM hr (by omega) (by omega), ?_⟩
  rintro w4 rfl
  rw [gA_r, iz_toInt (show -2147483648 ≤ 43 + 4 * L + 1 by omega) (by omega), iz_toInt (show -2147483648 ≤ 5 * a + 1 by omega) (by omega), r1 _ (by omega), v1]
  obtain ⟨f2, e2, p2, r2⟩ := sA_ex2 w2 r f1 (43 + 4 * L + 1) (iz (hb h a 1))
  rw [e2]
  refine ⟨inM hr (by omega) (by omega), inM hr (by omega) (by omega), ?_⟩
  rintro w5 rfl
  rw [gA_r, iz_toInt (show -2147483648 ≤ 43 + 4 * L + 2 by omega) (by omega), iz_toInt (show -2147483648 ≤ 5 * a + 2 by omega) (by omega), r2 _ (by omega), r1 _ (by omega), v2]
  obtain ⟨f3, e3, p3, r3⟩ := sA_ex2 w2 r f2 (43 + 4 * L + 2) (iz (hb h a 2))
  rw [e3]
  refine ⟨inM hr (by omega) (by omega), ?_⟩
  rintro w6 rfl
  rw [iz_toInt (show -2147483648 ≤ 43 + 4 * L + 3 by omega) (by omega)]
  obtain ⟨f4, e4, p4, r4⟩ := sA_ex2 w2 r f3 (43 + 4 * L + 3) (iz (valO c h a))
  rw [e4]
  refine ⟨inM hr (by omega) (by omega), inM hr (by omega) (by omega), ?_⟩
  rintro w7 rfl
  rw [gA_r, r4 _ (by omega), r3 _ (by omega), r2 _ (by omega), r1 _ (by omega), el', iz_add]
  obtain ⟨f5, e5, p5, r5⟩ := sA_ex2 w2 r f4 42 (iz (L + 1))
  rw [e5]
  have old : ∀ t, t ≠ 42 → ¬ (43 + 4 * L ≤ t ∧ t < 43 + 4 * L + 4) → f5 t = gA w2 r t := fun t t1 t2 => by rw [r5 _ t1, r4 _ (by omega), r3 _ (by omega), r2 _ (by omega), r1 _ (by omega)]
  have A5 : AMf (hLog c h a) f5 0 := by
    refine ⟨?_, ?_, ?_, fun b j b1 b2 j1 j2 => ?_, fun b b1 b2 b3 => ?_, fun i j b1 b2 j1 j2 => ?_⟩
    · rw [old _ (by omega) (by omega)]
      have := ax.1
      rw [en] at this
      exact this
    · rw [old _ (by omega) (by omega)]
      have := ax.2.1
      rw [em] at this
      exact this
    · rw [Int.zero_add, p5, nl2]
    · have b2 : b < hn h := b2
      rw [old _ (by omega) (by omega), ax.2.2.2.1 b j b1 (by omega) j1 j2, eb]
      rfl
    · have b2 : b < hn h := b2
      rw [old _ (by omega) (by omega), ax.2.2.2.2.1 b b1 (by omega) (by rw [eb]; exact b3), eb]
      rfl
    · rw [nl2] at b2
      by_cases e6 : i = L
      · subst e6
        rw [nw j j1 j2]
        unfold nlog
        rw [r5 _ (by omega), Int.zero_add]
        by_cases j3 : j = 3
        · subst j3
          rw [p4, if_pos rfl]
        · rw [if_neg j3, r4 _ (by omega)]
          by_cases j2' : j = 2
          · subst j2'
            rw [p3]
          · rw [r3 _ (by omega)]
            by_cases j1' : j = 1
            · subst j1'
              rw [p2]
            · obtain rfl : j = 0 := by omega
              rw [r2 _ (by omega), Int.add_zero, p1]
      · rw [old _ (by omega) (by omega), ← nl i j b1 (by omega) j1 j2]
        exact ax.2.2.2.2.2 i j b1 (by omega) j1 j2
  refine m_drops hr (h0 := hLog c h a) ⟨hLog_ok GL, ?_⟩ h1 h2 (fun f Af => ?_)
  · rw [gA_r]
    exact A5
  · rw [sB_sB]
    exact q w2 f M Af
theorem MS.row {r : Nat} (hr : MR r) {f1 : Int → Int32} {w2 : Wd} (M : MS c lm (sB w r f1) w2) : MS c lm w (sB w2 r (gA w r)) := by
  obtain ⟨⟨m1, m2, m3, m4, m5, m6, m7⟩, mm⟩ := M
  refine ⟨⟨m1, fun a ha => ?_, m3, m4, m5, m6, m7⟩, ?_⟩
  · by_cases e : a = r
    · subst e
      exact gA_r _ _ _
    · rw [gA_n w2 e, m2 a ha, gA_n w e]
  · intro i1 a b l a' o' n' y' k' m' A2 ke
    rw [gA_sB, if_neg (by omega)]
    exact mm i1 a b l a' o' n' y' k' m' A2 ke
theorem m_eats {Q : Int32 → Wd → Prop} (H : HM c lm w) {r : Nat} (hr : MR r) (G : MH c r h w) {a : Int} (h1 : 0 ≤ a) (h2 : a < hn h) (q : ∀ w' f, MS c lm w w' → AMf (hTake c h a) f 0 → Q (iz (valO c h a)) (sB w' r f)) : wp_X3_eats r (iz a) w Q := by
  unfold wp_X3_eats
  have l1 := G.1.2.2.2.2.1; have l2 := G.1.2.2.2.2.2.1
  have ax := G.2
  have e42 : gA w r 42 = iz (hl h) := ax.2.2.1
  refine ⟨inM hr (by omega) (by omega), ?_⟩
  rw [iz_toInt (by decide) (by decide), e42]
  refine brn (iz_eq (by omega) (by omega) (by decide) (by decide)) (fun e => ?_) (fun e => ?_)
  · refine m_eatsEnd (h := h) H hr G h1 h2 (L := hl h) rfl rfl rfl l1 (by omega) rfl (fun i j i1 i2 j1 j2 => ?_) (fun j j1 j2 => ?_) ?_ G.1 q
    · unfold hLog
      rw [hg_mk, if_neg e, if_neg (by omega)]
    · unfold hLog
      rw [hg_mk, if_neg e, if_pos rfl]
    · unfold hLog
      rw [hl_mk, if_neg e]
  · refine lpe (fun n1 (s : Int32 × Wd) => lp_X3_eats_11 Q r (iz a) n1 s.1 s.2) (fun R s => wl_X3_eats_11 Q r (iz a) (fun x y => R (x, y)) s.1 s.2) (fun _ _ h => h) (fun i s => 1 ≤ i ∧ ∃ f, s = (iz i, sB w r f) ∧ (∀ t, 43 ≤ t → t < 42 + i → f t = gA w r (t + 4)) ∧ ∀ t, ¬ (43 ≤ t ∧ t < 42 + i) → f t = gA w r t) 237 1 (iz 1, w) (by decide) ⟨by decide, gA w r, by rw [sB_self], fun j x y => by omega, fun t _ => rfl⟩ ?_
    rintro R _ i hi ⟨hi0, f1, rfl, g1, g2⟩ kk
    have f42 : f1 42 = iz 60 := by rw [g2 _ (by omega), e42, e]
    refine br (iz_lt (by decide) (by decide) (by omega) (by omega)) (fun e5 => ?_) (fun e5 => ?_)
    · obtain rfl : i = 237 := by omega
      refine ⟨inM hr (by omega) (by omega), inM hr (by omega) (by omega), ?_⟩
      rintro w1 rfl
      rw [gA_r, iz_toInt (by decide) (by decide), f42, iz_sub]
      obtain ⟨f2, e2, p2, r2⟩ := sA_ex2 w r f1 42 (iz (60 - 1))
      rw [e2]
      have B1 : AMf (mkH (hn h) (hm h) 59 (hb h) (fun i j => hg h (i + 1) j)) f2 0 := by
        refine ⟨?_, ?_, p2, fun b j b1 b2 j1 j2 => ?_, fun b b1 b2 b3 => ?_, fun i j i1 i2 j1 j2 => ?_⟩
        · rw [r2 _ (by omega), g2 _ (by omega)]; exact ax.1
        · rw [r2 _ (by omega), g2 _ (by omega)]; exact ax.2.1
        · have n8 := G.1.2.1
          rw [hn_mk] at b2
          rw [r2 _ (by omega), g2 _ (by omega)]
          exact ax.2.2.2.1 b j b1 b2 j1 j2
        · have n8 := G.1.2.1
          rw [hn_mk] at b2
          rw [r2 _ (by omega), g2 _ (by omega)]
          exact ax.2.2.2.2.1 b b1 b2 b3
        · rw [hl_mk] at i2
          rw [r2 _ (by omega), g1 _ (by omega) (by omega)]
          have := ax.2.2.2.2.2 (i + 1) j (by omega) (by omega) j1 j2
          rw [hg_mk, ← this]
          congr 1
          omega
      have B2 : HsOK c (mkH (hn h) (hm h) 59 (hb h) (fun i j => hg h (i + 1) j)) := by
        obtain ⟨g1, g2, g3, g4, g5, g6, g7, g8⟩ := G.1
        exact ⟨g1, g2, g3, g4, (show (0 : Int) ≤ 59 by decide), (show (59 : Int) ≤ 60 by decide), g7, g8⟩
      have H2 : HM c lm (sB w r f2) := H.row (by omega) f2
      refine m_eatsEnd (h := h) H2 hr (h0 := mkH (hn h) (hm h) 59 (hb h) (fun i j => hg h (i + 1) j)) ⟨B2, by rw [gA_r]; exact B1⟩ h1 h2 (L := 59) rfl rfl rfl (by decide) (by decide) rfl (fun i j i1 i2 j1 j2 => ?_) (fun j j1 j2 => ?_) ?_ G.1 (fun w' f M Af => ?_)
      · unfold hLog
        rw [hg_mk, hg_mk, if_pos e, if_neg (by omega)]
      · unfold hLog
        rw [hg_mk, if_pos e, if_pos rfl]
      · unfold hLog
        rw [hl_mk, if_pos e]
        rfl
      · have := q _ f (M.row hr) Af
        rwa [sB_sB] at this
    · rw [iz_add, iz_add]
      refine ⟨inM hr (by omega) (by omega), inM hr (by omega) (by omega), ?_⟩
      rintro w2 rfl
      rw [gA_r, iz_toInt (by omega) (by omega), iz_toInt (by omega) (by omega), g2 _ (by omega)]
      obtain ⟨f4, e4, p4, r4⟩ := sA_ex2 w r f1 (42 + i) (gA w r (42 + i + 4))
      rw [e4, iz_add]
      refine kk (by omega) _ ⟨by omega, f4, rfl, fun t x y => ?_, fun t ht => ?_⟩
      · by_cases e6 : t = 42 + i
        · subst e6
          exact p4
        · rw [r4 _ e6]
          exact g1 t x (by omega)
      · rw [r4 _ (by omega)]
        exact g2 t (by omega)
end MM3
