/-! the component's deeds: a month, taking out -/
section XM2
variable {c : Cf} {h : Hs} {w : Wd}
theorem x_boxManyF {Q : Int32 → Wd → Prop} {f : Int → Int32} {n : Int} (e : f 32 = iz n) (q : Q (iz n) (sB w 31 f)) : wp_X1_boxMany (sB w 31 f) Q := by
  unfold wp_X1_boxMany
  refine ⟨iz_inb (by decide) (by decide) (by decide), ?_⟩
  rw [gA_sB, if_pos rfl, iz_toInt (by decide) (by decide), e]
  exact q
theorem gA_31 (w : Wd) (f : Int → Int32) (i : Int) : gA (sB w 31 f) 31 i = f i := by rw [gA_sB, if_pos rfl]
theorem x_pass {Q : Wd → Prop} (H : HX c h w) (hm9 : hm h < 999) (q : ∀ f, AXf (hPass c h) f 0 → Q (sB w 31 f)) : wp_X1_pass w Q := by
  unfold wp_X1_pass
  have a0 := H.hs.1; have a2 := H.hs.2.1; have m0 := H.hs.2.2.1
  refine x_older H (more := 1) (by decide) (by decide) (fun f1 A1 => ?_)
  have em := A1.2.1
  rw [Int.zero_add] at em
  refine ⟨iz_inb (by decide) (by decide) (by decide), iz_inb (by decide) (by decide) (by decide), ?_⟩
  rintro w3 rfl
  rw [gA_31, iz_toInt (by decide) (by decide), em, iz_add]
  obtain ⟨f0, e0, p0, r0⟩ := sA_ex2 w 31 f1 33 (iz (hm (hOld h 1) + 1))
  rw [e0]
  have f32 : f0 32 = iz (hn h) := by rw [r0 _ (by omega)]; exact A1.1
  have slot : ∀ j, 0 ≤ j → j < hn h → f0 (4 * j + 3) = iz (if hb h (hn h - 1 - j) 3 = 1 then hb h (hn h - 1 - j) 4 else -1) := by
    intro j j1 j2
    rw [r0 _ (by omega)]
    have := A1.2.2.2.2.1 (hn h - 1 - j) (by omega) (show hn h - 1 - j < hn h by omega)
    have e : (0 : Int) + (4 * (hn (hOld h 1) - 1 - (hn h - 1 - j)) + 3) = 4 * j + 3 := by
      unfold hOld
      rw [hn_mk]
      omega
    rw [e] at this
    rw [this]
    unfold hOld
    rw [hb_mk]
    simp
  refine lpe (fun n1 (s : Int32 × Wd) => lp_X1_pass_18 Q n1 s.1 s.2) (fun R s => wl_X1_pass_18 Q (fun x y => R (x, y)) s.1 s.2) (fun _ _ h => h) (fun i s => 0 ≤ i ∧ ∃ f, s = (iz i, sB w 31 f) ∧ (∀ j, 0 ≤ j → j < i → f (4 * j + 3) = iz (if hb h (hn h - 1 - j) 3 = 1 ∧ hm h + 1 - hb h (hn h - 1 - j) 4 < cR c 2 then hb h (hn h - 1 - j) 4 else -1)) ∧ ∀ t, (∀ j, 0 ≤ j → j < i → t ≠ 4 * j + 3) → f t = f0 t) (hn h) 0 (iz 0, sB w 31 f0) a0 ⟨by decide, f0, rfl, fun j x y => by omega, fun t _ => rfl⟩ ?_
  rintro R _ i hi ⟨hi0, f, rfl, g1, g2⟩ kk
  have e32 : f 32 = iz (hn h) := by rw [g2 32 (fun j x y => by omega)]; exact f32
  have e33 : f 33 = iz (hm h + 1) := by rw [g2 33 (fun j x y => by omega)]; exact p0
  refine x_boxManyF e32 ?_
  refine br (iz_le (by omega) (by omega) (by omega) (by omega)) (fun e => ?_) (fun e => ?_)
  · obtain rfl : i = hn h := by omega
    have old : ∀ t, t ≠ 33 → (∀ j, 0 ≤ j → j < hn h → t ≠ 4 * j + 3) → f t = f1 t := fun t t1 t2 => by rw [g2 t t2, r0 t t1]
    refine q f ⟨?_, ?_, ?_, fun b j b1 b2 j1 j2 => ?_, fun b b1 b2 => ?_, fun b j b1 b2 j1 j2 => ?_⟩
    · exact e32
    · exact e33
    · rw [old _ (by omega) (fun j x y => by omega)]
      exact A1.2.2.1
    · unfold hPass at b2 ⊢
      simp only [hn_mk, hb_mk] at b2 ⊢
      rw [old _ (by omega) (fun j x y => by omega)]
      have := A1.2.2.2.1 b j b1 b2 j1 j2
      unfold hOld at this
      simp only [hn_mk, hb_mk] at this
      rw [this, if_neg (show ¬ j = 3 by omega)]
    · unfold hPass at b2 ⊢
      simp only [hn_mk, hb_mk] at b2 ⊢
      have := g1 (hn h - 1 - b) (by omega) (by omega)
      rw [show hn h - 1 - (hn h - 1 - b) = b by omega] at this
      rw [Int.zero_add, this]
      by_cases e1 : hb h b 3 = 1 ∧ hm h + 1 - hb h b 4 < cR c 2
      · rw [if_pos e1]
        simp [e1]
      · rw [if_neg e1]
        simp [e1]
    · unfold hPass at b2 ⊢
      simp only [hn_mk, hl_mk, hg_mk] at b2 ⊢
      rw [old _ (by omega) (fun j x y => by omega)]
      exact A1.2.2.2.2.2 b j b1 b2 j1 j2
  · have kk := kk (by omega)
    have sl := slot i hi0 (by omega)
    rw [← g2 _ (fun j x y => by omega)] at sl
    have gb := H.hs.2.2.2.2.2.2.2 (hn h - 1 - i) (by omega) (by omega)
    have cr := H.cf.2.2.1 (by have := H.hs.2.2.2.2.2.2.1; by_cases z : cK c = 0; have := this z; omega; have := H.cf.1; omega)
    have er := H.2.2.2.1 2 (by decide) (by decide)
    simp only [iz_mul, iz_add]
    refine ⟨iz_inb (by omega) (by omega) (by omega), ?_⟩
    rw [iz_toInt (by omega) (by omega), gA_31, sl]
    have skip : (¬ (hb h (hn h - 1 - i) 3 = 1 ∧ ¬ hm h + 1 - hb h (hn h - 1 - i) 4 < cR c 2)) → R (iz (i + 1), sB w 31 f) := by
      intro z
      refine kk _ ⟨by omega, f, rfl, fun j x y => ?_, fun t ht => g2 t (fun j x y => ht j x (by omega))⟩
      by_cases e3 : j = i
      · subst e3
        rw [sl]
        congr 1
        by_cases e4 : hb h (hn h - 1 - j) 3 = 1
        · rw [if_pos e4, if_pos ⟨e4, by omega⟩]
        · rw [if_neg e4, if_neg (fun z => e4 z.1)]
      · exact g1 j x (by omega)
    by_cases e4 : hb h (hn h - 1 - i) 3 = 1
    · rw [if_pos e4] at sl ⊢
      have gb4 := gb.2.2.2.2.2.2.2 e4
      refine ⟨fun x => absurd ((iz_eq (by omega) (by omega) (by decide) (by decide)).mp x) (by omega), fun _ => ?_⟩
      refine ⟨iz_inb (by decide) (by decide) (by decide), iz_inb (by omega) (by omega) (by omega), iz_inb (by decide) (by decide) (by decide), ?_⟩
      rw [iz_toInt (by decide) (by decide), iz_toInt (by decide) (by decide), gA_31, e33, gA_sB, if_neg (by decide), er, iz_sub]
      refine br (iz_lt (by omega) (by omega) (by omega) (by omega)) (fun e5 => ?_) (fun e5 => ?_)
      · exact skip (by omega)
      · refine ⟨iz_inb (by omega) (by omega) (by omega), ?_⟩
        rintro w3 rfl
        obtain ⟨f3, e3, p3, r3⟩ := sA_ex2 w 31 f (4 * i + 3) (iz (-1))
        rw [e3]
        refine kk _ ⟨by omega, f3, rfl, fun j x y => ?_, fun t ht => ?_⟩
        · by_cases e6 : j = i
          · subst e6
            rw [p3, if_neg (by omega)]
          · rw [r3 _ (by omega)]
            exact g1 j x (by omega)
        · rw [r3 _ (ht i hi0 (by omega))]
          exact g2 t (fun j x y => ht j x (by omega))
    · rw [if_neg e4]
      exact ⟨fun _ => skip (by omega), fun x => absurd rfl x⟩
theorem AXf_any {f f0 : Int → Int32} {L : Int} (A : AXf h f0 0) (e : ∀ t, 0 ≤ t → t < 34 → f t = f0 t) (l : f 34 = iz L) (G : HsOK c h) (l1 : 0 ≤ L) (l2 : L ≤ 60) : ∃ h', AXf h' f 0 ∧ HsOK c h' ∧ hn h' = hn h ∧ hm h' = hm h ∧ hb h' = hb h ∧ hl h' = L := by
  have a0 := G.1; have a2 := G.2.1
  refine ⟨mkH (hn h) (hm h) L (hb h) (fun i j => (f (35 + 4 * i + j)).toInt), ⟨?_, ?_, l, fun b j b1 b2 j1 j2 => ?_, fun b b1 b2 => ?_, fun i j i1 i2 j1 j2 => ?_⟩, ?_, rfl, rfl, rfl, rfl⟩
  · rw [e _ (by omega) (by omega)]; exact A.1
  · rw [e _ (by omega) (by omega)]; exact A.2.1
  · rw [hn_mk] at b2 ⊢
    rw [e _ (by omega) (by omega)]
    exact A.2.2.2.1 b j b1 b2 j1 j2
  · rw [hn_mk] at b2 ⊢
    rw [e _ (by omega) (by omega)]
    exact A.2.2.2.2.1 b b1 b2
  · rw [hg_mk, iz_of, Int.zero_add]
  · obtain ⟨g1, g2, g3, g4, g5, g6, g7, g8⟩ := G
    exact ⟨g1, g2, g3, g4, l1, l2, g7, g8⟩
/-- the end of taking out -/
theorem x_takeEnd {Q : Int32 → Wd → Prop} (H : HX c h w) {a v : Int} (h1 : 0 ≤ a) (h2 : a < hn h) {f0 : Int → Int32} {h0 : Hs} {L : Int} (A0 : AXf h0 f0 0) (G0 : HsOK c h0) (en : hn h0 = hn h) (em : hm h0 = hm h) (eb : hb h0 = hb h) (L1 : 0 ≤ L) (L2 : L ≤ 59) (el : hl h0 = L) (nl : ∀ i j, 0 ≤ i → i < L → 0 ≤ j → j < 4 → hg h0 i j = hg (hLog c h a) i j) (nw : ∀ j, 0 ≤ j → j < 4 → hg (hLog c h a) L j = nlog c h a j) (nl2 : hl (hLog c h a) = L + 1) (vv : v = valO c h a) (q : ∀ f, AXf (hTake c h a) f 0 → Q (iz v) (sB w 31 f)) : b_X1_takeNow_64 Q (iz a) (iz v) (sB w 31 f0) := by
  have a0 := H.hs.1; have a2 := H.hs.2.1; have m0 := H.hs.2.2.1
  have e34 : f0 34 = iz L := by rw [← el]; exact A0.2.2.1
  unfold b_X1_takeNow_64
  refine ⟨iz_inb (by decide) (by decide) (by decide), ?_⟩
  rw [gA_31, iz_toInt (by decide) (by decide), e34]
  simp only [iz_mul, iz_add]
  refine lpe (fun n1 (s : Int32 × Wd) => lp_X1_takeNow_80 Q (iz a) (iz v) (iz (35 + 4 * L)) n1 s.1 s.2) (fun R s => wl_X1_takeNow_80 Q (iz a) (iz v) (iz (35 + 4 * L)) (fun x y => R (x, y)) s.1 s.2) (fun _ _ h => h) (fun i s => 0 ≤ i ∧ ∃ f, s = (iz i, sB w 31 f) ∧ (∀ j, 0 ≤ j → j < i → f (35 + 4 * L + j) = iz (hb h a j)) ∧ ∀ t, ¬ (35 + 4 * L ≤ t ∧ t < 35 + 4 * L + i) → f t = f0 t) 3 0 (iz 0, sB w 31 f0) (by decide) ⟨by decide, f0, rfl, fun j x y => by omega, fun t _ => rfl⟩ ?_
  rintro R _ i hi ⟨hi0, f, rfl, g1, g2⟩ kk
  have f34 : f 34 = iz L := by rw [g2 _ (by omega)]; exact e34
  refine br (iz_le (by decide) (by decide) (by omega) (by omega)) (fun e => ?_) (fun e => ?_)
  · obtain rfl : i = 3 := by omega
    simp only [iz_add]
    refine ⟨iz_inb (by omega) (by omega) (by omega), ?_⟩
    rintro w1 rfl
    rw [iz_toInt (by omega) (by omega)]
    obtain ⟨f1, e1, p1, r1⟩ := sA_ex2 w 31 f (35 + 4 * L + 3) (iz v)
    rw [e1]
    refine ⟨iz_inb (by decide) (by decide) (by decide), iz_inb (by decide) (by decide) (by decide), ?_⟩
    rintro w2 rfl
    rw [gA_31, iz_toInt (by decide) (by decide), r1 _ (by omega), f34, iz_add]
    obtain ⟨f2, e2, p2, r2⟩ := sA_ex2 w 31 f1 34 (iz (L + 1))
    rw [e2]
    have old : ∀ t, t ≠ 34 → ¬ (35 + 4 * L ≤ t ∧ t < 35 + 4 * L + 4) → f2 t = f0 t := fun t t1 t2 => by rw [r2 t t1, r1 t (by omega), g2 t (by omega)]
    have f32 : f2 32 = iz (hn h) := by rw [old _ (by omega) (by omega), ← en]; exact A0.1
    unfold wp_X1_turned
    refine x_boxManyF f32 ?_
    simp only [iz_mul, iz_add, iz_sub]
    refine lpe (fun n1 (s : Int32 × Wd) => lp_X1_takeNow_139 Q (iz v) n1 s.1 s.2) (fun R s => wl_X1_takeNow_139 Q (iz v) (fun x y => R (x, y)) s.1 s.2) (fun _ _ h => h) (fun i s => 4 * (hn h - 1 - a + 1) ≤ i ∧ ∃ f, s = (iz i, sB w 31 f) ∧ (∀ t, 4 * (hn h - 1 - a) ≤ t → t < i - 4 → f t = f2 (t + 4)) ∧ ∀ t, ¬ (4 * (hn h - 1 - a) ≤ t ∧ t < i - 4) → f t = f2 t) 32 (4 * (hn h - 1 - a + 1)) (iz (4 * (hn h - 1 - a + 1)), sB w 31 f2) (by omega) ⟨by omega, f2, rfl, fun j x y => by omega, fun t _ => rfl⟩ ?_
    rintro R2 _ i hi ⟨hi0, f3, rfl, k1, k2⟩ k3
    refine br (iz_le (by decide) (by decide) (by omega) (by omega)) (fun e5 => ?_) (fun e5 => ?_)
    · obtain rfl : i = 32 := by omega
      refine ⟨iz_inb (by decide) (by decide) (by decide), iz_inb (by decide) (by decide) (by decide), ?_⟩
      rintro w1 rfl
      rw [gA_31, iz_toInt (by decide) (by decide), k2 _ (by omega), f32, iz_sub]
      obtain ⟨f4, e4, p4, r4⟩ := sA_ex2 w 31 f3 32 (iz (hn h - 1))
      rw [e4]
      refine q f4 ⟨?_, ?_, ?_, fun b j b1 b2 j1 j2 => ?_, fun b b1 b2 => ?_, fun i j i1 i2 j1 j2 => ?_⟩
      · exact p4
      · rw [r4 _ (by omega), k2 _ (by omega), old _ (by omega) (by omega)]
        have := A0.2.1
        rw [em] at this
        exact this
      · rw [r4 _ (by omega), k2 _ (by omega), Int.zero_add, p2, ← nl2]
        rfl
      · unfold hTake hDrop hLog at b2 ⊢
        simp only [hn_mk, hb_mk] at b2 ⊢
        rw [r4 _ (by omega)]
        by_cases e6 : b < a
        · have := A0.2.2.2.1 b j b1 (by omega) j1 j2
          rw [if_pos e6, k1 _ (by omega) (by omega), old _ (by omega) (by omega), ← eb, ← this, en]
          congr 1
          omega
        · have := A0.2.2.2.1 (b + 1) j (by omega) (by omega) j1 j2
          rw [if_neg e6, k2 _ (by omega), old _ (by omega) (by omega), ← eb, ← this, en]
          congr 1
          omega
      · unfold hTake hDrop hLog at b2 ⊢
        simp only [hn_mk, hb_mk] at b2 ⊢
        rw [r4 _ (by omega)]
        by_cases e6 : b < a
        · have := A0.2.2.2.2.1 b b1 (by omega)
          rw [k1 _ (by omega) (by omega), old _ (by omega) (by omega), ← eb]
          simp only [e6, if_true]
          rw [← this, en]
          congr 1
          omega
        · have := A0.2.2.2.2.1 (b + 1) (by omega) (by omega)
          rw [k2 _ (by omega), old _ (by omega) (by omega), ← eb]
          simp only [e6, if_false]
          rw [← this, en]
          congr 1
          omega
      · have i2' : i < L + 1 := by rw [← nl2]; exact i2
        show f4 (0 + (35 + 4 * i + j)) = iz (hg (hLog c h a) i j)
        rw [r4 _ (by omega), k2 _ (by omega), Int.zero_add, r2 _ (by omega)]
        by_cases e6 : i = L
        · subst e6
          rw [nw j j1 j2]
          unfold nlog
          by_cases e7 : j = 3
          · subst e7
            rw [p1, if_pos rfl, vv]
          · rw [if_neg e7, r1 _ (by omega), g1 j j1 (by omega)]
        · rw [← nl i j i1 (by omega) j1 j2, r1 _ (by omega), g2 _ (by omega)]
          have := A0.2.2.2.2.2 i j i1 (by omega) j1 j2
          rw [← this]
          congr 1
          omega
    · simp only [iz_sub, iz_add]
      refine ⟨iz_inb (by omega) (by omega) (by omega), iz_inb (by omega) (by omega) (by omega), ?_⟩
      rintro w2 rfl
      rw [gA_31, iz_toInt (by omega) (by omega), iz_toInt (by omega) (by omega), k2 _ (by omega)]
      obtain ⟨f4, e4, p4, r4⟩ := sA_ex2 w 31 f3 (i - 4) (f2 i)
      rw [e4]
      refine k3 (by omega) _ ⟨by omega, f4, rfl, fun t x y => ?_, fun t ht => ?_⟩
      · by_cases e6 : t = i - 4
        · subst e6
          rw [p4]
          congr 1
          omega
        · rw [r4 _ e6]
          exact k1 t x (by omega)
      · rw [r4 _ (by omega)]
        exact k2 t (by omega)
  · have A1 : ∃ h', AXf h' f 0 ∧ HsOK c h' ∧ hn h' = hn h0 ∧ hm h' = hm h0 ∧ hb h' = hb h0 ∧ hl h' = L := AXf_any A0 (fun t t1 t2 => g2 t (by omega)) f34 G0 L1 (by omega)
    obtain ⟨h', B1, B2, B3, B4, B5, B6⟩ := A1
    have H' := H.s31 B2 B1
    refine x_of H' h1 (by omega) hi0 (by omega) ?_
    rw [B5, eb]
    simp only [iz_add]
    refine ⟨iz_inb (by omega) (by omega) (by omega), ?_⟩
    rintro w8 rfl
    rw [iz_toInt (by omega) (by omega)]
    obtain ⟨f4, e4, p4, r4⟩ := sA_ex2 w 31 f (35 + 4 * L + i) (iz (hb h a i))
    rw [e4]
    refine kk (by omega) _ ⟨by omega, f4, rfl, fun j x y => ?_, fun t ht => ?_⟩
    · by_cases e6 : j = i
      · subst e6
        exact p4
      · rw [r4 _ (by omega)]
        exact g1 j x (by omega)
    · rw [r4 _ (by omega)]
      exact g2 t (by omega)
theorem x_takeNow {Q : Int32 → Wd → Prop} (H : HX c h w) {a : Int} (h1 : 0 ≤ a) (h2 : a < hn h) (q : ∀ f g, AXf (hTake c h a) g 0 → Q (iz (valO c h a)) (sB (sB w 15 f) 31 g)) : wp_X1_takeNow (iz a) w Q := by
  unfold wp_X1_takeNow
  have a0 := H.hs.1; have a2 := H.hs.2.1; have l1 := H.hs.2.2.2.2.1; have l2 := H.hs.2.2.2.2.2.1
  refine x_valueOf H h1 h2 (fun f => ?_)
  have H1 := H.s15 f
  have ax := H1.ax
  have e34 : gA (sB w 15 f) 31 34 = iz (hl h) := ax.2.2.1
  refine ⟨iz_inb (by decide) (by decide) (by decide), ?_⟩
  rw [iz_toInt (by decide) (by decide), e34]
  have q' := q f
  clear q
  generalize hW : sB w 15 f = W at H1 ax e34 q' ⊢
  refine brn (iz_eq (by omega) (by omega) (by decide) (by decide)) (fun e => ?_) (fun e => ?_)
  · have := x_takeEnd (Q := Q) H1 h1 h2 (f0 := gA W 31) (h0 := h) (L := hl h) (v := valO c h a) ax H.hs rfl rfl rfl l1 (by omega) rfl (fun i j i1 i2 j1 j2 => ?_) (fun j j1 j2 => ?_) ?_ rfl (fun g hg => q' g hg)
    · rw [sB_self] at this
      exact this
    · unfold hLog
      rw [hg_mk, if_neg e, if_neg (by omega)]
    · unfold hLog
      rw [hg_mk, if_neg e, if_pos rfl]
    · unfold hLog
      rw [hl_mk, if_neg e]
  · refine lpe (fun n1 (s : Int32 × Wd) => lp_X1_takeNow_20 Q (iz a) (iz (valO c h a)) n1 s.1 s.2) (fun R s => wl_X1_takeNow_20 Q (iz a) (iz (valO c h a)) (fun x y => R (x, y)) s.1 s.2) (fun _ _ h => h) (fun i s => 4 ≤ i ∧ ∃ f, s = (iz i, sB W 31 f) ∧ (∀ t, 35 ≤ t → t < 31 + i → f t = gA W 31 (t + 4)) ∧ ∀ t, ¬ (35 ≤ t ∧ t < 31 + i) → f t = gA W 31 t) 240 4 (iz 4, W) (by decide) ⟨by decide, gA W 31, by rw [sB_self], fun j x y => by omega, fun t _ => rfl⟩ ?_
    rintro R _ i hi ⟨hi0, f1, rfl, g1, g2⟩ kk
    have f34 : f1 34 = iz 60 := by rw [g2 _ (by omega), e34, e]
    refine br (iz_le (by decide) (by decide) (by omega) (by omega)) (fun e5 => ?_) (fun e5 => ?_)
    · obtain rfl : i = 240 := by omega
      refine ⟨iz_inb (by decide) (by decide) (by decide), iz_inb (by decide) (by decide) (by decide), ?_⟩
      rintro w1 rfl
      rw [gA_31, iz_toInt (by decide) (by decide), f34, iz_sub]
      obtain ⟨f2, e2, p2, r2⟩ := sA_ex2 W 31 f1 34 (iz (60 - 1))
      rw [e2]
      have B1 : AXf (mkH (hn h) (hm h) 59 (hb h) (fun i j => hg h (i + 1) j)) f2 0 := by
        refine ⟨?_, ?_, p2, fun b j b1 b2 j1 j2 => ?_, fun b b1 b2 => ?_, fun i j i1 i2 j1 j2 => ?_⟩
        · rw [r2 _ (by omega), g2 _ (by omega)]; exact ax.1
        · rw [r2 _ (by omega), g2 _ (by omega)]; exact ax.2.1
        · rw [hn_mk] at b2 ⊢
          rw [r2 _ (by omega), g2 _ (by omega)]
          exact ax.2.2.2.1 b j b1 b2 j1 j2
        · rw [hn_mk] at b2 ⊢
          rw [r2 _ (by omega), g2 _ (by omega)]
          exact ax.2.2.2.2.1 b b1 b2
        · rw [hl_mk] at i2
          rw [r2 _ (by omega), g1 _ (by omega) (by omega)]
          have := ax.2.2.2.2.2 (i + 1) j (by omega) (by omega) j1 j2
          rw [hg_mk, ← this]
          congr 1
          omega
      have B2 : HsOK c (mkH (hn h) (hm h) 59 (hb h) (fun i j => hg h (i + 1) j)) := by
        obtain ⟨g1, g2, g3, g4, g5, g6, g7, g8⟩ := H.hs
        exact ⟨g1, g2, g3, g4, (show (0 : Int) ≤ 59 by decide), (show (59 : Int) ≤ 60 by decide), g7, g8⟩
      refine x_takeEnd (Q := Q) H1 h1 h2 (L := 59) B1 B2 rfl rfl rfl (by decide) (by decide) rfl (fun i j i1 i2 j1 j2 => ?_) (fun j j1 j2 => ?_) ?_ rfl (fun g hg => q' g hg)
      · unfold hLog
        rw [hg_mk, hg_mk, if_pos e, if_neg (by omega)]
      · unfold hLog
        rw [hg_mk, if_pos e, if_pos rfl]
      · unfold hLog
        rw [hl_mk, if_pos e]
        rfl
    · simp only [iz_sub, iz_add]
      refine ⟨iz_inb (by omega) (by omega) (by omega), iz_inb (by omega) (by omega) (by omega), ?_⟩
      rintro w2 rfl
      rw [gA_31, iz_toInt (by omega) (by omega), iz_toInt (by omega) (by omega), g2 _ (by omega)]
      obtain ⟨f4, e4, p4, r4⟩ := sA_ex2 W 31 f1 (35 + i - 4) (gA W 31 (35 + i))
      rw [e4]
      refine kk (by omega) _ ⟨by omega, f4, rfl, fun t x y => ?_, fun t ht => ?_⟩
      · by_cases e6 : t = 35 + i - 4
        · subst e6
          rw [p4]
          congr 1
          omega
        · rw [r4 _ e6]
          exact g1 t x (by omega)
      · rw [r4 _ (by omega)]
        exact g2 t (by omega)
end XM2
