/-! the component's deeds -/
theorem sA_ex (w : Wd) (a : Nat) (p : Int) (v : Int32) : ∃ f, sA w a p v = sB w a f ∧ f p = v ∧ ∀ t, t ≠ p → f t = gA w a t := ⟨_, sA_sB w a p v, if_pos rfl, fun t h => if_neg h⟩
theorem sA_ex2 (w : Wd) (a : Nat) (f0 : Int → Int32) (p : Int) (v : Int32) : ∃ f, sA (sB w a f0) a p v = sB w a f ∧ f p = v ∧ ∀ t, t ≠ p → f t = f0 t := ⟨_, sA_sB2 w a f0 p v, if_pos rfl, fun t h => if_neg h⟩
section XM
variable {c : Cf} {h : Hs} {w : Wd}
theorem HX.s31 (H : HX c h w) {h' : Hs} (G : HsOK c h') {f : Int → Int32} (A : AXf h' f 0) : HX c h' (sB w 31 f) := by
  obtain ⟨h1, h2, h3, h4, h5, h6, h7, h8⟩ := H
  refine ⟨h1, G, h3, ?_, ?_, h6, ?_, ?_⟩
  · simpa only [gA_sB, show (19 : Nat) = 31 ↔ False by decide, if_false] using h4
  · simpa only [gA_sB, show (20 : Nat) = 31 ↔ False by decide, if_false] using h5
  · have e : gA (sB w 31 f) 31 = f := by
      funext i
      rw [gA_sB, if_pos rfl]
    rw [AXf_eq, e]
    exact A
  · exact h8
theorem HX.ax (H : HX c h w) : AXf h (gA w 31) 0 := H.2.2.2.2.2.2.1
theorem x_older {Q : Wd → Prop} (H : HX c h w) {more : Int} (m1 : 0 ≤ more) (m2 : more ≤ 1000) (q : ∀ f, AXf (hOld h more) f 0 → Q (sB w 31 f)) : wp_X1_older (iz more) w Q := by
  have a := H.hs.1; have a2 := H.hs.2.1
  have ax := H.ax
  refine lpe (fun n1 (s : Int32 × Wd) => lp_X1_older_2 Q (iz more) n1 s.1 s.2) (fun R s => wl_X1_older_2 Q (iz more) (fun x y => R (x, y)) s.1 s.2) (fun _ _ h => h) (fun i s => 0 ≤ i ∧ ∃ f, s = (iz i, sB w 31 f) ∧ (∀ j, 0 ≤ j → j < i → f (4 * j + 2) = iz (min 99 (hb h (hn h - 1 - j) 2 + more))) ∧ ∀ t, (∀ j, 0 ≤ j → j < i → t ≠ 4 * j + 2) → f t = gA w 31 t) (hn h) 0 (iz 0, w) a ⟨by decide, gA w 31, by rw [sB_self], fun j x y => by omega, fun t _ => rfl⟩ ?_
  rintro R _ i hi ⟨hi0, f, rfl, f1, f2⟩ kk
  have e32 : f 32 = iz (hn h) := by rw [f2 32 (fun j x y => by omega)]; exact ax.1
  unfold wl_X1_older_2 wp_X1_boxMany
  refine ⟨iz_inb (by decide) (by decide) (by decide), ?_⟩
  simp only [gA_sB, if_true]
  rw [iz_toInt (by decide) (by decide), e32]
  refine br (iz_le (by omega) (by omega) (by omega) (by omega)) (fun e => ?_) (fun e => ?_)
  · obtain rfl : i = hn h := by omega
    refine q f ⟨e32, ?_, ?_, fun b j b1 b2 j1 j2 => ?_, fun b b1 b2 => ?_, fun b j b1 b2 j1 j2 => ?_⟩
    · rw [f2 _ (fun j x y => by omega)]; exact ax.2.1
    · rw [f2 _ (fun j x y => by omega)]; exact ax.2.2.1
    · unfold hOld at b2 ⊢
      simp only [hn_mk, hb_mk] at b2 ⊢
      by_cases e2 : j = 2
      · subst e2
        have := f1 (hn h - 1 - b) (by omega) (by omega)
        rw [show hn h - 1 - (hn h - 1 - b) = b by omega] at this
        simpa using this
      · rw [if_neg e2, f2 _ (fun j' x y => by omega)]
        exact ax.2.2.2.1 b j b1 b2 j1 j2
    · unfold hOld at b2 ⊢
      simp only [hn_mk, hb_mk] at b2 ⊢
      rw [f2 _ (fun j x y => by omega)]
      simpa using ax.2.2.2.2.1 b b1 b2
    · unfold hOld at b2 ⊢
      simp only [hn_mk, hl_mk, hg_mk] at b2 ⊢
      rw [f2 _ (fun j' x y => by omega)]
      exact ax.2.2.2.2.2 b j b1 b2 j1 j2
  · have ev := ax.2.2.2.1 (hn h - 1 - i) 2 (by omega) (by omega) (by decide) (by decide)
    rw [show (0 : Int) + (4 * (hn h - 1 - (hn h - 1 - i)) + 2) = 4 * i + 2 by omega] at ev
    have g := H.hs.2.2.2.2.2.2.2 (hn h - 1 - i) (by omega) (by omega)
    simp only [iz_mul, iz_add]
    refine ⟨iz_inb (by omega) (by omega) (by omega), iz_inb (by omega) (by omega) (by omega), ?_⟩
    rw [iz_toInt (by omega) (by omega), f2 _ (fun j x y => by omega), ev, iz_add, imin_iz (by decide) (by decide) (by omega) (by omega)]
    rintro w3 rfl
    rw [sA_sB2]
    refine kk (by omega) _ ⟨by omega, _, rfl, fun j x y => ?_, fun t ht => ?_⟩
    · by_cases e3 : j = i
      · subst e3
        rw [if_pos rfl]
      · rw [if_neg (by omega)]
        exact f1 j x (by omega)
    · rw [if_neg (ht i hi0 (by omega))]
      exact f2 t (fun j x y => ht j x (by omega))
theorem x_labelNow {Q : Wd → Prop} (H : HX c h w) {a : Int} (h1 : 0 ≤ a) (h2 : a < hn h) (q : ∀ f, AXf (hLabel h a) f 0 → Q (sB w 31 f)) : wp_X1_labelNow (iz a) w Q := by
  unfold wp_X1_labelNow
  have a0 := H.hs.1; have a2 := H.hs.2.1; have m0 := H.hs.2.2.1
  have ax := H.ax
  refine x_turned H ?_
  simp only [iz_mul, iz_add]
  refine ⟨iz_inb (by decide) (by decide) (by decide), iz_inb (by omega) (by omega) (by omega), ?_⟩
  have em := ax.2.1
  rw [Int.zero_add] at em
  rw [iz_toInt (by omega) (by omega), iz_toInt (by decide) (by decide), em]
  rintro w3 rfl
  obtain ⟨f, fe, f1, f2⟩ := sA_ex w 31 (4 * (hn h - 1 - a) + 3) (iz (hm h))
  rw [fe]
  refine q _ ⟨?_, ?_, ?_, fun b j b1 b2 j1 j2 => ?_, fun b b1 b2 => ?_, fun b j b1 b2 j1 j2 => ?_⟩
  · rw [f2 _ (by omega)]; exact ax.1
  · rw [f2 _ (by omega)]; exact ax.2.1
  · rw [f2 _ (by omega)]; exact ax.2.2.1
  · unfold hLabel at b2 ⊢
    simp only [hn_mk, hb_mk] at b2 ⊢
    rw [f2 _ (by omega), ax.2.2.2.1 b j b1 b2 j1 j2]
    congr 1
    split
    · rw [if_neg (by omega), if_neg (by omega)]
    · rfl
  · unfold hLabel at b2 ⊢
    simp only [hn_mk, hb_mk] at b2 ⊢
    by_cases e : b = a
    · subst e
      rw [Int.zero_add, f1]
      simp
    · rw [f2 _ (by omega), ax.2.2.2.2.1 b b1 b2]
      simp [e]
  · unfold hLabel at b2 ⊢
    simp only [hn_mk, hl_mk, hg_mk] at b2 ⊢
    rw [f2 _ (by omega)]
    exact ax.2.2.2.2.2 b j b1 b2 j1 j2
theorem x_putNow {Q : Wd → Prop} (H : HX c h w) {k p lab : Int} (h3 : hn h < 8) (hl1 : lab = 0 ∨ lab = 1) (q : ∀ f, AXf (hPut h k p lab) f 0 → Q (sB w 31 f)) : wp_X1_putNow (iz k) (iz p) (iz lab) w Q := by
  unfold wp_X1_putNow
  have a0 := H.hs.1; have a2 := H.hs.2.1; have m0 := H.hs.2.2.1
  have ax := H.ax
  refine x_boxMany H ?_
  simp only [iz_mul, iz_add]
  refine ⟨iz_inb (by omega) (by omega) (by omega), ?_⟩
  rintro w3 rfl
  rw [iz_toInt (by omega) (by omega)]
  obtain ⟨g1, e1, p1, r1⟩ := sA_ex w 31 (4 * hn h + 0) (iz k)
  rw [e1]
  refine ⟨iz_inb (by omega) (by omega) (by omega), ?_⟩
  rintro w4 rfl
  rw [iz_toInt (by omega) (by omega)]
  obtain ⟨g2, e2, p2, r2⟩ := sA_ex2 w 31 g1 (4 * hn h + 1) (iz p)
  rw [e2]
  refine ⟨iz_inb (by omega) (by omega) (by omega), ?_⟩
  rintro w5 rfl
  rw [iz_toInt (by omega) (by omega)]
  obtain ⟨g3, e3, p3, r3⟩ := sA_ex2 w 31 g2 (4 * hn h + 2) (iz 0)
  rw [e3]
  have em := ax.2.1
  have en := ax.1
  rw [Int.zero_add] at em en
  have fin : ∀ v : Int, v = (if lab = 1 then hm h else -1) → b_X1_putNow_61 Q (iz v) (iz (4 * hn h + 3)) (sB w 31 g3) := by
    intro v hv
    refine ⟨iz_inb (by omega) (by omega) (by omega), ?_⟩
    rintro w1 rfl
    rw [iz_toInt (by omega) (by omega)]
    obtain ⟨g4, e4, p4, r4⟩ := sA_ex2 w 31 g3 (4 * hn h + 3) (iz v)
    rw [e4]
    refine ⟨iz_inb (by decide) (by decide) (by decide), iz_inb (by decide) (by decide) (by decide), ?_⟩
    rintro w2 rfl
    rw [gA_sB, if_pos rfl, iz_toInt (by decide) (by decide), r4 32 (by omega), r3 32 (by omega), r2 32 (by omega), r1 32 (by omega), en, iz_add]
    obtain ⟨g5, e5, p5, r5⟩ := sA_ex2 w 31 g4 32 (iz (hn h + 1))
    rw [e5]
    have old : ∀ t, t ≠ 32 → t ≠ 4 * hn h → t ≠ 4 * hn h + 1 → t ≠ 4 * hn h + 2 → t ≠ 4 * hn h + 3 → g5 t = gA w 31 t := fun t t1 t2 t3 t4 t5 => by rw [r5 t t1, r4 t t5, r3 t t4, r2 t t3, r1 t (by omega)]
    refine q _ ⟨?_, ?_, ?_, fun b j b1 b2 j1 j2 => ?_, fun b b1 b2 => ?_, fun b j b1 b2 j1 j2 => ?_⟩
    · rw [Int.zero_add, p5]; rfl
    · rw [old _ (by omega) (by omega) (by omega) (by omega) (by omega)]; exact ax.2.1
    · rw [old _ (by omega) (by omega) (by omega) (by omega) (by omega)]; exact ax.2.2.1
    · unfold hPut at b2 ⊢
      simp only [hn_mk, hb_mk] at b2 ⊢
      by_cases e : b = 0
      · subst e
        rw [show (0 : Int) + (4 * (hn h + 1 - 1 - 0) + j) = 4 * hn h + j by omega, if_pos rfl, r5 _ (by omega), r4 _ (by omega)]
        by_cases j2' : j = 2
        · subst j2'
          rw [p3]
          rfl
        · rw [r3 _ (by omega)]
          by_cases j1' : j = 1
          · subst j1'
            rw [p2]
            rfl
          · obtain rfl : j = 0 := by omega
            rw [r2 _ (by omega), p1]
            rfl
      · rw [if_neg e, old _ (by omega) (by omega) (by omega) (by omega) (by omega)]
        have := ax.2.2.2.1 (b - 1) j (by omega) (by omega) j1 j2
        rw [← this]
        congr 1
        omega
    · unfold hPut at b2 ⊢
      simp only [hn_mk, hb_mk] at b2 ⊢
      by_cases e : b = 0
      · subst e
        rw [show (0 : Int) + (4 * (hn h + 1 - 1 - 0) + 3) = 4 * hn h + 3 by omega, r5 _ (by omega), p4, hv]
        simp
      · rw [old _ (by omega) (by omega) (by omega) (by omega) (by omega)]
        simp only [e, if_false]
        have := ax.2.2.2.2.1 (b - 1) (by omega) (by omega)
        rw [← this]
        congr 1
        omega
    · unfold hPut at b2 ⊢
      simp only [hn_mk, hl_mk, hg_mk] at b2 ⊢
      rw [old _ (by omega) (by omega) (by omega) (by omega) (by omega)]
      exact ax.2.2.2.2.2 b j b1 b2 j1 j2
  refine br (iz_eq (by omega) (by omega) (by decide) (by decide)) (fun e => ?_) (fun e => ?_)
  · exact fin (-1) (by rw [if_neg (by omega)])
  · refine ⟨iz_inb (by decide) (by decide) (by decide), ?_⟩
    rw [gA_sB, if_pos rfl, iz_toInt (by decide) (by decide), r3 33 (by omega), r2 33 (by omega), r1 33 (by omega), em]
    exact fin (hm h) (by rw [if_pos (by omega)])
end XM
