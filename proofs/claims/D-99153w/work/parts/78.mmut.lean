/-! the model's deeds -/
abbrev MR3 (r : Nat) : Prop := r = 90 ∨ r = 91 ∨ r = 114
section MM
variable {c : Cf} {lm : Int} {h : Hs} {w w' : Wd}
theorem HM.row (H : HM c lm w) {r : Nat} (hr : r = 90 ∨ r = 91 ∨ r = 114 ∨ r = 96) (f : Int → Int32) : HM c lm (sB w r f) := by
  obtain ⟨h1, h3, h4, h5, h6, h8, h9, h10⟩ := H
  refine ⟨h1, h3, fun i => by rw [gA_sB, if_neg (by omega)]; exact h4 i, fun i => by rw [gA_sB, if_neg (by omega)]; exact h5 i, h6, ?_, ?_, h10⟩
  · intro i i1 i2
    have z := h8 i i1 i2
    unfold LM at z ⊢
    have e1 : gA (sB w r f) 62 = gA w 62 := by funext j; rw [gA_sB, if_neg (by omega)]
    have e2 : gA (sB w r f) 63 = gA w 63 := by funext j; rw [gA_sB, if_neg (by omega)]
    rw [e1, e2]
    exact z
  · intro i1 a b l a' o' n' y' k' m' A2 ke
    rw [gA_sB, if_neg (by omega)]
    exact h9 i1 a b l a' o' n' y' k' m' A2 ke
theorem gA_r (w : Wd) (r : Nat) (f : Int → Int32) : gA (sB w r f) r = f := by
  funext i
  rw [gA_sB, if_pos rfl]
theorem gA_n (w : Wd) {r a : Nat} (e : a ≠ r) (f : Int → Int32) : gA (sB w r f) a = gA w a := by
  funext i
  rw [gA_sB, if_neg e]
theorem inM3 {r : Nat} (hr : MR3 r) {i : Int} (h1 : 0 ≤ i) (h2 : i < 283) : inA r (iz i) := by
  rcases hr with rfl | rfl | rfl
  · exact ⟨_, _, ar_90, iz_inb h1 h2 (by omega)⟩
  · exact ⟨_, _, ar_91, iz_inb h1 h2 (by omega)⟩
  · exact ⟨_, _, ar_114, iz_inb h1 h2 (by omega)⟩
theorem AMf_shift {h : Hs} {f g : Int → Int32} {o p : Int} (A : AMf h f o) (G1 : 0 ≤ hn h) (G2 : hn h ≤ 8) (e : ∀ t, 0 ≤ t → t < 43 + 4 * hl h → g (p + t) = f (o + t)) (G3 : 0 ≤ hl h) : AMf h g p := by
  refine ⟨?_, ?_, ?_, fun b j b1 b2 j1 j2 => ?_, fun b b1 b2 => ?_, fun i j i1 i2 j1 j2 => ?_⟩
  · rw [e _ (by omega) (by omega)]; exact A.1
  · rw [e _ (by omega) (by omega)]; exact A.2.1
  · rw [e _ (by omega) (by omega)]; exact A.2.2.1
  · rw [e _ (by omega) (by omega)]; exact A.2.2.2.1 b j b1 b2 j1 j2
  · rw [e _ (by omega) (by omega)]; exact A.2.2.2.2.1 b b1 b2
  · rw [Int.add_assoc 43, e _ (by omega) (by omega), ← Int.add_assoc 43]; exact A.2.2.2.2.2 i j i1 i2 j1 j2
theorem m_copy {Q : Wd → Prop} {r s : Nat} (hr : MR3 r) (hs : MR3 s) (ne : r ≠ s) (G : MH c r h w) (q : ∀ f, AMf h f 0 → Q (sB w s f)) : wp_X3_copy r s w Q := by
  unfold wp_X3_copy
  have l1 := G.1.2.2.2.2.1; have l2 := G.1.2.2.2.2.2.1
  have vl := G.2.2.2.1
  rw [Int.zero_add] at vl
  refine ⟨inM3 hr (by omega) (by omega), ?_⟩
  rw [iz_toInt (by omega) (by omega), vl, iz_mul, iz_add]
  refine lpe (fun n1 (t : Int32 × Wd) => lp_X3_copy_12 Q r s (iz (43 + 4 * hl h)) n1 t.1 t.2) (fun R t => wl_X3_copy_12 Q r s (iz (43 + 4 * hl h)) (fun x y => R (x, y)) t.1 t.2) (fun _ _ h => h) (fun i t => 0 ≤ i ∧ ∃ f, t = (iz i, sB w s f) ∧ (∀ t, 0 ≤ t → t < i → f t = gA w r t)) (43 + 4 * hl h) 0 (iz 0, w) (by omega) ⟨by decide, gA w s, by rw [sB_self], fun j x y => by omega⟩ ?_
  rintro R _ i hi ⟨hi0, f, rfl, g1⟩ kk
  refine br (iz_le (by omega) (by omega) (by omega) (by omega)) (fun e => ?_) (fun e => ?_)
  · obtain rfl : i = 43 + 4 * hl h := by omega
    exact q f (AMf_shift G.2 G.1.1 G.1.2.1 (fun t t1 t2 => by rw [Int.zero_add]; exact g1 t t1 t2) l1)
  · refine ⟨inM3 hr (by omega) (by omega), inM3 hs (by omega) (by omega), ?_⟩
    rintro w1 rfl
    rw [iz_toInt (by omega) (by omega), gA_n w ne]
    obtain ⟨f1, e1, p1, r1⟩ := sA_ex2 w s f i (gA w r i)
    rw [e1, iz_add]
    refine kk (by omega) _ ⟨by omega, f1, rfl, fun t x y => ?_⟩
    by_cases e6 : t = i
    · subst e6
      exact p1
    · rw [r1 _ (by omega)]
      exact g1 t x (by omega)
theorem m_ages {Q : Wd → Prop} {r : Nat} (hr : MR r) (G : MH c r h w) {more : Int} (m1 : 0 ≤ more) (m2 : more ≤ 1000) (q : ∀ f, AMf (hOld h more) f 0 → Q (sB w r f)) : wp_X3_ages r (iz more) w Q := by
  obtain ⟨G1, ax⟩ := G
  have a := G1.1; have a2 := G1.2.1
  refine lpe (fun n1 (s : Int32 × Wd) => lp_X3_ages_2 Q r (iz more) n1 s.1 s.2) (fun R s => wl_X3_ages_2 Q r (iz more) (fun x y => R (x, y)) s.1 s.2) (fun _ _ h => h) (fun i s => 0 ≤ i ∧ ∃ f, s = (iz i, sB w r f) ∧ (∀ j, 0 ≤ j → j < i → f (5 * j + 2) = iz (min 99 (hb h j 2 + more))) ∧ ∀ t, (∀ j, 0 ≤ j → j < i → t ≠ 5 * j + 2) → f t = gA w r t) (hn h) 0 (iz 0, w) a ⟨by decide, gA w r, by rw [sB_self], fun j x y => by omega, fun t _ => rfl⟩ ?_
  rintro R _ i hi ⟨hi0, f, rfl, f1, f2⟩ kk
  have e40 : f 40 = iz (hn h) := by rw [f2 40 (fun j x y => by omega)]; exact ax.1
  refine ⟨inM hr (by omega) (by omega), ?_⟩
  rw [iz_toInt (by omega) (by omega), gA_r, e40]
  refine br (iz_le (by omega) (by omega) (by omega) (by omega)) (fun e => ?_) (fun e => ?_)
  · obtain rfl : i = hn h := by omega
    refine q f ⟨?_, ?_, ?_, fun b j b1 b2 j1 j2 => ?_, fun b b1 b2 => ?_, fun b j b1 b2 j1 j2 => ?_⟩
    · exact e40
    · rw [f2 _ (fun j x y => by omega)]; exact ax.2.1
    · rw [f2 _ (fun j x y => by omega)]; exact ax.2.2.1
    · unfold hOld at b2 ⊢
      simp only [hn_mk, hb_mk] at b2 ⊢
      by_cases e2 : j = 2
      · subst e2
        have := f1 b b1 b2
        rw [Int.zero_add]
        simpa using this
      · rw [if_neg e2, f2 _ (fun j' x y => by omega)]
        exact ax.2.2.2.1 b j b1 b2 j1 j2
    · unfold hOld at b2 ⊢
      simp only [hn_mk, hb_mk] at b2 ⊢
      rw [f2 _ (fun j x y => by omega)]
      simpa using ax.2.2.2.2.1 b b1 b2
    · unfold hOld at b2 ⊢
      simp only [hn_mk, hl_mk, hg_mk] at b2 ⊢
      rw [f2 _ (fun j' x y => by omega)]
      exact ax.2.2.2.2.2 b j b1 b2 j1 j2
  · have ev := ax.2.2.2.1 i 2 hi0 (by omega) (by decide) (by decide)
    rw [Int.zero_add] at ev
    have g := G1.2.2.2.2.2.2.2 i hi0 (by omega)
    simp only [iz_mul, iz_add]
    refine ⟨inM hr (by omega) (by omega), inM hr (by omega) (by omega), ?_⟩
    rw [iz_toInt (by omega) (by omega), f2 _ (fun j x y => by omega), ev, iz_add, imin_iz (by decide) (by decide) (by omega) (by omega)]
    rintro w3 rfl
    rw [sA_sB2]
    refine kk (by omega) _ ⟨by omega, _, rfl, fun j x y => ?_, fun t ht => ?_⟩
    · by_cases e3 : j = i
      · subst e3
        rw [if_pos rfl]
      · rw [if_neg (by omega)]
        exact f1 j x (by omega)
    · rw [if_neg (ht i hi0 (by omega))]
      exact f2 t (fun j x y => ht j x (by omega))
theorem m_names {Q : Wd → Prop} {r : Nat} (hr : MR r) (G : MH c r h w) {a : Int} (h1 : 0 ≤ a) (h2 : a < hn h) (q : ∀ f, AMf (hLabel h a) f 0 → Q (sB w r f)) : wp_X3_names r (iz a) w Q := by
  unfold wp_X3_names
  obtain ⟨G1, ax⟩ := G
  have a0 := G1.1; have a2 := G1.2.1
  have em := ax.2.1
  rw [Int.zero_add] at em
  simp only [iz_mul, iz_add]
  refine ⟨inM hr (by omega) (by omega), ?_⟩
  rintro w1 rfl
  rw [iz_toInt (by omega) (by omega)]
  obtain ⟨f1, e1, p1, r1⟩ := sA_ex w r (5 * a + 3) (iz 1)
  rw [e1]
  refine ⟨inM hr (by omega) (by omega), inM hr (by omega) (by omega), ?_⟩
  rintro w2 rfl
  rw [gA_r, iz_toInt (by omega) (by omega), iz_toInt (by omega) (by omega), r1 _ (by omega), em]
  obtain ⟨f2, e2, p2, r2⟩ := sA_ex2 w r f1 (5 * a + 4) (iz (hm h))
  rw [e2]
  have old : ∀ t, t ≠ 5 * a + 3 → t ≠ 5 * a + 4 → f2 t = gA w r t := fun t t1 t2 => by rw [r2 t t2, r1 t t1]
  refine q f2 ⟨?_, ?_, ?_, fun b j b1 b2 j1 j2 => ?_, fun b b1 b2 => ?_, fun b j b1 b2 j1 j2 => ?_⟩
  · rw [old _ (by omega) (by omega)]; exact ax.1
  · rw [old _ (by omega) (by omega)]; exact ax.2.1
  · rw [old _ (by omega) (by omega)]; exact ax.2.2.1
  · unfold hLabel at b2 ⊢
    simp only [hn_mk, hb_mk] at b2 ⊢
    by_cases e : b = a
    · subst e
      by_cases e3 : j = 3
      · subst e3
        rw [Int.zero_add, r2 _ (by omega), p1]
        simp
      · rw [old _ (by omega) (by omega), ax.2.2.2.1 b j b1 b2 j1 j2, if_pos rfl, if_neg e3, if_neg (by omega)]
    · rw [old _ (by omega) (by omega), ax.2.2.2.1 b j b1 b2 j1 j2, if_neg e]
  · unfold hLabel at b2 ⊢
    simp only [hn_mk, hb_mk] at b2 ⊢
    by_cases e : b = a
    · subst e
      rw [Int.zero_add, p2]
      simp
    · rw [old _ (by omega) (by omega)]
      simpa [e] using ax.2.2.2.2.1 b b1 b2
  · unfold hLabel at b2 ⊢
    simp only [hn_mk, hl_mk, hg_mk] at b2 ⊢
    rw [old _ (by omega) (by omega)]
    exact ax.2.2.2.2.2 b j b1 b2 j1 j2
end MM
