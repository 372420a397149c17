/-! the component's questions, on: rests, keep, dinner, lot, all eaten -/
/-- may be eaten in one meal -/
def mealP (c : Cf) (h : Hs) (s : Int) : Prop := ∀ a b, 0 ≤ b → b < a → a < hn h → has2 s a = true → has2 s b = true → kwith c (hb h a 0) (hb h b 0)
def vset (c : Cf) (h : Hs) (s : Int) (n : Int) : Int := sm (fun b => if has2 s b = true then valO c h b else 0) n
/-- one set more: the best till now, its worth a portion, its portions -/
noncomputable def dnS (c : Cf) (h : Hs) (need s : Int) (D : Int × Int × Int) : Int × Int × Int :=
  haveI := Classical.propDecidable (mealP c h s)
  if psum h s (hn h) < need then D else if mealP c h s then (if D.1 = -1 then (s, 100 * vset c h s (hn h) / psum h s (hn h), psum h s (hn h)) else if 100 * vset c h s (hn h) / psum h s (hn h) < D.2.1 then D else if 100 * vset c h s (hn h) / psum h s (hn h) ≠ D.2.1 then (s, 100 * vset c h s (hn h) / psum h s (hn h), psum h s (hn h)) else if psum h s (hn h) < D.2.2 then (s, 100 * vset c h s (hn h) / psum h s (hn h), psum h s (hn h)) else D) else D
noncomputable def dnF (c : Cf) (h : Hs) (need : Int) : Nat → Int × Int × Int
  | 0 => (-1, 0, 0)
  | n + 1 => dnS c h need (n + 1) (dnF c h need n)
noncomputable def o_dinner (c : Cf) (h : Hs) (need v : Int) : Int := if 0 < cK c ∧ 1 ≤ need ∧ need ≤ 30 ∧ 0 ≤ v ∧ v ≤ 1 then (if (dnF c h need (2 ^ (hn h).toNat - 1)).1 = -1 then -1 else if v = 0 then (dnF c h need (2 ^ (hn h).toNat - 1)).1 else (dnF c h need (2 ^ (hn h).toNat - 1)).2.1) else -1
section XQ4
variable {c : Cf} {h : Hs} {w : Wd} {Q : Int32 → Wd → Prop}
theorem lbO_sub (h : Hs) (x y : Int) : True := trivial
theorem x_rstep (H : HX c h w) {R18 R26 : Int32 → Int32 → Wd → Prop} {x y i n : Int} (h1 : 0 ≤ x ∧ x ≤ 1) (h2 : 0 ≤ y ∧ y ≤ 1) (hi : VR i) (hn1 : 0 ≤ n ∧ n ≤ 9) (A : rsBad h x y → R26 (iz n) (iz (y + 1)) w) (B : ¬ rsBad h x y → n = i → Q (iz (10 * x + y)) w) (C : ¬ rsBad h x y → ¬ n = i → R26 (iz (n + 1)) (iz (y + 1)) w) : wl_X1_rests_26 Q R18 (iz i) (iz x) R26 (iz n) (iz y) w := by
  refine br (iz_le (by omega) (by omega) (by omega) (by omega)) (fun e => by omega) (fun _ => ?_)
  simp only [iz_sub]
  refine x_labelsOf H (by omega) h2 (x_labelsOf H h1 h2 ⟨fun e => ?_, fun e => ?_⟩)
  · rw [iz_add]
    exact A (Or.inl e)
  · refine x_labelsOf H (by omega) h1 (x_labelsOf H h2 h1 ⟨fun e2 => ?_, fun e2 => ?_⟩)
    · have nb : ¬ rsBad h x y := fun z => z.elim e (fun z => Int32.not_lt.mpr e2 z)
      refine brn (iz_eq (by omega) (by omega) hi.1 hi.2) (fun e3 => ?_) (fun e3 => ?_)
      · rw [iz_add, iz_add]
        exact C nb e3
      · rw [iz_mul, iz_add]
        exact B nb e3
    · rw [iz_add]
      exact A (Or.inr (Int32.not_le.mp e2))
theorem x_rests (H : HX c h w) {i : Int} (hi : VR i) (q : Q (iz (o_rests c h i)) w) : wp_X1_rests (iz i) w Q := by
  unfold wp_X1_rests
  unfold o_rests at q
  refine x_isHouse H (fun e => t1 ?_) (fun e => t0 ?_)
  · refine br (iz_le (by omega) (by omega) hi.1 hi.2) (fun e2 => ?_) (fun e2 => ?_)
    · rw [if_pos ⟨e, e2⟩] at q
      have inner : ∀ (R18 : Int32 → Int32 → Wd → Prop) (x n : Int) (t : List (Int × Int)), 0 ≤ x ∧ x ≤ 1 → 0 ≤ n ∧ n ≤ 4 → Q (iz (rsP h i ((x, 0) :: (x, 1) :: t) n)) w → (∀ m, 0 ≤ m ∧ m ≤ n + 2 → Q (iz (rsP h i t m)) w → R18 (iz m) (iz (x + 1)) w) → ∃ n1, lp_X1_rests_26 Q R18 (iz i) (iz x) n1 (iz n) (iz 0) w := by
        intro R18 x n t hx hn1 q kk
        have e3 : ∀ m, 0 ≤ m ∧ m ≤ n + 2 → Q (iz (rsP h i t m)) w → lp_X1_rests_26 Q R18 (iz i) (iz x) 1 (iz m) (iz 2) w := by
          intro m hm qm
          refine ⟨fun _ => ?_, fun e => absurd (by decide) e⟩
          rw [iz_add]
          exact kk m hm qm
        have e2 : ∀ m, 0 ≤ m ∧ m ≤ n + 1 → Q (iz (rsP h i ((x, 1) :: t) m)) w → lp_X1_rests_26 Q R18 (iz i) (iz x) 2 (iz m) (iz 1) w := by
          intro m hm qm
          refine x_rstep H hx ⟨by decide, by decide⟩ hi (by omega) (fun b => ?_) (fun b e => ?_) (fun b e => ?_)
          · rw [rsP_b b] at qm
            exact e3 m (by omega) qm
          · rw [rsP_g b, if_pos e] at qm
            exact qm
          · rw [rsP_g b, if_neg e] at qm
            exact e3 (m + 1) (by omega) qm
        refine ⟨3, x_rstep H hx ⟨by decide, by decide⟩ hi (by omega) (fun b => ?_) (fun b e => ?_) (fun b e => ?_)⟩
        · rw [rsP_b b] at q
          exact e2 n (by omega) q
        · rw [rsP_g b, if_pos e] at q
          exact q
        · rw [rsP_g b, if_neg e] at q
          exact e2 (n + 1) (by omega) q
      refine ⟨3, ⟨fun e => absurd e (by decide), fun _ => inner _ 0 0 _ (by omega) (by omega) q (fun m hm qm => ?_)⟩⟩
      refine ⟨fun e => absurd e (by decide), fun _ => inner _ 1 m _ (by omega) (by omega) qm (fun m2 hm2 qm2 => ?_)⟩
      refine ⟨fun _ => brn (iz_eq hi.1 hi.2 (by decide) (by decide)) (fun e3 => ?_) (fun e3 => ?_), fun e => absurd (by decide) e⟩
      · rw [rsP, if_neg e3] at qm2
        exact qm2
      · rw [rsP, if_pos e3] at qm2
        exact qm2
    · rw [if_neg (by omega)] at q
      exact q
  · rw [if_neg (by omega)] at q
    exact q
theorem x_keep (H : HX c h w) {n v : Int} (h1 : VR n) (h2 : VR v) (q : ∀ f, Q (o_keep c h n v) (sB w 15 f)) : wp_X1_keep (iz n) (iz v) w Q := by
  unfold wp_X1_keep
  have a := H.hs.1; have a2 := H.hs.2.1
  have q0 := q (gA w 15)
  rw [sB_self] at q0
  unfold o_keep at q q0
  refine x_isOff H h1 (fun k p1 p2 => t1 (x_in h2 (by decide) (by decide) (fun p3 p4 => u1 (x_tooMany H k p1 p2 ?_)) (fun p => u0 ?_))) (fun p => t0 ?_)
  · rw [if_pos ⟨k, p1, p2, p3, p4⟩] at q
    clear q0
    have tb : 0 ≤ tmy c (pall h) n ∧ tmy c (pall h) n ≤ 99 := by
      have pb := pall_bd H.hs
      have := tm_bd H.cf k (p := pall h) (by omega) (by omega)
      unfold tmy
      omega
    refine lpe (fun n1 (s3 : Int32 × Int32 × Wd) => lp_X1_keep_32 Q (iz v) (iz (tmy c (pall h) n)) n1 s3.1 s3.2.1 s3.2.2) (fun R s3 => wl_X1_keep_32 Q (iz v) (iz (tmy c (pall h) n)) (fun x y z => R (x, y, z)) s3.1 s3.2.1 s3.2.2) (fun _ _ h => h) (fun i s3 => 0 ≤ i ∧ ∃ f, s3 = (bts (fun b => v ≤ wth c (hb h b 0) (hb h b 1) (min 99 (hb h b 2 + tmy c (pall h) n)) (hn h - 1 - b) (hm h)) i, iz i, sB w 15 f)) (hn h) 0 (iz 0, iz 0, w) a ⟨by decide, gA w 15, by rw [sB_self]; rfl⟩ ?_
    rintro R _ i hi ⟨hi0, f, rfl⟩ kk
    have H1 := H.s15 f
    refine x_boxMany H1 (br (iz_le (by omega) (by omega) (by omega) (by omega)) (fun e => ?_) (fun e => ?_))
    · obtain rfl : i = hn h := by omega
      exact q f
    · have kk := kk (by omega)
      have g := H.hs.2.2.2.2.2.2.2 i hi0 (by omega)
      refine x_aged H1 hi0 (by omega) tb.1 (by omega) (x_turned H1 ⟨iz_inb (by decide) (by decide) (by decide), ?_⟩)
      have em := H1.2.2.2.2.2.2.1.2.1
      rw [Int.zero_add] at em
      rw [iz_toInt (by decide) (by decide), em]
      refine x_worthAt H1 hi0 (by omega) (by omega) (by omega) (fun f2 => ?_)
      rw [sB_sB]
      have wb := wth_bd (p := hb h i 1) (a := min 99 (hb h i 2 + tmy c (pall h) n)) (below := hn h - 1 - i) (m := hm h) H.cf g.1 g.2.1
      refine br (iz_lt (by omega) (by omega) (by omega) (by omega)) (fun e2 => kk _ ⟨by omega, f2, ?_⟩) (fun e2 => kk _ ⟨by omega, f2, ?_⟩)
      · rw [bts_f (fun b => v ≤ wth c (hb h b 0) (hb h b 1) (min 99 (hb h b 2 + tmy c (pall h) n)) (hn h - 1 - b) (hm h)) hi0 (by omega), iz_add]
      · rw [bts_t (fun b => v ≤ wth c (hb h b 0) (hb h b 1) (min 99 (hb h b 2 + tmy c (pall h) n)) (hn h - 1 - b) (hm h)) hi0 (by omega), iz_add]
  · rw [if_neg (by omega)] at q0
    exact q0
  · rw [if_neg (by omega)] at q0
    exact q0
theorem x_isMeal (H : HX c h w) {s : Int} (h1 : 0 ≤ s) (h2 : s < 256) (f : mealP c h s → Q (iz 1) w) (g : ¬ mealP c h s → Q (iz 0) w) : wp_X1_isMeal (iz s) w Q := by
  have a := H.hs.1; have a2 := H.hs.2.1
  refine lpe (fun n (s3 : Int32 × Wd) => lp_X1_isMeal_2 Q (iz s) n s3.1 s3.2) (fun R s3 => wl_X1_isMeal_2 Q (iz s) (fun x y => R (x, y)) s3.1 s3.2) (fun _ _ h => h) (fun i s3 => 0 ≤ i ∧ s3 = (iz i, w) ∧ ∀ a b, 0 ≤ b → b < a → a < i → has2 s a = true → has2 s b = true → kwith c (hb h a 0) (hb h b 0)) (hn h) 0 (iz 0, w) a ⟨by decide, rfl, fun a b _ _ _ => by omega⟩ ?_
  rintro R _ i hi ⟨hi0, rfl, al⟩ kk
  refine x_boxMany H (br (iz_le (by omega) (by omega) (by omega) (by omega)) (fun e => ?_) (fun e => ?_))
  · exact f (fun a b x1 x2 x3 => al a b x1 x2 (by omega))
  · have kk := kk (by omega)
    refine lpe (fun n (s3 : Int32 × Wd) => lp_X1_isMeal_12 Q (fun x y => R (x, y)) (iz s) (iz i) n s3.1 s3.2) (fun R2 s3 => wl_X1_isMeal_12 Q (fun x y => R (x, y)) (iz s) (iz i) (fun x y => R2 (x, y)) s3.1 s3.2) (fun _ _ h => h) (fun j s3 => 0 ≤ j ∧ s3 = (iz j, w) ∧ ∀ b, 0 ≤ b → b < j → has2 s i = true → has2 s b = true → kwith c (hb h i 0) (hb h b 0)) i 0 (iz 0, w) hi0 ⟨by decide, rfl, fun b _ _ => by omega⟩ ?_
    rintro R2 _ j hj ⟨hj0, rfl, bl⟩ k2
    refine br (iz_le (by omega) (by omega) (by omega) (by omega)) (fun e2 => ?_) (fun e2 => ?_)
    · refine kk _ ⟨by omega, by rw [iz_add], fun a b x1 x2 x3 => ?_⟩
      by_cases ea : a = i
      · subst ea
        exact bl b x1 (by omega)
      · exact al a b x1 x2 (by omega)
    · have k2 := k2 (by omega)
      have gi := H.hs.2.2.2.2.2.2.2 i hi0 (by omega)
      have gj := H.hs.2.2.2.2.2.2.2 j hj0 (by omega)
      have stp : (has2 s i = true → has2 s j = true → kwith c (hb h i 0) (hb h j 0)) → R2 (iz (j + 1), w) := fun z => k2 _ ⟨by omega, rfl, fun b x1 x2 x3 x4 => by
        by_cases eb : b = j
        · subst eb; exact z x3 x4
        · exact bl b x1 (by omega) x3 x4⟩
      refine x_has h1 h2 hi0 (by omega) (fun t => t1 ?_) (fun t => t0 ?_)
      · refine x_has h1 h2 hj0 (by omega) (fun t2 => t1 ?_) (fun t2 => t0 ?_)
        · refine x_of H hi0 (by omega) (by decide) (by decide) (x_of H hj0 (by omega) (by decide) (by decide) ?_)
          refine x_isWith H gi.1 gi.2.1 gj.1 gj.2.1 (fun t3 => u1 ?_) (fun t3 => u0 ?_)
          · rw [iz_add]
            exact stp (fun _ _ => t3)
          · exact g (fun m => t3 (m i j hj0 (by omega) (by omega) t t2))
        · rw [iz_add]
          exact stp (fun _ x => by rw [t2] at x; exact absurd x (by decide))
      · rw [iz_add]
        exact stp (fun x => by rw [t] at x; exact absurd x (by decide))
theorem vset_bd (H : CfOK c) (G : HsOK c h) {s n : Int} (h1 : 0 ≤ n) (h2 : n ≤ hn h) : 0 ≤ vset c h s n ∧ vset c h s n ≤ n * 81 := by
  refine sm_bd h1 (fun i x1 x2 => ?_)
  have := val_bd H G (more := 0) (below := hn h - 1 - i) x1 (show i < hn h by omega)
  split
  · exact this
  · omega
theorem x_valueOfSet (H : HX c h w) {s : Int} (h1 : 0 ≤ s) (h2 : s < 256) (q : ∀ f, Q (iz (vset c h s (hn h))) (sB w 15 f)) : wp_X1_valueOfSet (iz s) w Q := by
  have a := H.hs.1; have a2 := H.hs.2.1
  refine lpe (fun n (s3 : Int32 × Int32 × Wd) => lp_X1_valueOfSet_4 Q (iz s) n s3.1 s3.2.1 s3.2.2) (fun R s3 => wl_X1_valueOfSet_4 Q (iz s) (fun x y z => R (x, y, z)) s3.1 s3.2.1 s3.2.2) (fun _ _ h => h) (fun i s3 => 0 ≤ i ∧ ∃ f, s3 = (iz (vset c h s i), iz i, sB w 15 f)) (hn h) 0 (iz 0, iz 0, w) a ⟨by decide, gA w 15, by rw [sB_self]; rfl⟩ ?_
  rintro R _ i hi ⟨hi0, f, rfl⟩ kk
  have H1 := H.s15 f
  refine x_boxMany H1 (br (iz_le (by omega) (by omega) (by omega) (by omega)) (fun e => ?_) (fun e => ?_))
  · obtain rfl : i = hn h := by omega
    exact q f
  · have kk := kk (by omega)
    have es := sm_s (fun b => if has2 s b = true then valO c h b else 0) hi0
    refine x_has h1 h2 hi0 (by omega) (fun t => t1 (x_valueOf H1 hi0 (by omega) (fun f2 => ?_))) (fun t => t0 ?_)
    · rw [sB_sB, iz_add, iz_add]
      refine kk _ ⟨by omega, f2, ?_⟩
      unfold vset
      rw [es, if_pos t]
    · rw [iz_add]
      refine kk _ ⟨by omega, f, ?_⟩
      unfold vset
      rw [es, if_neg (by rw [t]; decide), Int.add_zero]
theorem psum_bd (G : HsOK c h) {s n : Int} (h1 : 0 ≤ n) (h2 : n ≤ hn h) : 0 ≤ psum h s n ∧ psum h s n ≤ n * 9 := by
  refine sm_bd h1 (fun i x1 x2 => ?_)
  have := G.2.2.2.2.2.2.2 i x1 (by omega)
  split <;> omega
/-- what is so of the best set -/
def dnOK (h : Hs) (D : Int × Int × Int) (N : Int) : Prop := -1 ≤ D.1 ∧ D.1 < N ∧ 0 ≤ D.2.1 ∧ D.2.1 ≤ 64800 ∧ 0 ≤ D.2.2 ∧ D.2.2 ≤ 72 ∧ (D.1 ≠ -1 → 0 ≤ D.1 ∧ D.2.2 = psum h D.1 (hn h))
theorem dv_bd {x p : Int} (h1 : 0 ≤ x ∧ x ≤ 648) (h2 : 1 ≤ p) : 0 ≤ 100 * x / p ∧ 100 * x / p ≤ 64800 := ⟨Int.ediv_nonneg (by omega) (by omega), Int.le_trans (Int.ediv_le_self p (by omega)) (by omega)⟩
theorem dnF_ok (H : CfOK c) (G : HsOK c h) {need : Int} (hd : 1 ≤ need) : ∀ n : Nat, dnOK h (dnF c h need n) (n + 1) := by
  intro n
  induction n with
  | zero => unfold dnF dnOK; simp
  | succ n ih =>
    rw [dnF]
    have a := G.1; have a2 := G.2.1
    have v := vset_bd H G (s := (n + 1 : Int)) a (Int.le_refl _)
    have p := psum_bd G (s := (n + 1 : Int)) a (Int.le_refl _)
    generalize dnF c h need n = D at ih
    unfold dnOK at ih
    have w1 : dnOK h D ((n + 1 : Nat) + 1) := by
      unfold dnOK
      refine ⟨ih.1, by omega, ih.2.2⟩
    have w2 : ¬ psum h (n + 1 : Int) (hn h) < need → dnOK h ((n + 1 : Int), 100 * vset c h (n + 1 : Int) (hn h) / psum h (n + 1 : Int) (hn h), psum h (n + 1 : Int) (hn h)) ((n + 1 : Nat) + 1) := by
      intro e
      have d := dv_bd (x := vset c h (n + 1 : Int) (hn h)) (p := psum h (n + 1 : Int) (hn h)) (by omega) (by omega)
      unfold dnOK
      refine ⟨by omega, ?_, d.1, d.2, p.1, (show psum h (n + 1 : Int) (hn h) ≤ 72 by omega), fun _ => ⟨by omega, rfl⟩⟩
      push_cast
      omega
    unfold dnS
    split
    · exact w1
    · rename_i e1
      have w2 := w2 e1
      split
      · split
        · exact w2
        · split
          · exact w1
          · split
            · exact w2
            · split
              · exact w2
              · exact w1
      · exact w1
theorem x_dinner (H : HX c h w) {need v : Int} (h1 : VR need) (h2 : VR v) (q : ∀ f, Q (iz (o_dinner c h need v)) (sB w 15 f)) : wp_X1_dinner (iz need) (iz v) w Q := by
  unfold wp_X1_dinner
  have a := H.hs.1; have a2 := H.hs.2.1
  have q0 := q (gA w 15)
  rw [sB_self] at q0
  unfold o_dinner at q q0
  refine x_isHouse H (fun k => t1 (x_in h1 (by decide) (by decide) (fun p1 p2 => t1 (x_in h2 (by decide) (by decide) (fun p3 p4 => u1 ?_) (fun p => u0 ?_))) (fun p => t0 ?_))) (fun p => t0 ?_)
  · rw [if_pos ⟨k, p1, p2, p3, p4⟩] at q
    clear q0
    have pb := pow_bd a (show hn h < 9 by omega)
    generalize hN : (2 ^ (hn h).toNat : Nat) = N at q pb
    refine lpe (fun n1 (s : Int32 × Int32 × Int32 × Wd) => lp_X1_dinner_36 Q (iz need) (iz v) n1 s.1 s.2.1 s.2.2.1 s.2.2.2) (fun R s => wl_X1_dinner_36 Q (iz need) (iz v) (fun x y z t => R (x, y, z, t)) s.1 s.2.1 s.2.2.1 s.2.2.2) (fun _ _ h => h) (fun i s => 1 ≤ i ∧ ∃ f, s = (iz (dnF c h need (i - 1).toNat).1, iz (dnF c h need (i - 1).toNat).2.1, iz i, sB w 15 f)) N 1 (iz (-1), iz 0, iz 1, w) (by omega) ⟨by decide, gA w 15, by rw [sB_self]; rfl⟩ ?_
    rintro R _ i hi ⟨hi0, f, rfl⟩ kk
    have H1 := H.s15 f
    have ok := dnF_ok H.cf H.hs p1 (i - 1).toNat
    refine x_boxMany H1 ?_
    rw [shlI a (by omega), hN]
    refine br (iz_le (by omega) (by omega) (by omega) (by omega)) (fun e => ?_) (fun e => ?_)
    · obtain rfl : i = N := by omega
      rw [show ((N : Int) - 1).toNat = N - 1 by omega] at ok ⊢
      generalize dnF c h need (N - 1) = D at ok q
      unfold dnOK at ok
      refine br (iz_eq (by omega) (by omega) (by decide) (by decide)) (fun e2 => ?_) (fun e2 => brn (iz_eq h2.1 h2.2 (by decide) (by decide)) (fun e3 => ?_) (fun e3 => ?_))
      · rw [if_pos e2] at q
        rw [e2]
        exact q f
      · rw [if_neg e2, if_neg e3] at q
        exact q f
      · rw [if_neg e2, if_pos e3] at q
        exact q f
    · have kk := kk (by omega)
      have es : dnF c h need (i + 1 - 1).toNat = dnS c h need i (dnF c h need (i - 1).toNat) := by
        rw [show (i + 1 - 1).toNat = (i - 1).toNat + 1 by omega, dnF, show (((i - 1).toNat : Nat) : Int) + 1 = i by omega]
      rw [es] at kk
      have v1 := vset_bd H.cf H.hs (s := i) a (Int.le_refl _)
      have p1' := psum_bd H.hs (s := i) a (Int.le_refl _)
      generalize dnF c h need (i - 1).toNat = D at ok kk
      rw [show (((i - 1).toNat : Nat) : Int) + 1 = i by omega] at ok
      unfold dnOK at ok
      have skip : dnS c h need i D = D → ∀ f, R (iz D.1, iz D.2.1, iz (i + 1), sB w 15 f) := fun ed f => kk _ ⟨by omega, f, by rw [ed]⟩
      have take : dnS c h need i D = (i, 100 * vset c h i (hn h) / psum h i (hn h), psum h i (hn h)) → ∀ f, R (iz i, iz (100 * vset c h i (hn h) / psum h i (hn h)), iz (i + 1), sB w 15 f) := fun ed f => kk _ ⟨by omega, f, by rw [ed]⟩
      refine x_portionsOf H1 (by omega) (by omega) ?_
      refine br (iz_lt (by omega) (by omega) (by omega) (by omega)) (fun e2 => ?_) (fun e2 => ?_)
      · rw [iz_add]
        exact skip (by unfold dnS; rw [if_pos e2]) f
      · refine x_isMeal H1 (by omega) (by omega) (fun t => u1 ?_) (fun t => u0 ?_)
        · refine x_valueOfSet H1 (by omega) (by omega) (fun f2 => ?_)
          have d := dv_bd (x := vset c h i (hn h)) (p := psum h i (hn h)) (by omega) (by omega)
          rw [sB_sB, iz_mul, iz_div (by omega) (by omega) (by omega) (by omega), iz_add]
          refine ⟨iz_ne0 (by omega) (by omega) (by omega), br (iz_eq (by omega) (by omega) (by decide) (by decide)) (fun e3 => ?_) (fun e3 => br (iz_lt (by omega) (by omega) (by omega) (by omega)) (fun e4 => ?_) (fun e4 => brn (iz_eq (by omega) (by omega) (by omega) (by omega)) (fun e5 => ?_) (fun e5 => ?_)))⟩
          · exact take (by unfold dnS; rw [if_neg e2, if_pos t, if_pos e3]) f2
          · exact skip (by unfold dnS; rw [if_neg e2, if_pos t, if_neg e3, if_pos e4]) f2
          · exact take (by unfold dnS; rw [if_neg e2, if_pos t, if_neg e3, if_neg e4, if_pos e5]) f2
          · have o2 := ok.2.2.2.2.2.2 e3
            refine x_portionsOf (H.s15 f2) (by omega) (by omega) ?_
            rw [← o2.2]
            refine br (iz_lt (by omega) (by omega) (by omega) (by omega)) (fun e6 => ?_) (fun e6 => ?_)
            · exact take (by unfold dnS; rw [if_neg e2, if_pos t, if_neg e3, if_neg e4, if_neg (by omega), if_pos e6]) f2
            · exact skip (by unfold dnS; rw [if_neg e2, if_pos t, if_neg e3, if_neg e4, if_neg (by omega), if_neg e6]) f2
        · rw [iz_add]
          exact skip (by unfold dnS; rw [if_neg e2, if_neg t]) f
  · rw [if_neg (by omega)] at q0
    exact q0
  · rw [if_neg (by omega)] at q0
    exact q0
  · rw [if_neg (by omega)] at q0
    exact q0
end XQ4
