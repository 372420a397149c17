/-! the component's questions, on: -/
theorem bcx_ex (x : Int32) : ∃ y : Int32, ∀ (w : Wd) (Q : Int32 → Wd → Prop), wp_J10_bitCount x w Q = Q y w := ⟨_, fun _ _ => rfl⟩
noncomputable def bcx (x : Int32) : Int32 := (bcx_ex x).choose
theorem s_bc {x : Int32} {w : Wd} {Q : Int32 → Wd → Prop} (q : Q (bcx x) w) : wp_J10_bitCount x w Q := by
  rw [(bcx_ex x).choose_spec w Q]
  exact q
noncomputable def lbO (h : Hs) (x y : Int) : Int32 := (if x = 1 ∨ y = 1 then iz 2 * bcx (nmO h) else iz 0) - iz 3 * iz x
noncomputable def o_labels (c : Cf) (h : Hs) (x y : Int) : Int32 := if 0 < cK c ∧ 0 ≤ x ∧ x ≤ 1 ∧ 0 ≤ y ∧ y ≤ 1 then lbO h x y else iz (-1000000)
noncomputable def rsBad (h : Hs) (x y : Int) : Prop := lbO h x y < lbO h (1 - x) y ∨ lbO h y x < lbO h (1 - y) x
/-- the i-th pair of those that aren't bad, or how many -/
noncomputable def rsP (h : Hs) (i : Int) : List (Int × Int) → Int → Int
  | [], n => if i = -1 then n else -1
  | (x, y) :: t, n => (haveI := Classical.propDecidable (rsBad h x y); if rsBad h x y then rsP h i t n else if n = i then 10 * x + y else rsP h i t (n + 1))
theorem rsP_b {h : Hs} {i x y n : Int} {t : List (Int × Int)} (b : rsBad h x y) : rsP h i ((x, y) :: t) n = rsP h i t n := by rw [rsP]; simp only [if_pos b]
theorem rsP_g {h : Hs} {i x y n : Int} {t : List (Int × Int)} (b : ¬ rsBad h x y) : rsP h i ((x, y) :: t) n = if n = i then 10 * x + y else rsP h i t (n + 1) := by rw [rsP]; simp only [if_neg b]
noncomputable def o_rests (c : Cf) (h : Hs) (i : Int) : Int := if 0 < cK c ∧ -1 ≤ i then rsP h i [(0, 0), (0, 1), (1, 0), (1, 1)] 0 else -1
def kpO (c : Cf) (h : Hs) (more v : Int) : Int32 := bts (fun b => v ≤ wth c (hb h b 0) (hb h b 1) (min 99 (hb h b 2 + more)) (hn h - 1 - b) (hm h)) (hn h)
def o_keep (c : Cf) (h : Hs) (n v : Int) : Int32 := if 0 < cK c ∧ 1 ≤ n ∧ n ≤ 99 ∧ 0 ≤ v ∧ v ≤ 9 then kpO c h (tmy c (pall h) n) v else iz (-1)
def eatAll (h : Hs) : Int := sm (fun i => hg h i 3) (hl h)
section XQ3
variable {c : Cf} {h : Hs} {w : Wd} {Q : Int32 → Wd → Prop}
theorem s15_2 {Q : Int32 → Wd → Prop} {v : Int32} {f : Int → Int32} (q : ∀ f, Q v (sB w 15 f)) (g : Int → Int32) : Q v (sB (sB w 15 f) 15 g) := by rw [sB_sB]; exact q g
theorem x_most (H : HX c h w) {v : Int} (hv : VR v) (q : ∀ f, Q (iz (o_most c h v)) (sB w 15 f)) : wp_X1_most (iz v) w Q := by
  unfold wp_X1_most
  unfold o_most at q
  have a := H.hs.1; have a2 := H.hs.2.1
  refine x_in hv (by decide) (by decide) (fun p1 p2 => u1 ?_) (fun p => u0 ?_)
  · rw [if_pos ⟨p1, p2⟩] at q
    generalize hF : (fun b => if v = 0 then hb h b 2 else valO c h b) = F at q
    refine lpe (fun n (s3 : Int32 × Int32 × Wd) => lp_X1_most_15 Q (iz v) n s3.1 s3.2.1 s3.2.2) (fun R s3 => wl_X1_most_15 Q (iz v) (fun x y z => R (x, y, z)) s3.1 s3.2.1 s3.2.2) (fun _ _ h => h) (fun i s3 => 0 ≤ i ∧ ∃ f, s3 = (iz (bst F i.toNat), iz i, sB w 15 f)) (hn h) 0 (iz (-1), iz 0, w) a ⟨by decide, gA w 15, by rw [sB_self]; rfl⟩ ?_
    rintro R _ i hi ⟨hi0, f, rfl⟩ kk
    have H1 := H.s15 f
    refine x_boxMany H1 (br (iz_le (by omega) (by omega) (by omega) (by omega)) (fun e => ?_) (fun e => ?_))
    · obtain rfl : i = hn h := by omega
      exact q f
    · have bb := bst_bd F i.toNat
      have kk := kk (by omega)
      have es : bst F (i + 1).toNat = if bst F i.toNat = -1 then i else if F (bst F i.toNat) < F i then i else bst F i.toNat := by
        rw [show (i + 1).toNat = i.toNat + 1 by omega, bst, Int.toNat_of_nonneg hi0]
      have vb := fun (b : Int) (h1 : 0 ≤ b) (h2 : b < hn h) => val_bd H.cf H.hs (more := 0) (below := hn h - 1 - b) h1 h2
      have gb := fun (b : Int) (h1 : 0 ≤ b) (h2 : b < hn h) => H.hs.2.2.2.2.2.2.2 b h1 h2
      have gi := gb i hi0 (by omega); have vi := vb i hi0 (by omega)
      have fin : ∀ f', b_X1_most_41 Q (fun x y z => R (x, y, z)) (iz v) (iz (bst F i.toNat)) (iz i) (iz (F i)) (sB w 15 f') := by
        intro f'
        refine br (iz_eq (by omega) (by omega) (by decide) (by decide)) (fun e1 => ?_) (fun e1 => brn (iz_eq hv.1 hv.2 (by decide) (by decide)) (fun e2 => ?_) (fun e2 => ?_))
        · rw [if_pos e1] at es
          exact kk _ ⟨by omega, f', by rw [es, iz_add]⟩
        · rw [if_neg e1] at es
          have gi2 := gb (bst F i.toNat) (by omega) (by omega); have vi2 := vb (bst F i.toNat) (by omega) (by omega)
          refine x_valueOf (H.s15 f') (by omega) (by omega) (fun f2 => ?_)
          rw [sB_sB]
          have eF : F (bst F i.toNat) = valO c h (bst F i.toNat) := by rw [← hF]; simp only [if_neg e2]
          have eF2 : F i = valO c h i := by rw [← hF]; simp only [if_neg e2]
          rw [eF, eF2] at es
          rw [eF2]
          unfold valO at es ⊢
          refine br (iz_le (by omega) (by omega) (by omega) (by omega)) (fun e3 => ?_) (fun e3 => ?_)
          · rw [if_neg (by omega)] at es
            exact kk _ ⟨by omega, f2, by rw [es, iz_add]⟩
          · rw [if_pos (by omega)] at es
            exact kk _ ⟨by omega, f2, by rw [es, iz_add]⟩
        · rw [if_neg e1] at es
          have gi2 := gb (bst F i.toNat) (by omega) (by omega)
          refine x_of (H.s15 f') (by omega) (by omega) (by decide) (by decide) ?_
          have eF : F (bst F i.toNat) = hb h (bst F i.toNat) 2 := by rw [← hF]; simp only [if_pos e2]
          have eF2 : F i = hb h i 2 := by rw [← hF]; simp only [if_pos e2]
          rw [eF, eF2] at es
          rw [eF2]
          refine br (iz_le (by omega) (by omega) (by omega) (by omega)) (fun e3 => ?_) (fun e3 => ?_)
          · rw [if_neg (by omega)] at es
            exact kk _ ⟨by omega, f', by rw [es, iz_add]⟩
          · rw [if_pos (by omega)] at es
            exact kk _ ⟨by omega, f', by rw [es, iz_add]⟩
      refine brn (iz_eq hv.1 hv.2 (by decide) (by decide)) (fun e2 => ?_) (fun e2 => ?_)
      · refine x_valueOf H1 hi0 (by omega) (fun f2 => ?_)
        rw [sB_sB]
        have := fin f2
        rwa [show F i = valO c h i by rw [← hF]; simp only [if_neg e2]] at this
      · refine x_of H1 hi0 (by omega) (by decide) (by decide) ?_
        have := fin f
        rwa [show F i = hb h i 2 by rw [← hF]; simp only [if_pos e2]] at this
  · rw [if_neg (by omega)] at q
    have := q (gA w 15)
    rwa [sB_self] at this
theorem x_spoilt (H : HX c h w) (q : ∀ f, Q (if 0 < cK c then spt c h else iz (-1)) (sB w 15 f)) : wp_X1_spoilt w Q := by
  unfold wp_X1_spoilt
  have a := H.hs.1; have a2 := H.hs.2.1
  refine x_isHouse H (fun e => u1 ?_) (fun e => u0 ?_)
  · rw [if_pos e] at q
    refine lpe (fun n (s3 : Int32 × Int32 × Wd) => lp_X1_spoilt_13 Q n s3.1 s3.2.1 s3.2.2) (fun R s3 => wl_X1_spoilt_13 Q (fun x y z => R (x, y, z)) s3.1 s3.2.1 s3.2.2) (fun _ _ h => h) (fun i s3 => 0 ≤ i ∧ ∃ f, s3 = (bts (fun b => valO c h b = 0) i, iz i, sB w 15 f)) (hn h) 0 (iz 0, iz 0, w) a ⟨by decide, gA w 15, by rw [sB_self]; rfl⟩ ?_
    rintro R _ i hi ⟨hi0, f, rfl⟩ kk
    have H1 := H.s15 f
    refine x_boxMany H1 (br (iz_le (by omega) (by omega) (by omega) (by omega)) (fun e => ?_) (fun e => ?_))
    · obtain rfl : i = hn h := by omega
      exact q f
    · have vi := val_bd H.cf H.hs (more := 0) (below := hn h - 1 - i) hi0 (show i < hn h by omega)
      refine x_valueOf H1 hi0 (by omega) (fun f2 => ?_)
      rw [sB_sB]
      refine brn (iz_eq (by unfold valO; omega) (by unfold valO; omega) (by decide) (by decide)) (fun e2 => kk (by omega) _ ⟨by omega, f2, ?_⟩) (fun e2 => kk (by omega) _ ⟨by omega, f2, ?_⟩)
      · rw [bts_f _ hi0 e2, iz_add]
      · rw [bts_t _ hi0 e2, iz_add]
  · rw [if_neg (by omega)] at q
    have := q (gA w 15)
    rwa [sB_self] at this
theorem x_buried (H : HX c h w) {b : Int} (hv : VR b) (q : Q (iz (o_buried h b)) w) : wp_X1_buried (iz b) w Q := by
  unfold wp_X1_buried
  unfold o_buried at q
  have a := H.hs.1; have a2 := H.hs.2.1
  refine x_isBox H hv (fun e1 e2 => t1 ?_) (fun e => t0 ?_)
  · rw [if_pos ⟨e1, e2⟩] at q
    have p := pow_bd e1 (show b < 9 by omega)
    simp only [shlI e1 (show b < 9 by omega), iz_sub]
    refine x_portionsOf H (by omega) (by omega) ?_
    rw [psum_low e1 (by omega) _ a a2, sm_cut (fun a => hb h a 1) e1 (by omega)]
    exact q
  · rw [if_neg e] at q
    exact q
theorem x_goes (H : HX c h w) {k : Int} (hk : VR k) (q : Q (if 0 ≤ k ∧ k < cK c then gosO c k else iz (-1)) w) : wp_X1_goes (iz k) w Q := by
  unfold wp_X1_goes
  have a := H.cf.1; have a2 := H.cf.2.1
  refine x_isKind H hk (fun e1 e2 => u1 ?_) (fun e => u0 ?_)
  · rw [if_pos ⟨e1, e2⟩] at q
    refine lpe (fun n (s3 : Int32 × Int32 × Wd) => lp_X1_goes_14 Q (iz k) n s3.1 s3.2.1 s3.2.2) (fun R s3 => wl_X1_goes_14 Q (iz k) (fun x y z => R (x, y, z)) s3.1 s3.2.1 s3.2.2) (fun _ _ h => h) (fun i s3 => 0 ≤ i ∧ s3 = (bts (fun o => k = o ∨ kgo c k = o ∨ kgo c o = k) i, iz i, w)) (cK c) 0 (iz 0, iz 0, w) a ⟨by decide, rfl⟩ ?_
    rintro R _ i hi ⟨hi0, rfl⟩ kk
    unfold wl_X1_goes_14
    rw [H.2.2.1]
    refine br (iz_le (by omega) (by omega) (by omega) (by omega)) (fun e => ?_) (fun e => ?_)
    · obtain rfl : i = cK c := by omega
      exact q
    · refine x_isWith H e1 e2 hi0 (by omega) (fun t => t1 (kk (by omega) _ ⟨by omega, ?_⟩)) (fun t => t0 (kk (by omega) _ ⟨by omega, ?_⟩))
      · rw [bts_t (fun o => k = o ∨ kgo c k = o ∨ kgo c o = k) hi0 t, iz_add]
      · rw [bts_f (fun o => k = o ∨ kgo c k = o ∨ kgo c o = k) hi0 t, iz_add]
  · rw [if_neg e] at q
    exact q
theorem x_soonest (H : HX c h w) {b : Int} (hv : VR b) (q : ∀ f, Q (iz (o_soonest c h b)) (sB w 15 f)) : wp_X1_soonest (iz b) w Q := by
  unfold wp_X1_soonest
  unfold o_soonest at q
  have a := H.hs.1; have a2 := H.hs.2.1
  refine x_isBox H hv (fun e1 e2 => u1 ?_) (fun e => u0 ?_)
  · rw [if_pos ⟨e1, e2⟩] at q
    generalize hP : (fun n => decide (val c h b n (hn h - 1 - b) = 0)) = P at q
    refine lpe (fun n (s3 : Int32 × Wd) => lp_X1_soonest_12 Q (iz b) n s3.1 s3.2) (fun R s3 => wl_X1_soonest_12 Q (iz b) (fun x z => R (x, z)) s3.1 s3.2) (fun _ _ h => h) (fun i s3 => 0 ≤ i ∧ ∃ f, s3 = (iz i, sB w 15 f) ∧ fstN P (100 - i).toNat i = fstN P 100 0) 100 0 (iz 0, w) (by decide) ⟨by decide, gA w 15, by rw [sB_self], rfl⟩ ?_
    rintro R _ i hi ⟨hi0, f, rfl, er⟩ kk
    have H1 := H.s15 f
    refine br (iz_lt (by omega) (by omega) (by omega) (by omega)) (fun e => ?_) (fun e => ?_)
    · obtain rfl : i = 100 := by omega
      have er : (-1 : Int) = _ := er
      rw [er]
      exact q f
    · have vi := val_bd H.cf H.hs (more := i) (below := hn h - 1 - b) e1 e2
      rw [show (100 - i).toNat = (100 - (i + 1)).toNat + 1 by omega, fstN] at er
      refine x_turned H1 (x_valueAt H1 e1 e2 hi0 (by omega) (fun f2 => ?_))
      rw [sB_sB]
      refine brn (iz_eq (by omega) (by omega) (by decide) (by decide)) (fun e3 => kk (by omega) _ ⟨by omega, f2, ?_, ?_⟩) (fun e3 => ?_)
      · rw [iz_add]
      · rw [if_neg (by rw [← hP]; simpa using e3)] at er
        exact er
      · rw [if_pos (by rw [← hP]; simpa using e3)] at er
        rw [er]
        exact q f2
  · rw [if_neg e] at q
    have := q (gA w 15)
    rwa [sB_self] at this
theorem x_monthly (H : HX c h w) {n : Int} (hv : VR n) (q : ∀ f, Q (iz (o_monthly c h n)) (sB w 15 f)) : wp_X1_monthly (iz n) w Q := by
  unfold wp_X1_monthly
  unfold o_monthly at q
  have a := H.hs.1; have a2 := H.hs.2.1
  refine x_isHouse H (fun e => t1 (x_in hv (by decide) (by decide) (fun p1 p2 => u1 ?_) (fun p => u0 ?_))) (fun e => t0 ?_)
  · rw [if_pos ⟨e, p1, p2⟩] at q
    refine lpe (fun m (s3 : Int32 × Int32 × Wd) => lp_X1_monthly_23 Q (iz n) m s3.1 s3.2.1 s3.2.2) (fun R s3 => wl_X1_monthly_23 Q (iz n) (fun x y z => R (x, y, z)) s3.1 s3.2.1 s3.2.2) (fun _ _ h => h) (fun i s3 => 0 ≤ i ∧ ∃ f, s3 = (iz (sm (fun b => val c h b n (hn h - 1 - b)) i), iz i, sB w 15 f)) (hn h) 0 (iz 0, iz 0, w) a ⟨by decide, gA w 15, by rw [sB_self]; rfl⟩ ?_
    rintro R _ i hi ⟨hi0, f, rfl⟩ kk
    have H1 := H.s15 f
    refine x_boxMany H1 (br (iz_le (by omega) (by omega) (by omega) (by omega)) (fun e => ?_) (fun e => ?_))
    · obtain rfl : i = hn h := by omega
      exact q f
    · refine x_turned H1 (x_valueAt H1 hi0 (by omega) p1 (by omega) (fun f2 => ?_))
      rw [sB_sB]
      refine kk (by omega) _ ⟨by omega, f2, ?_⟩
      rw [iz_add, iz_add, sm_s _ hi0]
  · rw [if_neg (by omega)] at q
    have := q (gA w 15)
    rwa [sB_self] at this
  · rw [if_neg (by omega)] at q
    have := q (gA w 15)
    rwa [sB_self] at this
theorem x_valueAll (H : HX c h w) (q : ∀ f, Q (iz (vsum c h (hn h))) (sB w 15 f)) : wp_X1_valueAll w Q := by
  have a := H.hs.1; have a2 := H.hs.2.1
  refine lpe (fun m (s3 : Int32 × Int32 × Wd) => lp_X1_valueAll_4 Q m s3.1 s3.2.1 s3.2.2) (fun R s3 => wl_X1_valueAll_4 Q (fun x y z => R (x, y, z)) s3.1 s3.2.1 s3.2.2) (fun _ _ h => h) (fun i s3 => 0 ≤ i ∧ ∃ f, s3 = (iz (vsum c h i), iz i, sB w 15 f)) (hn h) 0 (iz 0, iz 0, w) a ⟨by decide, gA w 15, by rw [sB_self]; rfl⟩ ?_
  rintro R _ i hi ⟨hi0, f, rfl⟩ kk
  have H1 := H.s15 f
  refine x_boxMany H1 (br (iz_le (by omega) (by omega) (by omega) (by omega)) (fun e => ?_) (fun e => ?_))
  · obtain rfl : i = hn h := by omega
    exact q f
  · refine x_valueOf H1 hi0 (by omega) (fun f2 => ?_)
    rw [sB_sB]
    refine kk (by omega) _ ⟨by omega, f2, ?_⟩
    unfold vsum
    rw [iz_add, iz_add, sm_s _ hi0]
theorem x_make (H : HX c h w) {k v : Int} (hk : VR k) (hv : VR v) (q : Q (iz (o_make c k v)) w) : wp_X1_make (iz k) (iz v) w Q := by
  unfold wp_X1_make
  unfold o_make at q
  refine x_isKind H hk (fun e1 e2 => t1 (x_in hv (by decide) (by decide) (fun p1 p2 => t1 ?_) (fun p => t0 ?_))) (fun e => t0 ?_)
  · have g := H.cf.2.2.2.1 k e1 e2
    have md := Int.emod_nonneg v (show cD c (5 * k + 1) ≠ 0 by omega)
    have md2 := Int.emod_lt_of_pos v (show 0 < cD c (5 * k + 1) by omega)
    have dl := Int.ediv_le_self (cD c (5 * k + 1)) (show 0 ≤ v by omega)
    have dn := Int.ediv_nonneg (show 0 ≤ v by omega) (show 0 ≤ cD c (5 * k + 1) by omega)
    refine x_ofKind H e1 e2 (by decide) (by decide) ⟨iz_ne0 (by omega) (by omega) (by omega), ?_⟩
    rw [iz_rem (by omega) (by omega) (by omega) (by omega)]
    refine brn (iz_eq (by omega) (by omega) (by decide) (by decide)) (fun e3 => ?_) (fun e3 => ?_)
    · rw [if_neg (fun x => e3 x.2.2.2.2.1)] at q
      exact q
    · refine x_ofKind H e1 e2 (by decide) (by decide) ⟨iz_ne0 (by omega) (by omega) (by omega), ?_⟩
      rw [iz_div (by omega) (by omega) (by omega) (by omega)]
      refine br (iz_le (by omega) (by omega) (by decide) (by decide)) (fun e4 => ?_) (fun e4 => ?_)
      · rw [if_pos ⟨e1, e2, p1, p2, e3, e4⟩] at q
        refine x_ofKind H e1 e2 (by decide) (by decide) ⟨iz_ne0 (by omega) (by omega) (by omega), ?_⟩
        rw [iz_div (by omega) (by omega) (by omega) (by omega)]
        exact q
      · rw [if_neg (fun x => e4 x.2.2.2.2.2)] at q
        exact q
  · rw [if_neg (by omega)] at q
    exact q
  · rw [if_neg (by omega)] at q
    exact q
theorem x_full (H : HX c h w) {n : Int} (hv : VR n) (q : Q (iz (o_full c n)) w) : wp_X1_full (iz n) w Q := by
  unfold wp_X1_full
  unfold o_full at q
  refine x_isOff H hv (fun e p1 p2 => u1 ?_) (fun e => u0 ?_)
  · rw [if_pos ⟨e, p1, p2⟩] at q
    have r := H.cf.2.2.1 e
    generalize hP : (fun p => decide (n ≤ cR c 1 * p / cR c 0)) = P at q
    refine lpe (fun m (s3 : Int32 × Wd) => lp_X1_full_12 Q (iz n) m s3.1 s3.2) (fun R s3 => wl_X1_full_12 Q (iz n) (fun x z => R (x, z)) s3.1 s3.2) (fun _ _ h => h) (fun i s3 => 0 ≤ i ∧ s3 = (iz i, w) ∧ fstN P (cR c 0 + 1 - i).toNat i = fstN P (cR c 0 + 1).toNat 0) (cR c 0 + 1) 0 (iz 0, w) (by omega) ⟨by decide, rfl, by rw [Int.sub_zero]⟩ ?_
    rintro R _ i hi ⟨hi0, rfl, er⟩ kk
    refine ⟨iz_inb (by decide) (by decide) (by decide), ?_⟩
    rw [iz_toInt (by decide) (by decide), iz_toInt (by decide) (by decide), H.2.2.2.1 0 (by decide) (by decide), H.2.2.2.1 1 (by decide) (by decide)]
    refine br (iz_lt (by omega) (by omega) (by omega) (by omega)) (fun e2 => ?_) (fun e2 => ?_)
    · obtain rfl : i = cR c 0 + 1 := by omega
      rw [Int.sub_self] at er
      have er : (-1 : Int) = _ := er
      rw [er]
      exact q
    · have t := tm_bd H.cf e hi0 (show i ≤ 99 by omega)
      refine ⟨iz_inb (by decide) (by decide) (by decide), iz_inb (by decide) (by decide) (by decide), iz_ne0 (by omega) (by omega) (by omega), ?_⟩
      rw [iz_mul, iz_div (by omega) (by omega) (by omega) (by omega)]
      rw [show (cR c 0 + 1 - i).toNat = (cR c 0 + 1 - (i + 1)).toNat + 1 by omega, fstN] at er
      refine br (iz_lt (by omega) (by omega) (by omega) (by omega)) (fun e3 => kk (by omega) _ ⟨by omega, by rw [iz_add], ?_⟩) (fun e3 => ?_)
      · rw [if_neg (by rw [← hP]; simpa using e3)] at er
        exact er
      · rw [if_pos (by rw [← hP]; simpa using e3)] at er
        rw [er]
        exact q
  · rw [if_neg e] at q
    exact q
theorem x_labelsOf (H : HX c h w) {x y : Int} (h1 : 0 ≤ x ∧ x ≤ 1) (h2 : 0 ≤ y ∧ y ≤ 1) (q : Q (lbO h x y) w) : wp_X1_labelsOf (iz x) (iz y) w Q := by
  unfold wp_X1_labelsOf
  unfold lbO at q
  refine br (iz_eq (by omega) (by omega) (by decide) (by decide)) (fun e => ?_) (fun e => brn (iz_eq (by omega) (by omega) (by decide) (by decide)) (fun e2 => ?_) (fun e2 => ?_))
  · rw [if_pos (Or.inl e)] at q
    exact x_namelessNow H (s_bc q)
  · rw [if_neg (by omega)] at q
    exact q
  · rw [if_pos (Or.inr e2)] at q
    exact x_namelessNow H (s_bc q)
theorem x_labels (H : HX c h w) {x y : Int} (h1 : VR x) (h2 : VR y) (q : Q (o_labels c h x y) w) : wp_X1_labels (iz x) (iz y) w Q := by
  unfold wp_X1_labels
  unfold o_labels at q
  refine x_isHouse H (fun e => t1 (x_in h1 (by decide) (by decide) (fun p1 p2 => t1 (x_in h2 (by decide) (by decide) (fun p3 p4 => t1 ?_) (fun p => t0 ?_))) (fun p => t0 ?_))) (fun e => t0 ?_)
  · rw [if_pos ⟨e, p1, p2, p3, p4⟩] at q
    exact x_labelsOf H ⟨p1, p2⟩ ⟨p3, p4⟩ q
  · rw [if_neg (by omega)] at q
    exact q
  · rw [if_neg (by omega)] at q
    exact q
  · rw [if_neg (by omega)] at q
    exact q
end XQ3
