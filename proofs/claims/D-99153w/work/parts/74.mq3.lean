/-! the model's questions, on -/
section MQ3
variable {c : Cf} {lm : Int} {h : Hs} {w w' : Wd} {Q : Int32 → Wd → Prop}
theorem m_doubles (H : HM c lm w) (G : MH c 90 h w) {i : Int} (hv : VR i) (q : ∀ w', MS c lm w w' → Q (iz (o_doubles c h i)) w') : wp_X3_doubles (iz i) w Q := by
  unfold wp_X3_doubles
  rintro w1 rfl
  have M1 := m_thr H (iz 0)
  have q := q _ M1
  have H := H.ms M1
  have G := G.ms M90 M1
  generalize sI w 60 (iz 0) = w at q H G ⊢
  have k0 := H.1.1; have k6 := H.1.2.1
  unfold o_doubles at q
  have a := G.1.1; have a2 := G.1.2.1
  refine br (K0 H) (fun e => ?_) (fun e => br (iz_le (by decide) (by decide) hv.1 hv.2) (fun e2 => ?_) (fun e2 => ?_))
  · rw [if_neg (by omega)] at q
    exact q
  · rw [if_pos ⟨by omega, e2⟩] at q
    refine lpe (fun n (s3 : Int32 × Int32 × Wd) => lp_X3_doubles_23 Q (iz i) n s3.1 s3.2.1 s3.2.2) (fun R s3 => wl_X3_doubles_23 Q (iz i) (fun x y z => R (x, y, z)) s3.1 s3.2.1 s3.2.2) (fun _ _ h => h) (fun j s3 => ∃ n, 0 ≤ j ∧ 0 ≤ n ∧ n ≤ 8 * j ∧ s3 = (iz n, iz j, w) ∧ dOut (dbO c h) i (hn h) (hn h - j).toNat j n = dOut (dbO c h) i (hn h) (hn h).toNat 0 0) (hn h) 0 (iz 0, iz 0, w) a ⟨0, by decide, by decide, by decide, rfl, by rw [Int.sub_zero]⟩ ?_
    rintro R _ j hj ⟨n, hj0, hn0, hn1, rfl, er⟩ kk
    refine ⟨in90 (by decide) (by decide), ?_⟩
    rw [iz_toInt (by decide) (by decide), G.n]
    refine br (iz_le (by omega) (by omega) (by omega) (by omega)) (fun e3 => ?_) (fun e3 => ?_)
    · obtain rfl : j = hn h := by omega
      rw [Int.sub_self] at er
      have er : (if i = -1 then n else -1) = _ := er
      rw [← er] at q
      refine brn (iz_eq hv.1 hv.2 (by decide) (by decide)) (fun e4 => ?_) (fun e4 => ?_)
      · rw [if_neg e4] at q; exact q
      · rw [if_pos e4] at q; exact q
    · rw [show (hn h - j).toNat = (hn h - (j + 1)).toNat + 1 by omega] at er
      rw [dOut] at er
      simp only [iz_add]
      refine lpe (fun n (s3 : Int32 × Int32 × Wd) => lp_X3_doubles_39 Q (fun x y z => R (x, y, z)) (iz i) (iz j) n s3.1 s3.2.1 s3.2.2) (fun R' s3 => wl_X3_doubles_39 Q (fun x y z => R (x, y, z)) (iz i) (iz j) (fun x y z => R' (x, y, z)) s3.1 s3.2.1 s3.2.2) (fun _ _ h => h) (fun b s3 => ∃ m, j + 1 ≤ b ∧ n ≤ m ∧ m ≤ n + (b - (j + 1)) ∧ s3 = (iz m, iz b, w) ∧ dIn (dbO c h) i j (hn h - b).toNat b m = dIn (dbO c h) i j (hn h - (j + 1)).toNat (j + 1) n) (hn h) (j + 1) (iz n, iz (j + 1), w) (by omega) ⟨n, by omega, by omega, by omega, rfl, rfl⟩ ?_
      rintro R' _ b hb1 ⟨m, hb0, hm0, hm1, rfl, er2⟩ kk2
      refine ⟨in90 (by decide) (by decide), ?_⟩
      rw [iz_toInt (by decide) (by decide), G.n]
      refine br (iz_le (by omega) (by omega) (by omega) (by omega)) (fun e4 => ?_) (fun e4 => ?_)
      · obtain rfl : b = hn h := by omega
        rw [Int.sub_self] at er2
        have er2 : Sum.inr m = _ := er2
        rw [← er2] at er
        simp only [iz_add]
        exact kk (by omega) _ ⟨m, by omega, by omega, by omega, rfl, er⟩
      · rw [show (hn h - b).toNat = (hn h - (b + 1)).toNat + 1 by omega, dIn] at er2
        have gj := G.1.2.2.2.2.2.2.2 j hj0 (by omega)
        have gb := G.1.2.2.2.2.2.2.2 b (by omega) (by omega)
        have dj := H.1.2.2.2.1 (hb h j 0) (by omega) (by omega)
        have db := H.1.2.2.2.1 (hb h b 0) (by omega) (by omega)
        have wj := mul_bd (a := hb h j 1) (b := cD c (5 * hb h j 0 + 1)) (m := 9) (n := 9) (by omega) (by omega) (by omega) (by omega)
        have wb := mul_bd (a := hb h b 1) (b := cD c (5 * hb h b 0 + 1)) (m := 9) (n := 9) (by omega) (by omega) (by omega) (by omega)
        have no : dbO c h j b = false → R' (iz m, iz (b + 1), w) := fun t => by
          rw [if_neg (by rw [t]; decide)] at er2
          exact kk2 (by omega) _ ⟨m, by omega, by omega, by omega, rfl, er2⟩
        unfold dbO at no
        simp only [iz_add]
        refine m_isNameless G hj0 (by omega) (fun t1' => t1 (m_isNameless G (by omega) (by omega) (fun t2' => t1 ?_) (fun t2' => t0 (no ?_)))) (fun t1' => t0 (no ?_))
        · refine m_kindIn G hj0 (by omega) (m_told H (by omega) (by omega) (by decide) (by decide) (m_kindIn G (by omega) (by omega) (m_told H (by omega) (by omega) (by decide) (by decide) ?_)))
          rw [Int.add_zero, Int.add_zero]
          refine brn (iz_eq (by omega) (by omega) (by omega) (by omega)) (fun e5 => no ?_) (fun e5 => m_weightOf H M90 G hj0 (by omega) (m_weightOf H M90 G (by omega) (by omega) ?_))
          · rw [decide_eq_false_iff_not]
            exact fun z => e5 z.2.2.2
          · refine br (iz_eq (by omega) (by omega) (by omega) (by omega)) (fun e6 => ?_) (fun e6 => no ?_)
            · rw [if_pos (by unfold dbO; rw [decide_eq_true_iff]; exact ⟨t1', t2', e6, e5⟩)] at er2
              refine brn (iz_eq (by omega) (by omega) hv.1 hv.2) (fun e7 => ?_) (fun e7 => ?_)
              · rw [if_neg e7] at er2
                exact kk2 (by omega) _ ⟨m + 1, by omega, by omega, by omega, rfl, er2⟩
              · rw [if_pos e7] at er2
                rw [← er2] at er
                simp only [iz_mul, iz_add]
                rw [← er] at q
                exact q
            · rw [decide_eq_false_iff_not]
              exact fun z => e6 z.2.2.1
        · rw [decide_eq_false_iff_not]
          exact fun z => by have := z.2.1; omega
        · rw [decide_eq_false_iff_not]
          exact fun z => by have := z.1; omega
  · rw [if_neg (by omega)] at q
    exact q
theorem m_most (H : HM c lm w) (G : MH c 90 h w) {v : Int} (hv : VR v) (q : ∀ w', MS c lm w w' → Q (iz (o_most c h v)) w') : wp_X3_most (iz v) w Q := by
  unfold wp_X3_most
  rintro w1 rfl
  have M1 := m_thr H (iz 0)
  have q := fun w' M => q w' (M1.trans M)
  have H := H.ms M1
  have G := G.ms M90 M1
  generalize sI w 60 (iz 0) = w at q H G ⊢
  have k0 := H.1.1
  have a := G.1.1; have a2 := G.1.2.1
  have z := G.1.2.2.2.2.2.2.1
  unfold o_most at q
  have q0 := q w H.self
  refine br (K0 H) (fun e => ?_) (fun e => m_isIn hv (by decide) (by decide) (fun p1 p2 => t1 ⟨in90 (by decide) (by decide), ?_⟩) (fun p => t0 ?_))
  · rw [z e] at q0
    have : (if 0 ≤ v ∧ v ≤ 1 then bst (fun b => if v = 0 then hb h b 2 else valO c h b) (0 : Int).toNat else -1) = -1 := by
      split
      · rfl
      · rfl
    rw [this] at q0
    exact q0
  · rw [iz_toInt (by decide) (by decide), G.n]
    simp only [if_pos (And.intro p1 p2)] at q
    generalize hF : (fun b => if v = 0 then hb h b 2 else valO c h b) = F at q
    clear q0
    have b1 : bst F (1 : Int).toNat = 0 := by rw [show (1 : Int).toNat = 0 + 1 by decide, bst, bst, if_pos rfl]; rfl
    refine brn (iz_eq (by omega) (by omega) (by decide) (by decide)) (fun e2 => ?_) (fun e2 => ?_)
    · refine lpe (fun n (s3 : Int32 × Int32 × Wd) => lp_X3_most_38 Q (iz v) n s3.1 s3.2.1 s3.2.2) (fun R s3 => wl_X3_most_38 Q (iz v) (fun x y z => R (x, y, z)) s3.1 s3.2.1 s3.2.2) (fun _ _ h => h) (fun i s3 => 1 ≤ i ∧ 0 ≤ bst F i.toNat ∧ ∃ w', s3 = (iz (bst F i.toNat), iz i, w') ∧ MS c lm w w') (hn h) 1 (iz 0, iz 1, w) (by omega) ⟨by decide, by rw [b1]; decide, w, by rw [b1], H.self⟩ ?_
      · rintro R _ i hi ⟨hi0, b0, w', rfl, M⟩ kk
        have H' := H.ms M
        have G' := G.ms M90 M
        refine ⟨in90 (by decide) (by decide), ?_⟩
        rw [iz_toInt (by decide) (by decide), G'.n]
        refine br (iz_le (by omega) (by omega) (by omega) (by omega)) (fun e => ?_) (fun e => ?_)
        · obtain rfl : i = hn h := by omega
          exact q w' M
        · have bb := bst_bd F i.toNat
          have kk := kk (by omega)
          have es : bst F (i + 1).toNat = if F (bst F i.toNat) < F i then i else bst F i.toNat := by
            rw [show (i + 1).toNat = i.toNat + 1 by omega, bst, if_neg (by omega), Int.toNat_of_nonneg (by omega)]
          have vb := fun (b : Int) (h1 : 0 ≤ b) (h2 : b < hn h) => val_bd H.1 G.1 (more := 0) (below := hn h - 1 - b) h1 h2
          have gb := fun (b : Int) (h1 : 0 ≤ b) (h2 : b < hn h) => G.1.2.2.2.2.2.2.2 b h1 h2
          refine brn (iz_eq hv.1 hv.2 (by decide) (by decide)) (fun e2 => ?_) (fun e2 => ?_)
          · have vi := vb i (by omega) (by omega)
            have vj := vb (bst F i.toNat) (by omega) (by omega)
            have eF : F (bst F i.toNat) = valO c h (bst F i.toNat) := by rw [← hF]; simp only [if_neg e2]
            have eF2 : F i = valO c h i := by rw [← hF]; simp only [if_neg e2]
            rw [eF, eF2] at es
            refine m_valueOf H' M90 G' (by omega) (by omega) (fun w2 M2 => m_valueOf (H'.ms M2) M90 (G'.ms M90 M2) b0 (by omega) (fun w4 M4 => ?_))
            unfold valO at es ⊢
            refine br (iz_le (by omega) (by omega) (by omega) (by omega)) (fun e3 => t0 ?_) (fun e3 => t1 ?_)
            · rw [if_neg (by omega)] at es
              exact kk _ ⟨by omega, by omega, w4, by rw [es, iz_add], M.trans (M2.trans M4)⟩
            · rw [if_pos (by omega)] at es
              exact kk _ ⟨by omega, by omega, w4, by rw [es, iz_add], M.trans (M2.trans M4)⟩
          · have gi := gb i (by omega) (by omega)
            have gj := gb (bst F i.toNat) (by omega) (by omega)
            have eF : F (bst F i.toNat) = hb h (bst F i.toNat) 2 := by rw [← hF]; simp only [if_pos e2]
            have eF2 : F i = hb h i 2 := by rw [← hF]; simp only [if_pos e2]
            rw [eF, eF2] at es
            rw [iz_mul 5 i, iz_mul 5 (bst F i.toNat), iz_add (5 * i) 2, iz_add (5 * bst F i.toNat) 2, iz_add i 1]
            refine ⟨in90 (by omega) (by omega), in90 (by omega) (by omega), ?_⟩
            rw [iz_toInt (by omega) (by omega), iz_toInt (by omega) (by omega), G'.v (by omega) (by omega) (by decide) (by decide), G'.v b0 (by omega) (by decide) (by decide)]
            refine br (iz_le (by omega) (by omega) (by omega) (by omega)) (fun e3 => t0 ?_) (fun e3 => t1 ?_)
            · rw [if_neg (by omega)] at es
              exact kk _ ⟨by omega, by omega, w', by rw [es], M⟩
            · rw [if_pos (by omega)] at es
              exact kk _ ⟨by omega, by omega, w', by rw [es], M⟩
    · have := q w H.self
      rw [e2] at this
      exact this
  · rw [if_neg (by omega)] at q0
    exact q0
theorem m_spoilt (H : HM c lm w) (G : MH c 90 h w) (q : ∀ w', MS c lm w w' → Q (if 0 < cK c then spt c h else iz (-1)) w') : wp_X3_spoilt w Q := by
  unfold wp_X3_spoilt
  rintro w1 rfl
  have M1 := m_thr H (iz 0)
  have q := fun w' M => q w' (M1.trans M)
  have H := H.ms M1
  have G := G.ms M90 M1
  generalize sI w 60 (iz 0) = w at q H G ⊢
  have k0 := H.1.1
  have a := G.1.1; have a2 := G.1.2.1
  refine brn (K0 H) (fun e => ?_) (fun e => ?_)
  · simp only [if_pos (show 0 < cK c by omega)] at q
    refine lpe (fun n (s3 : Int32 × Int32 × Wd) => lp_X3_spoilt_18 Q n s3.1 s3.2.1 s3.2.2) (fun R s3 => wl_X3_spoilt_18 Q (fun x y z => R (x, y, z)) s3.1 s3.2.1 s3.2.2) (fun _ _ h => h) (fun i s3 => 0 ≤ i ∧ ∃ w', s3 = (bts (fun b => valO c h b = 0) i, iz i, w') ∧ MS c lm w w') (hn h) 0 (iz 0, iz 0, w) a ⟨by decide, w, rfl, H.self⟩ ?_
    rintro R _ i hi ⟨hi0, w', rfl, M⟩ kk
    have G' := G.ms M90 M
    refine ⟨in90 (by decide) (by decide), ?_⟩
    rw [iz_toInt (by decide) (by decide), G'.n]
    refine br (iz_le (by omega) (by omega) (by omega) (by omega)) (fun e => ?_) (fun e => ?_)
    · obtain rfl : i = hn h := by omega
      exact q w' M
    · have vi := val_bd H.1 G.1 (more := 0) (below := hn h - 1 - i) hi0 (show i < hn h by omega)
      refine m_valueOf (H.ms M) M90 G' hi0 (by omega) (fun w2 M2 => ?_)
      rw [or0]
      refine brn (iz_eq (by unfold valO; omega) (by unfold valO; omega) (by decide) (by decide)) (fun e2 => kk (by omega) _ ⟨by omega, w2, ?_, M.trans M2⟩) (fun e2 => kk (by omega) _ ⟨by omega, w2, ?_, M.trans M2⟩)
      · rw [bts_f (fun b => valO c h b = 0) hi0 e2, iz_add]
      · rw [bts_t (fun b => valO c h b = 0) hi0 e2, iz_add]
  · have q := q w H.self
    rw [if_neg (by omega)] at q
    exact q
theorem m_buried (H : HM c lm w) (G : MH c 90 h w) {b : Int} (hv : VR b) (q : ∀ w', MS c lm w w' → Q (iz (o_buried h b)) w') : wp_X3_buried (iz b) w Q := by
  unfold wp_X3_buried
  rintro w1 rfl
  have M1 := m_thr H (iz 0)
  have q := q _ M1
  have H := H.ms M1
  have G := G.ms M90 M1
  generalize sI w 60 (iz 0) = w at q H G ⊢
  have a := G.1.1; have a2 := G.1.2.1
  unfold o_buried at q
  refine m_isBox H M90 G hv (fun e1 e2 => u1 ?_) (fun e => u0 ?_)
  · rw [if_pos ⟨e1, e2⟩] at q
    refine lpe (fun n (s3 : Int32 × Int32 × Wd) => lp_X3_buried_23 Q (iz b) n s3.1 s3.2.1 s3.2.2) (fun R s3 => wl_X3_buried_23 Q (iz b) (fun x y z => R (x, y, z)) s3.1 s3.2.1 s3.2.2) (fun _ _ h => h) (fun i s3 => 0 ≤ i ∧ s3 = (iz (sm (fun a => hb h a 1) i), iz i, w)) b 0 (iz 0, iz 0, w) e1 ⟨by decide, rfl⟩ ?_
    rintro R _ i hi ⟨hi0, rfl⟩ k
    refine br (iz_le (by omega) (by omega) (by omega) (by omega)) (fun e => ?_) (fun e => ?_)
    · obtain rfl : i = b := by omega
      exact q
    · simp only [iz_mul, iz_add]
      refine ⟨in90 (by omega) (by omega), ?_⟩
      rw [iz_toInt (by omega) (by omega), G.v hi0 (by omega) (by decide) (by decide), iz_add]
      exact k (by omega) _ ⟨by omega, by rw [sm_s _ hi0]⟩
  · rw [if_neg e] at q
    exact q
theorem m_goes (H : HM c lm w) {k : Int} (hk : VR k) (q : ∀ w', MS c lm w w' → Q (if 0 ≤ k ∧ k < cK c then gosO c k else iz (-1)) w') : wp_X3_goes (iz k) w Q := by
  unfold wp_X3_goes
  rintro w1 rfl
  have M1 := m_thr H (iz 0)
  have q := q _ M1
  have H := H.ms M1
  generalize sI w 60 (iz 0) = w at q H ⊢
  have a := H.1.1; have a2 := H.1.2.1
  refine m_isKind H hk (fun e1 e2 => u1 ?_) (fun e => u0 ?_)
  · rw [if_pos ⟨e1, e2⟩] at q
    refine lpe (fun n (s3 : Int32 × Int32 × Wd) => lp_X3_goes_19 Q (iz k) n s3.1 s3.2.1 s3.2.2) (fun R s3 => wl_X3_goes_19 Q (iz k) (fun x y z => R (x, y, z)) s3.1 s3.2.1 s3.2.2) (fun _ _ h => h) (fun i s3 => 0 ≤ i ∧ s3 = (bts (fun o => k = o ∨ kgo c k = o ∨ kgo c o = k) i, iz i, w)) (cK c) 0 (iz 0, iz 0, w) a ⟨by decide, rfl⟩ ?_
    rintro R _ i hi ⟨hi0, rfl⟩ kk
    unfold wl_X3_goes_19
    rw [H.2.1]
    refine br (iz_le (by omega) (by omega) (by omega) (by omega)) (fun e => ?_) (fun e => ?_)
    · obtain rfl : i = cK c := by omega
      exact q
    · refine m_fit H hi0 (by omega) e1 e2 (fun t => t1 (kk (by omega) _ ⟨by omega, ?_⟩)) (fun t => t0 ?_)
      · unfold kwith at t
        rw [bts_t (fun o => k = o ∨ kgo c k = o ∨ kgo c o = k) hi0 (by omega), iz_add]
      · rw [or0]
        unfold kwith at t
        exact kk (by omega) _ ⟨by omega, by rw [bts_f (fun o => k = o ∨ kgo c k = o ∨ kgo c o = k) hi0 (by omega), iz_add]⟩
  · rw [if_neg e] at q
    exact q
end MQ3
