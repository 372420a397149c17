/-! the model's questions, on -/
section MQ2
variable {c : Cf} {lm : Int} {h : Hs} {w w' : Wd} {Q : Int32 → Wd → Prop}
theorem K0 (H : HM c lm w) : gI w 85 = iz 0 ↔ cK c = 0 := by
  have a := H.1.1; have a2 := H.1.2.1
  rw [H.2.1]
  exact iz_eq (by omega) (by omega) (by decide) (by decide)
theorem KL (H : HM c lm w) : gI w 85 ≤ iz 0 ↔ cK c = 0 := by
  have a := H.1.1; have a2 := H.1.2.1
  rw [H.2.1, iz_le (by omega) (by omega) (by decide) (by decide)]
  omega
theorem in90 {i : Int} (h1 : 0 ≤ i) (h2 : i < 283) : inb (iz i) 283 := iz_inb (by omega) (by omega) (by omega)
theorem m_rule (H : HM c lm w) {v : Int} (hv : VR v) (q : ∀ w', MS c lm w w' → Q (iz (o_rule c v)) w') : wp_X3_rule (iz v) w Q := by
  unfold wp_X3_rule
  rintro w1 rfl
  have M1 := m_thr H (iz 0)
  have q := q _ M1
  have H := H.ms M1
  have a := H.1.1; have a2 := H.1.2.1
  unfold o_rule at q
  refine br (KL H) (fun e => ?_) (fun e => m_isIn hv (by decide) (by decide) (fun p1 p2 => t1 ⟨iz_inb (by omega) (by omega) (by omega), ?_⟩) (fun p => t0 ?_))
  · rw [if_neg (by omega)] at q
    exact q
  · rw [if_pos ⟨by omega, p1, p2⟩] at q
    rw [iz_toInt (by omega) (by omega), H.2.2.1 v (by omega) (by omega)]
    exact q
  · rw [if_neg (by omega)] at q
    exact q
theorem m_kind (H : HM c lm w) {k v : Int} (hk : VR k) (hv : VR v) (q : ∀ w', MS c lm w w' → Q (iz (o_kind c k v)) w') : wp_X3_kind (iz k) (iz v) w Q := by
  unfold wp_X3_kind
  rintro w1 rfl
  have M1 := m_thr H (iz 0)
  have q := q _ M1
  have H := H.ms M1
  have a := H.1.1; have a2 := H.1.2.1
  unfold o_kind at q
  refine m_isKind H hk (fun e1 e2 => t1 (m_isIn hv (by decide) (by decide) (fun p1 p2 => u1 ?_) (fun p => u0 ?_))) (fun p => t0 ?_)
  · rw [if_pos ⟨e1, e2, p1, p2⟩] at q
    have gk := H.1.2.2.2.1 k e1 e2
    unfold kgo at q
    refine brn (iz_eq hv.1 hv.2 (by decide) (by decide)) (fun e => ?_) (fun e => m_told H e1 e2 (by decide) (by decide) ?_)
    · rw [if_neg e] at q
      exact m_told H e1 e2 p1 (by omega) q
    · rw [if_pos e] at q
      refine brn (iz_eq (by omega) (by omega) (by decide) (by decide)) (fun e3 => ?_) (fun e3 => ?_)
      · rw [if_neg e3] at q
        rw [e]
        exact m_told H e1 e2 (by decide) (by decide) q
      · rw [if_pos e3] at q
        exact q
  · rw [if_neg (by omega)] at q
    exact q
  · rw [if_neg (by omega)] at q
    exact q
theorem m_log (H : HM c lm w) (G : MH c 90 h w) {i v : Int} (hi : VR i) (hv : VR v) (q : ∀ w', MS c lm w w' → Q (iz (o_log h i v)) w') : wp_X3_log (iz i) (iz v) w Q := by
  unfold wp_X3_log
  rintro w1 rfl
  have M1 := m_thr H (iz 0)
  have q := q _ M1
  have H := H.ms M1
  have G := G.ms M90 M1
  have l1 := G.1.2.2.2.2.1; have l2 := G.1.2.2.2.2.2.1
  have vl := G.2.2.2.1
  rw [Int.zero_add] at vl
  unfold o_log at q
  refine ⟨in90 (by decide) (by decide), ?_⟩
  rw [iz_toInt (by decide) (by decide), vl, iz_sub, i2l (a := hl h - 1) (by omega)]
  refine m_isIn hi (by decide) (by omega) (fun p1 p2 => t1 (m_isIn hv (by decide) (by decide) (fun p3 p4 => t1 ⟨in90 (by decide) (by decide), ?_⟩) (fun p => t0 ?_))) (fun p => t0 ?_)
  · rw [if_pos (by omega)] at q
    rw [vl]
    simp only [iz_sub, iz_mul, iz_add]
    refine ⟨in90 (by omega) (by omega), ?_⟩
    have := G.2.2.2.2.2.2 (hl h - 1 - i) v (by omega) (by omega) p3 (by omega)
    rw [Int.zero_add] at this
    rw [iz_toInt (by omega) (by omega), this]
    exact q
  · rw [if_neg (by omega)] at q
    exact q
  · rw [if_neg (by omega)] at q
    exact q
theorem m_spans (H : HM c lm w) (G : MH c 90 h w) {k v : Int} (hk : VR k) (hv : VR v) (q : ∀ w', MS c lm w w' → Q (iz (o_spans c h k v)) w') : wp_X3_spans (iz k) (iz v) w Q := by
  unfold wp_X3_spans
  rintro w1 rfl
  have M1 := m_thr H (iz 0)
  have q := q _ M1
  have H := H.ms M1
  have G := G.ms M90 M1
  generalize sI w 60 (iz 0) = w at q H G ⊢
  have a := G.1.1; have a2 := G.1.2.1
  unfold o_spans at q
  refine m_isKind H hk (fun e1 e2 => t1 (m_isIn hv (by decide) (by decide) (fun p1 p2 => u1 ?_) (fun p => u0 ?_))) (fun p => t0 ?_)
  · rw [if_pos ⟨e1, e2, p1, p2⟩] at q
    refine lpe (fun n (s3 : Int32 × Int32 × Wd) => lp_X3_spans_30 Q (iz k) (iz v) n s3.1 s3.2.1 s3.2.2) (fun R s3 => wl_X3_spans_30 Q (iz k) (iz v) (fun x y z => R (x, y, z)) s3.1 s3.2.1 s3.2.2) (fun _ _ h => h) (fun i s3 => 0 ≤ i ∧ s3 = (iz (sm (spO c h k v) i), iz i, w)) (hn h) 0 (iz 0, iz 0, w) a ⟨by decide, rfl⟩ ?_
    rintro R _ i hi ⟨hi0, rfl⟩ kk
    refine ⟨in90 (by decide) (by decide), ?_⟩
    rw [iz_toInt (by decide) (by decide), G.n]
    refine br (iz_le (by omega) (by omega) (by omega) (by omega)) (fun e => ?_) (fun e => ?_)
    · obtain rfl : i = hn h := by omega
      exact q
    · have kk := kk (by omega)
      rw [sm_s _ hi0] at kk
      have g8 := G.1.2.2.2.2.2.2.2 i hi0 (by omega)
      unfold spO at kk
      refine m_isNameless G hi0 (by omega) (fun t => u1 ?_) (fun t => u0 ?_)
      · rw [if_neg (by omega)] at kk
        refine brn (iz_eq hv.1 hv.2 (by decide) (by decide)) (fun e3 => ?_) (fun e3 => ?_)
        · rw [if_neg e3] at kk
          rw [iz_add, iz_add]
          exact kk _ ⟨by omega, rfl⟩
        · rw [if_pos e3] at kk
          refine m_couldBe H G hi0 (by omega) e1 e2 ?_
          rw [iz_add, iz_add]
          exact kk _ ⟨by omega, rfl⟩
      · rw [if_pos t] at kk
        refine m_kindIn G hi0 (by omega) ?_
        have k6 := H.1.2.1
        refine brn (iz_eq (by omega) (by omega) hk.1 hk.2) (fun e3 => ?_) (fun e3 => ?_)
        · rw [if_neg e3] at kk
          rw [iz_add, iz_add]
          exact kk _ ⟨by omega, rfl⟩
        · rw [if_pos e3] at kk
          simp only [iz_mul, iz_add]
          refine ⟨in90 (by omega) (by omega), ?_⟩
          rw [iz_toInt (by omega) (by omega), G.v hi0 (by omega) (by decide) (by decide), iz_add]
          exact kk _ ⟨by omega, rfl⟩
  · rw [if_neg (by omega)] at q
    exact q
  · rw [if_neg (by omega)] at q
    exact q
theorem or0 (x : Int32) : x ||| iz 0 = x := by
  show x ||| 0 = x
  exact Int32.or_zero
theorem m_nameless (H : HM c lm w) (G : MH c 90 h w) (q : ∀ w', MS c lm w w' → Q (if 0 < cK c then nmO h else iz (-1)) w') : wp_X3_nameless w Q := by
  unfold wp_X3_nameless
  rintro w1 rfl
  have M1 := m_thr H (iz 0)
  have q := q _ M1
  have H := H.ms M1
  have G := G.ms M90 M1
  generalize sI w 60 (iz 0) = w at q H G ⊢
  have a := G.1.1; have a2 := G.1.2.1
  have k0 := H.1.1
  refine brn (K0 H) (fun e => ?_) (fun e => ?_)
  · rw [if_pos (by omega)] at q
    refine lpe (fun n (s3 : Int32 × Int32 × Wd) => lp_X3_nameless_18 Q n s3.1 s3.2.1 s3.2.2) (fun R s3 => wl_X3_nameless_18 Q (fun x y z => R (x, y, z)) s3.1 s3.2.1 s3.2.2) (fun _ _ h => h) (fun i s3 => 0 ≤ i ∧ s3 = (bts (fun b => hb h b 3 = 0) i, iz i, w)) (hn h) 0 (iz 0, iz 0, w) a ⟨by decide, rfl⟩ ?_
    rintro R _ i hi ⟨hi0, rfl⟩ kk
    refine ⟨in90 (by decide) (by decide), ?_⟩
    rw [iz_toInt (by decide) (by decide), G.n]
    refine br (iz_le (by omega) (by omega) (by omega) (by omega)) (fun e => ?_) (fun e => ?_)
    · obtain rfl : i = hn h := by omega
      exact q
    · refine m_isNameless G hi0 (by omega) (fun t => t1 ?_) (fun t => t0 ?_)
      · exact kk (by omega) _ ⟨by omega, by rw [bts_t (fun b => hb h b 3 = 0) hi0 t, iz_add]⟩
      · rw [or0]
        exact kk (by omega) _ ⟨by omega, by rw [bts_f (fun b => hb h b 3 = 0) hi0 (by omega), iz_add]⟩
  · rw [if_neg (by omega)] at q
    exact q
theorem m_labelsOf (H : HM c lm w) (G : MH c 90 h w) (hK : 0 < cK c) {x y : Int} (h1 : 0 ≤ x ∧ x ≤ 1) (h2 : 0 ≤ y ∧ y ≤ 1) (q : ∀ w', MS c lm w w' → Q (lbO h x y) w') : wp_X3_labelsOf (iz x) (iz y) w Q := by
  unfold wp_X3_labelsOf
  unfold lbO at q
  rw [iz_add]
  refine br (iz_le (by omega) (by omega) (by decide) (by decide)) (fun e => ?_) (fun e => m_nameless H G (fun w' M => s_bc ?_))
  · rw [if_neg (by omega)] at q
    exact q w H.self
  · rw [if_pos (by omega)] at q
    rw [if_pos hK]
    exact q w' M
theorem m_labels (H : HM c lm w) (G : MH c 90 h w) {x y : Int} (h1 : VR x) (h2 : VR y) (q : ∀ w', MS c lm w w' → Q (o_labels c h x y) w') : wp_X3_labels (iz x) (iz y) w Q := by
  unfold wp_X3_labels
  rintro w1 rfl
  have M1 := m_thr H (iz 0)
  have q := fun w' M => q w' (M1.trans M)
  have H := H.ms M1
  have G := G.ms M90 M1
  generalize sI w 60 (iz 0) = w at q H G ⊢
  have k0 := H.1.1
  have q0 := q w H.self
  unfold o_labels at q q0
  refine br (KL H) (fun e => ?_) (fun e => m_isIn h1 (by decide) (by decide) (fun p1 p2 => t1 (m_isIn h2 (by decide) (by decide) (fun p3 p4 => t1 ?_) (fun p => t0 ?_))) (fun p => t0 ?_))
  · rw [if_neg (by omega)] at q0
    exact q0
  · rw [if_pos ⟨by omega, p1, p2, p3, p4⟩] at q
    exact m_labelsOf H G (by omega) ⟨p1, p2⟩ ⟨p3, p4⟩ q
  · rw [if_neg (by omega)] at q0
    exact q0
  · rw [if_neg (by omega)] at q0
    exact q0
end MQ2
