/-! the model's questions, on -/
def rl4 : List (Int × Int) := [(0, 0), (0, 1), (1, 0), (1, 1)]
theorem rl_drop : ∀ j, j < 4 → rl4.drop j = (((j : Nat) : Int) / 2, ((j : Nat) : Int) % 2) :: rl4.drop (j + 1) := by decide +kernel
section MQ4
variable {c : Cf} {lm : Int} {h : Hs} {w w' : Wd} {Q : Int32 → Wd → Prop}
theorem m_rests (H : HM c lm w) (G : MH c 90 h w) {i : Int} (hi : VR i) (q : ∀ w', MS c lm w w' → Q (iz (o_rests c h i)) w') : wp_X3_rests (iz i) w Q := by
  unfold wp_X3_rests
  rintro w1 rfl
  have M1 := m_thr H (iz 0)
  have q := fun w' M => q w' (M1.trans M)
  have H := H.ms M1
  have G := G.ms M90 M1
  generalize sI w 60 (iz 0) = w at q H G ⊢
  have k0 := H.1.1
  have q0 := q w H.self
  unfold o_rests at q q0
  refine br (K0 H) (fun e => ?_) (fun e => br (iz_le (by decide) (by decide) hi.1 hi.2) (fun e2 => ?_) (fun e2 => ?_))
  · rw [if_neg (by omega)] at q0
    exact q0
  · simp only [if_pos (And.intro (show 0 < cK c by omega) e2)] at q
    refine lpe (fun n (s3 : Int32 × Int32 × Wd) => lp_X3_rests_23 Q (iz i) n s3.1 s3.2.1 s3.2.2) (fun R s3 => wl_X3_rests_23 Q (iz i) (fun x y z => R (x, y, z)) s3.1 s3.2.1 s3.2.2) (fun _ _ h => h) (fun j s3 => 0 ≤ j ∧ ∃ n w', s3 = (iz n, iz j, w') ∧ MS c lm w w' ∧ 0 ≤ n ∧ n ≤ j ∧ rsP h i (rl4.drop j.toNat) n = rsP h i rl4 0) 4 0 (iz 0, iz 0, w) (by decide) ⟨by decide, 0, w, rfl, H.self, by decide, by decide, rfl⟩ ?_
    rintro R _ j hj ⟨hj0, n, w', rfl, M, n0, n1, er⟩ kk
    refine br (iz_le (by decide) (by decide) (by omega) (by omega)) (fun e3 => ?_) (fun e3 => ?_)
    · obtain rfl : j = 4 := by omega
      have er : rsP h i [] n = _ := er
      rw [rsP] at er
      have q := q w' M
      have q : Q (iz (rsP h i rl4 0)) w' := q
      rw [← er] at q
      refine brn (iz_eq hi.1 hi.2 (by decide) (by decide)) (fun e4 => ?_) (fun e4 => ?_)
      · rw [if_neg e4] at q
        exact q
      · rw [if_pos e4] at q
        exact q
    · have kk := kk (by omega)
      have ed := rl_drop j.toNat (by omega)
      rw [Int.toNat_of_nonneg hj0] at ed
      rw [ed] at er
      rw [iz_rem (by omega) (by omega) (by decide) (by decide), iz_div (by omega) (by omega) (by decide) (by decide)]
      have hx : 0 ≤ j / 2 ∧ j / 2 ≤ 1 := by omega
      have hy : 0 ≤ j % 2 ∧ j % 2 ≤ 1 := by omega
      rw [show j.toNat + 1 = (j + 1).toNat by omega] at er
      generalize j / 2 = x at er hx ⊢
      generalize j % 2 = y at er hy ⊢
      have bad : ∀ w2, MS c lm w w2 → rsBad h x y → R (iz n, iz (j + 1), w2) := fun w2 M2 b => by
        rw [rsP_b b] at er
        exact kk _ ⟨by omega, n, w2, rfl, M2, n0, by omega, er⟩
      have H' := H.ms M
      have G' := G.ms M90 M
      rw [iz_sub, iz_sub, iz_add j 1]
      have hK : 0 < cK c := by omega
      refine m_labelsOf H' G' hK (by omega) hy (fun w2 M2 => m_labelsOf (H'.ms M2) (G'.ms M90 M2) hK hx hy (fun w4 M4 => ⟨fun e5 => bad w4 (M.trans (M2.trans M4)) (Or.inl e5), fun e5 => ?_⟩))
      have M4' := M.trans (M2.trans M4)
      refine m_labelsOf (H.ms M4') (G.ms M90 M4') hK (by omega) hx (fun w6 M6 => m_labelsOf ((H.ms M4').ms M6) ((G.ms M90 M4').ms M90 M6) hK hy hx (fun w8 M8 => ?_))
      have M8' := M4'.trans (M6.trans M8)
      refine ⟨fun e6 => ?_, fun e6 => bad w8 M8' (Or.inr (Int32.not_le.mp e6))⟩
      have nb : ¬ rsBad h x y := fun z => z.elim e5 (fun z => Int32.not_lt.mpr e6 z)
      rw [rsP_g nb] at er
      refine brn (iz_eq (by omega) (by omega) hi.1 hi.2) (fun e7 => ?_) (fun e7 => ?_)
      · rw [if_neg e7] at er
        rw [iz_add]
        exact kk _ ⟨by omega, n + 1, w8, rfl, M8', by omega, by omega, er⟩
      · rw [if_pos e7] at er
        rw [iz_mul, iz_add, er]
        exact q w8 M8'
  · rw [if_neg (by omega)] at q0
    exact q0
theorem m_soonest (H : HM c lm w) (G : MH c 90 h w) {b : Int} (hv : VR b) (q : ∀ w', MS c lm w w' → Q (iz (o_soonest c h b)) w') : wp_X3_soonest (iz b) w Q := by
  unfold wp_X3_soonest
  rintro w1 rfl
  have M1 := m_thr H (iz 0)
  have q := fun w' M => q w' (M1.trans M)
  have H := H.ms M1
  have G := G.ms M90 M1
  generalize sI w 60 (iz 0) = w at q H G ⊢
  have a := G.1.1; have a2 := G.1.2.1
  unfold o_soonest at q
  refine m_isBox H M90 G hv (fun e1 e2 => u1 ?_) (fun e => u0 ?_)
  · rw [if_pos ⟨e1, e2⟩] at q
    generalize hP : (fun n => decide (val c h b n (hn h - 1 - b) = 0)) = P at q
    refine lpe (fun n (s3 : Int32 × Wd) => lp_X3_soonest_21 Q (iz b) n s3.1 s3.2) (fun R s3 => wl_X3_soonest_21 Q (iz b) (fun x z => R (x, z)) s3.1 s3.2) (fun _ _ h => h) (fun i s3 => 0 ≤ i ∧ ∃ w', s3 = (iz i, w') ∧ MS c lm w w' ∧ fstN P (100 - i).toNat i = fstN P 100 0) 100 0 (iz 0, w) (by decide) ⟨by decide, w, rfl, H.self, rfl⟩ ?_
    rintro R _ i hi ⟨hi0, w', rfl, M, er⟩ kk
    have G' := G.ms M90 M
    refine br (iz_lt (by omega) (by omega) (by omega) (by omega)) (fun e => ?_) (fun e => ?_)
    · obtain rfl : i = 100 := by omega
      have er : (-1 : Int) = _ := er
      rw [er]
      exact q w' M
    · have vi := val_bd H.1 G.1 (more := i) (below := hn h - 1 - b) e1 e2
      rw [show (100 - i).toNat = (100 - (i + 1)).toNat + 1 by omega, fstN] at er
      refine ⟨in90 (by decide) (by decide), ?_⟩
      rw [iz_toInt (by decide) (by decide), G'.n, iz_sub, iz_sub]
      refine m_valueOn (H.ms M) M90 G' e1 e2 (by omega) hi0 (by omega) (fun w2 M2 => ?_)
      refine brn (iz_eq (by omega) (by omega) (by decide) (by decide)) (fun e3 => kk (by omega) _ ⟨by omega, w2, ?_, M.trans M2, ?_⟩) (fun e3 => ?_)
      · rw [iz_add]
      · rw [if_neg (by rw [← hP]; simpa using e3)] at er
        exact er
      · rw [if_pos (by rw [← hP]; simpa using e3)] at er
        rw [er]
        exact q w2 (M.trans M2)
  · have q := q w H.self
    rw [if_neg e] at q
    exact q
theorem m_monthly (H : HM c lm w) (G : MH c 90 h w) {n : Int} (hv : VR n) (q : ∀ w', MS c lm w w' → Q (iz (o_monthly c h n)) w') : wp_X3_monthly (iz n) w Q := by
  unfold wp_X3_monthly
  rintro w1 rfl
  have M1 := m_thr H (iz 0)
  have q := fun w' M => q w' (M1.trans M)
  have H := H.ms M1
  have G := G.ms M90 M1
  generalize sI w 60 (iz 0) = w at q H G ⊢
  have k0 := H.1.1
  have a := G.1.1; have a2 := G.1.2.1
  unfold o_monthly at q
  have q0 := q w H.self
  refine br (K0 H) (fun e => ?_) (fun e => m_isIn hv (by decide) (by decide) (fun p1 p2 => u1 ?_) (fun p => u0 ?_))
  · rw [if_neg (by omega)] at q0
    exact q0
  · rw [if_pos ⟨by omega, p1, p2⟩] at q
    refine lpe (fun m (s3 : Int32 × Int32 × Wd) => lp_X3_monthly_30 Q (iz n) m s3.1 s3.2.1 s3.2.2) (fun R s3 => wl_X3_monthly_30 Q (iz n) (fun x y z => R (x, y, z)) s3.1 s3.2.1 s3.2.2) (fun _ _ h => h) (fun i s3 => 0 ≤ i ∧ ∃ w', s3 = (iz (sm (fun b => val c h b n (hn h - 1 - b)) i), iz i, w') ∧ MS c lm w w') (hn h) 0 (iz 0, iz 0, w) a ⟨by decide, w, rfl, H.self⟩ ?_
    rintro R _ i hi ⟨hi0, w', rfl, M⟩ kk
    have G' := G.ms M90 M
    refine ⟨in90 (by decide) (by decide), ?_⟩
    rw [iz_toInt (by decide) (by decide), G'.n]
    refine br (iz_le (by omega) (by omega) (by omega) (by omega)) (fun e => ?_) (fun e => ⟨in90 (by decide) (by decide), ?_⟩)
    · obtain rfl : i = hn h := by omega
      exact q w' M
    · rw [iz_sub, iz_sub]
      refine m_valueOn (H.ms M) M90 G' hi0 (by omega) (by omega) p1 (by omega) (fun w2 M2 => ?_)
      refine kk (by omega) _ ⟨by omega, w2, ?_, M.trans M2⟩
      rw [iz_add, iz_add, sm_s _ hi0]
  · rw [if_neg (by omega)] at q0
    exact q0
theorem m_make (H : HM c lm w) {k v : Int} (hk : VR k) (hv : VR v) (q : ∀ w', MS c lm w w' → Q (iz (o_make c k v)) w') : wp_X3_make (iz k) (iz v) w Q := by
  unfold wp_X3_make
  rintro w1 rfl
  have M1 := m_thr H (iz 0)
  have q := q _ M1
  have H := H.ms M1
  generalize sI w 60 (iz 0) = w at q H ⊢
  unfold o_make at q
  refine m_isKind H hk (fun e1 e2 => t1 (m_isIn hv (by decide) (by decide) (fun p1 p2 => u1 ?_) (fun p => u0 ?_))) (fun e => t0 ?_)
  · have g := H.1.2.2.2.1 k e1 e2
    have md := Int.emod_nonneg v (show cD c (5 * k + 1) ≠ 0 by omega)
    have md2 := Int.emod_lt_of_pos v (show 0 < cD c (5 * k + 1) by omega)
    have dl := Int.ediv_le_self (cD c (5 * k + 1)) (show 0 ≤ v by omega)
    have dn := Int.ediv_nonneg (show 0 ≤ v by omega) (show 0 ≤ cD c (5 * k + 1) by omega)
    have nz : ¬ iz (cD c (5 * k + 1)) = 0 := iz_ne0 (by omega) (by omega) (by omega)
    refine m_told H e1 e2 (by decide) (by decide) ⟨nz, ?_⟩
    rw [iz_rem (by omega) (by omega) (by omega) (by omega), iz_div (by omega) (by omega) (by omega) (by omega)]
    refine brn (iz_eq (by omega) (by omega) (by decide) (by decide)) (fun e3 => ?_) (fun e3 => ⟨nz, br (iz_lt (by decide) (by decide) (by omega) (by omega)) (fun e4 => ?_) (fun e4 => ⟨nz, ?_⟩)⟩)
    · rw [if_neg (fun x => e3 x.2.2.2.2.1)] at q
      exact q
    · rw [if_neg (fun x => by omega)] at q
      exact q
    · rw [if_pos ⟨e1, e2, p1, p2, e3, by omega⟩] at q
      exact q
  · rw [if_neg (by omega)] at q
    exact q
  · rw [if_neg (by omega)] at q
    exact q
theorem m_full (H : HM c lm w) {n : Int} (hv : VR n) (q : ∀ w', MS c lm w w' → Q (iz (o_full c n)) w') : wp_X3_full (iz n) w Q := by
  unfold wp_X3_full
  rintro w1 rfl
  have M1 := m_thr H (iz 0)
  have q := q _ M1
  have H := H.ms M1
  generalize sI w 60 (iz 0) = w at q H ⊢
  unfold o_full at q
  refine m_isHours H hv (fun e p1 p2 => u1 ?_) (fun e => u0 ?_)
  · rw [if_pos ⟨e, p1, p2⟩] at q
    have r := H.1.2.2.1 e
    generalize hP : (fun p => decide (n ≤ cR c 1 * p / cR c 0)) = P at q
    refine lpe (fun m (s3 : Int32 × Wd) => lp_X3_full_17 Q (iz n) m s3.1 s3.2) (fun R s3 => wl_X3_full_17 Q (iz n) (fun x z => R (x, z)) s3.1 s3.2) (fun _ _ h => h) (fun i s3 => 0 ≤ i ∧ s3 = (iz i, w) ∧ fstN P (cR c 0 + 1 - i).toNat i = fstN P (cR c 0 + 1).toNat 0) (cR c 0 + 1) 0 (iz 0, w) (by omega) ⟨by decide, rfl, by rw [Int.sub_zero]⟩ ?_
    rintro R _ i hi ⟨hi0, rfl, er⟩ kk
    refine ⟨iz_inb (by decide) (by decide) (by decide), ?_⟩
    rw [iz_toInt (by decide) (by decide), H.2.2.1 0 (by decide) (by decide)]
    refine br (iz_lt (by omega) (by omega) (by omega) (by omega)) (fun e2 => ?_) (fun e2 => ?_)
    · obtain rfl : i = cR c 0 + 1 := by omega
      rw [Int.sub_self] at er
      have er : (-1 : Int) = _ := er
      rw [er]
      exact q
    · have t := tm_bd H.1 e hi0 (show i ≤ 99 by omega)
      rw [show (cR c 0 + 1 - i).toNat = (cR c 0 + 1 - (i + 1)).toNat + 1 by omega, fstN] at er
      refine m_moreThanBorne H e (by omega) (by omega) ?_
      refine brn (iz_eq (by unfold tmy; omega) (by unfold tmy; omega) (by decide) (by decide)) (fun e3 => kk (by omega) _ ⟨by omega, by rw [iz_add], ?_⟩) (fun e3 => ?_)
      · unfold tmy at e3
        rw [if_neg (by rw [← hP]; simp; omega)] at er
        exact er
      · unfold tmy at e3
        rw [if_pos (by rw [← hP]; simp; omega)] at er
        rw [er]
        exact q
  · rw [if_neg e] at q
    exact q
end MQ4
