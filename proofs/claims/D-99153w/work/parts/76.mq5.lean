/-! the model's questions: dinner, lot -/
def row3 (a b d : Nat) : List (Nat × Nat × Nat) := (List.range d).map (fun d' => (a, b, d'))
def row2 (a b : Nat) : List (Nat × Nat × Nat) := (List.range b).flatMap (fun b' => (List.range b').map (fun d => (a, b', d)))
theorem lsum_app (f : (Nat × Nat × Nat) → Int) (l1 l2 : List (Nat × Nat × Nat)) : lsum f (l1 ++ l2) = lsum f l1 + lsum f l2 := by
  rw [lsum_map, lsum_map, lsum_map, List.map_append, List.sum_append]
theorem trips_s (a : Nat) : trips (a + 1) = trips a ++ row2 a a := by
  unfold trips row2
  rw [List.range_succ, List.flatMap_append]
  simp
theorem row2_s (a b : Nat) : row2 a (b + 1) = row2 a b ++ row3 a b b := by
  unfold row2 row3
  rw [List.range_succ, List.flatMap_append]
  simp
theorem row3_s (a b d : Nat) : row3 a b (d + 1) = row3 a b d ++ [(a, b, d)] := by
  unfold row3
  rw [List.range_succ, List.map_append]
  simp
section MQ5
variable {c : Cf} {lm : Int} {h : Hs} {w w' : Wd} {Q : Int32 → Wd → Prop}
theorem m_isDinner (H : HM c lm w) (G : MH c 90 h w) {s : Int} (h1 : 0 ≤ s) (h2 : s < 256) (f : mealP c h s → Q (iz 1) w) (g : ¬ mealP c h s → Q (iz 0) w) : wp_X3_isDinner (iz s) w Q := by
  have a := G.1.1; have a2 := G.1.2.1
  refine lpe (fun n (s3 : Int32 × Wd) => lp_X3_isDinner_2 Q (iz s) n s3.1 s3.2) (fun R s3 => wl_X3_isDinner_2 Q (iz s) (fun x y => R (x, y)) s3.1 s3.2) (fun _ _ h => h) (fun i s3 => 0 ≤ i ∧ s3 = (iz i, w) ∧ ∀ a b, 0 ≤ b → b < a → a < i → has2 s a = true → has2 s b = true → kwith c (hb h a 0) (hb h b 0)) (hn h) 0 (iz 0, w) a ⟨by decide, rfl, fun a b _ _ _ => by omega⟩ ?_
  rintro R _ i hi ⟨hi0, rfl, al⟩ kk
  refine ⟨in90 (by decide) (by decide), ?_⟩
  rw [iz_toInt (by decide) (by decide), G.n]
  refine br (iz_le (by omega) (by omega) (by omega) (by omega)) (fun e => ?_) (fun e => ?_)
  · exact f (fun a b x1 x2 x3 => al a b x1 x2 (by omega))
  · have kk := kk (by omega)
    refine lpe (fun n (s3 : Int32 × Wd) => lp_X3_isDinner_15 Q (fun x y => R (x, y)) (iz s) (iz i) n s3.1 s3.2) (fun R2 s3 => wl_X3_isDinner_15 Q (fun x y => R (x, y)) (iz s) (iz i) (fun x y => R2 (x, y)) s3.1 s3.2) (fun _ _ h => h) (fun j s3 => 0 ≤ j ∧ s3 = (iz j, w) ∧ ∀ b, 0 ≤ b → b < j → has2 s i = true → has2 s b = true → kwith c (hb h i 0) (hb h b 0)) i 0 (iz 0, w) hi0 ⟨by decide, rfl, fun b _ _ => by omega⟩ ?_
    rintro R2 _ j hj ⟨hj0, rfl, bl⟩ k2
    refine br (iz_le (by omega) (by omega) (by omega) (by omega)) (fun e2 => ?_) (fun e2 => ?_)
    · refine kk _ ⟨by omega, by rw [iz_add], fun a b x1 x2 x3 => ?_⟩
      by_cases ea : a = i
      · subst ea
        exact bl b x1 (by omega)
      · exact al a b x1 x2 (by omega)
    · have k2 := k2 (by omega)
      have gi := G.1.2.2.2.2.2.2.2 i hi0 (by omega)
      have gj := G.1.2.2.2.2.2.2.2 j hj0 (by omega)
      have stp : (has2 s i = true → has2 s j = true → kwith c (hb h i 0) (hb h j 0)) → R2 (iz (j + 1), w) := fun z => k2 _ ⟨by omega, rfl, fun b x1 x2 x3 x4 => by
        by_cases eb : b = j
        · subst eb; exact z x3 x4
        · exact bl b x1 (by omega) x3 x4⟩
      refine m_has h1 h2 hi0 (by omega) (fun t => t1 ?_) (fun t => t0 ?_)
      · refine m_has h1 h2 hj0 (by omega) (fun t2 => t1 ?_) (fun t2 => t0 ?_)
        · refine m_kindIn G hi0 (by omega) (m_kindIn G hj0 (by omega) ?_)
          refine m_fit H gi.1 gi.2.1 gj.1 gj.2.1 (fun t3 => u1 ?_) (fun t3 => u0 ?_)
          · rw [iz_add]
            exact stp (fun _ _ => t3)
          · exact g (fun m => t3 (m i j hj0 (by omega) (by omega) t t2))
        · rw [iz_add]
          exact stp (fun _ x => by rw [t2] at x; exact absurd x (by decide))
      · rw [iz_add]
        exact stp (fun x => by rw [t] at x; exact absurd x (by decide))
theorem m_dinner (H : HM c lm w) (G : MH c 90 h w) {need v : Int} (h1 : VR need) (h2 : VR v) (q : ∀ w', MS c lm w w' → Q (iz (o_dinner c h need v)) w') : wp_X3_dinner (iz need) (iz v) w Q := by
  unfold wp_X3_dinner
  rintro w1 rfl
  have M1 := m_thr H (iz 0)
  have q := fun w' M => q w' (M1.trans M)
  have H := H.ms M1
  have G := G.ms M90 M1
  generalize sI w 60 (iz 0) = w at q H G ⊢
  have k0 := H.1.1
  have a := G.1.1; have a2 := G.1.2.1
  have q0 := q w H.self
  unfold o_dinner at q q0
  refine br (K0 H) (fun e => ?_) (fun e => m_isIn h1 (by decide) (by decide) (fun p1 p2 => t1 (m_isIn h2 (by decide) (by decide) (fun p3 p4 => u1 ?_) (fun p => u0 ?_))) (fun p => t0 ?_))
  · rw [if_neg (by omega)] at q0
    exact q0
  · rw [if_pos ⟨by omega, p1, p2, p3, p4⟩] at q
    clear q0
    have pb := pow_bd a (show hn h < 9 by omega)
    generalize hN : (2 ^ (hn h).toNat : Nat) = N at q pb
    refine lpe (fun n1 (s : Int32 × Int32 × Int32 × Int32 × Wd) => lp_X3_dinner_47 Q (iz need) (iz v) n1 s.1 s.2.1 s.2.2.1 s.2.2.2.1 s.2.2.2.2) (fun R s => wl_X3_dinner_47 Q (iz need) (iz v) (fun x y z u t => R (x, y, z, u, t)) s.1 s.2.1 s.2.2.1 s.2.2.2.1 s.2.2.2.2) (fun _ _ h => h) (fun i s => 1 ≤ i ∧ ∃ w', s = (iz (dnF c h need (i - 1).toNat).1, iz (dnF c h need (i - 1).toNat).2.1, iz (dnF c h need (i - 1).toNat).2.2, iz i, w') ∧ MS c lm w w') N 1 (iz (-1), iz 0, iz 0, iz 1, w) (by omega) ⟨by decide, w, rfl, H.self⟩ ?_
    rintro R _ i hi ⟨hi0, w', rfl, M⟩ kk
    have H1 := H.ms M
    have G1 := G.ms M90 M
    have ok := dnF_ok H.1 G.1 p1 (i - 1).toNat
    refine ⟨in90 (by decide) (by decide), ?_⟩
    rw [iz_toInt (by decide) (by decide), G1.n, shlI a (by omega), hN]
    refine br (iz_le (by omega) (by omega) (by omega) (by omega)) (fun e => ?_) (fun e => ?_)
    · obtain rfl : i = N := by omega
      rw [show ((N : Int) - 1).toNat = N - 1 by omega] at ok ⊢
      generalize dnF c h need (N - 1) = D at ok q
      unfold dnOK at ok
      refine br (iz_eq (by omega) (by omega) (by decide) (by decide)) (fun e2 => ?_) (fun e2 => brn (iz_eq h2.1 h2.2 (by decide) (by decide)) (fun e3 => ?_) (fun e3 => ?_))
      · rw [if_pos e2] at q
        rw [e2]
        exact q w' M
      · rw [if_neg e2, if_neg e3] at q
        exact q w' M
      · rw [if_neg e2, if_pos e3] at q
        exact q w' M
    · have kk := kk (by omega)
      have es : dnF c h need (i + 1 - 1).toNat = dnS c h need i (dnF c h need (i - 1).toNat) := by
        rw [show (i + 1 - 1).toNat = (i - 1).toNat + 1 by omega, dnF, show (((i - 1).toNat : Nat) : Int) + 1 = i by omega]
      rw [es] at kk
      have v1 := vset_bd H.1 G.1 (s := i) a (Int.le_refl _)
      have p1' := psum_bd G.1 (s := i) a (Int.le_refl _)
      generalize dnF c h need (i - 1).toNat = D at ok kk
      rw [show (((i - 1).toNat : Nat) : Int) + 1 = i by omega] at ok
      unfold dnOK at ok
      have skip : dnS c h need i D = D → ∀ w', MS c lm w w' → R (iz D.1, iz D.2.1, iz D.2.2, iz (i + 1), w') := fun ed w' M => kk _ ⟨by omega, w', by rw [ed], M⟩
      have take : dnS c h need i D = (i, 100 * vset c h i (hn h) / psum h i (hn h), psum h i (hn h)) → ∀ w', MS c lm w w' → R (iz i, iz (100 * vset c h i (hn h) / psum h i (hn h)), iz (psum h i (hn h)), iz (i + 1), w') := fun ed w' M => kk _ ⟨by omega, w', by rw [ed], M⟩
      refine lpe (fun n1 (s : Int32 × Int32 × Int32 × Wd) => lp_X3_dinner_70 Q (fun x y z u t => R (x, y, z, u, t)) (iz need) (iz v) (iz D.1) (iz D.2.1) (iz D.2.2) (iz i) n1 s.1 s.2.1 s.2.2.1 s.2.2.2) (fun R2 s => wl_X3_dinner_70 Q (fun x y z u t => R (x, y, z, u, t)) (iz need) (iz v) (iz D.1) (iz D.2.1) (iz D.2.2) (iz i) (fun x y z t => R2 (x, y, z, t)) s.1 s.2.1 s.2.2.1 s.2.2.2) (fun _ _ h => h) (fun j s => 0 ≤ j ∧ ∃ w', s = (iz (psum h i j), iz (vset c h i j), iz j, w') ∧ MS c lm w w') (hn h) 0 (iz 0, iz 0, iz 0, w') a ⟨by decide, w', rfl, M⟩ ?_
      rintro R2 _ j hj ⟨hj0, w2, rfl, M2⟩ k2
      have H2 := H.ms M2
      have G2 := G.ms M90 M2
      refine ⟨in90 (by decide) (by decide), ?_⟩
      rw [iz_toInt (by decide) (by decide), G2.n]
      refine br (iz_le (by omega) (by omega) (by omega) (by omega)) (fun e5 => ?_) (fun e5 => ?_)
      · obtain rfl : j = hn h := by omega
        rw [iz_add]
        refine br (iz_lt (by omega) (by omega) (by omega) (by omega)) (fun e2 => ?_) (fun e2 => ?_)
        · exact skip (by unfold dnS; rw [if_pos e2]) w2 M2
        · refine m_isDinner H2 G2 (by omega) (by omega) (fun t => u1 ?_) (fun t => u0 ?_)
          · have d := dv_bd (x := vset c h i (hn h)) (p := psum h i (hn h)) (by omega) (by omega)
            rw [iz_mul, iz_div (by omega) (by omega) (by omega) (by omega)]
            refine ⟨iz_ne0 (by omega) (by omega) (by omega), br (iz_eq (by omega) (by omega) (by decide) (by decide)) (fun e3 => ?_) (fun e3 => br (iz_lt (by omega) (by omega) (by omega) (by omega)) (fun e4 => ?_) (fun e4 => brn (iz_eq (by omega) (by omega) (by omega) (by omega)) (fun e5 => ?_) (fun e5 => br (iz_lt (by omega) (by omega) (by omega) (by omega)) (fun e6 => ?_) (fun e6 => ?_))))⟩
            · exact take (by unfold dnS; rw [if_neg e2, if_pos t, if_pos e3]) w2 M2
            · exact skip (by unfold dnS; rw [if_neg e2, if_pos t, if_neg e3, if_pos e4]) w2 M2
            · exact take (by unfold dnS; rw [if_neg e2, if_pos t, if_neg e3, if_neg e4, if_pos e5]) w2 M2
            · exact take (by unfold dnS; rw [if_neg e2, if_pos t, if_neg e3, if_neg e4, if_neg (by omega), if_pos e6]) w2 M2
            · exact skip (by unfold dnS; rw [if_neg e2, if_pos t, if_neg e3, if_neg e4, if_neg (by omega), if_neg e6]) w2 M2
          · exact skip (by unfold dnS; rw [if_neg e2, if_neg t]) w2 M2
      · have k2 := k2 (by omega)
        have es1 := sm_s (fun b => if has2 i b = true then hb h b 1 else 0) hj0
        have es2 := sm_s (fun b => if has2 i b = true then valO c h b else 0) hj0
        unfold psum vset at k2
        refine m_has (by omega) (by omega) hj0 (by omega) (fun t => u1 ?_) (fun t => u0 ?_)
        · rw [if_pos t] at es1 es2
          rw [es1, es2] at k2
          simp only [iz_mul, iz_add]
          refine ⟨in90 (by omega) (by omega), ?_⟩
          rw [iz_toInt (by omega) (by omega), G2.v hj0 (by omega) (by decide) (by decide)]
          refine m_valueOf H2 M90 G2 hj0 (by omega) (fun w4 M4 => ?_)
          rw [iz_add, iz_add]
          exact k2 _ ⟨by omega, w4, rfl, M2.trans M4⟩
        · rw [if_neg (by rw [t]; decide), Int.add_zero] at es1 es2
          rw [es1, es2] at k2
          rw [iz_add]
          exact k2 _ ⟨by omega, w2, rfl, M2⟩
  · rw [if_neg (by omega)] at q0
    exact q0
  · rw [if_neg (by omega)] at q0
    exact q0
theorem m_lot (H : HM c lm w) (G : MH c 90 h w) {v : Int} (hv : VR v) (q : ∀ w', MS c lm w w' → Q (iz (o_lot c h v)) w') : wp_X3_lot (iz v) w Q := by
  unfold wp_X3_lot
  rintro w1 rfl
  have M1 := m_thr H (iz 0)
  have q := fun w' M => q w' (M1.trans M)
  have H := H.ms M1
  have G := G.ms M90 M1
  generalize sI w 60 (iz 0) = w at q H G ⊢
  have k0 := H.1.1
  have a := G.1.1; have a2 := G.1.2.1
  have q0 := q w H.self
  unfold o_lot at q q0
  have vb := fun (k : Int) (hk0 : 0 ≤ k) (hk : k < hn h) => val_bd H.1 G.1 (b := k) (more := 0) (below := hn h - 1 - k) hk0 hk
  refine br (K0 H) (fun e => ?_) (fun e => m_isIn hv (by decide) (by decide) (fun p1 p2 => u1 ?_) (fun p => u0 ?_))
  · rw [if_neg (by omega)] at q0
    exact q0
  · rw [if_pos ⟨by omega, p1, p2⟩] at q
    clear q0
    generalize hF : mx3 (valO c h) = F at q
    refine lpe (fun n1 (s : Int32 × Int32 × Int32 × Wd) => lp_X3_lot_31 Q (iz v) n1 s.1 s.2.1 s.2.2.1 s.2.2.2) (fun R s => wl_X3_lot_31 Q (iz v) (fun x y z t => R (x, y, z, t)) s.1 s.2.1 s.2.2.1 s.2.2.2) (fun _ _ h => h) (fun i s => 0 ≤ i ∧ ∃ w', s = (iz (lsum F (trips i.toNat)), iz ((trips i.toNat).length : Nat), iz i, w') ∧ MS c lm w w') (hn h) 0 (iz 0, iz 0, iz 0, w) a ⟨by decide, w, rfl, H.self⟩ ?_
    rintro R _ i hi ⟨hi0, w', rfl, M⟩ kk
    have H1 := H.ms M
    have G1 := G.ms M90 M
    refine ⟨in90 (by decide) (by decide), ?_⟩
    rw [iz_toInt (by decide) (by decide), G1.n]
    refine br (iz_le (by omega) (by omega) (by omega) (by omega)) (fun e => ?_) (fun e => ?_)
    · obtain rfl : i = hn h := by omega
      refine brn (iz_eq hv.1 hv.2 (by decide) (by decide)) (fun e3 => ?_) (fun e3 => ?_)
      · rw [if_neg e3] at q
        exact q w' M
      · rw [if_pos e3] at q
        exact q w' M
    · have kk := kk (by omega)
      obtain ⟨x, rfl⟩ : ∃ x : Nat, i = x := ⟨i.toNat, by omega⟩
      rw [show ((x : Int) + 1).toNat = x + 1 by omega, trips_s, lsum_app, List.length_append] at kk
      rw [Int.toNat_natCast]
      refine lpe (fun n1 (s : Int32 × Int32 × Int32 × Wd) => lp_X3_lot_46 Q (fun x y z t => R (x, y, z, t)) (iz v) (iz x) n1 s.1 s.2.1 s.2.2.1 s.2.2.2) (fun R2 s => wl_X3_lot_46 Q (fun x y z t => R (x, y, z, t)) (iz v) (iz x) (fun x y z t => R2 (x, y, z, t)) s.1 s.2.1 s.2.2.1 s.2.2.2) (fun _ _ h => h) (fun j s => 0 ≤ j ∧ ∃ w', s = (iz (lsum F (trips x) + lsum F (row2 x j.toNat)), iz (((trips x).length + (row2 x j.toNat).length : Nat)), iz j, w') ∧ MS c lm w w') (x : Int) 0 (_, _, iz 0, w') hi0 ⟨by decide, w', by simp [row2, lsum], M⟩ ?_
      rintro R2 _ j hj ⟨hj0, w2, rfl, M2⟩ k2
      refine br (iz_le (by omega) (by omega) (by omega) (by omega)) (fun e5 => ?_) (fun e5 => ?_)
      · obtain rfl : j = x := by omega
        rw [iz_add, Int.toNat_natCast]
        exact kk _ ⟨by omega, w2, rfl, M2⟩
      · have k2 := k2 (by omega)
        obtain ⟨y, rfl⟩ : ∃ y : Nat, j = y := ⟨j.toNat, by omega⟩
        rw [show ((y : Int) + 1).toNat = y + 1 by omega, row2_s, lsum_app, List.length_append] at k2
        rw [Int.toNat_natCast]
        refine lpe (fun n1 (s : Int32 × Int32 × Int32 × Wd) => lp_X3_lot_56 Q (fun x y z t => R (x, y, z, t)) (fun x y z t => R2 (x, y, z, t)) (iz v) (iz x) (iz y) n1 s.1 s.2.1 s.2.2.1 s.2.2.2) (fun R3 s => wl_X3_lot_56 Q (fun x y z t => R (x, y, z, t)) (fun x y z t => R2 (x, y, z, t)) (iz v) (iz x) (iz y) (fun x y z t => R3 (x, y, z, t)) s.1 s.2.1 s.2.2.1 s.2.2.2) (fun _ _ h => h) (fun d s => 0 ≤ d ∧ ∃ w', s = (iz (lsum F (trips x) + (lsum F (row2 x y) + lsum F (row3 x y d.toNat))), iz (((trips x).length + ((row2 x y).length + (row3 x y d.toNat).length) : Nat)), iz d, w') ∧ MS c lm w w') (y : Int) 0 (_, _, iz 0, w2) hj0 ⟨by decide, w2, by simp [row3, lsum], M2⟩ ?_
        rintro R3 _ d hd ⟨hd0, w3, rfl, M3⟩ k3
        refine br (iz_le (by omega) (by omega) (by omega) (by omega)) (fun e6 => ?_) (fun e6 => ?_)
        · obtain rfl : d = y := by omega
          rw [iz_add, Int.toNat_natCast]
          exact k2 _ ⟨by omega, w3, rfl, M3⟩
        · have k3 := k3 (by omega)
          obtain ⟨z, rfl⟩ : ∃ z : Nat, d = z := ⟨d.toNat, by omega⟩
          rw [show ((z : Int) + 1).toNat = z + 1 by omega, row3_s, lsum_app, List.length_append] at k3
          have b1 := vb x (by omega) (by omega)
          have b2 := vb y (by omega) (by omega)
          have b3 := vb z (by omega) (by omega)
          refine m_valueOf (H.ms M3) M90 (G.ms M90 M3) (by omega) (by omega) (fun w4 M4 => ?_)
          have M4' := M3.trans M4
          refine m_valueOf (H.ms M4') M90 (G.ms M90 M4') (by omega) (by omega) (fun w5 M5 => ?_)
          have M5' := M4'.trans M5
          refine m_valueOf (H.ms M5') M90 (G.ms M90 M5') (by omega) (by omega) (fun w6 M6 => ?_)
          unfold valO
          rw [imax_iz (by omega) (by omega) (by omega) (by omega), imax_iz (by omega) (by omega) (by omega) (by omega), iz_add, iz_add, iz_add, Int.toNat_natCast]
          refine k3 _ ⟨by omega, w6, ?_, M5'.trans M6⟩
          have e1 : lsum F [(x, y, z)] = max (val c h x 0 (hn h - 1 - x)) (max (val c h y 0 (hn h - 1 - y)) (val c h z 0 (hn h - 1 - z))) := by
            rw [← hF, lsum, lsum, Int.add_zero]
            rfl
          rw [e1]
          refine Prod.ext ?_ (Prod.ext ?_ rfl)
          · show iz _ = iz _
            congr 1
            omega
          · show iz _ = iz _
            congr 1
  · rw [if_neg (by omega)] at q0
    exact q0
end MQ5
