/-! the component's eating, on -/
theorem pw10 : ∀ k, k < 9 → (10 : Int) ^ k ≤ 100000000 := by decide +kernel
section EAT3
variable {c : Cf} {h : Hs} {w : Wd} {Q : Int32 → Wd → Prop}
theorem full_lt (n : Nat) : 2 ^ n - 1 < 2 ^ n := by
  have := Nat.two_pow_pos n
  omega
theorem x_eatingRow (H : HX c h w) (hg : ∀ s : Nat, s < 2 ^ (hn h).toNat → gA w 36 s = iz (best c h s)) (q : ∀ f, Q (iz (brow c h (2 ^ (hn h).toNat - 1))) (sB w 15 f)) : wp_X1_eatingRow w Q := by
  unfold wp_X1_eatingRow
  have a := H.hs.1; have a2 := H.hs.2.1
  have pb := pow_bd a (show hn h < 9 by omega)
  refine x_boxMany H ?_
  rw [shlI a (by omega), iz_sub]
  have main : ∀ (k s : Nat) (r : Int) (f : Int → Int32), s < 2 ^ (hn h).toNat → popc s = k → 0 ≤ r → r * 10 ^ k + brow c h s = brow c h (2 ^ (hn h).toNat - 1) → lp_X1_eatingRow_11 Q (k + 1) (iz r) (iz s) (sB w 15 f) := by
    intro k
    induction k with
    | zero =>
      intro s r f hs hp hr e
      have z2 := (hn_bit H.hs hs).2.1
      have := (popc_tab s z2).2.1 hp
      subst this
      refine ⟨fun _ => ?_, fun x => absurd rfl x⟩
      rw [best_0.2, Int.pow_zero, Int.mul_one, Int.add_zero] at e
      rw [e]
      exact q f
    | succ k ih =>
      intro s r f hs hp hr e
      obtain ⟨z1, z2, z3⟩ := hn_bit H.hs hs
      have h0 : s ≠ 0 := by rintro rfl; exact absurd hp (by rw [show popc 0 = 0 by decide]; omega)
      have bs := best_s H.cf H.hs hs h0
      obtain ⟨b1, b2, b3, b4, b5, b6⟩ := bs
      have bb := best_bd H.cf H.hs hs
      have ft := best_bd H.cf H.hs (full_lt (hn h).toNat)
      have ftp := hn_bit H.hs (full_lt (hn h).toNat)
      generalize fmE c h s (hn h).toNat = p at *
      refine ⟨fun x => absurd x (iz_ne0 (by omega) (by omega) (by omega)), fun _ => ?_⟩
      refine lpe (fun n1 (s' : Int32 × Wd) => lp_X1_eatingRow_17 Q (lp_X1_eatingRow_11 Q (k + 1)) (iz r) (iz s) n1 s'.1 s'.2) (fun R2 s' => wl_X1_eatingRow_17 Q (lp_X1_eatingRow_11 Q (k + 1)) (iz r) (iz s) (fun x y => R2 (x, y)) s'.1 s'.2) (fun _ _ h => h) (fun j s' => 0 ≤ j ∧ ∃ f, s' = (iz j, sB w 15 f)) (p.2 : Int) 0 (iz 0, sB w 15 f) (by omega) ⟨by decide, f, rfl⟩ ?_
      rintro R2 _ j hj ⟨hj0, f1, rfl⟩ k2
      have H1 := H.s15 f1
      obtain ⟨b, rfl⟩ : ∃ b : Nat, j = b := ⟨j.toNat, by omega⟩
      have hb : b < (hn h).toNat := by omega
      have hh : has2 s b = s.testBit b := by unfold has2; simp
      refine x_has (by omega) (by omega) hj0 (by omega) (fun t => t1 (x_eatenNow H1 hs hb (fun f2 => ?_))) (fun t => t0 ?_)
      · have lt := (rmv_lt s z2 b (by omega)).1
        have lt2 := (rmv_lt s z2 b (by omega)).2 (hh ▸ t)
        rw [sB_sB, rmv_tab s z2 b (by omega)]
        refine ⟨iz_inb (by omega) (by omega) (by omega), iz_inb (by omega) (by omega) (by omega), ?_⟩
        rw [iz_toInt (by omega) (by omega), iz_toInt (by omega) (by omega), gA_sB, gA_sB, if_neg (by decide), if_neg (by decide), hg _ (by omega), hg s hs, iz_add]
        have zb := best_bd H.cf H.hs (s := rmv s b) (by omega)
        have ze := eNow_bd (s := s) H.cf H.hs hb
        have zf : fE c h s b = eNow c h b s + best c h (rmv s b) := rfl
        refine br (iz_eq (by omega) (by omega) (by omega) (by omega)) (fun e4 => ?_) (fun e4 => ?_)
        · have eb : b = p.2 := by
            by_cases x : b = p.2
            · exact x
            · have := b6 b (by omega) (hh ▸ t)
              omega
          subst eb
          rw [iz_mul, iz_add]
          refine ih (rmv s p.2) (10 * r + p.2) f2 (by omega) (by omega) (by omega) ?_
          rw [b2, hp, Int.pow_succ] at e
          rw [show k + 1 - 1 = k by omega] at e
          rw [← e]
          have : (10 * r + (p.2 : Int)) * 10 ^ k = r * (10 ^ k * 10) + 10 ^ k * (p.2 : Int) := by
            rw [Int.add_mul, Int.mul_comm 10 r, Int.mul_assoc, Int.mul_comm 10 (10 ^ k), Int.mul_comm (p.2 : Int)]
          omega
        · have lt3 : b < p.2 := by
            by_cases x : b = p.2
            · subst x
              omega
            · omega
          rw [iz_add]
          exact k2 (by omega) _ ⟨by omega, f2, rfl⟩
      · have lt3 : b < p.2 := by
          by_cases x : b = p.2
          · rw [x] at hh t
            rw [hh, b3] at t
            exact absurd t (by decide)
          · omega
        rw [iz_add]
        exact k2 (by omega) _ ⟨by omega, f1, rfl⟩
  have ftp := hn_bit H.hs (full_lt (hn h).toNat)
  have := main (popc (2 ^ (hn h).toNat - 1)) (2 ^ (hn h).toNat - 1) 0 (gA w 15) (full_lt _) rfl (Int.le_refl _) (by rw [Int.zero_mul, Int.zero_add])
  rw [sB_self] at this
  rw [show ((2 ^ (hn h).toNat : Nat) : Int) - 1 = ((2 ^ (hn h).toNat - 1 : Nat) : Int) by have := Nat.two_pow_pos (hn h).toNat; omega]
  exact ⟨_, this⟩
theorem x_eatingFrom0 (H : HX c h w) (q : ∀ f, Q (iz (sm (fun i => val c h (hn h - 1 - i) i 0) (hn h))) (sB w 15 f)) : wp_X1_eatingFrom (iz 0) w Q := by
  unfold wp_X1_eatingFrom
  have a := H.hs.1; have a2 := H.hs.2.1
  have pb := pow_bd a (show hn h < 9 by omega)
  refine x_boxMany H ?_
  rw [shlI a (by omega), iz_sub]
  refine lpe (fun n1 (s : Int32 × Int32 × Wd) => lp_X1_eatingFrom_11 Q (iz 0) n1 s.1 s.2.1 s.2.2) (fun R s => wl_X1_eatingFrom_11 Q (iz 0) (fun x y z => R (x, y, z)) s.1 s.2.1 s.2.2) (fun _ _ h => h) (fun i s => 0 ≤ i ∧ ∃ f, s = (iz (sm (fun i => val c h (hn h - 1 - i) i 0) i), iz (((2 ^ (hn h - i).toNat : Nat) : Int) - 1), sB w 15 f)) (hn h) 0 (iz 0, iz (((2 ^ (hn h).toNat : Nat) : Int) - 1), w) a ⟨by decide, gA w 15, by rw [sB_self, Int.sub_zero]; rfl⟩ ?_
  rintro R _ i hi ⟨hi0, f, rfl⟩ kk
  have H1 := H.s15 f
  have pb2 := pow_bd (show 0 ≤ hn h - i by omega) (show hn h - i < 9 by omega)
  by_cases e : i = hn h
  · subst e
    refine ⟨fun _ => q f, fun x => absurd ?_ x⟩
    rw [Int.sub_self]
    rfl
  · have kk := kk (by omega)
    obtain ⟨k, hk⟩ : ∃ k : Nat, hn h - i = k := ⟨(hn h - i).toNat, by omega⟩
    rw [hk] at pb2 ⊢
    have lt := low_tab2 k (by omega)
    have p2 : 2 ≤ 2 ^ k := by
      rw [show k = (k - 1) + 1 by omega, Nat.pow_succ]
      have := Nat.two_pow_pos (k - 1)
      omega
    have lt2 := lt.2 (by omega)
    have pk : 2 ^ k ≤ 2 ^ (hn h).toNat := Nat.pow_le_pow_right (by decide) (by omega)
    have en : ((2 ^ k : Nat) : Int) - 1 = ((2 ^ k - 1 : Nat) : Int) := by omega
    rw [Int.toNat_natCast] at pb2 ⊢
    refine ⟨fun x => absurd x (iz_ne0 (by omega) (by omega) (by omega)), fun _ => ⟨fun _ => ?_, fun x => absurd rfl x⟩⟩
    obtain ⟨F, F1, F2⟩ := nlz_ex
    refine (F1 _ _ _).mpr ?_
    unfold b_X1_eatingFrom_33
    rw [F2 k (by omega), show ((k : Int) - 1) = ((k - 1 : Nat) : Int) by omega, en]
    refine x_eatenNow H1 (by omega) (by omega) (fun f2 => ?_)
    rw [sB_sB, rmv_tab _ (by omega) _ (by omega), lt2.1, iz_add]
    refine kk _ ⟨by omega, f2, ?_⟩
    rw [sm_s _ hi0]
    have e1 : eNow c h (k - 1) (2 ^ k - 1) = val c h (hn h - 1 - i) i 0 := by
      unfold eNow
      rw [lt.1, show k - 1 + 1 = k by omega, lt2.2, show ((k - 1 : Nat) : Int) = hn h - 1 - i by omega, show hn h - (k : Int) = i by omega]
      rfl
    have e2 : (((2 ^ (hn h - (i + 1)).toNat : Nat) : Int) - 1) = ((2 ^ (k - 1) - 1 : Nat) : Int) := by
      rw [show (hn h - (i + 1)).toNat = k - 1 by omega]
      have := Nat.two_pow_pos (k - 1)
      omega
    rw [e1, e2]
theorem x_eatingFrom1 (H : HX c h w) (q : ∀ f, Q (iz (sm (fun i => val c h i i (hn h - 1 - i)) (hn h))) (sB w 15 f)) : wp_X1_eatingFrom (iz 1) w Q := by
  unfold wp_X1_eatingFrom
  have a := H.hs.1; have a2 := H.hs.2.1
  have pb := pow_bd a (show hn h < 9 by omega)
  refine x_boxMany H ?_
  rw [shlI a (by omega), iz_sub]
  refine lpe (fun n1 (s : Int32 × Int32 × Wd) => lp_X1_eatingFrom_11 Q (iz 1) n1 s.1 s.2.1 s.2.2) (fun R s => wl_X1_eatingFrom_11 Q (iz 1) (fun x y z => R (x, y, z)) s.1 s.2.1 s.2.2) (fun _ _ h => h) (fun i s => 0 ≤ i ∧ ∃ f, s = (iz (sm (fun i => val c h i i (hn h - 1 - i)) i), iz (((2 ^ (hn h).toNat - 2 ^ i.toNat : Nat) : Int)), sB w 15 f)) (hn h) 0 (iz 0, iz (((2 ^ (hn h).toNat : Nat) : Int) - 1), w) a ⟨by decide, gA w 15, ?_⟩ ?_
  · rw [sB_self]
    have := Nat.two_pow_pos (hn h).toNat
    rw [show (((2 ^ (hn h).toNat - 2 ^ (0 : Int).toNat : Nat)) : Int) = ((2 ^ (hn h).toNat : Nat) : Int) - 1 by rw [show (0 : Int).toNat = 0 by decide, Nat.pow_zero]; omega]
    rfl
  · rintro R _ i hi ⟨hi0, f, rfl⟩ kk
    have H1 := H.s15 f
    by_cases e : i = hn h
    · subst e
      refine ⟨fun _ => q f, fun x => absurd ?_ x⟩
      rw [Nat.sub_self]
      rfl
    · have kk := kk (by omega)
      obtain ⟨k, rfl⟩ : ∃ k : Nat, i = k := ⟨i.toNat, by omega⟩
      obtain ⟨N, hN⟩ : ∃ N : Nat, hn h = N := ⟨(hn h).toNat, by omega⟩
      have lt := full_tab N (by omega) k (by omega)
      have lt2 := lt.2 (by omega)
      have pk : 2 ^ (k + 1) ≤ 2 ^ N := Nat.pow_le_pow_right (by decide) (by omega)
      have pk0 := Nat.two_pow_pos k
      rw [Nat.pow_succ] at pk
      rw [hN, Int.toNat_natCast] at pb kk ⊢
      rw [Int.toNat_natCast]
      refine ⟨fun x => absurd x (iz_ne0 (by omega) (by omega) (by omega)), fun _ => ⟨fun x => absurd x one_ne, fun _ => ?_⟩⟩
      obtain ⟨F, F1, F2⟩ := ntz_ex
      refine (F1 _ _ _).mpr ?_
      unfold b_X1_eatingFrom_33
      have F2 := F2 N (by omega) k (by omega)
      rw [show (((2 ^ N : Nat) : Int) - (2 ^ k : Nat)) = ((2 ^ N - 2 ^ k : Nat) : Int) by omega] at F2
      rw [F2]
      refine x_eatenNow H1 (by rw [hN, Int.toNat_natCast]; omega) (by omega) (fun f2 => ?_)
      rw [sB_sB, rmv_tab _ (by omega) _ (by omega), lt2.1, iz_add]
      refine kk _ ⟨by omega, f2, ?_⟩
      rw [sm_s _ hi0]
      have e1 : eNow c h k (2 ^ N - 2 ^ k) = val c h k k (N - 1 - k) := by
        unfold eNow
        rw [lt.1, lt2.2, hN, show (N : Int) - (N - k : Nat) = k by omega, show ((N - 1 - k : Nat) : Int) = N - 1 - k by omega]
      rw [e1, show ((k : Int) + 1).toNat = k + 1 by omega]
theorem x_eat (H : HX c h w) {v : Int} (hv : VR v) (q : ∀ f g, Q (iz (o_eat c h v)) (sB (sB w 15 f) 36 g)) : wp_X1_eat (iz v) w Q := by
  unfold wp_X1_eat
  have a := H.hs.1; have a2 := H.hs.2.1
  have pb := pow_bd a (show hn h < 9 by omega)
  have self : ∀ f, sB (sB w 15 f) 36 (gA w 36) = sB w 15 f := by
    intro f
    have := sB_self (sB w 15 f) 36
    exact this
  have q0 := q (gA w 15) (gA w 36)
  rw [self, sB_self] at q0
  unfold o_eat at q q0
  refine x_isHouse H (fun k => t1 (x_in hv (by decide) (by decide) (fun p1 p2 => u1 ?_) (fun p => u0 ?_))) (fun p => t0 ?_)
  · rw [if_pos ⟨k, p1, p2⟩] at q
    clear q0
    refine br (iz_le hv.1 hv.2 (by decide) (by decide)) (fun e => ?_) (fun e => ?_)
    · refine x_layEating H (fun f g hg => ?_)
      have H1 := (H.s15 f).s36 g
      refine brn (iz_eq hv.1 hv.2 (by decide) (by decide)) (fun e2 => ?_) (fun e2 => ?_)
      · rw [if_neg e2, if_pos (by omega)] at q
        refine x_boxMany H1 ?_
        rw [shlI a (by omega), iz_sub]
        refine ⟨iz_inb (by omega) (by omega) (by omega), ?_⟩
        rw [iz_toInt (by omega) (by omega), gA_sB, if_pos rfl, show ((2 ^ (hn h).toNat : Nat) : Int) - 1 = ((2 ^ (hn h).toNat - 1 : Nat) : Int) by omega, hg _ (full_lt _)]
        exact q f g
      · rw [if_pos e2] at q
        refine x_eatingRow H1 (fun s hs => ?_) (fun f2 => ?_)
        · rw [gA_sB, if_pos rfl]
          exact hg s hs
        · rw [sB_comm _ (show (36 : Nat) ≠ 15 by decide), sB_sB]
          exact q f2 g
    · rw [if_neg (by omega), if_neg (by omega)] at q
      refine brn (iz_eq hv.1 hv.2 (by decide) (by decide)) (fun e2 => ?_) (fun e2 => ?_)
      · rw [if_pos (by omega)] at q
        refine x_eatingFrom0 H (fun f => ?_)
        have := q f (gA w 36)
        rwa [self] at this
      · rw [if_neg (by omega)] at q
        refine x_eatingFrom1 H (fun f => ?_)
        have := q f (gA w 36)
        rwa [self] at this
  · rw [if_neg (by omega)] at q0
    exact q0
  · rw [if_neg (by omega)] at q0
    exact q0
end EAT3
