/-! what it may be: how far a kind is held by what was seen -/
/-- the peeks: how many, of which sort (0, 1), what was seen -/
abbrev Pk : Type := Int × (Int → Int) × (Int → Int)
def PkOK (p : Pk) : Prop := 0 ≤ p.1 ∧ p.1 ≤ 12 ∧ ∀ i, 0 ≤ i → i < p.1 → (p.2.1 i = 0 ∨ p.2.1 i = 1) ∧ 0 ≤ p.2.2 i ∧ p.2.2 i ≤ 9
def PkX (p : Pk) (w : Wd) : Prop := gI w 39 = iz p.1 ∧ ∀ i, 0 ≤ i → i < p.1 → gA w 37 i = iz (p.2.1 i) ∧ gA w 38 i = iz (p.2.2 i)
def PkM (p : Pk) (w : Wd) : Prop := gI w 103 = iz p.1 ∧ ∀ i, 0 ≤ i → i < p.1 → gA w 101 i = iz (p.2.1 i) ∧ gA w 102 i = iz (p.2.2 i)
def hld1 (c : Cf) (p : Pk) (k i : Int) : Int := if cD c (5 * k + p.2.1 i) = p.2.2 i then 10 - cR c 3 else cR c 3
def hldN (c : Cf) (p : Pk) (k : Int) : Nat → Int
  | 0 => 1
  | n + 1 => hldN c p k n * hld1 c p k n
def hld (c : Cf) (p : Pk) (k : Int) : Int := hldN c p k p.1.toNat
theorem hldN_bd {c : Cf} {p : Pk} (H : CfOK c) (K : 0 < cK c) (k : Int) : ∀ n : Nat, 0 ≤ hldN c p k n ∧ hldN c p k n ≤ 10 ^ n := by
  intro n
  induction n with
  | zero => rw [hldN]; decide
  | succ n ih =>
    rw [hldN, Int.pow_succ]
    have r := H.2.2.1 K
    have b : 0 ≤ hld1 c p k n ∧ hld1 c p k n ≤ 10 := by
      unfold hld1
      split <;> omega
    exact mul_bd ih.1 ih.2 b.1 b.2
theorem pw12 : ∀ n, n < 13 → (10 : Int) ^ n ≤ 1000000000000 := by decide +kernel
theorem hld_bd {c : Cf} {p : Pk} (H : CfOK c) (K : 0 < cK c) (hp : PkOK p) (k : Int) : 0 ≤ hld c p k ∧ hld c p k ≤ 1000000000000 := by
  have a := hldN_bd (p := p) H K k p.1.toNat
  have b := pw12 p.1.toNat (by have := hp.1; have := hp.2.1; omega)
  unfold hld
  omega
section WH
variable {c : Cf} {lm : Int} {h : Hs} {w : Wd} {p : Pk} {Q : Int64 → Wd → Prop}
theorem x_heldOf (H : HX c h w) (hp : PkOK p) (P : PkX p w) {k : Int} (k1 : 0 ≤ k) (k2 : k < cK c) (q : Q (lz (hld c p k)) w) : wp_X1_heldOf (iz k) w Q := by
  obtain ⟨p0, p12, pp⟩ := hp
  obtain ⟨P1, P2⟩ := P
  refine lpe (fun n (s : Int64 × Int32 × Wd) => lp_X1_heldOf_5 Q (iz k) n s.1 s.2.1 s.2.2) (fun R s => wl_X1_heldOf_5 Q (iz k) (fun x y z => R (x, y, z)) s.1 s.2.1 s.2.2) (fun _ _ h => h) (fun i s => 0 ≤ i ∧ s = (lz (hldN c p k i.toNat), iz i, w)) p.1 0 (lz 1, iz 0, w) p0 ⟨by decide, rfl⟩ ?_
  rintro R _ i hi ⟨hi0, rfl⟩ kk
  unfold wl_X1_heldOf_5
  rw [P1]
  refine br (iz_le (by omega) (by omega) (by omega) (by omega)) (fun e => ?_) (fun e => ?_)
  · obtain rfl : i = p.1 := by omega
    exact q
  · have kk := kk (by omega)
    have es : hldN c p k (i + 1).toNat = hldN c p k i.toNat * hld1 c p k i := by
      rw [show (i + 1).toNat = i.toNat + 1 by omega, hldN, Int.toNat_of_nonneg hi0]
    rw [es] at kk
    obtain ⟨z1, z2⟩ := P2 i hi0 (by omega)
    obtain ⟨y1, y2⟩ := pp i hi0 (by omega)
    have r := H.cf.2.2.1 (by omega)
    have k6 := H.cf.2.1
    have dk := H.cf.2.2.2.1 k k1 k2
    have fin : ∀ t : Int, t = p.2.1 i → b_X1_heldOf_32 Q (fun x y z => R (x, y, z)) (iz k) (iz i) (iz t) (iz k) (lz (hldN c p k i.toNat)) w := by
      intro t ht
      refine x_ofKind H k1 k2 (by omega) (by omega) ⟨iz_inb (by omega) (by omega) (by omega), ?_⟩
      rw [iz_toInt (by omega) (by omega), z2, iz_toInt (by decide) (by decide), H.2.2.2.1 3 (by decide) (by decide)]
      unfold hld1 at kk
      rw [← ht] at kk
      have db : 0 ≤ cD c (5 * k + t) ∧ cD c (5 * k + t) ≤ 9 := by
        rcases y1 with y1 | y1
        · rw [ht, y1, Int.add_zero]; omega
        · rw [ht, y1]; omega
      refine brn (iz_eq (by omega) (by omega) (by omega) (by omega)) (fun e2 => ⟨iz_inb (by decide) (by decide) (by decide), ?_⟩) (fun e2 => ⟨iz_inb (by decide) (by decide) (by decide), ?_⟩)
      · rw [if_neg e2] at kk
        rw [i2l (by omega), lz_mul, iz_add]
        exact kk _ ⟨by omega, rfl⟩
      · rw [if_pos e2] at kk
        rw [iz_sub, i2l (by omega), lz_mul, iz_add]
        exact kk _ ⟨by omega, rfl⟩
    refine ⟨iz_inb (by omega) (by omega) (by omega), ?_⟩
    rw [iz_toInt (by omega) (by omega), z1]
    refine brn (iz_eq (by omega) (by omega) (by decide) (by decide)) (fun e2 => fin 1 (by omega)) (fun e2 => fin 0 (by omega))
theorem m_heldBy (H : HM c lm w) (hp : PkOK p) (P : PkM p w) {k : Int} (k1 : 0 ≤ k) (k2 : k < cK c) (q : Q (lz (hld c p k)) w) : wp_X3_heldBy (iz k) w Q := by
  obtain ⟨p0, p12, pp⟩ := hp
  obtain ⟨P1, P2⟩ := P
  refine lpe (fun n (s : Int64 × Int32 × Wd) => lp_X3_heldBy_5 Q (iz k) n s.1 s.2.1 s.2.2) (fun R s => wl_X3_heldBy_5 Q (iz k) (fun x y z => R (x, y, z)) s.1 s.2.1 s.2.2) (fun _ _ h => h) (fun i s => 0 ≤ i ∧ s = (lz (hldN c p k i.toNat), iz i, w)) p.1 0 (lz 1, iz 0, w) p0 ⟨by decide, rfl⟩ ?_
  rintro R _ i hi ⟨hi0, rfl⟩ kk
  unfold wl_X3_heldBy_5
  rw [P1]
  refine br (iz_le (by omega) (by omega) (by omega) (by omega)) (fun e => ?_) (fun e => ?_)
  · obtain rfl : i = p.1 := by omega
    exact q
  · have kk := kk (by omega)
    have es : hldN c p k (i + 1).toNat = hldN c p k i.toNat * hld1 c p k i := by
      rw [show (i + 1).toNat = i.toNat + 1 by omega, hldN, Int.toNat_of_nonneg hi0]
    rw [es] at kk
    unfold hld1 at kk
    obtain ⟨z1, z2⟩ := P2 i hi0 (by omega)
    obtain ⟨y1, y2⟩ := pp i hi0 (by omega)
    have r := H.1.2.2.1 (by omega)
    have k6 := H.1.2.1
    have dk := H.1.2.2.2.1 k k1 k2
    have db : 0 ≤ cD c (5 * k + p.2.1 i) ∧ cD c (5 * k + p.2.1 i) ≤ 9 := by
      rcases y1 with y1 | y1
      · rw [y1, Int.add_zero]; omega
      · rw [y1]; omega
    refine ⟨iz_inb (by omega) (by omega) (by omega), ?_⟩
    rw [iz_toInt (show -2147483648 ≤ i by omega) (by omega), z1]
    refine m_told H k1 k2 (by omega) (by omega) ⟨iz_inb (by omega) (by omega) (by omega), ?_⟩
    rw [z2, iz_toInt (by decide) (by decide), H.2.2.1 3 (by decide) (by decide)]
    refine brn (iz_eq (by omega) (by omega) (by omega) (by omega)) (fun e2 => ⟨iz_inb (by decide) (by decide) (by decide), ?_⟩) (fun e2 => ⟨iz_inb (by decide) (by decide) (by decide), ?_⟩)
    · rw [if_neg e2] at kk
      rw [i2l (by omega), lz_mul, iz_add]
      exact kk _ ⟨by omega, rfl⟩
    · rw [if_pos e2] at kk
      rw [iz_sub, i2l (by omega), lz_mul, iz_add]
      exact kk _ ⟨by omega, rfl⟩
def hsum (c : Cf) (p : Pk) (j a : Int) (n : Int) : Int := sm (fun k => if cD c (5 * k + j) = a then hld c p k else 0) n
theorem hsum_bd (H : CfOK c) (K : 0 < cK c) (hp : PkOK p) (j a : Int) {n : Int} (n0 : 0 ≤ n) (n6 : n ≤ 6) : 0 ≤ hsum c p j a n ∧ hsum c p j a n ≤ 6000000000000 := by
  have := sm_bd (f := fun k => if cD c (5 * k + j) = a then hld c p k else 0) (m := 1000000000000) n0 (fun i i1 i2 => by
    have := hld_bd H K hp i
    split
    · exact this
    · omega)
  unfold hsum
  omega
def hmax (c : Cf) (p : Pk) (j : Int) : Nat → Int
  | 0 => 0
  | n + 1 => max (hmax c p j n) (hsum c p j n (cK c))
theorem hmax_bd (H : CfOK c) (K : 0 < cK c) (hp : PkOK p) (j : Int) : ∀ n : Nat, 0 ≤ hmax c p j n ∧ hmax c p j n ≤ 6000000000000 := by
  intro n
  induction n with
  | zero => rw [hmax]; decide
  | succ n ih =>
    rw [hmax]
    have k6 := H.2.1
    have := hsum_bd H K hp j n (n := cK c) (by omega) (by omega)
    omega
theorem lmax_lz {a b : Int} (h1 : -9223372036854775808 ≤ a) (h2 : a < 9223372036854775808) (h3 : -9223372036854775808 ≤ b) (h4 : b < 9223372036854775808) : lmax (lz a) (lz b) = lz (max a b) := by
  have gt : lz b < lz a ↔ b < a := by rw [Int64.lt_iff_toInt_lt, lz_toInt h1 h2, lz_toInt h3 h4]
  unfold lmax
  by_cases h : b < a
  · rw [if_pos (gt.mpr h), Int.max_eq_left (by omega)]
  · rw [if_neg (fun x => h (gt.mp x)), Int.max_eq_right (by omega)]
theorem x_mostHeld (H : HX c h w) (K : 0 < cK c) (hp : PkOK p) (P : PkX p w) {j : Int} (hj : j = 0 ∨ j = 1) (q : Q (lz (hmax c p j 10)) w) : wp_X1_mostHeld (iz j) w Q := by
  have k6 := H.cf.2.1
  refine lpe (fun n (s : Int64 × Int32 × Wd) => lp_X1_mostHeld_5 Q (iz j) n s.1 s.2.1 s.2.2) (fun R s => wl_X1_mostHeld_5 Q (iz j) (fun x y z => R (x, y, z)) s.1 s.2.1 s.2.2) (fun _ _ h => h) (fun i s => 0 ≤ i ∧ s = (lz (hmax c p j i.toNat), iz i, w)) 10 0 (lz 0, iz 0, w) (by decide) ⟨by decide, rfl⟩ ?_
  rintro R _ i hi ⟨hi0, rfl⟩ kk
  refine br (iz_le (by decide) (by decide) (by omega) (by omega)) (fun e => ?_) (fun e => ?_)
  · obtain rfl : i = 10 := by omega
    exact q
  · have kk := kk (by omega)
    rw [show (i + 1).toNat = i.toNat + 1 by omega, hmax, Int.toNat_of_nonneg hi0] at kk
    refine lpe (fun n (s : Int64 × Int32 × Wd) => lp_X1_mostHeld_18 Q (fun x y z => R (x, y, z)) (iz j) (lz (hmax c p j i.toNat)) (iz i) n s.1 s.2.1 s.2.2) (fun R2 s => wl_X1_mostHeld_18 Q (fun x y z => R (x, y, z)) (iz j) (lz (hmax c p j i.toNat)) (iz i) (fun x y z => R2 (x, y, z)) s.1 s.2.1 s.2.2) (fun _ _ h => h) (fun k s => 0 ≤ k ∧ s = (lz (hsum c p j i k), iz k, w)) (cK c) 0 (lz 0, iz 0, w) (by omega) ⟨by decide, rfl⟩ ?_
    rintro R2 _ k hk ⟨hk0, rfl⟩ k2
    unfold wl_X1_mostHeld_18
    rw [H.2.2.1]
    refine br (iz_le (by omega) (by omega) (by omega) (by omega)) (fun e2 => ?_) (fun e2 => ?_)
    · obtain rfl : k = cK c := by omega
      have b1 := hmax_bd H.cf K hp j i.toNat
      have b2 := hsum_bd H.cf K hp j i (n := cK c) (by omega) (by omega)
      rw [lmax_lz (by omega) (by omega) (by omega) (by omega), iz_add]
      exact kk _ ⟨by omega, rfl⟩
    · have k2 := k2 (by omega)
      unfold hsum at k2
      rw [sm_s _ hk0] at k2
      have dk := H.cf.2.2.2.1 k hk0 (by omega)
      have fin : ∀ t : Int, t = j → b_X1_mostHeld_39 Q (fun x y z => R (x, y, z)) (fun x y z => R2 (x, y, z)) (iz j) (lz (hmax c p j i.toNat)) (iz i) (lz (hsum c p j i k)) (iz k) (iz t) (iz k) w := by
        rintro t rfl
        refine x_ofKind H hk0 (by omega) (by omega) (by omega) ?_
        have db : 0 ≤ cD c (5 * k + t) ∧ cD c (5 * k + t) ≤ 9 := by
          rcases hj with y1 | y1
          · rw [y1, Int.add_zero]; omega
          · rw [y1]; omega
        refine brn (iz_eq (by omega) (by omega) (by omega) (by omega)) (fun e3 => ?_) (fun e3 => x_heldOf H hp P hk0 (by omega) ?_)
        · rw [if_neg e3, Int.add_zero] at k2
          rw [iz_add]
          exact k2 _ ⟨by omega, rfl⟩
        · rw [if_pos e3] at k2
          rw [iz_add, lz_add]
          exact k2 _ ⟨by omega, rfl⟩
      refine brn (iz_eq (by omega) (by omega) (by decide) (by decide)) (fun e2 => fin 1 (by omega)) (fun e2 => fin 0 (by omega))
theorem m_greatestBy (H : HM c lm w) (K : 0 < cK c) (hp : PkOK p) (P : PkM p w) {j : Int} (hj : j = 0 ∨ j = 1) (q : Q (lz (hmax c p j 10)) w) : wp_X3_greatestBy (iz j) w Q := by
  have k6 := H.1.2.1
  refine lpe (fun n (s : Int64 × Int32 × Wd) => lp_X3_greatestBy_5 Q (iz j) n s.1 s.2.1 s.2.2) (fun R s => wl_X3_greatestBy_5 Q (iz j) (fun x y z => R (x, y, z)) s.1 s.2.1 s.2.2) (fun _ _ h => h) (fun i s => 0 ≤ i ∧ s = (lz (hmax c p j i.toNat), iz i, w)) 10 0 (lz 0, iz 0, w) (by decide) ⟨by decide, rfl⟩ ?_
  rintro R _ i hi ⟨hi0, rfl⟩ kk
  refine br (iz_lt (by decide) (by decide) (by omega) (by omega)) (fun e => ?_) (fun e => ?_)
  · obtain rfl : i = 10 := by omega
    exact q
  · have kk := kk (by omega)
    rw [show (i + 1).toNat = i.toNat + 1 by omega, hmax, Int.toNat_of_nonneg hi0] at kk
    refine lpe (fun n (s : Int64 × Int32 × Wd) => lp_X3_greatestBy_18 Q (fun x y z => R (x, y, z)) (iz j) (lz (hmax c p j i.toNat)) (iz i) n s.1 s.2.1 s.2.2) (fun R2 s => wl_X3_greatestBy_18 Q (fun x y z => R (x, y, z)) (iz j) (lz (hmax c p j i.toNat)) (iz i) (fun x y z => R2 (x, y, z)) s.1 s.2.1 s.2.2) (fun _ _ h => h) (fun k s => 0 ≤ k ∧ s = (lz (hsum c p j i k), iz k, w)) (cK c) 0 (lz 0, iz 0, w) (by omega) ⟨by decide, rfl⟩ ?_
    rintro R2 _ k hk ⟨hk0, rfl⟩ k2
    unfold wl_X3_greatestBy_18
    rw [H.2.1]
    refine br (iz_le (by omega) (by omega) (by omega) (by omega)) (fun e2 => ?_) (fun e2 => ?_)
    · obtain rfl : k = cK c := by omega
      have b1 := hmax_bd H.1 K hp j i.toNat
      have b2 := hsum_bd H.1 K hp j i (n := cK c) (by omega) (by omega)
      rw [lmax_lz (by omega) (by omega) (by omega) (by omega), iz_add]
      exact kk _ ⟨by omega, rfl⟩
    · have k2 := k2 (by omega)
      unfold hsum at k2
      rw [sm_s _ hk0] at k2
      have dk := H.1.2.2.2.1 k hk0 (by omega)
      refine m_told H hk0 (by omega) (by omega) (by omega) ?_
      have db : 0 ≤ cD c (5 * k + j) ∧ cD c (5 * k + j) ≤ 9 := by
        rcases hj with y1 | y1
        · rw [y1, Int.add_zero]; omega
        · rw [y1]; omega
      refine brn (iz_eq (by omega) (by omega) (by omega) (by omega)) (fun e3 => ?_) (fun e3 => m_heldBy H hp P hk0 (by omega) ?_)
      · rw [if_neg e3, Int.add_zero] at k2
        rw [iz_add, lz_add, Int.add_zero]
        exact k2 _ ⟨by omega, rfl⟩
      · rw [if_pos e3] at k2
        rw [iz_add, lz_add]
        exact k2 _ ⟨by omega, rfl⟩
end WH
