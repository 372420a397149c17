/-! three boxes of a lot -/
def popc (s : Nat) : Nat := ((List.range 8).filter (fun k => s.testBit k)).length
/-- three different numbers below n, the greatest first -/
def trips (n : Nat) : List (Nat × Nat × Nat) := (List.range n).flatMap (fun a => (List.range a).flatMap (fun b => (List.range b).map (fun d => (a, b, d))))
def t3 (t : Nat × Nat × Nat) : Nat := 2 ^ t.1 + 2 ^ t.2.1 + 2 ^ t.2.2
theorem trips_sets : ∀ n, n < 9 → (List.range (2 ^ n)).filter (fun s => popc s == 3) = (trips n).map t3 := by decide +kernel
theorem t3_tab : ∀ a, a < 8 → ∀ b, b < a → ∀ d, d < b → ∀ k, k < 8 → (t3 (a, b, d)).testBit k = decide (k = a ∨ k = b ∨ k = d) := by decide +kernel
theorem t3_bits (a : Nat) (ha : a < 8) (b : Nat) (hb : b < a) (d : Nat) (hd : d < b) (k : Nat) (hk : k < 8) : (t3 (a, b, d)).testBit k = true ↔ k = a ∨ k = b ∨ k = d := by rw [t3_tab a ha b hb d hd k hk, decide_eq_true_iff]
/-- the most of the numbers at places that hold, from nothing -/
def mxl (P : Int → Bool) (f : Int → Int) : Nat → Int
  | 0 => 0
  | n + 1 => if P n then max (mxl P f n) (f n) else mxl P f n
theorem mxl_ge (P : Int → Bool) (f : Int → Int) : ∀ (n : Nat), 0 ≤ mxl P f n ∧ ∀ (k : Nat), k < n → P k = true → f k ≤ mxl P f n := by
  intro n
  induction n with
  | zero => exact ⟨Int.le_refl 0, fun k h => absurd h (by omega)⟩
  | succ n ih =>
    rw [mxl]
    by_cases e : P n = true
    · rw [if_pos e]
      refine ⟨by omega, fun k hk p => ?_⟩
      by_cases e2 : k = n
      · subst e2; omega
      · have := ih.2 k (by omega) p; omega
    · rw [if_neg e]
      refine ⟨ih.1, fun k hk p => ?_⟩
      by_cases e2 : k = n
      · subst e2; exact absurd p e
      · exact ih.2 k (by omega) p
theorem mxl_le (P : Int → Bool) (f : Int → Int) (m : Int) (h0 : 0 ≤ m) : ∀ (n : Nat), (∀ (k : Nat), k < n → P k = true → f k ≤ m) → mxl P f n ≤ m := by
  intro n
  induction n with
  | zero => exact fun _ => h0
  | succ n ih =>
    intro al
    rw [mxl]
    have := ih (fun k hk p => al k (by omega) p)
    split
    · rename_i e
      have := al n (by omega) e
      omega
    · exact this
theorem mxl_3 {f : Int → Int} {n a b d : Nat} (hn : n ≤ 8) (ha : a < n) (hb : b < a) (hd : d < b) (f0 : ∀ k : Nat, k < n → 0 ≤ f k) : mxl (fun k => has2 (t3 (a, b, d) : Nat) k) f n = max (f a) (max (f b) (f d)) := by
  have tb := t3_bits a (by omega) b hb d hd
  have hh : ∀ k : Nat, k < 8 → (has2 (t3 (a, b, d) : Nat) k = true ↔ k = a ∨ k = b ∨ k = d) := fun k hk => by unfold has2; simpa using tb k hk
  have g := (mxl_ge (fun k => has2 (t3 (a, b, d) : Nat) k) f n).2
  have ga := g a ha ((hh a (by omega)).mpr (by omega))
  have gb := g b (by omega) ((hh b (by omega)).mpr (by omega))
  have gd := g d (by omega) ((hh d (by omega)).mpr (by omega))
  have z := f0 a ha
  have l := mxl_le (fun k => has2 (t3 (a, b, d) : Nat) k) f (max (f a) (max (f b) (f d))) (by omega) n (fun k hk p => by
    rcases (hh k (by omega)).mp p with rfl | rfl | rfl <;> omega)
  omega
def lsum (f : (Nat × Nat × Nat) → Int) : List (Nat × Nat × Nat) → Int
  | [] => 0
  | t :: ts => f t + lsum f ts
def mx3 (v : Int → Int) (t : Nat × Nat × Nat) : Int := max (v t.1) (max (v t.2.1) (v t.2.2))
def o_lot (c : Cf) (h : Hs) (v : Int) : Int := if 0 < cK c ∧ 0 ≤ v ∧ v ≤ 1 then (if v = 0 then lsum (mx3 (valO c h)) (trips (hn h).toNat) else (trips (hn h).toNat).length) else -1
/-- the sets of three below s: how many, and what they come to -/
def ltN (s : Nat) : Nat := ((List.range s).filter (fun s => popc s == 3)).length
def ltV (f : Nat → Int) (s : Nat) : Int := (((List.range s).filter (fun s => popc s == 3)).map f).sum
theorem lt_t {s : Nat} (e : popc s = 3) (f : Nat → Int) : ltN (s + 1) = ltN s + 1 ∧ ltV f (s + 1) = ltV f s + f s := by
  unfold ltN ltV
  rw [List.range_succ, List.filter_append]
  simp [e]
theorem lt_f {s : Nat} (e : ¬ popc s = 3) (f : Nat → Int) : ltN (s + 1) = ltN s ∧ ltV f (s + 1) = ltV f s := by
  unfold ltN ltV
  rw [List.range_succ, List.filter_append]
  simp [e]
theorem trips_lt {n : Nat} {t : Nat × Nat × Nat} (ht : t ∈ trips n) : t.1 < n ∧ t.2.1 < t.1 ∧ t.2.2 < t.2.1 := by
  unfold trips at ht
  simp only [List.mem_flatMap, List.mem_map, List.mem_range] at ht
  obtain ⟨a, ha, b, hb, d, hd, rfl⟩ := ht
  exact ⟨ha, hb, hd⟩
theorem lsum_map (f : (Nat × Nat × Nat) → Int) (l : List (Nat × Nat × Nat)) : lsum f l = (l.map f).sum := by
  induction l with
  | nil => rfl
  | cons t ts ih => rw [lsum, ih, List.map_cons, List.sum_cons]
theorem lt_all {n : Nat} (hn : n < 9) {f : Int → Int} (f0 : ∀ k : Nat, k < n → 0 ≤ f k) : ltN (2 ^ n) = (trips n).length ∧ ltV (fun s => mxl (fun k => has2 (s : Nat) k) f n) (2 ^ n) = lsum (mx3 f) (trips n) := by
  unfold ltN ltV
  rw [trips_sets n hn, List.length_map, List.map_map, lsum_map]
  refine ⟨rfl, ?_⟩
  congr 1
  refine List.map_congr_left (fun t ht => ?_)
  obtain ⟨x1, x2, x3⟩ := trips_lt ht
  exact mxl_3 (by omega) x1 x2 x3 f0
section XQ5
variable {c : Cf} {h : Hs} {w : Wd} {Q : Int32 → Wd → Prop}
theorem x_eatenAll (H : HX c h w) (q : Q (iz (eatAll h)) w) : wp_X1_eatenAll w Q := by
  have a := H.hs.2.2.2.2.1; have a2 := H.hs.2.2.2.2.2.1
  have el := H.2.2.2.2.2.2.1.2.2.1
  rw [Int.zero_add] at el
  refine lpe (fun n (s3 : Int32 × Int32 × Wd) => lp_X1_eatenAll_4 Q n s3.1 s3.2.1 s3.2.2) (fun R s3 => wl_X1_eatenAll_4 Q (fun x y z => R (x, y, z)) s3.1 s3.2.1 s3.2.2) (fun _ _ h => h) (fun i s3 => 0 ≤ i ∧ s3 = (iz (sm (fun i => hg h i 3) i), iz i, w)) (hl h) 0 (iz 0, iz 0, w) a ⟨by decide, rfl⟩ ?_
  rintro R _ i hi ⟨hi0, rfl⟩ k
  refine ⟨iz_inb (by decide) (by decide) (by decide), ?_⟩
  rw [iz_toInt (by decide) (by decide), el]
  refine br (iz_le (by omega) (by omega) (by omega) (by omega)) (fun e => ?_) (fun e => ?_)
  · obtain rfl : i = hl h := by omega
    exact q
  · have eg := H.2.2.2.2.2.2.1.2.2.2.2.2 i 3 hi0 (by omega) (by decide) (by decide)
    rw [Int.zero_add] at eg
    simp only [iz_mul, iz_add]
    refine ⟨iz_inb (by omega) (by omega) (by omega), ?_⟩
    rw [iz_toInt (by omega) (by omega)]
    rw [eg, iz_add]
    exact k (by omega) _ ⟨by omega, by rw [sm_s _ hi0]⟩
theorem bc_ex2 : ∃ F : Int32 → Int32, (∀ (x : Int32) (w : Wd) (Q : Int32 → Wd → Prop), wp_J10_bitCount x w Q = Q (F x) w) ∧ ∀ s, s < 256 → F (iz (s : Nat)) = iz (popc s : Nat) := ⟨_, fun _ _ _ => rfl, by decide +kernel⟩
theorem bcx_pop {s : Nat} (hs : s < 256) (w : Wd) : bcx (iz (s : Nat)) = iz (popc s : Nat) := by
  obtain ⟨F, f1, f2⟩ := bc_ex2
  have e := f1 (iz (s : Nat)) w (fun v _ => v = F (iz (s : Nat)))
  rw [(bcx_ex (iz (s : Nat))).choose_spec w] at e
  rw [← f2 s hs]
  exact e.mpr rfl
theorem x_lot (H : HX c h w) {v : Int} (hv : VR v) (q : ∀ f, Q (iz (o_lot c h v)) (sB w 15 f)) : wp_X1_lot (iz v) w Q := by
  unfold wp_X1_lot
  have a := H.hs.1; have a2 := H.hs.2.1
  have q0 := q (gA w 15)
  rw [sB_self] at q0
  unfold o_lot at q q0
  have vb := fun (k : Nat) (hk : k < (hn h).toNat) => val_bd H.cf H.hs (b := (k : Int)) (more := 0) (below := hn h - 1 - k) (by omega) (by omega)
  have la := lt_all (n := (hn h).toNat) (f := valO c h) (by omega) (fun k hk => (vb k hk).1)
  have pb := pow_bd a (show hn h < 9 by omega)
  refine x_isHouse H (fun k => t1 (x_in hv (by decide) (by decide) (fun p1 p2 => u1 ?_) (fun p => u0 ?_))) (fun p => t0 ?_)
  · rw [if_pos ⟨k, p1, p2⟩, ← la.1, ← la.2] at q
    clear q0 la
    generalize hN : (2 ^ (hn h).toNat : Nat) = N at q pb
    generalize hG : (fun s : Nat => mxl (fun k => has2 (s : Nat) k) (valO c h) (hn h).toNat) = G at q
    refine lpe (fun n1 (s : Int32 × Int32 × Int32 × Wd) => lp_X1_lot_25 Q (iz v) n1 s.1 s.2.1 s.2.2.1 s.2.2.2) (fun R s => wl_X1_lot_25 Q (iz v) (fun x y z t => R (x, y, z, t)) s.1 s.2.1 s.2.2.1 s.2.2.2) (fun _ _ h => h) (fun i s => 0 ≤ i ∧ ∃ f, s = (iz (ltV G i.toNat), iz (ltN i.toNat : Nat), iz i, sB w 15 f)) N 0 (iz 0, iz 0, iz 0, w) (by omega) ⟨by decide, gA w 15, by rw [sB_self]; rfl⟩ ?_
    rintro R _ i hi ⟨hi0, f, rfl⟩ kk
    have H1 := H.s15 f
    refine x_boxMany H1 ?_
    rw [shlI a (by omega), hN]
    refine br (iz_le (by omega) (by omega) (by omega) (by omega)) (fun e => ?_) (fun e => ?_)
    · obtain rfl : i = N := by omega
      rw [show ((N : Int)).toNat = N by omega]
      refine brn (iz_eq hv.1 hv.2 (by decide) (by decide)) (fun e3 => ?_) (fun e3 => ?_)
      · rw [if_neg e3] at q
        exact q f
      · rw [if_pos e3] at q
        exact q f
    · have kk := kk (by omega)
      rw [show (i + 1).toNat = i.toNat + 1 by omega] at kk
      refine s_bc ?_
      have eb := bcx_pop (s := i.toNat) (by omega) w
      rw [Int.toNat_of_nonneg hi0] at eb
      rw [eb]
      have pl : popc i.toNat ≤ 8 := Nat.le_trans (List.length_filter_le _ _) (by rw [List.length_range]; omega)
      have es := lt_t (s := i.toNat) (f := G)
      have ef := lt_f (s := i.toNat) (f := G)
      refine br (iz_eq (by omega) (by omega) (by decide) (by decide)) (fun e3 => ?_) (fun e3 => ?_)
      · obtain ⟨es1, es2⟩ := es (by omega)
        have mxb := fun n : Nat => mxl_ge (fun k => has2 i k) (valO c h) n
        have mxu := fun (n : Nat) (hn2 : n ≤ (hn h).toNat) => mxl_le (fun k => has2 i k) (valO c h) 81 (by decide) n (fun k hk _ => (vb k (by omega)).2)
        refine lpe (fun n1 (s : Int32 × Int32 × Wd) => lp_X1_lot_54 Q (fun x y z t => R (x, y, z, t)) (iz v) (iz (ltV G i.toNat)) (iz (ltN i.toNat : Nat)) (iz i) n1 s.1 s.2.1 s.2.2) (fun R2 s => wl_X1_lot_54 Q (fun x y z t => R (x, y, z, t)) (iz v) (iz (ltV G i.toNat)) (iz (ltN i.toNat : Nat)) (iz i) (fun x y z => R2 (x, y, z)) s.1 s.2.1 s.2.2) (fun _ _ h => h) (fun j s => 0 ≤ j ∧ ∃ f, s = (iz (mxl (fun k => has2 i k) (valO c h) j.toNat), iz j, sB w 15 f)) (hn h) 0 (iz 0, iz 0, sB w 15 f) a ⟨by decide, f, rfl⟩ ?_
        rintro R2 _ j hj ⟨hj0, f1, rfl⟩ k2
        have H2 := H.s15 f1
        refine x_boxMany H2 (br (iz_le (by omega) (by omega) (by omega) (by omega)) (fun e4 => ?_) (fun e4 => ?_))
        · obtain rfl : j = hn h := by omega
          rw [iz_add, iz_add, iz_add]
          refine kk _ ⟨by omega, f1, ?_⟩
          rw [es1, es2, ← hG]
          simp only [Int.toNat_of_nonneg hi0]
          rfl
        · have k2 := k2 (by omega)
          rw [show (j + 1).toNat = j.toNat + 1 by omega, mxl, Int.toNat_of_nonneg hj0] at k2
          have b1 := mxb j.toNat
          have b2 := mxu j.toNat (by omega)
          have b3 := vb j.toNat (by omega)
          rw [Int.toNat_of_nonneg hj0] at b3
          refine x_has (by omega) (by omega) hj0 (by omega) (fun t => t1 (x_valueOf H2 hj0 (by omega) (fun f2 => ?_))) (fun t => t0 ?_)
          · rw [sB_sB, iz_add]
            have bv : 0 ≤ valO c h j ∧ valO c h j ≤ 81 := b3
            rw [imax_iz (by omega) (by omega) (by omega) (by omega)]
            exact k2 _ ⟨by omega, f2, by rw [if_pos t]⟩
          · rw [iz_add]
            exact k2 _ ⟨by omega, f1, by rw [if_neg (by rw [t]; decide)]⟩
      · obtain ⟨ef1, ef2⟩ := ef (by omega)
        rw [iz_add]
        exact kk _ ⟨by omega, f, by rw [ef1, ef2]⟩
  · rw [if_neg (by omega)] at q0
    exact q0
  · rw [if_neg (by omega)] at q0
    exact q0
end XQ5
