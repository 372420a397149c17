/-! the component's questions, on: -/
def cbO (c : Cf) (h : Hs) (b k : Int) : Int := if cD c (5 * hb h b 0) = cD c (5 * k) ∧ (hb h b 1 * cD c (5 * hb h b 0 + 1)) % cD c (5 * k + 1) = 0 ∧ (hb h b 1 * cD c (5 * hb h b 0 + 1)) / cD c (5 * k + 1) ≤ 9 then (hb h b 1 * cD c (5 * hb h b 0 + 1)) / cD c (5 * k + 1) else 0
theorem div_pos1 {a e : Int} (h1 : 1 ≤ a) (h2 : 1 ≤ e) (h : a % e = 0) : 1 ≤ a / e := by
  have := Int.emod_add_mul_ediv a e
  rw [h] at this
  rcases Int.lt_or_le (a / e) 1 with q | q
  · have q0 : a / e ≤ 0 := by omega
    have : e * (a / e) ≤ 0 := Int.mul_nonpos_of_nonneg_of_nonpos (by omega) q0
    omega
  · exact q
def spO (c : Cf) (h : Hs) (k v b : Int) : Int := if hb h b 3 = 1 then (if hb h b 0 = k then hb h b 1 else 0) else (if v = 1 then cbO c h b k else 0)
def o_spans (c : Cf) (h : Hs) (k v : Int) : Int := if 0 ≤ k ∧ k < cK c ∧ 0 ≤ v ∧ v ≤ 1 then sm (spO c h k v) (hn h) else -1
def nmO (h : Hs) : Int32 := bts (fun b => hb h b 3 = 0) (hn h)
def dbO (c : Cf) (h : Hs) (a b : Int) : Bool := decide (hb h a 3 = 0 ∧ hb h b 3 = 0 ∧ hb h a 1 * cD c (5 * hb h a 0 + 1) = hb h b 1 * cD c (5 * hb h b 0 + 1) ∧ cD c (5 * hb h a 0) = cD c (5 * hb h b 0))
/-- the i-th pair with P, or how many: within a row; -/
def dIn (P : Int → Int → Bool) (i a : Int) : Nat → Int → Int → Int ⊕ Int
  | 0, _, n => .inr n
  | d + 1, b, n => if P a b = true then (if n = i then .inl (10 * a + b) else dIn P i a d (b + 1) (n + 1)) else dIn P i a d (b + 1) n
def dOut (P : Int → Int → Bool) (i N : Int) : Nat → Int → Int → Int
  | 0, _, n => if i = -1 then n else -1
  | d + 1, a, n => match dIn P i a (N - (a + 1)).toNat (a + 1) n with
    | .inl v => v
    | .inr n' => dOut P i N d (a + 1) n'
def o_doubles (c : Cf) (h : Hs) (i : Int) : Int := if 0 < cK c ∧ -1 ≤ i then dOut (dbO c h) i (hn h) (hn h).toNat 0 0 else -1
theorem dIn_bd (P : Int → Int → Bool) (i a : Int) : ∀ (d : Nat) (b n m : Int), dIn P i a d b n = .inr m → n ≤ m ∧ m ≤ n + d := by
  intro d
  induction d with
  | zero => intro b n m e; simp [dIn] at e; omega
  | succ d ih =>
    intro b n m e
    rw [dIn] at e
    split at e
    · split at e
      · cases e
      · have := ih _ _ _ e; omega
    · have := ih _ _ _ e; omega
/-- the first of the greatest, or -1 -/
def bst (f : Int → Int) : Nat → Int
  | 0 => -1
  | n + 1 => if bst f n = -1 then n else if f (bst f n) < f n then n else bst f n
def o_most (c : Cf) (h : Hs) (v : Int) : Int := if 0 ≤ v ∧ v ≤ 1 then bst (fun b => if v = 0 then hb h b 2 else valO c h b) (hn h).toNat else -1
theorem bst_bd (f : Int → Int) (n : Nat) : -1 ≤ bst f n ∧ bst f n < n := by
  induction n with
  | zero => simp [bst]
  | succ n ih => rw [bst]; split; · omega
                 · split <;> omega
def spt (c : Cf) (h : Hs) : Int32 := bts (fun b => valO c h b = 0) (hn h)
def o_buried (h : Hs) (b : Int) : Int := if 0 ≤ b ∧ b < hn h then sm (fun a => hb h a 1) b else -1
theorem sm_cut (f : Int → Int) {b N : Int} (h1 : 0 ≤ b) (h2 : b ≤ N) : sm (fun i => if i < b then f i else 0) N = sm f b := by
  have key : ∀ d : Nat, sm (fun i => if i < b then f i else 0) (b + d) = sm f b := by
    intro d
    induction d with
    | zero =>
      rw [show b + ((0 : Nat) : Int) = b by omega]
      exact sm_congr h1 (fun i hi1 hi2 => if_pos hi2)
    | succ d ih => rw [show b + ((d + 1 : Nat) : Int) = (b + d) + 1 by omega, sm_s _ (by omega), ih, if_neg (by omega), Int.add_zero]
  have := key (N - b).toNat
  rwa [show b + ((N - b).toNat : Int) = N by omega] at this
def gosO (c : Cf) (k : Int) : Int32 := bts (fun o => k = o ∨ kgo c k = o ∨ kgo c o = k) (cK c)
/-- the first n from i on with P, at most d of them -/
def fstN (P : Int → Bool) : Nat → Int → Int
  | 0, _ => -1
  | d + 1, i => if P i = true then i else fstN P d (i + 1)
def o_soonest (c : Cf) (h : Hs) (b : Int) : Int := if 0 ≤ b ∧ b < hn h then fstN (fun n => decide (val c h b n (hn h - 1 - b) = 0)) 100 0 else -1
def o_monthly (c : Cf) (h : Hs) (n : Int) : Int := if 0 < cK c ∧ 0 ≤ n ∧ n ≤ 60 then sm (fun b => val c h b n (hn h - 1 - b)) (hn h) else -1
def o_make (c : Cf) (k v : Int) : Int := if 0 ≤ k ∧ k < cK c ∧ 1 ≤ v ∧ v ≤ 81 ∧ v % cD c (5 * k + 1) = 0 ∧ v / cD c (5 * k + 1) ≤ 9 then v / cD c (5 * k + 1) else -1
def o_full (c : Cf) (n : Int) : Int := if 0 < cK c ∧ 1 ≤ n ∧ n ≤ 99 then fstN (fun p => decide (n ≤ cR c 1 * p / cR c 0)) (cR c 0 + 1).toNat 0 else -1
section XQ2
variable {c : Cf} {h : Hs} {w : Wd} {Q : Int32 → Wd → Prop}
theorem x_cbEnd (H : HX c h w) {b k : Int} (h1 : 0 ≤ b) (h2 : b < hn h) (h3 : 0 ≤ k) (h4 : k < cK c) (q0 : Q (iz 0) w) : b_X1_couldHold_48 Q (iz b) (iz k) (iz 0) w := by
  have a := H.cf.2.2.2.1 k h3 h4
  exact x_weighs H h1 h2 (x_ofKind H h3 h4 (by decide) (by decide) ⟨iz_ne0 (by omega) (by omega) (by omega), t0 q0⟩)
theorem x_couldHold (H : HX c h w) {b k : Int} (h1 : 0 ≤ b) (h2 : b < hn h) (h3 : 0 ≤ k) (h4 : k < cK c) (q : Q (iz (if hb h b 3 = 1 then 0 else cbO c h b k)) w) : wp_X1_couldHold (iz b) (iz k) w Q := by
  unfold wp_X1_couldHold
  have g := H.hs.2.2.2.2.2.2.2 b h1 h2
  have a := H.cf.2.2.2.1 k h3 h4
  have a2 := H.cf.2.2.2.1 (hb h b 0) (by omega) (by omega)
  have m := mul_bd (m := 9) (n := 9) (a := hb h b 1) (b := cD c (5 * hb h b 0 + 1)) (by omega) (by omega) (by omega) (by omega)
  have m1 : 1 * 1 ≤ hb h b 1 * cD c (5 * hb h b 0 + 1) := Int.mul_le_mul (by omega) (by omega) (by decide) (by omega)
  refine x_isLabelled H h1 h2 (fun e => u1 ?_) (fun e => u0 ?_)
  · rw [if_pos e] at q
    exact x_cbEnd H h1 h2 h3 h4 q
  · rw [if_neg (by omega)] at q
    unfold cbO at q
    refine x_of H h1 h2 (by decide) (by decide) (x_ofKind H (by omega) (by omega) (by decide) (by decide) (x_ofKind H h3 h4 (by decide) (by decide) ?_))
    simp only [Int.add_zero]
    refine brn (iz_eq (by omega) (by omega) (by omega) (by omega)) (fun e1 => ?_) (fun e1 => ?_)
    · rw [if_neg (fun x => e1 x.1)] at q
      exact x_cbEnd H h1 h2 h3 h4 q
    · refine x_weighs H h1 h2 (x_ofKind H h3 h4 (by decide) (by decide) ⟨iz_ne0 (by omega) (by omega) (by omega), ?_⟩)
      rw [iz_rem (by omega) (by omega) (by omega) (by omega)]
      have md := Int.emod_nonneg (hb h b 1 * cD c (5 * hb h b 0 + 1)) (show cD c (5 * k + 1) ≠ 0 by omega)
      have md2 := Int.emod_lt_of_pos (hb h b 1 * cD c (5 * hb h b 0 + 1)) (show 0 < cD c (5 * k + 1) by omega)
      refine brn (iz_eq (by omega) (by omega) (by decide) (by decide)) (fun e2 => ?_) (fun e2 => ?_)
      · rw [if_neg (fun x => e2 x.2.1)] at q
        exact x_cbEnd H h1 h2 h3 h4 q
      · have dv := div_pos1 (show 1 ≤ hb h b 1 * cD c (5 * hb h b 0 + 1) by omega) (show 1 ≤ cD c (5 * k + 1) by omega) e2
        have dl := Int.ediv_le_self (cD c (5 * k + 1)) (show 0 ≤ hb h b 1 * cD c (5 * hb h b 0 + 1) by omega)
        refine x_weighs H h1 h2 (x_ofKind H h3 h4 (by decide) (by decide) ⟨iz_ne0 (by omega) (by omega) (by omega), t1 ?_⟩)
        simp only [iz_div (show (0 : Int) ≤ hb h b 1 * cD c (5 * hb h b 0 + 1) by omega) (by omega) (show 0 < cD c (5 * k + 1) by omega) (by omega)]
        refine x_in ⟨by omega, by omega⟩ (by decide) (by decide) (fun p1 p2 => t1 ?_) (fun p => t0 ?_)
        · rw [if_pos ⟨e1, e2, p2⟩] at q
          exact q
        · rw [if_neg (fun x => p ⟨dv, x.2.2⟩)] at q
          exact q
theorem x_spans (H : HX c h w) {k v : Int} (hk : VR k) (hv : VR v) (q : Q (iz (o_spans c h k v)) w) : wp_X1_spans (iz k) (iz v) w Q := by
  unfold wp_X1_spans
  unfold o_spans at q
  have a := H.hs.1; have a2 := H.hs.2.1
  have cb := H.cf.2.1
  refine x_isKind H hk (fun e1 e2 => t1 (x_in hv (by decide) (by decide) (fun p1 p2 => u1 ?_) (fun p => u0 ?_))) (fun e => t0 ?_)
  · rw [if_pos ⟨e1, e2, p1, p2⟩] at q
    refine lpe (fun n (s3 : Int32 × Int32 × Wd) => lp_X1_spans_24 Q (iz k) (iz v) n s3.1 s3.2.1 s3.2.2) (fun R s3 => wl_X1_spans_24 Q (iz k) (iz v) (fun x y z => R (x, y, z)) s3.1 s3.2.1 s3.2.2) (fun _ _ h => h) (fun i s3 => 0 ≤ i ∧ s3 = (iz (sm (spO c h k v) i), iz i, w)) (hn h) 0 (iz 0, iz 0, w) a ⟨by decide, rfl⟩ ?_
    rintro R _ i hi ⟨hi0, rfl⟩ kk
    refine x_boxMany H (br (iz_le (by omega) (by omega) (by omega) (by omega)) (fun e => ?_) (fun e => ?_))
    · obtain rfl : i = hn h := by omega
      exact q
    · have g := H.hs.2.2.2.2.2.2.2 i hi0 (by omega)
      have es := sm_s (spO c h k v) hi0
      have kk := kk (by omega)
      have fin : ∀ z : Int, spO c h k v i = z + (if v = 1 then (if hb h i 3 = 1 then 0 else cbO c h i k) else 0) → b_X1_spans_63 Q (fun x y z => R (x, y, z)) (iz k) (iz v) (iz (sm (spO c h k v) i + z)) (iz i) w := by
        intro z ez
        refine brn (iz_eq (by omega) (by omega) (by decide) (by decide)) (fun e3 => ?_) (fun e3 => ?_)
        · refine kk _ ⟨by omega, ?_⟩
          rw [if_neg e3, Int.add_zero] at ez
          simp only [iz_add, es, ez]
        · refine x_couldHold H hi0 (by omega) e1 e2 (kk _ ⟨by omega, ?_⟩)
          rw [if_pos e3] at ez
          simp only [iz_add, es, ez, Int.add_assoc]
      have z0 : sm (spO c h k v) i = sm (spO c h k v) i + 0 := (Int.add_zero _).symm
      refine x_isLabelled H hi0 (by omega) (fun e3 => t1 (x_of H hi0 (by omega) (by decide) (by decide) (brn (iz_eq (by omega) (by omega) (by omega) (by omega)) (fun e4 => ?_) (fun e4 => x_of H hi0 (by omega) (by decide) (by decide) ?_)))) (fun e3 => t0 ?_)
      · rw [z0]
        exact fin 0 (by unfold spO; rw [if_pos e3, if_pos e3, if_neg e4]; split <;> rfl)
      · simp only [iz_add]
        exact fin (hb h i 1) (by unfold spO; rw [if_pos e3, if_pos e3, if_pos e4]; split <;> omega)
      · rw [z0]
        refine fin 0 ?_
        have en : ¬ hb h i 3 = 1 := by omega
        unfold spO
        rw [if_neg en, if_neg en, Int.zero_add]
  · rw [if_neg (by omega)] at q
    exact q
  · rw [if_neg (by omega)] at q
    exact q
theorem x_namelessNow (H : HX c h w) (q : Q (nmO h) w) : wp_X1_namelessNow w Q := by
  have a := H.hs.1; have a2 := H.hs.2.1
  refine lpe (fun n (s3 : Int32 × Int32 × Wd) => lp_X1_namelessNow_4 Q n s3.1 s3.2.1 s3.2.2) (fun R s3 => wl_X1_namelessNow_4 Q (fun x y z => R (x, y, z)) s3.1 s3.2.1 s3.2.2) (fun _ _ h => h) (fun i s3 => 0 ≤ i ∧ s3 = (bts (fun b => hb h b 3 = 0) i, iz i, w)) (hn h) 0 (iz 0, iz 0, w) a ⟨by decide, rfl⟩ ?_
  rintro R _ i hi ⟨hi0, rfl⟩ kk
  refine x_boxMany H (br (iz_le (by omega) (by omega) (by omega) (by omega)) (fun e => ?_) (fun e => ?_))
  · obtain rfl : i = hn h := by omega
    exact q
  · refine x_isLabelled H hi0 (by omega) (fun e3 => u1 (kk (by omega) _ ⟨by omega, ?_⟩)) (fun e3 => u0 (kk (by omega) _ ⟨by omega, ?_⟩))
    · rw [bts_f _ hi0 (by omega), iz_add]
    · rw [bts_t _ hi0 e3, iz_add]
theorem x_nameless (H : HX c h w) (q : Q (if 0 < cK c then nmO h else iz (-1)) w) : wp_X1_nameless w Q := by
  unfold wp_X1_nameless
  refine x_isHouse H (fun e => t1 (x_namelessNow H ?_)) (fun e => t0 ?_)
  · rw [if_pos e] at q; exact q
  · rw [if_neg (by omega)] at q; exact q
theorem x_areDouble (H : HX c h w) {a b : Int} (h1 : 0 ≤ a) (h2 : a < hn h) (h3 : 0 ≤ b) (h4 : b < hn h) (f : dbO c h a b = true → Q (iz 1) w) (g : dbO c h a b = false → Q (iz 0) w) : wp_X1_areDouble (iz a) (iz b) w Q := by
  unfold wp_X1_areDouble
  have ga := H.hs.2.2.2.2.2.2.2 a h1 h2
  have gb := H.hs.2.2.2.2.2.2.2 b h3 h4
  have ka := H.cf.2.2.2.1 (hb h a 0) (by omega) (by omega)
  have kb := H.cf.2.2.2.1 (hb h b 0) (by omega) (by omega)
  have ma := mul_bd (m := 9) (n := 9) (a := hb h a 1) (b := cD c (5 * hb h a 0 + 1)) (by omega) (by omega) (by omega) (by omega)
  have mb := mul_bd (m := 9) (n := 9) (a := hb h b 1) (b := cD c (5 * hb h b 0 + 1)) (by omega) (by omega) (by omega) (by omega)
  have no : ¬ (hb h a 3 = 0 ∧ hb h b 3 = 0 ∧ hb h a 1 * cD c (5 * hb h a 0 + 1) = hb h b 1 * cD c (5 * hb h b 0 + 1) ∧ cD c (5 * hb h a 0) = cD c (5 * hb h b 0)) → Q (iz 0) w := fun x => g (decide_eq_false x)
  refine x_isLabelled H h1 h2 (fun e => u1 (no (fun x => by omega))) (fun e => u0 (x_isLabelled H h3 h4 (fun e2 => u1 (no (fun x => by omega))) (fun e2 => u0 ?_)))
  refine x_weighs H h1 h2 (x_weighs H h3 h4 (brn (iz_eq (by omega) (by omega) (by omega) (by omega)) (fun e3 => no (fun x => e3 x.2.2.1)) (fun e3 => ?_)))
  refine x_of H h1 h2 (by decide) (by decide) (x_ofKind H (by omega) (by omega) (by decide) (by decide) (x_of H h3 h4 (by decide) (by decide) (x_ofKind H (by omega) (by omega) (by decide) (by decide) ?_)))
  simp only [Int.add_zero]
  exact brn (iz_eq (by omega) (by omega) (by omega) (by omega)) (fun e4 => no (fun x => e4 x.2.2.2)) (fun e4 => f (decide_eq_true ⟨e, e2, e3, e4⟩))
theorem x_doubles (H : HX c h w) {i : Int} (hv : VR i) (q : Q (iz (o_doubles c h i)) w) : wp_X1_doubles (iz i) w Q := by
  unfold wp_X1_doubles
  unfold o_doubles at q
  have a := H.hs.1; have a2 := H.hs.2.1
  refine x_isHouse H (fun e => t1 ⟨fun e2 => ?_, fun e2 => ?_⟩) (fun e => t0 ?_)
  · rw [iz_le (by decide) (by decide) hv.1 hv.2] at e2
    rw [if_pos ⟨e, e2⟩] at q
    refine lpe (fun n (s3 : Int32 × Int32 × Wd) => lp_X1_doubles_18 Q (iz i) n s3.1 s3.2.1 s3.2.2) (fun R s3 => wl_X1_doubles_18 Q (iz i) (fun x y z => R (x, y, z)) s3.1 s3.2.1 s3.2.2) (fun _ _ h => h) (fun j s3 => ∃ n, 0 ≤ j ∧ 0 ≤ n ∧ n ≤ 8 * j ∧ s3 = (iz n, iz j, w) ∧ dOut (dbO c h) i (hn h) (hn h - j).toNat j n = dOut (dbO c h) i (hn h) (hn h).toNat 0 0) (hn h) 0 (iz 0, iz 0, w) a ⟨0, by decide, by decide, by decide, rfl, by rw [Int.sub_zero]⟩ ?_
    rintro R _ j hj ⟨n, hj0, hn0, hn1, rfl, er⟩ kk
    refine x_boxMany H (br (iz_le (by omega) (by omega) (by omega) (by omega)) (fun e3 => ?_) (fun e3 => ?_))
    · obtain rfl : j = hn h := by omega
      rw [Int.sub_self] at er
      have er : (if i = -1 then n else -1) = _ := er
      rw [← er] at q
      refine brn (iz_eq hv.1 hv.2 (by decide) (by decide)) (fun e4 => ?_) (fun e4 => ?_)
      · rw [if_neg e4] at q; exact q
      · rw [if_pos e4] at q; exact q
    · rw [show (hn h - j).toNat = (hn h - (j + 1)).toNat + 1 by omega] at er
      rw [dOut] at er
      simp only [iz_add]
      refine lpe (fun n (s3 : Int32 × Int32 × Wd) => lp_X1_doubles_31 Q (fun x y z => R (x, y, z)) (iz i) (iz j) n s3.1 s3.2.1 s3.2.2) (fun R' s3 => wl_X1_doubles_31 Q (fun x y z => R (x, y, z)) (iz i) (iz j) (fun x y z => R' (x, y, z)) s3.1 s3.2.1 s3.2.2) (fun _ _ h => h) (fun b s3 => ∃ m, j + 1 ≤ b ∧ n ≤ m ∧ m ≤ n + (b - (j + 1)) ∧ s3 = (iz m, iz b, w) ∧ dIn (dbO c h) i j (hn h - b).toNat b m = dIn (dbO c h) i j (hn h - (j + 1)).toNat (j + 1) n) (hn h) (j + 1) (iz n, iz (j + 1), w) (by omega) ⟨n, by omega, by omega, by omega, rfl, rfl⟩ ?_
      rintro R' _ b hb1 ⟨m, hb0, hm0, hm1, rfl, er2⟩ kk2
      refine x_boxMany H (br (iz_le (by omega) (by omega) (by omega) (by omega)) (fun e4 => ?_) (fun e4 => ?_))
      · obtain rfl : b = hn h := by omega
        rw [Int.sub_self] at er2
        have er2 : Sum.inr m = _ := er2
        rw [← er2] at er
        simp only [iz_add]
        exact kk (by omega) _ ⟨m, by omega, by omega, by omega, rfl, er⟩
      · rw [show (hn h - b).toNat = (hn h - (b + 1)).toNat + 1 by omega, dIn] at er2
        refine x_areDouble H hj0 (by omega) (by omega) (by omega) (fun t => u1 ?_) (fun t => u0 ?_)
        · rw [if_pos t] at er2
          refine brn (iz_eq (by omega) (by omega) hv.1 hv.2) (fun e5 => ?_) (fun e5 => ?_)
          · rw [if_neg e5] at er2
            simp only [iz_add]
            exact kk2 (by omega) _ ⟨m + 1, by omega, by omega, by omega, rfl, er2⟩
          · rw [if_pos e5] at er2
            rw [← er2] at er
            simp only [iz_mul, iz_add]
            rw [← er] at q
            exact q
        · rw [if_neg (by rw [t]; decide)] at er2
          simp only [iz_add]
          exact kk2 (by omega) _ ⟨m, by omega, by omega, by omega, rfl, er2⟩
  · rw [iz_le (by decide) (by decide) hv.1 hv.2] at e2
    rw [if_neg (by omega)] at q
    exact q
  · rw [if_neg (by omega)] at q
    exact q
end XQ2
