/-! the numbers of the kinds as digits; the component's histories, asked -/
def dq (dg : Int) : Nat → Int
  | 0 => dg
  | n + 1 => dq dg n / 10
def dd (dg : Int) (n : Nat) : Int := dq dg n % 10
def dsum (dg : Int) (j : Int) : Int := sm (fun i => dd dg i.toNat) j
def lfd (dg : Int) (t : Int) : Int := dd dg (5 - t).toNat
def okd (c : Cf) (dg : Int) (j : Int) : Prop := ∀ i : Int, 0 ≤ i → i < j → (5 - i < cK c ∨ dd dg i.toNat = 0)
def hyOK (c : Cf) (dg : Int) : Prop := 0 < cK c ∧ 0 ≤ dg ∧ dg ≤ 999999 ∧ okd c dg 6 ∧ dsum dg 6 = 6
noncomputable def hyR (c : Cf) (p : Fnd) (dg want : Int) : Hy := hyGo c p want 6 (lfd dg) (fun _ => 0) 0 (0, -1, fun _ => 0, fun _ => true)
theorem dq_bd {dg : Int} (h1 : 0 ≤ dg) (h2 : dg ≤ 999999) : ∀ n : Nat, 0 ≤ dq dg n ∧ dq dg n ≤ 999999 := by
  intro n
  induction n with
  | zero => exact ⟨h1, h2⟩
  | succ n ih => rw [dq]; omega
theorem dd_bd (dg : Int) (n : Nat) : 0 ≤ dd dg n ∧ dd dg n ≤ 9 := by
  unfold dd
  omega
theorem dsum_bd (dg : Int) {j : Int} (h1 : 0 ≤ j) (h2 : j ≤ 6) : 0 ≤ dsum dg j ∧ dsum dg j ≤ 54 := by
  have := sm_bd (f := fun i => dd dg i.toNat) (m := 9) h1 (fun i _ _ => dd_bd dg i.toNat)
  unfold dsum
  omega
theorem okd_s {c : Cf} {dg j : Int} (h : 0 ≤ j) : okd c dg (j + 1) ↔ okd c dg j ∧ (5 - j < cK c ∨ dd dg j.toNat = 0) := by
  constructor
  · intro g
    exact ⟨fun i i1 i2 => g i i1 (by omega), g j h (by omega)⟩
  · rintro ⟨g1, g2⟩ i i1 i2
    by_cases e : i = j
    · subst e; exact g2
    · exact g1 i i1 (by omega)
theorem hyR_F {c : Cf} (HC : CfOK c) (p : Fnd) (dg want : Int) : HyF (hyR c p dg want) ∧ 0 ≤ (hyR c p dg want).1 ∧ (hyR c p dg want).1 ≤ 46656 := by
  have b := hyGo_bd HC p want 6 (lfd dg) (fun _ => 0) 0 (0, -1, fun _ => 0, fun _ => true) (Int.le_refl 0)
  have e6 : (6 : Int) ^ 6 = 46656 := by decide
  refine ⟨hyGo_F HC p want 6 (Nat.le_refl 6) (lfd dg) (fun _ => 0) 0 (0, -1, fun _ => 0, fun _ => true) (fun t t1 t2 => ?_) (Int.le_refl 0) (fun z => absurd rfl z), b.1, ?_⟩
  · have : ((6 : Nat) : Int) = 6 := rfl
    omega
  · have b2 := b.2
    rw [e6] at b2
    have z : ((0, -1, fun _ => 0, fun _ => true) : Hy).1 = 0 := rfl
    rw [z] at b2
    unfold hyR
    omega
def fsH3 (w w' : Wd) : Prop := (∀ k, ¬ (k = 47 ∨ k = 48 ∨ k = 49) → gI w' k = gI w k) ∧ (∀ a, ¬ (a = 44 ∨ a = 45 ∨ a = 46) → gA w' a = gA w a) ∧ gJ w' = gJ w ∧ gL w' = gL w ∧ gC w' = gC w ∧ gT w' = gT w ∧ gF w' = gF w ∧ gZ w' = gZ w
theorem fsH3_of {w w' : Wd} (h : fsH w w') : fsH3 w w' := ⟨fun k hk => h.1 k (by omega), h.2⟩
theorem fsH3_trans {w w' w'' : Wd} (h : fsH3 w w') (g : fsH3 w' w'') : fsH3 w w'' := ⟨fun k hk => (g.1 k hk).trans (h.1 k hk), fun a ha => (g.2.1 a ha).trans (h.2.1 a ha), g.2.2.1.trans h.2.2.1, g.2.2.2.1.trans h.2.2.2.1, g.2.2.2.2.1.trans h.2.2.2.2.1, g.2.2.2.2.2.1.trans h.2.2.2.2.2.1, g.2.2.2.2.2.2.1.trans h.2.2.2.2.2.2.1, g.2.2.2.2.2.2.2.trans h.2.2.2.2.2.2.2⟩
theorem fsH3_sI {w : Wd} {k : Nat} (hk : k = 47 ∨ k = 48 ∨ k = 49) (v : Int32) : fsH3 w (sI w k v) := by
  refine ⟨fun j hj => ?_, fun a ha => rfl, rfl, rfl, rfl, rfl, rfl, rfl⟩
  rw [gI_sI, if_neg (by omega)]
section HX5
variable {c : Cf} {h : Hs} {w : Wd} {p : Fnd} {Q : Int32 → Wd → Prop}
theorem x_layRows (H : HX c h w) (hp : FnOK p) (P : FnX p w) {dg want : Int} (h1 : VR dg) (hw : VR want) (f : hyOK c dg → ∀ w', fsH3 w w' → HyX (hyR c p dg want) w' → Q (iz 1) w') (g : ¬ hyOK c dg → ∀ w', fsH3 w w' → Q (iz 0) w') : wp_X1_layRows (iz dg) (iz want) w Q := by
  unfold wp_X1_layRows
  have g0 : ¬ hyOK c dg → Q (iz 0) w := fun z => g z w (fsH3_of (fsH_refl w))
  have k6 := H.cf.2.1
  refine x_isHouse H (fun k => t1 ?_) (fun k => t0 (g0 (fun z => by have := z.1; omega)))
  refine br (iz_lt h1.1 h1.2 (by decide) (by decide)) (fun e => g0 (fun z => by have := z.2.1; omega)) (fun e => br (iz_le h1.1 h1.2 (by decide) (by decide)) (fun e2 => ?_) (fun e2 => g0 (fun z => by have := z.2.2.1; omega)))
  refine lpe (fun n (s : Int32 × Int32 × Int32 × Int32 × Wd) => lp_X1_layRows_31 Q (iz want) n s.1 s.2.1 s.2.2.1 s.2.2.2.1 s.2.2.2.2) (fun R s => wl_X1_layRows_31 Q (iz want) (fun x y z u v => R (x, y, z, u, v)) s.1 s.2.1 s.2.2.1 s.2.2.2.1 s.2.2.2.2) (fun _ _ h => h) (fun j s => 0 ≤ j ∧ ∃ w' b, s = (iz (dq dg j.toNat), iz (dsum dg j), iz b, iz (5 - j), w') ∧ fsH w w' ∧ (∀ t, 5 - j < t → t < 6 → gA w' 44 t = iz (lfd dg t)) ∧ (b = 0 ∨ b = 1) ∧ (b = 1 ↔ okd c dg j)) 6 0 (iz dg, iz 0, iz 1, iz 5, w) (by decide) ⟨by decide, w, 1, rfl, fsH_refl w, fun t x y => by omega, Or.inr rfl, ⟨fun _ i i1 i2 => by omega, fun _ => rfl⟩⟩ ?_
  rintro R _ j hj ⟨hj0, w1, b, rfl, f1, f44, hb1, hb2⟩ kk
  have qb := dq_bd (dg := dg) (by omega) (by omega) j.toNat
  have ddb := dd_bd dg j.toNat
  have sb := dsum_bd dg hj0 hj
  refine br (iz_lt (by omega) (by omega) (by decide) (by decide)) (fun e3 => ?_) (fun e3 => ⟨iz_inb (by omega) (by omega) (by omega), ?_⟩)
  · obtain rfl : j = 6 := by omega
    refine br (iz_eq (by omega) (by omega) (by decide) (by decide)) (fun e4 => g (fun z => ?_) w1 (fsH3_of f1)) (fun e4 => br (iz_eq (by omega) (by omega) (by decide) (by decide)) (fun e5 => ?_) (fun e5 => g (fun z => e5 z.2.2.2.2) w1 (fsH3_of f1)))
    · have := hb2.mpr z.2.2.2.1
      omega
    · rintro w2 rfl w3 rfl w4 rfl
      have fr : fsH3 w1 (sI (sI (sI w1 47 (iz 0)) 48 (iz want)) 49 (iz (-1))) := fsH3_trans (fsH3_trans (fsH3_sI (Or.inl rfl) _) (fsH3_sI (Or.inr (Or.inl rfl)) _)) (fsH3_sI (Or.inr (Or.inr rfl)) _)
      have fr2 := fsH3_trans (fsH3_of f1) fr
      refine x_try H.cf hp hw 1 6 (Nat.le_refl 6) 0 0 (lfd dg) (fun _ => 0) (0, -1, fun _ => 0, fun _ => true) _ _ rfl ?_ ?_ ?_ (fun t t1 t2 => ?_) (fun t t1 t2 => by omega) ?_ (fun z => absurd rfl z) (Int.le_refl 0) (by decide) (fun w' q1 _ _ q2 => f ⟨k, by omega, e2, hb2.mp (by omega), e5⟩ w' (fsH3_trans fr2 (fsH3_of q1)) q2)
      · rw [fr2.1 23 (by decide)]
        exact H.2.2.1
      · have := P.fsH f1
        unfold FnX
        rw [fr.1 43 (by decide), fr.2.1 40 (by decide), fr.2.1 41 (by decide), fr.2.1 42 (by decide)]
        exact this
      · rw [gI_sI, if_neg (by decide), gI_sI, if_pos rfl]
      · have := dd_bd dg (5 - t).toNat
        exact ⟨f44 t (by omega) t2, by unfold lfd; omega, by unfold lfd; omega⟩
      · refine ⟨?_, ?_, fun z => absurd rfl z⟩
        · rw [gI_sI, if_neg (by decide), gI_sI, if_neg (by decide), gI_sI, if_pos rfl]
        · rw [gI_sI, if_pos rfl]
  · rintro w2 rfl
    have kk := kk (by omega)
    have es : dsum dg (j + 1) = dsum dg j + dd dg j.toNat := sm_s _ hj0
    have eq : dq dg (j + 1).toNat = dq dg j.toNat / 10 := by
      rw [show (j + 1).toNat = j.toNat + 1 by omega, dq]
    have eK : gI (sA w1 44 (5 - j) (iz (dd dg j.toNat))) 23 = iz (cK c) := by
      rw [gI_sA, f1.1 23 (by decide)]
      exact H.2.2.1
    rw [iz_rem qb.1 (by omega) (by decide) (by decide), iz_div qb.1 (by omega) (by decide) (by decide), iz_toInt (by omega) (by omega)]
    have ed : dq dg j.toNat % 10 = dd dg j.toNat := rfl
    rw [ed, eK, iz_add, iz_add, show 5 - j + -1 = 5 - (j + 1) by omega]
    have nx : ∀ b' : Int, (b' = 0 ∨ b' = 1) → (b' = 1 ↔ okd c dg (j + 1)) → R (iz (dq dg j.toNat / 10), iz (dsum dg j + dd dg j.toNat), iz b', iz (5 - (j + 1)), sA w1 44 (5 - j) (iz (dd dg j.toNat))) := by
      intro b' z1 z2
      refine kk _ ⟨by omega, _, b', by rw [eq, es], fsH_trans f1 (fsH_sA (Or.inl rfl) _ _), fun t x y => ?_, z1, z2⟩
      rw [gA_sA, if_pos rfl]
      by_cases e5 : t = 5 - j
      · rw [if_pos e5]
        unfold lfd
        rw [show (5 - t).toNat = j.toNat by omega]
      · rw [if_neg e5]
        exact f44 t (by omega) y
    refine br (iz_eq (by omega) (by omega) (by decide) (by decide)) (fun e4 => nx 0 (Or.inl rfl) ⟨fun z => by omega, fun z => ?_⟩) (fun e4 => br (iz_lt (by omega) (by omega) (by omega) (by omega)) (fun e5 => nx 1 (Or.inr rfl) ⟨fun _ => ?_, fun _ => rfl⟩) (fun e5 => brn (iz_eq (by omega) (by omega) (by decide) (by decide)) (fun e6 => nx 0 (Or.inl rfl) ⟨fun z => by omega, fun z => ?_⟩) (fun e6 => nx 1 (Or.inr rfl) ⟨fun _ => ?_, fun _ => rfl⟩)))
    · have := hb2.mpr ((okd_s hj0).mp z).1
      omega
    · exact (okd_s hj0).mpr ⟨hb2.mp (by omega), Or.inl e5⟩
    · rcases ((okd_s hj0).mp z).2 with y | y
      · exact absurd y e5
      · exact absurd y e6
    · exact (okd_s hj0).mpr ⟨hb2.mp (by omega), Or.inr e6⟩
theorem x_history (H : HX c h w) (hp : FnOK p) (P : FnX p w) {dg i : Int} (h1 : VR dg) (h2 : VR i) (f : ¬ i < -1 → hyOK c dg → ∀ w', fsH3 w w' → Q (iz (if i = -1 then (hyR c p dg i).1 else (hyR c p dg i).2.1)) w') (g : (i < -1 ∨ ¬ hyOK c dg) → ∀ w', fsH3 w w' → Q (iz (-1)) w') : wp_X1_history (iz dg) (iz i) w Q := by
  unfold wp_X1_history
  refine br (iz_lt h2.1 h2.2 (by decide) (by decide)) (fun e => g (Or.inl e) w (fsH3_of (fsH_refl w))) (fun e => ?_)
  refine x_layRows H hp P h1 h2 (fun k w' fr X => u1 ?_) (fun k w' fr => u0 (g (Or.inr k) w' fr))
  have f := f e k w' fr
  refine brn (iz_eq h2.1 h2.2 (by decide) (by decide)) (fun e2 => ?_) (fun e2 => ?_)
  · rw [if_neg e2] at f
    rw [X.2.1]
    exact f
  · rw [if_pos e2] at f
    rw [X.1]
    exact f
theorem x_share (H : HX c h w) (hp : FnOK p) (P : FnX p w) {dg : Int} (h1 : VR dg) (f : hyOK c dg → ¬ (hyR c p dg (-1)).1 = 0 → ∀ w', fsH3 w w' → Q (bts (fun t => (hyR c p dg (-1)).2.2.2 t = true) 6) w') (g : (hyOK c dg → (hyR c p dg (-1)).1 = 0) → ∀ w', fsH3 w w' → Q (iz (-1)) w') : wp_X1_share (iz dg) w Q := by
  unfold wp_X1_share
  obtain ⟨F, b0, b1⟩ := hyR_F H.cf p dg (-1)
  refine x_layRows H hp P h1 (by decide) (fun k w' fr X => t1 ?_) (fun k w' fr => t0 (g (fun z => absurd z k) w' fr))
  rw [X.1]
  refine brn (iz_eq (by omega) (by omega) (by decide) (by decide)) (fun e2 => ?_) (fun e2 => g (fun _ => e2) w' fr)
  have f := f k e2 w' fr
  refine lpe (fun n (s : Int32 × Int32 × Wd) => lp_X1_share_22 Q n s.1 s.2.1 s.2.2) (fun R s => wl_X1_share_22 Q (fun x y z => R (x, y, z)) s.1 s.2.1 s.2.2) (fun _ _ h => h) (fun i s => 0 ≤ i ∧ s = (bts (fun t => (hyR c p dg (-1)).2.2.2 t = true) i, iz i, w')) 6 0 (iz 0, iz 0, w') (by decide) ⟨by decide, rfl⟩ ?_
  rintro R _ i hi ⟨hi0, rfl⟩ kk
  refine br (iz_le (by decide) (by decide) (by omega) (by omega)) (fun e => ?_) (fun e => ⟨iz_inb (by omega) (by omega) (by omega), ?_⟩)
  · obtain rfl : i = 6 := by omega
    exact f
  · have kk := kk (by omega)
    have z := X.2.2 e2 i hi0 (by omega)
    have fb := F e2 i hi0 (by omega)
    rw [iz_toInt (by omega) (by omega), z, iz_add]
    by_cases a : (hyR c p dg (-1)).2.2.2 i = true
    · rw [if_pos a]
      rw [bts_t (fun t => (hyR c p dg (-1)).2.2.2 t = true) hi0 a] at kk
      exact br (iz_eq (by omega) (by omega) (by decide) (by decide)) (fun e3 => by omega) (fun e3 => kk _ ⟨by omega, rfl⟩)
    · rw [if_neg a]
      rw [bts_f (fun t => (hyR c p dg (-1)).2.2.2 t = true) hi0 a] at kk
      exact ⟨fun _ => kk _ ⟨by omega, rfl⟩, fun z => absurd rfl z⟩
end HX5
