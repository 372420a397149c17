/-! the component's questions -/
def has2 (s k : Int) : Bool := s.toNat.testBit k.toNat
def psum (h : Hs) (s : Int) (n : Int) : Int := sm (fun b => if has2 s b = true then hb h b 1 else 0) n
def pall (h : Hs) : Int := sm (fun b => hb h b 1) (hn h)
def vsum (c : Cf) (h : Hs) (n : Int) : Int := sm (fun b => valO c h b) n
def kgo (c : Cf) (k : Int) : Int := if cD c (5 * k + 4) = 6 then -1 else cD c (5 * k + 4)
def kwith (c : Cf) (a b : Int) : Prop := a = b ∨ kgo c a = b ∨ kgo c b = a
theorem pall_bd {c : Cf} {h : Hs} (G : HsOK c h) : 0 ≤ pall h ∧ pall h ≤ 72 := by
  have := sm_bd (f := fun b => hb h b 1) (n := hn h) (m := 9) G.1 (fun i h1 h2 => by have := G.2.2.2.2.2.2.2 i h1 h2; omega)
  unfold pall
  have := G.1; have := G.2.1
  omega
section XQ
variable {c : Cf} {h : Hs} {w : Wd} {Q : Int32 → Wd → Prop}
theorem x_isHouse (H : HX c h w) (f : 0 < cK c → Q (iz 1) w) (g : cK c = 0 → Q (iz 0) w) : wp_X1_isHouse w Q := by
  unfold wp_X1_isHouse
  have := H.cf
  rw [H.2.2.1]
  exact br (iz_le (by have := this.1; omega) (by have := this.2.1; omega) (by decide) (by decide)) (fun q => g (by have := this.1; omega)) (fun q => f (by omega))
theorem x_isKind (H : HX c h w) {k : Int} (hk : VR k) (f : 0 ≤ k → k < cK c → Q (iz 1) w) (g : ¬ (0 ≤ k ∧ k < cK c) → Q (iz 0) w) : wp_X1_isKind (iz k) w Q := by
  unfold wp_X1_isKind
  have a := H.cf.1; have b := H.cf.2.1
  rw [H.2.2.1, iz_sub]
  exact x_in hk (by decide) ⟨by omega, by omega⟩ (fun p q => ⟨zok1, f p (by omega)⟩) (fun p => ⟨zok0, g (by omega)⟩)
theorem x_isBox (H : HX c h w) {b : Int} (hv : VR b) (f : 0 ≤ b → b < hn h → Q (iz 1) w) (g : ¬ (0 ≤ b ∧ b < hn h) → Q (iz 0) w) : wp_X1_isBox (iz b) w Q := by
  unfold wp_X1_isBox
  have a := H.hs.1; have b' := H.hs.2.1
  refine x_boxMany H ?_
  simp only [iz_sub]
  exact x_in hv (by decide) ⟨by omega, by omega⟩ (fun p q => ⟨zok1, f p (by omega)⟩) (fun p => ⟨zok0, g (by omega)⟩)
theorem x_isLabelled (H : HX c h w) {b : Int} (h1 : 0 ≤ b) (h2 : b < hn h) (f : hb h b 3 = 1 → Q (iz 1) w) (g : hb h b 3 = 0 → Q (iz 0) w) : wp_X1_isLabelled (iz b) w Q := by
  unfold wp_X1_isLabelled
  have a := H.hs.2.2.2.2.2.2.2 b h1 h2
  have a2 := H.hs.2.2.2.1
  refine x_of3 H h1 h2 ?_
  by_cases e : hb h b 3 = 1
  · rw [if_pos e]
    exact br (iz_eq (by omega) (by omega) (by decide) (by decide)) (fun q => by omega) (fun q => f e)
  · rw [if_neg e]
    exact ⟨fun _ => g (by omega), fun q => absurd rfl q⟩
theorem x_weighs (H : HX c h w) {b : Int} (h1 : 0 ≤ b) (h2 : b < hn h) (q : Q (iz (hb h b 1 * cD c (5 * hb h b 0 + 1))) w) : wp_X1_weighs (iz b) w Q := by
  unfold wp_X1_weighs
  have a := H.hs.2.2.2.2.2.2.2 b h1 h2
  refine x_of H h1 h2 (by decide) (by decide) (x_of H h1 h2 (by decide) (by decide) (x_ofKind H (by omega) (by omega) (by decide) (by decide) ?_))
  simp only [iz_mul]
  exact q
theorem x_goesWith (H : HX c h w) {k : Int} (h1 : 0 ≤ k) (h2 : k < cK c) (q : Q (iz (kgo c k)) w) : wp_X1_goesWith (iz k) w Q := by
  unfold wp_X1_goesWith
  have a := H.cf.2.2.2.1 k h1 h2
  refine x_ofKind H h1 h2 (by decide) (by decide) ?_
  unfold kgo at q
  refine brn (iz_eq (by omega) (by omega) (by decide) (by decide)) (fun e => ?_) (fun e => ?_)
  · rw [if_neg e] at q
    exact x_ofKind H h1 h2 (by decide) (by decide) q
  · rw [if_pos e] at q
    exact q
theorem kgo_bd {c : Cf} (H : CfOK c) {k : Int} (h1 : 0 ≤ k) (h2 : k < cK c) : -1 ≤ kgo c k ∧ kgo c k ≤ 6 := by
  have := H.2.2.2.1 k h1 h2
  unfold kgo
  split <;> omega
theorem x_isWith (H : HX c h w) {a b : Int} (h1 : 0 ≤ a) (h2 : a < cK c) (h3 : 0 ≤ b) (h4 : b < cK c) (f : kwith c a b → Q (iz 1) w) (g : ¬ kwith c a b → Q (iz 0) w) : wp_X1_isWith (iz a) (iz b) w Q := by
  unfold wp_X1_isWith
  have := H.cf.2.1
  have ga := kgo_bd H.cf h1 h2
  have gb := kgo_bd H.cf h3 h4
  refine br (iz_eq (by omega) (by omega) (by omega) (by omega)) (fun e => f (Or.inl e)) (fun e => x_goesWith H h1 h2 ?_)
  refine br (iz_eq (by omega) (by omega) (by omega) (by omega)) (fun e2 => f (Or.inr (Or.inl e2))) (fun e2 => x_goesWith H h3 h4 ?_)
  exact brn (iz_eq (by omega) (by omega) (by omega) (by omega)) (fun e3 => g (fun x => by unfold kwith at x; omega)) (fun e3 => f (Or.inr (Or.inr e3)))
theorem x_has {s k : Int} (h1 : 0 ≤ s) (h2 : s < 256) (h3 : 0 ≤ k) (h4 : k < 8) (f : has2 s k = true → Q (iz 1) w) (g : has2 s k = false → Q (iz 0) w) : wp_X1_has (iz s) (iz k) w Q := by
  unfold wp_X1_has
  exact brn (hasI h1 h2 h3 h4) (fun q => g (by unfold inS at q; unfold has2; simpa using q)) (fun q => f q)
theorem x_portionsOf (H : HX c h w) {s : Int} (h1 : 0 ≤ s) (h2 : s < 256) (q : Q (iz (psum h s (hn h))) w) : wp_X1_portionsOf (iz s) w Q := by
  have a := H.hs.1; have a2 := H.hs.2.1
  refine lpe (fun n (s3 : Int32 × Int32 × Wd) => lp_X1_portionsOf_4 Q (iz s) n s3.1 s3.2.1 s3.2.2) (fun R s3 => wl_X1_portionsOf_4 Q (iz s) (fun x y z => R (x, y, z)) s3.1 s3.2.1 s3.2.2) (fun _ _ h => h) (fun i s3 => 0 ≤ i ∧ s3 = (iz (psum h s i), iz i, w)) (hn h) 0 (iz 0, iz 0, w) a ⟨by decide, rfl⟩ ?_
  rintro R _ i hi ⟨hi0, rfl⟩ k
  refine x_boxMany H ?_
  refine br (iz_le (by omega) (by omega) (by omega) (by omega)) (fun e => ?_) (fun e => ?_)
  · obtain rfl : i = hn h := by omega
    exact q
  · have kk := k (by omega)
    have es := sm_s (fun b => if has2 s b = true then hb h b 1 else 0) hi0
    refine x_has h1 h2 hi0 (by omega) (fun t => t1 (x_of H hi0 (by omega) (by decide) (by decide) ?_)) (fun t => t0 ?_)
    · refine kk _ ⟨by omega, ?_⟩
      simp only [iz_add]
      unfold psum
      rw [es, if_pos t]
    · refine kk _ ⟨by omega, ?_⟩
      simp only [iz_add]
      unfold psum
      rw [es, if_neg (by rw [t]; decide), Int.add_zero]
theorem psum_low {h : Hs} {n : Int} (h1 : 0 ≤ n) (h2 : n < 9) (N : Int) (hN : 0 ≤ N) (hN2 : N ≤ 8) : psum h (((2 ^ n.toNat : Nat) : Int) - 1) N = sm (fun b => if b < n then hb h b 1 else 0) N := by
  unfold psum
  refine sm_congr hN (fun i hi1 hi2 => ?_)
  have := low_in h1 h2 hi1 (show i < 8 by omega)
  unfold inS at this
  unfold has2
  by_cases e : i < n
  · rw [if_pos (this.mpr e), if_pos e]
  · rw [if_neg (fun x => e (this.mp x)), if_neg e]
theorem pow_bd {n : Int} (h1 : 0 ≤ n) (h2 : n < 9) : 1 ≤ ((2 ^ n.toNat : Nat) : Int) ∧ ((2 ^ n.toNat : Nat) : Int) ≤ 256 := by
  have := low_tab n.toNat (by omega) 0 (by decide)
  omega
theorem x_portionsAll (H : HX c h w) (q : Q (iz (pall h)) w) : wp_X1_portionsAll w Q := by
  unfold wp_X1_portionsAll
  have a := H.hs.1; have a2 := H.hs.2.1
  have b := pow_bd a (by omega)
  refine x_boxMany H ?_
  simp only [shlI a (show hn h < 9 by omega), iz_sub]
  refine x_portionsOf H (by omega) (by omega) ?_
  rw [psum_low a (by omega) _ a a2]
  have : sm (fun b => if b < hn h then hb h b 1 else 0) (hn h) = pall h := sm_congr a (fun i hi1 hi2 => by rw [if_pos hi2])
  rw [this]
  exact q
def o_rule (c : Cf) (v : Int) : Int := if 0 < cK c ∧ 0 ≤ v ∧ v ≤ 3 then cR c v else -1
theorem x_rule (H : HX c h w) {v : Int} (hv : VR v) (q : Q (iz (o_rule c v)) w) : wp_X1_rule (iz v) w Q := by
  unfold wp_X1_rule
  unfold o_rule at q
  refine x_isHouse H (fun e => t1 (x_in hv (by decide) (by decide) (fun p1 p2 => t1 ?_) (fun p => t0 ?_))) (fun e => t0 ?_)
  · rw [if_pos ⟨e, p1, p2⟩] at q
    refine ⟨iz_inb p1 (by omega) (by omega), ?_⟩
    rw [iz_toInt hv.1 hv.2, H.2.2.2.1 v p1 (by omega)]
    exact q
  · rw [if_neg (by omega)] at q
    exact q
  · rw [if_neg (by omega)] at q
    exact q
def o_kind (c : Cf) (k v : Int) : Int := if 0 ≤ k ∧ k < cK c ∧ 0 ≤ v ∧ v ≤ 4 then (if v = 4 then kgo c k else cD c (5 * k + v)) else -1
theorem x_kind (H : HX c h w) {k v : Int} (hk : VR k) (hv : VR v) (q : Q (iz (o_kind c k v)) w) : wp_X1_kind (iz k) (iz v) w Q := by
  unfold wp_X1_kind
  unfold o_kind at q
  refine x_isKind H hk (fun e1 e2 => t1 (x_in hv (by decide) (by decide) (fun p1 p2 => u1 ?_) (fun p => u0 ?_))) (fun e => t0 ?_)
  · rw [if_pos ⟨e1, e2, p1, p2⟩] at q
    refine brn (iz_eq (by omega) (by omega) (by decide) (by decide)) (fun e => ?_) (fun e => ?_)
    · rw [if_neg e] at q
      exact x_ofKind H e1 e2 p1 (by omega) q
    · rw [if_pos e] at q
      exact x_goesWith H e1 e2 q
  · rw [if_neg (by omega)] at q
    exact q
  · rw [if_neg (by omega)] at q
    exact q
def o_log (h : Hs) (i v : Int) : Int := if 0 ≤ i ∧ i < hl h ∧ 0 ≤ v ∧ v ≤ 3 then hg h (hl h - 1 - i) v else -1
theorem x_log (H : HX c h w) {i v : Int} (hi : VR i) (hv : VR v) (q : Q (iz (o_log h i v)) w) : wp_X1_log (iz i) (iz v) w Q := by
  unfold wp_X1_log
  unfold o_log at q
  have a := H.hs.2.2.2.2.1; have a2 := H.hs.2.2.2.2.2.1
  have e := H.2.2.2.2.2.2.1.2.2.1
  rw [Int.zero_add] at e
  refine ⟨iz_inb (by decide) (by decide) (by decide), ?_⟩
  rw [iz_toInt (by decide) (by decide), e, iz_sub]
  refine x_in hi (by decide) ⟨by omega, by omega⟩ (fun p1 p2 => t1 (x_in hv (by decide) (by decide) (fun p3 p4 => t1 ?_) (fun p => t0 ?_))) (fun p => t0 ?_)
  · rw [if_pos ⟨p1, by omega, p3, p4⟩] at q
    refine ⟨iz_inb (by decide) (by decide) (by decide), ?_⟩
    rw [e]
    simp only [iz_sub, iz_mul, iz_add]
    refine ⟨iz_inb (by omega) (by omega) (by omega), ?_⟩
    have e2 := H.2.2.2.2.2.2.1.2.2.2.2.2 (hl h - 1 - i) v (by omega) (by omega) p3 (by omega)
    rw [Int.zero_add] at e2
    rw [iz_toInt (by omega) (by omega), e2]
    exact q
  · rw [if_neg (by omega)] at q
    exact q
  · rw [if_neg (by omega)] at q
    exact q
theorem x_isOff (H : HX c h w) {n : Int} (hv : VR n) (f : 0 < cK c → 1 ≤ n → n ≤ 99 → Q (iz 1) w) (g : ¬ (0 < cK c ∧ 1 ≤ n ∧ n ≤ 99) → Q (iz 0) w) : wp_X1_isOff (iz n) w Q := by
  unfold wp_X1_isOff
  exact x_isHouse H (fun e => t1 (x_in hv (by decide) (by decide) (fun p1 p2 => t1 (f e p1 p2)) (fun p => t0 (g (by omega))))) (fun e => t0 (g (by omega)))
def tmy (c : Cf) (p n : Int) : Int := max 0 (n - cR c 1 * p / cR c 0)
theorem tm_bd {c : Cf} (H : CfOK c) (hK : 0 < cK c) {p : Int} (h1 : 0 ≤ p) (h2 : p ≤ 99) : 0 ≤ cR c 1 * p ∧ cR c 1 * p ≤ 2376 ∧ 0 ≤ cR c 1 * p / cR c 0 ∧ cR c 1 * p / cR c 0 ≤ 2376 := by
  have r := H.2.2.1 hK
  have m := mul_bd (m := 24) (n := 99) (a := cR c 1) (b := p) (by omega) (by omega) h1 h2
  have d := Int.ediv_nonneg m.1 (show 0 ≤ cR c 0 by omega)
  have d2 := Int.ediv_le_self (cR c 0) m.1
  omega
theorem x_tooMany (H : HX c h w) (hK : 0 < cK c) {n : Int} (h1 : 1 ≤ n) (h2 : n ≤ 99) (q : Q (iz (tmy c (pall h) n)) w) : wp_X1_tooMany (iz n) w Q := by
  unfold wp_X1_tooMany
  have r := H.cf.2.2.1 hK
  have p := pall_bd H.hs
  have t := tm_bd H.cf hK p.1 (by omega)
  refine ⟨iz_inb (by decide) (by decide) (by decide), x_portionsAll H ⟨iz_inb (by decide) (by decide) (by decide), ?_⟩⟩
  rw [iz_toInt (by decide) (by decide), iz_toInt (by decide) (by decide), H.2.2.2.1 0 (by decide) (by decide), H.2.2.2.1 1 (by decide) (by decide)]
  refine ⟨iz_ne0 (by omega) (by omega) (by omega), ?_⟩
  rw [iz_mul, iz_div (by omega) (by omega) (by omega) (by omega), iz_sub, imax_iz (by decide) (by decide) (by omega) (by omega)]
  exact q
end XQ
