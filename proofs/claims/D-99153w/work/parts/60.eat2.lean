/-! the component's eating -/
theorem brF {p A B : Prop} [Decidable p] {Q : Int32 → Wd → Prop} {w : Wd} {a b : Int32} (hA : A ↔ Q a w) (hB : B ↔ Q b w) : ((p → A) ∧ (¬ p → B)) ↔ Q (if p then a else b) w := by
  by_cases e : p
  · rw [if_pos e]
    exact ⟨fun h => hA.mp (h.1 e), fun h => ⟨fun _ => hA.mpr h, fun x => absurd e x⟩⟩
  · rw [if_neg e]
    exact ⟨fun h => hB.mp (h.2 e), fun h => ⟨fun x => absurd x e, fun _ => hB.mpr h⟩⟩
theorem brG {p A B : Prop} [Decidable p] {Q : Int32 → Wd → Prop} {w : Wd} {a b : Int32} (hA : A ↔ Q a w) (hB : B ↔ Q b w) : ((¬ p → B) ∧ (p → A)) ↔ Q (if p then a else b) w := ⟨fun h => (brF hA hB).mp ⟨h.2, h.1⟩, fun h => ⟨((brF hA hB).mpr h).2, ((brF hA hB).mpr h).1⟩⟩
theorem nlz_ex : ∃ F : Int32 → Int32, (∀ (x : Int32) (w : Wd) (Q : Int32 → Wd → Prop), wp_J10_numberOfLeadingZeros x w Q ↔ Q (F x) w) ∧ ∀ k, k < 9 → iz 31 - F (iz ((2 ^ k : Nat) - 1 : Int)) = iz ((k : Nat) - 1) :=
  ⟨_, fun _ _ _ => brF (brF (brF (brF (brF Iff.rfl Iff.rfl) (brF Iff.rfl Iff.rfl)) (brF (brF Iff.rfl Iff.rfl) (brF Iff.rfl Iff.rfl))) (brF (brF (brF Iff.rfl Iff.rfl) (brF Iff.rfl Iff.rfl)) (brF (brF Iff.rfl Iff.rfl) (brF Iff.rfl Iff.rfl)))) (brG Iff.rfl Iff.rfl), by decide +kernel⟩
theorem ntz_ex : ∃ F : Int32 → Int32, (∀ (x : Int32) (w : Wd) (Q : Int32 → Wd → Prop), wp_J10_numberOfTrailingZeros x w Q ↔ Q (F x) w) ∧ ∀ n, n < 9 → ∀ j, j < n → F (iz ((2 ^ n : Nat) - (2 ^ j : Nat) : Int)) = iz (j : Nat) :=
  ⟨_, fun _ _ _ => brF (brF (brF (brF (brF Iff.rfl Iff.rfl) (brF Iff.rfl Iff.rfl)) (brF (brF Iff.rfl Iff.rfl) (brF Iff.rfl Iff.rfl))) (brF (brF (brF Iff.rfl Iff.rfl) (brF Iff.rfl Iff.rfl)) (brF (brF Iff.rfl Iff.rfl) (brF Iff.rfl Iff.rfl)))) Iff.rfl, by decide +kernel⟩
theorem full_tab : ∀ n, n < 9 → ∀ k, k ≤ n → popc (2 ^ n - 2 ^ k) = n - k ∧ (k < n → rmv (2 ^ n - 2 ^ k) k = 2 ^ n - 2 ^ (k + 1) ∧ popc ((2 ^ n - 2 ^ k) >>> (k + 1)) = n - 1 - k) := by decide +kernel
theorem low_tab2 : ∀ k, k < 9 → popc (2 ^ k - 1) = k ∧ (1 ≤ k → rmv (2 ^ k - 1) (k - 1) = 2 ^ (k - 1) - 1 ∧ popc ((2 ^ k - 1) >>> k) = 0) := by decide +kernel
def o_eat (c : Cf) (h : Hs) (v : Int) : Int := if 0 < cK c ∧ 0 ≤ v ∧ v ≤ 3 then (if v = 0 then brow c h (2 ^ (hn h).toNat - 1) else if v = 1 then best c h (2 ^ (hn h).toNat - 1) else if v = 2 then sm (fun i => val c h (hn h - 1 - i) i 0) (hn h) else sm (fun i => val c h i i (hn h - 1 - i)) (hn h)) else -1
theorem sB_comm (w : Wd) {a b : Nat} (e : a ≠ b) (f g : Int → Int32) : sB (sB w a f) b g = sB (sB w b g) a f := by
  unfold sB
  refine Prod.ext rfl (Prod.ext ?_ rfl)
  funext x
  by_cases h1 : x = a
  · subst h1; simp [e]
  · simp [h1]
section EAT2
variable {c : Cf} {h : Hs} {w : Wd} {Q : Int32 → Wd → Prop}
theorem HX.s36 (H : HX c h w) (f : Int → Int32) : HX c h (sB w 36 f) := by
  obtain ⟨h1, h2, h3, h4, h5, h6, h7, h8⟩ := H
  refine ⟨h1, h2, h3, ?_, ?_, h6, ?_, ?_⟩
  · simpa only [gA_sB, show (19 : Nat) = 36 ↔ False by decide, if_false] using h4
  · simpa only [gA_sB, show (20 : Nat) = 36 ↔ False by decide, if_false] using h5
  · simpa only [AX, gA_sB, show (31 : Nat) = 36 ↔ False by decide, if_false] using h7
  · exact h8
theorem x_belowIn {b s : Nat} (hs : s < 256) (hb : b < 8) (q : Q (iz (popc (s >>> (b + 1)) : Nat)) w) : wp_X1_belowIn (iz b) (iz s) w Q := by
  unfold wp_X1_belowIn
  refine s_bc ?_
  rw [(shr_tab s hs b hb).1, bcx_pop (shr_tab s hs b hb).2 w]
  exact q
theorem x_eatenNow (H : HX c h w) {b s : Nat} (hs : s < 2 ^ (hn h).toNat) (hb : b < (hn h).toNat) (q : ∀ f, Q (iz (eNow c h b s)) (sB w 15 f)) : wp_X1_eatenNow (iz b) (iz s) w Q := by
  unfold wp_X1_eatenNow
  have a := H.hs.1; have a2 := H.hs.2.1
  obtain ⟨t1, t2, t3⟩ := hn_bit H.hs hs
  refine x_boxMany H (s_bc (x_belowIn t2 (by omega) ?_))
  rw [bcx_pop t2 w, iz_sub]
  exact x_valueAt H (by omega) (by omega) (by omega) (by omega) q
theorem x_layEating {Q : Wd → Prop} (H : HX c h w) (q : ∀ f g, (∀ s : Nat, s < 2 ^ (hn h).toNat → g s = iz (best c h s)) → Q (sB (sB w 15 f) 36 g)) : wp_X1_layEating w Q := by
  unfold wp_X1_layEating
  have a := H.hs.1; have a2 := H.hs.2.1
  have pb := pow_bd a (show hn h < 9 by omega)
  refine ⟨iz_inb (by decide) (by decide) (by decide), ?_⟩
  rintro w1 rfl
  rw [iz_toInt (by decide) (by decide)]
  refine lpe (fun n1 (s : Int32 × Wd) => lp_X1_layEating_9 Q n1 s.1 s.2) (fun R s => wl_X1_layEating_9 Q (fun x y => R (x, y)) s.1 s.2) (fun _ _ h => h) (fun i s => 1 ≤ i ∧ ∃ f g, s = (iz i, sB (sB w 15 f) 36 g) ∧ ∀ t : Nat, (t : Int) < i → g t = iz (best c h t)) ((2 ^ (hn h).toNat : Nat) : Int) 1 (iz 1, sA w 36 0 (iz 0)) pb.1 ⟨by decide, gA w 15, (fun j => if j = 0 then iz 0 else gA w 36 j), ?_, ?_⟩ ?_
  · rw [sB_self, sA_sB]
  · intro t ht
    obtain rfl : t = 0 := by omega
    rw [best_0.1]
    rfl
  · rintro R _ i hi ⟨hi0, f, g, rfl, hg⟩ kk
    have H1 := (H.s15 f).s36 g
    refine x_boxMany H1 ?_
    rw [shlI a (by omega)]
    refine br (iz_le (by omega) (by omega) (by omega) (by omega)) (fun e => ?_) (fun e => ?_)
    · exact q f g (fun s hs => hg s (by omega))
    · have kk := kk (by omega)
      obtain ⟨s, rfl⟩ : ∃ s : Nat, i = s := ⟨i.toNat, by omega⟩
      have hs : s < 2 ^ (hn h).toNat := by omega
      obtain ⟨z1, z2, z3⟩ := hn_bit H.hs hs
      have bs := best_s H.cf H.hs hs (by omega)
      have bb := best_bd H.cf H.hs hs
      refine lpe (fun n1 (s' : Int32 × Int32 × Wd) => lp_X1_layEating_23 Q (fun x y => R (x, y)) (iz s) n1 s'.1 s'.2.1 s'.2.2) (fun R2 s' => wl_X1_layEating_23 Q (fun x y => R (x, y)) (iz s) (fun x y z => R2 (x, y, z)) s'.1 s'.2.1 s'.2.2) (fun _ _ h => h) (fun j s' => 0 ≤ j ∧ ∃ f, s' = (iz (fmE c h s j.toNat).1, iz j, sB (sB w 15 f) 36 g)) (hn h) 0 (iz (-1), iz 0, sB (sB w 15 f) 36 g) a ⟨by decide, f, rfl⟩ ?_
      rintro R2 _ j hj ⟨hj0, f1, rfl⟩ k2
      have H2 := (H.s15 f1).s36 g
      refine x_boxMany H2 (br (iz_le (by omega) (by omega) (by omega) (by omega)) (fun e4 => ?_) (fun e4 => ?_))
      · obtain rfl : j = hn h := by omega
        refine ⟨iz_inb (by omega) (by omega) (by omega), ?_⟩
        rintro w3 rfl
        rw [iz_add, iz_toInt (by omega) (by omega), sA_sB2]
        refine kk _ ⟨by omega, f1, _, rfl, fun t ht => ?_⟩
        by_cases et : t = s
        · subst et
          rw [if_pos rfl, bs.1]
        · rw [if_neg (by omega)]
          exact hg t (by omega)
      · obtain ⟨b, rfl⟩ : ∃ b : Nat, j = b := ⟨j.toNat, by omega⟩
        have k2 := k2 (by omega)
        have hb : b < (hn h).toNat := by omega
        have sp := (fm_spec (fun b => s.testBit b) (fE c h s) b)
        have es : (fmE c h s ((b : Int) + 1).toNat).1 = if s.testBit b = true then max (fmE c h s b).1 (fE c h s b) else (fmE c h s b).1 := by
          rw [show ((b : Int) + 1).toNat = b + 1 by omega]
          unfold fmE
          rw [fm]
          by_cases e5 : s.testBit b = true
          · rw [if_pos e5]
            by_cases e6 : (fm (fun b => s.testBit b) (fE c h s) b).1 < fE c h s b
            · rw [if_pos ⟨e5, e6⟩, Int.max_eq_right (by omega)]
            · rw [if_neg (fun x => e6 x.2), Int.max_eq_left (by omega)]
          · rw [if_neg e5, if_neg (fun x => e5 x.1)]
        have hh : has2 s b = s.testBit b := by unfold has2; simp
        refine x_has (by omega) (by omega) hj0 (by omega) (fun t => t1 (x_eatenNow H2 hs hb (fun f2 => ?_))) (fun t => t0 ?_)
        · rw [sB_comm _ (show (36 : Nat) ≠ 15 by decide), sB_sB, rmv_tab s z2 b (by omega)]
          have lt := (rmv_lt s z2 b (by omega)).1
          have lt2 := (rmv_lt s z2 b (by omega)).2 (hh ▸ t)
          refine ⟨iz_inb (by omega) (by omega) (by omega), ?_⟩
          rw [iz_toInt (by omega) (by omega), gA_sB, if_pos rfl, hg _ (by omega), iz_add, iz_add]
          have zb := best_bd H.cf H.hs (s := rmv s b) (by omega)
          have ze := eNow_bd (s := s) H.cf H.hs hb
          have zf : fE c h s b = eNow c h b s + best c h (rmv s b) := rfl
          rw [if_pos (hh ▸ t)] at es
          have zm : (fmE c h s b).1 ≤ 100000 := by
            unfold fmE
            rcases sp.1 with ⟨x1, x2⟩ | ⟨x1, x2, x3, x4⟩
            · omega
            · have y1 := eNow_bd (s := s) H.cf H.hs (show (fm (fun b => s.testBit b) (fE c h s) b).2 < (hn h).toNat by omega)
              have y3 := (rmv_lt s z2 (fm (fun b => s.testBit b) (fE c h s) b).2 (by omega)).1
              have y2 := best_bd H.cf H.hs (s := rmv s (fm (fun b => s.testBit b) (fE c h s) b).2) (by omega)
              have y4 : fE c h s (fm (fun b => s.testBit b) (fE c h s) b).2 = eNow c h (fm (fun b => s.testBit b) (fE c h s) b).2 s + best c h (rmv s (fm (fun b => s.testBit b) (fE c h s) b).2) := rfl
              omega
          have zn : -1 ≤ (fmE c h s b).1 := sp.2.2
          refine k2 _ ⟨by omega, f2, ?_⟩
          rw [es, zf, Int.toNat_natCast, imax_iz (by omega) (by omega) (by omega) (by omega)]
        · rw [iz_add]
          refine k2 _ ⟨by omega, f1, ?_⟩
          rw [es, if_neg (by rw [← hh, t]; decide), Int.toNat_natCast]
end EAT2
