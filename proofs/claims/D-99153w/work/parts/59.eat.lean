/-! the order of eating: what it comes to at most, and which order -/
def rmv (s b : Nat) : Nat := if s.testBit b then s - 2 ^ b else s
theorem rmv_tab : ∀ s, s < 256 → ∀ b, b < 8 → (iz (s : Nat) &&& ((iz 1 <<< (iz (b : Nat) &&& 31)) ^^^ iz (-1))) = iz (rmv s b : Nat) := by decide +kernel
theorem rmv_lt : ∀ s, s < 256 → ∀ b, b < 8 → (rmv s b ≤ s ∧ (s.testBit b = true → rmv s b < s ∧ popc (rmv s b) + 1 = popc s)) := by decide +kernel
theorem shr_tab : ∀ s, s < 256 → ∀ b, b < 8 → (iz (s : Nat) >>> ((iz (b : Nat) + iz 1) &&& 31)) = iz (s >>> (b + 1) : Nat) ∧ s >>> (b + 1) < 256 := by decide +kernel
theorem popc_tab : ∀ s, s < 256 → popc s ≤ 8 ∧ (popc s = 0 → s = 0) ∧ (s ≠ 0 → 1 ≤ popc s) := by decide +kernel
theorem bit_tab : ∀ n, n < 9 → ∀ s, s < 2 ^ n → popc s ≤ n ∧ s < 256 ∧ ∀ b, b < 8 → s.testBit b = true → b < n := by decide +kernel
theorem ne_bit : ∀ s, s < 256 → s ≠ 0 → ∃ b, b < 8 ∧ s.testBit b = true := by decide +kernel
def eNow (c : Cf) (h : Hs) (b s : Nat) : Int := val c h b (hn h - popc s) (popc (s >>> (b + 1)) : Nat)
/-- the most of the numbers at places that hold, with the first place that has it -/
def fm (P : Nat → Bool) (f : Nat → Int) : Nat → Int × Nat
  | 0 => (-1, 0)
  | n + 1 => if P n = true ∧ (fm P f n).1 < f n then (f n, n) else fm P f n
def eats (c : Cf) (h : Hs) : Nat → Nat → Int × Int
  | 0, _ => (0, 0)
  | k + 1, s => ((fm (fun b => s.testBit b) (fun b => eNow c h b s + (eats c h k (rmv s b)).1) (hn h).toNat).1,
      10 ^ k * ((fm (fun b => s.testBit b) (fun b => eNow c h b s + (eats c h k (rmv s b)).1) (hn h).toNat).2 : Int) + (eats c h k (rmv s (fm (fun b => s.testBit b) (fun b => eNow c h b s + (eats c h k (rmv s b)).1) (hn h).toNat).2)).2)
def best (c : Cf) (h : Hs) (s : Nat) : Int := (eats c h (popc s) s).1
def brow (c : Cf) (h : Hs) (s : Nat) : Int := (eats c h (popc s) s).2
def fE (c : Cf) (h : Hs) (s b : Nat) : Int := eNow c h b s + best c h (rmv s b)
def fmE (c : Cf) (h : Hs) (s n : Nat) : Int × Nat := fm (fun b => s.testBit b) (fE c h s) n
theorem fm_spec (P : Nat → Bool) (f : Nat → Int) (n : Nat) : (((fm P f n).1 = -1 ∧ (fm P f n).2 = 0) ∨ (P (fm P f n).2 = true ∧ (fm P f n).2 < n ∧ f (fm P f n).2 = (fm P f n).1 ∧ ∀ b, b < (fm P f n).2 → P b = true → f b < (fm P f n).1)) ∧ (∀ b, b < n → P b = true → f b ≤ (fm P f n).1) ∧ -1 ≤ (fm P f n).1 := by
  induction n with
  | zero => exact ⟨Or.inl ⟨rfl, rfl⟩, fun b h => absurd h (by omega), Int.le_refl _⟩
  | succ n ih =>
    rw [fm]
    obtain ⟨i1, i2, i3⟩ := ih
    by_cases e : P n = true ∧ (fm P f n).1 < f n
    · rw [if_pos e]
      have ee := e.2
      clear i1
      refine ⟨Or.inr ⟨e.1, by simp, rfl, fun b hb p => ?_⟩, fun b hb p => ?_, ?_⟩
      · have := i2 b hb p
        show f b < f n
        omega
      · by_cases e2 : b = n
        · subst e2; exact Int.le_refl _
        · have := i2 b (by omega) p
          show f b ≤ f n
          omega
      · show -1 ≤ f n
        omega
    · rw [if_neg e]
      refine ⟨?_, fun b hb p => ?_, i3⟩
      · rcases i1 with i1 | ⟨j1, j2, j3, j4⟩
        · exact Or.inl i1
        · exact Or.inr ⟨j1, by omega, j3, j4⟩
      · by_cases e2 : b = n
        · subst e2
          have ee : ¬ (fm P f b).1 < f b := fun z => e ⟨p, z⟩
          omega
        · exact i2 b (by omega) p
section EAT
variable {c : Cf} {h : Hs} {w : Wd} {Q : Int32 → Wd → Prop}
theorem eNow_bd (H : CfOK c) (G : HsOK c h) {b s : Nat} (hb : b < (hn h).toNat) : 0 ≤ eNow c h b s ∧ eNow c h b s ≤ 81 := val_bd H G (by omega) (by omega)
theorem hn_bit (G : HsOK c h) {s : Nat} (hs : s < 2 ^ (hn h).toNat) : popc s ≤ (hn h).toNat ∧ s < 256 ∧ ∀ b, b < 8 → s.testBit b = true → b < (hn h).toNat := bit_tab (hn h).toNat (by have := G.1; have := G.2.1; omega) s hs
theorem eats_bd (H : CfOK c) (G : HsOK c h) : ∀ (k s : Nat), s < 2 ^ (hn h).toNat → popc s = k → (0 ≤ (eats c h k s).1 ∧ (eats c h k s).1 ≤ 81 * k) ∧ (0 ≤ (eats c h k s).2 ∧ (eats c h k s).2 < 10 ^ k) := by
  intro k
  induction k with
  | zero => intro s _ _; exact ⟨⟨Int.le_refl _, by simp [eats]⟩, Int.le_refl _, by simp [eats]⟩
  | succ k ih =>
    intro s hs hp
    have g1 := G.1; have g2 := G.2.1
    obtain ⟨t1, t2, t3⟩ := hn_bit G hs
    have hb : ∀ b, b < 8 → s.testBit b = true → rmv s b < 2 ^ (hn h).toNat ∧ popc (rmv s b) = k := by
      intro b hb hbt
      have := (rmv_lt s t2 b hb).2 hbt
      omega
    obtain ⟨b0, b1, b2⟩ := ne_bit s t2 (by rintro rfl; exact absurd hp (by rw [show popc 0 = 0 by decide]; omega))
    have sp := fm_spec (fun b => s.testBit b) (fun b => eNow c h b s + (eats c h k (rmv s b)).1) (hn h).toNat
    rw [eats]
    generalize fm (fun b => s.testBit b) (fun b => eNow c h b s + (eats c h k (rmv s b)).1) (hn h).toNat = p at sp
    obtain ⟨s1, s2, s3⟩ := sp
    have z := s2 b0 (t3 b0 b1 b2) b2
    have zz := ih _ (hb b0 b1 b2).1 (hb b0 b1 b2).2
    have ze := eNow_bd (s := s) H G (t3 b0 b1 b2)
    rcases s1 with s1 | ⟨j1, j2, j3, j4⟩
    · have zz1 := zz.1.1
      have z' : eNow c h b0 s + (eats c h k (rmv s b0)).1 ≤ p.1 := z
      omega
    · have q := ih _ (hb p.2 (by omega) j1).1 (hb p.2 (by omega) j1).2
      have qe := eNow_bd (s := s) H G j2
      have j3' : eNow c h p.2 s + (eats c h k (rmv s p.2)).1 = p.1 := j3
      have q1 := q.1; have q2 := q.2
      refine ⟨⟨?_, ?_⟩, ?_, ?_⟩
      · show 0 ≤ p.1
        omega
      · show p.1 ≤ 81 * ((k + 1 : Nat) : Int)
        push_cast
        omega
      · show 0 ≤ 10 ^ k * (p.2 : Int) + (eats c h k (rmv s p.2)).2
        have := Int.mul_nonneg (show (0 : Int) ≤ 10 ^ k from Int.le_of_lt (Int.pow_pos (by decide))) (show (0 : Int) ≤ p.2 by omega)
        omega
      · show 10 ^ k * (p.2 : Int) + (eats c h k (rmv s p.2)).2 < 10 ^ (k + 1)
        have := Int.mul_le_mul_of_nonneg_left (show (p.2 : Int) ≤ 7 by omega) (show (0 : Int) ≤ 10 ^ k from Int.le_of_lt (Int.pow_pos (by decide)))
        rw [Int.pow_succ]
        omega
theorem best_bd (H : CfOK c) (G : HsOK c h) {s : Nat} (hs : s < 2 ^ (hn h).toNat) : (0 ≤ best c h s ∧ best c h s ≤ 648) ∧ (0 ≤ brow c h s ∧ brow c h s < 10 ^ popc s) := by
  have := eats_bd H G (popc s) s hs rfl
  have t := hn_bit G hs
  have := G.1; have := G.2.1
  unfold best brow
  omega
theorem best_0 : best c h 0 = 0 ∧ brow c h 0 = 0 := by
  unfold best brow
  rw [show popc 0 = 0 by decide]
  exact ⟨rfl, rfl⟩
theorem fm_congr {P : Nat → Bool} {f g : Nat → Int} {n : Nat} (e : ∀ b, b < n → P b = true → f b = g b) : fm P f n = fm P g n := by
  induction n with
  | zero => rfl
  | succ n ih =>
    rw [fm, fm, ih (fun b hb p => e b (by omega) p)]
    by_cases p : P n = true
    · rw [e n (by omega) p]
    · simp [p]
/-- of a set that isn't empty -/
theorem best_s (H : CfOK c) (G : HsOK c h) {s : Nat} (hs : s < 2 ^ (hn h).toNat) (h0 : s ≠ 0) : best c h s = (fmE c h s (hn h).toNat).1 ∧ brow c h s = 10 ^ (popc s - 1) * ((fmE c h s (hn h).toNat).2 : Int) + brow c h (rmv s (fmE c h s (hn h).toNat).2) ∧ s.testBit (fmE c h s (hn h).toNat).2 = true ∧ (fmE c h s (hn h).toNat).2 < (hn h).toNat ∧ fE c h s (fmE c h s (hn h).toNat).2 = best c h s ∧ ∀ b, b < (fmE c h s (hn h).toNat).2 → s.testBit b = true → fE c h s b < best c h s := by
  have g1 := G.1; have g2 := G.2.1
  obtain ⟨t1, t2, t3⟩ := hn_bit G hs
  obtain ⟨b0, b1, b2⟩ := ne_bit s t2 h0
  have pc := (popc_tab s t2).2.2 h0
  obtain ⟨k, hk⟩ : ∃ k, popc s = k + 1 := ⟨popc s - 1, by omega⟩
  have hb : ∀ b, b < 8 → s.testBit b = true → popc (rmv s b) = k := by
    intro b hb hbt
    have := (rmv_lt s t2 b hb).2 hbt
    omega
  have ec : fm (fun b => s.testBit b) (fun b => eNow c h b s + (eats c h k (rmv s b)).1) (hn h).toNat = fmE c h s (hn h).toNat := by
    unfold fmE
    refine fm_congr (fun b hb1 p => ?_)
    unfold fE best
    rw [hb b (by omega) p]
  have e1 : best c h s = (fmE c h s (hn h).toNat).1 := by
    unfold best
    rw [hk, eats, ec]
  have sp := fm_spec (fun b => s.testBit b) (fE c h s) (hn h).toNat
  have e2 : brow c h s = 10 ^ k * ((fmE c h s (hn h).toNat).2 : Int) + (eats c h k (rmv s (fmE c h s (hn h).toNat).2)).2 := by
    unfold brow
    rw [hk, eats, ec]
  rw [e1, e2, hk]
  unfold fmE at *
  generalize fm (fun b => s.testBit b) (fE c h s) (hn h).toNat = p at sp
  obtain ⟨s1, s2, s3⟩ := sp
  rcases s1 with s1 | ⟨j1, j2, j3, j4⟩
  · have z := s2 b0 (t3 b0 b1 b2) b2
    have ze := eNow_bd (s := s) H G (t3 b0 b1 b2)
    have lt := (rmv_lt s t2 b0 b1).1
    have zb := (best_bd H G (s := rmv s b0) (by omega)).1.1
    unfold fE at z
    omega
  · refine ⟨rfl, ?_, j1, j2, j3, j4⟩
    rw [show k + 1 - 1 = k by omega]
    unfold brow
    rw [hb p.2 (by omega) j1]
end EAT
