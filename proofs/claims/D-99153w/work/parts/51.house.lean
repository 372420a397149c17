/-! THE HOUSE as numbers: how many boxes, the month, how many are logged; of a box (from the top) kind, portions, age, label (0, 1), since; of a logged one four numbers -/
abbrev Hs : Type := Int × Int × Int × (Int → Int → Int) × (Int → Int → Int)
def hn (h : Hs) : Int := h.1
def hm (h : Hs) : Int := h.2.1
def hl (h : Hs) : Int := h.2.2.1
def hb (h : Hs) : Int → Int → Int := h.2.2.2.1
def hg (h : Hs) : Int → Int → Int := h.2.2.2.2
/-- what the house stands on: how many kinds, the rules, the kinds' numbers, which law holds, what the laws say -/
abbrev Cf : Type := Int × (Int → Int) × (Int → Int) × Int × (Int → Int → Int → Int → Int → Int → Int → Int)
def cK (c : Cf) : Int := c.1
def cR (c : Cf) : Int → Int := c.2.1
def cD (c : Cf) : Int → Int := c.2.2.1
def cH (c : Cf) : Int := c.2.2.2.1
def cF (c : Cf) : Int → Int → Int → Int → Int → Int → Int → Int := c.2.2.2.2
def CfOK (c : Cf) : Prop := 0 ≤ cK c ∧ cK c ≤ 6 ∧ (0 < cK c → (1 ≤ cR c 0 ∧ cR c 0 ≤ 99 ∧ 0 ≤ cR c 1 ∧ cR c 1 ≤ 24 ∧ 1 ≤ cR c 2 ∧ cR c 2 ≤ 99 ∧ 0 ≤ cR c 3 ∧ cR c 3 ≤ 5)) ∧ (∀ k, 0 ≤ k → k < cK c → (0 ≤ cD c (5 * k) ∧ cD c (5 * k) ≤ 5 ∧ 1 ≤ cD c (5 * k + 1) ∧ cD c (5 * k + 1) ≤ 9 ∧ 1 ≤ cD c (5 * k + 2) ∧ cD c (5 * k + 2) ≤ 36 ∧ 0 ≤ cD c (5 * k + 3) ∧ cD c (5 * k + 3) ≤ 9 ∧ 0 ≤ cD c (5 * k + 4) ∧ cD c (5 * k + 4) ≤ 6)) ∧ -1 ≤ cH c ∧ cH c < 4 ∧ (∀ i a o n y k m, -2147483648 ≤ cF c i a o n y k m ∧ cF c i a o n y k m ≤ 2147483647)
def HsOK (c : Cf) (h : Hs) : Prop := 0 ≤ hn h ∧ hn h ≤ 8 ∧ 0 ≤ hm h ∧ hm h ≤ 999 ∧ 0 ≤ hl h ∧ hl h ≤ 60 ∧ (cK c = 0 → hn h = 0) ∧ ∀ b, 0 ≤ b → b < hn h → (0 ≤ hb h b 0 ∧ hb h b 0 < cK c ∧ 1 ≤ hb h b 1 ∧ hb h b 1 ≤ 9 ∧ 0 ≤ hb h b 2 ∧ hb h b 2 ≤ 99 ∧ (hb h b 3 = 0 ∨ hb h b 3 = 1) ∧ (hb h b 3 = 1 → 0 ≤ hb h b 4 ∧ hb h b 4 ≤ hm h))
/-- a house in the component's way, in the array a from the place o on -/
def AX (h : Hs) (w : Wd) (a : Nat) (o : Int) : Prop := gA w a (o + 32) = iz (hn h) ∧ gA w a (o + 33) = iz (hm h) ∧ gA w a (o + 34) = iz (hl h) ∧ (∀ b j, 0 ≤ b → b < hn h → 0 ≤ j → j < 3 → gA w a (o + (4 * (hn h - 1 - b) + j)) = iz (hb h b j)) ∧ (∀ b, 0 ≤ b → b < hn h → gA w a (o + (4 * (hn h - 1 - b) + 3)) = iz (if hb h b 3 = 1 then hb h b 4 else -1)) ∧ ∀ i j, 0 ≤ i → i < hl h → 0 ≤ j → j < 4 → gA w a (o + (35 + 4 * i + j)) = iz (hg h i j)
/-- .. and in the model's -/
def AM (h : Hs) (w : Wd) (a : Nat) (o : Int) : Prop := gA w a (o + 40) = iz (hn h) ∧ gA w a (o + 41) = iz (hm h) ∧ gA w a (o + 42) = iz (hl h) ∧ (∀ b j, 0 ≤ b → b < hn h → 0 ≤ j → j < 4 → gA w a (o + (5 * b + j)) = iz (hb h b j)) ∧ (∀ b, 0 ≤ b → b < hn h → hb h b 3 = 1 → gA w a (o + (5 * b + 4)) = iz (hb h b 4)) ∧ ∀ i j, 0 ≤ i → i < hl h → 0 ≤ j → j < 4 → gA w a (o + (43 + 4 * i + j)) = iz (hg h i j)
/-- the laws of the component answer as the numbers' laws do -/
def LX (c : Cf) (w : Wd) : Prop := ∀ i, 0 ≤ i → i < 4 → i = cH c → ∀ (w' : Wd) (a o n y k m : Int) (Q : Int32 → Wd → Prop), (∀ r, gF w r ≠ none → gF w' r = gF w r) → gA w' 15 97 = iz a → gA w' 15 111 = iz o → gA w' 15 110 = iz n → gA w' 15 121 = iz y → gA w' 15 107 = iz k → gA w' 15 109 = iz m → Q (iz (cF c i a o n y k m)) w' → wp_X1_worth (gC w i) (iz 121) 15 w' Q
def HX (c : Cf) (h : Hs) (w : Wd) : Prop := CfOK c ∧ HsOK c h ∧ gI w 23 = iz (cK c) ∧ (∀ i, 0 ≤ i → i < 4 → gA w 19 i = iz (cR c i)) ∧ (∀ i, 0 ≤ i → i < 30 → gA w 20 i = iz (cD c i)) ∧ gI w 29 = iz (cH c) ∧ AX h w 31 0 ∧ LX c w
/-- what a portion is worth -/
def wth (c : Cf) (k p a below month : Int) : Int := max 0 (cD c (5 * k + 3) - max 0 (min 9 (if cH c = -1 then a - cD c (5 * k + 2) else cF c (cH c) a (cD c (5 * k + 2)) p below k month)))
def val (c : Cf) (h : Hs) (b more below : Int) : Int := hb h b 1 * wth c (hb h b 0) (hb h b 1) (min 99 (hb h b 2 + more)) below (hm h + more)
def valO (c : Cf) (h : Hs) (b : Int) : Int := val c h b 0 (hn h - 1 - b)
section XH
variable {c : Cf} {h : Hs} {w : Wd} {Q : Int32 → Wd → Prop}
theorem HX.cf (H : HX c h w) : CfOK c := H.1
theorem HX.hs (H : HX c h w) : HsOK c h := H.2.1
theorem HX.s15 (H : HX c h w) (f : Int → Int32) : HX c h (sB w 15 f) := by
  obtain ⟨h1, h2, h3, h4, h5, h6, h7, h8⟩ := H
  refine ⟨h1, h2, h3, ?_, ?_, h6, ?_, ?_⟩
  · simpa only [gA_sB, show (19 : Nat) = 15 ↔ False by decide, if_false] using h4
  · simpa only [gA_sB, show (20 : Nat) = 15 ↔ False by decide, if_false] using h5
  · simpa only [AX, gA_sB, show (31 : Nat) = 15 ↔ False by decide, if_false] using h7
  · exact h8
theorem x_in {v a b : Int} (h1 : -2147483648 ≤ v ∧ v < 2147483648) (h2 : -2147483648 ≤ a ∧ a < 2147483648) (h3 : -2147483648 ≤ b ∧ b < 2147483648) (f : a ≤ v → v ≤ b → Q (iz 1) w) (g : ¬ (a ≤ v ∧ v ≤ b) → Q (iz 0) w) : wp_X1_in (iz v) (iz a) (iz b) w Q := by
  unfold wp_X1_in
  refine br (iz_lt h1.1 h1.2 h2.1 h2.2) (fun q => g (by omega)) (fun q => br (iz_lt h3.1 h3.2 h1.1 h1.2) (fun q => g (by omega)) (fun q' => f (by omega) (by omega)))
theorem x_boxMany (H : HX c h w) (q : Q (iz (hn h)) w) : wp_X1_boxMany w Q := by
  unfold wp_X1_boxMany
  refine ⟨iz_inb (by decide) (by decide) (by decide), ?_⟩
  have e := H.2.2.2.2.2.2.1.1
  rw [iz_toInt (by decide) (by decide)]
  rw [Int.zero_add] at e
  rw [e]
  exact q
theorem x_turned (H : HX c h w) {b : Int} (q : Q (iz (hn h - 1 - b)) w) : wp_X1_turned (iz b) w Q := by
  unfold wp_X1_turned
  refine x_boxMany H ?_
  simp only [iz_sub]
  exact q
theorem x_of (H : HX c h w) {b j : Int} (h1 : 0 ≤ b) (h2 : b < hn h) (h3 : 0 ≤ j) (h4 : j < 3) (q : Q (iz (hb h b j)) w) : wp_X1_of (iz b) (iz j) w Q := by
  unfold wp_X1_of
  refine x_turned H ?_
  obtain ⟨g1, g2, -⟩ := H.hs
  have e := H.2.2.2.2.2.2.1.2.2.2.1 b j h1 h2 h3 h4
  rw [Int.zero_add] at e
  simp only [iz_mul, iz_add]
  refine ⟨iz_inb (by omega) (by omega) (by omega), ?_⟩
  rw [iz_toInt (by omega) (by omega), e]
  exact q
theorem x_of3 (H : HX c h w) {b : Int} (h1 : 0 ≤ b) (h2 : b < hn h) (q : Q (iz (if hb h b 3 = 1 then hb h b 4 else -1)) w) : wp_X1_of (iz b) (iz 3) w Q := by
  unfold wp_X1_of
  refine x_turned H ?_
  obtain ⟨g1, g2, -⟩ := H.hs
  have e := H.2.2.2.2.2.2.1.2.2.2.2.1 b h1 h2
  rw [Int.zero_add] at e
  simp only [iz_mul, iz_add]
  refine ⟨iz_inb (by omega) (by omega) (by omega), ?_⟩
  rw [iz_toInt (by omega) (by omega), e]
  exact q
theorem x_ofKind (H : HX c h w) {k j : Int} (h1 : 0 ≤ k) (h2 : k < cK c) (h3 : 0 ≤ j) (h4 : j < 5) (q : Q (iz (cD c (5 * k + j))) w) : wp_X1_ofKind (iz k) (iz j) w Q := by
  unfold wp_X1_ofKind
  obtain ⟨g1, g2, -⟩ := H.cf
  simp only [iz_mul, iz_add]
  refine ⟨iz_inb (by omega) (by omega) (by omega), ?_⟩
  rw [iz_toInt (by omega) (by omega), H.2.2.2.2.1 _ (by omega) (by omega)]
  exact q
theorem x_aged (H : HX c h w) {b more : Int} (h1 : 0 ≤ b) (h2 : b < hn h) (h3 : 0 ≤ more) (h4 : more ≤ 1000) (q : Q (iz (min 99 (hb h b 2 + more))) w) : wp_X1_aged (iz b) (iz more) w Q := by
  unfold wp_X1_aged
  refine x_of H h1 h2 (by decide) (by decide) ?_
  have g := H.hs.2.2.2.2.2.2.2 b h1 h2
  simp only [iz_add]
  rw [imin_iz (by decide) (by decide) (by omega) (by omega)]
  exact q
end XH
