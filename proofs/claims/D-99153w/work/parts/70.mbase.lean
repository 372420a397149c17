/-! the model: numbers between, its frame -/
theorem lz_toInt {a : Int} (h1 : -9223372036854775808 ≤ a) (h2 : a < 9223372036854775808) : (lz a).toInt = a := Int64.toInt_ofInt_of_le h1 h2
theorem i2l {a : Int} (h : VR a) : (iz a).toInt64 = lz a := by
  apply Int64.toInt_inj.mp
  rw [Int32.toInt_toInt64, iz_toInt h.1 h.2, lz_toInt (by have := h.1; omega) (by have := h.2; omega)]
theorem lg_lt {a b : Int} (h1 : -9223372036854775808 ≤ a) (h2 : a < 9223372036854775808) (h3 : -9223372036854775808 ≤ b) (h4 : b < 9223372036854775808) : (lg_cmp (lz a) (lz b) < iz 0 ↔ a < b) ∧ (iz 0 < lg_cmp (lz a) (lz b) ↔ b < a) ∧ (lg_cmp (lz a) (lz b) = iz 0 ↔ a = b) := by
  have gt : (lz a > lz b) ↔ b < a := by
    show lz b < lz a ↔ b < a
    rw [Int64.lt_iff_toInt_lt, lz_toInt h1 h2, lz_toInt h3 h4]
  have eq : lz a = lz b ↔ a = b := by
    constructor
    · intro h
      have := congrArg Int64.toInt h
      rwa [lz_toInt h1 h2, lz_toInt h3 h4] at this
    · intro h; rw [h]
  unfold lg_cmp
  by_cases c1 : b < a
  · rw [if_pos (gt.mpr c1)]
    exact ⟨⟨fun h => absurd h (by decide), fun h => by omega⟩, ⟨fun _ => c1, fun _ => by decide⟩, ⟨fun h => absurd h (by decide), fun h => by omega⟩⟩
  · rw [if_neg (fun h => c1 (gt.mp h))]
    by_cases c2 : a = b
    · rw [if_pos (eq.mpr c2)]
      exact ⟨⟨fun h => absurd h (by decide), fun h => by omega⟩, ⟨fun h => absurd h (by decide), fun h => by omega⟩, ⟨fun _ => c2, fun _ => by decide⟩⟩
    · rw [if_neg (fun h => c2 (eq.mp h))]
      exact ⟨⟨fun _ => by omega, fun _ => by decide⟩, ⟨fun h => absurd h (by decide), fun h => by omega⟩, ⟨fun h => absurd h (by decide), fun h => absurd h c2⟩⟩
theorem m_isIn {Q : Int32 → Wd → Prop} {w : Wd} {v a b : Int} (hv : VR v) (ha : VR a) (hb : VR b) (f : a ≤ v → v ≤ b → Q (iz 1) w) (g : ¬ (a ≤ v ∧ v ≤ b) → Q (iz 0) w) : wp_X3_isIn (iz v).toInt64 (lz a) (lz b) w Q := by
  unfold wp_X3_isIn
  rw [i2l hv]
  have h1 := hv.1; have h2 := hv.2; have h3 := ha.1; have h4 := ha.2; have h5 := hb.1; have h6 := hb.2
  have c1 := lg_lt (a := v) (b := a) (by omega) (by omega) (by omega) (by omega)
  have c2 := lg_lt (a := v) (b := b) (by omega) (by omega) (by omega) (by omega)
  exact br c1.1 (fun q => g (by omega)) (fun q => br c2.2.1 (fun q => g (by omega)) (fun q' => f (by omega) (by omega)))
/-- the key under which the model keeps what a law said -/
def kEnc (l a o n y k m : Int) : Int := 5 * (10 * (10 * (10 * (40 * (100 * m + a) + o) + n) + y) + k) + l + 1
def mArgs (l a o n y k m : Int) : Prop := 0 ≤ l ∧ l < 4 ∧ 0 ≤ a ∧ a ≤ 99 ∧ 1 ≤ o ∧ o ≤ 36 ∧ 1 ≤ n ∧ n ≤ 9 ∧ 0 ≤ y ∧ y ≤ 9 ∧ 0 ≤ k ∧ k ≤ 9 ∧ 0 ≤ m ∧ m ≤ 2000
theorem kEnc_inj {l a o n y k m l' a' o' n' y' k' m' : Int} (H : mArgs l a o n y k m) (H' : mArgs l' a' o' n' y' k' m') (e : kEnc l a o n y k m = kEnc l' a' o' n' y' k' m') : l = l' ∧ a = a' ∧ o = o' ∧ n = n' ∧ y = y' ∧ k = k' ∧ m = m' := by
  unfold mArgs at H H'
  unfold kEnc at e
  omega
/-- what the model remembers is true -/
def Memo (c : Cf) (lm : Int) (w : Wd) : Prop := ∀ i, 0 ≤ i → i < 8191 → ∀ l a o n y k m, mArgs l a o n y k m → gL w 94 i = lz (kEnc l a o n y k m) → l < lm ∧ gA w 95 i = iz (cF c l a o n y k m)
/-- the model's other things are as they were -/
def fsM (w w' : Wd) : Prop := (∀ k, ¬ (k = 60 ∨ 68 ≤ k ∧ k ≤ 74 ∨ k = 77) → gI w' k = gI w k) ∧ (∀ a, ¬ (a = 64 ∨ a = 95) → gA w' a = gA w a) ∧ gJ w' = gJ w ∧ (∀ a, a ≠ 94 → gL w' a = gL w a) ∧ gC w' = gC w ∧ gF w' = gF w ∧ gZ w' = gZ w
def MS (c : Cf) (lm : Int) (w w' : Wd) : Prop := fsM w w' ∧ Memo c lm w'
theorem fsM_refl (w : Wd) : fsM w w := ⟨fun _ _ => rfl, fun _ _ => rfl, rfl, fun _ _ => rfl, rfl, rfl, rfl⟩
theorem fsM_trans {w w' w'' : Wd} (h : fsM w w') (g : fsM w' w'') : fsM w w'' := ⟨fun k hk => (g.1 k hk).trans (h.1 k hk), fun a ha => (g.2.1 a ha).trans (h.2.1 a ha), g.2.2.1.trans h.2.2.1, fun a ha => (g.2.2.2.1 a ha).trans (h.2.2.2.1 a ha), g.2.2.2.2.1.trans h.2.2.2.2.1, g.2.2.2.2.2.1.trans h.2.2.2.2.2.1, g.2.2.2.2.2.2.trans h.2.2.2.2.2.2⟩
theorem MS.trans {c : Cf} {lm : Int} {w w' w'' : Wd} (h : MS c lm w w') (g : MS c lm w' w'') : MS c lm w w'' := ⟨fsM_trans h.1 g.1, g.2⟩
/-- the model's law i says as the numbers' law, in every world with the law's text as it is here -/
def LM (c : Cf) (w : Wd) (i : Int) : Prop := ∀ (w' : Wd) (a o n y k m : Int) (Q : Wd → Prop), (∀ t, 240 * i ≤ t → t < 240 * i + 240 → gA w' 62 t = gA w 62 t) → gA w' 64 97 = iz a → gA w' 64 111 = iz o → gA w' 64 110 = iz n → gA w' 64 121 = iz y → gA w' 64 107 = iz k → gA w' 64 109 = iz m → (∀ w'', fsM w' w'' → gA w'' 64 = gA w' 64 → gL w'' 94 = gL w' 94 → gA w'' 95 = gA w' 95 → gI w'' 74 = iz (cF c i a o n y k m) → gI w'' 60 = gI w' 60 → Q w'') → wp_X3_goThrough 62 (iz (240 * i)) (gA w 63 i) w' Q
/-- the model under the rules -/
def HM (c : Cf) (lm : Int) (w : Wd) : Prop := CfOK c ∧ gI w 85 = iz (cK c) ∧ (∀ i, 0 ≤ i → i < 4 → gA w 78 i = iz (cR c i)) ∧ (∀ i, 0 ≤ i → i < 30 → gA w 80 i = iz (cD c i)) ∧ gI w 92 = iz (cH c) ∧ (∀ i, 0 ≤ i → i < lm → LM c w i) ∧ Memo c lm w ∧ -1 ≤ cH c ∧ cH c < lm ∧ lm ≤ 4
/-- a house in the model's row r -/
def MH (c : Cf) (r : Nat) (h : Hs) (w : Wd) : Prop := HsOK c h ∧ AMf h (gA w r) 0
