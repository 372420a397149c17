/-! the six texts -/
def sTx : List (List Int) := [[121], [97, 111, 110, 121, 107, 109], [114, 104, 108, 101], [99, 119, 111, 112, 103], [107, 110, 97, 108], [112, 116, 108, 109, 99]]
def sCh (i k : Nat) : Int := (sTx.getD i []).getD k 0
def sLn (i : Nat) : Int := (sTx.getD i []).length
/-- the first place of c, or -1 -/
def pIx : List Int → Int → Int → Int
  | [], _, _ => -1
  | b :: l, c, k => if b = c then k else pIx l c (k + 1)
def sIx (i : Nat) (c : Int) : Int := pIx (sTx.getD i []) c 0
theorem pIx_lt : ∀ (l : List Int) (c k : Int), 0 ≤ k → -1 ≤ pIx l c k ∧ pIx l c k < k + l.length ∧ (0 ≤ pIx l c k → k ≤ pIx l c k)
  | [], c, k, h => by simp [pIx]; omega
  | b :: l, c, k, h => by
    have ih := pIx_lt l c (k + 1) (by omega)
    unfold pIx
    split
    · simp; omega
    · simp only [List.length_cons]; omega
theorem s_len_all : ∀ i, i < 6 → iz (sLen.getD i 0) >>> (iz 0 &&& 31) = iz (sLn i) ∧ sLn i = sLen.getD i 0 ∧ 1 ≤ sLn i ∧ sLn i ≤ 6 := by decide +kernel
theorem s_ch_all : ∀ i, i < 6 → ∀ k, k < sLen.getD i 0 → ((((sByt.getD i []).getD k 0) &&& iz 255).toUInt32 % 65536).toInt32 = iz (sCh i k) ∧ narrow .char (.int (iz (sCh i k))) = .int (iz (sCh i k)) ∧ (sByt.getD i []).getD k 0 = iz (sCh i k) ∧ 97 ≤ sCh i k ∧ sCh i k ≤ 121 := by decide +kernel
theorem s_cmp_all : ∀ c, c < 256 → ∀ b, b < 128 → (97 ≤ b → (((iz (b : Nat)) = (iz (c : Nat)).toInt8.toInt32) ↔ b = c)) := by decide +kernel
section STR
variable {w : Wd} {Q : Int32 → Wd → Prop}
theorem s_length {i : Nat} (hi : i < 6) (q : Q (iz (sLn i)) w) : wp_J2_length i w Q := by
  refine ⟨hi, hi, hi, fun h => absurd h (by decide), fun _ => ⟨hi, by decide +kernel, ?_⟩⟩
  show Q (iz (sLen.getD i 0) >>> (iz 0 &&& 31)) w
  rw [(s_len_all i hi).1]
  exact q
theorem s_latin {i : Nat} (hi : i < 6) (q : Q (iz 1) w) : wp_J2_isLatin1 i w Q := ⟨fun h => absurd h (by decide), fun _ => ⟨hi, fun h => absurd rfl h, fun _ => q⟩⟩
theorem s_charAt {i : Nat} {k : Int} (hi : i < 6) (h1 : 0 ≤ k) (h2 : k < sLn i) (q : Q (iz (sCh i k.toNat)) w) : wp_J2_charAt i (iz k) w Q := by
  obtain ⟨e0, e1, e2, e3⟩ := s_len_all i hi
  obtain ⟨c1, c2, c3, c4, c5⟩ := s_ch_all i hi k.toNat (by omega)
  have ek : (iz k).toNatClampNeg = k.toNat := by
    show (iz k).toInt.toNat = _
    rw [iz_toInt (by omega) (by omega)]
  refine ⟨hi, s_latin hi ⟨fun h => absurd h (by decide), fun _ => ⟨hi, hi, fun o => ⟨fun h => ?_, fun _ => ⟨fun _ => ⟨hi, iz_inb h1 (by omega) (by omega), ?_⟩, fun h => ?_⟩⟩⟩⟩⟩
  · rw [iz_lt (by omega) (by omega) (by decide) (by decide)] at h; omega
  · rw [ek, c1]
    exact ⟨c2, c2, q⟩
  · rw [← e1, iz_lt (by omega) (by omega) (by omega) (by omega)] at h; omega
theorem s_ixLoop {i : Nat} (hi : i < 6) {c : Int} (h1 : 0 ≤ c) (h2 : c < 256) : ∀ (l : List Int) (k : Int), 0 ≤ k → (sTx.getD i []).drop k.toNat = l → k + l.length = sLn i → Q (iz (pIx l c k)) w → lp_J3_indexOfChar_7 Q i (iz (sLn i)) ((iz c).toInt8.toInt32) (l.length + 1) (iz k) w := by
  intro l
  obtain ⟨e0, e1, e2, e3⟩ := s_len_all i hi
  induction l with
  | nil =>
    intro k hk hd hl q
    simp only [List.length_nil] at hl
    exact ⟨fun _ => q, fun h => absurd ((iz_le (by omega) (by omega) (by omega) (by omega)).mpr (by omega)) h⟩
  | cons b l ih =>
    intro k hk hd hl q
    simp only [List.length_cons] at hl ih ⊢
    have hlen : k.toNat < (sTx.getD i []).length := by
      have : (sTx.getD i []).length = sLn i := rfl
      omega
    have hb : sCh i k.toNat = b := by
      unfold sCh
      rw [List.getD_eq_getElem?_getD, List.getElem?_eq_getElem hlen]
      have := List.drop_eq_getElem_cons hlen
      rw [hd] at this
      simp only [Option.getD_some]
      exact (List.cons.inj this).1.symm
    have hd2 : (sTx.getD i []).drop (k + 1).toNat = l := by
      rw [show (k + 1).toNat = k.toNat + 1 by omega, ← List.drop_drop, hd]
      rfl
    obtain ⟨c1, c2, c3, c4, c5⟩ := s_ch_all i hi k.toNat (by omega)
    have ek : (iz k).toNatClampNeg = k.toNat := by
      show (iz k).toInt.toNat = _
      rw [iz_toInt (by omega) (by omega)]
    have hcmp : (iz (sCh i k.toNat) = (iz c).toInt8.toInt32) ↔ sCh i k.toNat = c := by
      have := s_cmp_all c.toNat (by omega) (sCh i k.toNat).toNat (by omega) (by omega)
      rw [Int.toNat_of_nonneg (by omega), Int.toNat_of_nonneg h1] at this
      rw [this]
      omega
    refine ⟨fun h => absurd ((iz_le (by omega) (by omega) (by omega) (by omega)).mp h) (by omega), fun _ => ⟨hi, iz_inb hk (by omega) (by omega), ?_⟩⟩
    rw [ek, c3]
    unfold pIx at q
    refine brn hcmp (fun hne => ?_) (fun he => ?_)
    · rw [if_neg (by rw [← hb]; exact hne)] at q
      rw [iz_add]
      exact ih (k + 1) (by omega) hd2 (by omega) q
    · rw [if_pos (by rw [← hb]; exact he)] at q
      exact q
theorem s_indexOf {i : Nat} {c : Int} (hi : i < 6) (h1 : -2147483648 ≤ c) (h2 : c < 2147483648) (q : Q (iz (sIx i c)) w) : wp_J2_indexOf i (iz c) w Q := by
  obtain ⟨e0, e1, e2, e3⟩ := s_len_all i hi
  have out : (c < 0 ∨ 255 < c) → sIx i c = -1 := by
    intro h
    have key : ∀ (l : List Int) (k : Int), (∀ b ∈ l, 97 ≤ b ∧ b ≤ 121) → pIx l c k = -1 := by
      intro l
      induction l with
      | nil => intro k _; rfl
      | cons b l ih =>
        intro k hb
        unfold pIx
        rw [if_neg (by have := hb b List.mem_cons_self; omega)]
        exact ih _ (fun x hx => hb x (List.mem_cons_of_mem _ hx))
    refine key _ 0 ?_
    have : ∀ i, i < 6 → ∀ b ∈ sTx.getD i [], (97 : Int) ≤ b ∧ b ≤ 121 := by decide +kernel
    exact this i hi
  refine ⟨hi, hi, s_latin hi ⟨fun h => absurd h (by decide), fun _ => ⟨hi, hi, s_length hi ?_⟩⟩⟩
  unfold wp_J3_indexOf wp_J3_canEncode
  have l0 : ¬ (c < 0) → ¬ (255 < c) → Q (iz (sIx i c)) w → (¬ iz 1 = iz 0 → i < 6 ∧ (imax (iz 0) (iz 0) < imin (iz (sLn i)) (iz ↑(sLen.getD i 0)) → wp_J3_indexOfChar i (iz c) (imax (iz 0) (iz 0)) (imin (iz (sLn i)) (iz ↑(sLen.getD i 0))) w fun r3 w4 => Q r3 w4) ∧ (¬imax (iz 0) (iz 0) < imin (iz (sLn i)) (iz ↑(sLen.getD i 0)) → Q (iz (-1)) w)) := by
    intro hc0 hc1 q _
    rw [← e1, imax_iz (by decide) (by decide) (by decide) (by decide), imin_iz (by omega) (by omega) (by omega) (by omega), Int.min_self, Int.max_self]
    refine ⟨hi, fun _ => ⟨(sTx.getD i []).length + 1, ?_⟩, fun h => absurd ((iz_lt (by decide) (by decide) (by omega) (by omega)).mpr (by omega)) h⟩
    exact s_ixLoop hi (by omega) (by omega) _ 0 (by decide) rfl (by show (0 : Int) + ((sTx.getD i []).length : Int) = sLn i; unfold sLn; omega) q
  refine br (iz_lt h1 h2 (by decide) (by decide)) (fun hc => ?_) (fun hc => br (iz_lt (by decide) (by decide) h1 h2) (fun hc2 => ?_) (fun hc2 => ?_))
  · exact ⟨fun h => absurd rfl h, fun _ => by rw [out (Or.inl hc)] at q; exact q⟩
  · exact ⟨fun h => absurd rfl h, fun _ => by rw [out (Or.inr hc2)] at q; exact q⟩
  · exact ⟨l0 hc hc2 q, fun h => absurd h (by decide)⟩
end STR
