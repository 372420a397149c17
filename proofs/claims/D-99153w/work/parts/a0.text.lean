/-! texts: looking, on both sides -/
def skp (t : Int → Int) (n : Int) : Nat → Int → Int
  | 0, p => p
  | k + 1, p => if p < n ∧ t p = 32 then skp t n k (p + 1) else p
def sk (t : Int → Int) (n p : Int) : Int := skp t n (n - p).toNat p
/-- what is seen at p: a byte from 0 on, or -1 -/
def lkc (t : Int → Int) (n p : Int) : Int := if p < n then t p % 256 else -1
theorem skp_bd (t : Int → Int) (n : Int) : ∀ (k : Nat) (p : Int), p ≤ n → p ≤ skp t n k p ∧ skp t n k p ≤ n := by
  intro k
  induction k with
  | zero => intro p h; rw [skp]; omega
  | succ k ih =>
    intro p h
    rw [skp]
    split
    · have := ih (p + 1) (by omega)
      omega
    · omega
theorem sk_bd (t : Int → Int) {n p : Int} (h : p ≤ n) : p ≤ sk t n p ∧ sk t n p ≤ n := skp_bd t n _ p h
theorem sk_s (t : Int → Int) {n p : Int} (h : p < n) (e : t p = 32) : sk t n p = sk t n (p + 1) := by
  unfold sk
  rw [show (n - p).toNat = (n - (p + 1)).toNat + 1 by omega, skp, if_pos ⟨h, e⟩]
theorem sk_n (t : Int → Int) {n p : Int} (h : ¬ (p < n ∧ t p = 32)) : sk t n p = p := by
  unfold sk
  cases (n - p).toNat with
  | zero => rfl
  | succ k => rw [skp, if_neg h]
theorem skp_end (t : Int → Int) (n : Int) : ∀ (k : Nat) (p : Int), (n - p).toNat ≤ k → ¬ (skp t n k p < n ∧ t (skp t n k p) = 32) := by
  intro k
  induction k with
  | zero => intro p h; rw [skp]; omega
  | succ k ih =>
    intro p h
    rw [skp]
    split
    · exact ih (p + 1) (by omega)
    · assumption
theorem sk_end (t : Int → Int) (n p : Int) : ¬ (sk t n p < n ∧ t (sk t n p) = 32) := skp_end t n _ p (Nat.le_refl _)
theorem sk_sk (t : Int → Int) (n p : Int) : sk t n (sk t n p) = sk t n p := sk_n t (sk_end t n p)
abbrev TB (t : Int → Int) (n : Int) : Prop := 0 ≤ n ∧ n ≤ 240 ∧ ∀ i, -128 ≤ t i ∧ t i ≤ 127
theorem lkc_bd {t : Int → Int} {n : Int} (p : Int) : -1 ≤ lkc t n p ∧ lkc t n p < 256 := by
  unfold lkc
  split <;> omega
theorem a255_tab : ∀ k, k < 256 → (iz ((k : Nat) - 128) &&& iz 255) = iz (((k : Nat) - 128 : Int) % 256) := by decide +kernel
theorem a255 {b : Int} (h1 : -128 ≤ b) (h2 : b ≤ 127) : (iz b &&& iz 255) = iz (b % 256) := by
  have := a255_tab (b + 128).toNat (by omega)
  rw [Int.toNat_of_nonneg (by omega), show b + 128 - 128 = b by omega] at this
  exact this
/-- the component at a text, at the place p, so deep -/
def XS (t : Int → Int) (n : Int) (Z0 : Int) (p d : Int) (w : Wd) : Prop := gI w 12 = iz n ∧ (∀ i, 0 ≤ i → i < n → gA w 11 i = iz (t i)) ∧ gI w 13 = iz p ∧ gI w 14 = iz d ∧ (gZ w : Int) ≤ Z0 + 2 * p
/-- what reading leaves alone -/
def XF (w w' : Wd) : Prop := (∀ k, k ≠ 13 → k ≠ 14 → gI w' k = gI w k) ∧ gA w' = gA w ∧ gJ w' = gJ w ∧ gL w' = gL w ∧ gC w' = gC w ∧ (∀ r, gF w r ≠ none → gF w' r = gF w r) ∧ gZ w ≤ gZ w'
theorem XF.refl (w : Wd) : XF w w := ⟨fun _ _ _ => rfl, rfl, rfl, rfl, rfl, fun _ _ => rfl, Nat.le_refl _⟩
theorem XF.trans {w w' w'' : Wd} (f : XF w w') (g : XF w' w'') : XF w w'' := by
  obtain ⟨f1, f2, f3, f4, f5, f6, f7⟩ := f
  obtain ⟨g1, g2, g3, g4, g5, g6, g7⟩ := g
  refine ⟨fun k a b => (g1 k a b).trans (f1 k a b), g2.trans f2, g3.trans f3, g4.trans f4, g5.trans f5, fun r h => ?_, Nat.le_trans f7 g7⟩
  have e := f6 r h
  rw [g6 r (by rw [e]; exact h), e]
theorem XF.i13 (w : Wd) (v : Int32) : XF w (sI w 13 v) := ⟨fun k a _ => by rw [gI_sI, if_neg a], rfl, rfl, rfl, rfl, fun _ _ => rfl, Nat.le_refl _⟩
theorem XF.i14 (w : Wd) (v : Int32) : XF w (sI w 14 v) := ⟨fun k _ b => by rw [gI_sI, if_neg b], rfl, rfl, rfl, rfl, fun _ _ => rfl, Nat.le_refl _⟩
/-- the model at a text -/
def MS0 (t : Int → Int) (n : Int) (p d : Int) (w : Wd) : Prop := gI w 69 = iz n ∧ (∃ b0 : Int, 0 ≤ b0 ∧ b0 ≤ 720 ∧ (gT w = 61 ∧ b0 = 0 ∨ gT w = 62) ∧ gI w 68 = iz b0 ∧ ∀ i, 0 ≤ i → i < n → gA w (gT w) (b0 + i) = iz (t i)) ∧ gI w 70 = iz p ∧ gI w 72 = iz d ∧ gI w 71 = iz (-1)
def MF (w w' : Wd) : Prop := (∀ k, k ≠ 70 → k ≠ 71 → k ≠ 72 → gI w' k = gI w k) ∧ gA w' = gA w ∧ gJ w' = gJ w ∧ gL w' = gL w ∧ gC w' = gC w ∧ gT w' = gT w ∧ gF w' = gF w ∧ gZ w' = gZ w
theorem MF.refl (w : Wd) : MF w w := ⟨fun _ _ _ _ => rfl, rfl, rfl, rfl, rfl, rfl, rfl, rfl⟩
theorem MF.trans {w w' w'' : Wd} (f : MF w w') (g : MF w' w'') : MF w w'' := ⟨fun k a b c => (g.1 k a b c).trans (f.1 k a b c), g.2.1.trans f.2.1, g.2.2.1.trans f.2.2.1, g.2.2.2.1.trans f.2.2.2.1, g.2.2.2.2.1.trans f.2.2.2.2.1, g.2.2.2.2.2.1.trans f.2.2.2.2.2.1, g.2.2.2.2.2.2.1.trans f.2.2.2.2.2.2.1, g.2.2.2.2.2.2.2.trans f.2.2.2.2.2.2.2⟩
theorem MF.i70 (w : Wd) (v : Int32) : MF w (sI w 70 v) := ⟨fun k a _ _ => by rw [gI_sI, if_neg a], rfl, rfl, rfl, rfl, rfl, rfl, rfl⟩
theorem MF.i71 (w : Wd) (v : Int32) : MF w (sI w 71 v) := ⟨fun k _ a _ => by rw [gI_sI, if_neg a], rfl, rfl, rfl, rfl, rfl, rfl, rfl⟩
theorem MF.i72 (w : Wd) (v : Int32) : MF w (sI w 72 v) := ⟨fun k _ _ a => by rw [gI_sI, if_neg a], rfl, rfl, rfl, rfl, rfl, rfl, rfl⟩
section LK
variable {t : Int → Int} {n Z0 p d : Int} {w : Wd} {Q : Int32 → Wd → Prop}
theorem XS.at (S : XS t n Z0 p d w) {p' : Int} (h : p ≤ p') : XS t n Z0 p' d (sI w 13 (iz p')) := by
  obtain ⟨s1, s2, s3, s4, s5⟩ := S
  refine ⟨by rw [gI_sI, if_neg (by decide)]; exact s1, s2, by rw [gI_sI, if_pos rfl], by rw [gI_sI, if_neg (by decide)]; exact s4, ?_⟩
  show (gZ w : Int) ≤ _
  omega
theorem MS0.at (S : MS0 t n p d w) (p' : Int) : MS0 t n p' d (sI w 70 (iz p')) := by
  obtain ⟨s1, ⟨b0, s2, s3, s4, s5, s6⟩, s7, s8, s9⟩ := S
  exact ⟨by rw [gI_sI, if_neg (by decide)]; exact s1, ⟨b0, s2, s3, s4, by rw [gI_sI, if_neg (by decide)]; exact s5, s6⟩, by rw [gI_sI, if_pos rfl], by rw [gI_sI, if_neg (by decide)]; exact s8, by rw [gI_sI, if_neg (by decide)]; exact s9⟩
theorem x_look38 (B : TB t n) (S : XS t n Z0 p d w) (h0 : 0 ≤ p) (h1 : p ≤ n) (q : Q (iz (lkc t n p)) w) : b_X1_look_38 Q w := by
  obtain ⟨s1, s2, s3, s4, s5⟩ := S
  have b1 := B.1; have b2 := B.2.1
  unfold b_X1_look_38
  rw [s1, s3]
  unfold lkc at q
  refine br (iz_le (by omega) (by omega) (by omega) (by omega)) (fun e => ?_) (fun e => ⟨iz_inb h0 (by omega) (by omega), ?_⟩)
  · rw [if_neg (by omega)] at q
    exact q
  · have tb := B.2.2 p
    rw [if_pos (by omega)] at q
    rw [iz_toInt (by omega) (by omega), s2 p h0 (by omega), a255 tb.1 tb.2]
    exact q
theorem x_look (B : TB t n) (S : XS t n Z0 p d w) (h0 : 0 ≤ p) (h1 : p ≤ n) (q : Q (iz (lkc t n (sk t n p))) (sI w 13 (iz (sk t n p)))) : wp_X1_look w Q := by
  unfold wp_X1_look
  have b1 := B.1; have b2 := B.2.1
  have key : ∀ (k : Nat) (p : Int) (w : Wd), n - p = k → XS t n Z0 p d w → 0 ≤ p → Q (iz (lkc t n (sk t n p))) (sI w 13 (iz (sk t n p))) → lp_X1_look_0 Q (k + 1) w := by
    intro k
    induction k with
    | zero =>
      intro p w hk S h0 q
      have S' := S
      obtain ⟨s1, s2, s3, s4, s5⟩ := S'
      rw [sk_n t (by omega), ← s3, sI_self] at q
      show wl_X1_look_0 Q (lp_X1_look_0 Q 0) w
      unfold wl_X1_look_0
      rw [s1, s3]
      exact br (iz_le (by omega) (by omega) (by omega) (by omega)) (fun e => x_look38 B S h0 (by omega) q) (fun e => by omega)
    | succ k ih =>
      intro p w hk S h0 q
      have S' := S
      obtain ⟨s1, s2, s3, s4, s5⟩ := S'
      have tb := B.2.2 p
      show wl_X1_look_0 Q (lp_X1_look_0 Q (k + 1)) w
      unfold wl_X1_look_0
      rw [s1, s3]
      refine br (iz_le (by omega) (by omega) (by omega) (by omega)) (fun e => by omega) (fun e => ⟨iz_inb h0 (by omega) (by omega), ?_⟩)
      rw [iz_toInt (by omega) (by omega), s2 p h0 (by omega)]
      refine brn (iz_eq (by omega) (by omega) (by decide) (by decide)) (fun e2 => ?_) (fun e2 => ?_)
      · rw [sk_n t (by omega), ← s3, sI_self] at q
        exact x_look38 B S h0 (by omega) q
      · rintro w1 rfl
        rw [iz_add]
        refine ih (p + 1) _ (by omega) (S.at (by omega)) (by omega) ?_
        rw [sI_sI, ← sk_s t (by omega) e2]
        exact q
  exact ⟨_, key (n - p).toNat p w (by omega) S h0 q⟩
theorem MS0.byte (B : TB t n) (S : MS0 t n p d w) (h0 : 0 ≤ p) (h1 : p < n) : inB (gT w) (gI w 68 + gI w 70) ∧ gA w (gT w) (gI w 68 + gI w 70).toInt = iz (t p) := by
  obtain ⟨s1, ⟨b0, s2, s3, s4, s5, s6⟩, s7, s8, s9⟩ := S
  have b2 := B.2.1
  rw [s5, s7, iz_add, iz_toInt (by omega) (by omega)]
  refine ⟨?_, s6 p h0 h1⟩
  rcases s4 with ⟨e1, e2⟩ | e1
  · rw [e1]
    exact ⟨_, _, ar_61, iz_inb (by omega) (by omega) (by omega)⟩
  · rw [e1]
    exact ⟨_, _, ar_62, iz_inb (by omega) (by omega) (by omega)⟩
theorem m_look43 (B : TB t n) (S : MS0 t n p d w) (h0 : 0 ≤ p) (h1 : p ≤ n) (q : Q (iz (lkc t n p)) w) : b_X3_look_43 Q w := by
  have b1 := B.1; have b2 := B.2.1
  unfold b_X3_look_43
  unfold lkc at q
  have e1 := S.1
  have e2 := S.2.2.1
  refine br (d := n ≤ p) (by rw [e1, e2]; exact iz_le (by omega) (by omega) (by omega) (by omega)) (fun e => ?_) (fun e => ?_)
  · rw [if_neg (by omega)] at q
    exact q
  · have tb := B.2.2 p
    obtain ⟨i1, i2⟩ := S.byte B h0 (by omega)
    rw [if_pos (by omega)] at q
    refine ⟨i1, ?_⟩
    rw [i2, a255 tb.1 tb.2]
    exact q
theorem m_look (B : TB t n) (S : MS0 t n p d w) (h0 : 0 ≤ p) (h1 : p ≤ n) (q : Q (iz (lkc t n (sk t n p))) (sI w 70 (iz (sk t n p)))) : wp_X3_look w Q := by
  unfold wp_X3_look
  have b1 := B.1; have b2 := B.2.1
  have key : ∀ (k : Nat) (p : Int) (w : Wd), n - p = k → MS0 t n p d w → 0 ≤ p → Q (iz (lkc t n (sk t n p))) (sI w 70 (iz (sk t n p))) → lp_X3_look_0 Q (k + 1) w := by
    intro k
    induction k with
    | zero =>
      intro p w hk S h0 q
      have e1 := S.1
      have e2 := S.2.2.1
      rw [sk_n t (by omega), ← e2, sI_self] at q
      show wl_X3_look_0 Q (lp_X3_look_0 Q 0) w
      unfold wl_X3_look_0
      refine br (d := n ≤ p) (by rw [e1, e2]; exact iz_le (by omega) (by omega) (by omega) (by omega)) (fun e => m_look43 B S h0 (by omega) q) (fun e => by omega)
    | succ k ih =>
      intro p w hk S h0 q
      have e1 := S.1
      have e2 := S.2.2.1
      have tb := B.2.2 p
      obtain ⟨i1, i2⟩ := S.byte B h0 (by omega)
      show wl_X3_look_0 Q (lp_X3_look_0 Q (k + 1)) w
      unfold wl_X3_look_0
      refine br (d := n ≤ p) (by rw [e1, e2]; exact iz_le (by omega) (by omega) (by omega) (by omega)) (fun e => by omega) (fun e => ⟨i1, ?_⟩)
      rw [i2]
      refine brn (iz_eq (by omega) (by omega) (by decide) (by decide)) (fun e3 => ?_) (fun e3 => ?_)
      · rw [sk_n t (by omega), ← e2, sI_self] at q
        exact m_look43 B S h0 (by omega) q
      · rintro w1 rfl
        rw [e2, iz_add]
        refine ih (p + 1) _ (by omega) (S.at (p + 1)) (by omega) ?_
        rw [sI_sI, ← sk_s t (by omega) e3]
        exact q
  exact ⟨_, key (n - p).toNat p w (by omega) S h0 q⟩
theorem m_isDigit (B : TB t n) (S : MS0 t n p d w) (h0 : 0 ≤ p) (h1 : p ≤ n) (f : p < n → 48 ≤ t p → t p ≤ 57 → Q (iz 1) w) (g : ¬ (p < n ∧ 48 ≤ t p ∧ t p ≤ 57) → Q (iz 0) w) : wp_X3_isDigit w Q := by
  have b1 := B.1; have b2 := B.2.1
  unfold wp_X3_isDigit
  have e1 := S.1
  have e2 := S.2.2.1
  refine br (d := n ≤ p) (by rw [e1, e2]; exact iz_le (by omega) (by omega) (by omega) (by omega)) (fun e => g (by omega)) (fun e => ?_)
  have tb := B.2.2 p
  obtain ⟨i1, i2⟩ := S.byte B h0 (by omega)
  refine ⟨i1, ?_⟩
  rw [i2]
  exact br (iz_lt (by omega) (by omega) (by decide) (by decide)) (fun e3 => g (by omega)) (fun e3 => ⟨i1, br (iz_lt (by decide) (by decide) (by omega) (by omega)) (fun e4 => g (by omega)) (fun e4 => f (by omega) (by omega) (by omega))⟩)
theorem x_isDigit {c : Int} (hc : VR c) (f : 48 ≤ c → c ≤ 57 → Q (iz 1) w) (g : ¬ (48 ≤ c ∧ c ≤ 57) → Q (iz 0) w) : wp_X1_isDigit (iz c) w Q := by
  unfold wp_X1_isDigit
  exact br (iz_lt hc.1 hc.2 (by decide) (by decide)) (fun e => g (by omega)) (fun e => br (iz_lt (by decide) (by decide) hc.1 hc.2) (fun e2 => g (by omega)) (fun e2 => f (by omega) (by omega)))
theorem m_fails (e : gI w 71 = iz (-1)) (q : Q (iz 0) (sI w 71 (gI w 70))) : wp_X3_fails w Q := by
  unfold wp_X3_fails
  rw [e]
  refine ⟨fun h => absurd rfl h, fun _ => ?_⟩
  rintro w1 rfl
  exact q
theorem m_fails2 {v : Int} (hv : 0 ≤ v ∧ v ≤ 1000) (e : gI w 71 = iz v) (q : Q (iz 0) w) : wp_X3_fails w Q := by
  unfold wp_X3_fails
  rw [e]
  exact brn (iz_eq (by omega) (by omega) (by decide) (by decide)) (fun _ => q) (fun h => by omega)
/-- is it among the text's signs? -/
theorem m_isAmong {i : Nat} (hi : i < 6) {c : Int} (hc : VR c) (f : 0 ≤ sIx i c → Q (iz 1) w) (g : sIx i c = -1 → Q (iz 0) w) : wp_X3_isAmong i (iz c) w Q := by
  unfold wp_X3_isAmong
  have key : ∀ (l : List Int) (k : Int), 0 ≤ k → (sTx.getD i []).drop k.toNat = l → k + l.length = sLn i → (0 ≤ pIx l c k → Q (iz 1) w) → (pIx l c k = -1 → Q (iz 0) w) → lp_X3_isAmong_2 Q i (iz c) (l.length + 1) (iz k) w := by
    intro l
    obtain ⟨e0, e1, e2, e3⟩ := s_len_all i hi
    induction l with
    | nil =>
      intro k hk hd hl f g
      simp only [List.length_nil] at hl
      exact ⟨hi, s_length hi ⟨fun _ => g rfl, fun h => absurd ((iz_le (by omega) (by omega) (by omega) (by omega)).mpr (by omega)) h⟩⟩
    | cons b l ih =>
      intro k hk hd hl f g
      simp only [List.length_cons] at hl ih ⊢
      have hlen : k.toNat < (sTx.getD i []).length := by
        have : (sTx.getD i []).length = sLn i := rfl
        omega
      have hb : sCh i k.toNat = b := by
        unfold sCh
        rw [List.getD_eq_getElem?_getD, List.getElem?_eq_getElem hlen]
        have := List.drop_eq_getElem_cons hlen
        rw [hd] at this
        simp only [Option.getD_some]
        exact (List.cons.inj this).1.symm
      have hd2 : (sTx.getD i []).drop (k + 1).toNat = l := by
        rw [show (k + 1).toNat = k.toNat + 1 by omega, ← List.drop_drop, hd]
        rfl
      obtain ⟨c1, c2, c3, c4, c5⟩ := s_ch_all i hi k.toNat (by omega)
      unfold pIx at f g
      refine ⟨hi, s_length hi ⟨fun h => absurd ((iz_le (by omega) (by omega) (by omega) (by omega)).mp h) (by omega), fun _ => ⟨hi, s_charAt hi hk (by omega) ?_⟩⟩⟩
      rw [hb]
      refine brn (iz_eq (by omega) (by omega) hc.1 hc.2) (fun e => ?_) (fun e => ?_)
      · rw [if_neg e] at f g
        rw [iz_add]
        exact ih (k + 1) (by omega) hd2 (by omega) f g
      · rw [if_pos e] at f
        exact f hk
  exact ⟨_, key _ 0 (by decide) rfl (by show (0 : Int) + ((sTx.getD i []).length : Int) = sLn i; unfold sLn; omega) f g⟩
end LK
