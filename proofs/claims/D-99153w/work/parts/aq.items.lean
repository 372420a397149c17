/-! the items of a clause of the house, the loop, both sides -/
/-- all but a place's field and a stretch of one array are as they were -/
def fI (P : Nat → Prop) (a : Nat) (o c : Int) (w w' : Wd) : Prop := (∀ k, ¬ P k → gI w' k = gI w k) ∧ (∀ b, b ≠ a → gA w' b = gA w b) ∧ (∀ t, t < o ∨ o + c ≤ t → gA w' a t = gA w a t) ∧ gJ w' = gJ w ∧ gL w' = gL w ∧ gC w' = gC w ∧ gF w' = gF w ∧ gZ w' = gZ w
def p13 (k : Nat) : Prop := k = 13
def p70 (k : Nat) : Prop := 70 ≤ k ∧ k ≤ 72
section IT
variable {P : Nat → Prop} {a : Nat} {o c : Int} {w w' w'' : Wd}
theorem fI.refl (w : Wd) : fI P a o c w w := ⟨fun _ _ => rfl, fun _ _ => rfl, fun _ _ => rfl, rfl, rfl, rfl, rfl, rfl⟩
theorem fI.trans (f : fI P a o c w w') (g : fI P a o c w' w'') : fI P a o c w w'' := by
  obtain ⟨f1, f2, f3, f4, f5, f6, f7, f8⟩ := f
  obtain ⟨g1, g2, g3, g4, g5, g6, g7, g8⟩ := g
  exact ⟨fun k h => (g1 k h).trans (f1 k h), fun b h => (g2 b h).trans (f2 b h), fun t h => (g3 t h).trans (f3 t h), g4.trans f4, g5.trans f5, g6.trans f6, g7.trans f7, g8.trans f8⟩
theorem fI.si (f : fI P a o c w w') {k : Nat} (h : P k) (v : Int32) : fI P a o c w (sI w' k v) := by
  obtain ⟨f1, f2⟩ := f
  exact ⟨fun j hj => by rw [gI_sI, if_neg (show ¬ j = k from fun e => hj (by rw [e]; exact h))]; exact f1 j hj, f2⟩
theorem fI.set (f : fI P a o c w w') {i : Int} (h : o ≤ i ∧ i < o + c) (v : Int32) : fI P a o c w (sA w' a i v) := by
  obtain ⟨f1, f2, f3, f4⟩ := f
  refine ⟨f1, fun b hb => ?_, fun t ht => ?_, f4⟩
  · rw [sA_sB, gA_n _ hb]
    exact f2 b hb
  · rw [g24, if_neg (by omega)]
    exact f3 t ht
theorem MF.fi (f : MF w w') : fI p70 a o c w w' := by
  obtain ⟨f1, f2, f3, f4, f5, f6, f7, f8⟩ := f
  exact ⟨fun k hk => f1 k (fun e => hk (by rw [e]; exact ⟨by decide, by decide⟩)) (fun e => hk (by rw [e]; exact ⟨by decide, by decide⟩)) (fun e => hk (by rw [e]; exact ⟨by decide, by decide⟩)), fun b _ => by rw [f2], fun t _ => by rw [f2], f3, f4, f5, f7, f8⟩
end IT
def vaI (l : Int) (a : Nat) (o : Int) (g : Int → Int) (w : Wd) : Prop := ∀ i, 0 ≤ i → i < cnI l → gA w a (o + i) = iz (g i)
def bdI (l : Int) (g : Int → Int) : Prop := ∀ i, 0 ≤ i → i < cnI l → loI l i ≤ g i ∧ g i ≤ hiI l i
/-- the array a has room for the items from o on -/
def roI (l : Int) (a : Nat) (o : Int) : Prop := 0 ≤ o ∧ o ≤ 100 ∧ ∀ i, 0 ≤ i → i < cnI l → inA a (iz (o + i))
def XiI (l : Int) (aX : Nat) (oX : Int) (m : Nat) (mask : Int32) (w : Wd) (Q X : Wd → Prop) : Prop := lp_X1_items_31 Q X (iz l) aX (iz oX) (m + 1) mask w
def MiI (l : Int) (aM : Nat) (oM : Int) (m : Nat) (mask : Int32) (w : Wd) (Q : Wd → Prop) : Prop := wp_X3_look w (fun r11 w12 => wp_X3_spotOf (stI l) r11 w12 (fun r13 w14 => lp_X3_readItems_45 Q (iz l) aM (iz oM) (stI l) (m + 2) mask r13 w14))
def LoI (t : Int → Int) (n l : Int) (m : Nat) (mask : Int32) (p : Int) : Prop :=
  (∃ pf, p ≤ pf ∧ pf ≤ n ∧ (∀ (a : Nat) (o : Int) (w : Wd) (Q X : Wd → Prop), a ≠ 11 → roI l a o → PX t n p w → (∀ w', fI p13 a o (cnI l) w w' → gI w' 13 = iz pf → X w') → XiI l a o m mask w Q X) ∧ (∀ (a : Nat) (o d : Int) (w : Wd) (Q : Wd → Prop), a ≠ 61 → a ≠ 62 → roI l a o → MS0 t n p d w → (∀ w', fI p70 a o (cnI l) w w' → gI w' 71 = iz pf → Q w') → MiI l a o m mask w Q)) ∨
  (∃ (p1 : Int) (G : (Int → Int) → Int → Int), p ≤ p1 ∧ p1 ≤ n ∧ sk t n p1 = p1 ∧ (∀ g, bdI l g → bdI l (G g)) ∧ (∀ (a : Nat) (o : Int) (w : Wd) (Q X : Wd → Prop) (g : Int → Int), a ≠ 11 → roI l a o → PX t n p w → vaI l a o g w → (∀ w', fI p13 a o (cnI l) w w' → PX t n p1 w' → vaI l a o (G g) w' → Q w') → XiI l a o m mask w Q X) ∧ (∀ (a : Nat) (o d : Int) (w : Wd) (Q : Wd → Prop) (g : Int → Int), a ≠ 61 → a ≠ 62 → roI l a o → MS0 t n p d w → vaI l a o g w → (∀ w', fI p70 a o (cnI l) w w' → MS0 t n p1 d w' → vaI l a o (G g) w' → Q w') → MiI l a o m mask w Q)) ∨
  (∃ p1, p ≤ p1 ∧ p1 ≤ n ∧ sk t n p1 = p1 ∧ lkc t n p1 ≠ 59 ∧ lkc t n p1 ≠ -1 ∧ (∀ (a : Nat) (o : Int) (w : Wd) (Q X : Wd → Prop), a ≠ 11 → roI l a o → PX t n p w → (∀ w', fI p13 a o (cnI l) w w' → PX t n p1 w' → Q w') → XiI l a o m mask w Q X) ∧ (∀ (a : Nat) (o d : Int) (w : Wd) (Q : Wd → Prop), a ≠ 61 → a ≠ 62 → roI l a o → MS0 t n p d w → (∀ w', fI p70 a o (cnI l) w w' → gI w' 71 = iz p1 → Q w') → MiI l a o m mask w Q))
/-- no item here: both stop -/
theorem lo_itemN {t : Int → Int} {n l p : Int} (B : TB t n) (h : KdI l) (m : Nat) (mask : Int32) (h0 : 0 ≤ p) (h1 : p ≤ n) (e : sIx (stI l) (lkc t n (sk t n p)) = -1) : LoI t n l m mask p := by
  have b1 := B.1; have b2 := B.2.1
  obtain ⟨k1, k2⟩ := sk_bd t h1
  have hs := sk_sk t n p
  generalize hp : sk t n p = p1 at k1 k2 e hs
  have cb := lkc_bd (t := t) (n := n) p1
  generalize hc : lkc t n p1 = c at cb e
  have st : stI l < 6 := by rcases h with rfl | rfl | rfl <;> decide
  refine Or.inr (Or.inl ⟨p1, fun g => g, k1, k2, hs, fun g hg => hg, fun a o w Q X g _ rm S va x => ?_, fun a o d w Q g _ _ rm S va x => ?_⟩)
  · have S1 := S.at p1
    have fin := x _ ((fI.refl w).si (k := 13) (show p13 13 from rfl) (iz p1)) S1 va
    show wl_X1_items_31 Q X (iz l) a (iz o) _ mask w
    unfold wl_X1_items_31
    refine p_look B S h0 h1 hp hc ⟨fun _ => fin, fun _ => p_there B S1 (by omega) k2 ?_⟩
    rw [hc]
    refine x_itemI h (by constructor <;> omega) ?_
    rw [e]
    exact ⟨fun _ => fin, fun z => absurd (show iz (-1) < iz 0 by decide) z⟩
  · have S1 := S.at p1
    unfold MiI
    refine m_look' B S h0 h1 hp hc (m_spotOf st (by constructor <;> omega) ?_)
    rw [e]
    exact ⟨fun _ => x _ (MF.i70 w _).fi S1 va, fun z => absurd rfl z⟩
