/-! a law whole, both sides: what is left to use -/
def fsL (w w' : Wd) : Prop := (∀ k, ¬ (68 ≤ k ∧ k ≤ 74 ∨ k = 77) → gI w' k = gI w k) ∧ gA w' = gA w ∧ gJ w' = gJ w ∧ gL w' = gL w ∧ gC w' = gC w ∧ gF w' = gF w ∧ gZ w' = gZ w
def TxL (t : Int → Int) (n : Int) (l1 : Nat) (b0 : Int) (w : Wd) : Prop := (l1 = 61 ∧ b0 = 0 ∨ l1 = 62) ∧ 0 ≤ b0 ∧ b0 ≤ 720 ∧ ∀ i, 0 ≤ i → i < n → gA w l1 (b0 + i) = iz (t i)
def TxX (t : Int → Int) (n : Int) (w : Wd) : Prop := gI w 12 = iz n ∧ ∀ i, 0 ≤ i → i < n → gA w 11 i = iz (t i)
def BoL (t : Int → Int) (n : Int) : Prop :=
  (∃ pf, 0 ≤ pf ∧ pf ≤ n ∧ (∀ (Z0 : Int), Z0 + 600 ≤ 600000 → ∀ (w : Wd) (Q : Nat → Wd → Prop) (X : Wd → Prop), TxX t n w → (gZ w : Int) ≤ Z0 → (∀ w', XF w w' → gI w' 13 = iz pf → (gZ w' : Int) ≤ Z0 + 2 * n → X w') → wp_X1_wholeLaw w Q X) ∧ (∀ (l1 : Nat) (b0 : Int) (w : Wd) (Q : Wd → Prop), TxL t n l1 b0 w → (∀ w', fsL w w' → gI w' 71 = iz pf → Q w') → wp_X3_goThrough l1 (iz b0) (iz n) w Q)) ∨
  (∃ L : Vs, (∀ x ∈ L, Dep x.1 ∧ Dep x.2) ∧ (∀ (Z0 : Int), Z0 + 600 ≤ 600000 → ∀ (w : Wd) (Q : Nat → Wd → Prop) (X : Wd → Prop), TxX t n w → (gZ w : Int) ≤ Z0 → (∀ r w', XF w w' → (gZ w' : Int) ≤ Z0 + 2 * n → LawD w' r L → gF w' r ≠ none → (∃ fs, gF w' r = some (6, fs)) → Q r w') → wp_X1_wholeLaw w Q X) ∧ (∀ (l1 : Nat) (b0 : Int) (w : Wd) (Q : Wd → Prop), TxL t n l1 b0 w → (∀ w', fsL w w' → gI w' 71 = iz (-1) → gI w' 74 = wv (gA w 64) L → Q w') → wp_X3_goThrough l1 (iz b0) (iz n) w Q))
theorem bo_law {t : Int → Int} {n : Int} (B : TB t n) : BoL t n := by
  have b1 := B.1; have b2 := B.2.1
  have hx : ∀ (Z0 : Int) (w : Wd) (Q : Nat → Wd → Prop) (X : Wd → Prop), TxX t n w → (gZ w : Int) ≤ Z0 → (∀ w1, XF w w1 → XS t n Z0 0 0 w1 → wp_X1_clause w1 (fun r3 w4 => ∃ n5, lp_X1_wholeLaw_17 Q X (some r3) n5 (some r3) w4) X) → wp_X1_wholeLaw w Q X := by
    intro Z0 w Q X T z x
    unfold wp_X1_wholeLaw
    rintro w1 rfl w2 rfl
    refine x _ ((XF.i13 w _).trans (XF.i14 _ _)) ⟨?_, T.2, ?_, ?_, ?_⟩
    · rw [gI_sI, if_neg (by decide), gI_sI, if_neg (by decide)]
      exact T.1
    · rw [gI_sI, if_neg (by decide), gI_sI, if_pos rfl]
    · rw [gI_sI, if_pos rfl]
    · show (gZ w : Int) ≤ _
      omega
  have hm : ∀ (l1 : Nat) (b0 : Int) (w : Wd) (Q : Wd → Prop), TxL t n l1 b0 w → (∀ w1, fsL w w1 → MS0 t n 0 0 w1 → ML 0 (iz 0) w1 → wp_X3_clause w1 (fun w8 => ∃ n9, lp_X3_goThrough_32 Q n9 w8)) → wp_X3_goThrough l1 (iz b0) (iz n) w Q := by
    intro l1 b0 w Q T x
    unfold wp_X3_goThrough wp_X3_starts
    rintro w1 rfl w2 rfl w3 rfl w4 rfl w5 rfl w6 rfl w7 rfl w8 rfl w9 rfl
    have g : ∀ k, gI (sI (sI (sI (sI (sI (sI (sI (sI (sT w l1) 68 (iz b0)) 69 (iz n)) 70 (iz 0)) 71 (iz (-1))) 73 (iz 121)) 72 (iz 0)) 77 (iz 0)) 74 (iz 0)) k = if k = 74 then iz 0 else if k = 77 then iz 0 else if k = 72 then iz 0 else if k = 73 then iz 121 else if k = 71 then iz (-1) else if k = 70 then iz 0 else if k = 69 then iz n else if k = 68 then iz b0 else gI w k := fun k => by
      rw [gI_sI, gI_sI, gI_sI, gI_sI, gI_sI, gI_sI, gI_sI, gI_sI]
      rfl
    refine x _ ⟨fun k hk => ?_, rfl, rfl, rfl, rfl, rfl, rfl⟩ ⟨by rw [g]; rfl, ⟨b0, T.2.1, T.2.2.1, ?_, by rw [g]; rfl, T.2.2.2⟩, by rw [g]; rfl, by rw [g]; rfl, by rw [g]; rfl⟩ ⟨by rw [g]; rfl, Or.inl rfl, by rw [g]; rfl, by rw [g]; rfl⟩
    · rw [g, if_neg (by omega), if_neg (by omega), if_neg (by omega), if_neg (by omega), if_neg (by omega), if_neg (by omega), if_neg (by omega), if_neg (by omega)]
    · exact T.1
  have fin : ∀ {w w1 w' : Wd}, fsL w w1 → MF2 w1 w' → fsL w w' := by
    intro w w1 w' f g
    exact ⟨fun k hk => (g.1 k (by omega)).trans (f.1 k hk), g.2.1.trans f.2.1, g.2.2.1.trans f.2.2.1, g.2.2.2.1.trans f.2.2.2.1, g.2.2.2.2.1.trans f.2.2.2.2.1, g.2.2.2.2.2.2.1.trans f.2.2.2.2.2.1, g.2.2.2.2.2.2.2.trans f.2.2.2.2.2.2⟩
  rcases bo_clause B (show (0 : Int) ≤ 0 by decide) b1 with ⟨pf, q1, q2, qx, qm⟩ | ⟨p2, tb, f, q1, q2, qd, qd2, qx, qm⟩
  · refine Or.inl ⟨pf, q1, q2, fun Z0 zh w Q X T z x => hx Z0 w Q X T z (fun w1 f1 S1 => qx Z0 zh w1 _ X S1 (fun w' g1 g2 g3 => x w' (f1.trans g1) g2 (by omega))), fun l1 b0 w Q T x => hm l1 b0 w Q T (fun w1 f1 S1 L => qm w1 _ _ _ S1 L (fun w' g1 g2 => ⟨1, ?_⟩))⟩
    show wl_X3_goThrough_32 Q _ w'
    unfold wl_X3_goThrough_32 b_X3_goThrough_66
    have ne : ¬ gI w' 71 = iz (-1) := by
      rw [g2]
      intro e
      have := (iz_eq (by omega) (by omega) (by decide) (by decide)).mp e
      omega
    exact ⟨fun _ => ⟨fun _ => x w' (fin f1 g1) g2, fun e => absurd e ne⟩, fun e => absurd e ne⟩
  · have st : ∀ {w w1 w2 : Wd} {r s : Nat} {to : Option Nat} {Sf : Nat → Prop}, XF w w1 → XF w1 w2 → gF w1 r = none → gF w2 r = some (6, [.int (iz 121), rv to, rv (some s), rv none]) → ¬ Sf r → DenC Sf w2 to s tb f → StC w w2 r [] (r, to, s, tb, f) Sf := by
      intro w w1 w2 r s to Sf f1 g1 g3 g4 g5 D
      exact ⟨f1.trans g1, D.1, rfl, g4, fun x hx => (nomatch hx), fun x hx => (nomatch hx), D, f1.fresh g3, g5⟩
    rcases lo_law B (n - p2).toNat p2 (Nat.le_refl _) (by omega) q2 with ⟨pf, i1, i2, ix, im⟩ | ⟨L', dL, ix, im⟩
    · refine Or.inl ⟨pf, by omega, i2, fun Z0 zh w Q X T z x => hx Z0 w Q X T z (fun w1 f1 S1 => qx Z0 zh w1 _ X S1 (fun r w2 Sf to s g1 g2 g3 g4 g5 g6 g7 => ⟨_, ix Z0 zh w w2 Q X r [] _ Sf (st f1 g1 g3 g4 g5 g7) g2 (fun w' y1 y2 y3 => x w' y1 y2 (by omega))⟩)), fun l1 b0 w Q T x => hm l1 b0 w Q T (fun w1 f1 S1 L => qm w1 _ _ _ S1 L (fun w2 g1 g2 g3 => ⟨_, im w2 Q _ _ g2 g3 (fun w' y1 y2 => x w' (fin f1 (g1.trans y1)) y2)⟩))⟩
    · refine Or.inr ⟨(tb, f) :: L', fun y hy => ?_, fun Z0 zh w Q X T z x => hx Z0 w Q X T z (fun w1 f1 S1 => qx Z0 zh w1 _ X S1 (fun r w2 Sf to s g1 g2 g3 g4 g5 g6 g7 => ⟨_, ix Z0 zh w w2 Q X r [] _ Sf (st f1 g1 g3 g4 g5 g7) g2 (fun w' y1 y2 y3 y4 y5 => x r w' y1 y2 y3 y4 y5)⟩)), fun l1 b0 w Q T x => hm l1 b0 w Q T (fun w1 f1 S1 L => qm w1 _ _ _ S1 L (fun w2 g1 g2 g3 => ⟨_, im w2 Q _ _ g2 g3 (fun w' y1 y2 y3 => x w' (fin f1 (g1.trans y1)) y2 ?_)⟩))⟩
      · rcases List.mem_cons.mp hy with e | e
        · rw [e]
          exact ⟨qd, qd2⟩
        · exact dL y e
      · have e1 : gA w1 64 = gA w 64 := by rw [f1.2.1]
        have e2 : gA w2 64 = gA w 64 := by rw [g1.2.1, e1]
        rw [y3, ← gw_0, e1, e2]
        rfl
/-- what the six numbers say -/
def env6 (a o n y k m : Int) : En := fun c => if c = 97 then iz a else if c = 111 then iz o else if c = 110 then iz n else if c = 121 then iz y else if c = 107 then iz k else iz m
theorem wv_env {L : Vs} (d : ∀ x ∈ L, Dep x.1 ∧ Dep x.2) {e : En} {a o n y k m : Int} (h1 : e 97 = iz a) (h2 : e 111 = iz o) (h3 : e 110 = iz n) (h4 : e 121 = iz y) (h5 : e 107 = iz k) (h6 : e 109 = iz m) : wv e L = wv (env6 a o n y k m) L := by
  refine wv_dep L d e (env6 a o n y k m) (fun c hc => ?_)
  rcases sIx1 hc with e | e | e | e | e | e <;> subst e <;> assumption
/-- a law more -/
def cAdd (c : Cf) (lm : Int) (L : Vs) : Cf := (cK c, cR c, cD c, cH c, fun i a o n y k m => if i = lm then (wv (env6 a o n y k m) L).toInt else cF c i a o n y k m)
theorem cAdd_ok {c : Cf} (lm : Int) (L : Vs) (h : CfOK c) : CfOK (cAdd c lm L) := by
  obtain ⟨h1, h2, h3, h4, h5, h6, h7⟩ := h
  refine ⟨h1, h2, h3, h4, h5, h6, fun i a o n y k m => ?_⟩
  show -2147483648 ≤ (if i = lm then (wv (env6 a o n y k m) L).toInt else cF c i a o n y k m) ∧ (if i = lm then (wv (env6 a o n y k m) L).toInt else cF c i a o n y k m) ≤ 2147483647
  split
  · have h1 := Int32.le_toInt (wv (env6 a o n y k m) L)
    have h2 := Int32.toInt_lt (wv (env6 a o n y k m) L)
    omega
  · exact h7 i a o n y k m
theorem cAdd_o {c : Cf} {lm i : Int} {L : Vs} (h : i ≠ lm) (a o n y k m : Int) : cF (cAdd c lm L) i a o n y k m = cF c i a o n y k m := if_neg h
theorem cAdd_n {c : Cf} {lm : Int} {L : Vs} (a o n y k m : Int) : iz (cF (cAdd c lm L) lm a o n y k m) = wv (env6 a o n y k m) L := by
  show iz (if lm = lm then (wv (env6 a o n y k m) L).toInt else cF c lm a o n y k m) = _
  rw [if_pos rfl, iz_of]
