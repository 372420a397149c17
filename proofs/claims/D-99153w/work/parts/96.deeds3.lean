/-! the deeds, on: peek, found, box, count, step -/
section D3
variable {z : Nat} {w : Wd} {C : Int32 → Wd → Prop}
theorem SX.xfr {c : Cf} {lm : Int} {h : Hs} {k : Ks} {im : Int × Hs} {hv : Int} {tp : Tp} {pl : Pl} {pk pk' : Pk} {fn fn' : Fnd} {w w' : Wd} (X : SX c lm h k im hv tp pl pk fn w) (hI : ∀ j, j ≠ 39 → j ≠ 43 → gI w' j = gI w j) (hA : ∀ a, ¬ (a = 37 ∨ a = 38 ∨ a = 40 ∨ a = 41 ∨ a = 42) → gA w' a = gA w a) (hC : gC w' = gC w) (hF : gF w' = gF w) (P : PkX pk' w') (F : FnX fn' w') : SX c lm h k im hv tp pl pk' fn' w' := by
  obtain ⟨x1, x2, x3, x4, x5, x6, x7, x8, x9, x10, x11, x12, x13, x14, x15, x16⟩ := X
  refine ⟨by rw [hI 28 (by decide) (by decide)]; exact x1, fun i i1 i2 => (x2 i i1 i2).fr hC (fun r _ => by rw [hF]), by rw [hI 23 (by decide) (by decide)]; exact x3, by rw [hA 19 (by decide)]; exact x4, by rw [hA 20 (by decide)]; exact x5, by rw [hI 29 (by decide) (by decide)]; exact x6, by rw [hA 31 (by decide)]; exact x7, by rw [hI 33 (by decide) (by decide)]; exact x8, by rw [hA 32 (by decide)]; exact x9, by rw [hI 51 (by decide) (by decide)]; exact x10, by rw [hA 50 (by decide)]; exact x11, by rw [hI 30 (by decide) (by decide)]; exact x12, ?_, ?_, P, F⟩
  · unfold TpX
    rw [hI 12 (by decide) (by decide), hA 11 (by decide)]
    exact x13
  · unfold PlX
    rw [hI 26 (by decide) (by decide), hA 25 (by decide), hA 24 (by decide)]
    exact x14
theorem SM.xfr {c : Cf} {lm : Int} {h : Hs} {k : Ks} {im : Int × Hs} {hv : Int} {tp : Tp} {pl : Pl} {pk pk' : Pk} {fn fn' : Fnd} {w w' : Wd} (M : SM c lm h k im hv tp pl pk fn w) (hI : ∀ j, j ≠ 103 → j ≠ 110 → gI w' j = gI w j) (hA : ∀ a, ¬ (a = 101 ∨ a = 102 ∨ a = 104 ∨ a = 105 ∨ a = 109) → gA w' a = gA w a) (hL : gL w' = gL w) (P : PkM pk' w') (F : FnM fn' w') : SM c lm h k im hv tp pl pk' fn' w' := by
  obtain ⟨x1, x2, x3, x4, x5, x6, x7, x8, x9, x10, x11, x12⟩ := M
  refine ⟨x1.fr (hI 85 (by decide) (by decide)) (hI 92 (by decide) (by decide)) (hA 78 (by decide)) (hA 80 (by decide)) (hA 62 (by decide)) (hA 63 (by decide)) (x1.2.2.2.2.2.2.1.fr (by rw [hL]) (hA 95 (by decide))), by rw [hI 67 (by decide) (by decide)]; exact x2, by rw [hA 90 (by decide)]; exact x3, by rw [hI 97 (by decide) (by decide)]; exact x4, by rw [hA 96 (by decide)]; exact x5, by rw [hI 115 (by decide) (by decide)]; exact x6, by rw [hA 114 (by decide)]; exact x7, by rw [hI 93 (by decide) (by decide)]; exact x8, ?_, ?_, P, F⟩
  · unfold TpM
    rw [hI 66 (by decide) (by decide), hA 61 (by decide)]
    exact x9
  · unfold PlM
    rw [hI 88 (by decide) (by decide), hA 84 (by decide), hA 83 (by decide)]
    exact x10
theorem SM.ge {c : Cf} {lm : Int} {h : Hs} {k : Ks} {im : Int × Hs} {hv : Int} {tp : Tp} {pl : Pl} {pk : Pk} {fn : Fnd} {w w' : Wd} (M : SM c lm h k im hv tp pl pk fn w) (hI : ∀ j, 60 ≤ j → gI w' j = gI w j) (hA : ∀ a, 60 ≤ a → gA w' a = gA w a) (hL : gL w' 94 = gL w 94) : SM c lm h k im hv tp pl pk fn w' := by
  obtain ⟨x1, x2, x3, x4, x5, x6, x7, x8, x9, x10, x11, x12⟩ := M
  refine ⟨x1.fr (hI 85 (by decide)) (hI 92 (by decide)) (hA 78 (by decide)) (hA 80 (by decide)) (hA 62 (by decide)) (hA 63 (by decide)) (x1.2.2.2.2.2.2.1.fr hL (hA 95 (by decide))), by rw [hI 67 (by decide)]; exact x2, by rw [hA 90 (by decide)]; exact x3, by rw [hI 97 (by decide)]; exact x4, by rw [hA 96 (by decide)]; exact x5, by rw [hI 115 (by decide)]; exact x6, by rw [hA 114 (by decide)]; exact x7, by rw [hI 93 (by decide)]; exact x8, ?_, ?_, ?_, ?_⟩
  · unfold TpM
    rw [hI 66 (by decide), hA 61 (by decide)]
    exact x9
  · unfold PlM
    rw [hI 88 (by decide), hA 84 (by decide), hA 83 (by decide)]
    exact x10
  · unfold PkM
    rw [hI 103 (by decide), hA 101 (by decide), hA 102 (by decide)]
    exact x11
  · unfold FnM
    rw [hI 110 (by decide), hA 104 (by decide), hA 105 (by decide), hA 109 (by decide)]
    exact x12
theorem SX.lt {c : Cf} {lm : Int} {h : Hs} {k : Ks} {im : Int × Hs} {hv : Int} {tp : Tp} {pl : Pl} {pk : Pk} {fn : Fnd} {w w' : Wd} (X : SX c lm h k im hv tp pl pk fn w) (hI : ∀ j, j < 60 → gI w' j = gI w j) (hA : ∀ a, a < 60 → gA w' a = gA w a) (hC : gC w' = gC w) (hF : gF w' = gF w) : SX c lm h k im hv tp pl pk fn w' := by
  obtain ⟨x1, x2, x3, x4, x5, x6, x7, x8, x9, x10, x11, x12, x13, x14, x15, x16⟩ := X
  refine ⟨by rw [hI 28 (by decide)]; exact x1, fun i i1 i2 => (x2 i i1 i2).fr hC (fun r _ => by rw [hF]), by rw [hI 23 (by decide)]; exact x3, by rw [hA 19 (by decide)]; exact x4, by rw [hA 20 (by decide)]; exact x5, by rw [hI 29 (by decide)]; exact x6, by rw [hA 31 (by decide)]; exact x7, by rw [hI 33 (by decide)]; exact x8, by rw [hA 32 (by decide)]; exact x9, by rw [hI 51 (by decide)]; exact x10, by rw [hA 50 (by decide)]; exact x11, by rw [hI 30 (by decide)]; exact x12, ?_, ?_, ?_, ?_⟩
  · unfold TpX
    rw [hI 12 (by decide), hA 11 (by decide)]
    exact x13
  · unfold PlX
    rw [hI 26 (by decide), hA 25 (by decide), hA 24 (by decide)]
    exact x14
  · unfold PkX
    rw [hI 39 (by decide), hA 37 (by decide), hA 38 (by decide)]
    exact x15
  · unfold FnX
    rw [hI 43 (by decide), hA 40 (by decide), hA 41 (by decide), hA 42 (by decide)]
    exact x16
def ups (f : Int → Int) (p v : Int) : Int → Int := fun i => if i = p then v else f i
theorem ups_p (f : Int → Int) (p v : Int) : ups f p v p = v := if_pos rfl
theorem ups_n (f : Int → Int) {p i : Int} (v : Int) (h : i ≠ p) : ups f p v i = f i := if_neg h
def pkMay (c : Cf) (p : Pk) (a b : Int) : Prop := 0 < cK c ∧ (a = 0 ∧ 0 ≤ b ∧ b ≤ 5 ∨ a = 1 ∧ 1 ≤ b ∧ b ≤ 9) ∧ p.1 ≠ 12
theorem op_peek (I : INV z w) (u v : Int32) (q : ∀ r1 w2, (∀ K : Int32 → Wd → Prop, (∀ w', INV z w' → K r1 w') → wp_X3_peek u v w2 K) → C r1 w2) : wp_X1_peek u v w C := by
  obtain ⟨a, a1, a2, rfl⟩ := ex_iz u
  obtain ⟨b, b1, b2, rfl⟩ := ex_iz v
  obtain ⟨c, lm, h, k, im, hv, tp, pl, pk, fn, ok, X, M, hz⟩ := I
  have okP := ok.2.2.2.2.2.2.2.2.2.2.2.1
  obtain ⟨o1, o2, o3⟩ := okP
  have XP := X.2.2.2.2.2.2.2.2.2.2.2.2.2.2.1
  have XF := X.2.2.2.2.2.2.2.2.2.2.2.2.2.2.2
  have k0 := ok.1.1
  have k6 := ok.1.2.1
  have mW : ∀ (K : Int32 → Wd → Prop) (w2 : Wd), SM c lm h k im hv tp pl pk fn w2 → (pkMay c pk a b → ∀ w' w4, fM w2 w4 → w' = sI (sA (sA w4 101 pk.1 (iz a)) 102 pk.1 (iz b)) 103 (iz (pk.1 + 1)) → SM c lm h k im hv tp pl pk fn w4 → K (iz (pk.1 + 1)) w') → (¬ pkMay c pk a b → ∀ w', fM w2 w' → SM c lm h k im hv tp pl pk fn w' → K (iz (-1)) w') → wp_X3_peek (iz a) (iz b) w2 K := by
    intro K w2 M2 f g
    unfold wp_X3_peek
    rintro w4 rfl
    obtain ⟨M4, f4⟩ := M2.thr ok (iz 0)
    generalize sI w2 60 (iz 0) = w4 at M4 f4
    have g := fun n => g n w4 f4 M4
    have e103 := M4.2.2.2.2.2.2.2.2.2.2.1.1
    rw [M4.1.2.1]
    refine br (iz_eq (by omega) (by omega) (by decide) (by decide)) (fun e => g (fun m => by have := m.1; omega)) (fun e => ?_)
    refine m_isIn ⟨a1, a2⟩ (by decide) (by decide) (fun p1 p2 => t1 ?_) (fun n => t0 (g (fun m => by have := m.2.1; omega)))
    have tail : ∀ y1 y0 : Int, VR y1 → VR y0 → (y1 ≤ b ∧ b ≤ y0 ↔ (a = 0 ∧ 0 ≤ b ∧ b ≤ 5 ∨ a = 1 ∧ 1 ≤ b ∧ b ≤ 9)) → b_X3_peek_39 K (iz a) (iz b) (lz y0) (lz y1) ((iz b).toInt64) w4 := by
      intro y1 y0 h1 h0 e5
      unfold b_X3_peek_39
      refine m_isIn ⟨b1, b2⟩ h1 h0 (fun p3 p4 => t1 ?_) (fun n => t0 (g (fun m => n (e5.mpr m.2.1))))
      rw [e103]
      refine brn (iz_eq (by omega) (by omega) (by decide) (by decide)) (fun e6 => ?_) (fun e6 => g (fun m => m.2.2 e6))
      refine ⟨iz_inb (by omega) (by omega) (by omega), ?_⟩
      rintro w5 rfl
      rw [iz_toInt (by omega) (by omega), gI_sA, e103]
      refine ⟨iz_inb (by omega) (by omega) (by omega), ?_⟩
      rintro w6 rfl
      rw [iz_toInt (by omega) (by omega), gI_sA, gI_sA, e103, iz_add]
      rintro w7 rfl
      rw [gI_sI, if_pos rfl]
      exact f ⟨by omega, e5.mp ⟨p3, p4⟩, e6⟩ _ w4 f4 rfl M4
    refine brn (iz_eq a1 a2 (by decide) (by decide)) (fun e7 => ?_) (fun e7 => ?_)
    · rw [i2l (⟨a1, a2⟩ : VR a)]
      exact tail a 9 ⟨a1, a2⟩ (by decide) (by omega)
    · rw [i2l (⟨a1, a2⟩ : VR a)]
      exact tail a 5 ⟨a1, a2⟩ (by decide) (by omega)
  have no : ¬ pkMay c pk a b → C (iz (-1)) w := fun n => q _ _ (fun K kk => mW K w M (fun m => absurd m n) (fun _ w' f M' => kk _ (inv_end ok X f M' hz)))
  have yes : pkMay c pk a b → C (iz (pk.1 + 1)) (sI (sA (sA w 37 pk.1 (iz a)) 38 pk.1 (iz b)) 39 (iz (pk.1 + 1))) := by
    intro may
    refine q _ _ (fun K kk => ?_)
    have pk' : ∃ p : Pk, p = (pk.1 + 1, ups pk.2.1 pk.1 a, ups pk.2.2 pk.1 b) := ⟨_, rfl⟩
    obtain ⟨p, hp⟩ := pk'
    have okp : PkOK p := by
      rw [hp]
      refine ⟨(by omega : (0 : Int) ≤ pk.1 + 1), (by have := may.2.2; omega : pk.1 + 1 ≤ 12), fun i i1 i2 => ?_⟩
      have i2 : i < pk.1 + 1 := i2
      have m2 := may.2.1
      by_cases e : i = pk.1
      · subst e
        simp only [ups_p]
        omega
      · simp only [ups_n _ _ e]
        exact o3 i i1 (by omega)
    have okS : SOK c lm h k im hv tp pl p fn := by
      obtain ⟨s1, s2, s3, s4, s5, s6, s7, s8, s9, s10, s11, s12, s13⟩ := ok
      exact ⟨s1, s2, s3, s4, s5, s6, s7, s8, s9, s10, s11, okp, s13⟩
    have X2 : SX c lm h k im hv tp pl p fn (sI (sA (sA w 37 pk.1 (iz a)) 38 pk.1 (iz b)) 39 (iz (pk.1 + 1))) := by
      refine X.xfr (fun j h1 h2 => ?_) (fun a' ha => ?_) rfl rfl ?_ ?_
      · rw [gI_sI, if_neg h1]
        rfl
      · funext t
        rw [gA_sI, gA_sA, if_neg (by omega), gA_sA, if_neg (by omega)]
      · rw [hp]
        refine ⟨by rw [gI_sI, if_pos rfl], fun i i1 i2 => ?_⟩
        have i2 : i < pk.1 + 1 := i2
        rw [gA_sI, gA_sI, gA_sA, if_neg (by decide), gA_sA, if_pos rfl, gA_sA, if_pos rfl]
        by_cases e : i = pk.1
        · rw [if_pos e, if_pos e, e]
          simp only [ups_p]
          exact ⟨trivial, trivial⟩
        · rw [if_neg e, if_neg e, gA_sA, if_neg (by decide)]
          simp only [ups_n _ _ e]
          exact XP.2 i i1 (by omega)
      · refine ⟨?_, fun i i1 i2 => ?_⟩
        · rw [gI_sI, if_neg (by decide)]
          exact XF.1
        · rw [gA_sI, gA_sI, gA_sI]
          simp only [gA_sA, show (40 : Nat) = 38 ↔ False by decide, show (40 : Nat) = 37 ↔ False by decide, show (41 : Nat) = 38 ↔ False by decide, show (41 : Nat) = 37 ↔ False by decide, show (42 : Nat) = 38 ↔ False by decide, show (42 : Nat) = 37 ↔ False by decide, if_false]
          exact XF.2 i i1 i2
    have M2 : SM c lm h k im hv tp pl pk fn (sI (sA (sA w 37 pk.1 (iz a)) 38 pk.1 (iz b)) 39 (iz (pk.1 + 1))) := by
      refine M.ge (fun j hj => ?_) (fun a' ha => ?_) rfl
      · rw [gI_sI, if_neg (by omega)]
        rfl
      · funext t
        rw [gA_sI, gA_sA, if_neg (by omega), gA_sA, if_neg (by omega)]
    refine mW K _ M2 (fun _ w' w4 f5 hw M4 => ?_) (fun n => absurd may n)
    have MP := M4.2.2.2.2.2.2.2.2.2.2.1
    have MF := M4.2.2.2.2.2.2.2.2.2.2.2
    subst hw
    refine kk _ ⟨c, lm, h, k, im, hv, tp, pl, p, fn, okS, (X2.fr f5).lt (fun j hj => ?_) (fun a' ha => ?_) rfl rfl, M4.xfr (fun j h1 h2 => ?_) (fun a' ha => ?_) rfl ?_ ?_, ?_⟩
    · rw [gI_sI, if_neg (by omega)]
      rfl
    · funext t
      rw [gA_sI, gA_sA, if_neg (by omega), gA_sA, if_neg (by omega)]
    · rw [gI_sI, if_neg h1]
      rfl
    · funext t
      rw [gA_sI, gA_sA, if_neg (by omega), gA_sA, if_neg (by omega)]
    · rw [hp]
      refine ⟨by rw [gI_sI, if_pos rfl], fun i i1 i2 => ?_⟩
      have i2 : i < pk.1 + 1 := i2
      rw [gA_sI, gA_sI, gA_sA, if_neg (by decide), gA_sA, if_pos rfl, gA_sA, if_pos rfl]
      by_cases e : i = pk.1
      · rw [if_pos e, if_pos e, e]
        simp only [ups_p]
        exact ⟨trivial, trivial⟩
      · rw [if_neg e, if_neg e, gA_sA, if_neg (by decide)]
        simp only [ups_n _ _ e]
        exact MP.2 i i1 (by omega)
    · refine ⟨?_, fun i i1 i2 => ?_⟩
      · rw [gI_sI, if_neg (by decide)]
        exact MF.1
      · rw [gA_sI, gA_sI, gA_sI]
        simp only [gA_sA, show (104 : Nat) = 102 ↔ False by decide, show (104 : Nat) = 101 ↔ False by decide, show (105 : Nat) = 102 ↔ False by decide, show (105 : Nat) = 101 ↔ False by decide, show (109 : Nat) = 102 ↔ False by decide, show (109 : Nat) = 101 ↔ False by decide, if_false]
        exact MF.2 i i1 i2
    · have e1 : gZ w4 = gZ w := f5.2.2.2.2.2.2.2.2
      show gZ w4 ≤ z
      omega
  unfold wp_X1_peek
  refine x_isHouse (X.hx ok) (fun p => t1 ?_) (fun n => t0 (no (fun m => by have := m.1; omega)))
  refine x_in ⟨a1, a2⟩ (by decide) (by decide) (fun p1 p2 => t1 ?_) (fun n => t0 (no (fun m => by have := m.2.1; omega)))
  have tail : ∀ y1 y0 : Int, VR y1 → VR y0 → (y1 ≤ b ∧ b ≤ y0 ↔ (a = 0 ∧ 0 ≤ b ∧ b ≤ 5 ∨ a = 1 ∧ 1 ≤ b ∧ b ≤ 9)) → b_X1_peek_36 C (iz a) (iz b) (iz y0) (iz y1) (iz b) w := by
    intro y1 y0 h1 h0 e5
    unfold b_X1_peek_36
    refine x_in ⟨b1, b2⟩ h1 h0 (fun p3 p4 => t1 ?_) (fun n => t0 (no (fun m => n (e5.mpr m.2.1))))
    rw [XP.1]
    refine brn (iz_eq (by omega) (by omega) (by decide) (by decide)) (fun e6 => ?_) (fun e6 => no (fun m => m.2.2 e6))
    refine ⟨iz_inb (by omega) (by omega) (by omega), ?_⟩
    rintro w5 rfl
    rw [iz_toInt (by omega) (by omega), gI_sA, XP.1]
    refine ⟨iz_inb (by omega) (by omega) (by omega), ?_⟩
    rintro w6 rfl
    rw [iz_toInt (by omega) (by omega), gI_sA, gI_sA, XP.1, iz_add]
    rintro w7 rfl
    rw [gI_sI, if_pos rfl]
    exact yes ⟨p, e5.mp ⟨p3, p4⟩, e6⟩
  refine brn (iz_eq a1 a2 (by decide) (by decide)) (fun e7 => brn (iz_eq a1 a2 (by decide) (by decide)) (fun e8 => tail 1 9 (by decide) (by decide) (by omega)) (fun e8 => absurd e8 e7)) (fun e7 => brn (iz_eq a1 a2 (by decide) (by decide)) (fun e8 => absurd e7 e8) (fun e8 => tail 0 5 (by decide) (by decide) (by omega)))
end D3
