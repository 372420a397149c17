/-! the tape, both sides joined -/
theorem byN_q (a b c d e : Int32) (q j : Nat) (hq : q < 5) (hj : j < 4) : byN (wdO a b c d e) (4 * q + j) = byW (wdO a b c d e (4 * q)) j := by
  have h1 : wdO a b c d e (4 * q + j) = wdO a b c d e (4 * q) := by
    unfold wdO
    simp only [show 4 * q + j < 4 ↔ 4 * q < 4 by omega, show 4 * q + j < 8 ↔ 4 * q < 8 by omega, show 4 * q + j < 12 ↔ 4 * q < 12 by omega, show 4 * q + j < 16 ↔ 4 * q < 16 by omega]
  have h2 : ((4 * q + j : Nat) : Int) % 4 = (j : Int) := by omega
  unfold byN byW
  rw [h1, h2]
theorem tc61 (w : Wd) (g : Int → Int32) (v : Int32) (g' : Int → Int32) (v' : Int32) : sI (sB (sI (sB w 61 g) 66 v) 61 g') 66 v' = sI (sB w 61 g') 66 v' := by rw [sI_sBI, sB_sB]
def wF (a b c d e : Int32) : Nat → Int32
  | 0 => a
  | 1 => b
  | 2 => c
  | 3 => d
  | _ => e
theorem wF_wdO (a b c d e : Int32) (q : Nat) (hq : q < 5) : wdO a b c d e (4 * q) = wF a b c d e q := by
  have h1 : q = 0 ∨ q = 1 ∨ q = 2 ∨ q = 3 ∨ q = 4 := by omega
  rcases h1 with rfl | rfl | rfl | rfl | rfl <;> rfl
/-- the tape after so many words -/
def apW (tp : Tp) (U : Nat → Int32) : Nat → Tp
  | 0 => tp
  | n + 1 => apT (apW tp U n) (byW (U n)) 4
def cnW (U : Nat → Int32) : Nat → Int
  | 0 => 0
  | n + 1 => cnW U n + cnB (byW (U n)) 4
theorem apW_eq (tp : Tp) (a b c d e : Int32) : ∀ q : Nat, q ≤ 5 → apT tp (byN (wdO a b c d e)) (4 * q) = apW tp (wF a b c d e) q ∧ cnB (byN (wdO a b c d e)) ((4 * q : Nat) : Int) = cnW (wF a b c d e) q := by
  intro q
  induction q with
  | zero => intro _; exact ⟨rfl, rfl⟩
  | succ q ih =>
    intro hq
    obtain ⟨i1, i2⟩ := ih (by omega)
    have e : ∀ j, j < 4 → byN (wdO a b c d e) (4 * q + j) = byW (wF a b c d e q) j := fun j hj => by rw [byN_q a b c d e q j (by omega) hj, wF_wdO a b c d e q (by omega)]
    rw [show 4 * (q + 1) = 4 * q + 4 by omega, apT_add, cnB_add, i1, i2, apW, cnW]
    exact ⟨apT_congr _ 4 e, by rw [cnB_congr 4 e]; rfl⟩
theorem cnW_bd (U : Nat → Int32) : ∀ n : Nat, 0 ≤ cnW U n ∧ cnW U n ≤ 4 * n := by
  intro n
  induction n with
  | zero => exact ⟨Int.le_refl 0, Int.le_refl 0⟩
  | succ n ih =>
    rw [cnW]
    have := cnB_bd (byW (U n)) (i := 4) (by decide)
    omega
theorem apW_len (tp : Tp) (U : Nat → Int32) : ∀ n : Nat, (apW tp U n).1 = tp.1 + cnW U n := by
  intro n
  induction n with
  | zero => show tp.1 = tp.1 + 0; omega
  | succ n ih =>
    rw [apW, cnW, apT_len, ih]
    have : cnB (byW (U n)) ((4 : Nat) : Int) = cnB (byW (U n)) 4 := rfl
    omega
section FE2
variable {w : Wd} {Q : Int32 → Wd → Prop}
theorem m_feed {tp : Tp} (T : TpM tp w) (o : TpOK tp) (a b c d e : Int32) (f : tp.1 + cnW (wF a b c d e) 5 ≤ 240 → ∀ g, TpM (apW tp (wF a b c d e) 5) (sI (sB (sI w 60 (iz 0)) 61 g) 66 (iz (apW tp (wF a b c d e) 5).1)) → Q (iz (apW tp (wF a b c d e) 5).1) (sI (sB (sI w 60 (iz 0)) 61 g) 66 (iz (apW tp (wF a b c d e) 5).1))) (g : ¬ tp.1 + cnW (wF a b c d e) 5 ≤ 240 → Q (iz (-1)) (sI w 60 (iz 0))) : wp_X3_feed a b c d e w Q := by
  unfold wp_X3_feed
  have o1 := o.1; have o2 := o.2.1
  rintro w1 rfl
  have T1 : TpM tp (sI w 60 (iz 0)) := T
  generalize sI w 60 (iz 0) = w1 at T1 f g
  refine m_bytesIn (m_bytesIn (m_bytesIn (m_bytesIn (m_bytesIn ?_))))
  have ca := cnB_bd (byW a) (i := 4) (by decide)
  have cb := cnB_bd (byW b) (i := 4) (by decide)
  have cc := cnB_bd (byW c) (i := 4) (by decide)
  have cd := cnB_bd (byW d) (i := 4) (by decide)
  have ce := cnB_bd (byW e) (i := 4) (by decide)
  have es : cnW (wF a b c d e) 5 = 0 + cnB (byW a) 4 + cnB (byW b) 4 + cnB (byW c) 4 + cnB (byW d) 4 + cnB (byW e) 4 := rfl
  rw [T1.1, iz_add, iz_add, iz_add, iz_add, iz_add]
  refine br (iz_le (by omega) (by omega) (by decide) (by decide)) (fun e2 => ?_) (fun e2 => g (by omega))
  have f := f (by omega)
  have L1 := apW_len tp (wF a b c d e) 1
  have L2 := apW_len tp (wF a b c d e) 2
  have L3 := apW_len tp (wF a b c d e) 3
  have L4 := apW_len tp (wF a b c d e) 4
  have e1 : cnW (wF a b c d e) 1 = 0 + cnB (byW a) 4 := rfl
  have e2' : cnW (wF a b c d e) 2 = 0 + cnB (byW a) 4 + cnB (byW b) 4 := rfl
  have e3 : cnW (wF a b c d e) 3 = 0 + cnB (byW a) 4 + cnB (byW b) 4 + cnB (byW c) 4 := rfl
  have e4 : cnW (wF a b c d e) 4 = 0 + cnB (byW a) 4 + cnB (byW b) 4 + cnB (byW c) 4 + cnB (byW d) 4 := rfl
  refine m_put T1 o1 a (by omega) (fun g1 T2 => ?_)
  have T2 : TpM (apW tp (wF a b c d e) 1) _ := T2
  refine m_put T2 (by omega) b (by omega) (fun g2 T3 => ?_)
  have T3 : TpM (apW tp (wF a b c d e) 2) _ := T3
  refine m_put T3 (by omega) c (by omega) (fun g3 T4 => ?_)
  have T4 : TpM (apW tp (wF a b c d e) 3) _ := T4
  refine m_put T4 (by omega) d (by omega) (fun g4 T5 => ?_)
  have T5 : TpM (apW tp (wF a b c d e) 4) _ := T5
  refine m_put T5 (by omega) e (by omega) (fun g5 T6 => ?_)
  have T6 : TpM (apW tp (wF a b c d e) 5) _ := T6
  rw [T6.1]
  rw [tc61, tc61, tc61, tc61] at T6 ⊢
  exact f g5 T6
end FE2
section ST2
variable {c : Cf} {lm : Int} {h : Hs} {k : Ks} {im : Int × Hs} {hv : Int} {tp tp' : Tp} {pl : Pl} {pk : Pk} {fn : Fnd} {w w' : Wd} {z : Nat}
theorem SX.tpx (X : SX c lm h k im hv tp pl pk fn w) (hI : ∀ j, j ≠ 12 → j < 60 → gI w' j = gI w j) (hA : ∀ a, a ≠ 11 → a < 60 → gA w' a = gA w a) (hC : gC w' = gC w) (hF : gF w' = gF w) (T : TpX tp' w') : SX c lm h k im hv tp' pl pk fn w' := by
  obtain ⟨x1, x2, x3, x4, x5, x6, x7, x8, x9, x10, x11, x12, x13, x14, x15, x16⟩ := X
  refine ⟨by rw [hI 28 (by decide) (by decide)]; exact x1, fun i i1 i2 => (x2 i i1 i2).fr hC (fun r _ => by rw [hF]), by rw [hI 23 (by decide) (by decide)]; exact x3, by rw [hA 19 (by decide) (by decide)]; exact x4, by rw [hA 20 (by decide) (by decide)]; exact x5, by rw [hI 29 (by decide) (by decide)]; exact x6, by rw [hA 31 (by decide) (by decide)]; exact x7, by rw [hI 33 (by decide) (by decide)]; exact x8, by rw [hA 32 (by decide) (by decide)]; exact x9, by rw [hI 51 (by decide) (by decide)]; exact x10, by rw [hA 50 (by decide) (by decide)]; exact x11, by rw [hI 30 (by decide) (by decide)]; exact x12, T, ?_, ?_, ?_⟩
  · unfold PlX
    rw [hI 26 (by decide) (by decide), hA 25 (by decide) (by decide), hA 24 (by decide) (by decide)]
    exact x14
  · unfold PkX
    rw [hI 39 (by decide) (by decide), hA 37 (by decide) (by decide), hA 38 (by decide) (by decide)]
    exact x15
  · unfold FnX
    rw [hI 43 (by decide) (by decide), hA 40 (by decide) (by decide), hA 41 (by decide) (by decide), hA 42 (by decide) (by decide)]
    exact x16
theorem SM.tpx (M : SM c lm h k im hv tp pl pk fn w) (hI : ∀ j, j ≠ 66 → 60 ≤ j → j ≠ 60 → gI w' j = gI w j) (hA : ∀ a, a ≠ 61 → 60 ≤ a → gA w' a = gA w a) (hL : gL w' 94 = gL w 94) (T : TpM tp' w') : SM c lm h k im hv tp' pl pk fn w' := by
  obtain ⟨x1, x2, x3, x4, x5, x6, x7, x8, x9, x10, x11, x12⟩ := M
  refine ⟨x1.fr (hI 85 (by decide) (by decide) (by decide)) (hI 92 (by decide) (by decide) (by decide)) (hA 78 (by decide) (by decide)) (hA 80 (by decide) (by decide)) (hA 62 (by decide) (by decide)) (hA 63 (by decide) (by decide)) (x1.2.2.2.2.2.2.1.fr hL (hA 95 (by decide) (by decide))), by rw [hI 67 (by decide) (by decide) (by decide)]; exact x2, by rw [hA 90 (by decide) (by decide)]; exact x3, by rw [hI 97 (by decide) (by decide) (by decide)]; exact x4, by rw [hA 96 (by decide) (by decide)]; exact x5, by rw [hI 115 (by decide) (by decide) (by decide)]; exact x6, by rw [hA 114 (by decide) (by decide)]; exact x7, by rw [hI 93 (by decide) (by decide) (by decide)]; exact x8, T, ?_, ?_, ?_⟩
  · unfold PlM
    rw [hI 88 (by decide) (by decide) (by decide), hA 84 (by decide) (by decide), hA 83 (by decide) (by decide)]
    exact x10
  · unfold PkM
    rw [hI 103 (by decide) (by decide) (by decide), hA 101 (by decide) (by decide), hA 102 (by decide) (by decide)]
    exact x11
  · unfold FnM
    rw [hI 110 (by decide) (by decide) (by decide), hA 104 (by decide) (by decide), hA 105 (by decide) (by decide), hA 109 (by decide) (by decide)]
    exact x12
theorem SOK.tpx (ok : SOK c lm h k im hv tp pl pk fn) (T : TpOK tp') : SOK c lm h k im hv tp' pl pk fn := by
  obtain ⟨s1, s2, s3, s4, s5, s6, s7, s8, s9, s10, s11⟩ := ok
  exact ⟨s1, s2, s3, s4, s5, s6, s7, s8, s9, T, s11⟩
end ST2
theorem op_feed {z : Nat} {w : Wd} {C : Int32 → Wd → Prop} (I : INV z w) (a b c d e : Int32) (q : ∀ r1 w2, (∀ K : Int32 → Wd → Prop, (∀ w', INV z w' → K r1 w') → wp_X3_feed a b c d e w2 K) → C r1 w2) : wp_X1_feed a b c d e w C := by
  obtain ⟨cf, lm, h, k, im, hv, tp, pl, pk, fn, ok, X, M, hz⟩ := I
  have oT := ok.2.2.2.2.2.2.2.2.2.1
  have XT := X.2.2.2.2.2.2.2.2.2.2.2.2.1
  obtain ⟨w1, w2⟩ := apW_eq tp a b c d e 5 (Nat.le_refl 5)
  rw [show (4 * 5 : Nat) = 20 from rfl] at w1 w2
  rw [show ((20 : Nat) : Int) = 20 from rfl] at w2
  refine x_feed XT oT a b c d e (fun hl g hg => q _ _ (fun K kk => ?_)) (fun hl => q _ _ (fun K kk => ?_))
  · have okT : TpOK (apW tp (wF a b c d e) 5) := by
      rw [← w1]
      have L := apT_len tp (byN (wdO a b c d e)) 20
      have cb := cnB_bd (byN (wdO a b c d e)) (i := 20) (by decide)
      have e20 : cnB (byN (wdO a b c d e)) ((20 : Nat) : Int) = cnB (byN (wdO a b c d e)) 20 := rfl
      have o1 := oT.1
      exact ⟨by omega, by omega, apT_ok _ oT.2.2 20⟩
    rw [w1] at hg kk ⊢
    have X2 : SX cf lm h k im hv (apW tp (wF a b c d e) 5) pl pk fn (sI (sB w 11 g) 12 (iz (apW tp (wF a b c d e) 5).1)) := by
      refine X.tpx (fun j h1 _ => ?_) (fun a' h1 _ => ?_) rfl rfl ⟨by rw [gI_sI, if_pos rfl], fun i i1 i2 => ?_⟩
      · rw [gI_sI, if_neg h1]
        rfl
      · exact gA_n w h1 g
      · rw [gA_sI, gA_r]
        exact hg i i1 i2
    have M2 : SM cf lm h k im hv tp pl pk fn (sI (sB w 11 g) 12 (iz (apW tp (wF a b c d e) 5).1)) := by
      refine M.ge (fun j hj => ?_) (fun a' ha => ?_) rfl
      · rw [gI_sI, if_neg (by omega)]
        rfl
      · exact gA_n w (by omega) g
    have z2 : gZ (sI (sB w 11 g) 12 (iz (apW tp (wF a b c d e) 5).1)) ≤ z := hz
    generalize sI (sB w 11 g) 12 (iz (apW tp (wF a b c d e) 5).1) = v at X2 M2 z2
    refine m_feed M2.2.2.2.2.2.2.2.2.1 oT a b c d e (fun _ g2 T2 => ?_) (fun n => absurd (by rw [← w2]; exact hl) n)
    refine kk _ ⟨cf, lm, h, k, im, hv, _, pl, pk, fn, ok.tpx okT, X2.lt (fun j hj => ?_) (fun a' ha => ?_) rfl rfl, M2.tpx (fun j h1 h2 h3 => ?_) (fun a' h1 h2 => ?_) rfl T2, z2⟩
    · rw [gI_sI, if_neg (by omega), gI_sB, gI_sI, if_neg (by omega)]
    · funext t
      rw [gA_sI, gA_sB, if_neg (by omega), gA_sI]
    · rw [gI_sI, if_neg h1, gI_sB, gI_sI, if_neg h3]
    · funext t
      rw [gA_sI, gA_sB, if_neg h1, gA_sI]
  · refine m_feed M.2.2.2.2.2.2.2.2.1 oT a b c d e (fun n => absurd (by rw [w2]; exact n) hl) (fun _ => ?_)
    obtain ⟨M4, f4⟩ := M.thr ok (iz 0)
    exact kk _ (inv_end ok X f4 M4 hz)
theorem op_end {z : Nat} {w : Wd} {C : Int32 → Wd → Prop} (I : INV z w) (u : Int32) (q : ∀ r1 w2, (∀ K : Int32 → Wd → Prop, (∀ w', INV z w' → K r1 w') → wp_X3_end u w2 K) → C r1 w2) : wp_X1_end u w C := by
  obtain ⟨a, a1, a2, rfl⟩ := ex_iz u
  obtain ⟨cf, lm, h, k, im, hv, tp, pl, pk, fn, ok, X, M, hz⟩ := I
  have oT := ok.2.2.2.2.2.2.2.2.2.1
  have o1 := oT.1; have o2 := oT.2.1
  have XT := X.2.2.2.2.2.2.2.2.2.2.2.2.1
  have no : ¬ (0 ≤ a ∧ a ≤ tp.1) → C (iz 0) w := by
    intro n
    refine q _ _ (fun K kk => ?_)
    unfold wp_X3_end
    rintro w4 rfl
    obtain ⟨M4, f4⟩ := M.thr ok (iz 0)
    have fin := kk _ (inv_end ok X f4 M4 hz)
    rw [M4.2.2.2.2.2.2.2.2.1.1]
    exact br (iz_lt a1 a2 (by decide) (by decide)) (fun _ => fin) (fun e => br (iz_le a1 a2 (by omega) (by omega)) (fun e2 => by omega) (fun _ => fin))
  unfold wp_X1_end
  rw [XT.1]
  refine br (iz_lt a1 a2 (by decide) (by decide)) (fun e => no (by omega)) (fun e => br (iz_le a1 a2 (by omega) (by omega)) (fun e2 => ?_) (fun e2 => no (by omega)))
  rintro w1 rfl
  refine q _ _ (fun K kk => ?_)
  have okT : TpOK (a, tp.2) := ⟨(by omega : 0 ≤ a), (by omega : a ≤ 240), oT.2.2⟩
  have X2 : SX cf lm h k im hv (a, tp.2) pl pk fn (sI w 12 (iz a)) := by
    refine X.tpx (fun j h1 _ => ?_) (fun a' h1 _ => rfl) rfl rfl ⟨by rw [gI_sI, if_pos rfl], fun i i1 i2 => ?_⟩
    · rw [gI_sI, if_neg h1]
    · exact XT.2 i i1 (by have i2 : i < a := i2; omega)
  have M2 : SM cf lm h k im hv tp pl pk fn (sI w 12 (iz a)) := by
    refine M.ge (fun j hj => ?_) (fun a' ha => rfl) rfl
    rw [gI_sI, if_neg (by omega)]
  unfold wp_X3_end
  rintro w4 rfl
  obtain ⟨M4, f4⟩ := M2.thr ok (iz 0)
  have MT := M4.2.2.2.2.2.2.2.2.1
  rw [MT.1]
  refine br (iz_lt a1 a2 (by decide) (by decide)) (fun e5 => absurd e5 e) (fun _ => br (iz_le a1 a2 (by omega) (by omega)) (fun _ => ?_) (fun e5 => absurd e2 e5))
  rintro w5 rfl
  have z2 : gZ (sI w 12 (iz a)) ≤ z := hz
  refine kk _ ⟨cf, lm, h, k, im, hv, (a, tp.2), pl, pk, fn, ok.tpx okT, (X2.fr f4).lt (fun j hj => ?_) (fun a' ha => rfl) rfl rfl, M4.tpx (fun j h1 h2 h3 => ?_) (fun a' h1 h2 => rfl) rfl ⟨by rw [gI_sI, if_pos rfl], fun i i1 i2 => ?_⟩, z2⟩
  · rw [gI_sI, if_neg (by omega)]
  · rw [gI_sI, if_neg h1]
  · exact MT.2 i i1 (by have i2 : i < a := i2; omega)
