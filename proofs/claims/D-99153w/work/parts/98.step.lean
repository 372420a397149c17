/-! the plans' steps, asked; the draws; the years -/
section D5
variable {z : Nat} {w : Wd} {C : Int32 → Wd → Prop} {Q : Int32 → Wd → Prop}
theorem x_isPlan {pl : Pl} (P : PlX pl w) (o : PlOK pl) {a : Int} (ha : VR a) (f : 0 ≤ a → a < pl.1 → Q (iz 1) w) (g : ¬ (0 ≤ a ∧ a < pl.1) → Q (iz 0) w) : wp_X1_isPlan (iz a) w Q := by
  unfold wp_X1_isPlan
  have o1 := o.1; have o2 := o.2.1
  rw [P.1, iz_sub]
  exact x_in ha (by decide) (by omega) (fun p q => ⟨zok1, f p (by omega)⟩) (fun n => ⟨zok0, g (by omega)⟩)
theorem m_isPlan {pl : Pl} (P : PlM pl w) (o : PlOK pl) {a : Int} (ha : VR a) (f : 0 ≤ a → a < pl.1 → Q (iz 1) w) (g : ¬ (0 ≤ a ∧ a < pl.1) → Q (iz 0) w) : wp_X3_isPlan (iz a) w Q := by
  unfold wp_X3_isPlan
  have o1 := o.1; have o2 := o.2.1
  rw [P.1]
  exact br (iz_lt ha.1 ha.2 (by decide) (by decide)) (fun e => g (by omega)) (fun e => br (iz_le (by omega) (by omega) ha.1 ha.2) (fun e2 => g (by omega)) (fun e2 => f (by omega) (by omega)))
theorem op_step (I : INV z w) (u v t : Int32) (q : ∀ r1 w2, (∀ K : Int32 → Wd → Prop, (∀ w', INV z w' → K r1 w') → wp_X3_step u v t w2 K) → C r1 w2) : wp_X1_step u v t w C := by
  obtain ⟨a, a1, a2, rfl⟩ := ex_iz u
  obtain ⟨b, b1, b2, rfl⟩ := ex_iz v
  obtain ⟨d, d1, d2, rfl⟩ := ex_iz t
  obtain ⟨c, lm, h, k, im, hv, tp, pl, pk, fn, ok, X, M, hz⟩ := I
  have oP := ok.2.2.2.2.2.2.2.2.2.2.1
  have XP := X.2.2.2.2.2.2.2.2.2.2.2.2.2.1
  have o2 := oP.2.1
  have mW : ∀ (K : Int32 → Wd → Prop), ((0 ≤ a ∧ a < pl.1) → (0 ≤ b ∧ b < pl.2.1 a) → (0 ≤ d ∧ d ≤ 3) → ∀ w', INV z w' → K (iz (pl.2.2 (64 * a + (4 * b + d)))) w') → (¬ ((0 ≤ a ∧ a < pl.1) ∧ (0 ≤ b ∧ b < pl.2.1 a) ∧ (0 ≤ d ∧ d ≤ 3)) → ∀ w', INV z w' → K (iz (-1000000)) w') → wp_X3_step (iz a) (iz b) (iz d) w K := by
    intro K f g
    unfold wp_X3_step
    rintro w4 rfl
    obtain ⟨M4, f4⟩ := M.thr ok (iz 0)
    have I4 := inv_end ok X f4 M4 hz
    generalize sI w 60 (iz 0) = w4 at M4 f4 I4
    have MP := M4.2.2.2.2.2.2.2.2.2.1
    have g := fun n => g n w4 I4
    have f := fun x y t => f x y t w4 I4
    refine m_isPlan MP oP ⟨a1, a2⟩ (fun p1 p2 => t1 ⟨iz_inb p1 (by omega) a2, ?_⟩) (fun n => t0 (g (fun m => n m.1)))
    obtain ⟨y1, y2⟩ := MP.2 a p1 p2
    obtain ⟨z1, z2, z3⟩ := oP.2.2 a p1 p2
    rw [iz_toInt a1 a2, y1, iz_sub, i2l (by omega : VR (pl.2.1 a - 1))]
    refine m_isIn ⟨b1, b2⟩ (by decide) (by omega) (fun p3 p4 => t1 ?_) (fun n => t0 (g (fun m => n (by omega))))
    refine m_isIn ⟨d1, d2⟩ (by decide) (by decide) (fun p5 p6 => t1 ?_) (fun n => t0 (g (fun m => n m.2.2)))
    rw [iz_mul, iz_add, iz_mul, iz_add]
    refine ⟨iz_inb (by omega) (by omega) (by omega), ?_⟩
    rw [iz_toInt (by omega) (by omega), show 4 * (16 * a + b) + d = 64 * a + (4 * b + d) by omega, y2 _ (by omega) (by omega)]
    exact f ⟨p1, p2⟩ ⟨p3, by omega⟩ ⟨p5, p6⟩
  have no : ¬ ((0 ≤ a ∧ a < pl.1) ∧ (0 ≤ b ∧ b < pl.2.1 a) ∧ (0 ≤ d ∧ d ≤ 3)) → C (iz (-1000000)) w := fun n => q _ _ (fun K kk => mW K (fun x y t => absurd ⟨x, y, t⟩ n) (fun _ => kk))
  unfold wp_X1_step
  refine x_isPlan XP oP ⟨a1, a2⟩ (fun p1 p2 => t1 ⟨iz_inb p1 (by omega) a2, ?_⟩) (fun n => t0 (no (fun m => n m.1)))
  obtain ⟨y1, y2⟩ := XP.2 a p1 p2
  obtain ⟨z1, z2, z3⟩ := oP.2.2 a p1 p2
  rw [iz_toInt a1 a2, y1, iz_sub]
  refine x_in ⟨b1, b2⟩ (by decide) (by omega) (fun p3 p4 => t1 ?_) (fun n => t0 (no (fun m => n (by omega))))
  refine x_in ⟨d1, d2⟩ (by decide) (by decide) (fun p5 p6 => t1 ?_) (fun n => t0 (no (fun m => n m.2.2)))
  rw [iz_mul, iz_add, iz_mul, iz_add]
  refine ⟨iz_inb (by omega) (by omega) (by omega), ?_⟩
  rw [iz_toInt (by omega) (by omega), show 4 * (16 * a + b) + d = 64 * a + (4 * b + d) by omega, y2 _ (by omega) (by omega)]
  exact q _ _ (fun K kk => mW K (fun _ _ _ => kk) (fun n => absurd ⟨⟨p1, p2⟩, ⟨p3, by omega⟩, ⟨p5, p6⟩⟩ n))
/-- the draw's next seed, and what is drawn -/
def nxS (s : Int64) : Int64 := s * lz 6364136223846793005 + lz 1442695040888963407
def drV (s : Int64) (m : Int32) : Int32 := ((s.toUInt64 >>> ((iz 33).toInt64.toUInt64 &&& Int64.toUInt64 63)).toInt64 - (s.toUInt64 >>> ((iz 33).toInt64.toUInt64 &&& Int64.toUInt64 63)).toInt64 / m.toInt64 * m.toInt64).toInt32
theorem shr33 (s : UInt64) : ∃ a : Int, 0 ≤ a ∧ a < 2147483648 ∧ (s >>> ((iz 33).toInt64.toUInt64 &&& Int64.toUInt64 63)).toInt64 = lz a := by
  have e : ((iz 33).toInt64.toUInt64 &&& Int64.toUInt64 63) = 33 := by decide +kernel
  rw [e]
  have h1 : (s >>> (33 : UInt64)).toNat = s.toNat / 2 ^ 33 := by
    rw [UInt64.toNat_shiftRight, Nat.shiftRight_eq_div_pow]
    rfl
  have h2 : s.toNat < 2 ^ 64 := s.toNat_lt
  have h3 : s.toNat / 2 ^ 33 < 2 ^ 31 := by omega
  refine ⟨((s.toNat / 2 ^ 33 : Nat) : Int), by omega, by omega, ?_⟩
  apply Int64.toInt_inj.mp
  rw [lz_toInt (by omega) (by omega)]
  show (s >>> (33 : UInt64)).toBitVec.toInt = _
  have h4 : (s >>> (33 : UInt64)).toBitVec.toNat = s.toNat / 2 ^ 33 := h1
  rw [BitVec.toInt_eq_toNat_of_lt (by rw [h4]; omega), h4]
theorem drV_bd (s : Int64) {m : Int} (m1 : 0 < m) (m2 : m ≤ 1000) : ∃ v : Int, 0 ≤ v ∧ v < m ∧ drV s (iz m) = iz v := by
  obtain ⟨a, a1, a2, e⟩ := shr33 s.toUInt64
  refine ⟨a % m, Int.emod_nonneg _ (by omega), Int.emod_lt_of_pos _ m1, ?_⟩
  unfold drV
  rw [e, i2l (by omega), lz_rem a1 (by omega) m1 (by omega), l2i]
theorem ne0_l {m : Int} (m1 : 0 < m) (m2 : m ≤ 1000) : ¬ (iz m).toInt64 = 0 := by
  rw [i2l (by omega)]
  intro e
  have : lz m = lz 0 := e
  have := lz_inj (by omega) (by omega) (by decide) (by decide) this
  omega
theorem x_draw {m : Int} (m1 : 0 < m) (m2 : m ≤ 1000) (q : Q (drV (nxS (gJ w 34)) (iz m)) (sJ w 34 (nxS (gJ w 34)))) : wp_X1_draw (iz m) w Q := by
  rintro w1 rfl
  refine ⟨ne0_l m1 m2, ?_⟩
  have e : gJ (sJ w 34 (gJ w 34 * lz 6364136223846793005 + lz 1442695040888963407)) 34 = nxS (gJ w 34) := by
    rw [gJ_sJ, if_pos rfl]
    rfl
  rw [e]
  exact q
theorem m_draw {m : Int} (m1 : 0 < m) (m2 : m ≤ 1000) (q : Q (drV (nxS (gJ w 98)) (iz m)) (sJ w 98 (nxS (gJ w 98)))) : wp_X3_draw (iz m) w Q := by
  rintro w1 rfl
  refine ⟨ne0_l m1 m2, ?_⟩
  have e : gJ (sJ w 98 (gJ w 98 * lz 6364136223846793005 + lz 1442695040888963407)) 98 = nxS (gJ w 98) := by
    rw [gJ_sJ, if_pos rfl]
    rfl
  rw [e]
  exact q
theorem gJ_sJs (w : Wd) (k : Nat) (v : Int64) : gJ (sJ w k v) k = v := if_pos rfl
/-- one year's month of the drawn life: the state, the seed -/
def drv (s : Int64) (m : Int) : Int := (drV s (iz m)).toInt
theorem drv_bd (s : Int64) {m : Int} (m1 : 0 < m) (m2 : m ≤ 1000) : 0 ≤ drv s m ∧ drv s m < m ∧ drV s (iz m) = iz (drv s m) := by
  obtain ⟨v, v1, v2, e⟩ := drV_bd s m1 m2
  unfold drv
  rw [e, iz_toInt (by omega) (by omega)]
  exact ⟨v1, v2, rfl⟩
noncomputable def putIf (c : Cf) (h : Hs) (k p lab : Int) : Hs :=
  haveI := Classical.propDecidable (mayPut c h k p)
  if mayPut c h k p then hPut h k p lab else h
theorem putIf_t {c : Cf} {h : Hs} {k p : Int} (lab : Int) (m : mayPut c h k p) : putIf c h k p lab = hPut h k p lab := by
  unfold putIf
  exact if_pos m
theorem putIf_f {c : Cf} {h : Hs} {k p : Int} (lab : Int) (m : ¬ mayPut c h k p) : putIf c h k p lab = h := by
  unfold putIf
  exact if_neg m
theorem putIf_ok {c : Cf} {h : Hs} (H : CfOK c) (G : HsOK c h) {k p lab : Int} (hl : lab = 0 ∨ lab = 1) : HsOK c (putIf c h k p lab) ∧ hm (putIf c h k p lab) = hm h := by
  by_cases m : mayPut c h k p
  · rw [putIf_t lab m]
    obtain ⟨p1, p2, p3, p4, p5, p6⟩ := m
    exact ⟨hPut_ok H G p1 p2 p3 p4 hl p5, rfl⟩
  · rw [putIf_f lab m]
    exact ⟨G, rfl⟩
def lbV (hv v : Int) : Int := if v < hv then 1 else 0
theorem lbV_01 (hv v : Int) : lbV hv v = 0 ∨ lbV hv v = 1 := by
  unfold lbV
  split
  · exact Or.inr rfl
  · exact Or.inl rfl
theorem lbV_0 {hv v : Int} (h : hv ≤ v) : 0 = lbV hv v := by
  unfold lbV
  rw [if_neg (Int.not_lt.mpr h)]
theorem lbV_1 {hv v : Int} (h : ¬ hv ≤ v) : 1 = lbV hv v := by
  unfold lbV
  rw [if_pos (Int.not_le.mp h)]
noncomputable def yrPut (c : Cf) (h : Hs) (hv : Int) (s : Int64) : Hs := putIf c h (drv (nxS s) (cK c)) (drv (nxS (nxS s)) 9 + 1) (lbV hv (drv (nxS (nxS (nxS s))) 10))
def yrEat (c : Cf) (h : Hs) (e : Int) : Hs := if hn h = 0 then h else hTake c h (if e = 0 then 0 else hn h - 1)
noncomputable def yrOne (c : Cf) (hv : Int) (h : Hs) (s : Int64) : Hs := hPass c (yrEat c (yrPut c h hv s) (drv (nxS (nxS (nxS (nxS s)))) 2))
noncomputable def yrs (c : Cf) (hv : Int) : Nat → Hs × Ks × Int64 → Hs × Ks × Int64
  | 0, s => s
  | n + 1, s => (yrOne c hv (yrs c hv n s).1 (yrs c hv n s).2.2, kPush (yrs c hv n s).2.1 (yrs c hv n s).1, nxS (nxS (nxS (nxS (yrs c hv n s).2.2))))
theorem yrPut_ok {c : Cf} {h : Hs} (H : CfOK c) (G : HsOK c h) (hv : Int) (s : Int64) : HsOK c (yrPut c h hv s) ∧ hm (yrPut c h hv s) = hm h := putIf_ok H G (lbV_01 _ _)
theorem yrEat_ok {c : Cf} {h : Hs} (G : HsOK c h) (e : Int) : HsOK c (yrEat c h e) ∧ hm (yrEat c h e) = hm h := by
  unfold yrEat
  have n0 := G.1
  split
  · exact ⟨G, rfl⟩
  · refine ⟨hTake_ok G ?_ ?_, rfl⟩
    · split <;> omega
    · split <;> omega
theorem yrs_ok {c : Cf} {hv : Int} {s : Hs × Ks × Int64} (H : CfOK c) (G : HsOK c s.1) (K : KOK c s.2.1) : ∀ n : Nat, hm s.1 + n ≤ 999 → HsOK c (yrs c hv n s).1 ∧ KOK c (yrs c hv n s).2.1 ∧ hm (yrs c hv n s).1 = hm s.1 + n := by
  intro n
  induction n with
  | zero => intro _; exact ⟨G, K, by simp [yrs]⟩
  | succ n ih =>
    intro hn
    obtain ⟨i1, i2, i3⟩ := ih (by omega)
    obtain ⟨j1, j2⟩ := yrPut_ok H i1 hv (yrs c hv n s).2.2
    obtain ⟨k1, k2⟩ := yrEat_ok j1 (drv (nxS (nxS (nxS (nxS (yrs c hv n s).2.2)))) 2)
    rw [yrs]
    refine ⟨hPass_ok k1 (by omega), kPush_ok i2 i1, ?_⟩
    have : hm (yrOne c hv (yrs c hv n s).1 (yrs c hv n s).2.2) = hm (yrEat c (yrPut c (yrs c hv n s).1 hv (yrs c hv n s).2.2) (drv (nxS (nxS (nxS (nxS (yrs c hv n s).2.2)))) 2)) + 1 := rfl
    show hm (yrOne c hv (yrs c hv n s).1 (yrs c hv n s).2.2) = _
    rw [this, k2, j2, i3]
    omega
end D5
