/-! the plans, run: whole, on both sides -/
noncomputable def runN (c : Cf) (f : Int → Int) (b : Int) : Nat → Int → Hs → Int → Int × Int
  | 0, i, _, e => (i, e)
  | n + 1, i, h, e => (haveI := Classical.propDecidable (maySt c h f (b + 4 * i)); if maySt c h f (b + 4 * i) then runN c f b n (i + 1) (doSt c h f (b + 4 * i)) (e + eatSt c h f (b + 4 * i)) else (i, e))
theorem runN_t {c : Cf} {f : Int → Int} {b : Int} {n : Nat} {i : Int} {h : Hs} {e : Int} (m : maySt c h f (b + 4 * i)) : runN c f b (n + 1) i h e = runN c f b n (i + 1) (doSt c h f (b + 4 * i)) (e + eatSt c h f (b + 4 * i)) := by
  rw [runN]
  simp only [if_pos m]
theorem runN_f {c : Cf} {f : Int → Int} {b : Int} {n : Nat} {i : Int} {h : Hs} {e : Int} (m : ¬ maySt c h f (b + 4 * i)) : runN c f b (n + 1) i h e = (i, e) := by
  rw [runN]
  simp only [if_neg m]
/-- .. within one step, month by month -/
def stH (c : Cf) (h : Hs) (f : Int → Int) (t j : Int) : Hs := if f t = 3 then goP c j.toNat h else if j = 0 then h else doSt c h f t
def stE (c : Cf) (h : Hs) (f : Int → Int) (t j : Int) : Int := if f t = 3 ∨ j = 0 then 0 else eatSt c h f t
def tms (f : Int → Int) (t : Int) : Int := if f t = 3 then f (t + 1) else 1
theorem st_0 (c : Cf) (h : Hs) (f : Int → Int) (t : Int) : stH c h f t 0 = h ∧ stE c h f t 0 = 0 := by
  unfold stH stE
  refine ⟨?_, if_pos (Or.inr rfl)⟩
  split
  · rfl
  · rfl
theorem st_e (c : Cf) (h : Hs) (f : Int → Int) (t : Int) : stH c h f t (tms f t) = doSt c h f t ∧ stE c h f t (tms f t) = eatSt c h f t := by
  unfold stH stE tms
  by_cases e : f t = 3
  · simp only [if_pos e, e, true_or, if_true]
    unfold doSt eatSt
    simp [e]
  · simp [e]
theorem st_ok {c : Cf} {h : Hs} {f : Int → Int} {t : Int} (H : CfOK c) (G : HsOK c h) (S : stepOK f t) (may : maySt c h f t) {j : Int} (j0 : 0 ≤ j) (j1 : j ≤ tms f t) : HsOK c (stH c h f t j) ∧ (f t = 3 → j < tms f t → hm (stH c h f t j) < 999) := by
  unfold tms at j1 ⊢
  unfold stH
  by_cases e : f t = 3
  · simp only [if_pos e] at j1 ⊢
    have mg : mayGo c h (f (t + 1)) 9 := by
      rcases may with m | m | m | m | m
      · exact absurd m.1 (by omega)
      · exact absurd m.1 (by omega)
      · exact absurd m.1 (by omega)
      · exact m.2
      · exact absurd m.1 (by omega)
    obtain ⟨p1, p2, p3, p4⟩ := mg
    obtain ⟨g1, g2⟩ := goP_ok (c := c) G j.toNat (by omega)
    exact ⟨g1, fun _ j2 => by rw [g2]; omega⟩
  · simp only [if_neg e]
    refine ⟨?_, fun z => absurd z e⟩
    split
    · exact G
    · exact doSt_ok H G S may
theorem st_s (c : Cf) (h : Hs) (f : Int → Int) (t : Int) {j : Int} (j0 : 0 ≤ j) (j1 : j < tms f t) : (if f t = 3 then hPass c (stH c h f t j) else doSt c (stH c h f t j) f t) = stH c h f t (j + 1) ∧ stE c h f t j + (if f t = 3 then 0 else eatSt c (stH c h f t j) f t) = stE c h f t (j + 1) := by
  unfold tms at j1
  unfold stH stE
  by_cases e : f t = 3
  · simp only [if_pos e, e, true_or, if_true]
    refine ⟨?_, rfl⟩
    rw [show (j + 1).toNat = j.toNat + 1 by omega, goP]
  · simp only [if_neg e] at j1 ⊢
    obtain rfl : j = 0 := by omega
    simp [e]
theorem PA_of {p : Pl} {g : Int → Int32} {a : Int} (P : ∀ t, 0 ≤ t → t < 4 * p.2.1 a → g (64 * a + t) = iz (p.2.2 (64 * a + t))) {i : Int} (i0 : 0 ≤ i) (i1 : i < p.2.1 a) : PA p.2.2 g (64 * a + 4 * i) := by
  intro j j0 j1
  have := P (4 * i + j) (by omega) (by omega)
  rw [show 64 * a + 4 * i + j = 64 * a + (4 * i + j) by omega]
  exact this
def rOut (l v : Int) (S : Int × Int) : Int := if v = 1 then S.2 else if S.1 = l then -1 else S.1
def rMay (c : Cf) (pl : Pl) (a v : Int) : Prop := 0 < cK c ∧ 0 ≤ a ∧ a < pl.1 ∧ 0 ≤ v ∧ v ≤ 1
section RU2
variable {c : Cf} {lm : Int} {h : Hs} {k : Ks} {im : Int × Hs} {hv : Int} {tp : Tp} {pl : Pl} {pk : Pk} {fn : Fnd} {w : Wd} {z : Nat} {Q : Int32 → Wd → Prop}
theorem PA.qx {f : Int → Int} {g g' : Int → Int32} {t : Int} (P : PA f g t) (t1 : t ≤ 252) (e : ∀ s, s < 256 → g' s = g s) : PA f g' t := by
  intro j j0 j1
  rw [e _ (by omega)]
  exact P j j0 j1
theorem x_run' (X : SX c lm h k im hv tp pl pk fn w) (ok : SOK c lm h k im hv tp pl pk fn) {a v : Int} (ha : VR a) (hv1 : VR v) (q : ∀ w2, SX c lm h k im hv tp pl pk fn w2 → fX 0 w w2 → rMay c pl a v → Q (iz (rOut (pl.2.1 a) v (runN c pl.2.2 (64 * a) (pl.2.1 a).toNat 0 h 0))) w2) (g : ¬ rMay c pl a v → Q (iz (-1000000)) w) : wp_X1_run (iz a) (iz v) w Q := by
  unfold wp_X1_run
  have oP := ok.2.2.2.2.2.2.2.2.2.2.1
  have XP := X.2.2.2.2.2.2.2.2.2.2.2.2.2.1
  have pl4 := oP.2.1
  have H := X.hx ok
  have n8 := ok.oh
  refine x_isHouse H (fun p0 => t1 ?_) (fun n => t0 (g (fun m => by have := m.1; omega)))
  refine x_isPlan XP oP ha (fun p1 p2 => t1 ?_) (fun n => t0 (g (fun m => n ⟨m.2.1, m.2.2.1⟩)))
  refine x_in hv1 (by decide) (by decide) (fun p3 p4 => u1 ?_) (fun n => u0 (g (fun m => n m.2.2.2)))
  have q := fun w2 x f => q w2 x f ⟨p0, p1, p2, p3, p4⟩
  obtain ⟨y1, y2⟩ := XP.2 a p1 p2
  obtain ⟨z1, z2, z3⟩ := oP.2.2 a p1 p2
  refine x_putAside (fun jf hj => ?_)
  generalize hRES : runN c pl.2.2 (64 * a) (pl.2.1 a).toNat 0 h 0 = RES at q
  have f0 : fX 0 w (sB w 35 jf) := (fX.refl w).sB (a := 35) (by decide) jf
  have H0 : HX c h (sB w 35 jf) := (X.deed ok f0 X.2.2.2.2.2.2.1 X.2.2.2.2.2.2.2.1 X.2.2.2.2.2.2.2.2.1).hx ok
  -- the end
  have fin : ∀ (i : Int) (w' : Wd), fX 0 w w' → gA w' 35 = jf → gA w' 32 = gA w 32 → gI w' 33 = gI w 33 → 0 ≤ i → i ≤ pl.2.1 a → RES.1 = i → b_X1_run_85 Q (iz a) (iz v) (iz i) (iz RES.2) w' := by
    intro i w' f' e35 e32 e33 i0 i1 eR
    unfold b_X1_run_85
    refine x_takeBack (fun g4 h4 => ?_)
    have A4 : AXf h g4 0 := AXf_shift X.2.2.2.2.2.2.1 n8.1 n8.2.1 n8.2.2.2.2.2.1 (fun t t1 t2 => by rw [Int.zero_add, h4 t t1 t2, e35, hj t t1 t2])
    have f4 : fX 0 w (sB w' 31 g4) := f'.sB (a := 31) (by decide) g4
    have X4 : SX c lm h k im hv tp pl pk fn (sB w' 31 g4) := X.deed ok f4 (by rw [gA_r]; exact A4) (by rw [gI_sB, e33]; exact X.2.2.2.2.2.2.2.1) (by rw [gA_n _ (by decide), e32]; exact X.2.2.2.2.2.2.2.2.1)
    have q := q _ X4 f4
    have e25 := f4.2.2.2.1 a (by omega)
    rw [iz_toInt (by omega) (by omega), e25, y1]
    unfold rOut at q
    refine brn (iz_eq hv1.1 hv1.2 (by decide) (by decide)) (fun e => ⟨iz_inb (by omega) (by omega) (by omega), ?_⟩) (fun e => ?_)
    · rw [if_neg e] at q
      refine brn (iz_eq (by omega) (by omega) (by omega) (by omega)) (fun e2 => ?_) (fun e2 => ?_)
      · rw [if_neg (by omega), eR] at q
        exact q
      · rw [if_pos (by omega)] at q
        exact q
    · rw [if_pos e] at q
      exact q
  refine lpe (fun n (s : Int32 × Int32 × Wd) => lp_X1_run_37 Q (iz a) (iz v) n s.1 s.2.1 s.2.2) (fun R s => wl_X1_run_37 Q (iz a) (iz v) (fun x y z => R (x, y, z)) s.1 s.2.1 s.2.2) (fun _ _ h => h) (fun i s => 0 ≤ i ∧ ∃ h' e' w', s = (iz i, iz e', w') ∧ HX c h' w' ∧ fX 0 w w' ∧ gA w' 35 = jf ∧ gA w' 32 = gA w 32 ∧ gI w' 33 = gI w 33 ∧ runN c pl.2.2 (64 * a) (pl.2.1 a - i).toNat i h' e' = RES) (pl.2.1 a) 0 (iz 0, iz 0, sB w 35 jf) (by omega) ⟨by decide, h, 0, _, rfl, H0, f0, gA_r w 35 jf, gA_n w (by decide) jf, rfl, by rw [Int.sub_zero]; exact hRES⟩ ?_
  rintro R _ i hi ⟨hi0, h', e', w', rfl, H', f', e35, e32, e33, er⟩ kk
  refine ⟨iz_inb p1 (by omega) (by omega), ?_⟩
  have e25 := f'.2.2.2.1 a (by omega)
  rw [iz_toInt (by omega) (by omega), e25, y1]
  refine br (iz_le (by omega) (by omega) (by omega) (by omega)) (fun e => ?_) (fun e => ?_)
  · obtain rfl : i = pl.2.1 a := by omega
    rw [Int.sub_self] at er
    have er : (pl.2.1 a, e') = RES := er
    rw [← er] at fin
    exact fin _ w' f' e35 e32 e33 hi0 hi rfl
  · have kk := kk (by omega)
    rw [show (pl.2.1 a - i).toNat = (pl.2.1 a - (i + 1)).toNat + 1 by omega] at er
    have P : PA pl.2.2 (gA w' 24) (64 * a + 4 * i) := (PA_of (p := pl) y2 hi0 (by omega)).qx (by omega) f'.2.2.1
    have S := z3 i hi0 (by omega)
    rw [iz_mul, iz_add, iz_mul, show 4 * (16 * a + i) = 64 * a + 4 * i by omega]
    refine x_canStep H' P S (by omega) (by omega) (fun may => t1 ?_) (fun n => t0 ?_)
    · rw [runN_t may] at er
      refine x_doStep H' P S (by omega) (by omega) may (fun f2 g2 A2 => ?_)
      have ok2 := doSt_ok H'.cf H'.hs S may
      rw [iz_add, iz_add]
      refine kk _ ⟨by omega, _, _, _, rfl, (H'.s15 f2).s31 ok2 A2, (f'.sB (a := 15) (by decide) f2).sB (a := 31) (by decide) g2, ?_, ?_, e33, er⟩
      · rw [gA_n _ (by decide), gA_n _ (by decide)]
        exact e35
      · rw [gA_n _ (by decide), gA_n _ (by decide)]
        exact e32
    · rw [runN_f n] at er
      rw [← er] at fin
      exact fin i w' f' e35 e32 e33 hi0 hi rfl
theorem m_run' (M : SM c lm h k im hv tp pl pk fn w) (ok : SOK c lm h k im hv tp pl pk fn) {a v : Int} (ha : VR a) (hv1 : VR v) (q : ∀ w2, SM c lm h k im hv tp pl pk fn w2 → fM w w2 → rMay c pl a v → Q (iz (rOut (pl.2.1 a) v (runN c pl.2.2 (64 * a) (pl.2.1 a).toNat 0 h 0))) w2) (g : ¬ rMay c pl a v → ∀ w2, SM c lm h k im hv tp pl pk fn w2 → fM w w2 → Q (iz (-1000000)) w2) : wp_X3_run (iz a) (iz v) w Q := by
  unfold wp_X3_run
  rintro w1 rfl
  obtain ⟨M1, f1⟩ := M.thr ok (iz 0)
  generalize sI w 60 (iz 0) = w1 at M1 f1
  have g := fun n => g n w1 M1 f1
  have oP := ok.2.2.2.2.2.2.2.2.2.2.1
  have MP := M1.2.2.2.2.2.2.2.2.2.1
  have pl4 := oP.2.1
  have k0 := ok.1.1
  have k6 := ok.1.2.1
  refine m_isPlan MP oP ha (fun p1 p2 => t1 ?_) (fun n => t0 (g (fun m => n ⟨m.2.1, m.2.2.1⟩)))
  rw [M1.1.2.1]
  refine br (iz_eq (by omega) (by omega) (by decide) (by decide)) (fun e => g (fun m => by have := m.1; omega)) (fun e0 => ?_)
  refine m_isIn hv1 (by decide) (by decide) (fun p3 p4 => u1 ?_) (fun n => u0 (g (fun m => n m.2.2.2)))
  have q := fun w2 x f => q w2 x f ⟨by omega, p1, p2, p3, p4⟩
  obtain ⟨y1, y2⟩ := MP.2 a p1 p2
  obtain ⟨z1, z2, z3⟩ := oP.2.2 a p1 p2
  refine m_copy (Or.inl rfl) (Or.inr (Or.inl rfl)) (by decide) (M1.mh ok) (fun gf A => ?_)
  generalize hRES : runN c pl.2.2 (64 * a) (pl.2.1 a).toNat 0 h 0 = RES at q
  have q0 : qM c lm w1 (sB w1 91 gf) := MA.q ⟨gf, (m_aside M1.1 (M1.mh ok) (f := gf)).1.self⟩
  have s91 : ∀ (w' : Wd) (g2 : Int → Int32), qM c lm w1 w' → qM c lm w1 (sB w' 91 g2) := by
    intro w' g2 ⟨b1, b2, b3, b4, b5⟩
    exact ⟨b1.sB (by decide) g2, b2.fr rfl (gA_n w' (by decide) g2), (gA_n w' (by decide) g2).trans b3, (gA_n w' (by decide) g2).trans b4, b5⟩
  have hm' : ∀ w', qM c lm w1 w' → HM c lm w' := fun w' qq => (M1.q ok qq).1
  have fin : ∀ (i : Int) (w' : Wd), qM c lm w1 w' → 0 ≤ i → i ≤ pl.2.1 a → RES.1 = i → b_X3_run_130 Q (iz a) (iz v) (iz i) (iz RES.2) w' := by
    intro i w' qq i0 i1 eR
    unfold b_X3_run_130
    have q := q _ (M1.q ok qq) (f1.trans qq.1)
    have e84 := qq.1.2.2.2.1 a (by omega)
    rw [iz_toInt (by omega) (by omega), e84, y1]
    unfold rOut at q
    refine brn (iz_eq hv1.1 hv1.2 (by decide) (by decide)) (fun e => ⟨iz_inb (by omega) (by omega) (by omega), ?_⟩) (fun e => ?_)
    · rw [if_neg e] at q
      refine brn (iz_eq (by omega) (by omega) (by omega) (by omega)) (fun e2 => ?_) (fun e2 => ?_)
      · rw [if_neg (by omega), eR] at q
        exact q
      · rw [if_pos (by omega)] at q
        exact q
    · rw [if_pos e] at q
      exact q
  refine lpe (fun n (s : Int32 × Int32 × Wd) => lp_X3_run_50 Q (iz a) (iz v) n s.1 s.2.1 s.2.2) (fun R s => wl_X3_run_50 Q (iz a) (iz v) (fun x y z => R (x, y, z)) s.1 s.2.1 s.2.2) (fun _ _ h => h) (fun i s => 0 ≤ i ∧ ∃ h' e' w', s = (iz i, iz e', w') ∧ MH c 91 h' w' ∧ qM c lm w1 w' ∧ runN c pl.2.2 (64 * a) (pl.2.1 a - i).toNat i h' e' = RES) (pl.2.1 a) 0 (iz 0, iz 0, sB w1 91 gf) (by omega) ⟨by decide, h, 0, _, rfl, ⟨ok.oh, by rw [gA_r]; exact A⟩, q0, by rw [Int.sub_zero]; exact hRES⟩ ?_
  rintro R _ i hi ⟨hi0, h', e', w', rfl, G', qq, er⟩ kk
  refine ⟨iz_inb p1 (by omega) (by omega), ?_⟩
  have e84 := qq.1.2.2.2.1 a (by omega)
  rw [iz_toInt (by omega) (by omega), e84, y1]
  refine br (iz_le (by omega) (by omega) (by omega) (by omega)) (fun e => ?_) (fun e => ?_)
  · obtain rfl : i = pl.2.1 a := by omega
    rw [Int.sub_self] at er
    have er : (pl.2.1 a, e') = RES := er
    rw [← er] at fin
    exact fin _ w' qq hi0 hi rfl
  · have kk := kk (by omega)
    rw [show (pl.2.1 a - i).toNat = (pl.2.1 a - (i + 1)).toNat + 1 by omega] at er
    have Pw : ∀ w2, qM c lm w1 w2 → PA pl.2.2 (gA w2 83) (64 * a + 4 * i) := fun w2 q2 => (PA_of (p := pl) y2 hi0 (by omega)).qx (by omega) q2.1.2.2.1
    have S := z3 i hi0 (by omega)
    rw [iz_mul, iz_add, iz_mul, show 4 * (16 * a + i) = 64 * a + 4 * i by omega]
    have b0 : 0 ≤ 64 * a + 4 * i := by omega
    have b1 : 64 * a + 4 * i ≤ 316 := by omega
    generalize hT : 64 * a + 4 * i = T at Pw S b0 b1
    refine m_canStep (hm' w' qq) M91 G' (Pw w' qq) S b0 b1 (fun may => t1 ?_) (fun n => t0 ?_)
    · rw [runN_t (by rw [hT]; exact may), hT] at er
      have tb : 0 ≤ tms pl.2.2 T ∧ tms pl.2.2 T ≤ 99 := by
        unfold tms
        obtain ⟨s0, s1, s2, s3, s4⟩ := S
        split <;> omega
      refine lpe (fun n (s : Int32 × Int32 × Wd) => lp_X3_run_92 Q (fun x y z => R (x, y, z)) (iz a) (iz v) (iz i) (iz T) n s.1 s.2.1 s.2.2) (fun R2 s => wl_X3_run_92 Q (fun x y z => R (x, y, z)) (iz a) (iz v) (iz i) (iz T) (fun x y z => R2 (x, y, z)) s.1 s.2.1 s.2.2) (fun _ _ h => h) (fun j s => 0 ≤ j ∧ ∃ w2, s = (iz (e' + stE c h' pl.2.2 T j), iz j, w2) ∧ MH c 91 (stH c h' pl.2.2 T j) w2 ∧ qM c lm w1 w2) (tms pl.2.2 T) 0 (iz e', iz 0, w') tb.1 ⟨by decide, w', by rw [(st_0 c h' pl.2.2 T).2, Int.add_zero], by rw [(st_0 c h' pl.2.2 T).1]; exact G', qq⟩ ?_
      rintro R2 _ j hj ⟨hj0, w2, rfl, G2, qq2⟩ k2
      refine m_timesOf (Pw w2 qq2) S b0 b1 ?_
      refine br (iz_le (by have := tb.1; unfold tms at this; omega) (by have := tb.2; unfold tms at this; omega) (by omega) (by omega)) (fun e5 => ?_) (fun e5 => ?_)
      · have e5 : tms pl.2.2 T ≤ j := e5
        obtain rfl : j = tms pl.2.2 T := by omega
        obtain ⟨v1, v2⟩ := st_e c h' pl.2.2 T
        rw [v1] at G2
        rw [v2, iz_add]
        exact kk _ ⟨by omega, _, _, w2, rfl, G2, qq2, er⟩
      · have e5 : ¬ tms pl.2.2 T ≤ j := e5
        have k2 := k2 (by omega)
        obtain ⟨v1, v2⟩ := st_s c h' pl.2.2 T hj0 (by omega)
        obtain ⟨o1, o2⟩ := st_ok ok.1 G'.1 S may hj0 hj
        obtain ⟨o3, -⟩ := st_ok ok.1 G'.1 S may (j := j + 1) (by omega) (by omega)
        refine m_steps (hm' w2 qq2) M91 G2 (Pw w2 qq2) S b0 b1 ?_ (fun w3 g3 ms A3 => ?_)
        · by_cases e6 : pl.2.2 T = 3
          · exact Or.inl ⟨e6, o2 e6 (by omega)⟩
          · refine Or.inr ⟨e6, ?_⟩
            have j00 : j = 0 := by
              have : tms pl.2.2 T = 1 := if_neg e6
              omega
            rw [j00, (st_0 c h' pl.2.2 T).1]
            exact may
        · have e7 : eatSt c (stH c h' pl.2.2 T j) pl.2.2 T = (if pl.2.2 T = 3 then 0 else eatSt c (stH c h' pl.2.2 T j) pl.2.2 T) := by
            split
            · rename_i e8
              unfold eatSt
              rw [if_neg (by omega)]
            · rfl
          rw [e7, iz_add, iz_add, Int.add_assoc, v2]
          rw [v1] at A3
          refine k2 _ ⟨by omega, _, rfl, ⟨o3, by rw [gA_r]; exact A3⟩, s91 w3 g3 (qq2.trans ms.q)⟩
    · rw [runN_f (by rw [hT]; exact n)] at er
      rw [← er] at fin
      exact fin i w' qq hi0 hi rfl
end RU2
theorem op_run {z : Nat} {w : Wd} {C : Int32 → Wd → Prop} (I : INV z w) (u v : Int32) (q : ∀ r1 w2, (∀ K : Int32 → Wd → Prop, (∀ w', INV z w' → K r1 w') → wp_X3_run u v w2 K) → C r1 w2) : wp_X1_run u v w C := by
  obtain ⟨a, a1, a2, rfl⟩ := ex_iz u
  obtain ⟨b, b1, b2, rfl⟩ := ex_iz v
  obtain ⟨c, lm, h, k, im, hv, tp, pl, pk, fn, ok, X, M, hz⟩ := I
  refine x_run' X ok ⟨a1, a2⟩ ⟨b1, b2⟩ (fun w2 X2 f2 may => q _ _ (fun K kk => ?_)) (fun n => q _ _ (fun K kk => ?_))
  · exact m_run' (M.fr f2) ok ⟨a1, a2⟩ ⟨b1, b2⟩ (fun w4 M4 f4 _ => kk _ (inv_end ok X2 f4 M4 (f2.z0 hz))) (fun n => absurd may n)
  · exact m_run' M ok ⟨a1, a2⟩ ⟨b1, b2⟩ (fun _ _ _ may => absurd may n) (fun _ w4 M4 f4 => kk _ (inv_end ok X f4 M4 hz))
