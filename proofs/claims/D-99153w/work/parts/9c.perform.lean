/-! the plans, performed, on both sides -/
def stPK (c : Cf) (h : Hs) (k : Ks) (f : Int → Int) (t j : Int) : Hs × Ks := if f t = 3 then goM c j.toNat (h, k) else if j = 0 then (h, k) else (doSt c h f t, kPush k h)
noncomputable def prfN (c : Cf) (f : Int → Int) (b : Int) : Nat → Int → Hs → Ks → Int × Hs × Ks
  | 0, i, h, k => (i, h, k)
  | n + 1, i, h, k => (haveI := Classical.propDecidable (maySt c h f (b + 4 * i)); if maySt c h f (b + 4 * i) then prfN c f b n (i + 1) (stPK c h k f (b + 4 * i) (tms f (b + 4 * i))).1 (stPK c h k f (b + 4 * i) (tms f (b + 4 * i))).2 else (i, h, k))
theorem prfN_t {c : Cf} {f : Int → Int} {b : Int} {n : Nat} {i : Int} {h : Hs} {k : Ks} (m : maySt c h f (b + 4 * i)) : prfN c f b (n + 1) i h k = prfN c f b n (i + 1) (stPK c h k f (b + 4 * i) (tms f (b + 4 * i))).1 (stPK c h k f (b + 4 * i) (tms f (b + 4 * i))).2 := by
  rw [prfN]
  simp only [if_pos m]
theorem prfN_f {c : Cf} {f : Int → Int} {b : Int} {n : Nat} {i : Int} {h : Hs} {k : Ks} (m : ¬ maySt c h f (b + 4 * i)) : prfN c f b (n + 1) i h k = (i, h, k) := by
  rw [prfN]
  simp only [if_neg m]
theorem pk_0 (c : Cf) (h : Hs) (k : Ks) (f : Int → Int) (t : Int) : stPK c h k f t 0 = (h, k) := by
  unfold stPK
  split
  · rfl
  · rfl
theorem may3 {c : Cf} {h : Hs} {f : Int → Int} {t : Int} (may : maySt c h f t) (e : f t = 3) : mayGo c h (f (t + 1)) 9 := by
  rcases may with m | m | m | m | m
  · exact absurd m.1 (by omega)
  · exact absurd m.1 (by omega)
  · exact absurd m.1 (by omega)
  · exact m.2
  · exact absurd m.1 (by omega)
theorem pk_ok {c : Cf} {h : Hs} {k : Ks} {f : Int → Int} {t : Int} (H : CfOK c) (G : HsOK c h) (K : KOK c k) (S : stepOK f t) (may : maySt c h f t) {j : Int} (j0 : 0 ≤ j) (j1 : j ≤ tms f t) : HsOK c (stPK c h k f t j).1 ∧ KOK c (stPK c h k f t j).2 ∧ (f t = 3 → j < tms f t → hm (stPK c h k f t j).1 < 999) := by
  unfold tms at j1 ⊢
  unfold stPK
  by_cases e : f t = 3
  · simp only [if_pos e] at j1 ⊢
    obtain ⟨p1, p2, p3, p4⟩ := may3 may e
    obtain ⟨g1, g2, g3⟩ := goM_ok (c := c) (s := (h, k)) G K j.toNat (by show hm h + _ ≤ 999; omega)
    exact ⟨g1, g2, fun _ j2 => by rw [g3]; show hm h + _ < 999; omega⟩
  · simp only [if_neg e]
    by_cases e2 : j = 0
    · simp only [if_pos e2]
      exact ⟨G, K, fun z => absurd z e⟩
    · simp only [if_neg e2]
      exact ⟨doSt_ok H G S may, kPush_ok K G, fun z => absurd z e⟩
theorem pk_s (c : Cf) (h : Hs) (k : Ks) (f : Int → Int) (t : Int) {j : Int} (j0 : 0 ≤ j) (j1 : j < tms f t) : ((if f t = 3 then hPass c (stPK c h k f t j).1 else doSt c (stPK c h k f t j).1 f t), kPush (stPK c h k f t j).2 (stPK c h k f t j).1) = stPK c h k f t (j + 1) := by
  unfold tms at j1
  unfold stPK
  by_cases e : f t = 3
  · simp only [if_pos e]
    rw [show (j + 1).toNat = j.toNat + 1 by omega, goM]
  · simp only [if_neg e] at j1 ⊢
    obtain rfl : j = 0 := by omega
    simp
def pMay (c : Cf) (pl : Pl) (a : Int) : Prop := 0 < cK c ∧ 0 ≤ a ∧ a < pl.1
section PF
variable {c : Cf} {lm : Int} {h : Hs} {k : Ks} {im : Int × Hs} {hv : Int} {tp : Tp} {pl : Pl} {pk : Pk} {fn : Fnd} {w : Wd} {z : Nat} {Q : Int32 → Wd → Prop}
theorem x_perform' (X : SX c lm h k im hv tp pl pk fn w) (ok : SOK c lm h k im hv tp pl pk fn) {a : Int} (ha : VR a) {RES : Int × Hs × Ks} (hRES : RES = prfN c pl.2.2 (64 * a) (pl.2.1 a).toNat 0 h k) (q : ∀ w2, SX c lm RES.2.1 RES.2.2 im hv tp pl pk fn w2 → HsOK c RES.2.1 → KOK c RES.2.2 → fX 0 w w2 → pMay c pl a → Q (iz RES.1) w2) (g : ¬ pMay c pl a → Q (iz (-1)) w) : wp_X1_perform (iz a) w Q := by
  unfold wp_X1_perform
  have oP := ok.2.2.2.2.2.2.2.2.2.2.1
  have XP := X.2.2.2.2.2.2.2.2.2.2.2.2.2.1
  have pl4 := oP.2.1
  refine x_isHouse (X.hx ok) (fun p0 => t1 ?_) (fun n => t0 (g (fun m => by have := m.1; omega)))
  refine x_isPlan XP oP ha (fun p1 p2 => u1 ?_) (fun n => u0 (g (fun m => n ⟨m.2.1, m.2.2⟩)))
  have q := fun w2 x o1 o2 f => q w2 x o1 o2 f ⟨p0, p1, p2⟩
  obtain ⟨z1, z2, z3⟩ := oP.2.2 a p1 p2
  refine lpe (fun n (s : Int32 × Wd) => lp_X1_perform_19 Q (iz a) n s.1 s.2) (fun R s => wl_X1_perform_19 Q (iz a) (fun x y => R (x, y)) s.1 s.2) (fun _ _ h => h) (fun i s => 0 ≤ i ∧ ∃ h' k' w', s = (iz i, w') ∧ SX c lm h' k' im hv tp pl pk fn w' ∧ HsOK c h' ∧ KOK c k' ∧ fX 0 w w' ∧ prfN c pl.2.2 (64 * a) (pl.2.1 a - i).toNat i h' k' = RES) (pl.2.1 a) 0 (iz 0, w) (by omega) ⟨by decide, h, k, w, rfl, X, ok.oh, ok.okk, fX.refl w, by rw [Int.sub_zero, hRES]⟩ ?_
  rintro R _ i hi ⟨hi0, h', k', w', rfl, X', o1, o2, f', er⟩ kk
  have ok' : SOK c lm h' k' im hv tp pl pk fn := ok.hk o1 o2
  have H' := X'.hx ok'
  obtain ⟨y1, y2⟩ := X'.2.2.2.2.2.2.2.2.2.2.2.2.2.1.2 a p1 p2
  refine ⟨iz_inb p1 (by omega) (by omega), ?_⟩
  rw [iz_toInt (by omega) (by omega), y1]
  refine br (iz_le (by omega) (by omega) (by omega) (by omega)) (fun e => ?_) (fun e => ?_)
  · obtain rfl : i = pl.2.1 a := by omega
    rw [Int.sub_self] at er
    have er : (pl.2.1 a, h', k') = RES := er
    rw [← er] at q
    exact q w' X' o1 o2 f'
  · have kk := kk (by omega)
    rw [show (pl.2.1 a - i).toNat = (pl.2.1 a - (i + 1)).toNat + 1 by omega] at er
    have P : PA pl.2.2 (gA w' 24) (64 * a + 4 * i) := PA_of (p := pl) y2 hi0 (by omega)
    have S := z3 i hi0 (by omega)
    rw [iz_mul, iz_add, iz_mul, show 4 * (16 * a + i) = 64 * a + 4 * i by omega]
    refine x_canStep H' P S (by omega) (by omega) (fun may => t1 ?_) (fun n => t0 ?_)
    · rw [prfN_t may] at er
      obtain ⟨j1, j2, -⟩ := pk_ok ok.1 o1 o2 S may (j := tms pl.2.2 (64 * a + 4 * i)) (by unfold tms; split; have := S.2.2.1; exact this; decide) (Int.le_refl _)
      obtain ⟨e0, e1, -⟩ := P.e (by omega) (by omega)
      obtain ⟨i0, i1, -⟩ := in320 (t := 64 * a + 4 * i) (by omega) (by omega)
      obtain ⟨s0, s1, s2, s3, s4, -⟩ := S
      refine ⟨i0, ?_⟩
      rw [e0, e1, iz_add]
      refine brn (iz_eq (by omega) (by omega) (by decide) (by decide)) (fun e3 => ?_) (fun e3 => ⟨i1, ?_⟩)
      · refine x_act' X' ok' (fun w2 X2 f2 => ?_)
        have P2 : PA pl.2.2 (gA w2 24) (64 * a + 4 * i) := PA_of (p := pl) (X2.2.2.2.2.2.2.2.2.2.2.2.2.2.1.2 a p1 p2).2 hi0 (by omega)
        refine x_doStep (X2.hx ok'.push) P2 (z3 i hi0 (by omega)) (by omega) (by omega) may (fun f3 g3 A => ?_)
        have eS : stPK c h' k' pl.2.2 (64 * a + 4 * i) (tms pl.2.2 (64 * a + 4 * i)) = (doSt c h' pl.2.2 (64 * a + 4 * i), kPush k' h') := by
          unfold stPK tms
          rw [if_neg e3, if_neg e3, if_neg (by decide)]
        rw [eS] at er j1 j2
        exact kk _ ⟨by omega, _, _, _, rfl, (X2.s15 ok'.push f3).now ok'.push A, j1, j2, (((f'.tr0 f2).sB (a := 15) (by decide) f3).sB (a := 31) (by decide) g3), er⟩
      · obtain ⟨p5, p6, p7, p8⟩ := may3 may e3
        have eS : stPK c h' k' pl.2.2 (64 * a + 4 * i) (tms pl.2.2 (64 * a + 4 * i)) = goM c (pl.2.2 (64 * a + 4 * i + 1)).toNat (h', k') := by
          unfold stPK tms
          rw [if_pos e3, if_pos e3]
        rw [eS] at er j1 j2
        refine x_months' X' ok' (by omega) (fun _ w2 X2 f2 => ?_) (fun n => absurd ⟨p5, p6, by omega, p8⟩ n)
        exact kk _ ⟨by omega, _, _, w2, rfl, X2, j1, j2, f'.tr0 f2, er⟩
    · rw [prfN_f n] at er
      rw [← er] at q
      exact q w' X' o1 o2 f'
theorem m_perform' (M : SM c lm h k im hv tp pl pk fn w) (ok : SOK c lm h k im hv tp pl pk fn) {a : Int} (ha : VR a) {RES : Int × Hs × Ks} (hRES : RES = prfN c pl.2.2 (64 * a) (pl.2.1 a).toNat 0 h k) (q : ∀ w2, SM c lm RES.2.1 RES.2.2 im hv tp pl pk fn w2 → fM w w2 → pMay c pl a → Q (iz RES.1) w2) (g : ¬ pMay c pl a → ∀ w2, SM c lm h k im hv tp pl pk fn w2 → fM w w2 → Q (iz (-1)) w2) : wp_X3_perform (iz a) w Q := by
  unfold wp_X3_perform
  rintro w1 rfl
  obtain ⟨M1, f1⟩ := M.thr ok (iz 0)
  generalize sI w 60 (iz 0) = w1 at M1 f1
  have g := fun n => g n w1 M1 f1
  have oP := ok.2.2.2.2.2.2.2.2.2.2.1
  have MP := M1.2.2.2.2.2.2.2.2.2.1
  have pl4 := oP.2.1
  have k0 := ok.1.1
  have k6 := ok.1.2.1
  refine m_isPlan MP oP ha (fun p1 p2 => t1 ?_) (fun n => t0 (g (fun m => n ⟨m.2.1, m.2.2⟩)))
  rw [M1.1.2.1]
  refine brn (iz_eq (by omega) (by omega) (by decide) (by decide)) (fun e0 => ?_) (fun e => g (fun m => by have := m.1; omega))
  have q := fun w2 x f => q w2 x f ⟨by omega, p1, p2⟩
  obtain ⟨z1, z2, z3⟩ := oP.2.2 a p1 p2
  refine lpe (fun n (s : Int32 × Wd) => lp_X3_perform_24 Q (iz a) n s.1 s.2) (fun R s => wl_X3_perform_24 Q (iz a) (fun x y => R (x, y)) s.1 s.2) (fun _ _ h => h) (fun i s => 0 ≤ i ∧ ∃ h' k' w', s = (iz i, w') ∧ SM c lm h' k' im hv tp pl pk fn w' ∧ HsOK c h' ∧ KOK c k' ∧ fM w w' ∧ prfN c pl.2.2 (64 * a) (pl.2.1 a - i).toNat i h' k' = RES) (pl.2.1 a) 0 (iz 0, w1) (by omega) ⟨by decide, h, k, w1, rfl, M1, ok.oh, ok.okk, f1, by rw [Int.sub_zero, hRES]⟩ ?_
  rintro R _ i hi ⟨hi0, h', k', w', rfl, M', o1, o2, f', er⟩ kk
  have ok' : SOK c lm h' k' im hv tp pl pk fn := ok.hk o1 o2
  obtain ⟨y1, y2⟩ := M'.2.2.2.2.2.2.2.2.2.1.2 a p1 p2
  refine ⟨iz_inb p1 (by omega) (by omega), ?_⟩
  rw [iz_toInt (by omega) (by omega), y1]
  refine br (iz_le (by omega) (by omega) (by omega) (by omega)) (fun e => ?_) (fun e => ?_)
  · obtain rfl : i = pl.2.1 a := by omega
    rw [Int.sub_self] at er
    have er : (pl.2.1 a, h', k') = RES := er
    rw [← er] at q
    exact q w' M' f'
  · have kk := kk (by omega)
    rw [show (pl.2.1 a - i).toNat = (pl.2.1 a - (i + 1)).toNat + 1 by omega] at er
    have Pw : ∀ {h2 : Hs} {k2 : Ks} (w2 : Wd), SM c lm h2 k2 im hv tp pl pk fn w2 → PA pl.2.2 (gA w2 83) (64 * a + 4 * i) := fun w2 M2 => PA_of (p := pl) (M2.2.2.2.2.2.2.2.2.2.1.2 a p1 p2).2 hi0 (by omega)
    have S := z3 i hi0 (by omega)
    rw [iz_mul, iz_add, iz_mul, show 4 * (16 * a + i) = 64 * a + 4 * i by omega]
    have b0 : 0 ≤ 64 * a + 4 * i := by omega
    have b1 : 64 * a + 4 * i ≤ 316 := by omega
    generalize hT : 64 * a + 4 * i = T at Pw S b0 b1
    refine m_canStep M'.1 M90 (M'.mh ok') (Pw w' M') S b0 b1 (fun may => t1 ?_) (fun n => t0 ?_)
    · rw [prfN_t (by rw [hT]; exact may), hT] at er
      have tb : 0 ≤ tms pl.2.2 T ∧ tms pl.2.2 T ≤ 99 := by
        unfold tms
        obtain ⟨s0, s1, s2, s3, s4⟩ := S
        split <;> omega
      refine lpe (fun n (s : Int32 × Wd) => lp_X3_perform_65 Q (fun x y => R (x, y)) (iz a) (iz i) (iz T) n s.1 s.2) (fun R2 s => wl_X3_perform_65 Q (fun x y => R (x, y)) (iz a) (iz i) (iz T) (fun x y => R2 (x, y)) s.1 s.2) (fun _ _ h => h) (fun j s => 0 ≤ j ∧ ∃ w2, s = (iz j, w2) ∧ SM c lm (stPK c h' k' pl.2.2 T j).1 (stPK c h' k' pl.2.2 T j).2 im hv tp pl pk fn w2 ∧ fM w w2) (tms pl.2.2 T) 0 (iz 0, w') tb.1 ⟨by decide, w', rfl, by rw [pk_0]; exact M', f'⟩ ?_
      rintro R2 _ j hj ⟨hj0, w2, rfl, M2, f2⟩ k2
      obtain ⟨j1, j2, j3⟩ := pk_ok ok.1 o1 o2 S may hj0 hj
      refine m_timesOf (Pw w2 M2) S b0 b1 ?_
      refine br (iz_le (by have := tb.1; unfold tms at this; omega) (by have := tb.2; unfold tms at this; omega) (by omega) (by omega)) (fun e5 => ?_) (fun e5 => ?_)
      · have e5 : tms pl.2.2 T ≤ j := e5
        obtain rfl : j = tms pl.2.2 T := by omega
        rw [iz_add]
        exact kk _ ⟨by omega, _, _, w2, rfl, M2, j1, j2, f2, er⟩
      · have e5 : ¬ tms pl.2.2 T ≤ j := e5
        have k2 := k2 (by omega)
        have v1 := pk_s c h' k' pl.2.2 T hj0 (by omega)
        have ok2 : SOK c lm (stPK c h' k' pl.2.2 T j).1 (stPK c h' k' pl.2.2 T j).2 im hv tp pl pk fn := ok.hk j1 j2
        refine m_rem' M2 ok2 (fun w3 M3 f3 => ?_)
        refine m_steps M3.1 M90 (M3.mh ok2.push) (Pw w3 M3) S b0 b1 ?_ (fun w4 g4 ms A4 => ?_)
        · by_cases e6 : pl.2.2 T = 3
          · exact Or.inl ⟨e6, j3 e6 (by omega)⟩
          · refine Or.inr ⟨e6, ?_⟩
            have j00 : j = 0 := by
              have : tms pl.2.2 T = 1 := if_neg e6
              omega
            rw [j00, pk_0]
            exact may
        · rw [iz_add]
          refine k2 _ ⟨by omega, _, rfl, ?_, (f2.trans f3).trans (ms.1.f.sB (a := 90) (by decide) g4)⟩
          rw [← v1]
          exact (M3.q ok2.push ms.q).now ok2.push A4
    · rw [prfN_f (by rw [hT]; exact n)] at er
      rw [← er] at q
      exact q w' M' f'
end PF
theorem op_perform {z : Nat} {w : Wd} {C : Int32 → Wd → Prop} (I : INV z w) (u : Int32) (q : ∀ r1 w2, (∀ K : Int32 → Wd → Prop, (∀ w', INV z w' → K r1 w') → wp_X3_perform u w2 K) → C r1 w2) : wp_X1_perform u w C := by
  obtain ⟨a, a1, a2, rfl⟩ := ex_iz u
  obtain ⟨c, lm, h, k, im, hv, tp, pl, pk, fn, ok, X, M, hz⟩ := I
  refine x_perform' X ok ⟨a1, a2⟩ (RES := prfN c pl.2.2 (64 * a) (pl.2.1 a).toNat 0 h k) rfl (fun w2 X2 o1 o2 f2 may => q _ _ (fun K kk => ?_)) (fun n => q _ _ (fun K kk => ?_))
  · exact m_perform' (M.fr f2) ok ⟨a1, a2⟩ rfl (fun w4 M4 f4 _ => kk _ (inv_end (ok.hk o1 o2) X2 f4 M4 (f2.z0 hz))) (fun n => absurd may n)
  · exact m_perform' M ok ⟨a1, a2⟩ rfl (fun _ _ _ may => absurd may n) (fun _ w4 M4 f4 => kk _ (inv_end ok X f4 M4 hz))
