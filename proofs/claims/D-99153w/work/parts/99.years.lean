/-! the years, both sides joined -/
section YR
variable {c : Cf} {lm : Int} {h h' : Hs} {k k' : Ks} {im : Int × Hs} {hv : Int} {tp : Tp} {pl : Pl} {pk : Pk} {fn : Fnd} {w w' w'' : Wd} {z : Nat}
theorem SX.sj (X : SX c lm h k im hv tp pl pk fn w) (ok : SOK c lm h k im hv tp pl pk fn) (v : Int64) : SX c lm h k im hv tp pl pk fn (sJ w 34 v) := X.deed ok ((fX.refl w).sJ v) X.2.2.2.2.2.2.1 X.2.2.2.2.2.2.2.1 X.2.2.2.2.2.2.2.2.1
theorem SM.sj (M : SM c lm h k im hv tp pl pk fn w) (ok : SOK c lm h k im hv tp pl pk fn) (v : Int64) : SM c lm h k im hv tp pl pk fn (sJ w 98 v) := M.deed ok ((fM.refl w).sJ v) (M.1.2.2.2.2.2.2.1.fr rfl rfl) M.2.2.1 M.2.2.2.1 M.2.2.2.2.1
theorem x_actJ {Q : Wd → Prop} (X : SX c lm h k im hv tp pl pk fn w) (ok : SOK c lm h k im hv tp pl pk fn) (q : ∀ w2, SX c lm h (kPush k h) im hv tp pl pk fn w2 → fX 0 w w2 → gJ w2 = gJ w → Q w2) : wp_X1_act w Q := by
  refine x_act (X.hx ok) ok.okk X.2.2.2.2.2.2.2.1 X.2.2.2.2.2.2.2.2.1 (fun f F => ?_)
  have f2 : fX 0 w (sI (sB w 32 f) 33 (iz (kPush k h).1)) := ((fX.refl w).sB (a := 32) (by decide) f).sI (k := 33) (by decide) _
  refine q _ (X.deed ok f2 ?_ ?_ ?_) f2 rfl
  · have : gA (sI (sB w 32 f) 33 (iz (kPush k h).1)) 31 = gA w 31 := gA_n w (by decide) f
    rw [this]
    exact X.2.2.2.2.2.2.1
  · rw [gI_sI, if_pos rfl]
  · have : gA (sI (sB w 32 f) 33 (iz (kPush k h).1)) 32 = f := gA_r w 32 f
    rw [this]
    exact F
theorem m_remJ {Q : Wd → Prop} (M : SM c lm h k im hv tp pl pk fn w) (ok : SOK c lm h k im hv tp pl pk fn) (q : ∀ w2, SM c lm h (kPush k h) im hv tp pl pk fn w2 → fM w w2 → gJ w2 = gJ w → Q w2) : wp_X3_remember w Q := by
  refine m_remember (M.mh ok) ok.okk M.2.2.2.1 M.2.2.2.2.1 (fun f F => ?_)
  have f2 : fM w (sI (sB w 96 f) 97 (iz (kPush k h).1)) := ((fM.refl w).sB (a := 96) (by decide) f).sI (k := 97) (by decide) _
  have n : ∀ a, a ≠ 96 → gA (sI (sB w 96 f) 97 (iz (kPush k h).1)) a = gA w a := fun a e => gA_n w e f
  refine q _ (M.deed ok f2 (M.1.2.2.2.2.2.2.1.fr rfl (n 95 (by decide))) ?_ ?_ ?_) f2 rfl
  · rw [n 90 (by decide)]
    exact M.2.2.1
  · rw [gI_sI, if_pos rfl]
  · have : gA (sI (sB w 96 f) 97 (iz (kPush k h).1)) 96 = f := gA_r w 96 f
    rw [this]
    exact F
theorem vr_lt {v m : Int} (h1 : 0 ≤ v) (h2 : v < m) (h3 : m ≤ 1000) : VR v ∧ VR (v + 1) := by omega
theorem x_yr89 {Q : Int32 → Wd → Prop} {R : Int32 → Wd → Prop} {a i : Int} {s : Int64} (X : SX c lm h k im hv tp pl pk fn w) (ok : SOK c lm h k im hv tp pl pk fn) (hs : gJ w 34 = s) (m9 : hm h < 999) (q : ∀ w', SX c lm (hPass c (yrEat c h (drv (nxS s) 2))) k im hv tp pl pk fn w' → fX 0 w w' → gJ w' 34 = nxS s → R (iz (i + 1)) w') : b_X1_years_89 Q R (iz a) (iz i) w := by
  unfold b_X1_years_89
  refine x_draw (by decide) (by decide) ?_
  rw [hs]
  obtain ⟨v0, v2, ev⟩ := drv_bd (nxS s) (m := 2) (by decide) (by decide)
  rw [ev]
  have X1 := X.sj ok (nxS s)
  have f1 : fX 0 w (sJ w 34 (nxS s)) := (fX.refl w).sJ (nxS s)
  have j1 : gJ (sJ w 34 (nxS s)) 34 = nxS s := gJ_sJs _ _ _
  generalize sJ w 34 (nxS s) = w1 at X1 f1 j1
  unfold yrEat at q
  have n0 := ok.oh.1
  have n8 := ok.oh.2.1
  refine x_boxMany (X1.hx ok) (br (iz_le (by omega) (by omega) (by decide) (by decide)) (fun e => ?_) (fun e => ?_))
  · rw [if_pos (by omega)] at q
    refine x_pass (X1.hx ok) m9 (fun g A => ?_)
    rw [iz_add]
    exact q _ (X1.now ok A) (f1.sB (by decide) g) j1
  · rw [if_neg (by omega)] at q
    have tk : ∀ t : Int, t = (if drv (nxS s) 2 = 0 then 0 else hn h - 1) → b_X1_years_119 Q R (iz a) (iz i) (iz t) w1 := by
      intro t ht
      rw [← ht] at q
      have t0 : 0 ≤ t ∧ t < hn h := by
        rw [ht]
        split <;> omega
      refine x_takeNow (X1.hx ok) t0.1 t0.2 (fun f g A => ?_)
      have okP : SOK c lm (hTake c h t) k im hv tp pl pk fn := ok.hk (hTake_ok ok.oh t0.1 t0.2) ok.okk
      have X3 : SX c lm (hTake c h t) k im hv tp pl pk fn (sB (sB w1 15 f) 31 g) := (X1.s15 ok f).now ok A
      refine x_pass (X3.hx okP) m9 (fun g2 A2 => ?_)
      rw [iz_add]
      exact q _ (X3.now okP A2) (((f1.sB (a := 15) (by decide) f).sB (a := 31) (by decide) g).sB (a := 31) (by decide) g2) j1
    refine brn (iz_eq (by omega) (by omega) (by decide) (by decide)) (fun e2 => x_boxMany (X1.hx ok) ?_) (fun e2 => tk 0 (by rw [if_pos e2]))
    rw [iz_sub]
    exact tk (hn h - 1) (by rw [if_neg e2])
theorem m_yr107 {Q : Int32 → Wd → Prop} {R : Int32 → Wd → Prop} {a i : Int} {s : Int64} (M : SM c lm h k im hv tp pl pk fn w) (ok : SOK c lm h k im hv tp pl pk fn) (hs : gJ w 98 = s) (m9 : hm h < 999) (q : ∀ w', SM c lm (hPass c (yrEat c h (drv (nxS s) 2))) k im hv tp pl pk fn w' → fM w w' → gJ w' 98 = nxS s → R (iz (i + 1)) w') : b_X3_years_107 Q R (iz a) (iz i) w := by
  unfold b_X3_years_107
  refine m_draw (by decide) (by decide) ?_
  rw [hs]
  obtain ⟨v0, v2, ev⟩ := drv_bd (nxS s) (m := 2) (by decide) (by decide)
  rw [ev]
  have M1 := M.sj ok (nxS s)
  have f1 : fM w (sJ w 98 (nxS s)) := (fM.refl w).sJ (nxS s)
  have j1 : gJ (sJ w 98 (nxS s)) 98 = nxS s := gJ_sJs _ _ _
  generalize sJ w 98 (nxS s) = w1 at M1 f1 j1
  unfold yrEat at q
  have n0 := ok.oh.1
  have n8 := ok.oh.2.1
  have e40 := M1.2.2.1.1
  rw [Int.zero_add] at e40
  refine ⟨in90 (by decide) (by decide), ?_⟩
  rw [iz_toInt (by decide) (by decide), e40]
  refine brn (iz_eq (by omega) (by omega) (by decide) (by decide)) (fun e => ?_) (fun e => ?_)
  · rw [if_neg e] at q
    have tk : ∀ t : Int, t = (if drv (nxS s) 2 = 0 then 0 else hn h - 1) → wp_X3_eats 90 (iz t) w1 (fun r3 w4 => b_X3_years_154 Q R (iz a) (iz i) r3 w4) := by
      intro t ht
      rw [← ht] at q
      have t0 : 0 ≤ t ∧ t < hn h := by
        rw [ht]
        split <;> omega
      refine m_eats M1.1 M90 (M1.mh ok) t0.1 t0.2 (fun w6 g ms B => ?_)
      have okP : SOK c lm (hTake c h t) k im hv tp pl pk fn := ok.hk (hTake_ok ok.oh t0.1 t0.2) ok.okk
      have M3 := (M1.q ok ms.q).now ok B
      have j3 : gJ (sB w6 90 g) 98 = nxS s := by
        have : gJ w6 = gJ w1 := ms.1.2.2.1
        show gJ w6 98 = _
        rw [this]
        exact j1
      have f3 : fM w (sB w6 90 g) := (f1.trans ms.1.f).sB (by decide) g
      generalize sB w6 90 g = w7 at M3 j3 f3
      refine m_goMonth M3.1 M90 (M3.mh okP) m9 (fun g2 B2 => ?_)
      rw [iz_add]
      exact q _ (M3.now okP B2) (f3.sB (by decide) g2) j3
    refine brn (iz_eq (by omega) (by omega) (by decide) (by decide)) (fun e2 => ⟨in90 (by decide) (by decide), ?_⟩) (fun e2 => tk 0 (by rw [if_pos e2]))
    rw [iz_sub]
    exact tk (hn h - 1) (by rw [if_neg e2])
  · rw [if_pos e] at q
    refine m_goMonth M1.1 M90 (M1.mh ok) m9 (fun g B => ?_)
    rw [iz_add]
    exact q _ (M1.now ok B) (f1.sB (by decide) g) j1
theorem x_years' {Q : Int32 → Wd → Prop} (X : SX c lm h k im hv tp pl pk fn w) (ok : SOK c lm h k im hv tp pl pk fn) {a : Int} (ha : VR a) (sd : Int64) (f : mayGo c h a 60 → ∀ w2, SX c lm (yrs c hv a.toNat (h, k, sd)).1 (yrs c hv a.toNat (h, k, sd)).2.1 im hv tp pl pk fn w2 → fX 0 w w2 → Q (iz (hm h + a)) w2) (g : ¬ mayGo c h a 60 → Q (iz (-1)) w) : wp_X1_years (iz a) sd w Q := by
  unfold wp_X1_years
  refine x_canPass (X.hx ok) ha (fun may => u1 ?_) (fun n => u0 (g n))
  have f := f may
  obtain ⟨p1, p2, p3, p4⟩ := may
  have v0 := ok.2.2.2.2.2.2.2.1
  have v9 := ok.2.2.2.2.2.2.2.2.1
  have k6 := ok.1.2.1
  rintro w3 rfl
  refine lpe (fun n (s : Int32 × Wd) => lp_X1_years_18 Q (iz a) n s.1 s.2) (fun R s => wl_X1_years_18 Q (iz a) (fun x y => R (x, y)) s.1 s.2) (fun _ _ h => h) (fun i s => 0 ≤ i ∧ ∃ w', s = (iz i, w') ∧ SX c lm (yrs c hv i.toNat (h, k, sd)).1 (yrs c hv i.toNat (h, k, sd)).2.1 im hv tp pl pk fn w' ∧ fX 0 w w' ∧ gJ w' 34 = (yrs c hv i.toNat (h, k, sd)).2.2) a 0 (iz 0, sJ w 34 sd) (by omega) ⟨by decide, _, rfl, X.sj ok sd, (fX.refl w).sJ sd, gJ_sJs _ _ _⟩ ?_
  rintro R _ i hi ⟨hi0, w', rfl, X', f', j'⟩ kk
  have gk := yrs_ok (hv := hv) (s := (h, k, sd)) ok.1 ok.oh ok.okk i.toNat (by show hm h + _ ≤ 999; omega)
  have e3 : hm (yrs c hv i.toNat (h, k, sd)).1 = hm h + i := by
    rw [gk.2.2]
    show hm h + _ = _
    omega
  refine br (iz_le (by omega) (by omega) (by omega) (by omega)) (fun e => ⟨iz_inb (by decide) (by decide) (by decide), ?_⟩) (fun e => ?_)
  · obtain rfl : i = a := by omega
    have em := X'.2.2.2.2.2.2.1.2.1
    rw [Int.zero_add, e3] at em
    rw [iz_toInt (by decide) (by decide), em]
    exact f w' X' f'
  · have kk := kk (by omega)
    have en : yrs c hv (i + 1).toNat (h, k, sd) = (yrOne c hv (yrs c hv i.toNat (h, k, sd)).1 (yrs c hv i.toNat (h, k, sd)).2.2, kPush (yrs c hv i.toNat (h, k, sd)).2.1 (yrs c hv i.toNat (h, k, sd)).1, nxS (nxS (nxS (nxS (yrs c hv i.toNat (h, k, sd)).2.2)))) := by
      rw [show (i + 1).toNat = i.toNat + 1 by omega, yrs]
    rw [en] at kk
    generalize yrs c hv i.toNat (h, k, sd) = S at X' j' gk kk e3
    obtain ⟨hS, kS, s⟩ := S
    have gk1 : HsOK c hS := gk.1
    have gk2 : KOK c kS := gk.2.1
    have gk3 : hm hS = hm h + i := e3
    have X' : SX c lm hS kS im hv tp pl pk fn w' := X'
    have j' : gJ w' 34 = s := j'
    have ok' : SOK c lm hS kS im hv tp pl pk fn := ok.hk gk1 gk2
    have hi1 : 0 ≤ i + 1 := by omega
    have hm1 : hm hS < 999 := by omega
    have kk : ∀ w5, SX c lm (yrOne c hv hS s) (kPush kS hS) im hv tp pl pk fn w5 → fX 0 w w5 → gJ w5 34 = nxS (nxS (nxS (nxS s))) → R (iz (i + 1), w5) := fun w5 a b d => kk _ ⟨hi1, w5, rfl, a, b, d⟩
    have vh : VR hv := by omega
    have k1000 : cK c ≤ 1000 := by omega
    refine x_actJ X' ok' (fun w2 X2 f2 j2 => ?_)
    have k2 := X2.2.2.1
    rw [k2]
    refine x_draw p1 (by omega) ?_
    rw [j2, j']
    obtain ⟨a0, a2, ea⟩ := drv_bd (nxS s) (m := cK c) p1 (by omega)
    rw [ea]
    have va := (vr_lt a0 a2 k1000).1
    refine x_draw (by decide) (by decide) ?_
    rw [gJ_sJs]
    obtain ⟨b0, b2, eb⟩ := drv_bd (nxS (nxS s)) (m := 9) (by decide) (by decide)
    rw [eb]
    have vb := (vr_lt b0 b2 (by decide)).2
    refine x_draw (by decide) (by decide) ?_
    rw [gJ_sJs]
    obtain ⟨c0, c2, ec⟩ := drv_bd (nxS (nxS (nxS s))) (m := 10) (by decide) (by decide)
    rw [ec]
    have vc := (vr_lt c0 c2 (by decide)).1
    have X3 := ((X2.sj ok'.push (nxS s)).sj ok'.push (nxS (nxS s))).sj ok'.push (nxS (nxS (nxS s)))
    have f3 : fX 0 w (sJ (sJ (sJ w2 34 (nxS s)) 34 (nxS (nxS s))) 34 (nxS (nxS (nxS s)))) := (((f'.tr0 f2).sJ _).sJ _).sJ _
    have j3 : gJ (sJ (sJ (sJ w2 34 (nxS s)) 34 (nxS (nxS s))) 34 (nxS (nxS (nxS s)))) 34 = nxS (nxS (nxS s)) := gJ_sJs _ _ _
    generalize sJ (sJ (sJ w2 34 (nxS s)) 34 (nxS (nxS s))) 34 (nxS (nxS (nxS s))) = w3 at X3 f3 j3
    rw [X3.2.2.2.2.2.2.2.2.2.2.2.1, iz_add]
    have main : ∀ lab : Int, lab = lbV hv (drv (nxS (nxS (nxS s))) 10) → b_X1_years_66 Q (fun x y => R (x, y)) (iz a) (iz i) (iz (drv (nxS s) (cK c))) (iz (drv (nxS (nxS s)) 9 + 1)) (iz lab) w3 := by
      intro lab hlab
      have l01 : lab = 0 ∨ lab = 1 := by
        rw [hlab]
        exact lbV_01 _ _
      have rest : ∀ (h1 : Hs) (w4 : Wd), h1 = yrPut c hS hv s → SX c lm h1 (kPush kS hS) im hv tp pl pk fn w4 → fX 0 w w4 → gJ w4 34 = nxS (nxS (nxS s)) → b_X1_years_89 Q (fun x y => R (x, y)) (iz a) (iz i) w4 := by
        intro h1 w4 e1 X4 f4 j4
        obtain ⟨y1, y2⟩ := yrPut_ok ok.1 gk1 hv s
        rw [← e1] at y1 y2
        refine x_yr89 X4 (ok'.push.hk y1 ok'.push.okk) j4 (by rw [y2]; exact hm1) (fun w5 X5 f5 j5 => ?_)
        rw [e1] at X5
        refine kk w5 ?_ (f4.tr0 f5) j5
        unfold yrOne
        exact X5
      unfold b_X1_years_66
      refine x_canPut (X3.hx ok'.push) va vb (fun may => t1 ?_) (fun n => t0 (rest hS w3 ?_ X3 f3 j3))
      · have p5 : hn hS < 8 := by
          obtain ⟨q1, q2, q3, q4, q5, q6⟩ := may
          exact q5
        have ep : hPut hS (drv (nxS s) (cK c)) (drv (nxS (nxS s)) 9 + 1) lab = yrPut c hS hv s := by
          rw [hlab]
          exact (putIf_t _ may).symm
        refine x_putNow (X3.hx ok'.push) p5 l01 (fun g A => ?_)
        have X5 := X3.now ok'.push A
        have f5 : fX 0 w (sB w3 31 g) := f3.sB (a := 31) (by decide) g
        have j5 : gJ (sB w3 31 g) 34 = nxS (nxS (nxS s)) := (gJ_sB w3 31 g 34).trans j3
        exact rest _ _ ep X5 f5 j5
      · exact (putIf_f _ n).symm
    exact br (iz_le vh.1 vh.2 vc.1 vc.2) (fun e2 => main 0 (lbV_0 e2)) (fun e2 => main 1 (lbV_1 e2))
theorem m_years' {Q : Int32 → Wd → Prop} (M : SM c lm h k im hv tp pl pk fn w) (ok : SOK c lm h k im hv tp pl pk fn) {a : Int} (ha : VR a) (sd : Int64) (f : mayGo c h a 60 → ∀ w2, SM c lm (yrs c hv a.toNat (h, k, sd)).1 (yrs c hv a.toNat (h, k, sd)).2.1 im hv tp pl pk fn w2 → fM w w2 → Q (iz (hm h + a)) w2) (g : ¬ mayGo c h a 60 → ∀ w2, SM c lm h k im hv tp pl pk fn w2 → fM w w2 → Q (iz (-1)) w2) : wp_X3_years (iz a) sd w Q := by
  unfold wp_X3_years
  rintro w0 rfl
  obtain ⟨M0, f0⟩ := M.thr ok (iz 0)
  generalize sI w 60 (iz 0) = w0 at M0 f0
  refine m_mayPass M0.1 M90 (M0.mh ok) ha (by decide) (by decide) (fun may => u1 ?_) (fun n => u0 (g n w0 M0 f0))
  have f := f may
  obtain ⟨p1, p2, p3, p4⟩ := may
  have v0 := ok.2.2.2.2.2.2.2.1
  have v9 := ok.2.2.2.2.2.2.2.2.1
  have k6 := ok.1.2.1
  rintro w3 rfl
  refine lpe (fun n (s : Int32 × Wd) => lp_X3_years_29 Q (iz a) n s.1 s.2) (fun R s => wl_X3_years_29 Q (iz a) (fun x y => R (x, y)) s.1 s.2) (fun _ _ h => h) (fun i s => 0 ≤ i ∧ ∃ w', s = (iz i, w') ∧ SM c lm (yrs c hv i.toNat (h, k, sd)).1 (yrs c hv i.toNat (h, k, sd)).2.1 im hv tp pl pk fn w' ∧ fM w w' ∧ gJ w' 98 = (yrs c hv i.toNat (h, k, sd)).2.2) a 0 (iz 0, sJ w0 98 sd) (by omega) ⟨by decide, _, rfl, M0.sj ok sd, f0.sJ sd, gJ_sJs _ _ _⟩ ?_
  rintro R _ i hi ⟨hi0, w', rfl, M', f', j'⟩ kk
  have gk := yrs_ok (hv := hv) (s := (h, k, sd)) ok.1 ok.oh ok.okk i.toNat (by show hm h + _ ≤ 999; omega)
  have e3 : hm (yrs c hv i.toNat (h, k, sd)).1 = hm h + i := by
    rw [gk.2.2]
    show hm h + _ = _
    omega
  refine br (iz_le (by omega) (by omega) (by omega) (by omega)) (fun e => ⟨in90 (by decide) (by decide), ?_⟩) (fun e => ?_)
  · obtain rfl : i = a := by omega
    have em := M'.2.2.1.2.1
    rw [Int.zero_add, e3] at em
    rw [iz_toInt (by decide) (by decide), em]
    exact f w' M' f'
  · have kk := kk (by omega)
    have en : yrs c hv (i + 1).toNat (h, k, sd) = (yrOne c hv (yrs c hv i.toNat (h, k, sd)).1 (yrs c hv i.toNat (h, k, sd)).2.2, kPush (yrs c hv i.toNat (h, k, sd)).2.1 (yrs c hv i.toNat (h, k, sd)).1, nxS (nxS (nxS (nxS (yrs c hv i.toNat (h, k, sd)).2.2)))) := by
      rw [show (i + 1).toNat = i.toNat + 1 by omega, yrs]
    rw [en] at kk
    generalize yrs c hv i.toNat (h, k, sd) = S at M' j' gk kk e3
    obtain ⟨hS, kS, s⟩ := S
    have gk1 : HsOK c hS := gk.1
    have gk2 : KOK c kS := gk.2.1
    have gk3 : hm hS = hm h + i := e3
    have M' : SM c lm hS kS im hv tp pl pk fn w' := M'
    have j' : gJ w' 98 = s := j'
    have ok' : SOK c lm hS kS im hv tp pl pk fn := ok.hk gk1 gk2
    have hi1 : 0 ≤ i + 1 := by omega
    have hm1 : hm hS < 999 := by omega
    have kk : ∀ w5, SM c lm (yrOne c hv hS s) (kPush kS hS) im hv tp pl pk fn w5 → fM w w5 → gJ w5 98 = nxS (nxS (nxS (nxS s))) → R (iz (i + 1), w5) := fun w5 a b d => kk _ ⟨hi1, w5, rfl, a, b, d⟩
    have vh : VR hv := by omega
    have k1000 : cK c ≤ 1000 := by omega
    refine m_remJ M' ok' (fun w2 M2 f2 j2 => ?_)
    have k2 := M2.1.2.1
    rw [k2]
    refine m_draw p1 (by omega) ?_
    rw [j2, j']
    obtain ⟨a0, a2, ea⟩ := drv_bd (nxS s) (m := cK c) p1 (by omega)
    rw [ea]
    have va := (vr_lt a0 a2 k1000).1
    refine m_draw (by decide) (by decide) ?_
    rw [gJ_sJs]
    obtain ⟨b0, b2, eb⟩ := drv_bd (nxS (nxS s)) (m := 9) (by decide) (by decide)
    rw [eb]
    have vb := (vr_lt b0 b2 (by decide)).2
    refine m_draw (by decide) (by decide) ?_
    rw [gJ_sJs]
    obtain ⟨c0, c2, ec⟩ := drv_bd (nxS (nxS (nxS s))) (m := 10) (by decide) (by decide)
    rw [ec]
    have vc := (vr_lt c0 c2 (by decide)).1
    have M3 := ((M2.sj ok'.push (nxS s)).sj ok'.push (nxS (nxS s))).sj ok'.push (nxS (nxS (nxS s)))
    have f3 : fM w (sJ (sJ (sJ w2 98 (nxS s)) 98 (nxS (nxS s))) 98 (nxS (nxS (nxS s)))) := (((f'.trans f2).sJ _).sJ _).sJ _
    have j3 : gJ (sJ (sJ (sJ w2 98 (nxS s)) 98 (nxS (nxS s))) 98 (nxS (nxS (nxS s)))) 98 = nxS (nxS (nxS s)) := gJ_sJs _ _ _
    generalize sJ (sJ (sJ w2 98 (nxS s)) 98 (nxS (nxS s))) 98 (nxS (nxS (nxS s))) = w3 at M3 f3 j3
    rw [M3.2.2.2.2.2.2.2.1, iz_add]
    have main : ∀ lab : Int, lab = lbV hv (drv (nxS (nxS (nxS s))) 10) → b_X3_years_77 Q (fun x y => R (x, y)) (iz a) (iz i) (iz (drv (nxS s) (cK c))) (iz (drv (nxS (nxS s)) 9 + 1)) (iz lab) w3 := by
      intro lab hlab
      have l01 : lab = 0 ∨ lab = 1 := by
        rw [hlab]
        exact lbV_01 _ _
      have rest : ∀ (h1 : Hs) (w4 : Wd), h1 = yrPut c hS hv s → SM c lm h1 (kPush kS hS) im hv tp pl pk fn w4 → fM w w4 → gJ w4 98 = nxS (nxS (nxS s)) → b_X3_years_107 Q (fun x y => R (x, y)) (iz a) (iz i) w4 := by
        intro h1 w4 e1 M4 f4 j4
        obtain ⟨y1, y2⟩ := yrPut_ok ok.1 gk1 hv s
        rw [← e1] at y1 y2
        refine m_yr107 M4 (ok'.push.hk y1 ok'.push.okk) j4 (by rw [y2]; exact hm1) (fun w5 M5 f5 j5 => ?_)
        rw [e1] at M5
        refine kk w5 ?_ (f4.trans f5) j5
        unfold yrOne
        exact M5
      unfold b_X3_years_77
      refine m_canPut M3.1 M90 (M3.mh ok'.push) va vb (fun may => t1 ?_) (fun n => t0 (rest hS w3 ?_ M3 f3 j3))
      · have p5 : hn hS < 8 := by
          obtain ⟨q1, q2, q3, q4, q5, q6⟩ := may
          exact q5
        have ep : hPut hS (drv (nxS s) (cK c)) (drv (nxS (nxS s)) 9 + 1) lab = yrPut c hS hv s := by
          rw [hlab]
          exact (putIf_t _ may).symm
        refine m_puts M90 (M3.mh ok'.push) p5 (fun g A => ?_)
        have M5 := M3.now ok'.push A
        have f5 : fM w (sB w3 90 g) := f3.sB (a := 90) (by decide) g
        have j5 : gJ (sB w3 90 g) 98 = nxS (nxS (nxS s)) := (gJ_sB w3 90 g 98).trans j3
        exact rest _ _ ep M5 f5 j5
      · exact (putIf_f _ n).symm
    exact br (iz_le vh.1 vh.2 vc.1 vc.2) (fun e2 => main 0 (lbV_0 e2)) (fun e2 => main 1 (lbV_1 e2))
theorem op_years {C : Int32 → Wd → Prop} (I : INV z w) (u : Int32) (sd : Int64) (q : ∀ r1 w2, (∀ K : Int32 → Wd → Prop, (∀ w', INV z w' → K r1 w') → wp_X3_years u sd w2 K) → C r1 w2) : wp_X1_years u sd w C := by
  obtain ⟨a, a1, a2, rfl⟩ := ex_iz u
  obtain ⟨c, lm, h, k, im, hv, tp, pl, pk, fn, ok, X, M, hz⟩ := I
  refine x_years' X ok ⟨a1, a2⟩ sd (fun may w2 X2 f2 => q _ _ (fun K kk => ?_)) (fun n => q _ _ (fun K kk => ?_))
  · have gk := yrs_ok (hv := hv) (s := (h, k, sd)) ok.1 ok.oh ok.okk a.toNat (by have := may.2.1; have := may.2.2.2; show hm h + _ ≤ 999; omega)
    exact m_years' (M.fr f2) ok ⟨a1, a2⟩ sd (fun _ w4 M4 f4 => kk _ (inv_end (ok.hk gk.1 gk.2.1) X2 f4 M4 (f2.z0 hz))) (fun n => absurd may n)
  · exact m_years' M ok ⟨a1, a2⟩ sd (fun may => absurd may n) (fun _ w4 M4 f4 => kk _ (inv_end ok X f4 M4 hz))
end YR
