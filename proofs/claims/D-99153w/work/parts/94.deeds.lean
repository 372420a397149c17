/-! the deeds, both sides joined -/
section DD
variable {c : Cf} {lm : Int} {h h' : Hs} {k k' : Ks} {im : Int × Hs} {hv : Int} {tp : Tp} {pl : Pl} {pk : Pk} {fn : Fnd} {w w' w'' : Wd} {z : Nat}
theorem SOK.hk (ok : SOK c lm h k im hv tp pl pk fn) (G : HsOK c h') (K : KOK c k') : SOK c lm h' k' im hv tp pl pk fn := by
  obtain ⟨o1, o2, o3, o4, o5, o6, o7⟩ := ok
  exact ⟨o1, o2, o3, o4, G, K, o7⟩
theorem SOK.oh (ok : SOK c lm h k im hv tp pl pk fn) : HsOK c h := ok.2.2.2.2.1
theorem SOK.okk (ok : SOK c lm h k im hv tp pl pk fn) : KOK c k := ok.2.2.2.2.2.1
theorem SOK.push (ok : SOK c lm h k im hv tp pl pk fn) : SOK c lm h (kPush k h) im hv tp pl pk fn := ok.hk ok.oh (kPush_ok ok.okk ok.oh)
theorem SX.now (X : SX c lm h k im hv tp pl pk fn w) (ok : SOK c lm h k im hv tp pl pk fn) {g : Int → Int32} (A : AXf h' g 0) : SX c lm h' k im hv tp pl pk fn (sB w 31 g) := X.deed ok ((fX.refl w).sB (a := 31) (by decide) g) (by rw [gA_r]; exact A) X.2.2.2.2.2.2.2.1 (by rw [gA_n _ (by decide)]; exact X.2.2.2.2.2.2.2.2.1)
theorem SX.s15 (X : SX c lm h k im hv tp pl pk fn w) (ok : SOK c lm h k im hv tp pl pk fn) (g : Int → Int32) : SX c lm h k im hv tp pl pk fn (sB w 15 g) := X.q ok (qxs15 w g)
theorem SM.now (M : SM c lm h k im hv tp pl pk fn w) (ok : SOK c lm h k im hv tp pl pk fn) {g : Int → Int32} (A : AMf h' g 0) : SM c lm h' k im hv tp pl pk fn (sB w 90 g) := M.deed ok ((fM.refl w).sB (a := 90) (by decide) g) (M.1.2.2.2.2.2.2.1.fr rfl (gA_n w (by decide) g)) (by rw [gA_r]; exact A) M.2.2.2.1 (by rw [gA_n _ (by decide)]; exact M.2.2.2.2.1)
theorem SM.thr (M : SM c lm h k im hv tp pl pk fn w) (ok : SOK c lm h k im hv tp pl pk fn) (v : Int32) : SM c lm h k im hv tp pl pk fn (sI w 60 v) ∧ fM w (sI w 60 v) := ⟨M.q ok (m_thr M.1 v).q, (m_thr M.1 v).1.f⟩
theorem x_act' {Q : Wd → Prop} (X : SX c lm h k im hv tp pl pk fn w) (ok : SOK c lm h k im hv tp pl pk fn) (q : ∀ w2, SX c lm h (kPush k h) im hv tp pl pk fn w2 → fX 0 w w2 → Q w2) : wp_X1_act w Q := by
  refine x_act (X.hx ok) ok.okk X.2.2.2.2.2.2.2.1 X.2.2.2.2.2.2.2.2.1 (fun f F => ?_)
  have f2 : fX 0 w (sI (sB w 32 f) 33 (iz (kPush k h).1)) := ((fX.refl w).sB (a := 32) (by decide) f).sI (k := 33) (by decide) _
  refine q _ (X.deed ok f2 ?_ ?_ ?_) f2
  · have : gA (sI (sB w 32 f) 33 (iz (kPush k h).1)) 31 = gA w 31 := gA_n w (by decide) f
    rw [this]
    exact X.2.2.2.2.2.2.1
  · rw [gI_sI, if_pos rfl]
  · have : gA (sI (sB w 32 f) 33 (iz (kPush k h).1)) 32 = f := gA_r w 32 f
    rw [this]
    exact F
theorem m_rem' {Q : Wd → Prop} (M : SM c lm h k im hv tp pl pk fn w) (ok : SOK c lm h k im hv tp pl pk fn) (q : ∀ w2, SM c lm h (kPush k h) im hv tp pl pk fn w2 → fM w w2 → Q w2) : wp_X3_remember w Q := by
  refine m_remember (M.mh ok) ok.okk M.2.2.2.1 M.2.2.2.2.1 (fun f F => ?_)
  have f2 : fM w (sI (sB w 96 f) 97 (iz (kPush k h).1)) := ((fM.refl w).sB (a := 96) (by decide) f).sI (k := 97) (by decide) _
  have n : ∀ a, a ≠ 96 → gA (sI (sB w 96 f) 97 (iz (kPush k h).1)) a = gA w a := fun a e => gA_n w e f
  refine q _ (M.deed ok f2 (M.1.2.2.2.2.2.2.1.fr rfl (n 95 (by decide))) ?_ ?_ ?_) f2
  · rw [n 90 (by decide)]
    exact M.2.2.1
  · rw [gI_sI, if_pos rfl]
  · have : gA (sI (sB w 96 f) 97 (iz (kPush k h).1)) 96 = f := gA_r w 96 f
    rw [this]
    exact F
theorem inv_end (ok : SOK c lm h k im hv tp pl pk fn) (X : SX c lm h k im hv tp pl pk fn w) (f : fM w w') (M : SM c lm h k im hv tp pl pk fn w') (hz : gZ w ≤ z) : INV z w' := by
  refine ⟨c, lm, h, k, im, hv, tp, pl, pk, fn, ok, X.fr f, M, ?_⟩
  rw [f.2.2.2.2.2.2.2.2]
  exact hz
theorem fX.z0 (f : fX 0 w w') (hz : gZ w ≤ z) : gZ w' ≤ z := Nat.le_trans f.2.2.2.2.2.2.2.2.2 hz
end DD
section DO
variable {z : Nat} {w : Wd} {C : Int32 → Wd → Prop}
theorem op_put (I : INV z w) (u v : Int32) {lab : Int} (hl : lab = 0 ∨ lab = 1) (q : ∀ r1 w2, (∀ K : Int32 → Wd → Prop, (∀ w', INV z w' → K r1 w') → wp_X3_put_2 u v (iz lab) w2 K) → C r1 w2) : wp_X1_put u v (iz lab) w C := by
  obtain ⟨a, a1, a2, rfl⟩ := ex_iz u
  obtain ⟨b, b1, b2, rfl⟩ := ex_iz v
  obtain ⟨c, lm, h, k, im, hv, tp, pl, pk, fn, ok, X, M, hz⟩ := I
  unfold wp_X1_put
  refine x_canPut (X.hx ok) ⟨a1, a2⟩ ⟨b1, b2⟩ (fun may => u1 ?_) (fun may => u0 (q _ _ (fun K kk => ?_)))
  · have may' := may
    obtain ⟨p1, p2, p3, p4, p5, p6⟩ := may'
    have okP : SOK c lm (hPut h a b lab) (kPush k h) im hv tp pl pk fn := ok.push.hk (hPut_ok ok.1 ok.oh p1 p2 p3 p4 hl p5) ok.push.okk
    refine x_act' X ok (fun w2 X2 f2 => x_putNow (X2.hx ok.push) p5 hl (fun f A => ?_))
    have X3 := X2.now ok.push A
    have f3 : fX 0 w (sB w2 31 f) := f2.sB (by decide) f
    refine x_boxMany (X3.hx okP) (q _ _ (fun K kk => ?_))
    have M3 := M.fr f3
    unfold wp_X3_put_2
    rintro w4 rfl
    obtain ⟨M4, f4⟩ := M3.thr ok (iz 0)
    refine m_canPut M4.1 M90 (M4.mh ok) ⟨a1, a2⟩ ⟨b1, b2⟩ (fun _ => u1 ?_) (fun n => absurd may n)
    refine m_rem' M4 ok (fun w5 M5 f5 => ?_)
    have fin : wp_X3_puts 90 (iz a) (iz b) (iz lab) w5 (fun w9 => inb (iz 40) 283 ∧ K (gA w9 90 (iz 40).toInt) w9) := by
      refine m_puts M90 (M5.mh ok.push) p5 (fun g B => ⟨in90 (by decide) (by decide), ?_⟩)
      rw [iz_toInt (by decide) (by decide), gA_r, show (40 : Int) = 0 + 40 by decide, B.1]
      exact kk _ (inv_end okP X3 (f4.trans (f5.trans ((fM.refl w5).sB (a := 90) (by decide) g))) (M5.now ok.push B) (f3.z0 hz))
    rcases hl with rfl | rfl
    · exact t0 fin
    · exact t1 fin
  · unfold wp_X3_put_2
    rintro w4 rfl
    obtain ⟨M4, f4⟩ := M.thr ok (iz 0)
    refine m_canPut M4.1 M90 (M4.mh ok) ⟨a1, a2⟩ ⟨b1, b2⟩ (fun n => absurd n may) (fun _ => u0 (kk _ (inv_end ok X f4 M4 hz)))
theorem op_take (I : INV z w) (u : Int32) (q : ∀ r1 w2, (∀ K : Int32 → Wd → Prop, (∀ w', INV z w' → K r1 w') → wp_X3_take u w2 K) → C r1 w2) : wp_X1_take u w C := by
  obtain ⟨a, a1, a2, rfl⟩ := ex_iz u
  obtain ⟨c, lm, h, k, im, hv, tp, pl, pk, fn, ok, X, M, hz⟩ := I
  unfold wp_X1_take
  refine x_isBox (X.hx ok) ⟨a1, a2⟩ (fun p1 p2 => u1 ?_) (fun n => u0 (q _ _ (fun K kk => ?_)))
  · have okP : SOK c lm (hTake c h a) (kPush k h) im hv tp pl pk fn := ok.push.hk (hTake_ok ok.oh p1 p2) ok.push.okk
    refine x_act' X ok (fun w2 X2 f2 => x_takeNow (X2.hx ok.push) p1 p2 (fun f g A => q _ _ (fun K kk => ?_)))
    have X3 : SX c lm (hTake c h a) (kPush k h) im hv tp pl pk fn (sB (sB w2 15 f) 31 g) := (X2.s15 ok.push f).now ok.push A
    have f3 : fX 0 w (sB (sB w2 15 f) 31 g) := (f2.sB (a := 15) (by decide) f).sB (a := 31) (by decide) g
    have M3 := M.fr f3
    unfold wp_X3_take
    rintro w4 rfl
    obtain ⟨M4, f4⟩ := M3.thr ok (iz 0)
    refine m_isBox M4.1 M90 (M4.mh ok) ⟨a1, a2⟩ (fun _ _ => u1 ?_) (fun n => absurd ⟨p1, p2⟩ n)
    refine m_rem' M4 ok (fun w5 M5 f5 => m_eats M5.1 M90 (M5.mh ok.push) p1 p2 (fun w6 g2 ms B => ?_))
    have M6 := M5.q ok.push ms.q
    exact kk _ (inv_end okP X3 (f4.trans (f5.trans (ms.1.f.sB (a := 90) (by decide) g2))) (M6.now ok.push B) (f3.z0 hz))
  · unfold wp_X3_take
    rintro w4 rfl
    obtain ⟨M4, f4⟩ := M.thr ok (iz 0)
    exact m_isBox M4.1 M90 (M4.mh ok) ⟨a1, a2⟩ (fun p1 p2 => absurd ⟨p1, p2⟩ n) (fun _ => u0 (kk _ (inv_end ok X f4 M4 hz)))
theorem op_label (I : INV z w) (u : Int32) (q : ∀ r1 w2, (∀ K : Int32 → Wd → Prop, (∀ w', INV z w' → K r1 w') → wp_X3_label u w2 K) → C r1 w2) : wp_X1_label u w C := by
  obtain ⟨a, a1, a2, rfl⟩ := ex_iz u
  obtain ⟨c, lm, h, k, im, hv, tp, pl, pk, fn, ok, X, M, hz⟩ := I
  unfold wp_X1_label
  refine x_canLabel (X.hx ok) ⟨a1, a2⟩ (fun p1 p2 p3 => u1 ?_) (fun n => u0 (q _ _ (fun K kk => ?_)))
  · have okP : SOK c lm (hLabel h a) (kPush k h) im hv tp pl pk fn := ok.push.hk (hLabel_ok ok.oh) ok.push.okk
    refine x_act' X ok (fun w2 X2 f2 => x_labelNow (X2.hx ok.push) p1 p2 (fun g A => q _ _ (fun K kk => ?_)))
    have X3 := X2.now ok.push A
    have f3 : fX 0 w (sB w2 31 g) := f2.sB (by decide) g
    have M3 := M.fr f3
    unfold wp_X3_label
    rintro w4 rfl
    obtain ⟨M4, f4⟩ := M3.thr ok (iz 0)
    refine m_canLabel M4.1 M90 (M4.mh ok) ⟨a1, a2⟩ (fun _ _ _ => u1 ?_) (fun n => absurd ⟨p1, p2, p3⟩ n)
    refine m_rem' M4 ok (fun w5 M5 f5 => m_names M90 (M5.mh ok.push) p1 p2 (fun g2 B => ?_))
    exact kk _ (inv_end okP X3 (f4.trans (f5.trans ((fM.refl w5).sB (a := 90) (by decide) g2))) (M5.now ok.push B) (f3.z0 hz))
  · unfold wp_X3_label
    rintro w4 rfl
    obtain ⟨M4, f4⟩ := M.thr ok (iz 0)
    exact m_canLabel M4.1 M90 (M4.mh ok) ⟨a1, a2⟩ (fun p1 p2 p3 => absurd ⟨p1, p2, p3⟩ n) (fun _ => u0 (kk _ (inv_end ok X f4 M4 hz)))
theorem op_off (I : INV z w) (u : Int32) (q : ∀ r1 w2, (∀ K : Int32 → Wd → Prop, (∀ w', INV z w' → K r1 w') → wp_X3_off u w2 K) → C r1 w2) : wp_X1_off u w C := by
  obtain ⟨a, a1, a2, rfl⟩ := ex_iz u
  obtain ⟨c, lm, h, k, im, hv, tp, pl, pk, fn, ok, X, M, hz⟩ := I
  unfold wp_X1_off
  refine x_isOff (X.hx ok) ⟨a1, a2⟩ (fun p1 p2 p3 => u1 ?_) (fun n => u0 (q _ _ (fun K kk => ?_)))
  · have pb := pall_bd ok.oh
    have tb := tmy_bd ok.1 ok.oh p1 p2 p3
    have okP : SOK c lm (hOld h (tmy c (pall h) a)) (kPush k h) im hv tp pl pk fn := ok.push.hk (hOld_ok ok.oh tb.1) ok.push.okk
    refine x_act' X ok (fun w2 X2 f2 => x_tooMany (X2.hx ok.push) p1 p2 p3 (x_older (X2.hx ok.push) tb.1 (by omega) (fun g A => q _ _ (fun K kk => ?_))))
    have X3 := X2.now ok.push A
    have f3 : fX 0 w (sB w2 31 g) := f2.sB (by decide) g
    have M3 := M.fr f3
    unfold wp_X3_off
    rintro w4 rfl
    obtain ⟨M4, f4⟩ := M3.thr ok (iz 0)
    refine m_isHours M4.1 ⟨a1, a2⟩ (fun _ _ _ => u1 ?_) (fun n => absurd ⟨p1, p2, p3⟩ n)
    refine m_rem' M4 ok (fun w5 M5 f5 => m_sumIn M90 (M5.mh ok.push) (m_moreThanBorne M5.1 p1 ⟨pb.1, by omega⟩ ⟨p2, p3⟩ (m_ages M90 (M5.mh ok.push) tb.1 (by omega) (fun g2 B => ?_))))
    exact kk _ (inv_end okP X3 (f4.trans (f5.trans ((fM.refl w5).sB (a := 90) (by decide) g2))) (M5.now ok.push B) (f3.z0 hz))
  · unfold wp_X3_off
    rintro w4 rfl
    obtain ⟨M4, f4⟩ := M.thr ok (iz 0)
    exact m_isHours M4.1 ⟨a1, a2⟩ (fun p1 p2 p3 => absurd ⟨p1, p2, p3⟩ n) (fun _ => u0 (kk _ (inv_end ok X f4 M4 hz)))
/-- so many months, each remembered -/
def goM (c : Cf) : Nat → Hs × Ks → Hs × Ks
  | 0, s => s
  | n + 1, s => (hPass c (goM c n s).1, kPush (goM c n s).2 (goM c n s).1)
theorem goM_ok {c : Cf} {s : Hs × Ks} (G : HsOK c s.1) (K : KOK c s.2) : ∀ n : Nat, hm s.1 + n ≤ 999 → HsOK c (goM c n s).1 ∧ KOK c (goM c n s).2 ∧ hm (goM c n s).1 = hm s.1 + n := by
  intro n
  induction n with
  | zero => intro _; exact ⟨G, K, by simp [goM]⟩
  | succ n ih =>
    intro hn
    obtain ⟨i1, i2, i3⟩ := ih (by omega)
    rw [goM]
    refine ⟨hPass_ok i1 (by omega), kPush_ok i2 i1, ?_⟩
    have : hm (hPass c (goM c n s).1) = hm (goM c n s).1 + 1 := rfl
    show hm (hPass c (goM c n s).1) = _
    rw [this, i3]
    omega
theorem x_months' {Q : Int32 → Wd → Prop} {c : Cf} {lm : Int} {h : Hs} {k : Ks} {im : Int × Hs} {hv : Int} {tp : Tp} {pl : Pl} {pk : Pk} {fn : Fnd} {w : Wd} (X : SX c lm h k im hv tp pl pk fn w) (ok : SOK c lm h k im hv tp pl pk fn) {a : Int} (ha : VR a) (f : mayGo c h a 60 → ∀ w2, SX c lm (goM c a.toNat (h, k)).1 (goM c a.toNat (h, k)).2 im hv tp pl pk fn w2 → fX 0 w w2 → Q (iz (hm h + a)) w2) (g : ¬ mayGo c h a 60 → Q (iz (-1)) w) : wp_X1_months (iz a) w Q := by
  unfold wp_X1_months
  refine x_canPass (X.hx ok) ha (fun may => u1 ?_) (fun n => u0 (g n))
  have f := f may
  obtain ⟨p1, p2, p3, p4⟩ := may
  refine lpe (fun n (s : Int32 × Wd) => lp_X1_months_12 Q (iz a) n s.1 s.2) (fun R s => wl_X1_months_12 Q (iz a) (fun x y => R (x, y)) s.1 s.2) (fun _ _ h => h) (fun i s => 0 ≤ i ∧ ∃ w', s = (iz i, w') ∧ SX c lm (goM c i.toNat (h, k)).1 (goM c i.toNat (h, k)).2 im hv tp pl pk fn w' ∧ fX 0 w w') a 0 (iz 0, w) (by omega) ⟨by decide, w, rfl, X, fX.refl w⟩ ?_
  rintro R _ i hi ⟨hi0, w', rfl, X', f'⟩ kk
  have gk := goM_ok (s := (h, k)) ok.oh ok.okk i.toNat (by show hm h + _ ≤ 999; omega)
  have e3 : hm (goM c i.toNat (h, k)).1 = hm h + i := by
    rw [gk.2.2]
    show hm h + _ = _
    omega
  have ok' := ok.hk gk.1 gk.2.1
  refine br (iz_le (by omega) (by omega) (by omega) (by omega)) (fun e => ⟨iz_inb (by decide) (by decide) (by decide), ?_⟩) (fun e => ?_)
  · obtain rfl : i = a := by omega
    have em := X'.2.2.2.2.2.2.1.2.1
    rw [Int.zero_add, e3] at em
    rw [iz_toInt (by decide) (by decide), em]
    exact f w' X' f'
  · refine x_act' X' ok' (fun w2 X2 f2 => x_pass (X2.hx ok'.push) (by omega) (fun g2 A => ?_))
    rw [iz_add]
    refine kk (by omega) _ ⟨by omega, _, rfl, ?_, (f'.tr0 f2).sB (by decide) g2⟩
    rw [show (i + 1).toNat = i.toNat + 1 by omega, goM]
    exact X2.now ok'.push A
theorem op_months (I : INV z w) (u : Int32) (q : ∀ r1 w2, (∀ K : Int32 → Wd → Prop, (∀ w', INV z w' → K r1 w') → wp_X3_months u w2 K) → C r1 w2) : wp_X1_months u w C := by
  obtain ⟨a, a1, a2, rfl⟩ := ex_iz u
  obtain ⟨c, lm, h, k, im, hv, tp, pl, pk, fn, ok, X, M, hz⟩ := I
  refine x_months' X ok ⟨a1, a2⟩ (fun may w2 X2 f2 => q _ _ (fun K kk => ?_)) (fun n => q _ _ (fun K kk => ?_))
  · have M2 := M.fr f2
    unfold wp_X3_months
    rintro w4 rfl
    obtain ⟨M4, f4⟩ := M2.thr ok (iz 0)
    refine m_mayPass M4.1 M90 (M4.mh ok) ⟨a1, a2⟩ (by decide) (by decide) (fun _ => u1 ?_) (fun n => absurd may n)
    obtain ⟨p1, p2, p3, p4⟩ := may
    generalize hw4 : sI w2 60 (iz 0) = w4 at M4 f4
    refine lpe (fun n (s : Int32 × Wd) => lp_X3_months_23 K (iz a) n s.1 s.2) (fun R s => wl_X3_months_23 K (iz a) (fun x y => R (x, y)) s.1 s.2) (fun _ _ h => h) (fun i s => 0 ≤ i ∧ ∃ w', s = (iz i, w') ∧ SM c lm (goM c i.toNat (h, k)).1 (goM c i.toNat (h, k)).2 im hv tp pl pk fn w' ∧ fM w2 w') a 0 (iz 0, w4) (by omega) ⟨by decide, w4, rfl, M4, f4⟩ ?_
    rintro R _ i hi ⟨hi0, w', rfl, M', f'⟩ k2
    have gk := goM_ok (s := (h, k)) ok.oh ok.okk i.toNat (by show hm h + _ ≤ 999; omega)
    have e3 : hm (goM c i.toNat (h, k)).1 = hm h + i := by
      rw [gk.2.2]
      show hm h + _ = _
      omega
    have ok' := ok.hk gk.1 gk.2.1
    refine br (iz_le (by omega) (by omega) (by omega) (by omega)) (fun e => ⟨in90 (by decide) (by decide), ?_⟩) (fun e => ?_)
    · obtain rfl : i = a := by omega
      have em := M'.2.2.1.2.1
      rw [Int.zero_add, e3] at em
      rw [iz_toInt (by decide) (by decide), em]
      exact kk _ (inv_end ok' X2 f' M' (f2.z0 hz))
    · refine m_rem' M' ok' (fun w5 M5 f5 => m_goMonth M5.1 M90 (M5.mh ok'.push) (by omega) (fun g2 B => ?_))
      rw [iz_add]
      refine k2 (by omega) _ ⟨by omega, _, rfl, ?_, (f'.trans f5).sB (by decide) g2⟩
      rw [show (i + 1).toNat = i.toNat + 1 by omega, goM]
      exact M5.now ok'.push B
  · unfold wp_X3_months
    rintro w4 rfl
    obtain ⟨M4, f4⟩ := M.thr ok (iz 0)
    exact m_mayPass M4.1 M90 (M4.mh ok) ⟨a1, a2⟩ (by decide) (by decide) (fun may => absurd may n) (fun _ => u0 (kk _ (inv_end ok X f4 M4 hz)))
end DO
