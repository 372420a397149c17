/-! text(2): a plan is taken, both sides joined -/
section PQ
variable {c : Cf} {lm : Int} {h : Hs} {k : Ks} {im : Int × Hs} {hv : Int} {tp : Tp} {pl : Pl} {pk : Pk} {fn : Fnd} {w w' : Wd} {z : Nat} {C K : Int32 → Wd → Prop}
theorem SX.plan {e : Int} {V : Int → Int} (ok : SOK c lm h k im hv tp pl pk fn) (X : SX c lm h k im hv tp pl pk fn w) (l4 : pl.1 < 4) (e25 : gA w 25 pl.1 = iz e) (e24 : ∀ j, 0 ≤ j → j < 4 * e → gA w 24 (64 * pl.1 + j) = iz (V j)) : SX c lm h k im hv (0, tp.2) (plAdd pl e V) pk fn (sI (sI w 12 (iz 0)) 26 (iz (pl.1 + 1))) := by
  have P := X.2.2.2.2.2.2.2.2.2.2.2.2.2.1
  obtain ⟨o1, o2, o3⟩ := ok.2.2.2.2.2.2.2.2.2.2.1
  refine X.plx (fun j a _ b _ => by rw [gI_sI, if_neg b, gI_sI, if_neg a]) (fun a _ _ _ => rfl) rfl rfl ⟨by rw [gI_sI, if_neg (by decide), gI_sI, if_pos rfl], fun i i0 i1 => absurd i0 (by have i1 : i < 0 := i1; omega)⟩ ⟨by rw [gI_sI, if_pos rfl]; rfl, fun q q0 q1 => ?_⟩
  have q1 : q < pl.1 + 1 := q1
  show gA w 25 q = iz (if q = pl.1 then e else pl.2.1 q) ∧ ∀ t, 0 ≤ t → t < 4 * (if q = pl.1 then e else pl.2.1 q) → gA w 24 (64 * q + t) = iz (if 64 * pl.1 ≤ 64 * q + t then V (64 * q + t - 64 * pl.1) else pl.2.2 (64 * q + t))
  by_cases eq : q = pl.1
  · subst eq
    rw [if_pos rfl]
    refine ⟨e25, fun t t0 t1 => ?_⟩
    rw [if_pos (by omega), show 64 * pl.1 + t - 64 * pl.1 = t by omega]
    exact e24 t t0 t1
  · rw [if_neg eq]
    obtain ⟨p1, p2⟩ := P.2 q q0 (by omega)
    have o3 := o3 q q0 (by omega)
    refine ⟨p1, fun t t0 t1 => ?_⟩
    rw [if_neg (by omega)]
    exact p2 t t0 t1
theorem SM.plan {e : Int} {V : Int → Int} {g : Int → Int32} (ok : SOK c lm h k im hv tp pl pk fn) (M : SM c lm h k im hv tp pl pk fn w) (l4 : pl.1 < 4) (hg : ∀ j, 0 ≤ j → j < 4 * e → g (64 * pl.1 + j) = iz (V j)) (ho : ∀ j, j < 64 * pl.1 → g j = gA w 83 j) : SM c lm h k im hv (0, tp.2) (plAdd pl e V) pk fn (sI (sA (sB (sI w 66 (iz 0)) 83 g) 84 pl.1 (iz e)) 88 (iz (pl.1 + 1))) := by
  have P := M.2.2.2.2.2.2.2.2.2.1
  obtain ⟨o1, o2, o3⟩ := ok.2.2.2.2.2.2.2.2.2.2.1
  have g83 : ∀ j, gA (sI (sA (sB (sI w 66 (iz 0)) 83 g) 84 pl.1 (iz e)) 88 (iz (pl.1 + 1))) 83 j = g j := fun j => by
    show gA (sA (sB (sI w 66 (iz 0)) 83 g) 84 pl.1 (iz e)) 83 j = _
    rw [sA_sB, gA_n _ (by decide), gA_sB, if_pos rfl]
  have g84 : ∀ j, gA (sI (sA (sB (sI w 66 (iz 0)) 83 g) 84 pl.1 (iz e)) 88 (iz (pl.1 + 1))) 84 j = if j = pl.1 then iz e else gA w 84 j := fun j => by
    show gA (sA (sB (sI w 66 (iz 0)) 83 g) 84 pl.1 (iz e)) 84 j = _
    rw [g24, gA_n _ (by decide)]
    rfl
  refine M.plx (fun j a b _ _ _ => ?_) (fun a a1 a2 _ => ?_) rfl ⟨?_, fun i i0 i1 => absurd i0 (by have i1 : i < 0 := i1; omega)⟩ ⟨by rw [gI_sI, if_pos rfl]; rfl, fun q q0 q1 => ?_⟩
  · rw [gI_sI, if_neg b]
    show gI (sI w 66 (iz 0)) j = _
    rw [gI_sI, if_neg a]
  · show gA (sA (sB (sI w 66 (iz 0)) 83 g) 84 pl.1 (iz e)) a = _
    rw [sA_sB, gA_n _ a2, gA_n _ a1]
    rfl
  · rw [gI_sI, if_neg (by decide)]
    show gI (sI w 66 (iz 0)) 66 = _
    rw [gI_sI, if_pos rfl]
  · have q1 : q < pl.1 + 1 := q1
    rw [g84]
    show (if q = pl.1 then iz e else gA w 84 q) = iz (if q = pl.1 then e else pl.2.1 q) ∧ ∀ t, 0 ≤ t → t < 4 * (if q = pl.1 then e else pl.2.1 q) → _
    by_cases eq : q = pl.1
    · subst eq
      rw [if_pos rfl, if_pos rfl]
      refine ⟨rfl, fun t t0 t1 => ?_⟩
      rw [g83]
      show g (64 * pl.1 + t) = iz (if 64 * pl.1 ≤ 64 * pl.1 + t then V (64 * pl.1 + t - 64 * pl.1) else pl.2.2 (64 * pl.1 + t))
      rw [if_pos (by omega), show 64 * pl.1 + t - 64 * pl.1 = t by omega]
      exact hg t t0 t1
    · rw [if_neg eq, if_neg eq]
      obtain ⟨p1, p2⟩ := P.2 q q0 (by omega)
      have o3 := o3 q q0 (by omega)
      refine ⟨p1, fun t t0 t1 => ?_⟩
      rw [g83]
      show g (64 * q + t) = iz (if 64 * pl.1 ≤ 64 * q + t then V (64 * q + t - 64 * pl.1) else pl.2.2 (64 * q + t))
      rw [if_neg (by omega), ho _ (by omega)]
      exact p2 t t0 t1
theorem SOK.plan {e : Int} {V : Int → Int} (ok : SOK c lm h k im hv tp pl pk fn) (h4 : pl.1 < 4) (e0 : 0 < e) (e1 : e ≤ 16) (iv : ∀ i, 0 ≤ i → i < e → stepOK V (4 * i)) : SOK c lm h k im hv (0, tp.2) (plAdd pl e V) pk fn := by
  obtain ⟨o1, o2, o3, o4, o5, o6, o7, o8, o9, o10, o11, o12⟩ := ok
  exact ⟨o1, o2, o3, o4, o5, o6, o7, o8, o9, ⟨Int.le_refl 0, (by decide : (0 : Int) ≤ 240), o10.2.2⟩, plAdd_ok o11 h4 e0 e1 iv, o12⟩
/-- the model copies the plan -/
theorem m_copyP {e : Int} {V : Int → Int} {Q : Int32 → Wd → Prop} (ok : SOK c lm h k im hv tp pl pk fn) (l4 : pl.1 < 4) (e16 : e ≤ 16) (M : SM c lm h k im hv tp pl pk fn w) (e84 : gA w 84 4 = iz e) (e83 : ∀ j, 0 ≤ j → j < 4 * e → gA w 83 (256 + j) = iz (V j)) (q : ∀ g, (∀ j, 0 ≤ j → j < 4 * e → g (64 * pl.1 + j) = iz (V j)) → (∀ j, j < 64 * pl.1 → g j = gA w 83 j) → Q (iz pl.1) (sI (sA (sB (sI w 66 (iz 0)) 83 g) 84 pl.1 (iz e)) 88 (iz (pl.1 + 1)))) : ∃ n7, lp_X3_text_137 Q n7 (iz 0) (sI w 66 (iz 0)) := by
  have P := M.2.2.2.2.2.2.2.2.2.1
  have o1 := ok.2.2.2.2.2.2.2.2.2.2.1.1
  refine lpe (fun n (s : Int32 × Wd) => lp_X3_text_137 Q n s.1 s.2) (fun R s => wl_X3_text_137 Q (fun x y => R (x, y)) s.1 s.2) (fun _ _ h => h) (fun k s => 0 ≤ k ∧ ∃ g, s = (iz k, sB (sI w 66 (iz 0)) 83 g) ∧ (∀ j, 0 ≤ j → j < k → g (64 * pl.1 + j) = gA w 83 (256 + j)) ∧ (∀ j, j < 64 * pl.1 ∨ 256 ≤ j → g j = gA w 83 j)) 64 0 (iz 0, sI w 66 (iz 0)) (by decide) ⟨by decide, gA w 83, ?_, fun i a b => by omega, fun _ _ => rfl⟩ ?_
  · show (iz 0, sI w 66 (iz 0)) = (iz 0, sB (sI w 66 (iz 0)) 83 (gA (sI w 66 (iz 0)) 83))
    rw [sB_self]
  rintro R _ k hk ⟨hk0, g, rfl, hg, ho⟩ k2
  have f88 : gI (sB (sI w 66 (iz 0)) 83 g) 88 = iz pl.1 := by
    show gI (sI w 66 (iz 0)) 88 = _
    rw [gI_sI, if_neg (by decide)]
    exact P.1
  show wl_X3_text_137 Q (fun x y => R (x, y)) (iz k) (sB (sI w 66 (iz 0)) 83 g)
  unfold wl_X3_text_137
  rw [f88]
  refine br (iz_le (by omega) (by omega) (by omega) (by omega)) (fun ee => ?_) (fun ee => ?_)
  · obtain rfl : k = 64 := by omega
    refine ⟨iz_inb (by omega) (by omega) (by omega), iz_inb (by omega) (by omega) (by omega), ?_⟩
    have e4 : gA (sB (sI w 66 (iz 0)) 83 g) 84 (iz 4).toInt = iz e := by
      rw [iz_toInt (by decide) (by decide), gA_n _ (by decide)]
      exact e84
    rintro w1 rfl w2 rfl
    rw [e4, iz_toInt (a := pl.1) (by omega) (by omega), gI_sI, if_pos rfl, gI_sA, f88, iz_add, iz_sub, show pl.1 + 1 - 1 = pl.1 by omega]
    exact q g (fun j j0 j1 => by rw [hg j j0 (by omega)]; exact e83 j j0 j1) (fun j hj => ho j (Or.inl hj))
  · rw [iz_mul, iz_add, iz_add]
    refine ⟨iz_inb (by omega) (by omega) (by omega), iz_inb (by omega) (by omega) (by omega), ?_⟩
    rintro w3 rfl
    rw [iz_toInt (by omega) (by omega), iz_toInt (by omega) (by omega), gA_sB, if_pos rfl, ho _ (Or.inr (by omega)), iz_add, sA_sB2]
    refine k2 (by omega) _ ⟨by omega, _, rfl, fun j j0 j1 => ?_, fun j hj => ?_⟩
    · show (if 64 * pl.1 + j = 64 * pl.1 + k then gA w 83 (256 + k) else g (64 * pl.1 + j)) = _
      by_cases e : j = k
      · rw [e, if_pos rfl]
      · rw [if_neg (by omega)]
        exact hg j j0 (by omega)
    · show (if j = 64 * pl.1 + k then gA w 83 (256 + k) else g j) = _
      rw [if_neg (by omega)]
      exact ho j hj
theorem op_textP (I : INV z w) (q : ∀ r1 w2, (∀ K : Int32 → Wd → Prop, (∀ w', INV z w' → K r1 w') → wp_X3_text (iz 2) w2 K) → C r1 w2) : wp_X1_planRead w C := by
  obtain ⟨c, lm, h, k, im, hv, tp, pl, pk, fn, ok, X, M, hz⟩ := I
  have oT := ok.2.2.2.2.2.2.2.2.2.1
  have oP := ok.2.2.2.2.2.2.2.2.2.2.1
  have o1 := oP.1; have o2 := oP.2.1
  have T := X.2.2.2.2.2.2.2.2.2.2.2.2.1
  have e26 := X.2.2.2.2.2.2.2.2.2.2.2.2.2.1.1
  have mW : ∀ (K : Int32 → Wd → Prop) (w2 : Wd), SM c lm h k im hv tp pl pk fn w2 → (pl.1 = 4 → ∀ w', SM c lm h k im hv tp pl pk fn w' → fM w2 w' → K (iz (-1)) w') → (pl.1 ≠ 4 → ∀ w', SM c lm h k im hv tp pl pk fn w' → fM w2 w' → wp_X3_fault (iz 2) w' (fun r1 w2 => (r1 = (iz (-1)) → ∃ n7, lp_X3_text_137 K n7 (iz 0) (sI w2 66 (iz 0))) ∧ (¬ r1 = (iz (-1)) → K (iz (-1)) w2))) → wp_X3_text (iz 2) w2 K := by
    intro K w2 M2 f g
    unfold wp_X3_text
    rintro w1 rfl
    obtain ⟨M1, f1⟩ := M2.thr ok (iz 0)
    generalize sI w2 60 (iz 0) = w1 at M1 f1
    refine m_isIn (v := 2) (by decide) (by decide) (by decide) (fun _ _ => t1 ⟨fun _ => ?_, fun e => absurd e (by decide)⟩) (fun e => absurd (by decide) e)
    unfold b_X3_text_30
    refine ⟨fun e => absurd rfl e, fun _ => ?_⟩
    rw [M1.2.2.2.2.2.2.2.2.2.1.1]
    refine ⟨fun e => f ((iz_eq (by omega) (by omega) (by decide) (by decide)).mp e) w1 M1 f1, fun e => ?_⟩
    have g := g (fun z => e (by rw [z])) w1 M1 f1
    unfold b_X3_text_43
    have hh : (fun (r1 : Int32) (w2 : Wd) => (r1 = (iz (-1)) → ∀ w3, w3 = sI w2 66 (iz 0) → (¬ iz 2 = (iz 1) → (¬ iz 2 = (iz 2) → ∀ w4, w4 = sI w3 85 (gI w3 86) → ∃ n5, lp_X3_text_215 K n5 (iz 0) w4) ∧ (iz 2 = (iz 2) → ∃ n6, lp_X3_text_137 K n6 (iz 0) w3)) ∧ (iz 2 = (iz 1) → ∃ n7, lp_X3_text_71 K (gI w2 66) n7 (iz 0) w3)) ∧ (¬ r1 = (iz (-1)) → K (iz (-1)) w2)) = (fun r1 w2 => (r1 = (iz (-1)) → ∃ n7, lp_X3_text_137 K n7 (iz 0) (sI w2 66 (iz 0))) ∧ (¬ r1 = (iz (-1)) → K (iz (-1)) w2)) := by
      funext r1 w2
      refine propext ⟨fun H => ⟨fun e => ((H.1 e _ rfl).1 (by decide)).2 rfl, H.2⟩, fun H => ⟨fun e => ?_, H.2⟩⟩
      rintro w3 rfl
      exact ⟨fun _ => ⟨fun e => absurd rfl e, fun _ => H.1 e⟩, fun e => absurd e (by decide)⟩
    rw [hh]
    exact g
  unfold wp_X1_planRead
  rw [e26]
  refine brn (iz_eq (by omega) (by omega) (by decide) (by decide)) (fun l4 => ?_) (fun l4 => ?_)
  · rcases bo_plan (TpOK.tb oT) with ⟨pf, q1, q2, qx, qm⟩ | ⟨e, V, i1, i2, iv, ix, im'⟩
    · refine qx pl.1 w _ _ o1 o2 T (fun w' f e => ?_)
      have zz := f.2.2.2.2.2.2.2.2
      have X' := X.rdp ok f (Int.le_refl _)
      exact q _ _ (fun K kk => mW K w' (M.gx f) (fun e => absurd e l4) (fun _ w1 M1 f1 => m_faultP (r := pf) (R := fun _ _ => True) ok M1 (fun w Q T e x => qm w Q T e (fun w' a b => x w' a b trivial)) (fun w1 w2 M2 f2 _ => br (iz_eq (a := pf) (b := -1) (by have := oT.2.1; omega) (by have := oT.2.1; omega) (by decide) (by decide)) (fun e => by omega) (fun _ => kk _ (inv_end ok X' (f1.trans f2) M2 (by omega))))))
    · refine ix pl.1 w _ _ o1 o2 T (fun w' f e25 e24 => ?_)
      have zz := f.2.2.2.2.2.2.2.2
      rintro w3 rfl w4 rfl
      have X' := X.rdp ok f (Int.le_refl _)
      have e26' : gI (sI w' 12 (iz 0)) 26 = iz pl.1 := by
        rw [gI_sI, if_neg (by decide)]
        exact X'.2.2.2.2.2.2.2.2.2.2.2.2.2.1.1
      rw [e26', gI_sI, if_pos rfl, iz_add, iz_sub, show pl.1 + 1 - 1 = pl.1 by omega]
      have X5 := SX.plan (V := V) ok X' (by omega) e25 e24
      have M5 : SM c lm h k im hv tp pl pk fn (sI (sI w' 12 (iz 0)) 26 (iz (pl.1 + 1))) := by
        refine (M.gx f).ge (fun j hj => ?_) (fun a' ha => rfl) rfl
        rw [gI_sI, if_neg (by omega), gI_sI, if_neg (by omega)]
      have z5 : gZ (sI (sI w' 12 (iz 0)) 26 (iz (pl.1 + 1))) = gZ w' := rfl
      generalize sI (sI w' 12 (iz 0)) 26 (iz (pl.1 + 1)) = w5 at X5 M5 z5
      refine q _ _ (fun K kk => mW K w5 M5 (fun e => absurd e l4) (fun _ w1 M1 f1 => m_faultP (r := -1) (R := fun _ w' => gA w' 84 4 = iz e ∧ ∀ j, 0 ≤ j → j < 4 * e → gA w' 83 (256 + j) = iz (V j)) ok M1 (fun w Q T e x => im' w Q T e (fun w' a b c d => x w' a b ⟨c, d⟩)) (fun w1 w2 M2 f2 hr => ⟨fun _ => ?_, fun e => absurd rfl e⟩)))
      refine m_copyP ok (by omega) i2 M2 hr.1 hr.2 (fun g hg ho => kk _ ?_)
      have X2 := X5.fr (f1.trans f2)
      have zy := (f1.trans f2).2.2.2.2.2.2.2.2
      have M6 := SM.plan (e := e) (V := V) (g := g) ok M2 (by omega) hg ho
      refine ⟨_, _, _, _, _, _, _, _, _, _, ok.plan (by omega) i1 i2 iv, X2.lt (fun j hj => ?_) (fun a ha => ?_) rfl rfl, M6, ?_⟩
      · rw [gI_sI, if_neg (by omega)]
        show gI (sI w2 66 (iz 0)) j = _
        rw [gI_sI, if_neg (by omega)]
      · show gA (sA (sB (sI w2 66 (iz 0)) 83 g) 84 pl.1 (iz e)) a = _
        rw [sA_sB, gA_n _ (by omega), gA_n _ (by omega)]
        rfl
      · show gZ w2 ≤ _
        omega
  · exact q _ _ (fun K kk => mW K w M (fun _ w' M' f => kk w' (inv_end ok X f M' hz)) (fun e => absurd l4 e))
end PQ
