/-! text(1): a law is taken, both sides joined -/
section LP
variable {c : Cf} {lm : Int} {h : Hs} {k : Ks} {im : Int × Hs} {hv : Int} {tp : Tp} {pl : Pl} {pk : Pk} {fn : Fnd} {w w' : Wd} {z : Nat} {C K : Int32 → Wd → Prop}
theorem SOK.law (ok : SOK c lm h k im hv tp pl pk fn) (l4 : lm < 4) (L : Vs) : SOK (cAdd c lm L) (lm + 1) h k im hv (0, tp.2) pl pk fn := by
  obtain ⟨o1, o2, o3, o4, o5, o6, o7, o8, o9, o10, o11⟩ := ok
  exact ⟨cAdd_ok lm L o1, by omega, by omega, (by show cH c < lm + 1; omega), o5, o6, o7, o8, o9, ⟨Int.le_refl 0, (by decide : (0 : Int) ≤ 240), o10.2.2⟩, o11⟩
/-- the model copies the law's text -/
theorem m_copyL {Q : Int32 → Wd → Prop} (ok : SOK c lm h k im hv tp pl pk fn) (l4 : lm < 4) (M : SM c lm h k im hv tp pl pk fn w) (q : ∀ g, (∀ i, 0 ≤ i → i < tp.1 → g (240 * lm + i) = iz (tp.2 i)) → (∀ j, j < 240 * lm → g j = gA w 62 j) → Q (iz lm) (sI (sA (sB (sI w 66 (iz 0)) 62 g) 63 lm (iz tp.1)) 67 (iz (lm + 1)))) : ∃ n7, lp_X3_text_71 Q (iz tp.1) n7 (iz 0) (sI w 66 (iz 0)) := by
  have o1 := ok.2.1
  have okT := ok.2.2.2.2.2.2.2.2.2.1
  have b1 := okT.1; have b2 := okT.2.1
  have T := M.2.2.2.2.2.2.2.2.1
  have e67 := M.2.1
  refine lpe (fun n (s : Int32 × Wd) => lp_X3_text_71 Q (iz tp.1) n s.1 s.2) (fun R s => wl_X3_text_71 Q (iz tp.1) (fun x y => R (x, y)) s.1 s.2) (fun _ _ h => h) (fun k s => 0 ≤ k ∧ ∃ g, s = (iz k, sB (sI w 66 (iz 0)) 62 g) ∧ (∀ i, 0 ≤ i → i < k → g (240 * lm + i) = iz (tp.2 i)) ∧ (∀ j, j < 240 * lm → g j = gA w 62 j)) tp.1 0 (iz 0, sI w 66 (iz 0)) b1 ⟨by decide, gA w 62, ?_, fun i a b => by omega, fun _ _ => rfl⟩ ?_
  · show (iz 0, sI w 66 (iz 0)) = (iz 0, sB (sI w 66 (iz 0)) 62 (gA (sI w 66 (iz 0)) 62))
    rw [sB_self]
  rintro R _ k hk ⟨hk0, g, rfl, hg, ho⟩ k2
  have f67 : gI (sB (sI w 66 (iz 0)) 62 g) 67 = iz lm := by
    show gI (sI w 66 (iz 0)) 67 = _
    rw [gI_sI, if_neg (by decide)]
    exact e67
  show wl_X3_text_71 Q (iz tp.1) (fun x y => R (x, y)) (iz k) (sB (sI w 66 (iz 0)) 62 g)
  unfold wl_X3_text_71
  rw [f67]
  refine br (iz_le (by omega) (by omega) (by omega) (by omega)) (fun e => ?_) (fun e => ?_)
  · obtain rfl : k = tp.1 := by omega
    refine ⟨iz_inb (by omega) (by omega) (by omega), ?_⟩
    rintro w1 rfl w2 rfl
    rw [iz_toInt (by omega) (by omega), gI_sI, if_pos rfl, gI_sA, f67, iz_add, iz_sub, show lm + 1 - 1 = lm by omega]
    exact q g hg ho
  · rw [iz_mul, iz_add]
    refine ⟨iz_inb (by omega) (by omega) (by omega), iz_inb (by omega) (by omega) (by omega), ?_⟩
    rintro w3 rfl
    have tb := okT.2.2 k
    have e61 : gA (sB (sI w 66 (iz 0)) 62 g) 61 k = iz (tp.2 k) := by
      rw [gA_n _ (by decide)]
      exact T.2 k hk0 (by omega)
    rw [iz_toInt (by omega) (by omega), iz_toInt (by omega) (by omega), e61, b8 tb.1 tb.2, iz_add, sA_sB2]
    refine k2 (by omega) _ ⟨by omega, _, rfl, fun i i1 i2 => ?_, fun j hj => ?_⟩
    · show (if 240 * lm + i = 240 * lm + k then iz (tp.2 k) else g (240 * lm + i)) = _
      by_cases e : i = k
      · rw [e, if_pos rfl]
      · rw [if_neg (by omega)]
        exact hg i i1 (by omega)
    · show (if j = 240 * lm + k then iz (tp.2 k) else g j) = _
      rw [if_neg (by omega)]
      exact ho j hj
theorem op_textL (h9 : z + 9000 ≤ 600000) (I : INV z w) (q : ∀ r1 w2, (∀ K : Int32 → Wd → Prop, (∀ w', INV (z + 9000) w' → K r1 w') → wp_X3_text (iz 1) w2 K) → C r1 w2) : wp_X1_lawRead w C := by
  obtain ⟨c, lm, h, k, im, hv, tp, pl, pk, fn, ok, X, M, hz⟩ := I
  have oT := ok.2.2.2.2.2.2.2.2.2.1
  have T := X.2.2.2.2.2.2.2.2.2.2.2.2.1
  have b2 := oT.2.1
  have o1 := ok.2.1; have o2 := ok.2.2.1
  have e28 := X.1
  -- the model's way in
  have mW : ∀ (K : Int32 → Wd → Prop) (w2 : Wd), SM c lm h k im hv tp pl pk fn w2 → (lm = 4 → ∀ w', SM c lm h k im hv tp pl pk fn w' → fM w2 w' → K (iz (-1)) w') → (lm ≠ 4 → ∀ w', SM c lm h k im hv tp pl pk fn w' → fM w2 w' → wp_X3_fault (iz 1) w' (fun r1 w2 => (r1 = (iz (-1)) → ∃ n7, lp_X3_text_71 K (gI w2 66) n7 (iz 0) (sI w2 66 (iz 0))) ∧ (¬ r1 = (iz (-1)) → K (iz (-1)) w2))) → wp_X3_text (iz 1) w2 K := by
    intro K w2 M2 f g
    unfold wp_X3_text
    rintro w1 rfl
    obtain ⟨M1, f1⟩ := M2.thr ok (iz 0)
    generalize sI w2 60 (iz 0) = w1 at M1 f1
    refine m_isIn (v := 1) (by decide) (by decide) (by decide) (fun _ _ => t1 ⟨fun e => absurd rfl e, fun _ => ?_⟩) (fun e => absurd (by decide) e)
    rw [M1.2.1]
    refine ⟨fun e => f ((iz_eq (by omega) (by omega) (by decide) (by decide)).mp e) w1 M1 f1, fun e => ?_⟩
    have g := g (fun z => e (by rw [z])) w1 M1 f1
    unfold b_X3_text_30
    refine ⟨fun _ => ?_, fun e => absurd e (by decide)⟩
    unfold b_X3_text_43
    have hh : (fun (r1 : Int32) (w2 : Wd) => (r1 = (iz (-1)) → ∀ w3, w3 = sI w2 66 (iz 0) → (¬ iz 1 = (iz 1) → (¬ iz 1 = (iz 2) → ∀ w4, w4 = sI w3 85 (gI w3 86) → ∃ n5, lp_X3_text_215 K n5 (iz 0) w4) ∧ (iz 1 = (iz 2) → ∃ n6, lp_X3_text_137 K n6 (iz 0) w3)) ∧ (iz 1 = (iz 1) → ∃ n7, lp_X3_text_71 K (gI w2 66) n7 (iz 0) w3)) ∧ (¬ r1 = (iz (-1)) → K (iz (-1)) w2)) = (fun r1 w2 => (r1 = (iz (-1)) → ∃ n7, lp_X3_text_71 K (gI w2 66) n7 (iz 0) (sI w2 66 (iz 0))) ∧ (¬ r1 = (iz (-1)) → K (iz (-1)) w2)) := by
      funext r1 w2
      refine propext ⟨fun H => ⟨fun e => (H.1 e _ rfl).2 rfl, H.2⟩, fun H => ⟨fun e => ?_, H.2⟩⟩
      rintro w3 rfl
      exact ⟨fun e => absurd rfl e, fun _ => H.1 e⟩
    rw [hh]
    exact g
  unfold wp_X1_lawRead
  rw [e28]
  refine brn (iz_eq (by omega) (by omega) (by decide) (by decide)) (fun l4 => ?_) (fun l4 => ?_)
  · rcases bo_law (TpOK.tb oT) with ⟨pf, q1, q2, qx, qm⟩ | ⟨L, dL, qx, qm⟩
    · refine qx z (by omega) w _ _ T (by omega) (fun w' f e g => ?_)
      have X' := X.read ok f
      have M' := M.fr (f.f (z := gZ w') (by omega))
      exact q _ _ (fun K kk => mW K w' M' (fun e => absurd e l4) (fun _ w1 M1 f1 => m_faultL ok M1 (fun w Q => qm 61 0 w Q) (fun w2 M2 f2 => br (iz_eq (a := pf) (b := -1) (by omega) (by omega) (by decide) (by decide)) (fun e => by omega) (fun _ => kk _ (inv_end ok X' (f1.trans f2) M2 (by omega))))))
    · refine qx z (by omega) w _ _ T (by omega) (fun r w' f g D nn fs => ⟨iz_inb (by omega) (by omega) (by omega), fs, ?_⟩)
      rintro w3 rfl w4 rfl w5 rfl
      have X' := X.read ok f
      have M' := M.fr (f.f (z := gZ w') (by omega))
      have e28' : gI (sI (sC w' (iz lm).toInt (some r)) 12 (iz 0)) 28 = iz lm := by
        rw [gI_sI, if_neg (by decide)]
        exact X'.1
      rw [e28', iz_toInt (by omega) (by omega), gI_sI, if_pos rfl, iz_add, iz_sub, show lm + 1 - 1 = lm by omega]
      have X5 := SX.law (r := r) ok X' dL D
      have M5 : SM c lm h k im hv tp pl pk fn (sI (sI (sC w' lm (some r)) 12 (iz 0)) 28 (iz (lm + 1))) := by
        refine M'.ge (fun j hj => ?_) (fun a' ha => rfl) rfl
        rw [gI_sI, if_neg (by omega), gI_sI, if_neg (by omega)]
        rfl
      have z5 : gZ (sI (sI (sC w' lm (some r)) 12 (iz 0)) 28 (iz (lm + 1))) = gZ w' := rfl
      generalize sI (sI (sC w' lm (some r)) 12 (iz 0)) 28 (iz (lm + 1)) = w5 at X5 M5 z5
      refine q _ _ (fun K kk => mW K w5 M5 (fun e => absurd e l4) (fun _ w1 M1 f1 => m_faultL ok M1 (fun w Q T x => qm 61 0 w Q T (fun w' a b _ => x w' a b)) (fun w2 M2 f2 => ⟨fun _ => ?_, fun e => absurd rfl e⟩)))
      rw [M2.2.2.2.2.2.2.2.2.1.1]
      refine m_copyL ok (by omega) M2 (fun g hg ho => kk _ ?_)
      have X2 := X5.fr (f1.trans f2)
      have zz := (f1.trans f2).2.2.2.2.2.2.2.2
      have M6 := SM.law (L := L) (g := g) ok (by omega) M2 dL (fun w Q T x => qm 62 (240 * lm) w Q T (fun w' a _ b => x w' a b)) hg ho
      refine ⟨_, _, _, _, _, _, _, _, _, _, ok.law (by omega) L, X2.lt (fun j hj => ?_) (fun a ha => ?_) rfl rfl, M6, ?_⟩
      · rw [gI_sI, if_neg (by omega)]
        show gI (sI w2 66 (iz 0)) j = _
        rw [gI_sI, if_neg (by omega)]
      · show gA (sA (sB (sI w2 66 (iz 0)) 62 g) 63 lm (iz tp.1)) a = _
        rw [sA_sB, gA_n _ (by omega), gA_n _ (by omega)]
        rfl
      · show gZ w2 ≤ _
        omega
  · refine q _ _ (fun K kk => mW K w M (fun _ w' M' f => kk w' (inv_end ok X f M' (by omega))) (fun e => absurd l4 e))
end LP
