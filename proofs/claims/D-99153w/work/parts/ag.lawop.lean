/-! a law's text: the operations fault(1) and text(1), both sides joined -/
theorem gC_sC (w : Wd) (i j : Int) (v : Option Nat) : gC (sC w i v) j = if j = i then v else gC w j := rfl
theorem b8_tab : ∀ k, k < 256 → (iz ((k : Nat) - 128)).toInt8.toInt32 = iz ((k : Nat) - 128 : Int) := by decide +kernel
theorem b8 {b : Int} (h1 : -128 ≤ b) (h2 : b ≤ 127) : (iz b).toInt8.toInt32 = iz b := by
  have := b8_tab (b + 128).toNat (by omega)
  rw [Int.toNat_of_nonneg (by omega), show b + 128 - 128 = b by omega] at this
  exact this
theorem XF.f {w w' : Wd} {z : Nat} (f : XF w w') (h : gZ w' ≤ gZ w + z) : fX z w w' := by
  obtain ⟨f1, f2, f3, f4, f5, f6, f7⟩ := f
  refine ⟨fun k hk => f1 k (fun e => by rw [e] at hk; exact absurd hk (by decide)) (fun e => by rw [e] at hk; exact absurd hk (by decide)), fun a _ => by rw [f2], fun t _ => by rw [f2], fun t _ => by rw [f2], fun k _ => by rw [f3], fun a _ => by rw [f4], f5, f6, f7, h⟩
theorem fsL.m {w w' : Wd} (f : fsL w w') : fsM w w' := ⟨fun k hk => f.1 k (by omega), fun a _ => by rw [f.2.1], f.2.2.1, fun a _ => by rw [f.2.2.2.1], f.2.2.2.2.1, f.2.2.2.2.2.1, f.2.2.2.2.2.2⟩
section LO
variable {c : Cf} {lm : Int} {h : Hs} {k : Ks} {im : Int × Hs} {hv : Int} {tp : Tp} {pl : Pl} {pk : Pk} {fn : Fnd} {w w' : Wd} {z : Nat} {C K : Int32 → Wd → Prop}
theorem SX.read (X : SX c lm h k im hv tp pl pk fn w) (ok : SOK c lm h k im hv tp pl pk fn) (f : XF w w') : SX c lm h k im hv tp pl pk fn w' :=
  X.deed ok (f.f (z := gZ w') (by omega)) (by rw [f.2.1]; exact X.2.2.2.2.2.2.1) (by rw [f.1 33 (by decide) (by decide)]; exact X.2.2.2.2.2.2.2.1) (by rw [f.2.1]; exact X.2.2.2.2.2.2.2.2.1)
theorem SM.read (M : SM c lm h k im hv tp pl pk fn w) (ok : SOK c lm h k im hv tp pl pk fn) (f : fsL w w') : SM c lm h k im hv tp pl pk fn w' := by
  refine M.q ok ⟨f.m.f, M.1.2.2.2.2.2.2.1.fr (by rw [f.2.2.2.1]) (by rw [f.2.1]), by rw [f.2.1], by rw [f.2.1], f.1 97 (by decide)⟩
theorem TpOK.tb (o : TpOK tp) : TB tp.2 tp.1 := o
theorem m_faultL {r : Int} (ok : SOK c lm h k im hv tp pl pk fn) (M : SM c lm h k im hv tp pl pk fn w) (hm : ∀ (w : Wd) (Q : Wd → Prop), TxL tp.2 tp.1 61 0 w → (∀ w', fsL w w' → gI w' 71 = iz r → Q w') → wp_X3_goThrough 61 (iz 0) (iz tp.1) w Q) (q : ∀ w', SM c lm h k im hv tp pl pk fn w' → fM w w' → K (iz r) w') : wp_X3_fault (iz 1) w K := by
  unfold wp_X3_fault
  rintro w1 rfl
  obtain ⟨M1, f1⟩ := M.thr ok (iz 0)
  generalize sI w 60 (iz 0) = w1 at M1 f1
  refine m_isIn (v := 1) (by decide) (by decide) (by decide) (fun _ _ => u1 (u1 ?_)) (fun e => absurd (by decide) e)
  unfold b_X3_fault_28
  refine ⟨fun e => absurd rfl e, fun _ => ?_⟩
  have T := M1.2.2.2.2.2.2.2.2.1
  rw [T.1]
  refine hm w1 _ ⟨Or.inl ⟨rfl, rfl⟩, by decide, by decide, fun i a b => ?_⟩ (fun w2 g e => ?_)
  · rw [Int.zero_add]
    exact T.2 i a b
  · unfold b_X3_fault_46
    rw [e]
    exact ⟨fun _ => q w2 (M1.read ok g) (f1.trans g.m.f), fun e => absurd e (by decide)⟩
theorem op_faultL (h9 : z + 9000 ≤ 600000) (I : INV z w) (q : ∀ r1 w2, (∀ K : Int32 → Wd → Prop, (∀ w', INV (z + 9000) w' → K r1 w') → wp_X3_fault (iz 1) w2 K) → C r1 w2) : wp_X1_lawFault w C := by
  obtain ⟨c, lm, h, k, im, hv, tp, pl, pk, fn, ok, X, M, hz⟩ := I
  have oT := ok.2.2.2.2.2.2.2.2.2.1
  have T := X.2.2.2.2.2.2.2.2.2.2.2.2.1
  have b2 := oT.2.1
  have go : ∀ (r : Int) (w' : Wd), XF w w' → (gZ w' : Int) ≤ z + 2 * tp.1 → (∀ (w : Wd) (Q : Wd → Prop), TxL tp.2 tp.1 61 0 w → (∀ w', fsL w w' → gI w' 71 = iz r → Q w') → wp_X3_goThrough 61 (iz 0) (iz tp.1) w Q) → C (iz r) w' := by
    intro r w' f hz' hm
    refine q _ _ (fun K kk => m_faultL ok (M.fr (f.f (z := gZ w') (by omega))) hm (fun w2 M2 f2 => kk _ (inv_end ok (X.read ok f) f2 M2 (by omega))))
  unfold wp_X1_lawFault
  rcases bo_law (TpOK.tb oT) with ⟨pf, q1, q2, qx, qm⟩ | ⟨L, dL, qx, qm⟩
  · refine qx z (by omega) w _ _ T (by omega) (fun w' f e g => ?_)
    rw [e]
    exact go pf w' f g (fun w Q => qm 61 0 w Q)
  · exact qx z (by omega) w _ _ T (by omega) (fun r w' f g _ _ _ => go (-1) w' f g (fun w Q T x => qm 61 0 w Q T (fun w' a b _ => x w' a b)))
/-- the component with a law more -/
theorem SX.law {r : Nat} {L : Vs} (ok : SOK c lm h k im hv tp pl pk fn) (X : SX c lm h k im hv tp pl pk fn w) (dL : ∀ x ∈ L, Dep x.1 ∧ Dep x.2) (D : LawD w r L) : SX (cAdd c lm L) (lm + 1) h k im hv (0, tp.2) pl pk fn (sI (sI (sC w lm (some r)) 12 (iz 0)) 28 (iz (lm + 1))) := by
  obtain ⟨x1, x2, x3, x4, x5, x6, x7, x8, x9, x10, x11, x12, x13, x14, x15, x16⟩ := X
  have gk : ∀ j, j ≠ 12 → j ≠ 28 → gI (sI (sI (sC w lm (some r)) 12 (iz 0)) 28 (iz (lm + 1))) j = gI w j := fun j a b => by
    rw [gI_sI, if_neg b, gI_sI, if_neg a]
    rfl
  refine ⟨by rw [gI_sI, if_pos rfl], fun i i1 i2 => ?_, by rw [gk 23 (by decide) (by decide)]; exact x3, x4, x5, by rw [gk 29 (by decide) (by decide)]; exact x6, x7, by rw [gk 33 (by decide) (by decide)]; exact x8, x9, by rw [gk 51 (by decide) (by decide)]; exact x10, x11, by rw [gk 30 (by decide) (by decide)]; exact x12, ⟨?_, fun i i1 i2 => ?_⟩, ?_, ?_, ?_⟩
  · intro w2 a o n y k m Q g h1 h2 h3 h4 h5 h6 qq
    show wp_X1_worth (gC (sC w lm (some r)) i) (iz 121) 15 w2 Q
    rw [gC_sC]
    by_cases e : i = lm
    · subst e
      rw [if_pos rfl]
      refine D w2 (fun r hr => g r hr) Q ?_
      rw [wv_env dL h1 h2 h3 h4 h5 h6, ← cAdd_n (c := c) (lm := i)]
      exact qq
    · rw [if_neg e]
      rw [cAdd_o e] at qq
      exact x2 i i1 (by omega) w2 a o n y k m Q (fun r hr => g r hr) h1 h2 h3 h4 h5 h6 qq
  · rw [gI_sI, if_neg (by decide), gI_sI, if_pos rfl]
  · exact absurd i1 (by have i2 : i < 0 := i2; omega)
  · unfold PlX
    rw [gk 26 (by decide) (by decide)]
    exact x14
  · unfold PkX
    rw [gk 39 (by decide) (by decide)]
    exact x15
  · unfold FnX
    rw [gk 43 (by decide) (by decide)]
    exact x16
/-- the model with a law more -/
theorem SM.law {L : Vs} {g : Int → Int32} (ok : SOK c lm h k im hv tp pl pk fn) (l4 : lm < 4) (M : SM c lm h k im hv tp pl pk fn w) (dL : ∀ x ∈ L, Dep x.1 ∧ Dep x.2) (hm : ∀ (w : Wd) (Q : Wd → Prop), TxL tp.2 tp.1 62 (240 * lm) w → (∀ w', fsL w w' → gI w' 74 = wv (gA w 64) L → Q w') → wp_X3_goThrough 62 (iz (240 * lm)) (iz tp.1) w Q) (hg : ∀ i, 0 ≤ i → i < tp.1 → g (240 * lm + i) = iz (tp.2 i)) (ho : ∀ j, j < 240 * lm → g j = gA w 62 j) : SM (cAdd c lm L) (lm + 1) h k im hv (0, tp.2) pl pk fn (sI (sA (sB (sI w 66 (iz 0)) 62 g) 63 lm (iz tp.1)) 67 (iz (lm + 1))) := by
  obtain ⟨x1, x2, x3, x4, x5, x6, x7, x8, x9, x10, x11, x12⟩ := M
  have o1 := ok.2.1
  have okT := ok.2.2.2.2.2.2.2.2.2.1
  have b1 := okT.1; have b2 := okT.2.1
  have gk : ∀ j, j ≠ 66 → j ≠ 67 → gI (sI (sA (sB (sI w 66 (iz 0)) 62 g) 63 lm (iz tp.1)) 67 (iz (lm + 1))) j = gI w j := fun j a b => by
    rw [gI_sI, if_neg b]
    show gI (sI w 66 (iz 0)) j = _
    rw [gI_sI, if_neg a]
  have ga : ∀ a, a ≠ 62 → a ≠ 63 → gA (sI (sA (sB (sI w 66 (iz 0)) 62 g) 63 lm (iz tp.1)) 67 (iz (lm + 1))) a = gA w a := fun a h1 h2 => by
    show gA (sA (sB (sI w 66 (iz 0)) 62 g) 63 lm (iz tp.1)) a = _
    rw [sA_sB, gA_n _ h2, gA_n _ h1]
    rfl
  have g63 : ∀ i, gA (sI (sA (sB (sI w 66 (iz 0)) 62 g) 63 lm (iz tp.1)) 67 (iz (lm + 1))) 63 i = if i = lm then iz tp.1 else gA w 63 i := fun i => by
    show gA (sA (sB (sI w 66 (iz 0)) 62 g) 63 lm (iz tp.1)) 63 i = _
    rw [gA_sA, if_pos rfl, gA_n _ (by decide)]
    rfl
  have g62 : gA (sI (sA (sB (sI w 66 (iz 0)) 62 g) 63 lm (iz tp.1)) 67 (iz (lm + 1))) 62 = g := by
    show gA (sA (sB (sI w 66 (iz 0)) 62 g) 63 lm (iz tp.1)) 62 = _
    rw [sA_sB, gA_n _ (by decide)]
    funext j
    rw [gA_sB, if_pos rfl]
  obtain ⟨H1, H2, H3, H4, H5, H6, H7, H8, H9, H10⟩ := x1
  refine ⟨⟨cAdd_ok lm L H1, by rw [gk 85 (by decide) (by decide)]; exact H2, by rw [ga 78 (by decide) (by decide)]; exact H3, by rw [ga 80 (by decide) (by decide)]; exact H4, by rw [gk 92 (by decide) (by decide)]; exact H5, fun i i1 i2 => ?_, ?_, H8, (by have h9 : cH c < lm := H9; show cH c < lm + 1; omega), by omega⟩, by rw [gI_sI, if_pos rfl], by rw [ga 90 (by decide) (by decide)]; exact x3, by rw [gk 97 (by decide) (by decide)]; exact x4, by rw [ga 96 (by decide) (by decide)]; exact x5, by rw [gk 115 (by decide) (by decide)]; exact x6, by rw [ga 114 (by decide) (by decide)]; exact x7, by rw [gk 93 (by decide) (by decide)]; exact x8, ⟨?_, fun i i1 i2 => ?_⟩, ?_, ?_, ?_⟩
  · intro w2 a o n y k m Q e h1 h2 h3 h4 h5 h6 qq
    rw [g62] at e
    rw [g63]
    by_cases ei : i = lm
    · subst ei
      rw [if_pos rfl]
      refine hm w2 Q ⟨Or.inr rfl, by omega, by omega, fun j j1 j2 => by rw [e _ (by omega) (by omega)]; exact hg j j1 j2⟩ (fun w3 f e74 => qq w3 f.m (by rw [f.2.1]) (by rw [f.2.2.2.1]) (by rw [f.2.1]) ?_ (f.1 60 (by decide)))
      rw [e74, wv_env dL h1 h2 h3 h4 h5 h6, cAdd_n]
    · rw [if_neg ei]
      refine H6 i i1 (by omega) w2 a o n y k m Q (fun j j1 j2 => ?_) h1 h2 h3 h4 h5 h6 (fun w3 f e1 e2 e3 e4 e5 => qq w3 f e1 e2 e3 ?_ e5)
      · rw [e j j1 j2]
        exact ho j (by omega)
      · rw [cAdd_o ei]
        exact e4
  · intro i i1 i2 l a o n y k m A e
    obtain ⟨y1, y2⟩ := H7 i i1 i2 l a o n y k m A e
    rw [cAdd_o (by omega), ga 95 (by decide) (by decide)]
    exact ⟨by omega, y2⟩
  · rw [gI_sI, if_neg (by decide)]
    show gI (sI w 66 (iz 0)) 66 = _
    rw [gI_sI, if_pos rfl]
  · exact absurd i1 (by have i2 : i < 0 := i2; omega)
  · unfold PlM
    rw [gk 88 (by decide) (by decide), ga 83 (by decide) (by decide), ga 84 (by decide) (by decide)]
    exact x10
  · unfold PkM
    rw [gk 103 (by decide) (by decide), ga 101 (by decide) (by decide), ga 102 (by decide) (by decide)]
    exact x11
  · unfold FnM
    rw [gk 110 (by decide) (by decide), ga 104 (by decide) (by decide), ga 105 (by decide) (by decide), ga 109 (by decide) (by decide)]
    exact x12
end LO
