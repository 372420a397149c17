/-! the model's histories, asked -/
section HM7
variable {c : Cf} {lm : Int} {h : Hs} {w : Wd} {p : Fnd} {Q : Int32 → Wd → Prop}
theorem m_layHistory (H : HM c lm w) (hp : FnOK p) (P : FnM p w) {dg want : Int} (h1 : VR dg) (hw : VR want) (f : hyOK c dg → ∀ w', fsG w w' → HyM (hyR c p dg want) w' → Q (iz 1) w') (g : ¬ hyOK c dg → ∀ w', fsG w w' → Q (iz 0) w') : wp_X3_layHistory (iz dg) (iz want) w Q := by
  unfold wp_X3_layHistory
  have g0 : ¬ hyOK c dg → Q (iz 0) w := fun z => g z w (fsG_refl w)
  have k0 := H.1.1
  have k6 := H.1.2.1
  rw [H.2.1]
  refine br (iz_eq (by omega) (by omega) (by decide) (by decide)) (fun e => g0 (fun z => by have := z.1; omega)) (fun e => ?_)
  refine m_isIn h1 (by decide) (by decide) (fun e1 e2 => u1 ?_) (fun e1 => u0 (g0 (fun z => e1 ⟨z.2.1, z.2.2.1⟩)))
  refine lpe (fun n (s : Int32 × Int32 × Int32 × Wd) => lp_X3_layHistory_29 Q (iz want) n s.1 s.2.1 s.2.2.1 s.2.2.2) (fun R s => wl_X3_layHistory_29 Q (iz want) (fun x y z u => R (x, y, z, u)) s.1 s.2.1 s.2.2.1 s.2.2.2) (fun _ _ h => h) (fun j s => 0 ≤ j ∧ ∃ w', s = (iz (dq dg j.toNat), iz (dsum dg j), iz (5 - j), w') ∧ fsG w w' ∧ (∀ t, 5 - j < t → t < 6 → gA w' 106 t = iz (lfd dg t)) ∧ okd c dg j) 6 0 (iz dg, iz 0, iz 5, w) (by decide) ⟨by decide, w, rfl, fsG_refl w, fun t x y => by omega, fun i i1 i2 => by omega⟩ ?_
  rintro R _ j hj ⟨hj0, w1, rfl, f1, f44, ok⟩ kk
  have qb := dq_bd (dg := dg) (by omega) (by omega) j.toNat
  have ddb := dd_bd dg j.toNat
  have sb := dsum_bd dg hj0 hj
  refine br (iz_lt (by omega) (by omega) (by decide) (by decide)) (fun e3 => ?_) (fun e3 => ⟨iz_inb (by omega) (by omega) (by omega), ?_⟩)
  · obtain rfl : j = 6 := by omega
    refine br (iz_eq (by omega) (by omega) (by decide) (by decide)) (fun e5 => ?_) (fun e5 => g (fun z => e5 z.2.2.2.2) w1 f1)
    rintro w2 rfl w3 rfl w4 rfl
    have fr : fsG w1 (sI (sI (sI w1 111 (iz 0)) 112 (iz (-1))) 113 (iz 63)) := fsG_trans (fsG_trans (fsG_sI (Or.inr (Or.inl rfl)) _) (fsG_sI (Or.inr (Or.inr (Or.inl rfl))) _)) (fsG_sI (Or.inr (Or.inr (Or.inr rfl))) _)
    have fr2 := fsG_trans f1 fr
    refine m_try H.1 hp hw 1 6 (Nat.le_refl 6) 0 0 (lfd dg) (fun _ => 0) (0, -1, fun _ => 0, fun _ => true) _ _ rfl ?_ ((P.fsG f1).fsG fr) (fun t t1 t2 => ?_) (fun t t1 t2 => by omega) ?_ (fun z => absurd rfl z) (Int.le_refl 0) (by decide) (fun w' q1 _ _ q2 => f ⟨by omega, e1, e2, ok, e5⟩ w' (fsG_trans fr2 q1) q2)
    · rw [fr2.1 85 (by decide)]
      exact H.2.1
    · have := dd_bd dg (5 - t).toNat
      exact ⟨f44 t (by omega) t2, by unfold lfd; omega, by unfold lfd; omega⟩
    · refine ⟨?_, ?_, fun z => absurd rfl z, ?_, fun _ t => rfl⟩
      · rw [gI_sI, if_neg (by decide), gI_sI, if_neg (by decide), gI_sI, if_pos rfl]
      · rw [gI_sI, if_neg (by decide), gI_sI, if_pos rfl]
      · rw [gI_sI, if_pos rfl]
        decide +kernel
  · rintro w2 rfl
    have kk := kk (by omega)
    have es : dsum dg (j + 1) = dsum dg j + dd dg j.toNat := sm_s _ hj0
    have eq : dq dg (j + 1).toNat = dq dg j.toNat / 10 := by
      rw [show (j + 1).toNat = j.toNat + 1 by omega, dq]
    have ed : dq dg j.toNat % 10 = dd dg j.toNat := rfl
    rw [iz_rem qb.1 (by omega) (by decide) (by decide), iz_div qb.1 (by omega) (by decide) (by decide), iz_toInt (by omega) (by omega), ed]
    have eK : gI (sA w1 106 (5 - j) (iz (dd dg j.toNat))) 85 = iz (cK c) := by
      rw [gI_sA, f1.1 85 (by decide)]
      exact H.2.1
    have eV : gA (sA w1 106 (5 - j) (iz (dd dg j.toNat))) 106 (5 - j) = iz (dd dg j.toNat) := by
      rw [gA_sA, if_pos rfl, if_pos rfl]
    rw [eK, eV, iz_add, iz_add, show 5 - j + -1 = 5 - (j + 1) by omega]
    have ib : inb (iz (5 - j)) 6 := iz_inb (by omega) (by omega) (by omega)
    have fw : fsG w (sA w1 106 (5 - j) (iz (dd dg j.toNat))) := fsG_trans f1 (fsG_sA (Or.inl rfl) _ _)
    have nx : okd c dg (j + 1) → R (iz (dq dg j.toNat / 10), iz (dsum dg j + dd dg j.toNat), iz (5 - (j + 1)), sA w1 106 (5 - j) (iz (dd dg j.toNat))) := by
      intro z
      refine kk _ ⟨by omega, _, by rw [eq, es], fw, fun t x y => ?_, z⟩
      rw [gA_sA, if_pos rfl]
      by_cases e5 : t = 5 - j
      · rw [if_pos e5]
        unfold lfd
        rw [show (5 - t).toNat = j.toNat by omega]
      · rw [if_neg e5]
        exact f44 t (by omega) y
    refine ⟨ib, br (iz_lt (by omega) (by omega) (by omega) (by omega)) (fun e5 => nx ((okd_s hj0).mpr ⟨ok, Or.inl e5⟩)) (fun e5 => ⟨ib, br (iz_le (by omega) (by omega) (by decide) (by decide)) (fun e6 => nx ((okd_s hj0).mpr ⟨ok, Or.inr (by omega)⟩)) (fun e6 => g (fun z => ?_) _ fw)⟩)⟩
    have := z.2.2.2.1 j hj0 (by omega)
    omega
theorem HM.fsG (H : HM c lm w) {w' : Wd} (f : fsG w w') : HM c lm w' := by
  obtain ⟨h1, h3, h4, h5, h6, h8, h9, h10⟩ := H
  obtain ⟨f1, f2, f3, f4, -⟩ := f
  refine ⟨h1, by rw [f1 85 (by decide)]; exact h3, fun i => by rw [f2 78 (by decide)]; exact h4 i, fun i => by rw [f2 80 (by decide)]; exact h5 i, by rw [f1 92 (by decide)]; exact h6, ?_, ?_, h10⟩
  · intro i i1 i2
    have z := h8 i i1 i2
    unfold LM at z ⊢
    rw [f2 62 (by decide), f2 63 (by decide)]
    exact z
  · intro i1 a b l a' o' n' y' k' m' A2 ke
    rw [f4] at ke
    rw [f2 95 (by decide)]
    exact h9 i1 a b l a' o' n' y' k' m' A2 ke
theorem m_history (H : HM c lm w) (hp : FnOK p) (P : FnM p w) {dg i : Int} (h1 : VR dg) (h2 : VR i) (f : ¬ i < -1 → hyOK c dg → ∀ w', fsG w w' → Q (iz (if i = -1 then (hyR c p dg i).1 else (hyR c p dg i).2.1)) w') (g : (i < -1 ∨ ¬ hyOK c dg) → ∀ w', fsG w w' → Q (iz (-1)) w') : wp_X3_history (iz dg) (iz i) w Q := by
  unfold wp_X3_history
  rintro w1 rfl
  have f0 : fsG w (sI w 60 (iz 0)) := fsG_sI (Or.inl rfl) _
  refine br (iz_lt h2.1 h2.2 (by decide) (by decide)) (fun e => g (Or.inl e) _ f0) (fun e => ?_)
  refine m_layHistory (H.fsG f0) hp (P.fsG f0) h1 h2 (fun k w' fr X => u1 ?_) (fun k w' fr => u0 (g (Or.inr k) w' (fsG_trans f0 fr)))
  have f := f e k w' (fsG_trans f0 fr)
  refine brn (iz_eq h2.1 h2.2 (by decide) (by decide)) (fun e2 => ?_) (fun e2 => ?_)
  · rw [if_neg e2] at f
    rw [X.2.1]
    exact f
  · rw [if_pos e2] at f
    rw [X.1]
    exact f
theorem m_share (H : HM c lm w) (hp : FnOK p) (P : FnM p w) {dg : Int} (h1 : VR dg) (f : hyOK c dg → ¬ (hyR c p dg (-1)).1 = 0 → ∀ w', fsG w w' → Q (bts (fun t => (hyR c p dg (-1)).2.2.2 t = true) 6) w') (g : (hyOK c dg → (hyR c p dg (-1)).1 = 0) → ∀ w', fsG w w' → Q (iz (-1)) w') : wp_X3_share (iz dg) w Q := by
  unfold wp_X3_share
  rintro w1 rfl
  have f0 : fsG w (sI w 60 (iz 0)) := fsG_sI (Or.inl rfl) _
  obtain ⟨F, b0, b1⟩ := hyR_F H.1 p dg (-1)
  refine m_layHistory (H.fsG f0) hp (P.fsG f0) h1 (by decide) (fun k w' fr X => t1 ?_) (fun k w' fr => t0 (g (fun z => absurd z k) w' (fsG_trans f0 fr)))
  rw [X.1]
  refine br (iz_le (by omega) (by omega) (by decide) (by decide)) (fun e2 => g (fun _ => by omega) w' (fsG_trans f0 fr)) (fun e2 => ?_)
  rw [X.2.2.2.1]
  exact f k (by omega) w' (fsG_trans f0 fr)
end HM7
