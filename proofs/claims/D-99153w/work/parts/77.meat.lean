/-! the model's eating -/
/-- what is held after one more whole order -/
def upE (S : Int × Int) (v r : Int) : Int × Int := if S.1 = -1 ∨ S.1 < v then (v, r) else S
theorem upE_2 {S : Int × Int} {v r v' r' : Int} (h0 : 0 ≤ v) (h1 : -1 ≤ S.1) : upE (upE S v r) v' r' = if v < v' then upE S v' r' else upE S v r := by
  unfold upE
  by_cases e1 : S.1 = -1 ∨ S.1 < v
  · rw [if_pos e1]
    by_cases e2 : v < v'
    · rw [if_pos e2, if_pos (Or.inr e2), if_pos (by omega)]
    · rw [if_neg e2, if_neg (by simp; omega)]
  · rw [if_neg e1]
    by_cases e2 : v < v'
    · rw [if_pos e2]
    · rw [if_neg e2, if_neg (by omega)]
/-- the model's frame, but for what it holds of the eating -/
def fsE (w w' : Wd) : Prop := (∀ k, ¬ (k = 60 ∨ 68 ≤ k ∧ k ≤ 74 ∨ k = 77 ∨ k = 99 ∨ k = 100) → gI w' k = gI w k) ∧ (∀ a, ¬ (a = 64 ∨ a = 95) → gA w' a = gA w a) ∧ gJ w' = gJ w ∧ (∀ a, a ≠ 94 → gL w' a = gL w a) ∧ gC w' = gC w ∧ gF w' = gF w ∧ gZ w' = gZ w
def ME (c : Cf) (lm : Int) (w w' : Wd) : Prop := fsE w w' ∧ Memo c lm w'
theorem fsE_trans {w w' w'' : Wd} (h : fsE w w') (g : fsE w' w'') : fsE w w'' := ⟨fun k hk => (g.1 k hk).trans (h.1 k hk), fun a ha => (g.2.1 a ha).trans (h.2.1 a ha), g.2.2.1.trans h.2.2.1, fun a ha => (g.2.2.2.1 a ha).trans (h.2.2.2.1 a ha), g.2.2.2.2.1.trans h.2.2.2.2.1, g.2.2.2.2.2.1.trans h.2.2.2.2.2.1, g.2.2.2.2.2.2.trans h.2.2.2.2.2.2⟩
theorem fsM.e {w w' : Wd} (h : fsM w w') : fsE w w' := ⟨fun k hk => h.1 k (by omega), h.2⟩
section ME
variable {c : Cf} {lm : Int} {h : Hs} {w w' w'' : Wd} {Q : Int32 → Wd → Prop}
theorem MS.e (M : MS c lm w w') : ME c lm w w' := ⟨M.1.e, M.2⟩
theorem ME.trans (M : ME c lm w w') (N : ME c lm w' w'') : ME c lm w w'' := ⟨fsE_trans M.1 N.1, N.2⟩
theorem HM.me (H : HM c lm w) (M : ME c lm w w') : HM c lm w' := by
  obtain ⟨h1, h3, h4, h5, h6, h8, h9, h10⟩ := H
  obtain ⟨m1, m2, -⟩ := M.1
  refine ⟨h1, by rw [m1 _ (by decide)]; exact h3, fun i => by rw [m2 _ (by decide)]; exact h4 i, fun i => by rw [m2 _ (by decide)]; exact h5 i, by rw [m1 _ (by decide)]; exact h6, ?_, M.2, h10⟩
  intro i i1 i2
  have z := h8 i i1 i2
  unfold LM at z ⊢
  rw [m2 62 (by decide), m2 63 (by decide)]
  exact z
theorem MH.me {r : Nat} (hr : MR r) (G : MH c r h w) (M : ME c lm w w') : MH c r h w' := by
  have := M.1.2.1 r (by omega)
  unfold MH
  rw [this]
  exact G
theorem MS.i99 (M : MS c lm w w') : gI w' 99 = gI w 99 ∧ gI w' 100 = gI w 100 := ⟨M.1.1 _ (by decide), M.1.1 _ (by decide)⟩
theorem m_set99 (H : HM c lm w) (u v : Int32) : ME c lm w (sI (sI w 99 u) 100 v) := by
  refine ⟨⟨fun k hk => ?_, fun a ha => rfl, rfl, fun a ha => rfl, rfl, rfl, rfl⟩, H.2.2.2.2.2.2.1⟩
  rw [gI_sI, gI_sI, if_neg (by omega), if_neg (by omega)]
theorem m_belowOf {b s : Nat} (hs : s < 256) (hb : b < 8) (q : Q (iz (popc (s >>> (b + 1)) : Nat)) w) : wp_X3_belowOf (iz s) (iz b) w Q := by
  unfold wp_X3_belowOf
  refine s_bc ?_
  rw [(shr_tab s hs b hb).1, bcx_pop (shr_tab s hs b hb).2 w]
  exact q
theorem shr_le : ∀ s, s < 256 → ∀ b, b < 8 → popc (s >>> (b + 1)) ≤ 8 := by decide +kernel
theorem m_goEat : ∀ (k s fuel : Nat) (w : Wd) (acc row : Int) (S : Int × Int) (Q : Wd → Prop), k < fuel → HM c lm w → MH c 90 h w → s < 2 ^ (hn h).toNat → popc s = k → 0 ≤ acc → acc ≤ 81 * (hn h - k) → 0 ≤ row → row < 10 ^ ((hn h).toNat - k) → gI w 99 = iz S.1 → gI w 100 = iz S.2 → -1 ≤ S.1 → S.1 ≤ 100000 →
    (∀ w', ME c lm w w' → gI w' 99 = iz (upE S (acc + best c h s) (row * 10 ^ k + brow c h s)).1 → gI w' 100 = iz (upE S (acc + best c h s) (row * 10 ^ k + brow c h s)).2 → Q w') → pf_X3_goEat fuel (iz s) (iz (hn h - k)) (iz acc) (iz row) w Q := by
  intro k
  induction k with
  | zero =>
    intro s fuel w acc row S Q hf H G hs hp a0 a1 r0 r1 i1 i2 s1 s2 q
    obtain ⟨f, rfl⟩ : ∃ f, fuel = f + 1 := ⟨fuel - 1, by omega⟩
    have z2 := (hn_bit G.1 hs).2.1
    have := (popc_tab s z2).2.1 hp
    subst this
    have n8 := G.1.2.1
    show wp_X3_goEat (pf_X3_goEat f) _ _ _ _ w Q
    refine ⟨fun x => absurd rfl x, fun _ => ?_⟩
    rw [best_0.1, best_0.2, Int.pow_zero, Int.mul_one, Int.add_zero, Int.add_zero] at q
    rw [i1]
    have upd : upE S acc row = (acc, row) → Q (sI (sI w 99 (iz acc)) 100 (iz row)) := fun e => by
      refine q _ (m_set99 H _ _) ?_ ?_
      · rw [e]; rfl
      · rw [e]; rfl
    refine br (iz_eq (by omega) (by omega) (by decide) (by decide)) (fun e => ?_) (fun e => br (iz_lt (by omega) (by omega) (by omega) (by omega)) (fun e2 => ?_) (fun e2 => ?_))
    · rintro w2 rfl w3 rfl
      exact upd (by unfold upE; rw [if_pos (Or.inl e)])
    · rintro w2 rfl w3 rfl
      exact upd (by unfold upE; rw [if_pos (Or.inr e2)])
    · have e3 : upE S acc row = S := by unfold upE; rw [if_neg (by omega)]
      rw [e3] at q
      exact q w H.self.e i1 i2
  | succ k ih =>
    intro s fuel w acc row S Q hf H G hs hp a0 a1 r0 r1 i1 i2 s1 s2 q
    obtain ⟨f, rfl⟩ : ∃ f, fuel = f + 1 := ⟨fuel - 1, by omega⟩
    obtain ⟨z1, z2, z3⟩ := hn_bit G.1 hs
    have n0 := G.1.1; have n8 := G.1.2.1
    have h0 : s ≠ 0 := by rintro rfl; exact absurd hp (by rw [show popc 0 = 0 by decide]; omega)
    obtain ⟨b1, b2, b3, b4, b5, b6⟩ := best_s H.1 G.1 hs h0
    have k8 : k + 1 ≤ (hn h).toNat := by omega
    have p9 := pw10 ((hn h).toNat - (k + 1)) (by omega)
    have pk : (1 : Int) ≤ 10 ^ k := Int.pow_pos (by decide)
    show wp_X3_goEat (pf_X3_goEat f) _ _ _ _ w Q
    refine ⟨fun _ => ?_, fun x => absurd x (iz_ne0 (by omega) (by omega) (by omega))⟩
    /- what is held after the boxes below i -/
    refine lpe (fun n1 (s' : Int32 × Wd) => lp_X3_goEat_36 (pf_X3_goEat f) Q (iz s) (iz (hn h - (k + 1 : Nat))) (iz acc) (iz row) n1 s'.1 s'.2) (fun R2 s' => wl_X3_goEat_36 (pf_X3_goEat f) Q (iz s) (iz (hn h - (k + 1 : Nat))) (iz acc) (iz row) (fun x y => R2 (x, y)) s'.1 s'.2) (fun _ _ h => h)
      (fun i s' => 0 ≤ i ∧ ∃ w', s' = (iz i, w') ∧ ME c lm w w' ∧ ∃ T : Int × Int, gI w' 99 = iz T.1 ∧ gI w' 100 = iz T.2 ∧ T = if (fmE c h s i.toNat).1 = -1 then S else upE S (acc + (fmE c h s i.toNat).1) ((row * 10 + (fmE c h s i.toNat).2) * 10 ^ k + brow c h (rmv s (fmE c h s i.toNat).2))) (hn h) 0 (iz 0, w) n0 ⟨by decide, w, rfl, H.self.e, S, i1, i2, ?_⟩ ?_
    · rw [show (0 : Int).toNat = 0 by decide]
      exact (if_pos rfl).symm
    · rintro R _ i hi ⟨hi0, w', rfl, M, T, t1', t2', tT⟩ kk
      have H1 := H.me M
      have G1 := G.me M90 M
      refine ⟨in90 (by decide) (by decide), ?_⟩
      rw [iz_toInt (by decide) (by decide), G1.n]
      refine br (iz_le (by omega) (by omega) (by omega) (by omega)) (fun e5 => ?_) (fun e5 => ?_)
      · obtain rfl : i = hn h := by omega
        rw [← b1] at tT
        have bb := best_bd H.1 G.1 hs
        rw [if_neg (by omega)] at tT
        have er : row * 10 ^ (k + 1) + brow c h s = (row * 10 + (fmE c h s (hn h).toNat).2) * 10 ^ k + brow c h (rmv s (fmE c h s (hn h).toNat).2) := by
          rw [b2, hp, show k + 1 - 1 = k by omega, Int.pow_succ, Int.add_mul, Int.mul_assoc, Int.mul_comm 10 (10 ^ k), Int.mul_comm (10 ^ k) ((fmE c h s (hn h).toNat).2 : Int), Int.add_assoc]
        rw [er, ← tT] at q
        exact q w' M t1' t2'
      · have kk := kk (by omega)
        obtain ⟨b, rfl⟩ : ∃ b : Nat, i = b := ⟨i.toNat, by omega⟩
        have hb : b < (hn h).toNat := by omega
        rw [show ((b : Int) + 1).toNat = b + 1 by omega] at kk
        rw [Int.toNat_natCast] at tT
        have hh : has2 s b = s.testBit b := by unfold has2; simp
        have sp := fm_spec (fun b => s.testBit b) (fE c h s) b
        have sp' : ((fmE c h s b).1 = -1 ∧ (fmE c h s b).2 = 0 ∨ s.testBit (fmE c h s b).2 = true ∧ (fmE c h s b).2 < b ∧ fE c h s (fmE c h s b).2 = (fmE c h s b).1 ∧ ∀ b', b' < (fmE c h s b).2 → s.testBit b' = true → fE c h s b' < (fmE c h s b).1) ∧ (∀ b', b' < b → s.testBit b' = true → fE c h s b' ≤ (fmE c h s b).1) ∧ -1 ≤ (fmE c h s b).1 := sp
        have es : fmE c h s (b + 1) = if s.testBit b = true ∧ (fmE c h s b).1 < fE c h s b then (fE c h s b, b) else fmE c h s b := rfl
        rw [es] at kk
        clear es sp
        generalize fmE c h s b = p at tT sp' kk
        have fbd : ∀ b', b' < (hn h).toNat → 0 ≤ fE c h s b' ∧ fE c h s b' ≤ 1000 := by
          intro b' hb'
          have y1 := eNow_bd (s := s) H.1 G.1 hb'
          have y3 := (rmv_lt s z2 b' (by omega)).1
          have y2 := best_bd H.1 G.1 (s := rmv s b') (by omega)
          unfold fE
          omega
        refine m_has (by omega) (by omega) hi0 (by omega) (fun t => t1 ?_) (fun t => t0 ?_)
        · have tb : s.testBit b = true := hh ▸ t
          have lt := (rmv_lt s z2 b (by omega)).1
          have lt2 := (rmv_lt s z2 b (by omega)).2 tb
          have fb := fbd b hb
          refine m_belowOf z2 (by omega) ?_
          have sl := shr_le s z2 b (by omega)
          refine m_valueOn H1 M90 G1 (by omega) (by omega) (by omega) (by omega) (by omega) (fun w2 M2 => ?_)
          have Mt := M.trans M2.e
          have eN : eNow c h b s = val c h b (hn h - (k + 1 : Nat)) (popc (s >>> (b + 1)) : Nat) := by unfold eNow; rw [hp]
          have ev := eNow_bd (s := s) H.1 G.1 hb
          rw [← eN, rmv_tab s z2 b (by omega), iz_add, iz_add, iz_mul, iz_add, show hn h - ((k + 1 : Nat) : Int) + 1 = hn h - (k : Int) by omega]
          have e99 := M2.i99
          have T1 : -1 ≤ T.1 ∧ T.1 ≤ 100000 := by
            rw [tT]
            have pb : p.1 ≤ 1000 := by
              rcases sp'.1 with ⟨x1, x2⟩ | ⟨x1, x2, x3, x4⟩
              · omega
              · have := fbd p.2 (by omega)
                omega
            split
            · omega
            · unfold upE
              split
              · exact ⟨(by omega : -1 ≤ acc + p.1), (by omega : acc + p.1 ≤ 100000)⟩
              · exact ⟨s1, s2⟩
          refine ih (rmv s b) f w2 (acc + eNow c h b s) (10 * row + b) T _ (by omega) (H.me Mt) (G.me M90 Mt) (by omega) (by omega) (by omega) ?_ (by omega) ?_ (by rw [e99.1]; exact t1') (by rw [e99.2]; exact t2') T1.1 T1.2 (fun w4 M4 u1' u2' => ?_)
          · push_cast at a1
            omega
          · rw [show (hn h).toNat - k = (hn h).toNat - (k + 1) + 1 by omega, Int.pow_succ]
            omega
          · refine kk _ ⟨by omega, w4, (show (iz (b : Int) + iz 1, w4) = (iz ((b : Int) + 1), w4) by rw [iz_add]), Mt.trans M4, _, u1', u2', ?_⟩
            have ef : acc + eNow c h b s + best c h (rmv s b) = acc + fE c h s b := by unfold fE; omega
            rw [ef, tT, Int.mul_comm 10 row]
            rcases sp'.1 with ⟨x1, x2⟩ | ⟨x1, x2, x3, x4⟩
            · have ep : (if s.testBit b = true ∧ p.1 < fE c h s b then (fE c h s b, b) else p) = (fE c h s b, b) := if_pos ⟨tb, by omega⟩
              have nq : ¬ ((fE c h s b, b) : Int × Nat).1 = -1 := (show ¬ fE c h s b = -1 by omega)
              rw [ep, if_pos x1, if_neg nq]
            · have := fbd p.2 (by omega)
              rw [if_neg (by omega), upE_2 (by omega) s1]
              by_cases e7 : p.1 < fE c h s b
              · have ep : (if s.testBit b = true ∧ p.1 < fE c h s b then (fE c h s b, b) else p) = (fE c h s b, b) := if_pos ⟨tb, e7⟩
                have nq : ¬ ((fE c h s b, b) : Int × Nat).1 = -1 := (show ¬ fE c h s b = -1 by omega)
                rw [ep, if_pos (by omega), if_neg nq]
              · have ep : (if s.testBit b = true ∧ p.1 < fE c h s b then (fE c h s b, b) else p) = p := if_neg (fun z => e7 z.2)
                rw [ep, if_neg (by omega), if_neg (by omega)]
        · rw [iz_add]
          refine kk _ ⟨by omega, w', rfl, M, T, t1', t2', ?_⟩
          rw [if_neg (show ¬ (s.testBit b = true ∧ p.1 < fE c h s b) from fun z => by rw [← hh, t] at z; exact absurd z.1 (by decide))]
          exact tT
theorem m_eat (H : HM c lm w) (G : MH c 90 h w) {v : Int} (hv : VR v) (q : ∀ w', ME c lm w w' → Q (iz (o_eat c h v)) w') : wp_X3_eat (iz v) w Q := by
  unfold wp_X3_eat
  rintro w1 rfl
  have M1 := m_thr H (iz 0)
  have q := fun w' M => q w' (M1.e.trans M)
  have H := H.ms M1
  have G := G.ms M90 M1
  generalize sI w 60 (iz 0) = w at q H G ⊢
  have k0 := H.1.1
  have a := G.1.1; have a2 := G.1.2.1
  have q0 := q w H.self.e
  have pb := pow_bd a (show hn h < 9 by omega)
  unfold o_eat at q q0
  refine br (K0 H) (fun e => ?_) (fun e => m_isIn hv (by decide) (by decide) (fun p1 p2 => u1 ⟨in90 (by decide) (by decide), ?_⟩) (fun p => u0 ?_))
  · rw [if_neg (by omega)] at q0
    exact q0
  · rw [if_pos ⟨by omega, p1, p2⟩] at q
    clear q0
    rw [iz_toInt (by decide) (by decide), G.n]
    refine br (iz_le hv.1 hv.2 (by decide) (by decide)) (fun e => ?_) (fun e => ?_)
    · rintro w4 rfl w5 rfl
      rw [shlI a (by omega), iz_sub, show ((2 ^ (hn h).toNat : Nat) : Int) - 1 = ((2 ^ (hn h).toNat - 1 : Nat) : Int) by omega]
      have pf := (low_tab2 (hn h).toNat (by omega)).1
      have M5 := m_set99 H (iz (-1)) (iz 0)
      have go := m_goEat (c := c) (lm := lm) (h := h) (hn h).toNat (2 ^ (hn h).toNat - 1) 10 (sI (sI w 99 (iz (-1))) 100 (iz 0)) 0 0 (-1, 0) (fun w7 => (¬ iz v = iz 0 → Q (gI w7 99) w7) ∧ (iz v = iz 0 → Q (gI w7 100) w7)) (by omega) (H.me M5) (G.me M90 M5) (full_lt _) pf (by omega) (by omega) (by omega) (Int.pow_pos (by decide)) rfl rfl (by decide) (by decide) (fun w' M x1 x2 => ?_)
      · rw [show hn h - ((hn h).toNat : Int) = 0 by omega] at go
        exact go
      · rw [x1, x2]
        unfold upE
        rw [if_pos (Or.inl rfl), Int.zero_add, Int.zero_mul, Int.zero_add]
        refine brn (iz_eq hv.1 hv.2 (by decide) (by decide)) (fun e2 => ?_) (fun e2 => ?_)
        · rw [if_neg e2, if_pos (by omega)] at q
          exact q w' (M5.trans M)
        · rw [if_pos e2] at q
          exact q w' (M5.trans M)
    · rw [if_neg (by omega), if_neg (by omega)] at q
      have both : ∀ F : Int → Int, F = (if v = 2 then (fun i => val c h (hn h - 1 - i) i 0) else (fun i => val c h i i (hn h - 1 - i))) → (∀ w', ME c lm w w' → Q (iz (sm F (hn h))) w') → ∃ n8, lp_X3_eat_44 Q (iz v) (iz (hn h)) n8 (iz 0) (iz 0) w := by
        intro F hF q
        refine lpe (fun n1 (s : Int32 × Int32 × Wd) => lp_X3_eat_44 Q (iz v) (iz (hn h)) n1 s.1 s.2.1 s.2.2) (fun R s => wl_X3_eat_44 Q (iz v) (iz (hn h)) (fun x y z => R (x, y, z)) s.1 s.2.1 s.2.2) (fun _ _ h => h) (fun i s => 0 ≤ i ∧ ∃ w', s = (iz (sm F i), iz i, w') ∧ MS c lm w w') (hn h) 0 (iz 0, iz 0, w) a ⟨by decide, w, rfl, H.self⟩ ?_
        rintro R _ i hi ⟨hi0, w', rfl, M⟩ kk
        refine br (iz_le (by omega) (by omega) (by omega) (by omega)) (fun e3 => ?_) (fun e3 => ?_)
        · obtain rfl : i = hn h := by omega
          exact q w' M.e
        · have kk := kk (by omega)
          rw [sm_s _ hi0, hF] at kk
          have H' := H.ms M
          have G' := G.ms M90 M
          refine brn (iz_eq hv.1 hv.2 (by decide) (by decide)) (fun e4 => ?_) (fun e4 => ?_)
          · refine brn (iz_eq hv.1 hv.2 (by decide) (by decide)) (fun _ => ?_) (fun e5 => absurd e5 e4)
            rw [iz_sub, iz_sub]
            refine m_valueOn H' M90 G' hi0 (by omega) (by omega) hi0 (by omega) (fun w2 M2 => ?_)
            rw [iz_add, iz_add]
            refine kk _ ⟨by omega, w2, ?_, M.trans M2⟩
            rw [hF]
            simp only [if_neg e4]
          · refine brn (iz_eq hv.1 hv.2 (by decide) (by decide)) (fun e5 => absurd e4 e5) (fun _ => ?_)
            rw [iz_sub, iz_sub]
            refine m_valueOn H' M90 G' (by omega) (by omega) (by decide) hi0 (by omega) (fun w2 M2 => ?_)
            rw [iz_add, iz_add]
            refine kk _ ⟨by omega, w2, ?_, M.trans M2⟩
            rw [hF]
            simp only [if_pos e4]
      refine both _ rfl (fun w' M => ?_)
      have q := q w' M
      by_cases e4 : v = 2
      · rw [if_pos e4] at q ⊢
        exact q
      · rw [if_neg e4] at q ⊢
        exact q
  · rw [if_neg (by omega)] at q0
    exact q0
end ME
