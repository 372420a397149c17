/-! keep and costs -/
def o_costs (c : Cf) (h : Hs) (n : Int) : Int := if 0 < cK c ∧ 1 ≤ n ∧ n ≤ 99 then vsum c h (hn h) - vsum c (hOld h (tmy c (pall h) n)) (hn h) else -1
section CO
variable {c : Cf} {lm : Int} {h : Hs} {w w' : Wd} {Q : Int32 → Wd → Prop}
theorem hOld_n (h : Hs) (m : Int) : hn (hOld h m) = hn h := rfl
theorem valO_old (c : Cf) (h : Hs) {m b : Int} (g : hb h b 2 ≤ 99) (m1 : 0 ≤ m) : valO c (hOld h m) b = hb h b 1 * wth c (hb h b 0) (hb h b 1) (min 99 (hb h b 2 + m)) (hn h - 1 - b) (hm h) := by
  unfold valO val hOld
  simp only [hn_mk, hm_mk, hb_mk]
  have e1 : (if (1 : Int) = 2 then min 99 (hb h b 2 + m) else hb h b 1) = hb h b 1 := if_neg (by decide)
  have e0 : (if (0 : Int) = 2 then min 99 (hb h b 2 + m) else hb h b 0) = hb h b 0 := if_neg (by decide)
  rw [e1, e0]
  simp only [if_true, Int.add_zero]
  rw [show min 99 (min 99 (hb h b 2 + m)) = min 99 (hb h b 2 + m) by omega]
/-- frame of a question that uses the row 91 -/
def MA (c : Cf) (lm : Int) (w w' : Wd) : Prop := ∃ f, MS c lm (sB w 91 f) w'
theorem m_aside (H : HM c lm w) (G : MH c 90 h w) {f : Int → Int32} : HM c lm (sB w 91 f) ∧ MH c 90 h (sB w 91 f) := ⟨H.row (by omega) f, ⟨G.1, by rw [gA_n w (show 90 ≠ 91 by decide)]; exact G.2⟩⟩
theorem tmy_bd (H : CfOK c) (G : HsOK c h) (k : 0 < cK c) {n : Int} (n1 : 1 ≤ n) (n2 : n ≤ 99) : 0 ≤ tmy c (pall h) n ∧ tmy c (pall h) n ≤ 99 := by
  have pb := pall_bd G
  have := tm_bd H k (p := pall h) (by omega) (by omega)
  unfold tmy
  omega
theorem m_keep (H : HM c lm w) (G : MH c 90 h w) {n v : Int} (h1 : VR n) (h2 : VR v) (q : ∀ w', MS c lm w w' ∨ MA c lm w w' → Q (o_keep c h n v) w') : wp_X3_keep (iz n) (iz v) w Q := by
  unfold wp_X3_keep
  rintro w1 rfl
  have M1 := m_thr H (iz 0)
  have q0 := q _ (Or.inl M1)
  have q := fun (w' : (Int → Int32) × Wd) (M : MS c lm (sB w 91 w'.1) w'.2) => q w'.2 (Or.inr ⟨w'.1, M⟩)
  have H1 := H.ms M1
  have G1 := G.ms M90 M1
  have a := G.1.1; have a2 := G.1.2.1
  unfold o_keep at q q0
  refine m_isHours H1 h1 (fun k p1 p2 => t1 (m_isIn h2 (by decide) (by decide) (fun p3 p4 => u1 ?_) (fun p => u0 ?_))) (fun p => t0 ?_)
  · simp only [if_pos (show 0 < cK c ∧ 1 ≤ n ∧ n ≤ 99 ∧ 0 ≤ v ∧ v ≤ 9 from ⟨k, p1, p2, p3, p4⟩)] at q
    have pb := pall_bd G.1
    have tb := tmy_bd H.1 G.1 k p1 p2
    refine m_copy (Or.inl rfl) (Or.inr (Or.inl rfl)) (by decide) G1 (fun f1 A1 => ?_)
    obtain ⟨H2, G2⟩ := m_aside H1 G1 (f := f1)
    refine m_sumIn M90 G2 (m_moreThanBorne H2 k (by omega) (by omega) (m_ages M91 (h := h) ⟨G.1, by rw [gA_r]; exact A1⟩ tb.1 (by omega) (fun f2 A2 => ?_)))
    rw [sB_sB]
    have M3 : MS c lm (sB w 91 f2) (sB (sI w 60 (iz 0)) 91 f2) := m_thr (m_aside H G).1 (iz 0)
    have H3 := (m_aside H1 G1 (f := f2)).1
    have G3 : MH c 91 (hOld h (tmy c (pall h) n)) (sB (sI w 60 (iz 0)) 91 f2) := ⟨hOld_ok G.1 tb.1, by rw [gA_r]; exact A2⟩
    have G30 := (m_aside H1 G1 (f := f2)).2
    generalize hW : sB (sI w 60 (iz 0)) 91 f2 = W at M3 H3 G3 G30 ⊢
    generalize hT : tmy c (pall h) n = T at tb q G3
    refine lpe (fun n1 (s3 : Int32 × Int32 × Wd) => lp_X3_keep_64 Q (iz v) n1 s3.1 s3.2.1 s3.2.2) (fun R s3 => wl_X3_keep_64 Q (iz v) (fun x y z => R (x, y, z)) s3.1 s3.2.1 s3.2.2) (fun _ _ h => h) (fun i s3 => 0 ≤ i ∧ ∃ w', s3 = (bts (fun b => v ≤ wth c (hb h b 0) (hb h b 1) (min 99 (hb h b 2 + T)) (hn h - 1 - b) (hm h)) i, iz i, w') ∧ MS c lm W w') (hn h) 0 (iz 0, iz 0, W) a ⟨by decide, W, rfl, H3.self⟩ ?_
    rintro R _ i hi ⟨hi0, w', rfl, M⟩ kk
    have H4 := H3.ms M
    have G4 := G3.ms M91 M
    have vn := G4.2.1
    rw [Int.zero_add, hOld_n] at vn
    refine ⟨in90 (by decide) (by decide), ?_⟩
    rw [iz_toInt (by decide) (by decide), vn]
    refine br (iz_le (by omega) (by omega) (by omega) (by omega)) (fun e => ?_) (fun e => ?_)
    · obtain rfl : i = hn h := by omega
      exact q (f2, w') (M3.trans M)
    · have kk := kk (by omega)
      have g := G.1.2.2.2.2.2.2.2 i hi0 (by omega)
      refine m_valueOf H4 M91 G4 hi0 (by rw [hOld_n]; omega) (fun w2 M2 => ?_)
      rw [valO_old c h (by omega) tb.1]
      have G5 := G4.ms M91 M2
      have v1 := G5.v (b := i) (j := 1) hi0 (by rw [hOld_n]; omega) (by decide) (by decide)
      have e1 : hb (hOld h T) i 1 = hb h i 1 := by unfold hOld; rw [hb_mk]; exact if_neg (by decide)
      rw [e1] at v1
      rw [iz_mul 5 i, iz_add (5 * i) 1]
      refine ⟨in90 (by omega) (by omega), ?_⟩
      rw [iz_toInt (by omega) (by omega), v1, iz_mul, or0]
      have wb := wth_bd (p := hb h i 1) (a := min 99 (hb h i 2 + T)) (below := hn h - 1 - i) (m := hm h) H.1 g.1 g.2.1
      have m1 := mul_bd (a := hb h i 1) (b := wth c (hb h i 0) (hb h i 1) (min 99 (hb h i 2 + T)) (hn h - 1 - i) (hm h)) (m := 9) (n := 9) (by omega) (by omega) (by omega) (by omega)
      have m2 := mul_bd (a := v) (b := hb h i 1) (m := 9) (n := 9) (by omega) (by omega) (by omega) (by omega)
      refine br (iz_lt (by omega) (by omega) (by omega) (by omega)) (fun e2 => kk _ ⟨by omega, w2, ?_, M.trans M2⟩) (fun e2 => kk _ ⟨by omega, w2, ?_, M.trans M2⟩)
      · have : ¬ v ≤ wth c (hb h i 0) (hb h i 1) (min 99 (hb h i 2 + T)) (hn h - 1 - i) (hm h) := fun z => by
          have := Int.mul_le_mul_of_nonneg_left z (show 0 ≤ hb h i 1 by omega)
          rw [Int.mul_comm (hb h i 1) v] at this
          omega
        rw [bts_f (fun b => v ≤ wth c (hb h b 0) (hb h b 1) (min 99 (hb h b 2 + T)) (hn h - 1 - b) (hm h)) hi0 this, iz_add]
      · have : v ≤ wth c (hb h i 0) (hb h i 1) (min 99 (hb h i 2 + T)) (hn h - 1 - i) (hm h) := by
          rw [Int.mul_comm v] at e2
          exact Int.le_of_mul_le_mul_left (by omega) (show 0 < hb h i 1 by omega)
        rw [bts_t (fun b => v ≤ wth c (hb h b 0) (hb h b 1) (min 99 (hb h b 2 + T)) (hn h - 1 - b) (hm h)) hi0 this, iz_add]
  · rw [if_neg (by omega)] at q0
    exact q0
  · rw [if_neg (by omega)] at q0
    exact q0
theorem m_costs (H : HM c lm w) (G : MH c 90 h w) {n : Int} (h1 : VR n) (q : ∀ w', MS c lm w w' ∨ MA c lm w w' → Q (iz (o_costs c h n)) w') : wp_X3_costs (iz n) w Q := by
  unfold wp_X3_costs
  rintro w1 rfl
  have M1 := m_thr H (iz 0)
  have q0 := q _ (Or.inl M1)
  have q := fun (w' : (Int → Int32) × Wd) (M : MS c lm (sB w 91 w'.1) w'.2) => q w'.2 (Or.inr ⟨w'.1, M⟩)
  have H1 := H.ms M1
  have G1 := G.ms M90 M1
  unfold o_costs at q q0
  refine m_isHours H1 h1 (fun k p1 p2 => u1 ?_) (fun p => u0 ?_)
  · simp only [if_pos (show 0 < cK c ∧ 1 ≤ n ∧ n ≤ 99 from ⟨k, p1, p2⟩)] at q
    have pb := pall_bd G.1
    have tb := tmy_bd H.1 G.1 k p1 p2
    refine m_copy (Or.inl rfl) (Or.inr (Or.inl rfl)) (by decide) G1 (fun f1 A1 => ?_)
    obtain ⟨H2, G2⟩ := m_aside H1 G1 (f := f1)
    refine m_sumIn M90 G2 (m_moreThanBorne H2 k (by omega) (by omega) (m_ages M91 (h := h) ⟨G.1, by rw [gA_r]; exact A1⟩ tb.1 (by omega) (fun f2 A2 => ?_)))
    rw [sB_sB]
    have M3 : MS c lm (sB w 91 f2) (sB (sI w 60 (iz 0)) 91 f2) := m_thr (m_aside H G).1 (iz 0)
    have H3 := (m_aside H1 G1 (f := f2)).1
    have G3 : MH c 91 (hOld h (tmy c (pall h) n)) (sB (sI w 60 (iz 0)) 91 f2) := ⟨hOld_ok G.1 tb.1, by rw [gA_r]; exact A2⟩
    have G30 := (m_aside H1 G1 (f := f2)).2
    refine m_valueIn H3 M90 G30 (fun w2 M2 => m_valueIn (H3.ms M2) M91 (G3.ms M91 M2) (fun w4 M4 => ?_))
    rw [iz_sub]
    exact q (f2, w4) (M3.trans (M2.trans M4))
  · rw [if_neg (by omega)] at q0
    exact q0
theorem sm_vo (c : Cf) (h : Hs) (a b : Int) : vsum c h (hn h) = vsum c h (hn h) := rfl
theorem x_costs (H : HX c h w) {n : Int} (h1 : VR n) (q : ∀ f g j, AXf h g 0 → Q (iz (o_costs c h n)) (sB (sB (sB w 15 f) 31 g) 35 j)) : wp_X1_costs (iz n) w Q := by
  unfold wp_X1_costs
  have q0 := q (gA w 15) (gA w 31) (gA w 35) H.ax
  have self : sB (sB (sB w 15 (gA w 15)) 31 (gA w 31)) 35 (gA w 35) = w := by rw [sB_self, sB_self, sB_self]
  rw [self] at q0
  unfold o_costs at q q0
  refine x_isOff H h1 (fun k p1 p2 => u1 ?_) (fun p => u0 ?_)
  · simp only [if_pos (show 0 < cK c ∧ 1 ≤ n ∧ n ≤ 99 from ⟨k, p1, p2⟩)] at q
    have tb := tmy_bd H.cf H.hs k p1 p2
    refine x_valueAll H (fun f1 => x_putAside (fun j hj => ?_))
    have H1 : HX c h (sB w 15 f1) := H.s15 f1
    have e31 : ∀ t, gA (sB w 15 f1) 31 t = gA w 31 t := fun t => by rw [gA_sB, if_neg (by decide)]
    have H2 : HX c h (sB (sB w 15 f1) 35 j) := by
      obtain ⟨h1, h2, h3, h4, h5, h6, h7, h8⟩ := H1
      refine ⟨h1, h2, h3, ?_, ?_, h6, ?_, ?_⟩
      · intro i; rw [gA_n _ (by decide)]; exact h4 i
      · intro i; rw [gA_n _ (by decide)]; exact h5 i
      · rw [AXf_eq, gA_n _ (by decide)]; exact h7
      · exact h8
    refine x_tooMany H2 k p1 p2 (x_older H2 tb.1 (by omega) (fun f2 A2 => ?_))
    have H3 := H2.s31 (hOld_ok H.hs tb.1) A2
    refine x_valueAll H3 (fun f3 => x_takeBack (fun f4 h4 => ?_))
    rw [iz_sub]
    have A4 : AXf h f4 0 := by
      have n8 := H.hs.2.1
      refine AXf_shift H.ax H.hs.1 n8 H.hs.2.2.2.2.2.1 (fun t t1 t2 => ?_)
      rw [Int.zero_add, h4 t t1 t2, gA_n _ (by decide), gA_n _ (by decide), gA_r, hj t t1 t2, e31]
    have := q f3 f4 j A4
    rw [sB_comm _ (show (31 : Nat) ≠ 15 by decide), sB_comm _ (show (35 : Nat) ≠ 15 by decide), sB_sB, sB_sB, sB_comm _ (show (35 : Nat) ≠ 31 by decide)]
    exact this
  · rw [if_neg (by omega)] at q0
    exact q0
end CO
