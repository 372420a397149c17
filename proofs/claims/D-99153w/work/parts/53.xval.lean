/-! the component's values -/
theorem wth_bd {c : Cf} (H : CfOK c) {k p a below m : Int} (h1 : 0 ≤ k) (h2 : k < cK c) : 0 ≤ wth c k p a below m ∧ wth c k p a below m ≤ 9 := by
  have := H.2.2.2.1 k h1 h2
  unfold wth
  generalize (if cH c = -1 then a - cD c (5 * k + 2) else cF c (cH c) a (cD c (5 * k + 2)) p below k m) = l
  omega
theorem mul_bd {a b : Int} {m n : Int} (h1 : 0 ≤ a) (h2 : a ≤ m) (h3 : 0 ≤ b) (h4 : b ≤ n) : 0 ≤ a * b ∧ a * b ≤ m * n := ⟨Int.mul_nonneg h1 h3, Int.mul_le_mul h2 h4 h3 (by omega)⟩
theorem val_bd {c : Cf} {h : Hs} (H : CfOK c) (G : HsOK c h) {b more below : Int} (h1 : 0 ≤ b) (h2 : b < hn h) : 0 ≤ val c h b more below ∧ val c h b more below ≤ 81 := by
  have g := G.2.2.2.2.2.2.2 b h1 h2
  have := wth_bd H (k := hb h b 0) (p := hb h b 1) (a := min 99 (hb h b 2 + more)) (below := below) (m := hm h + more) (by omega) (by omega)
  have r := mul_bd (m := 9) (n := 9) (show 0 ≤ hb h b 1 by omega) (by omega) this.1 this.2
  exact ⟨r.1, Int.le_trans r.2 (by decide)⟩
section XV
variable {c : Cf} {h : Hs} {w : Wd}
theorem HX.sa15 (H : HX c h w) (i : Int) (v : Int32) : HX c h (sA w 15 i v) := by rw [sA_sB]; exact H.s15 _
theorem x_forgetL {Q : Wd → Prop} (q : ∀ f, Q (sB w 15 f)) : ∀ (d : Nat) (k : Int) (f : Int → Int32), 0 ≤ k → k + d = 6 → lp_X1_forget_2 Q (d + 1) (iz k) (sB w 15 f) := by
  intro d
  induction d with
  | zero =>
    intro k f h1 h2
    refine ⟨by decide, s_length (by decide) ?_⟩
    exact ⟨fun _ => q f, fun h => absurd ((iz_le (by decide) (by decide) (by omega) (by omega)).mpr (by show sLn 1 ≤ k; unfold sLn sTx; simp; omega)) h⟩
  | succ d ih =>
    intro k f h1 h2
    refine ⟨by decide, s_length (by decide) ?_⟩
    have e6 : sLn 1 = 6 := by decide
    rw [e6]
    refine ⟨fun h => absurd ((iz_le (by decide) (by decide) (by omega) (by omega)).mp h) (by omega), fun _ => ⟨by decide, s_charAt (by decide) h1 (by omega) ?_⟩⟩
    obtain ⟨-, -, -, c4, c5⟩ := s_ch_all 1 (by decide) k.toNat (by show k.toNat < 6; omega)
    refine ⟨iz_inb (by omega) (by omega) (by omega), fun w5 e => ?_⟩
    rw [e, sA_sB, sB_sB, iz_add]
    exact ih (k + 1) _ (by omega) (by omega)
theorem x_forget {Q : Wd → Prop} (q : ∀ f, Q (sB w 15 f)) : wp_X1_forget w Q := by
  refine ⟨7, ?_⟩
  have := x_forgetL q 6 0 (gA w 15) (by decide) (by decide)
  rw [sB_self] at this
  exact this
variable {Q : Int32 → Wd → Prop}
theorem x_worthEnd (H : HX c h w) {k l : Int} (h1 : 0 ≤ k) (h2 : k < cK c) (hl1 : 0 ≤ l) (hl2 : l ≤ 9) (q : Q (iz (max 0 (cD c (5 * k + 3) - l))) w) : b_X1_worthAt_130 Q (iz k) (iz l) w := by
  unfold b_X1_worthAt_130
  have g := H.cf.2.2.2.1 k h1 h2
  refine x_ofKind H h1 h2 (by decide) (by decide) ?_
  simp only [iz_sub]
  rw [imax_iz (by decide) (by decide) (by omega) (by omega)]
  exact q
theorem x_worthAt (H : HX c h w) {b age below month : Int} (h1 : 0 ≤ b) (h2 : b < hn h) (h3 : 0 ≤ age) (h4 : age ≤ 2000) (q : ∀ f, Q (iz (wth c (hb h b 0) (hb h b 1) age below month)) (sB w 15 f)) : wp_X1_worthAt (iz b) (iz age) (iz below) (iz month) w Q := by
  unfold wp_X1_worthAt
  have g := H.hs.2.2.2.2.2.2.2 b h1 h2
  have gk := H.cf.2.2.2.1 (hb h b 0) (by omega) (by omega)
  have gh := H.cf.2.2.2.2
  refine x_of H h1 h2 (by decide) (by decide) ?_
  refine x_ofKind H (by omega) (by omega) (by decide) (by decide) ?_
  rw [H.2.2.2.2.2.1]
  unfold wth at q
  refine br (iz_eq (by omega) (by omega) (by decide) (by decide)) (fun hc => ?_) (fun hc => ?_)
  · simp only [if_pos hc] at q
    simp only [iz_sub]
    rw [imin_iz (by decide) (by decide) (by omega) (by omega), imax_iz (by decide) (by decide) (by omega) (by omega)]
    refine x_worthEnd H (by omega) (by omega) (by omega) (by omega) ?_
    have := q (gA w 15)
    rw [sB_self] at this
    exact this
  · simp only [if_neg hc] at q
    refine x_forget (fun f => ?_)
    have H1 := H.s15 f
    refine ⟨iz_inb (by decide) (by decide) (by decide), fun w7 e7 => ?_⟩
    have H7 : HX c h w7 := by rw [e7]; exact H1.sa15 _ _
    refine x_ofKind H7 (by omega) (by omega) (by decide) (by decide) ?_
    refine ⟨iz_inb (by decide) (by decide) (by decide), fun w10 e10 => ?_⟩
    have H10 : HX c h w10 := by rw [e10]; exact H7.sa15 _ _
    refine x_of H10 h1 h2 (by decide) (by decide) ?_
    refine ⟨iz_inb (by decide) (by decide) (by decide), fun w13 e13 => ⟨iz_inb (by decide) (by decide) (by decide), fun w14 e14 => ⟨iz_inb (by decide) (by decide) (by decide), fun w15 e15 => ⟨iz_inb (by decide) (by decide) (by decide), fun w16 e16 => ?_⟩⟩⟩⟩
    simp only [iz_toInt (show (-2147483648 : Int) ≤ 97 by decide) (by decide), iz_toInt (show (-2147483648 : Int) ≤ 111 by decide) (by decide), iz_toInt (show (-2147483648 : Int) ≤ 110 by decide) (by decide), iz_toInt (show (-2147483648 : Int) ≤ 121 by decide) (by decide), iz_toInt (show (-2147483648 : Int) ≤ 107 by decide) (by decide), iz_toInt (show (-2147483648 : Int) ≤ 109 by decide) (by decide)] at e7 e10 e13 e14 e15 e16
    have H16 : HX c h w16 := by rw [e16, e15, e14, e13]; exact (((H10.sa15 _ _).sa15 _ _).sa15 _ _).sa15 _ _
    obtain ⟨f7, g7⟩ := sB_ex e7 rfl
    obtain ⟨f10, g10⟩ := sB_ex e10 g7
    obtain ⟨f13, g13⟩ := sB_ex e13 g10
    obtain ⟨f14, g14⟩ := sB_ex e14 g13
    obtain ⟨f15, g15⟩ := sB_ex e15 g14
    obtain ⟨f', ef⟩ := sB_ex e16 g15
    rw [H16.2.2.2.2.2.1, iz_toInt (by omega) (by omega)]
    refine ⟨iz_inb (by omega) (by omega) (by omega), ?_⟩
    refine H16.2.2.2.2.2.2.2 (cH c) (by omega) (by omega) rfl w16 age (cD c (5 * hb h b 0 + 2)) (hb h b 1) below (hb h b 0) month _ (fun _ _ => rfl) ?_ ?_ ?_ ?_ ?_ ?_ ?_
    · rw [e16, e15, e14, e13, e10, e7]; simp [gA_sA]
    · rw [e16, e15, e14, e13, e10]; simp [gA_sA]
    · rw [e16, e15, e14, e13]; simp [gA_sA]
    · rw [e16, e15, e14]; simp [gA_sA]
    · rw [e16, e15]; simp [gA_sA]
    · rw [e16]; simp [gA_sA]
    · have gl := gh.2.2 (cH c) age (cD c (5 * hb h b 0 + 2)) (hb h b 1) below (hb h b 0) month
      rw [imin_iz (by decide) (by decide) (by omega) (by omega), imax_iz (by decide) (by decide) (by omega) (by omega)]
      refine x_worthEnd H16 (by omega) (by omega) (by omega) (by omega) ?_
      rw [ef]
      exact q f'
theorem x_valueAt (H : HX c h w) {b more below : Int} (h1 : 0 ≤ b) (h2 : b < hn h) (h3 : 0 ≤ more) (h4 : more ≤ 1000) (q : ∀ f, Q (iz (val c h b more below)) (sB w 15 f)) : wp_X1_valueAt (iz b) (iz more) (iz below) w Q := by
  unfold wp_X1_valueAt
  have g := H.hs.2.2.2.2.2.2.2 b h1 h2
  refine x_of H h1 h2 (by decide) (by decide) ?_
  refine x_aged H h1 h2 h3 h4 ?_
  refine ⟨iz_inb (by decide) (by decide) (by decide), ?_⟩
  have e := H.2.2.2.2.2.2.1.2.1
  rw [Int.zero_add] at e
  rw [iz_toInt (by decide) (by decide), e, iz_add]
  refine x_worthAt H h1 h2 (by omega) (by omega) (fun f => ?_)
  simp only [iz_mul]
  exact q f
theorem x_valueOf (H : HX c h w) {b : Int} (h1 : 0 ≤ b) (h2 : b < hn h) (q : ∀ f, Q (iz (valO c h b)) (sB w 15 f)) : wp_X1_valueOf (iz b) w Q := by
  unfold wp_X1_valueOf
  refine x_turned H ?_
  exact x_valueAt H h1 h2 (by decide) (by decide) q
end XV
