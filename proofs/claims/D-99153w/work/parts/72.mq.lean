/-! the model's questions -/
section MQ
variable {c : Cf} {lm : Int} {h : Hs} {w w' : Wd} {Q : Int32 → Wd → Prop}
theorem m_thr (H : HM c lm w) (v : Int32) : MS c lm w (sI w 60 v) := by
  refine ⟨⟨fun k hk => ?_, fun a ha => rfl, rfl, fun a ha => rfl, rfl, rfl, rfl⟩, H.2.2.2.2.2.2.1⟩
  rw [gI_sI, if_neg (by omega)]
theorem M90 : MR 90 := Or.inl rfl
theorem M91 : MR 91 := Or.inr rfl
theorem m_isKind (H : HM c lm w) {k : Int} (hk : VR k) (f : 0 ≤ k → k < cK c → Q (iz 1) w) (g : ¬ (0 ≤ k ∧ k < cK c) → Q (iz 0) w) : wp_X3_isKind (iz k) w Q := by
  unfold wp_X3_isKind
  have a := H.1.1; have a2 := H.1.2.1
  rw [H.2.1]
  exact br (iz_lt hk.1 hk.2 (by decide) (by decide)) (fun e => g (by omega)) (fun e => br (iz_le (by omega) (by omega) hk.1 hk.2) (fun e2 => g (by omega)) (fun e2 => f (by omega) (by omega)))
theorem m_isBox (H : HM c lm w) {r : Nat} (hr : MR r) (G : MH c r h w) {b : Int} (hv : VR b) (f : 0 ≤ b → b < hn h → Q (iz 1) w) (g : ¬ (0 ≤ b ∧ b < hn h) → Q (iz 0) w) : wp_X3_isBox r (iz b) w Q := by
  unfold wp_X3_isBox
  have a := H.1.1; have a2 := H.1.2.1
  have n0 := G.1.1; have n8 := G.1.2.1
  have z := G.1.2.2.2.2.2.2.1
  have vn := G.2.1
  rw [Int.zero_add] at vn
  rw [H.2.1]
  refine br (iz_le (by omega) (by omega) (by decide) (by decide)) (fun e => g (by have := z (by omega); omega)) (fun e => br (iz_lt hv.1 hv.2 (by decide) (by decide)) (fun e2 => g (by omega)) (fun e2 => ?_))
  refine ⟨inM hr (by omega) (by omega), ?_⟩
  rw [iz_toInt (by omega) (by omega), vn]
  exact br (iz_le (by omega) (by omega) hv.1 hv.2) (fun e2 => g (by omega)) (fun e2 => f (by omega) (by omega))
theorem MH.n (G : MH c 90 h w) : gA w 90 40 = iz (hn h) := G.2.1
theorem MH.v {r : Nat} (G : MH c r h w) {b j : Int} (h1 : 0 ≤ b) (h2 : b < hn h) (h3 : 0 ≤ j) (h4 : j < 4) : gA w r (5 * b + j) = iz (hb h b j) := by
  have := G.2.2.2.2.1 b j h1 h2 h3 h4
  rwa [Int.zero_add] at this
theorem m_kindIn (G : MH c 90 h w) {b : Int} (h1 : 0 ≤ b) (h2 : b < hn h) (q : Q (iz (hb h b 0)) w) : wp_X3_kindIn (iz b) w Q := by
  unfold wp_X3_kindIn
  have n8 := G.1.2.1
  simp only [iz_mul, iz_add]
  refine ⟨iz_inb (by omega) (by omega) (by omega), ?_⟩
  rw [iz_toInt (by omega) (by omega), G.v h1 h2 (by decide) (by decide)]
  exact q
theorem m_isNameless (G : MH c 90 h w) {b : Int} (h1 : 0 ≤ b) (h2 : b < hn h) (f : hb h b 3 = 0 → Q (iz 1) w) (g : hb h b 3 = 1 → Q (iz 0) w) : wp_X3_isNameless (iz b) w Q := by
  unfold wp_X3_isNameless
  have n8 := G.1.2.1
  have g8 := G.1.2.2.2.2.2.2.2 b h1 h2
  simp only [iz_mul, iz_add]
  refine ⟨iz_inb (by omega) (by omega) (by omega), ?_⟩
  rw [iz_toInt (by omega) (by omega), G.v h1 h2 (by decide) (by decide)]
  exact brn (iz_eq (by omega) (by omega) (by decide) (by decide)) (fun e => g (by omega)) (fun e => f e)
theorem m_fit (H : HM c lm w) {a b : Int} (h1 : 0 ≤ a) (h2 : a < cK c) (h3 : 0 ≤ b) (h4 : b < cK c) (f : kwith c a b → Q (iz 1) w) (g : ¬ kwith c a b → Q (iz 0) w) : wp_X3_fit (iz a) (iz b) w Q := by
  unfold wp_X3_fit
  have k6 := H.1.2.1
  have ga := H.1.2.2.2.1 a h1 h2
  have gb := H.1.2.2.2.1 b h3 h4
  refine br (iz_eq (by omega) (by omega) (by omega) (by omega)) (fun e => f (Or.inl e)) (fun e => m_told H h1 h2 (by decide) (by decide) ?_)
  refine br (iz_eq (by omega) (by omega) (by omega) (by omega)) (fun e2 => f (Or.inr (Or.inl ?_))) (fun e2 => m_told H h3 h4 (by decide) (by decide) ?_)
  · unfold kgo
    rw [if_neg (by omega), e2]
  · refine brn (iz_eq (by omega) (by omega) (by omega) (by omega)) (fun e3 => g (fun x => ?_)) (fun e3 => f (Or.inr (Or.inr ?_)))
    · unfold kwith kgo at x
      rcases x with x | x | x
      · exact e x
      · by_cases z : cD c (5 * a + 4) = 6
        · rw [if_pos z] at x; omega
        · rw [if_neg z] at x; omega
      · by_cases z : cD c (5 * b + 4) = 6
        · rw [if_pos z] at x; omega
        · rw [if_neg z] at x; omega
    · unfold kgo
      rw [if_neg (by omega), e3]
theorem m_has {s k : Int} (h1 : 0 ≤ s) (h2 : s < 256) (h3 : 0 ≤ k) (h4 : k < 8) (f : has2 s k = true → Q (iz 1) w) (g : has2 s k = false → Q (iz 0) w) : wp_X3_has (iz s) (iz k) w Q := x_has h1 h2 h3 h4 f g
theorem m_sumIn {r : Nat} (hr : MR r) (G : MH c r h w) (q : Q (iz (pall h)) w) : wp_X3_sumIn r w Q := by
  have a := G.1.1; have a2 := G.1.2.1
  have vn := G.2.1
  rw [Int.zero_add] at vn
  refine lpe (fun n (s3 : Int32 × Int32 × Wd) => lp_X3_sumIn_4 Q r n s3.1 s3.2.1 s3.2.2) (fun R s3 => wl_X3_sumIn_4 Q r (fun x y z => R (x, y, z)) s3.1 s3.2.1 s3.2.2) (fun _ _ h => h) (fun i s3 => 0 ≤ i ∧ s3 = (iz (sm (fun b => hb h b 1) i), iz i, w)) (hn h) 0 (iz 0, iz 0, w) a ⟨by decide, rfl⟩ ?_
  rintro R _ i hi ⟨hi0, rfl⟩ k
  refine ⟨inM hr (by omega) (by omega), ?_⟩
  rw [iz_toInt (by omega) (by omega), vn]
  refine br (iz_le (by omega) (by omega) (by omega) (by omega)) (fun e => ?_) (fun e => ?_)
  · obtain rfl : i = hn h := by omega
    exact q
  · simp only [iz_mul, iz_add]
    refine ⟨inM hr (by omega) (by omega), ?_⟩
    rw [iz_toInt (by omega) (by omega), G.v hi0 (by omega) (by decide) (by decide), iz_add]
    exact k (by omega) _ ⟨by omega, by rw [sm_s _ hi0]⟩
theorem m_valueIn (H : HM c lm w) {r : Nat} (hr : MR r) (G : MH c r h w) (q : ∀ w', MS c lm w w' → Q (iz (vsum c h (hn h))) w') : wp_X3_valueIn r w Q := by
  have a := G.1.1; have a2 := G.1.2.1
  refine lpe (fun n (s3 : Int32 × Int32 × Wd) => lp_X3_valueIn_4 Q r n s3.1 s3.2.1 s3.2.2) (fun R s3 => wl_X3_valueIn_4 Q r (fun x y z => R (x, y, z)) s3.1 s3.2.1 s3.2.2) (fun _ _ h => h) (fun i s3 => 0 ≤ i ∧ ∃ w', s3 = (iz (vsum c h i), iz i, w') ∧ MS c lm w w') (hn h) 0 (iz 0, iz 0, w) a ⟨by decide, w, rfl, H.self⟩ ?_
  rintro R _ i hi ⟨hi0, w', rfl, M⟩ k
  have G' := G.ms hr M
  have vn := G'.2.1
  rw [Int.zero_add] at vn
  refine ⟨inM hr (by omega) (by omega), ?_⟩
  rw [iz_toInt (by omega) (by omega), vn]
  refine br (iz_le (by omega) (by omega) (by omega) (by omega)) (fun e => ?_) (fun e => ?_)
  · obtain rfl : i = hn h := by omega
    exact q w' M
  · refine m_valueOf (H.ms M) hr G' hi0 (by omega) (fun w2 M2 => ?_)
    rw [iz_add, iz_add]
    exact k (by omega) _ ⟨by omega, w2, by unfold vsum; rw [sm_s _ hi0], M.trans M2⟩
theorem m_weightOf (H : HM c lm w) {r : Nat} (hr : MR r) (G : MH c r h w) {b : Int} (h1 : 0 ≤ b) (h2 : b < hn h) (q : Q (iz (hb h b 1 * cD c (5 * hb h b 0 + 1))) w) : wp_X3_weightOf r (iz b) w Q := by
  unfold wp_X3_weightOf
  have n8 := G.1.2.1
  have g8 := G.1.2.2.2.2.2.2.2 b h1 h2
  simp only [iz_mul, iz_add]
  refine ⟨inM hr (by omega) (by omega), inM hr (by omega) (by omega), ?_⟩
  rw [iz_toInt (by omega) (by omega), iz_toInt (by omega) (by omega), G.v h1 h2 (by decide) (by decide), G.v h1 h2 (by decide) (by decide)]
  refine m_told H (by omega) (by omega) (by decide) (by decide) ?_
  rw [iz_mul]
  exact q
theorem m_isHours (H : HM c lm w) {n : Int} (hv : VR n) (f : 0 < cK c → 1 ≤ n → n ≤ 99 → Q (iz 1) w) (g : ¬ (0 < cK c ∧ 1 ≤ n ∧ n ≤ 99) → Q (iz 0) w) : wp_X3_isHours (iz n) w Q := by
  unfold wp_X3_isHours
  have a := H.1.1; have a2 := H.1.2.1
  rw [H.2.1]
  refine br (iz_le (by omega) (by omega) (by decide) (by decide)) (fun e => g (by omega)) (fun e => m_isIn hv (by decide) (by decide) (fun p1 p2 => t1 (f (by omega) p1 p2)) (fun p => t0 (g (by omega))))
theorem m_moreThanBorne (H : HM c lm w) (hK : 0 < cK c) {p n : Int} (p1 : 0 ≤ p ∧ p ≤ 99) (n1 : 1 ≤ n ∧ n ≤ 99) (q : Q (iz (tmy c p n)) w) : wp_X3_moreThanBorne (iz p) (iz n) w Q := by
  unfold wp_X3_moreThanBorne
  have cr := H.1.2.2.1 hK
  have tb := tm_bd H.1 hK p1.1 p1.2
  refine ⟨iz_inb (by decide) (by decide) (by decide), iz_inb (by decide) (by decide) (by decide), ?_⟩
  rw [iz_toInt (by decide) (by decide), iz_toInt (by decide) (by decide), H.2.2.1 1 (by decide) (by decide), H.2.2.1 0 (by decide) (by decide), iz_mul, iz_div (by omega) (by omega) (by omega) (by omega), iz_sub, imax_iz (by decide) (by decide) (by omega) (by omega)]
  exact ⟨iz_ne0 (by omega) (by omega) (by omega), q⟩
theorem m_couldBe (H : HM c lm w) (G : MH c 90 h w) {b k : Int} (h1 : 0 ≤ b) (h2 : b < hn h) (h3 : 0 ≤ k) (h4 : k < cK c) (q : Q (iz (cbO c h b k)) w) : wp_X3_couldBe (iz b) (iz k) w Q := by
  unfold wp_X3_couldBe
  have g8 := G.1.2.2.2.2.2.2.2 b h1 h2
  have gk := H.1.2.2.2.1 k h3 h4
  have gb := H.1.2.2.2.1 (hb h b 0) (by omega) (by omega)
  have wb := mul_bd (a := hb h b 1) (b := cD c (5 * hb h b 0 + 1)) (m := 9) (n := 9) (by omega) (by omega) (by omega) (by omega)
  refine m_weightOf H M90 G h1 h2 (m_told H h3 h4 (by decide) (by decide) (m_kindIn G h1 h2 (m_told H (by omega) (by omega) (by decide) (by decide) (m_told H h3 h4 (by decide) (by decide) ?_))))
  unfold cbO at q
  rw [Int.add_zero, Int.add_zero]
  generalize hb h b 1 * cD c (5 * hb h b 0 + 1) = x at q wb ⊢
  have nz : ¬ iz (cD c (5 * k + 1)) = 0 := iz_ne0 (by omega) (by omega) (by omega)
  refine brn (iz_eq (by omega) (by omega) (by omega) (by omega)) (fun e => ?_) (fun e => ⟨nz, ?_⟩)
  · rw [if_neg (fun z => e z.1)] at q
    exact q
  · rw [iz_rem (by omega) (by omega) (by omega) (by omega), iz_div (by omega) (by omega) (by omega) (by omega)]
    have mb := Int.emod_nonneg x (show cD c (5 * k + 1) ≠ 0 by omega)
    have mb2 := Int.emod_lt_of_pos x (show 0 < cD c (5 * k + 1) by omega)
    have db := Int.ediv_nonneg (show 0 ≤ x by omega) (show 0 ≤ cD c (5 * k + 1) by omega)
    have db2 := Int.ediv_le_self (cD c (5 * k + 1)) (show 0 ≤ x by omega)
    refine brn (iz_eq (by omega) (by omega) (by decide) (by decide)) (fun e2 => ?_) (fun e2 => ⟨nz, br (iz_lt (by decide) (by decide) (by omega) (by omega)) (fun e3 => ?_) (fun e3 => ⟨nz, ?_⟩)⟩)
    · rw [if_neg (fun z => e2 z.2.1)] at q
      exact q
    · rw [if_neg (fun z => by omega)] at q
      exact q
    · rw [if_pos ⟨e, e2, by omega⟩] at q
      exact q
end MQ
