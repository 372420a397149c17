/-! the plans, run: one step on both sides -/
def maySt (c : Cf) (h : Hs) (f : Int → Int) (t : Int) : Prop := (f t = 0 ∧ mayPut c h (f (t + 1)) (f (t + 2))) ∨ (f t = 1 ∧ 0 ≤ f (t + 1) ∧ f (t + 1) < hn h) ∨ (f t = 2 ∧ 0 ≤ f (t + 1) ∧ f (t + 1) < hn h ∧ hb h (f (t + 1)) 3 = 0) ∨ (f t = 3 ∧ mayGo c h (f (t + 1)) 9) ∨ (f t = 4 ∧ 0 < cK c ∧ 1 ≤ f (t + 1) ∧ f (t + 1) ≤ 99)
def goP (c : Cf) : Nat → Hs → Hs
  | 0, h => h
  | n + 1, h => hPass c (goP c n h)
theorem goP_ok {c : Cf} {h : Hs} (G : HsOK c h) : ∀ n : Nat, hm h + n ≤ 999 → HsOK c (goP c n h) ∧ hm (goP c n h) = hm h + n := by
  intro n
  induction n with
  | zero => intro _; exact ⟨G, by simp [goP]⟩
  | succ n ih =>
    intro hn
    obtain ⟨i1, i3⟩ := ih (by omega)
    rw [goP]
    refine ⟨hPass_ok i1 (by omega), ?_⟩
    have : hm (hPass c (goP c n h)) = hm (goP c n h) + 1 := rfl
    rw [this, i3]
    omega
def doSt (c : Cf) (h : Hs) (f : Int → Int) (t : Int) : Hs := if f t = 0 then hPut h (f (t + 1)) (f (t + 2)) (f (t + 3)) else if f t = 1 then hTake c h (f (t + 1)) else if f t = 2 then hLabel h (f (t + 1)) else if f t = 3 then goP c (f (t + 1)).toNat h else hOld h (tmy c (pall h) (f (t + 1)))
def eatSt (c : Cf) (h : Hs) (f : Int → Int) (t : Int) : Int := if f t = 1 then valO c h (f (t + 1)) else 0
theorem doSt_ok {c : Cf} {h : Hs} {f : Int → Int} {t : Int} (H : CfOK c) (G : HsOK c h) (S : stepOK f t) (may : maySt c h f t) : HsOK c (doSt c h f t) := by
  obtain ⟨s0, s1, s2, s3, s4, s5, s6, s7, s8, s9⟩ := S
  unfold doSt
  rcases may with ⟨e, p1, p2, p3, p4, p5, p6⟩ | ⟨e, p1, p2⟩ | ⟨e, p1, p2, p3⟩ | ⟨e, p1, p2, p3, p4⟩ | ⟨e, p1, p2, p3⟩
  · rw [if_pos e]
    exact hPut_ok H G p1 p2 p3 p4 (by have := s9 e; omega) p5
  · rw [if_neg (by omega), if_pos e]
    exact hTake_ok G p1 p2
  · rw [if_neg (by omega), if_neg (by omega), if_pos e]
    exact hLabel_ok G
  · rw [if_neg (by omega), if_neg (by omega), if_neg (by omega), if_pos e]
    exact (goP_ok G _ (by omega)).1
  · rw [if_neg (by omega), if_neg (by omega), if_neg (by omega), if_neg (by omega)]
    exact hOld_ok G (tmy_bd H G p1 p2 p3).1
/-- the four numbers of a step, in an array -/
def PA (f : Int → Int) (g : Int → Int32) (t : Int) : Prop := ∀ j, 0 ≤ j → j < 4 → g (t + j) = iz (f (t + j))
section RU
variable {c : Cf} {lm : Int} {h : Hs} {w : Wd} {Q : Int32 → Wd → Prop} {f : Int → Int} {t : Int}
theorem PA.e {g : Int → Int32} (P : PA f g t) (t0 : 0 ≤ t) (t1 : t ≤ 316) : g (iz t).toInt = iz (f t) ∧ g (iz t + iz 1).toInt = iz (f (t + 1)) ∧ g (iz t + iz 2).toInt = iz (f (t + 2)) ∧ g (iz t + iz 3).toInt = iz (f (t + 3)) := by
  have z := P 0 (by decide) (by decide)
  rw [Int.add_zero] at z
  refine ⟨?_, ?_, ?_, ?_⟩
  · rw [iz_toInt (by omega) (by omega)]; exact z
  · rw [iz_add, iz_toInt (by omega) (by omega)]; exact P 1 (by decide) (by decide)
  · rw [iz_add, iz_toInt (by omega) (by omega)]; exact P 2 (by decide) (by decide)
  · rw [iz_add, iz_toInt (by omega) (by omega)]; exact P 3 (by decide) (by decide)
theorem in320 (t0 : 0 ≤ t) (t1 : t ≤ 316) : inb (iz t) 320 ∧ inb (iz t + iz 1) 320 ∧ inb (iz t + iz 2) 320 ∧ inb (iz t + iz 3) 320 := by
  rw [iz_add, iz_add, iz_add]
  exact ⟨iz_inb (by omega) (by omega) (by omega), iz_inb (by omega) (by omega) (by omega), iz_inb (by omega) (by omega) (by omega), iz_inb (by omega) (by omega) (by omega)⟩
theorem x_canStep (H : HX c h w) (P : PA f (gA w 24) t) (S : stepOK f t) (t0 : 0 ≤ t) (t1 : t ≤ 316) (yes : maySt c h f t → Q (iz 1) w) (no : ¬ maySt c h f t → Q (iz 0) w) : wp_X1_canStep (iz t) w Q := by
  obtain ⟨e0, e1, e2, e3⟩ := P.e t0 t1
  obtain ⟨i0, i1, i2, i3⟩ := in320 (t := t) t0 t1
  obtain ⟨s0, s1, s2, s3, s4, s5, s6, s7, s8, s9⟩ := S
  unfold wp_X1_canStep
  rw [e0, e1, e2, iz_toInt (by omega) (by omega)]
  unfold maySt at yes no
  refine ⟨i1, i0, fun e => ⟨i2, ?_⟩, fun e => ?_, fun e => ?_, fun e => ?_, fun e => ?_⟩
  · exact x_canPut H (by omega) (by omega) (fun m => ⟨zok1, yes (Or.inl ⟨e, m⟩)⟩) (fun n => ⟨zok0, no (fun m => by rcases m with m | m | m | m | m <;> first | exact n m.2 | exact absurd m.1 (by omega))⟩)
  · exact x_isBox H (by omega) (fun p1 p2 => ⟨zok1, yes (Or.inr (Or.inl ⟨e, p1, p2⟩))⟩) (fun n => ⟨zok0, no (fun m => by rcases m with m | m | m | m | m <;> first | exact n m.2 | exact absurd m.1 (by omega))⟩)
  · exact x_canLabel H (by omega) (fun p1 p2 p3 => ⟨zok1, yes (Or.inr (Or.inr (Or.inl ⟨e, p1, p2, p3⟩)))⟩) (fun n => ⟨zok0, no (fun m => by rcases m with m | m | m | m | m <;> first | exact n m.2 | exact absurd m.1 (by omega))⟩)
  · exact x_canPass H (by omega) (fun m => ⟨zok1, yes (Or.inr (Or.inr (Or.inr (Or.inl ⟨e, m.1, m.2.1, s4 (by omega), m.2.2.2⟩))))⟩) (fun n => ⟨zok0, no (fun m => by rcases m with m | m | m | m | m <;> first | exact n ⟨m.2.1, m.2.2.1, by have := m.2.2.2.1; omega, m.2.2.2.2⟩ | exact absurd m.1 (by omega))⟩)
  · exact x_isOff H (by omega) (fun p1 p2 p3 => ⟨zok1, yes (Or.inr (Or.inr (Or.inr (Or.inr ⟨by omega, p1, p2, p3⟩))))⟩) (fun n => ⟨zok0, no (fun m => by rcases m with m | m | m | m | m <;> first | exact n m.2 | exact absurd m.1 (by omega))⟩)
theorem m_canStep (H : HM c lm w) {r : Nat} (hr : MR r) (G : MH c r h w) (P : PA f (gA w 83) t) (S : stepOK f t) (t0 : 0 ≤ t) (t1 : t ≤ 316) (yes : maySt c h f t → Q (iz 1) w) (no : ¬ maySt c h f t → Q (iz 0) w) : wp_X3_canStep r (iz t) w Q := by
  obtain ⟨e0, e1, e2, e3⟩ := P.e t0 t1
  obtain ⟨i0, i1, i2, i3⟩ := in320 (t := t) t0 t1
  obtain ⟨s0, s1, s2, s3, s4, s5, s6, s7, s8, s9⟩ := S
  unfold wp_X3_canStep
  rw [e0, e1, e2, iz_toInt (by omega) (by omega)]
  unfold maySt at yes no
  refine ⟨i1, i0, fun e => ⟨i2, ?_⟩, fun e => ?_, fun e => ?_, fun e => ?_, fun e => ?_⟩
  · exact m_canPut H hr G (by omega) (by omega) (fun m => ⟨zok1, yes (Or.inl ⟨e, m⟩)⟩) (fun n => ⟨zok0, no (fun m => by rcases m with m | m | m | m | m <;> first | exact n m.2 | exact absurd m.1 (by omega))⟩)
  · exact m_isBox H hr G (by omega) (fun p1 p2 => ⟨zok1, yes (Or.inr (Or.inl ⟨e, p1, p2⟩))⟩) (fun n => ⟨zok0, no (fun m => by rcases m with m | m | m | m | m <;> first | exact n m.2 | exact absurd m.1 (by omega))⟩)
  · exact m_canLabel H hr G (by omega) (fun p1 p2 p3 => ⟨zok1, yes (Or.inr (Or.inr (Or.inl ⟨e, p1, p2, p3⟩)))⟩) (fun n => ⟨zok0, no (fun m => by rcases m with m | m | m | m | m <;> first | exact n m.2 | exact absurd m.1 (by omega))⟩)
  · exact m_mayPass H hr G (by omega) (by decide) (by decide) (fun m => ⟨zok1, yes (Or.inr (Or.inr (Or.inr (Or.inl ⟨e, m⟩))))⟩) (fun n => ⟨zok0, no (fun m => by rcases m with m | m | m | m | m <;> first | exact n m.2 | exact absurd m.1 (by omega))⟩)
  · exact m_isHours H (by omega) (fun p1 p2 p3 => ⟨zok1, yes (Or.inr (Or.inr (Or.inr (Or.inr ⟨by omega, p1, p2, p3⟩))))⟩) (fun n => ⟨zok0, no (fun m => by rcases m with m | m | m | m | m <;> first | exact n m.2 | exact absurd m.1 (by omega))⟩)
theorem x_doStep (H : HX c h w) (P : PA f (gA w 24) t) (S : stepOK f t) (t0 : 0 ≤ t) (t1 : t ≤ 316) (may : maySt c h f t) (q : ∀ f' g, AXf (doSt c h f t) g 0 → Q (iz (eatSt c h f t)) (sB (sB w 15 f') 31 g)) : wp_X1_doStep (iz t) w Q := by
  obtain ⟨e0, e1, e2, e3⟩ := P.e t0 t1
  obtain ⟨i0, i1, i2, i3⟩ := in320 (t := t) t0 t1
  obtain ⟨s0, s1, s2, s3, s4, s5, s6, s7, s8, s9⟩ := S
  unfold wp_X1_doStep
  rw [e0, e1, e2, e3, iz_toInt (by omega) (by omega)]
  unfold doSt eatSt at q
  have q1 := q (gA w 15)
  rw [sB_self] at q1
  refine ⟨i1, i0, fun e => ⟨i2, i3, ?_⟩, fun e => ?_, fun e => ?_, fun e => ?_, fun e => ?_⟩
  · simp only [if_pos e, if_neg (show ¬ f t = 1 by omega)] at q1
    have s9 := s9 e
    have p5 : hn h < 8 := by
      rcases may with m | m | m | m | m
      · exact m.2.2.2.2.2.1
      all_goals exact absurd m.1 (by omega)
    refine brn (iz_eq (by omega) (by omega) (by decide) (by decide)) (fun e4 => ?_) (fun e4 => ?_)
    · rw [show f (t + 3) = 0 by omega] at q1
      exact x_putNow H p5 (Or.inl rfl) q1
    · rw [e4] at q1
      exact x_putNow H p5 (Or.inr rfl) q1
  · simp only [if_neg (show ¬ f t = 0 by omega), if_pos e] at q
    obtain ⟨p1, p2⟩ : 0 ≤ f (t + 1) ∧ f (t + 1) < hn h := by
      rcases may with m | m | m | m | m
      · exact absurd m.1 (by omega)
      · exact m.2
      all_goals exact absurd m.1 (by omega)
    exact x_takeNow H p1 p2 q
  · simp only [if_neg (show ¬ f t = 0 by omega), if_neg (show ¬ f t = 1 by omega), if_pos e] at q1
    obtain ⟨p1, p2⟩ : 0 ≤ f (t + 1) ∧ f (t + 1) < hn h := by
      rcases may with m | m | m | m | m
      · exact absurd m.1 (by omega)
      · exact m.2
      · exact ⟨m.2.1, m.2.2.1⟩
      all_goals exact absurd m.1 (by omega)
    exact x_labelNow H p1 p2 q1
  · simp only [if_neg (show ¬ f t = 0 by omega), if_neg (show ¬ f t = 1 by omega), if_neg (show ¬ f t = 2 by omega), if_pos e] at q1
    have mg : mayGo c h (f (t + 1)) 9 := by
      rcases may with m | m | m | m | m
      · exact absurd m.1 (by omega)
      · exact absurd m.1 (by omega)
      · exact absurd m.1 (by omega)
      · exact m.2
      · exact absurd m.1 (by omega)
    obtain ⟨p1, p2, p3, p4⟩ := mg
    refine lpe (fun n (s : Int32 × Wd) => lp_X1_doStep_91 Q (iz (f (t + 1))) n s.1 s.2) (fun R s => wl_X1_doStep_91 Q (iz (f (t + 1))) (fun x y => R (x, y)) s.1 s.2) (fun _ _ h => h) (fun i s => 0 ≤ i ∧ ∃ g, s = (iz i, sB w 31 g) ∧ AXf (goP c i.toNat h) g 0) (f (t + 1)) 0 (iz 0, w) (by omega) ⟨by decide, gA w 31, by rw [sB_self], H.ax⟩ ?_
    rintro R _ i hi ⟨hi0, g, rfl, A⟩ kk
    obtain ⟨gk1, gk2⟩ := goP_ok (c := c) H.hs i.toNat (by omega)
    refine br (iz_le (by omega) (by omega) (by omega) (by omega)) (fun e5 => ?_) (fun e5 => ?_)
    · obtain rfl : i = f (t + 1) := by omega
      exact q1 g A
    · refine x_pass (H.s31 gk1 A) (by omega) (fun g2 A2 => ?_)
      rw [iz_add, sB_sB]
      refine kk (by omega) _ ⟨by omega, g2, rfl, ?_⟩
      rw [show (i + 1).toNat = i.toNat + 1 by omega, goP]
      exact A2
  · simp only [if_neg (show ¬ f t = 0 by omega), if_neg (show ¬ f t = 1 by omega), if_neg (show ¬ f t = 2 by omega), if_neg (show ¬ f t = 3 by omega)] at q1
    obtain ⟨p1, p2, p3⟩ : 0 < cK c ∧ 1 ≤ f (t + 1) ∧ f (t + 1) ≤ 99 := by
      rcases may with m | m | m | m | m
      · exact absurd m.1 (by omega)
      · exact absurd m.1 (by omega)
      · exact absurd m.1 (by omega)
      · exact absurd m.1 (by omega)
      · exact m.2
    have tb := tmy_bd H.cf H.hs p1 p2 p3
    exact x_tooMany H p1 p2 p3 (x_older H tb.1 (by omega) q1)
theorem m_steps (H : HM c lm w) {r : Nat} (hr : MR r) (G : MH c r h w) (P : PA f (gA w 83) t) (S : stepOK f t) (t0 : 0 ≤ t) (t1 : t ≤ 316) (may : f t = 3 ∧ hm h < 999 ∨ ¬ f t = 3 ∧ maySt c h f t) (q : ∀ w' g, MS c lm w w' → AMf (if f t = 3 then hPass c h else doSt c h f t) g 0 → Q (iz (eatSt c h f t)) (sB w' r g)) : wp_X3_steps r (iz t) w Q := by
  obtain ⟨e0, e1, e2, e3⟩ := P.e t0 t1
  obtain ⟨i0, i1, i2, i3⟩ := in320 (t := t) t0 t1
  obtain ⟨s0, s1, s2, s3, s4, s5, s6, s7, s8, s9⟩ := S
  unfold wp_X3_steps
  rw [e0, e1, e2, e3, iz_toInt (by omega) (by omega)]
  unfold doSt eatSt at q
  have q1 := fun g A => q w g H.self A
  refine ⟨i1, i0, fun e => ⟨i2, i3, ?_⟩, fun e => ?_, fun e => ?_, fun e => ?_, fun e => ?_⟩
  · simp only [if_neg (show ¬ f t = 3 by omega), if_pos e, if_neg (show ¬ f t = 1 by omega)] at q1
    have p5 : hn h < 8 := by
      rcases may with m | ⟨-, m | m | m | m | m⟩
      · exact absurd m.1 (by omega)
      · exact m.2.2.2.2.2.1
      all_goals exact absurd m.1 (by omega)
    exact m_puts hr G p5 q1
  · simp only [if_neg (show ¬ f t = 3 by omega), if_neg (show ¬ f t = 0 by omega), if_pos e] at q
    obtain ⟨p1, p2⟩ : 0 ≤ f (t + 1) ∧ f (t + 1) < hn h := by
      rcases may with m | ⟨-, m | m | m | m | m⟩
      · exact absurd m.1 (by omega)
      · exact absurd m.1 (by omega)
      · exact m.2
      all_goals exact absurd m.1 (by omega)
    exact m_eats H hr G p1 p2 q
  · simp only [if_neg (show ¬ f t = 3 by omega), if_neg (show ¬ f t = 0 by omega), if_neg (show ¬ f t = 1 by omega), if_pos e] at q1
    obtain ⟨p1, p2⟩ : 0 ≤ f (t + 1) ∧ f (t + 1) < hn h := by
      rcases may with m | ⟨-, m | m | m | m | m⟩
      · exact absurd m.1 (by omega)
      · exact absurd m.1 (by omega)
      · exact m.2
      · exact ⟨m.2.1, m.2.2.1⟩
      all_goals exact absurd m.1 (by omega)
    exact m_names hr G p1 p2 q1
  · simp only [if_pos e, if_neg (show ¬ f t = 1 by omega)] at q1
    have m9 : hm h < 999 := by
      rcases may with m | m
      · exact m.2
      · exact absurd e m.1
    exact m_goMonth H hr G m9 q1
  · simp only [if_neg (show ¬ f t = 0 by omega), if_neg (show ¬ f t = 1 by omega), if_neg (show ¬ f t = 2 by omega), if_neg (show ¬ f t = 3 by omega)] at q1
    obtain ⟨p1, p2, p3⟩ : 0 < cK c ∧ 1 ≤ f (t + 1) ∧ f (t + 1) ≤ 99 := by
      rcases may with m | ⟨-, m | m | m | m | m⟩
      · exact absurd m.1 (by omega)
      · exact absurd m.1 (by omega)
      · exact absurd m.1 (by omega)
      · exact absurd m.1 (by omega)
      · exact absurd m.1 (by omega)
      · exact m.2
    have tb := tmy_bd H.1 G.1 p1 p2 p3
    have pb := pall_bd G.1
    exact m_sumIn hr G (m_moreThanBorne H p1 ⟨pb.1, by omega⟩ ⟨p2, p3⟩ (m_ages hr G tb.1 (by omega) q1))
theorem m_timesOf (P : PA f (gA w 83) t) (S : stepOK f t) (t0 : 0 ≤ t) (t1 : t ≤ 316) (q : Q (iz (if f t = 3 then f (t + 1) else 1)) w) : wp_X3_timesOf (iz t) w Q := by
  obtain ⟨e0, e1, e2, e3⟩ := P.e t0 t1
  obtain ⟨i0, i1, i2, i3⟩ := in320 (t := t) t0 t1
  have s0 := S.1; have s1 := S.2.1
  unfold wp_X3_timesOf
  rw [e0, e1]
  refine ⟨i0, brn (iz_eq (by omega) (by omega) (by decide) (by decide)) (fun e => ?_) (fun e => ⟨i1, ?_⟩)⟩
  · rw [if_neg e] at q
    exact q
  · rw [if_pos e] at q
    exact q
end RU
