/-! a number of one or two digits, read on both sides -/
section NU
variable {t : Int → Int} {n p : Int}
theorem bo_num2 (B : TB t n) (h0 : 1 ≤ p) (h1 : p ≤ n) {a b v : Int} (ha : -1000 ≤ a ∧ a ≤ 1000) (hb : -1000 ≤ b ∧ b ≤ 1000) (hv : 0 ≤ v ∧ v ≤ 99) :
    (∃ pf, p - 1 ≤ pf ∧ pf ≤ n ∧ (∀ (w : Wd) (Q : Int32 → Wd → Prop) (X : Wd → Prop), PX t n p w → X (sI w 13 (iz pf)) → b_X1_number_62 Q X (iz a) (iz b) (iz v) w) ∧ (∀ (d : Int) (w : Wd) (Q : Int32 → Wd → Prop), MS0 t n p d w → (∀ v' w', MF w w' → gI w' 71 = iz pf → Q v' w') → b_X3_number_67 Q (iz a) (iz b) (iz v) w)) ∨
    (a ≤ v ∧ v ≤ b ∧ (∀ (w : Wd) (Q : Int32 → Wd → Prop) (X : Wd → Prop), PX t n p w → Q (iz v) w → b_X1_number_62 Q X (iz a) (iz b) (iz v) w) ∧ (∀ (d : Int) (w : Wd) (Q : Int32 → Wd → Prop), MS0 t n p d w → Q (iz v) w → b_X3_number_67 Q (iz a) (iz b) (iz v) w)) := by
  have b1 := B.1; have b2 := B.2.1
  have cb := lkc_bd (t := t) (n := n) p
  generalize hc : lkc t n p = c at cb
  have ld := lkc_dig B c hc
  by_cases dg : 48 ≤ c ∧ c ≤ 57
  · refine Or.inl ⟨p, by omega, h1, fun w Q X S x => ?_, fun d w Q S x => ?_⟩
    · unfold b_X1_number_62
      refine p_there B S (by omega) h1 ?_
      rw [hc]
      refine x_isDigit (by constructor <;> omega) (fun _ _ => u1 ?_) (fun e => absurd dg e)
      unfold b_X1_number_78
      rw [← S.2, sI_self] at x
      exact u0 x
    · unfold b_X3_number_67
      refine m_isDigit B S (by omega) h1 (fun _ _ _ => t1 (m_fails S.2.2.2.2 (x _ _ (MF.i71 _ _) ?_))) (fun e => absurd (ld.mpr dg) e)
      rw [gI_sI, if_pos rfl]
      exact S.2.2.1
  · by_cases ok : a ≤ v ∧ v ≤ b
    · refine Or.inr ⟨ok.1, ok.2, fun w Q X S x => ?_, fun d w Q S x => ?_⟩
      · unfold b_X1_number_62
        refine p_there B S (by omega) h1 ?_
        rw [hc]
        refine x_isDigit (by constructor <;> omega) (fun e1 e2 => absurd ⟨e1, e2⟩ dg) (fun _ => u0 ?_)
        unfold b_X1_number_78
        exact u1 (x_in (by constructor <;> omega) (by constructor <;> omega) (by constructor <;> omega) (fun _ _ => u1 x) (fun e => absurd ok e))
      · unfold b_X3_number_67
        refine m_isDigit B S (by omega) h1 (fun e1 e2 e3 => absurd (ld.mp ⟨e1, e2, e3⟩) dg) (fun _ => t0 ?_)
        rw [i2l (a := a) (by constructor <;> omega), i2l (a := b) (by constructor <;> omega)]
        exact m_isIn (by constructor <;> omega) (by constructor <;> omega) (by constructor <;> omega) (fun _ _ => u1 x) (fun e => absurd ok e)
    · refine Or.inl ⟨p - 1, by omega, by omega, fun w Q X S x => ?_, fun d w Q S x => ?_⟩
      · unfold b_X1_number_62
        refine p_there B S (by omega) h1 ?_
        rw [hc]
        refine x_isDigit (by constructor <;> omega) (fun e1 e2 => absurd ⟨e1, e2⟩ dg) (fun _ => u0 ?_)
        unfold b_X1_number_78
        refine u1 (x_in (by constructor <;> omega) (by constructor <;> omega) (by constructor <;> omega) (fun e1 e2 => absurd ⟨e1, e2⟩ ok) (fun _ => u0 ?_))
        rintro w5 rfl
        rw [S.2, iz_sub]
        exact x
      · unfold b_X3_number_67
        refine m_isDigit B S (by omega) h1 (fun e1 e2 e3 => absurd (ld.mp ⟨e1, e2, e3⟩) dg) (fun _ => t0 ?_)
        rw [i2l (a := a) (by constructor <;> omega), i2l (a := b) (by constructor <;> omega)]
        refine m_isIn (by constructor <;> omega) (by constructor <;> omega) (by constructor <;> omega) (fun e1 e2 => absurd ⟨e1, e2⟩ ok) (fun _ => u0 ?_)
        rintro w5 rfl
        rw [S.2.2.1, iz_sub]
        have S1 := S.at (p - 1)
        refine m_fails S1.2.2.2.2 (x _ _ ((MF.i70 _ _).trans (MF.i71 _ _)) ?_)
        rw [gI_sI, if_pos rfl]
        exact S1.2.2.1
theorem bo_number (B : TB t n) (h0 : 0 ≤ p) (h1 : p ≤ n) {a b : Int} (ha : -1000 ≤ a ∧ a ≤ 1000) (hb : -1000 ≤ b ∧ b ≤ 1000) :
    (∃ pf, p ≤ pf ∧ pf ≤ n ∧ (∀ (w : Wd) (Q : Int32 → Wd → Prop) (X : Wd → Prop), PX t n p w → X (sI w 13 (iz pf)) → wp_X1_number (iz a) (iz b) w Q X) ∧ (∀ (d : Int) (w : Wd) (Q : Int32 → Wd → Prop), MS0 t n p d w → (∀ v' w', MF w w' → gI w' 71 = iz pf → Q v' w') → wp_X3_number (iz a) (iz b) w Q)) ∨
    (∃ p' v, p < p' ∧ p' ≤ n ∧ a ≤ v ∧ v ≤ b ∧ (∀ (w : Wd) (Q : Int32 → Wd → Prop) (X : Wd → Prop), PX t n p w → Q (iz v) (sI w 13 (iz p')) → wp_X1_number (iz a) (iz b) w Q X) ∧ (∀ (d : Int) (w : Wd) (Q : Int32 → Wd → Prop), MS0 t n p d w → Q (iz v) (sI w 70 (iz p')) → wp_X3_number (iz a) (iz b) w Q)) := by
  have b1 := B.1; have b2 := B.2.1
  obtain ⟨k1, k2⟩ := sk_bd t h1
  generalize hp : sk t n p = p1 at k1 k2
  have cb := lkc_bd (t := t) (n := n) p1
  generalize hc : lkc t n p1 = c at cb
  have ld := lkc_dig B c hc
  by_cases dg : 48 ≤ c ∧ c ≤ 57
  · have pin := (ld.mpr dg).1
    have cb2 := lkc_bd (t := t) (n := n) (p1 + 1)
    generalize hc2 : lkc t n (p1 + 1) = c2 at cb2
    have ld2 := lkc_dig B c2 hc2
    have hx : ∀ (w : Wd) (Q : Int32 → Wd → Prop) (X : Wd → Prop), PX t n p w → (¬ (48 ≤ c2 ∧ c2 ≤ 57) → b_X1_number_62 Q X (iz a) (iz b) (iz (c - 48)) (sI w 13 (iz (p1 + 1)))) → ((48 ≤ c2 ∧ c2 ≤ 57) → b_X1_number_62 Q X (iz a) (iz b) (iz (10 * (c - 48) + c2 - 48)) (sI w 13 (iz (p1 + 1 + 1)))) → wp_X1_number (iz a) (iz b) w Q X := by
      intro w Q X S f g
      have S1 := S.at p1
      have S2 := S.at (p1 + 1)
      unfold wp_X1_number
      refine p_look B S h0 h1 hp hc (x_isDigit (by constructor <;> omega) (fun _ _ => ?_) (fun e => absurd dg e))
      unfold wp_X1_need
      refine u1 (p_there B S1 (by omega) k2 ?_)
      rw [hc]
      rintro w9 rfl
      rw [S1.2, iz_add, sI_sI]
      refine p_there B S2 (by omega) (by omega) ?_
      rw [hc2, iz_sub]
      refine x_isDigit (by constructor <;> omega) (fun e1 e2 => t1 (p_there B S2 (by omega) (by omega) ?_)) (fun e => t0 (f e))
      rw [hc2]
      rintro w16 rfl
      rw [S2.2, iz_add, sI_sI, iz_mul, iz_add, iz_sub]
      exact g ⟨e1, e2⟩
    have hm : ∀ (d : Int) (w : Wd) (Q : Int32 → Wd → Prop), MS0 t n p d w → (¬ (48 ≤ c2 ∧ c2 ≤ 57) → b_X3_number_67 Q (iz a) (iz b) (iz (c - 48)) (sI w 70 (iz (p1 + 1)))) → ((48 ≤ c2 ∧ c2 ≤ 57) → b_X3_number_67 Q (iz a) (iz b) (iz (10 * (c - 48) + c2 - 48)) (sI w 70 (iz (p1 + 1 + 1)))) → wp_X3_number (iz a) (iz b) w Q := by
      intro d w Q S f g
      have S1 := S.at p1
      have S2 := S.at (p1 + 1)
      unfold wp_X3_number
      refine m_look' B S h0 h1 hp hc (m_isDigit B S1 (by omega) k2 (fun _ _ _ => u1 ?_) (fun e => absurd (ld.mpr dg) e))
      rintro w5 rfl
      rw [S1.2.2.1, iz_add, sI_sI, iz_sub]
      refine m_isDigit B S2 (by omega) (by omega) (fun e1 e2 e3 => t1 (m_here B S2 (by omega) (by omega) ?_)) (fun e => t0 (f (fun z => e (ld2.mpr z))))
      rw [hc2]
      rintro w10 rfl
      rw [S2.2.2.1, iz_add, sI_sI, iz_mul, iz_add, iz_sub]
      exact g (ld2.mp ⟨e1, e2, e3⟩)
    by_cases dg2 : 48 ≤ c2 ∧ c2 ≤ 57
    · have pin2 := (ld2.mpr dg2).1
      rcases bo_num2 (p := p1 + 1 + 1) (v := 10 * (c - 48) + c2 - 48) B (by omega) (by omega) ha hb (by omega) with ⟨pf, q1, q2, qx, qm⟩ | ⟨q1, q2, qx, qm⟩
      · refine Or.inl ⟨pf, by omega, q2, fun w Q X S x => hx w Q X S (fun e => absurd dg2 e) (fun _ => qx _ Q X (S.at (p1 + 1 + 1)) (by rw [sI_sI]; exact x)), fun d w Q S x => hm d w Q S (fun e => absurd dg2 e) (fun _ => qm d _ Q (S.at (p1 + 1 + 1)) (fun v' w' f e => x v' w' ((MF.i70 _ _).trans f) e))⟩
      · exact Or.inr ⟨p1 + 1 + 1, _, by omega, by omega, q1, q2, fun w Q X S x => hx w Q X S (fun e => absurd dg2 e) (fun _ => qx _ Q X (S.at (p1 + 1 + 1)) x), fun d w Q S x => hm d w Q S (fun e => absurd dg2 e) (fun _ => qm d _ Q (S.at (p1 + 1 + 1)) x)⟩
    · rcases bo_num2 (p := p1 + 1) (v := c - 48) B (by omega) (by omega) ha hb (by omega) with ⟨pf, q1, q2, qx, qm⟩ | ⟨q1, q2, qx, qm⟩
      · refine Or.inl ⟨pf, by omega, q2, fun w Q X S x => hx w Q X S (fun _ => qx _ Q X (S.at (p1 + 1)) (by rw [sI_sI]; exact x)) (fun e => absurd e dg2), fun d w Q S x => hm d w Q S (fun _ => qm d _ Q (S.at (p1 + 1)) (fun v' w' f e => x v' w' ((MF.i70 _ _).trans f) e)) (fun e => absurd e dg2)⟩
      · exact Or.inr ⟨p1 + 1, _, by omega, by omega, q1, q2, fun w Q X S x => hx w Q X S (fun _ => qx _ Q X (S.at (p1 + 1)) x) (fun e => absurd e dg2), fun d w Q S x => hm d w Q S (fun _ => qm d _ Q (S.at (p1 + 1)) x) (fun e => absurd e dg2)⟩
  · refine Or.inl ⟨p1, k1, k2, fun w Q X S x => ?_, fun d w Q S x => ?_⟩
    · unfold wp_X1_number
      refine p_look B S h0 h1 hp hc (x_isDigit (by constructor <;> omega) (fun e1 e2 => absurd ⟨e1, e2⟩ dg) (fun _ => ?_))
      unfold wp_X1_need
      exact u0 x
    · have S1 := S.at p1
      unfold wp_X3_number
      refine m_look' B S h0 h1 hp hc (m_isDigit B S1 (by omega) k2 (fun e1 e2 e3 => absurd (ld.mp ⟨e1, e2, e3⟩) dg) (fun _ => u0 (m_fails S1.2.2.2.2 (x _ _ ((MF.i70 _ _).trans (MF.i71 _ _)) ?_))))
      rw [gI_sI, if_pos rfl]
      exact S1.2.2.1
end NU
