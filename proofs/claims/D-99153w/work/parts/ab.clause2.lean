/-! a clause whole, read on both sides -/
section CW
variable {t : Int → Int} {n p : Int}
theorem x_signs {c : Int} (cb : -1 ≤ c ∧ c < 256) {w : Wd} {Q : Int32 → Wd → Prop} (f : (c = 61 ∨ c = 60 ∨ c = 62) → Q (iz 1) w) (g : ¬ (c = 61 ∨ c = 60 ∨ c = 62) → Q (iz 0) w) : wp_X1_isSign (iz c) w Q := by
  unfold wp_X1_isSign
  exact br (iz_eq (by omega) (by omega) (by decide) (by decide)) (fun e => f (Or.inl e)) (fun a => br (iz_eq (by omega) (by omega) (by decide) (by decide)) (fun e => f (Or.inr (Or.inl e))) (fun b => brn (iz_eq (by omega) (by omega) (by decide) (by decide)) (fun e => g (by omega)) (fun e => f (Or.inr (Or.inr e)))))
theorem m_signs {c : Int} (cb : -1 ≤ c ∧ c < 256) {w : Wd} {Q : Int32 → Wd → Prop} (f : (c = 61 ∨ c = 60 ∨ c = 62) → Q (iz 1) w) (g : ¬ (c = 61 ∨ c = 60 ∨ c = 62) → Q (iz 0) w) : wp_X3_isSign (iz c) w Q := by
  unfold wp_X3_isSign
  exact br (iz_eq (by omega) (by omega) (by decide) (by decide)) (fun e => f (Or.inl e)) (fun a => br (iz_eq (by omega) (by omega) (by decide) (by decide)) (fun e => f (Or.inr (Or.inl e))) (fun b => brn (iz_eq (by omega) (by omega) (by decide) (by decide)) (fun e => g (by omega)) (fun e => f (Or.inr (Or.inr e)))))
/-- the label and the colon -/
theorem bo_head (B : TB t n) (h0 : 0 ≤ p) (h1 : p ≤ n) :
    (∃ pf, p ≤ pf ∧ pf ≤ n ∧ FaX t n wp_X1_clause p 0 pf ∧ (∀ (w : Wd) (Q : Wd → Prop), MS0 t n p 0 w → (∀ w', MF w w' → gI w' 71 = iz pf → Q w') → wp_X3_clause w Q)) ∨
    (∃ p2, p + 2 ≤ p2 ∧ p2 ≤ n ∧ (∀ (Z0 : Int) (w : Wd) (Q : Nat → Wd → Prop) (X : Wd → Prop), XS t n Z0 p 0 w → (∀ w1, XF w w1 → XS t n (Z0 - 4) p2 0 w1 → wp_X1_look w1 (fun r4 w5 => (r4 = (iz 33) → b_X1_clause_90 Q X (iz 121) none w5) ∧ (¬ r4 = (iz 33) → (¬ r4 = (iz 40) → pf_X1_sum 10 w5 (fun r6 w7 => b_X1_clause_90 Q X (iz 121) (some r6) w7) X) ∧ (r4 = (iz 40) → b_X1_clause_90 Q X (iz 121) none w5)))) → wp_X1_clause w Q X) ∧
      (∀ (w : Wd) (Q : Wd → Prop), MS0 t n p 0 w → (∀ w1, MF w w1 → MS0 t n p2 0 w1 → wp_X3_look w1 (fun r8 w9 => (r8 = (iz 33) → b_X3_clause_64 Q (iz 121) w9) ∧ (¬ r8 = (iz 33) → (¬ r8 = (iz 40) → pf_X3_sum 10 w9 (fun r10 w11 => (¬ (gI w11 71) = (iz (-1)) → b_X3_clause_134 Q (iz 121) (iz 1) r10 w11) ∧ ((gI w11 71) = (iz (-1)) → wp_X3_look w11 (fun r12 w13 => wp_X3_isSign r12 w13 (fun r14 w15 => (r14 = iz 0 → b_X3_clause_134 Q (iz 121) (iz 1) r10 w15) ∧ (¬ r14 = iz 0 → wp_X3_condition (pf_X3_unit 10) (iz 1) r10 w15 (fun r16 w17 => wp_X3_takes (iz 63) w17 (fun r18 w19 => (¬ r18 = iz 0 → pf_X3_sum 10 w19 (fun r20 w21 => b_X3_clause_134 Q (iz 121) r16 r20 w21)) ∧ (r18 = iz 0 → Q w19))))))))) ∧ (r8 = (iz 40) → b_X3_clause_64 Q (iz 121) w9)))) → wp_X3_clause w Q)) := by
  have b1 := B.1; have b2 := B.2.1
  obtain ⟨k1, k2⟩ := sk_bd t h1
  generalize hp : sk t n p = p1 at k1 k2
  have cb := lkc_bd (t := t) (n := n) p1
  generalize hc : lkc t n p1 = c at cb
  by_cases c121 : c = 121
  · subst c121
    have pin := lkc_in hc (by decide)
    obtain ⟨k3, k4⟩ := sk_bd t (n := n) (p := p1 + 1) (by omega)
    generalize hp2 : sk t n (p1 + 1) = p2 at k3 k4
    have cb2 := lkc_bd (t := t) (n := n) p2
    generalize hc2 : lkc t n p2 = c2 at cb2
    have hx : ∀ (Z0 : Int) (w : Wd) (Q : Nat → Wd → Prop) (X : Wd → Prop), XS t n Z0 p 0 w → (∀ w1, XF w w1 → XS t n Z0 p2 0 w1 → gZ w1 = gZ w → (¬ iz c2 = (iz 58) → b_X1_clause_52 Q X (iz 121) (iz 0) w1) ∧ (iz c2 = (iz 58) → b_X1_clause_52 Q X (iz 121) (iz 1) w1)) → wp_X1_clause w Q X := by
      intro Z0 w Q X S x
      unfold wp_X1_clause
      refine x_look' B S h0 h1 hp hc (br (iz_le (by omega) (by omega) (by decide) (by decide)) (fun e => by omega) (fun _ => ⟨by decide, s_indexOf (by decide) (by omega) (by omega) ?_⟩))
      have s0 : sIx 0 121 = 0 := by decide
      rw [s0]
      refine ⟨fun e => absurd e (by decide), fun _ => ?_⟩
      unfold b_X1_clause_24
      refine u1 ?_
      rintro w3 rfl
      rw [(S.at k1).2.2.1, iz_add, sI_sI]
      have S1 := S.at (p' := p1 + 1) (by omega)
      refine x_look' B S1 (by omega) (by omega) hp2 hc2 (x _ ((XF.i13 w _).trans (XF.i13 _ _)) (S1.at k3) rfl)
    have hm : ∀ (w : Wd) (Q : Wd → Prop), MS0 t n p 0 w → (∀ w1, MF w w1 → MS0 t n (p1 + 1) 0 w1 → wp_X3_takes (iz 58) w1 (fun r6 w7 => (¬ r6 = iz 0 → wp_X3_look w7 (fun r8 w9 => (r8 = (iz 33) → b_X3_clause_64 Q (iz 121) w9) ∧ (¬ r8 = (iz 33) → (¬ r8 = (iz 40) → pf_X3_sum 10 w9 (fun r10 w11 => (¬ (gI w11 71) = (iz (-1)) → b_X3_clause_134 Q (iz 121) (iz 1) r10 w11) ∧ ((gI w11 71) = (iz (-1)) → wp_X3_look w11 (fun r12 w13 => wp_X3_isSign r12 w13 (fun r14 w15 => (r14 = iz 0 → b_X3_clause_134 Q (iz 121) (iz 1) r10 w15) ∧ (¬ r14 = iz 0 → wp_X3_condition (pf_X3_unit 10) (iz 1) r10 w15 (fun r16 w17 => wp_X3_takes (iz 63) w17 (fun r18 w19 => (¬ r18 = iz 0 → pf_X3_sum 10 w19 (fun r20 w21 => b_X3_clause_134 Q (iz 121) r16 r20 w21)) ∧ (r18 = iz 0 → Q w19))))))))) ∧ (r8 = (iz 40) → b_X3_clause_64 Q (iz 121) w9)))) ∧ (r6 = iz 0 → Q w7))) → wp_X3_clause w Q := by
      intro w Q S x
      unfold wp_X3_clause
      refine m_look' B S h0 h1 hp hc (m_isAmong (by decide) (by decide) (fun _ => u1 ?_) (fun e => absurd e (by decide)))
      rintro w5 rfl
      rw [(S.at p1).2.2.1, iz_add, sI_sI]
      exact x _ (MF.i70 w _) (S.at (p1 + 1))
    by_cases c58 : c2 = 58
    · subst c58
      have pin2 := lkc_in hc2 (by decide)
      refine Or.inr ⟨p2 + 1, by omega, by omega, fun Z0 w Q X S x => hx Z0 w Q X S (fun w1 f1 S1 ez => ⟨fun e => absurd rfl e, fun _ => ?_⟩), fun w Q S x => hm w Q S (fun w1 f1 S1 => ?_)⟩
      · unfold b_X1_clause_52
        refine u1 ?_
        rintro w3 rfl
        have z0 := S.z
        rw [S1.2.2.1, iz_add]
        have S2 := S1.at (p' := p2 + 1) (by omega)
        refine x _ (f1.trans (XF.i13 _ _)) ?_
        obtain ⟨s1, s2, s3, s4, s5⟩ := S2
        refine ⟨s1, s2, s3, s4, ?_⟩
        show (gZ w1 : Int) ≤ _
        omega
      · unfold wp_X3_takes
        rw [S1.2.2.2.2]
        refine ⟨fun e => absurd rfl e, fun _ => m_look' B S1 (by omega) (by omega) hp2 hc2 ⟨fun _ => ?_, fun e => absurd rfl e⟩⟩
        rintro w5 rfl
        rw [(S1.at p2).2.2.1, iz_add, sI_sI]
        exact u1 (x _ (f1.trans (MF.i70 _ _)) (S1.at (p2 + 1)))
    · refine Or.inl ⟨p2, by omega, k4, fun Z0 zh w Q X S x => hx Z0 w Q X S (fun w1 f1 S1 ez => brn (iz_eq (by omega) (by omega) (by decide) (by decide)) (fun _ => ?_) (fun e => absurd e c58)), fun w Q S x => hm w Q S (fun w1 f1 S1 => ?_)⟩
      · unfold b_X1_clause_52
        exact u0 (x w1 f1 S1.2.2.1 S1.z)
      · unfold wp_X3_takes
        rw [S1.2.2.2.2]
        have S2 := S1.at p2
        refine ⟨fun e => absurd rfl e, fun _ => m_look' B S1 (by omega) (by omega) hp2 hc2 (br (iz_eq (by omega) (by omega) (by decide) (by decide)) (fun e => absurd e c58) (fun _ => m_fails S2.2.2.2.2 ⟨zok0, u0 (x _ ((f1.trans (MF.i70 _ _)).trans (MF.i71 _ _)) ?_)⟩))⟩
        rw [gI_sI, if_pos rfl]
        exact S2.2.2.1
  · have s0 : sIx 0 c = -1 := by
      show pIx [121] c 0 = -1
      simp only [pIx]
      rw [if_neg (fun e => c121 (by omega))]
    refine Or.inl ⟨p1, k1, k2, fun Z0 zh w Q X S x => ?_, fun w Q S x => ?_⟩
    · have S1 := S.at k1
      unfold wp_X1_clause
      have no : ∀ l, b_X1_clause_24 Q X l (iz 0) (sI w 13 (iz p1)) := by
        intro l
        unfold b_X1_clause_24
        exact u0 (x _ (XF.i13 w _) S1.2.2.1 S1.z)
      refine x_look' B S h0 h1 hp hc ⟨fun _ => no _, fun _ => ⟨by decide, s_indexOf (by decide) (by omega) (by omega) ?_⟩⟩
      rw [s0]
      exact ⟨fun _ => no _, fun e => absurd (show iz (-1) < iz 0 by decide) e⟩
    · have S1 := S.at p1
      unfold wp_X3_clause
      refine m_look' B S h0 h1 hp hc (m_isAmong (by decide) (by omega) (fun e => by rw [s0] at e; exact absurd e (by decide)) (fun _ => u0 (m_fails S1.2.2.2.2 (x _ ((MF.i70 w _).trans (MF.i71 _ _)) ?_))))
      rw [gI_sI, if_pos rfl]
      exact S1.2.2.1
end CW
