/-! a clause: put together -/
section CX
variable {t : Int → Int} {n p : Int}
theorem OkXC.of {PX : Wd → (Nat → Wd → Prop) → (Wd → Prop) → Prop} {d p' : Int} {tb : En → Bool} {f : En → Int32} (h : OkXC t n PX p d p' tb f) : OkXC t n PX p d p' tb f := h
/-- from a condition read to the clause's end -/
theorem bo_condtail (B : TB t n) (h0 : 0 ≤ p) (h1 : p ≤ n) (b : BoT t n 17 (wp_X1_condition (pf_X1_unit 10) none) (wp_X3_condition (pf_X3_unit 10) (iz 0) (iz 0)) p 0) :
    (∃ pf, p ≤ pf ∧ pf ≤ n ∧ (∀ (Z0 : Int), Z0 + 600 ≤ 600000 → ∀ (w0 w : Wd) (Q : Nat → Wd → Prop) (X : Wd → Prop), XF w0 w → XS t n (Z0 - 4) p 0 w → (∀ w', XF w0 w' → gI w' 13 = iz pf → (gZ w' : Int) ≤ Z0 + 2 * pf → X w') → b_X1_clause_116 Q X (iz 121) none w) ∧ (∀ (w : Wd) (Q : Wd → Prop), MS0 t n p 0 w → (∀ w', MF w w' → gI w' 71 = iz pf → Q w') → b_X3_clause_64 Q (iz 121) w)) ∨
    (∃ p' tb f, p < p' ∧ p' ≤ n ∧ Dep tb ∧ Dep f ∧ (∀ (Z0 : Int), Z0 + 600 ≤ 600000 → ∀ (w0 w : Wd) (Q : Nat → Wd → Prop) (X : Wd → Prop), XF w0 w → XS t n (Z0 - 4) p 0 w → (∀ (r : Nat) (w' : Wd) (S : Nat → Prop) (to : Option Nat) (s : Nat), XF w0 w' → XS t n Z0 p' 0 w' → gF w0 r = none → gF w' r = some (6, [.int (iz 121), rv to, rv (some s), rv none]) → ¬ S r → (∀ q, S q → gF w0 q = none) → DenC S w' to s tb f → Q r w') → b_X1_clause_116 Q X (iz 121) none w) ∧ (∀ (w : Wd) (Q : Wd → Prop) (hf : Int) (fv : Int32), MS0 t n p 0 w → ML hf fv w → (∀ w', MF2 w w' → MS0 t n p' 0 w' → ML (hfN hf (tb (gA w 64))) (fvN hf (tb (gA w 64)) (f (gA w 64)) fv) w' → Q w') → b_X3_clause_64 Q (iz 121) w)) := by
  have b1 := B.1; have b2 := B.2.1
  rcases b with ⟨pf, q1, q2, qx, qm⟩ | ⟨p2, tb, q1, q2, qd, qx, qm⟩
  · refine Or.inl ⟨pf, q1, q2, fun Z0 zh w0 w Q X f S x => qx (Z0 - 4) (by omega) w _ X S (fun w' g1 g2 g3 => x w' (f.trans g1) g2 (by omega)), fun w Q S x => qm w _ S (fun v w' zv g1 g2 => ?_)⟩
    unfold wp_X3_takes
    rw [g2]
    exact brn (iz_eq (by omega) (by omega) (by decide) (by decide)) (fun _ => m_fails2 (v := pf) (by omega) g2 ⟨zok0, u0 (x _ g1 g2)⟩) (fun e => by omega)
  · rcases bo_tail B (show 0 ≤ p2 by omega) q2 with ⟨pf, i1, i2, ix, im⟩ | ⟨p', f, i1, i2, id, ix, im⟩
    · refine Or.inl ⟨pf, by omega, i2, fun Z0 zh w0 w Q X f0 S x => qx (Z0 - 4) (by omega) w _ X S (fun r w' Sf ci fs g1 g2 g3 g4 g5 g6 => ix (Z0 - 3) (by omega) w0 w' Q X r (f0.trans g1) (g2.lower (by have := g2.z; omega)) (fun w'' y1 y2 y3 => x w'' y1 y2 (by omega))), fun w Q S x => qm w _ S (fun w' g1 g2 => im w' Q _ g2 (fun w'' y1 y2 => x w'' (g1.trans y1) y2))⟩
    · refine Or.inr ⟨p', tb, f, by omega, i2, qd, id, fun Z0 zh w0 w Q X f0 S x => qx (Z0 - 4) (by omega) w _ X S (fun r w' Sf ci fs g1 g2 g3 g4 g5 g6 => ix (Z0 - 3) (by omega) w0 w' Q X r ci 17 fs tb Sf (f0.trans g1) (g2.lower (by have := g2.z; omega)) (f0.fresh g3) g4 (fun q hq => f0.fresh (g5 q hq)) (by decide) g6 (fun r' w'' S' to s y1 y2 y3 y4 y5 y6 y7 => x r' w'' S' to s y1 (y2.lower (by have := y2.z; omega)) y3 y4 y5 y6 y7)), fun w Q hf fv S L x => qm w _ S (fun w' g1 g2 => im w' Q _ hf fv g2 (L.mf g1) (fun w'' y1 y2 y3 => ?_))⟩
      rw [show gA w' 64 = gA w 64 by rw [g1.2.1]] at y3
      exact x w'' (g1.two.trans y1) y2 y3
/-- a clause -/
theorem bo_clause (B : TB t n) (h0 : 0 ≤ p) (h1 : p ≤ n) : BoC t n wp_X1_clause wp_X3_clause p 0 := by
  have b1 := B.1; have b2 := B.2.1
  rcases bo_head B h0 h1 with ⟨pf, q1, q2, qx, qm⟩ | ⟨p2, q1, q2, qx, qm⟩
  · exact Or.inl ⟨pf, q1, q2, qx, fun w Q hf fv S L x => qm w Q S (fun w' g1 g2 => x w' g1.two g2)⟩
  obtain ⟨k1, k2⟩ := sk_bd t q2
  generalize hp : sk t n p2 = p3 at k1 k2
  have cb := lkc_bd (t := t) (n := n) p3
  generalize hc : lkc t n p3 = c at cb
  by_cases cc : c = 33 ∨ c = 40
  · have hx : ∀ (Z0 : Int) (w : Wd) (Q : Nat → Wd → Prop) (X : Wd → Prop), XS t n Z0 p 0 w → (∀ w1, XF w w1 → XS t n (Z0 - 4) p3 0 w1 → b_X1_clause_116 Q X (iz 121) none w1) → wp_X1_clause w Q X := by
      intro Z0 w Q X S x
      refine qx Z0 w Q X S (fun w1 f1 S1 => x_look' B S1 (by omega) q2 hp hc ?_)
      have g : b_X1_clause_90 Q X (iz 121) none (sI w1 13 (iz p3)) := ⟨fun _ => x _ (f1.trans (XF.i13 _ _)) (S1.at k1), fun i1 e => nomatch e⟩
      exact ⟨fun _ => g, fun _ => ⟨fun e => absurd ((iz_eq (by omega) (by omega) (by decide) (by decide)).mpr (by rename_i e33; exact cc.resolve_left (fun z => e33 (by rw [z])))) e, fun _ => g⟩⟩
    have hm : ∀ (w : Wd) (Q : Wd → Prop), MS0 t n p 0 w → (∀ w1, MF w w1 → MS0 t n p3 0 w1 → b_X3_clause_64 Q (iz 121) w1) → wp_X3_clause w Q := by
      intro w Q S x
      refine qm w Q S (fun w1 f1 S1 => m_look' B S1 (by omega) q2 hp hc ?_)
      have g : b_X3_clause_64 Q (iz 121) (sI w1 70 (iz p3)) := x _ (f1.trans (MF.i70 _ _)) (S1.at p3)
      exact ⟨fun _ => g, fun _ => ⟨fun e => absurd ((iz_eq (by omega) (by omega) (by decide) (by decide)).mpr (by rename_i e33; exact cc.resolve_left (fun z => e33 (by rw [z])))) e, fun _ => g⟩⟩
    rcases bo_condtail B (show 0 ≤ p3 by omega) k2 (bo_condN B (fun p a b => bo_U B a b) p3 (by omega) k2) with ⟨pf, i1, i2, ix, im⟩ | ⟨p', tb, f, i1, i2, id, id2, ix, im⟩
    · refine Or.inl ⟨pf, by omega, i2, fun Z0 zh w Q X S x => hx Z0 w Q X S (fun w1 f1 S1 => ix Z0 zh w w1 Q X f1 S1 x), fun w Q hf fv S L x => hm w Q S (fun w1 f1 S1 => im w1 Q S1 (fun w' g1 g2 => x w' (f1.trans g1).two g2))⟩
    · refine Or.inr ⟨p', tb, f, by omega, i2, id, id2, fun Z0 zh w Q X S x => hx Z0 w Q X S (fun w1 f1 S1 => ix Z0 zh w w1 Q X f1 S1 x), fun w Q hf fv S L x => hm w Q S (fun w1 f1 S1 => im w1 Q hf fv S1 (L.mf f1) (fun w' y1 y2 y3 => ?_))⟩
      rw [show gA w1 64 = gA w 64 by rw [f1.2.1]] at y3
      exact x w' (f1.two.trans y1) y2 y3
  · have hx : ∀ (Z0 : Int) (w : Wd) (Q : Nat → Wd → Prop) (X : Wd → Prop), XS t n Z0 p 0 w → (∀ w1, XF w w1 → XS t n (Z0 - 4) p3 0 w1 → pf_X1_sum 10 w1 (fun r6 w7 => b_X1_clause_90 Q X (iz 121) (some r6) w7) X) → wp_X1_clause w Q X := by
      intro Z0 w Q X S x
      refine qx Z0 w Q X S (fun w1 f1 S1 => x_look' B S1 (by omega) q2 hp hc ?_)
      exact br (iz_eq (by omega) (by omega) (by decide) (by decide)) (fun e => absurd (Or.inl e) cc) (fun _ => brn (iz_eq (by omega) (by omega) (by decide) (by decide)) (fun _ => x _ (f1.trans (XF.i13 _ _)) (S1.at k1)) (fun e => absurd (Or.inr e) cc))
    have hm : ∀ (w : Wd) (Q : Wd → Prop), MS0 t n p 0 w → (∀ w1, MF w w1 → MS0 t n p3 0 w1 → pf_X3_sum 10 w1 (fun r10 w11 => (¬ (gI w11 71) = (iz (-1)) → b_X3_clause_134 Q (iz 121) (iz 1) r10 w11) ∧ ((gI w11 71) = (iz (-1)) → wp_X3_look w11 (fun r12 w13 => wp_X3_isSign r12 w13 (fun r14 w15 => (r14 = iz 0 → b_X3_clause_134 Q (iz 121) (iz 1) r10 w15) ∧ (¬ r14 = iz 0 → wp_X3_condition (pf_X3_unit 10) (iz 1) r10 w15 (fun r16 w17 => wp_X3_takes (iz 63) w17 (fun r18 w19 => (¬ r18 = iz 0 → pf_X3_sum 10 w19 (fun r20 w21 => b_X3_clause_134 Q (iz 121) r16 r20 w21)) ∧ (r18 = iz 0 → Q w19))))))))) → wp_X3_clause w Q := by
      intro w Q S x
      refine qm w Q S (fun w1 f1 S1 => m_look' B S1 (by omega) q2 hp hc ?_)
      exact br (iz_eq (by omega) (by omega) (by decide) (by decide)) (fun e => absurd (Or.inl e) cc) (fun _ => brn (iz_eq (by omega) (by omega) (by decide) (by decide)) (fun _ => x _ (f1.trans (MF.i70 _ _)) (S1.at p3)) (fun e => absurd (Or.inr e) cc))
    rcases bo_S (d := 0) B (show 0 ≤ p3 by omega) k2 (by decide) (by decide) with ⟨pf, i1, i2, ix, im⟩ | ⟨p4, f, i1, i2, id, ix, im⟩
    · refine Or.inl ⟨pf, by omega, i2, fun Z0 zh w Q X S x => hx Z0 w Q X S (fun w1 f1 S1 => ix (Z0 - 4) (by omega) w1 _ X S1 (fun w' g1 g2 g3 => x w' (f1.trans g1) g2 (by omega))), fun w Q hf fv S L x => hm w Q S (fun w1 f1 S1 => im w1 _ S1 (fun v w' g1 g2 => ?_))⟩
      rw [g2]
      exact brn (iz_eq (by omega) (by omega) (by decide) (by decide)) (fun _ => m_134f (by omega) g2 (x w' (f1.trans g1).two g2)) (fun e => by omega)
    · obtain ⟨k3, k4⟩ := sk_bd t i2
      generalize hp5 : sk t n p4 = p5 at k3 k4
      have cb5 := lkc_bd (t := t) (n := n) p5
      generalize hc5 : lkc t n p5 = c5 at cb5
      by_cases sg : c5 = 61 ∨ c5 = 60 ∨ c5 = 62
      · rcases bo_condF (K := 15) B (by decide) (d := 0) (by decide) (by decide) (fun p a b => bo_U B a b) p5 (by omega) k4 with ⟨pf, j1, j2, jx, jm⟩ | ⟨p6, h, j1, j2, jd, jx, jm⟩
        · refine Or.inl ⟨pf, by omega, j2, fun Z0 zh w Q X S x => hx Z0 w Q X S (fun w1 f1 S1 => ix (Z0 - 4) (by omega) w1 _ X S1 (fun r w2 S2 g1 g2 g3 g4 => ⟨fun e => (nomatch e), fun i1 e => ?_⟩)), fun w Q hf fv S L x => hm w Q S (fun w1 f1 S1 => im w1 _ S1 (fun w2 g1 g2 => ?_))⟩
          · cases e
            refine x_look' B g2 (by omega) i2 hp5 hc5 (x_signs cb5 (fun _ => u1 ?_) (fun e => absurd sg e))
            exact jx (Z0 - 4) (by omega) w _ _ X r f S2 ((f1.trans g1).trans (XF.i13 _ _)) (fun q hq => f1.fresh (g3 q hq)) (g4.i _ _) (g2.at k3) (fun w' y1 y2 y3 => x w' y1 y2 (by omega))
          · rw [g2.2.2.2.2]
            refine ⟨fun e => absurd rfl e, fun _ => m_look' B g2 (by omega) i2 hp5 hc5 (m_signs cb5 (fun _ => t1 ?_) (fun e => absurd sg e))⟩
            refine jm _ _ _ (g2.at p5) (fun v w' zv y1 y2 => ?_)
            unfold wp_X3_takes
            rw [y2]
            exact brn (iz_eq (by omega) (by omega) (by decide) (by decide)) (fun _ => m_fails2 (v := pf) (by omega) y2 ⟨zok0, u0 (x _ (((f1.trans g1).trans (MF.i70 _ _)).trans y1).two y2)⟩) (fun e => by omega)
        · rcases bo_tail B (show 0 ≤ p6 by omega) j2 with ⟨pf, l1, l2, lx, lm⟩ | ⟨p', f2, l1, l2, ld, lx, lm⟩
          · refine Or.inl ⟨pf, by omega, l2, fun Z0 zh w Q X S x => hx Z0 w Q X S (fun w1 f1 S1 => ix (Z0 - 4) (by omega) w1 _ X S1 (fun r w2 S2 g1 g2 g3 g4 => ⟨fun e => (nomatch e), fun i1 e => ?_⟩)), fun w Q hf fv S L x => hm w Q S (fun w1 f1 S1 => im w1 _ S1 (fun w2 g1 g2 => ?_))⟩
            · cases e
              refine x_look' B g2 (by omega) i2 hp5 hc5 (x_signs cb5 (fun _ => u1 ?_) (fun e => absurd sg e))
              exact jx (Z0 - 4) (by omega) w _ _ X r f S2 ((f1.trans g1).trans (XF.i13 _ _)) (fun q hq => f1.fresh (g3 q hq)) (g4.i _ _) (g2.at k3) (fun r' w' S' ci fs y1 y2 y3 y4 y5 y6 => lx (Z0 - 3) (by omega) w w' Q X r' y1 (y2.lower (by have := y2.z; omega)) (fun w'' z1 z2 z3 => x w'' z1 z2 (by omega)))
            · rw [g2.2.2.2.2]
              refine ⟨fun e => absurd rfl e, fun _ => m_look' B g2 (by omega) i2 hp5 hc5 (m_signs cb5 (fun _ => t1 ?_) (fun e => absurd sg e))⟩
              exact jm _ _ _ (g2.at p5) (fun w' y1 y2 => lm w' Q _ y2 (fun w'' z1 z2 => x w'' ((((f1.trans g1).trans (MF.i70 _ _)).trans y1).trans z1).two z2))
          · refine Or.inr ⟨p', fun e => h (f e) e, f2, by omega, l2, fun e e' he => by show h (f e) e = h (f e') e'; rw [id e e' he]; exact jd (f e') e e' he, ld, fun Z0 zh w Q X S x => hx Z0 w Q X S (fun w1 f1 S1 => ix (Z0 - 4) (by omega) w1 _ X S1 (fun r w2 S2 g1 g2 g3 g4 => ⟨fun e => (nomatch e), fun i1 e => ?_⟩)), fun w Q hf fv S L x => hm w Q S (fun w1 f1 S1 => im w1 _ S1 (fun w2 g1 g2 => ?_))⟩
            · cases e
              refine x_look' B g2 (by omega) i2 hp5 hc5 (x_signs cb5 (fun _ => u1 ?_) (fun e => absurd sg e))
              exact jx (Z0 - 4) (by omega) w _ _ X r f S2 ((f1.trans g1).trans (XF.i13 _ _)) (fun q hq => f1.fresh (g3 q hq)) (g4.i _ _) (g2.at k3) (fun r' w' S' ci fs y1 y2 y3 y4 y5 y6 => lx (Z0 - 3) (by omega) w w' Q X r' ci 17 fs _ S' y1 (y2.lower (by have := y2.z; omega)) y3 y4 y5 (by decide) y6 (fun r'' w'' S'' to s z1 z2 z3 z4 z5 z6 z7 => x r'' w'' S'' to s z1 (z2.lower (by have := z2.z; omega)) z3 z4 z5 z6 z7))
            · rw [g2.2.2.2.2]
              refine ⟨fun e => absurd rfl e, fun _ => m_look' B g2 (by omega) i2 hp5 hc5 (m_signs cb5 (fun _ => t1 ?_) (fun e => absurd sg e))⟩
              refine jm _ _ _ (g2.at p5) (fun w' y1 y2 => lm w' Q _ hf fv y2 ((((L.mf f1).mf g1).mf (MF.i70 _ _)).mf y1) (fun w'' z1 z2 z3 => ?_))
              have e64 : gA w2 64 = gA w 64 := by rw [g1.2.1, f1.2.1]
              have e64b : gA w' 64 = gA w 64 := by
                rw [y1.2.1]
                exact e64
              have e64c : gA w1 64 = gA w 64 := by rw [f1.2.1]
              have z3' : ML (hfN hf (h (f (gA w1 64)) (gA w2 64))) (fvN hf (h (f (gA w1 64)) (gA w2 64)) (f2 (gA w' 64)) fv) w'' := z3
              rw [e64, e64b, e64c] at z3'
              exact x w'' ((((f1.trans g1).trans (MF.i70 _ _)).trans y1).two.trans z1) z2 z3'
      · refine Or.inr ⟨p5, fun _ => true, f, by omega, k4, fun _ _ _ => rfl, id, fun Z0 zh w Q X S x => hx Z0 w Q X S (fun w1 f1 S1 => ix (Z0 - 4) (by omega) w1 _ X S1 (fun r w2 S2 g1 g2 g3 g4 => ⟨fun e => (nomatch e), fun i1 e => ?_⟩)), fun w Q hf fv S L x => hm w Q S (fun w1 f1 S1 => im w1 _ S1 (fun w2 g1 g2 => ?_))⟩
        · cases e
          refine x_look' B g2 (by omega) i2 hp5 hc5 (x_signs cb5 (fun e => absurd e sg) (fun _ => u0 ?_))
          have fw : XF w w2 := f1.trans g1
          refine ⟨by show gZ w2 + 1 ≤ 600000; have := g2.z; omega, fun r6 hr hn => ?_⟩
          rintro w7 rfl
          have hn0 : gF w2 r6 = none := hn
          have fr : gF w r6 = none := fw.fresh hn0
          refine ⟨_, by rw [gF_sZ, gF_sF, if_pos rfl], by decide, ?_⟩
          rintro w3 rfl
          refine ⟨_, by rw [gF_sF, if_pos rfl], by simp, ?_⟩
          rintro w4 rfl
          refine ⟨_, by rw [gF_sF, if_pos rfl], by simp, ?_⟩
          rintro w5 rfl
          have nS : ∀ q, S2 q → q ≠ r6 := fun q hq z => by
            have := g4.1 q hq
            rw [z] at this
            exact this hn0
          have keep : ∀ q, q ≠ r6 → ∀ v0 v1 v2 v3, gF (sF (sF (sF (sZ (sF (sI w2 13 (iz p5)) r6 v0) (gZ (sI w2 13 (iz p5)) + 1)) r6 v1) r6 v2) r6 v3) q = gF w2 q := fun q nq v0 v1 v2 v3 => by
            rw [gF_sF, if_neg nq, gF_sF, if_neg nq, gF_sF, if_neg nq, gF_sZ, gF_sF, if_neg nq]
            rfl
          have S5 := g2.at k3
          have z5 := g2.z
          obtain ⟨s1, s2, s3, s4, s5⟩ := S5
          refine x r6 _ S2 none r ((((((fw.trans (XF.i13 _ _)).sF fr _).sZ (Nat.le_succ _)).sF fr _).sF fr _).sF fr _) ⟨s1, s2, s3, s4, ?_⟩ fr ?_ (fun z => nS r6 z rfl) (fun q hq => f1.fresh (g3 q hq)) ⟨fun q hq => ?_, fun w' h2 => ⟨fun Q' q' => ?_, Or.inl ⟨rfl, fun _ => rfl⟩⟩⟩
          · show ((gZ w2 + 1 : Nat) : Int) ≤ _
            omega
          · rw [gF_sF, if_pos rfl]
            rfl
          · rw [keep q (nS q hq)]
            exact g4.1 q hq
          · exact g4.2 w' (fun q hq => by rw [h2 q hq, keep q (nS q hq)]) 30 (by decide) Q' q'
        · rw [g2.2.2.2.2]
          refine ⟨fun e => absurd rfl e, fun _ => m_look' B g2 (by omega) i2 hp5 hc5 (m_signs cb5 (fun e => absurd e sg) (fun _ => t0 ?_))⟩
          refine m_134 (b := true) (g2.at p5) (((L.mf f1).mf g1).mf (MF.i70 _ _)) (fun w'' y1 y2 y3 => x w'' (((f1.trans g1).trans (MF.i70 _ _)).two.trans y1) y2 ?_)
          rw [show gA w1 64 = gA w 64 by rw [f1.2.1]] at y3
          exact y3
end CX
