/-! a clause of a law, read on both sides -/
def MF2 (w w' : Wd) : Prop := (∀ k, ¬ (k = 70 ∨ k = 71 ∨ k = 72 ∨ k = 74 ∨ k = 77) → gI w' k = gI w k) ∧ gA w' = gA w ∧ gJ w' = gJ w ∧ gL w' = gL w ∧ gC w' = gC w ∧ gT w' = gT w ∧ gF w' = gF w ∧ gZ w' = gZ w
theorem MF2.trans {w w' w'' : Wd} (f : MF2 w w') (g : MF2 w' w'') : MF2 w w'' := ⟨fun k a => (g.1 k a).trans (f.1 k a), g.2.1.trans f.2.1, g.2.2.1.trans f.2.2.1, g.2.2.2.1.trans f.2.2.2.1, g.2.2.2.2.1.trans f.2.2.2.2.1, g.2.2.2.2.2.1.trans f.2.2.2.2.2.1, g.2.2.2.2.2.2.1.trans f.2.2.2.2.2.2.1, g.2.2.2.2.2.2.2.trans f.2.2.2.2.2.2.2⟩
theorem MF.two {w w' : Wd} (f : MF w w') : MF2 w w' := ⟨fun k a => f.1 k (by omega) (by omega) (by omega), f.2⟩
/-- the found value so far: is there one (1), which -/
def ML (hf : Int) (fv : Int32) (w : Wd) : Prop := gI w 77 = iz hf ∧ (hf = 0 ∨ hf = 1) ∧ gI w 74 = fv ∧ gI w 73 = iz 121
theorem ML.mf {hf : Int} {fv : Int32} {w w' : Wd} (L : ML hf fv w) (f : MF w w') : ML hf fv w' := by
  obtain ⟨l1, l2, l3, l4⟩ := L
  exact ⟨by rw [f.1 77 (by decide) (by decide) (by decide)]; exact l1, l2, by rw [f.1 74 (by decide) (by decide) (by decide)]; exact l3, by rw [f.1 73 (by decide) (by decide) (by decide)]; exact l4⟩
def hfN (hf : Int) (b : Bool) : Int := if hf = 0 ∧ b = true then 1 else hf
def fvN (hf : Int) (b : Bool) (v fv : Int32) : Int32 := if hf = 0 ∧ b = true then v else fv
section CL
variable {t : Int → Int} {n p d : Int} {w : Wd}
theorem m_134 {Q : Wd → Prop} {hf : Int} {fv v : Int32} {b : Bool} (S : MS0 t n p d w) (L : ML hf fv w) (q : ∀ w', MF2 w w' → MS0 t n p d w' → ML (hfN hf b) (fvN hf b v fv) w' → Q w') : b_X3_clause_134 Q (iz 121) (bz b) v w := by
  obtain ⟨l1, l2, l3, l4⟩ := L
  unfold b_X3_clause_134
  rw [S.2.2.2.2, l1, l4]
  refine ⟨fun e => absurd rfl e, fun _ => brn (iz_eq (by omega) (by omega) (by decide) (by decide)) (fun e => ?_) (fun e => ⟨fun e2 => absurd rfl e2, fun _ => ⟨fun e3 => ?_, fun e3 => ?_⟩⟩)⟩
  · have := q w (MF.refl w).two S
    unfold hfN fvN at this
    rw [if_neg (fun z => e z.1), if_neg (fun z => e z.1)] at this
    exact this ⟨l1, l2, l3, l4⟩
  · rintro w1 rfl w2 rfl
    have hb : b = true := by
      cases b
      · exact absurd rfl e3
      · rfl
    have := q (sI (sI w 77 (iz 1)) 74 v) ⟨fun k a => by rw [gI_sI, if_neg (by omega), gI_sI, if_neg (by omega)], rfl, rfl, rfl, rfl, rfl, rfl, rfl⟩
    unfold hfN fvN at this
    rw [if_pos ⟨e, hb⟩, if_pos ⟨e, hb⟩] at this
    obtain ⟨s1, ⟨b0, s2, s3, s4, s5, s6⟩, s7, s8, s9⟩ := S
    have n' : ∀ k, k ≠ 74 → k ≠ 77 → gI (sI (sI w 77 (iz 1)) 74 v) k = gI w k := fun k a b => by rw [gI_sI, if_neg a, gI_sI, if_neg b]
    exact this ⟨by rw [n' 69 (by decide) (by decide)]; exact s1, ⟨b0, s2, s3, s4, by rw [n' 68 (by decide) (by decide)]; exact s5, s6⟩, by rw [n' 70 (by decide) (by decide)]; exact s7, by rw [n' 72 (by decide) (by decide)]; exact s8, by rw [n' 71 (by decide) (by decide)]; exact s9⟩ ⟨by rw [gI_sI, if_neg (by decide), gI_sI, if_pos rfl], Or.inr rfl, by rw [gI_sI, if_pos rfl], by rw [n' 73 (by decide) (by decide)]; exact l4⟩
  · have hb : b = false := by
      cases b
      · rfl
      · exact absurd e3 (by decide)
    have := q w (MF.refl w).two S
    unfold hfN fvN at this
    rw [hb, if_neg (fun z => nomatch z.2), if_neg (fun z => nomatch z.2)] at this
    exact this ⟨l1, l2, l3, l4⟩
theorem m_134f {Q : Wd → Prop} {l1 l2 l3 : Int32} {pf : Int} (h : 0 ≤ pf ∧ pf ≤ 240) (e : gI w 71 = iz pf) (q : Q w) : b_X3_clause_134 Q l1 l2 l3 w := by
  unfold b_X3_clause_134
  rw [e]
  exact brn (iz_eq (by omega) (by omega) (by decide) (by decide)) (fun _ => q) (fun e => by omega)
/-- what a clause's node means -/
def DenC (S : Nat → Prop) (w : Wd) (to : Option Nat) (s : Nat) (tb : En → Bool) (f : En → Int32) : Prop := (∀ q, S q → gF w q ≠ none) ∧ ∀ w', (∀ q, S q → gF w' q = gF w q) → (∀ Q : Int32 → Wd → Prop, Q (f (gA w' 15)) w' → pf_val 30 s 15 w' Q) ∧ ((to = none ∧ ∀ e, tb e = true) ∨ ∃ rt, to = some rt ∧ ∀ Q : Int32 → Wd → Prop, Q (bz (tb (gA w' 15))) w' → pf_hold 30 rt 15 w' Q)
theorem DenC.on {S S' : Nat → Prop} {w w' : Wd} {to : Option Nat} {s : Nat} {tb : En → Bool} {f : En → Int32} (D : DenC S w to s tb f) (hS : ∀ q, S q → S' q) (ha : ∀ q, S' q → gF w' q ≠ none) (he : ∀ q, S q → gF w' q = gF w q) : DenC S' w' to s tb f := ⟨ha, fun w2 h2 => D.2 w2 (fun q hq => by rw [h2 q (hS q hq), he q hq])⟩
def OkXC (t : Int → Int) (n : Int) (P : Wd → (Nat → Wd → Prop) → (Wd → Prop) → Prop) (p d p' : Int) (tb : En → Bool) (f : En → Int32) : Prop := ∀ (Z0 : Int), Z0 + 600 ≤ 600000 → ∀ (w : Wd) (Q : Nat → Wd → Prop) (X : Wd → Prop), XS t n Z0 p d w → (∀ (r : Nat) (w' : Wd) (S : Nat → Prop) (to : Option Nat) (s : Nat), XF w w' → XS t n Z0 p' d w' → gF w r = none → gF w' r = some (6, [.int (iz 121), rv to, rv (some s), rv none]) → ¬ S r → (∀ q, S q → gF w q = none) → DenC S w' to s tb f → Q r w') → P w Q X
def BoC (t : Int → Int) (n : Int) (PX : Wd → (Nat → Wd → Prop) → (Wd → Prop) → Prop) (PM : Wd → (Wd → Prop) → Prop) (p d : Int) : Prop := (∃ pf, p ≤ pf ∧ pf ≤ n ∧ FaX t n PX p d pf ∧ (∀ (w : Wd) (Q : Wd → Prop) (hf : Int) (fv : Int32), MS0 t n p d w → ML hf fv w → (∀ w', MF2 w w' → gI w' 71 = iz pf → Q w') → PM w Q)) ∨ (∃ p' tb f, p < p' ∧ p' ≤ n ∧ Dep tb ∧ Dep f ∧ OkXC t n PX p d p' tb f ∧ (∀ (w : Wd) (Q : Wd → Prop) (hf : Int) (fv : Int32), MS0 t n p d w → ML hf fv w → (∀ w', MF2 w w' → MS0 t n p' d w' → ML (hfN hf (tb (gA w 64))) (fvN hf (tb (gA w 64)) (f (gA w 64)) fv) w' → Q w') → PM w Q))
/-- behind the condition: the question mark and the sum -/
theorem bo_tail (B : TB t n) (h0 : 0 ≤ p) (h1 : p ≤ n) :
    (∃ pf, p ≤ pf ∧ pf ≤ n ∧ (∀ (Z0 : Int), Z0 + 600 ≤ 600000 → ∀ (w0 w : Wd) (Q : Nat → Wd → Prop) (X : Wd → Prop) (rt : Nat), XF w0 w → XS t n (Z0 - 1) p 0 w → (∀ w', XF w0 w' → gI w' 13 = iz pf → (gZ w' : Int) ≤ Z0 + 2 * pf → X w') → wp_X1_look w (fun r3 w4 => (¬ r3 = (iz 63) → b_X1_clause_138 Q X (iz 121) (some rt) (iz 0) w4) ∧ (r3 = (iz 63) → b_X1_clause_138 Q X (iz 121) (some rt) (iz 1) w4))) ∧ (∀ (w : Wd) (Q : Wd → Prop) (r1 : Int32), MS0 t n p 0 w → (∀ w', MF w w' → gI w' 71 = iz pf → Q w') → wp_X3_takes (iz 63) w (fun r3 w4 => (¬ r3 = iz 0 → pf_X3_sum 10 w4 (fun r5 w6 => b_X3_clause_134 Q (iz 121) r1 r5 w6)) ∧ (r3 = iz 0 → Q w4)))) ∨
    (∃ p' f, p < p' ∧ p' ≤ n ∧ Dep f ∧ (∀ (Z0 : Int), Z0 + 600 ≤ 600000 → ∀ (w0 w : Wd) (Q : Nat → Wd → Prop) (X : Wd → Prop) (rt ci K : Nat) (fs : List Value) (tb : En → Bool) (S : Nat → Prop), XF w0 w → XS t n (Z0 - 1) p 0 w → gF w0 rt = none → gF w rt = some (ci, rv none :: fs) → (∀ q, S q → gF w0 q = none) → K ≤ 30 → DenT K S w rt ci fs tb → (∀ (r : Nat) (w' : Wd) (S : Nat → Prop) (to : Option Nat) (s : Nat), XF w0 w' → XS t n Z0 p' 0 w' → gF w0 r = none → gF w' r = some (6, [.int (iz 121), rv to, rv (some s), rv none]) → ¬ S r → (∀ q, S q → gF w0 q = none) → DenC S w' to s tb f → Q r w') → wp_X1_look w (fun r3 w4 => (¬ r3 = (iz 63) → b_X1_clause_138 Q X (iz 121) (some rt) (iz 0) w4) ∧ (r3 = (iz 63) → b_X1_clause_138 Q X (iz 121) (some rt) (iz 1) w4))) ∧ (∀ (w : Wd) (Q : Wd → Prop) (b : Bool) (hf : Int) (fv : Int32), MS0 t n p 0 w → ML hf fv w → (∀ w', MF2 w w' → MS0 t n p' 0 w' → ML (hfN hf b) (fvN hf b (f (gA w 64)) fv) w' → Q w') → wp_X3_takes (iz 63) w (fun r3 w4 => (¬ r3 = iz 0 → pf_X3_sum 10 w4 (fun r5 w6 => b_X3_clause_134 Q (iz 121) (bz b) r5 w6)) ∧ (r3 = iz 0 → Q w4)))) := by
  have b1 := B.1; have b2 := B.2.1
  obtain ⟨k1, k2⟩ := sk_bd t h1
  generalize hp : sk t n p = p1 at k1 k2
  have cb := lkc_bd (t := t) (n := n) p1
  generalize hc : lkc t n p1 = c at cb
  by_cases c63 : c = 63
  · subst c63
    have pin := lkc_in hc (by decide)
    have hx : ∀ (Z0 : Int), Z0 + 600 ≤ 600000 → ∀ (w0 w : Wd) (Q : Nat → Wd → Prop) (X : Wd → Prop) (rt : Nat), XF w0 w → XS t n (Z0 - 1) p 0 w → (∀ (r : Nat) (w1 : Wd), gF w r = none → XF w w1 → gF w1 r = some (6, [.int 0, .null, .null, .null]) → XS t n Z0 (p1 + 1) 0 w1 → pf_X1_sum 10 w1 (fun r6 w7 => wp_X9_init r (iz 121) (some rt) (some r6) w7 (fun w9 => Q r w9)) X) → wp_X1_look w (fun r3 w4 => (¬ r3 = (iz 63) → b_X1_clause_138 Q X (iz 121) (some rt) (iz 0) w4) ∧ (r3 = (iz 63) → b_X1_clause_138 Q X (iz 121) (some rt) (iz 1) w4)) := by
      intro Z0 zh w0 w Q X rt f S x
      refine x_look' B S h0 h1 hp hc ⟨fun e => absurd rfl e, fun _ => u1 ?_⟩
      rintro w3 rfl
      have z0 := S.z
      rw [(S.at k1).2.2.1, iz_add, sI_sI]
      have S1 := S.at (p' := p1 + 1) (by omega)
      refine ⟨by show gZ w + 1 ≤ 600000; omega, fun r hr hn => ?_⟩
      rintro w5 rfl
      have hn0 : gF w r = none := hn
      obtain ⟨s1, s2, s3, s4, s5⟩ := S1
      refine x r _ hn0 (((XF.i13 w _).sF hn0 _).sZ (Nat.le_succ _)) ?_ ⟨s1, s2, s3, s4, ?_⟩
      · rw [gF_sZ, gF_sF, if_pos rfl]
      · show ((gZ w + 1 : Nat) : Int) ≤ _
        omega
    have hm : ∀ (w : Wd) (Q : Wd → Prop) (r1 : Int32), MS0 t n p 0 w → (∀ w1, MF w w1 → MS0 t n (p1 + 1) 0 w1 → pf_X3_sum 10 w1 (fun r5 w6 => b_X3_clause_134 Q (iz 121) r1 r5 w6)) → wp_X3_takes (iz 63) w (fun r3 w4 => (¬ r3 = iz 0 → pf_X3_sum 10 w4 (fun r5 w6 => b_X3_clause_134 Q (iz 121) r1 r5 w6)) ∧ (r3 = iz 0 → Q w4)) := by
      intro w Q r1 S x
      unfold wp_X3_takes
      rw [S.2.2.2.2]
      refine ⟨fun e => absurd rfl e, fun _ => m_look' B S h0 h1 hp hc ⟨fun _ => ?_, fun e => absurd rfl e⟩⟩
      rintro w5 rfl
      rw [(S.at p1).2.2.1, iz_add, sI_sI]
      exact u1 (x _ (MF.i70 w _) (S.at (p1 + 1)))
    rcases bo_S (d := 0) B (show 0 ≤ p1 + 1 by omega) (by omega) (by decide) (by decide) with ⟨pf, q1, q2, qx, qm⟩ | ⟨p', f, q1, q2, qd, qx, qm⟩
    · refine Or.inl ⟨pf, by omega, q2, fun Z0 zh w0 w Q X rt f S x => hx Z0 zh w0 w Q X rt f S (fun r w1 g0 g1 g2 g3 => qx Z0 zh w1 _ X g3 (fun w' y1 y2 y3 => x w' ((f.trans g1).trans y1) y2 y3)), fun w Q r1 S x => hm w Q r1 S (fun w1 f1 S1 => qm w1 _ S1 (fun v w' g1 g2 => m_134f (by omega) g2 (x w' (f1.trans g1) g2)))⟩
    · refine Or.inr ⟨p', f, by omega, q2, qd, fun Z0 zh w0 w Q X rt ci K fs tb S fx S1 e1 e2 hS hK D x => hx Z0 zh w0 w Q X rt fx S1 (fun r w1 g0 g1 g2 g3 => qx Z0 zh w1 _ X g3 (fun r6 w2 S2 y1 y2 y3 y4 => ?_)), fun w Q b hf fv S L x => hm w Q (bz b) S (fun w1 f1 S1 => qm w1 _ S1 (fun w' g1 g2 => ?_))⟩
      · have fr : gF w0 r = none := fx.fresh g0
        have e6 : gF w2 r = some (6, [.int 0, .null, .null, .null]) := by
          rw [y1.2.2.2.2.2.1 r (by rw [g2]; exact fun z => nomatch z), g2]
        have D2 := (D.xf g1).xf y1
        have ert : gF w2 rt = some (ci, rv none :: fs) := by
          have h1 : gF w1 rt = gF w rt := g1.2.2.2.2.2.1 rt (by rw [e2]; exact fun z => nomatch z)
          rw [y1.2.2.2.2.2.1 rt (by rw [h1, e2]; exact fun z => nomatch z), h1, e2]
        have nrt : rt ≠ r := fun z => by rw [z, g0] at e2; exact nomatch e2
        have nS : ∀ q, S q → q ≠ r := fun q hq z => by
          have := D.2.1 q hq
          rw [z] at this
          exact this g0
        have nS2 : ∀ q, S2 q → q ≠ r := fun q hq z => by
          have := y3 q hq
          rw [z, g2] at this
          exact nomatch this
        refine ⟨_, e6, by decide, ?_⟩
        rintro w3 rfl
        refine ⟨_, by rw [gF_sF, if_pos rfl], by simp, ?_⟩
        rintro w4 rfl
        refine ⟨_, by rw [gF_sF, if_pos rfl], by simp, ?_⟩
        rintro w5 rfl
        have fw : XF w0 w2 := (fx.trans g1).trans y1
        have keep : ∀ q, q ≠ r → ∀ v1 v2 v3, gF (sF (sF (sF w2 r v1) r v2) r v3) q = gF w2 q := fun q nq v1 v2 v3 => by
          rw [gF_sF, if_neg nq, gF_sF, if_neg nq, gF_sF, if_neg nq]
        obtain ⟨s1, s2, s3, s4, s5⟩ := y2
        refine x r _ (fun q => S q ∨ S2 q ∨ q = rt) (some rt) r6 (((fw.sF fr _).sF fr _).sF fr _) ⟨s1, s2, s3, s4, s5⟩ fr ?_ (fun z => ?_) (fun q hq => ?_) ⟨fun q hq => ?_, fun w' h2 => ⟨fun Q' q' => ?_, Or.inr ⟨rt, rfl, fun Q' q' => ?_⟩⟩⟩
        · rw [gF_sF, if_pos rfl]
          rfl
        · rcases z with z | z | z
          · exact nS r z rfl
          · exact nS2 r z rfl
          · exact nrt z.symm
        · rcases hq with hq | hq | rfl
          · exact hS q hq
          · exact (fx.trans g1).fresh (y3 q hq)
          · exact e1
        · rcases hq with hq | hq | rfl
          · rw [keep q (nS q hq)]
            exact D2.2.1 q hq
          · rw [keep q (nS2 q hq)]
            exact y4.1 q hq
          · rw [keep q nrt, ert]
            exact fun z => (nomatch z)
        · exact y4.2 w' (fun q hq => by rw [h2 q (Or.inr (Or.inl hq)), keep q (nS2 q hq)]) 30 (by decide) Q' q'
        · exact D2.2.2.2 w' none (fun q hq => by rw [h2 q (Or.inl hq), keep q (nS q hq)]) (by rw [h2 rt (Or.inr (Or.inr rfl)), keep rt nrt, ert]) 30 hK Q' q'
      · refine m_134 g2 ((L.mf f1).mf g1) (fun w'' y1 y2 y3 => x w'' ((f1.trans g1).two.trans y1) y2 ?_)
        rw [show gA w1 64 = gA w 64 by rw [f1.2.1]] at y3
        exact y3
  · refine Or.inl ⟨p1, k1, k2, fun Z0 zh w0 w Q X rt f S x => ?_, fun w Q r1 S x => ?_⟩
    · have S1 := S.at k1
      have z1 := S1.z
      exact x_look' B S h0 h1 hp hc (brn (iz_eq (by omega) (by omega) (by decide) (by decide)) (fun _ => ⟨fun e => absurd rfl e, fun _ => x _ (f.trans (XF.i13 w _)) S1.2.2.1 (by omega)⟩) (fun e => absurd e c63))
    · unfold wp_X3_takes
      rw [S.2.2.2.2]
      have S1 := S.at p1
      refine ⟨fun e => absurd rfl e, fun _ => m_look' B S h0 h1 hp hc (br (iz_eq (by omega) (by omega) (by decide) (by decide)) (fun e => absurd e c63) (fun _ => m_fails S1.2.2.2.2 ⟨zok0, u0 (x _ ((MF.i70 w _).trans (MF.i71 _ _)) ?_)⟩))⟩
      rw [gI_sI, if_pos rfl]
      exact S1.2.2.1
end CL
