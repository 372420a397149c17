/-! whole sums; comparisons -/
theorem DenS.up {K K' : Nat} {S : Nat → Prop} {w : Wd} {r : Nat} {f : En → Int32} (D : DenS K S w r f) (h : K ≤ K') : DenS K' S w r f := D.on h (fun _ h => h) D.1 (fun _ _ => rfl)
theorem BoS.up {t : Int → Int} {n p d : Int} {K K' : Nat} {PX : Wd → (Nat → Wd → Prop) → (Wd → Prop) → Prop} {PM : Wd → (Int32 → Wd → Prop) → Prop} (h : BoS t n K PX PM p d) (hk : K ≤ K') : BoS t n K' PX PM p d := by
  rcases h with h | ⟨p', f, q1, q2, qd, qx, qm⟩
  · exact Or.inl h
  · exact Or.inr ⟨p', f, q1, q2, qd, fun Z0 zh w Q X S x => qx Z0 zh w Q X S (fun r w' Sf g1 g2 g3 g4 => x r w' Sf g1 g2 g3 (g4.up hk)), qm⟩
theorem bo_ps {t : Int → Int} {n : Int} (B : TB t n) : ∀ (j e : Nat), j ≤ 6 → j ≤ e → ∀ p, 0 ≤ p → p ≤ n → BoS t n (3 + 2 * j) (pf_X1_sum (e + 1)) (pf_X3_sum (e + 1)) p (6 - j) := by
  intro j
  induction j with
  | zero =>
    intro e _ _
    exact bo_sum (K := 2) B (bo_term (K := 1) B (fun p h0 h1 => bo_atom (K := 1) (PsX := pf_X1_sum e) (PsM := pf_X3_sum e) B h0 h1 (by decide) (by decide) (Nat.le_refl _) (fun h => absurd h (by decide))))
  | succ j ih =>
    intro e h6 he
    obtain ⟨e, rfl⟩ : ∃ i, e = i + 1 := ⟨e - 1, by omega⟩
    have hs := ih e (by omega) (by omega)
    exact bo_sum (K := 3 + 2 * j + 1) B (bo_term (K := 3 + 2 * j) B (fun p h0 h1 => bo_atom (K := 3 + 2 * j) (PsX := pf_X1_sum (e + 1)) (PsM := pf_X3_sum (e + 1)) B h0 h1 (by omega) (by omega) (by omega) (fun _ p a b => by
      have := hs p a b
      rwa [show (6 : Int) - (j : Int) = 6 - ((j + 1 : Nat) : Int) + 1 by omega] at this)))
theorem bo_S {t : Int → Int} {n p d : Int} (B : TB t n) (h0 : 0 ≤ p) (h1 : p ≤ n) (d0 : 0 ≤ d) (d6 : d ≤ 6) : BoS t n 15 (pf_X1_sum 10) (pf_X3_sum 10) p d := by
  have := bo_ps B (6 - d).toNat 9 (by omega) (by omega) p h0 h1
  rw [show (6 : Int) - ((6 - d).toNat : Int) = d by omega] at this
  exact this.up (by omega)
def bz (b : Bool) : Int32 := if b = true then iz 1 else iz 0
/-- the test at r (its own link apart) says f -/
def DenT (K : Nat) (S : Nat → Prop) (w : Wd) (r ci : Nat) (fs : List Value) (f : En → Bool) : Prop := (ci = 7 ∨ ci = 8 ∨ ci = 9) ∧ (∀ q, S q → gF w q ≠ none) ∧ ¬ S r ∧ ∀ (w' : Wd) (nx : Option Nat), (∀ q, S q → gF w' q = gF w q) → gF w' r = some (ci, rv nx :: fs) → ∀ (k : Nat), K ≤ k → ∀ Q : Int32 → Wd → Prop, Q (bz (f (gA w' 15))) w' → pf_hold k r 15 w' Q
theorem DenT.on {K K' : Nat} {S S' : Nat → Prop} {w w' : Wd} {r ci : Nat} {fs : List Value} {f : En → Bool} (D : DenT K S w r ci fs f) (hK : K ≤ K') (hS : ∀ q, S q → S' q) (hr : ¬ S' r) (ha : ∀ q, S' q → gF w' q ≠ none) (he : ∀ q, S q → gF w' q = gF w q) : DenT K' S' w' r ci fs f :=
  ⟨D.1, ha, hr, fun w2 nx h2 hr k hk Q q => D.2.2.2 w2 nx (fun x hx => by rw [h2 x (hS x hx), he x hx]) hr k (Nat.le_trans hK hk) Q q⟩
theorem DenT.xf {K : Nat} {S : Nat → Prop} {w w' : Wd} {r ci : Nat} {fs : List Value} {f : En → Bool} (D : DenT K S w r ci fs f) (g : XF w w') : DenT K S w' r ci fs f := D.on (Nat.le_refl _) (fun _ h => h) D.2.2.1 (fun q hq => by rw [g.2.2.2.2.2.1 q (D.2.1 q hq)]; exact D.2.1 q hq) (fun q hq => g.2.2.2.2.2.1 q (D.2.1 q hq))
def OkXT (t : Int → Int) (n : Int) (K : Nat) (P : Wd → (Nat → Wd → Prop) → (Wd → Prop) → Prop) (p d p' : Int) (f : En → Bool) : Prop := ∀ (Z0 : Int), Z0 + 600 ≤ 600000 → ∀ (w : Wd) (Q : Nat → Wd → Prop) (X : Wd → Prop), XS t n Z0 p d w → (∀ (r : Nat) (w' : Wd) (S : Nat → Prop) (ci : Nat) (fs : List Value), XF w w' → XS t n Z0 p' d w' → gF w r = none → gF w' r = some (ci, rv none :: fs) → (∀ q, S q → gF w q = none) → DenT K S w' r ci fs f → Q r w') → P w Q X
def OkMT (t : Int → Int) (n : Int) (P : Wd → (Int32 → Wd → Prop) → Prop) (p d p' : Int) (f : En → Bool) : Prop := ∀ (w : Wd) (Q : Int32 → Wd → Prop), MS0 t n p d w → (∀ w', MF w w' → MS0 t n p' d w' → Q (bz (f (gA w 64))) w') → P w Q
def FaMT (t : Int → Int) (n : Int) (P : Wd → (Int32 → Wd → Prop) → Prop) (p d pf : Int) : Prop := ∀ (w : Wd) (Q : Int32 → Wd → Prop), MS0 t n p d w → (∀ v w', zok v → MF w w' → gI w' 71 = iz pf → Q v w') → P w Q
def BoT (t : Int → Int) (n : Int) (K : Nat) (PX : Wd → (Nat → Wd → Prop) → (Wd → Prop) → Prop) (PM : Wd → (Int32 → Wd → Prop) → Prop) (p d : Int) : Prop := (∃ pf, p ≤ pf ∧ pf ≤ n ∧ FaX t n PX p d pf ∧ FaMT t n PM p d pf) ∨ (∃ p' f, p < p' ∧ p' ≤ n ∧ Dep f ∧ OkXT t n K PX p d p' f ∧ OkMT t n PM p d p' f)
def cmpB (sg a b : Int32) : Bool := if sg = iz 61 then decide (a = b) else if sg = iz 60 then !decide (b ≤ a) else !decide (a ≤ b)
theorem zok_bz (b : Bool) : zok (bz b) := by
  cases b
  · exact zok0
  · exact zok1
theorem cmp_use {w : Wd} {Q : Int32 → Wd → Prop} {sg a b : Int32} (q : Q (bz (cmpB sg a b)) w) : (¬ sg = iz 61 → (¬ sg = iz 60 → (a ≤ b → Q (iz 0) w) ∧ (¬ a ≤ b → Q (iz 1) w)) ∧ (sg = iz 60 → (b ≤ a → Q (iz 0) w) ∧ (¬ b ≤ a → Q (iz 1) w))) ∧ (sg = iz 61 → (¬ a = b → Q (iz 0) w) ∧ (a = b → Q (iz 1) w)) := by
  unfold cmpB at q
  refine ⟨fun e1 => ?_, fun e1 => ?_⟩
  · rw [if_neg e1] at q
    refine ⟨fun e2 => ?_, fun e2 => ?_⟩
    · rw [if_neg e2] at q
      unfold bz at q
      exact ⟨fun e3 => by simpa [e3] using q, fun e3 => by simpa [e3] using q⟩
    · rw [if_pos e2] at q
      unfold bz at q
      exact ⟨fun e3 => by simpa [e3] using q, fun e3 => by simpa [e3] using q⟩
  · rw [if_pos e1] at q
    unfold bz at q
    exact ⟨fun e3 => by simpa [e3] using q, fun e3 => by simpa [e3] using q⟩
/-- a comparison, its first sum read -/
theorem bo_cmp {t : Int → Int} {n p d : Int} (B : TB t n) (h0 : 0 ≤ p) (h1 : p ≤ n) (d0 : 0 ≤ d) (d6 : d ≤ 6) :
    (∃ pf, p ≤ pf ∧ pf ≤ n ∧ (∀ (Z0 : Int), Z0 + 600 ≤ 600000 → ∀ (w0 w : Wd) (Q : Nat → Wd → Prop) (X : Wd → Prop) (s0 : Nat), XF w0 w → XS t n Z0 p d w → (∀ w', XF w0 w' → gI w' 13 = iz pf → (gZ w' : Int) ≤ Z0 + 2 * pf → X w') → wp_X1_compare (some s0) w Q X) ∧ (∀ (w : Wd) (Q : Int32 → Wd → Prop) (v : Int32), MS0 t n p d w → (∀ v w', zok v → MF w w' → gI w' 71 = iz pf → Q v w') → b_X3_compares_12 Q v w)) ∨
    (∃ p' sg f2, p < p' ∧ p' ≤ n ∧ Dep f2 ∧ (∀ (Z0 : Int), Z0 + 600 ≤ 600000 → ∀ (w0 w : Wd) (Q : Nat → Wd → Prop) (X : Wd → Prop) (s0 : Nat) (f0 : En → Int32) (S0 : Nat → Prop), XF w0 w → (∀ q, S0 q → gF w0 q = none) → DenS 15 S0 w s0 f0 → XS t n Z0 p d w → (∀ (r : Nat) (w' : Wd) (S : Nat → Prop) (ci : Nat) (fs : List Value), XF w0 w' → XS t n Z0 p' d w' → gF w0 r = none → gF w' r = some (ci, rv none :: fs) → (∀ q, S q → gF w0 q = none) → DenT 1 S w' r ci fs (fun e => cmpB sg (f0 e) (f2 e)) → Q r w') → wp_X1_compare (some s0) w Q X) ∧ (∀ (w : Wd) (Q : Int32 → Wd → Prop) (v : Int32), MS0 t n p d w → (∀ w', MF w w' → MS0 t n p' d w' → Q (bz (cmpB sg v (f2 (gA w 64)))) w') → b_X3_compares_12 Q v w)) := by
  have b1 := B.1; have b2 := B.2.1
  obtain ⟨k1, k2⟩ := sk_bd t h1
  generalize hp : sk t n p = p1 at k1 k2
  have cb := lkc_bd (t := t) (n := n) p1
  generalize hc : lkc t n p1 = c at cb
  by_cases sg : c = 61 ∨ c = 60 ∨ c = 62
  · have pin := lkc_in hc (by omega)
    have sx : ∀ (w : Wd) (Q : Int32 → Wd → Prop), Q (iz 1) w → wp_X1_isSign (iz c) w Q := by
      intro w Q q
      unfold wp_X1_isSign
      exact br (iz_eq (by omega) (by omega) (by decide) (by decide)) (fun _ => q) (fun _ => br (iz_eq (by omega) (by omega) (by decide) (by decide)) (fun _ => q) (fun _ => brn (iz_eq (by omega) (by omega) (by decide) (by decide)) (fun e => by omega) (fun _ => q)))
    have sm : ∀ (w : Wd) (Q : Int32 → Wd → Prop), Q (iz 1) w → wp_X3_isSign (iz c) w Q := by
      intro w Q q
      unfold wp_X3_isSign
      exact br (iz_eq (by omega) (by omega) (by decide) (by decide)) (fun _ => q) (fun _ => br (iz_eq (by omega) (by omega) (by decide) (by decide)) (fun _ => q) (fun _ => brn (iz_eq (by omega) (by omega) (by decide) (by decide)) (fun e => by omega) (fun _ => q)))
    -- ways to the second sum
    have hx : ∀ (Z0 : Int), Z0 + 600 ≤ 600000 → ∀ (w0 w : Wd) (Q : Nat → Wd → Prop) (X : Wd → Prop) (s0 : Nat), XF w0 w → XS t n Z0 p d w → (∀ (r : Nat) (w1 : Wd), gF w r = none → XF w w1 → gF w1 r = some (8, [.null, .int 0, .null, .null]) → XS t n Z0 (p1 + 1) d w1 → pf_X1_sum 10 w1 (fun r10 w11 => wp_X12_init r (iz c) (some s0) (some r10) w11 (fun w13 => Q r w13)) X) → wp_X1_compare (some s0) w Q X := by
      intro Z0 zh w0 w Q X s0 f S x
      unfold wp_X1_compare
      refine x_look' B S h0 h1 hp hc (sx _ _ (u1 ?_))
      rintro w7 rfl
      have z0 := S.z
      rw [(S.at k1).2.2.1, iz_add, sI_sI]
      have S1 := S.at (p' := p1 + 1) (by omega)
      refine ⟨by show gZ w + 1 ≤ 600000; omega, fun r hr hn => ?_⟩
      rintro w9 rfl
      have hn0 : gF w r = none := hn
      obtain ⟨s1, s2, s3, s4, s5⟩ := S1
      refine x r _ hn0 (((XF.i13 w _).sF hn0 _).sZ (Nat.le_succ _)) ?_ ⟨s1, s2, s3, s4, ?_⟩
      · rw [gF_sZ, gF_sF, if_pos rfl]
      · show ((gZ w + 1 : Nat) : Int) ≤ _
        omega
    have hm : ∀ (w : Wd) (Q : Int32 → Wd → Prop) (v : Int32), MS0 t n p d w → (∀ (w1 : Wd) (A : Int32 → Wd → Prop), MF w w1 → MS0 t n (p1 + 1) d w1 → (∀ r2 w3, Q (bz (cmpB (iz c) v r2)) w3 → A r2 w3) → pf_X3_sum 10 w1 A) → b_X3_compares_12 Q v w := by
      intro w Q v S x
      unfold b_X3_compares_12
      rw [S.2.2.2.2]
      refine ⟨fun _ => m_look' B S h0 h1 hp hc (sm _ _ (u1 ?_)), fun e => absurd rfl e⟩
      rintro w5 rfl
      have S1 := S.at p1
      rw [S1.2.2.1, iz_add, sI_sI]
      refine x _ _ (MF.i70 w _) (S.at (p1 + 1)) (fun r2 w3 hq => ?_)
      exact cmp_use hq
    rcases bo_S (p := p1 + 1) (d := d) B (by omega) (by omega) d0 d6 with ⟨pf, q1, q2, qx, qm⟩ | ⟨p', f2, q1, q2, qd, qx, qm⟩
    · refine Or.inl ⟨pf, by omega, q2, fun Z0 zh w0 w Q X s0 f S x => hx Z0 zh w0 w Q X s0 f S (fun r w1 g0 g1 g2 g3 => qx Z0 zh w1 _ X g3 (fun w' y1 y2 y3 => x w' ((f.trans g1).trans y1) y2 y3)), fun w Q v S x => hm w Q v S (fun w1 A f1 S1 hA => qm w1 A S1 (fun r2 w3 y1 y2 => hA r2 w3 (x _ w3 (zok_bz _) (f1.trans y1) y2)))⟩
    · refine Or.inr ⟨p', iz c, f2, by omega, q2, qd, fun Z0 zh w0 w Q X s0 f0 S0 f hS0 D0 S x => hx Z0 zh w0 w Q X s0 f S (fun r w1 g0 g1 g2 g3 => qx Z0 zh w1 _ X g3 (fun r2 w2 S2 y1 y2 y3 y4 => ?_)), fun w Q v S x => hm w Q v S (fun w1 A f1 S1 hA => qm w1 A S1 (fun w3 y1 y2 => hA _ w3 ?_))⟩
      · have fr : gF w0 r = none := f.fresh g0
        have e8 : gF w2 r = some (8, [.null, .int 0, .null, .null]) := by
          rw [y1.2.2.2.2.2.1 r (by rw [g2]; exact fun z => nomatch z), g2]
        have n2 : ¬ S2 r := fun z => by
          have := y3 r z
          rw [g2] at this
          exact nomatch this
        have n0 : ¬ S0 r := fun z => D0.1 r z g0
        have D0' := (D0.xf g1).xf y1
        refine ⟨_, e8, by decide, ?_⟩
        rintro w4 rfl
        refine ⟨_, by rw [gF_sF, if_pos rfl], by simp, ?_⟩
        rintro w5 rfl
        refine ⟨_, by rw [gF_sF, if_pos rfl], by simp, ?_⟩
        rintro w6 rfl
        have fw : XF w0 w2 := (f.trans g1).trans y1
        have keep : ∀ q, S0 q ∨ S2 q → ∀ v1 v2 v3, gF (sF (sF (sF w2 r v1) r v2) r v3) q = gF w2 q := fun q hq v1 v2 v3 => by
          have nq : q ≠ r := fun z => by
            rw [z] at hq
            rcases hq with hq | hq
            · exact n0 hq
            · exact n2 hq
          rw [gF_sF, if_neg nq, gF_sF, if_neg nq, gF_sF, if_neg nq]
        have al : ∀ q, S0 q ∨ S2 q → gF w2 q ≠ none := fun q hq => by
          rcases hq with hq | hq
          · exact D0'.1 q hq
          · exact y4.1 q hq
        obtain ⟨s1, s2, s3, s4, s5⟩ := y2
        refine x r _ (fun q => S0 q ∨ S2 q) 8 [.int (iz c), rv (some s0), rv (some r2)] (((fw.sF fr _).sF fr _).sF fr _) ⟨s1, s2, s3, s4, s5⟩ fr ?_ (fun q hq => ?_) ⟨Or.inr (Or.inl rfl), fun q hq => by rw [keep q hq]; exact al q hq, fun z => ?_, fun w' nx h2 hr k hk Q' q' => ?_⟩
        · rw [gF_sF, if_pos rfl]
          rfl
        · rcases hq with hq | hq
          · exact hS0 q hq
          · exact (f.trans g1).fresh (y3 q hq)
        · rcases z with z | z
          · exact n0 z
          · exact n2 z
        · obtain ⟨k, rfl⟩ : ∃ j, k = j + 1 := ⟨k - 1, by omega⟩
          have d0' : DenS 15 S0 w' s0 f0 := D0'.on (Nat.le_refl _) (fun _ h => h) (fun q hq => by rw [h2 q (Or.inl hq), keep q (Or.inl hq)]; exact al q (Or.inl hq)) (fun q hq => by rw [h2 q (Or.inl hq), keep q (Or.inl hq)])
          have d2' : DenS 15 S2 w' r2 f2 := y4.on (Nat.le_refl _) (fun _ h => h) (fun q hq => by rw [h2 q (Or.inr hq), keep q (Or.inr hq)]; exact al q (Or.inr hq)) (fun q hq => by rw [h2 q (Or.inr hq), keep q (Or.inr hq)])
          refine Or.inr (Or.inl ⟨_, hr, some s0, ⟨_, hr, rfl⟩, s0, rfl, d0'.2 w' (fun _ _ => rfl) 30 (by decide) _ ⟨some r2, ⟨_, hr, rfl⟩, r2, rfl, d2'.2 w' (fun _ _ => rfl) 30 (by decide) _ ⟨iz c, ⟨_, hr, rfl⟩, ?_⟩⟩⟩)
          have h := cmp_use q'
          exact ⟨fun e1 => ⟨iz c, ⟨_, hr, rfl⟩, h.1 e1⟩, h.2⟩
      · have := x w3 (f1.trans y1) y2
        rw [show gA w1 64 = gA w 64 by rw [f1.2.1]]
        exact this
  · have sx : ∀ (w : Wd) (Q : Int32 → Wd → Prop), Q (iz 0) w → wp_X1_isSign (iz c) w Q := by
      intro w Q q
      unfold wp_X1_isSign
      exact br (iz_eq (by omega) (by omega) (by decide) (by decide)) (fun _ => by omega) (fun _ => br (iz_eq (by omega) (by omega) (by decide) (by decide)) (fun _ => by omega) (fun _ => brn (iz_eq (by omega) (by omega) (by decide) (by decide)) (fun e => q) (fun _ => by omega)))
    have sm : ∀ (w : Wd) (Q : Int32 → Wd → Prop), Q (iz 0) w → wp_X3_isSign (iz c) w Q := by
      intro w Q q
      unfold wp_X3_isSign
      exact br (iz_eq (by omega) (by omega) (by decide) (by decide)) (fun _ => by omega) (fun _ => br (iz_eq (by omega) (by omega) (by decide) (by decide)) (fun _ => by omega) (fun _ => brn (iz_eq (by omega) (by omega) (by decide) (by decide)) (fun e => q) (fun _ => by omega)))
    refine Or.inl ⟨p1, k1, k2, fun Z0 zh w0 w Q X s0 f S x => ?_, fun w Q v S x => ?_⟩
    · unfold wp_X1_compare
      have S1 := S.at k1
      exact x_look' B S h0 h1 hp hc (sx _ _ ⟨fun e => absurd rfl e, fun _ => x _ (f.trans (XF.i13 w _)) S1.2.2.1 S1.z⟩)
    · unfold b_X3_compares_12
      rw [S.2.2.2.2]
      have S1 := S.at p1
      refine ⟨fun _ => m_look' B S h0 h1 hp hc (sm _ _ (u0 (m_fails S1.2.2.2.2 ⟨zok0, x _ _ zok0 ((MF.i70 w _).trans (MF.i71 _ _)) ?_⟩))), fun e => absurd rfl e⟩
      rw [gI_sI, if_pos rfl]
      exact S1.2.2.1
