/-! units, parts, conditions: read on both sides -/
section UN
variable {t : Int → Int} {n p d : Int} {K : Nat} {PuX : Wd → (Nat → Wd → Prop) → (Wd → Prop) → Prop} {PuM : Wd → (Int32 → Wd → Prop) → Prop}
theorem DenT.up {K' : Nat} {S : Nat → Prop} {w : Wd} {r ci : Nat} {fs : List Value} {f : En → Bool} (D : DenT K S w r ci fs f) (h : K ≤ K') : DenT K' S w r ci fs f := D.on h (fun _ h => h) D.2.2.1 D.2.1 (fun _ _ => rfl)
theorem BoT.up {K' : Nat} {PX : Wd → (Nat → Wd → Prop) → (Wd → Prop) → Prop} {PM : Wd → (Int32 → Wd → Prop) → Prop} (h : BoT t n K PX PM p d) (hk : K ≤ K') : BoT t n K' PX PM p d := by
  rcases h with h | ⟨p', f, q1, q2, qd, qx, qm⟩
  · exact Or.inl h
  · exact Or.inr ⟨p', f, q1, q2, qd, fun Z0 zh w Q X S x => qx Z0 zh w Q X S (fun r w' Sf ci fs g1 g2 g3 g4 g5 g6 => x r w' Sf ci fs g1 g2 g3 g4 g5 (g6.up hk)), qm⟩
/-- the state ahead of the loop -/
theorem StT.start {w0 w : Wd} {r ci : Nat} {fs : List Value} {f : En → Bool} {S : Nat → Prop} {a : Bool} (g1 : XF w0 w) (g3 : gF w0 r = none) (g4 : gF w r = some (ci, rv none :: fs)) (g5 : ∀ q, S q → gF w0 q = none) (g6 : DenT K S w r ci fs f) : StT K w0 w (r, ci, fs, f) a S none [(r, ci, fs, f)] :=
  ⟨g1, fun q hq => ⟨g5 q hq, g6.2.1 q hq⟩, fun x hx => by rw [List.mem_singleton.mp hx]; exact ⟨g3, by show gF w r ≠ none; rw [g4]; exact fun z => (nomatch z), g6⟩, Or.inl ⟨rfl, rfl, g4⟩⟩
theorem flt18 (b2 : n ≤ 240) {pf : Int} (f0 : 0 ≤ pf) (f1 : pf ≤ n) {v : Int32} {w3 : Wd} {Q : Int32 → Wd → Prop} (zv : zok v) (e : gI w3 71 = iz pf) (q : Q v w3) : lp_X3_part_18 PuM Q 1 v w3 := by
  show wl_X3_part_18 PuM Q _ v w3
  unfold wl_X3_part_18
  rw [e]
  exact brn (iz_eq (by omega) (by omega) (by decide) (by decide)) (fun _ => ⟨zv, q⟩) (fun e2 => by omega)
theorem flt7 (b2 : n ≤ 240) {pf : Int} (f0 : 0 ≤ pf) (f1 : pf ≤ n) {v : Int32} {w3 : Wd} {Q : Int32 → Wd → Prop} (zv : zok v) (e : gI w3 71 = iz pf) (q : Q v w3) : lp_X3_condition_7 PuM Q 1 v w3 := by
  show wl_X3_condition_7 PuM Q _ v w3
  unfold wl_X3_condition_7
  rw [e]
  exact brn (iz_eq (by omega) (by omega) (by decide) (by decide)) (fun _ => ⟨zv, q⟩) (fun e2 => by omega)
theorem bo_partN (B : TB t n) (hu : ∀ p, 0 ≤ p → p ≤ n → BoT t n K PuX PuM p d) : ∀ p, 0 ≤ p → p ≤ n → BoT t n (K + 1) (wp_X1_part PuX none) (wp_X3_part PuM (iz 0) (iz 0)) p d := by
  intro p h0 h1
  have b2 := B.2.1
  rcases hu p h0 h1 with ⟨pf, q1, q2, qx, qm⟩ | ⟨p2, f2, q1, q2, qd, qx, qm⟩
  · exact Or.inl ⟨pf, q1, q2, fun Z0 zh w Q X S x => ⟨fun i e => (nomatch e), fun _ => qx Z0 zh w _ X S x⟩, fun w Q S x => ⟨fun _ => qm w _ S (fun v w' zv g1 g2 => ⟨1, flt18 b2 (by omega) q2 zv g2 (x v w' zv g1 g2)⟩), fun e => absurd rfl e⟩⟩
  · rcases lo_part (d := d) B hu (n - p2).toNat p2 (Nat.le_refl _) (by omega) q2 with ⟨pf, i1, i2, ix, im⟩ | ⟨p', G, i1, i2, id, ix, im⟩
    · exact Or.inl ⟨pf, by omega, i2, fun Z0 zh w Q X S x => ⟨fun i e => (nomatch e), fun _ => qx Z0 zh w _ X S (fun r w2 S2 ci fs g1 g2 g3 g4 g5 g6 => ⟨_, ix Z0 zh _ (Nat.le_refl _) w w2 Q X (r, ci, fs, f2) S2 none _ (StT.start g1 g3 g4 g5 g6) g2 x⟩)⟩, fun w Q S x => ⟨fun _ => qm w _ S (fun w' g1 g2 => ⟨_, im _ (Nat.le_refl _) w' Q _ g2 (fun v w'' zv y1 y2 => x v w'' zv (g1.trans y1) y2)⟩), fun e => absurd rfl e⟩⟩
    · refine Or.inr ⟨p', fun e => mf true (f2 e) G e, by omega, i2, fun e e' he => ?_, fun Z0 zh w Q X S x => ⟨fun i e => (nomatch e), fun _ => qx Z0 zh w _ X S (fun r w2 S2 ci fs g1 g2 g3 g4 g5 g6 => ⟨_, ix Z0 zh _ (Nat.le_refl _) w w2 Q X (r, ci, fs, f2) S2 none _ (StT.start g1 g3 g4 g5 g6) g2 (fun r' w' Sf ci' fs' y1 y2 y3 y4 y5 y6 => x r' w' Sf ci' fs' y1 y2 y3 y4 y5 ?_)⟩)⟩, fun w Q S x => ⟨fun _ => qm w _ S (fun w' g1 g2 => ⟨_, im _ (Nat.le_refl _) w' Q _ g2 (fun w'' y1 y2 => ?_)⟩), fun e => absurd rfl e⟩⟩
      · show mf true (f2 e) G e = mf true (f2 e') G e'
        rw [qd e e' he]
        exact mf_dep true he G _ id
      · have e : (fun e => sev true (mns [(r, ci, fs, f2)] ++ G) e) = (fun e => mf true (f2 e) G e) := by
          funext e
          exact sev_1 true f2 G e
        rw [e] at y6
        exact y6
      · have := x w'' (g1.trans y1) y2
        rw [show gA w' 64 = gA w 64 by rw [g1.2.1]]
        exact this
theorem bo_condN (B : TB t n) (hu : ∀ p, 0 ≤ p → p ≤ n → BoT t n K PuX PuM p d) : ∀ p, 0 ≤ p → p ≤ n → BoT t n (K + 2) (wp_X1_condition PuX none) (wp_X3_condition PuM (iz 0) (iz 0)) p d := by
  intro p h0 h1
  have b2 := B.2.1
  have hp := bo_partN B hu
  rcases hp p h0 h1 with ⟨pf, q1, q2, qx, qm⟩ | ⟨p2, f2, q1, q2, qd, qx, qm⟩
  · exact Or.inl ⟨pf, q1, q2, fun Z0 zh w Q X S x => qx Z0 zh w _ X S x, fun w Q S x => qm w _ S (fun v w' zv g1 g2 => ⟨1, flt7 b2 (by omega) q2 zv g2 (x v w' zv g1 g2)⟩)⟩
  · rcases lo_condition (d := d) B hp (n - p2).toNat p2 (Nat.le_refl _) (by omega) q2 with ⟨pf, i1, i2, ix, im⟩ | ⟨p', G, i1, i2, id, ix, im⟩
    · exact Or.inl ⟨pf, by omega, i2, fun Z0 zh w Q X S x => qx Z0 zh w _ X S (fun r w2 S2 ci fs g1 g2 g3 g4 g5 g6 => ⟨_, ix Z0 zh _ (Nat.le_refl _) w w2 Q X (r, ci, fs, f2) S2 none _ (StT.start g1 g3 g4 g5 g6) g2 x⟩), fun w Q S x => qm w _ S (fun w' g1 g2 => ⟨_, im _ (Nat.le_refl _) w' Q _ g2 (fun v w'' zv y1 y2 => x v w'' zv (g1.trans y1) y2)⟩)⟩
    · refine Or.inr ⟨p', fun e => mf false (f2 e) G e, by omega, i2, fun e e' he => ?_, fun Z0 zh w Q X S x => qx Z0 zh w _ X S (fun r w2 S2 ci fs g1 g2 g3 g4 g5 g6 => ⟨_, ix Z0 zh _ (Nat.le_refl _) w w2 Q X (r, ci, fs, f2) S2 none _ (StT.start g1 g3 g4 g5 g6) g2 (fun r' w' Sf ci' fs' y1 y2 y3 y4 y5 y6 => x r' w' Sf ci' fs' y1 y2 y3 y4 y5 ?_)⟩), fun w Q S x => qm w _ S (fun w' g1 g2 => ⟨_, im _ (Nat.le_refl _) w' Q _ g2 (fun w'' y1 y2 => ?_)⟩)⟩
      · show mf false (f2 e) G e = mf false (f2 e') G e'
        rw [qd e e' he]
        exact mf_dep false he G _ id
      · have e : (fun e => sev false (mns [(r, ci, fs, f2)] ++ G) e) = (fun e => mf false (f2 e) G e) := by
          funext e
          exact sev_1 false f2 G e
        rw [e] at y6
        exact y6
      · have := x w'' (g1.trans y1) y2
        rw [show gA w' 64 = gA w 64 by rw [g1.2.1]]
        exact this
/-- a test whose first sum is read -/
def BoF (t : Int → Int) (n : Int) (K : Nat) (PX : Nat → Wd → (Nat → Wd → Prop) → (Wd → Prop) → Prop) (PM : Int32 → Wd → (Int32 → Wd → Prop) → Prop) (p d : Int) : Prop :=
    (∃ pf, p ≤ pf ∧ pf ≤ n ∧ (∀ (Z0 : Int), Z0 + 600 ≤ 600000 → ∀ (w0 w : Wd) (Q : Nat → Wd → Prop) (X : Wd → Prop) (s0 : Nat) (f0 : En → Int32) (S0 : Nat → Prop), XF w0 w → (∀ q, S0 q → gF w0 q = none) → DenS 15 S0 w s0 f0 → XS t n Z0 p d w → (∀ w', XF w0 w' → gI w' 13 = iz pf → (gZ w' : Int) ≤ Z0 + 2 * pf → X w') → PX s0 w Q X) ∧ (∀ (w : Wd) (Q : Int32 → Wd → Prop) (v : Int32), MS0 t n p d w → (∀ v w', zok v → MF w w' → gI w' 71 = iz pf → Q v w') → PM v w Q)) ∨
    (∃ (p' : Int) (h : Int32 → En → Bool), p < p' ∧ p' ≤ n ∧ (∀ v : Int32, Dep (fun e => h v e)) ∧ (∀ (Z0 : Int), Z0 + 600 ≤ 600000 → ∀ (w0 w : Wd) (Q : Nat → Wd → Prop) (X : Wd → Prop) (s0 : Nat) (f0 : En → Int32) (S0 : Nat → Prop), XF w0 w → (∀ q, S0 q → gF w0 q = none) → DenS 15 S0 w s0 f0 → XS t n Z0 p d w → (∀ (r : Nat) (w' : Wd) (S : Nat → Prop) (ci : Nat) (fs : List Value), XF w0 w' → XS t n Z0 p' d w' → gF w0 r = none → gF w' r = some (ci, rv none :: fs) → (∀ q, S q → gF w0 q = none) → DenT K S w' r ci fs (fun e => h (f0 e) e) → Q r w') → PX s0 w Q X) ∧ (∀ (w : Wd) (Q : Int32 → Wd → Prop) (v : Int32), MS0 t n p d w → (∀ w', MF w w' → MS0 t n p' d w' → Q (bz (h v (gA w 64))) w') → PM v w Q))
theorem bo_partF (B : TB t n) (hK : 1 ≤ K) (d0 : 0 ≤ d) (d6 : d ≤ 6) (hu : ∀ p, 0 ≤ p → p ≤ n → BoT t n K PuX PuM p d) : ∀ p, 0 ≤ p → p ≤ n → BoF t n (K + 1) (fun s => wp_X1_part PuX (some s)) (fun v => wp_X3_part PuM (iz 1) v) p d := by
  intro p h0 h1
  have b2 := B.2.1
  have mx : ∀ (v : Int32) (w : Wd) (Q : Int32 → Wd → Prop), b_X3_compares_12 (fun r4 w5 => ∃ n6, lp_X3_part_18 PuM Q n6 r4 w5) v w → wp_X3_part PuM (iz 1) v w Q := fun v w Q h => ⟨fun e => absurd e (by decide), fun _ => ⟨fun e => absurd e (by decide), fun _ => h⟩⟩
  have xx : ∀ (s : Nat) (w : Wd) (Q : Nat → Wd → Prop) (X : Wd → Prop), wp_X1_compare (some s) w (fun r2 w3 => ∃ n4, lp_X1_part_19 PuX Q X (some r2) n4 none w3) X → wp_X1_part PuX (some s) w Q X := fun s w Q X h => ⟨fun i e => h, fun e => (nomatch e)⟩
  rcases bo_cmp (d := d) B h0 h1 d0 d6 with ⟨pf, q1, q2, qx, qm⟩ | ⟨p2, sg, f2, q1, q2, qd, qx, qm⟩
  · exact Or.inl ⟨pf, q1, q2, fun Z0 zh w0 w Q X s0 f0 S0 f hS0 D0 S x => xx s0 w Q X (qx Z0 zh w0 w _ X s0 f S x), fun w Q v S x => mx v w Q (qm w _ v S (fun v w' zv g1 g2 => ⟨1, flt18 b2 (by omega) q2 zv g2 (x v w' zv g1 g2)⟩))⟩
  · rcases lo_part (d := d) B hu (n - p2).toNat p2 (Nat.le_refl _) (by omega) q2 with ⟨pf, i1, i2, ix, im⟩ | ⟨p', G, i1, i2, id, ix, im⟩
    · exact Or.inl ⟨pf, by omega, i2, fun Z0 zh w0 w Q X s0 f0 S0 f hS0 D0 S x => xx s0 w Q X (qx Z0 zh w0 w _ X s0 f0 S0 f hS0 D0 S (fun r w2 S2 ci fs g1 g2 g3 g4 g5 g6 => ⟨_, ix Z0 zh _ (Nat.le_refl _) w0 w2 Q X (r, ci, fs, _) S2 none _ (StT.start g1 g3 g4 g5 (g6.up hK)) g2 x⟩)), fun w Q v S x => mx v w Q (qm w _ v S (fun w' g1 g2 => ⟨_, im _ (Nat.le_refl _) w' Q _ g2 (fun v w'' zv y1 y2 => x v w'' zv (g1.trans y1) y2)⟩))⟩
    · refine Or.inr ⟨p', fun v e => mf true (cmpB sg v (f2 e)) G e, by omega, i2, fun v e e' he => ?_, fun Z0 zh w0 w Q X s0 f0 S0 f hS0 D0 S x => xx s0 w Q X (qx Z0 zh w0 w _ X s0 f0 S0 f hS0 D0 S (fun r w2 S2 ci fs g1 g2 g3 g4 g5 g6 => ⟨_, ix Z0 zh _ (Nat.le_refl _) w0 w2 Q X (r, ci, fs, _) S2 none _ (StT.start g1 g3 g4 g5 (g6.up hK)) g2 (fun r' w' Sf ci' fs' y1 y2 y3 y4 y5 y6 => x r' w' Sf ci' fs' y1 y2 y3 y4 y5 ?_)⟩)), fun w Q v S x => mx v w Q (qm w _ v S (fun w' g1 g2 => ⟨_, im _ (Nat.le_refl _) w' Q _ g2 (fun w'' y1 y2 => ?_)⟩))⟩
      · show mf true (cmpB sg v (f2 e)) G e = mf true (cmpB sg v (f2 e')) G e'
        rw [qd e e' he]
        exact mf_dep true he G _ id
      · have e : (fun e => sev true (mns [(r, ci, fs, fun e => cmpB sg (f0 e) (f2 e))] ++ G) e) = (fun e => mf true (cmpB sg (f0 e) (f2 e)) G e) := by
          funext e
          exact sev_1 true (fun e => cmpB sg (f0 e) (f2 e)) G e
        rw [e] at y6
        exact y6
      · have := x w'' (g1.trans y1) y2
        rw [show gA w' 64 = gA w 64 by rw [g1.2.1]]
        exact this
theorem bo_condF (B : TB t n) (hK : 1 ≤ K) (d0 : 0 ≤ d) (d6 : d ≤ 6) (hu : ∀ p, 0 ≤ p → p ≤ n → BoT t n K PuX PuM p d) : ∀ p, 0 ≤ p → p ≤ n → BoF t n (K + 2) (fun s => wp_X1_condition PuX (some s)) (fun v => wp_X3_condition PuM (iz 1) v) p d := by
  intro p h0 h1
  have b2 := B.2.1
  have hp := bo_partN B hu
  rcases bo_partF B hK d0 d6 hu p h0 h1 with ⟨pf, q1, q2, qx, qm⟩ | ⟨p2, h2, q1, q2, qd, qx, qm⟩
  · exact Or.inl ⟨pf, q1, q2, fun Z0 zh w0 w Q X s0 f0 S0 f hS0 D0 S x => qx Z0 zh w0 w _ X s0 f0 S0 f hS0 D0 S x, fun w Q v S x => qm w _ v S (fun v w' zv g1 g2 => ⟨1, flt7 b2 (by omega) q2 zv g2 (x v w' zv g1 g2)⟩)⟩
  · rcases lo_condition (d := d) B hp (n - p2).toNat p2 (Nat.le_refl _) (by omega) q2 with ⟨pf, i1, i2, ix, im⟩ | ⟨p', G, i1, i2, id, ix, im⟩
    · exact Or.inl ⟨pf, by omega, i2, fun Z0 zh w0 w Q X s0 f0 S0 f hS0 D0 S x => qx Z0 zh w0 w _ X s0 f0 S0 f hS0 D0 S (fun r w2 S2 ci fs g1 g2 g3 g4 g5 g6 => ⟨_, ix Z0 zh _ (Nat.le_refl _) w0 w2 Q X (r, ci, fs, _) S2 none _ (StT.start g1 g3 g4 g5 g6) g2 x⟩), fun w Q v S x => qm w _ v S (fun w' g1 g2 => ⟨_, im _ (Nat.le_refl _) w' Q _ g2 (fun v w'' zv y1 y2 => x v w'' zv (g1.trans y1) y2)⟩)⟩
    · refine Or.inr ⟨p', fun v e => mf false (h2 v e) G e, by omega, i2, fun v e e' he => ?_, fun Z0 zh w0 w Q X s0 f0 S0 f hS0 D0 S x => qx Z0 zh w0 w _ X s0 f0 S0 f hS0 D0 S (fun r w2 S2 ci fs g1 g2 g3 g4 g5 g6 => ⟨_, ix Z0 zh _ (Nat.le_refl _) w0 w2 Q X (r, ci, fs, _) S2 none _ (StT.start g1 g3 g4 g5 g6) g2 (fun r' w' Sf ci' fs' y1 y2 y3 y4 y5 y6 => x r' w' Sf ci' fs' y1 y2 y3 y4 y5 ?_)⟩), fun w Q v S x => qm w _ v S (fun w' g1 g2 => ⟨_, im _ (Nat.le_refl _) w' Q _ g2 (fun w'' y1 y2 => ?_)⟩)⟩
      · show mf false (h2 v e) G e = mf false (h2 v e') G e'
        rw [show h2 v e = h2 v e' from qd v e e' he]
        exact mf_dep false he G _ id
      · have e : (fun e => sev false (mns [(r, ci, fs, fun e => h2 (f0 e) e)] ++ G) e) = (fun e => mf false (h2 (f0 e) e) G e) := by
          funext e
          exact sev_1 false (fun e => h2 (f0 e) e) G e
        rw [e] at y6
        exact y6
      · have := x w'' (g1.trans y1) y2
        rw [show gA w' 64 = gA w 64 by rw [g1.2.1]]
        exact this
theorem x_opens {Q : Wd → Prop} {X : Wd → Prop} {Z0 : Int} {w : Wd} (S : XS t n Z0 p d w) (d0 : 0 ≤ d) (d6 : d ≤ 6) (p0 : 0 ≤ p) (p1 : p ≤ 240) (q : d < 6 → Q (sI (sI w 14 (iz (d + 1))) 13 (iz (p + 1)))) (g : d = 6 → X w) : wp_X1_opens w Q X := by
  unfold wp_X1_opens
  rw [S.2.2.2.1]
  refine br (iz_le (by decide) (by decide) (by omega) (by omega)) (fun e => ⟨fun e => absurd rfl e, fun _ => g (by omega)⟩) (fun e => u1 ?_)
  rintro w3 rfl w4 rfl
  have e13 : ∀ v, gI (sI w 14 v) 13 = iz p := fun v => by rw [gI_sI, if_neg (by decide)]; exact S.2.2.1
  rw [e13, S.2.2.2.1, iz_add, iz_add]
  exact q (by omega)
theorem m_goesIn {Q : Int32 → Wd → Prop} {w : Wd} (S : MS0 t n p d w) (d0 : 0 ≤ d) (d6 : d ≤ 6) (q : d < 6 → Q (iz 1) (sI (sI w 72 (iz (d + 1))) 70 (iz (p + 1)))) (g : d = 6 → Q (iz 0) (sI w 71 (iz p))) : wp_X3_goesIn w Q := by
  unfold wp_X3_goesIn
  rw [S.2.2.2.1]
  refine brn (iz_eq (by omega) (by omega) (by decide) (by decide)) (fun e => ?_) (fun e => m_fails S.2.2.2.2 ⟨zok0, ?_⟩)
  · rintro w3 rfl w4 rfl
    have e70 : ∀ v, gI (sI w 72 v) 70 = iz p := fun v => by rw [gI_sI, if_neg (by decide)]; exact S.2.2.1
    rw [e70, iz_add, iz_add]
    exact q (by omega)
  · rw [S.2.2.1]
    exact g e
theorem bo_unit (B : TB t n) (hK : 1 ≤ K) (d0 : 0 ≤ d) (d6 : d ≤ 6) (hs : d < 6 → ∀ p, 0 ≤ p → p ≤ n → BoT t n K PuX PuM p (d + 1)) : ∀ p, 0 ≤ p → p ≤ n → BoT t n (K + 2) (wp_X1_unit PuX) (wp_X3_unit PuM) p d := by
  intro p h0 h1
  have b1 := B.1; have b2 := B.2.1
  obtain ⟨k1, k2⟩ := sk_bd t h1
  generalize hp : sk t n p = p1 at k1 k2
  have cb := lkc_bd (t := t) (n := n) p1
  generalize hc : lkc t n p1 = c at cb
  by_cases c33 : c = 33
  · subst c33
    have pin := lkc_in hc (by decide)
    have hx : ∀ (Z0 : Int) (w : Wd) (Q : Nat → Wd → Prop) (X : Wd → Prop), XS t n Z0 p d w → (d < 6 → PuX (sI (sI (sI w 13 (iz p1)) 14 (iz (d + 1))) 13 (iz (p1 + 1))) (fun r20 w21 => ∀ w22, w22 = sI w21 14 ((gI w21 14) - (iz 1)) → gZ w22 + 1 ≤ CM ∧ (∀ r23, 200 ≤ r23 → gF w22 r23 = none → ∀ w24, w24 = sZ (sF w22 r23 (7, [.null, .null])) (gZ w22 + 1) → wp_X11_init r23 (some r20) w24 (fun w26 => Q r23 w26))) X) → (d = 6 → X (sI w 13 (iz p1))) → wp_X1_unit PuX w Q X := by
      intro Z0 w Q X S q g
      unfold wp_X1_unit
      exact x_look' B S h0 h1 hp hc ⟨fun e => absurd rfl e, fun _ => x_opens (S.at k1) d0 d6 (by omega) (by omega) q g⟩
    have hm : ∀ (w : Wd) (Q : Int32 → Wd → Prop), MS0 t n p d w → (d < 6 → PuM (sI (sI (sI w 70 (iz p1)) 72 (iz (d + 1))) 70 (iz (p1 + 1))) (fun r14 w15 => ∀ w16, w16 = sI w15 72 ((gI w15 72) - (iz 1)) → (¬ r14 = iz 0 → Q (iz 0) w16) ∧ (r14 = iz 0 → Q (iz 1) w16))) → (d = 6 → Q (iz 0) (sI (sI w 70 (iz p1)) 71 (iz p1))) → wp_X3_unit PuM w Q := by
      intro w Q S q g
      unfold wp_X3_unit
      exact m_look' B S h0 h1 hp hc ⟨fun e => absurd rfl e, fun _ => m_goesIn (S.at p1) d0 d6 (fun e => u1 (q e)) (fun e => u0 (g e))⟩
    by_cases dd : d = 6
    · refine Or.inl ⟨p1, k1, k2, fun Z0 zh w Q X S x => hx Z0 w Q X S (fun e => by omega) (fun _ => x _ (XF.i13 w _) (S.at k1).2.2.1 (S.at k1).z), fun w Q S x => hm w Q S (fun e => by omega) (fun _ => x _ _ zok0 ((MF.i70 w _).trans (MF.i71 _ _)) (by rw [gI_sI, if_pos rfl]))⟩
    · rcases hs (by omega) (p1 + 1) (by omega) (by omega) with ⟨pf, q1, q2, qx, qm⟩ | ⟨p', f, q1, q2, qd, qx, qm⟩
      · refine Or.inl ⟨pf, by omega, q2, fun Z0 zh w Q X S x => hx Z0 w Q X S (fun _ => qx Z0 zh _ _ X ((S.at k1).mv (by omega)) (fun w' g1 g2 g3 => x w' ((((XF.i13 w _).trans (XF.i14 _ _)).trans (XF.i13 _ _)).trans g1) g2 g3)) (fun e => absurd e dd), fun w Q S x => hm w Q S (fun _ => qm _ _ (((S.at p1).dp (d + 1)).at (p1 + 1)) (fun v w' zv g1 g2 => ?_)) (fun e => absurd e dd)⟩
        rintro w16 rfl
        have g3 : MF w (sI w' 72 (gI w' 72 - iz 1)) := ((((MF.i70 w _).trans (MF.i72 _ _)).trans (MF.i70 _ _)).trans g1).trans (MF.i72 _ _)
        have g4 : gI (sI w' 72 (gI w' 72 - iz 1)) 71 = iz pf := by rw [gI_sI, if_neg (by decide)]; exact g2
        exact ⟨fun _ => x _ _ zok0 g3 g4, fun _ => x _ _ zok1 g3 g4⟩
      · refine Or.inr ⟨p', fun e => !f e, by omega, q2, fun e e' he => by show (!f e) = !f e'; rw [qd e e' he], fun Z0 zh w Q X S x => hx Z0 w Q X S (fun _ => qx (Z0 - 1) (by omega) _ _ X (((S.at k1).mv (p' := p1 + 1) (d' := d + 1) (by omega)).lower ?_) (fun r w' Sf ci fs g1 g2 g3 g4 g5 g6 => ?_)) (fun e => absurd e dd), fun w Q S x => hm w Q S (fun _ => qm _ _ (((S.at p1).dp (d + 1)).at (p1 + 1)) (fun w' g1 g2 => ?_)) (fun e => absurd e dd)⟩
        · have z0 := S.z
          show (gZ w : Int) ≤ _
          omega
        · rintro w22 rfl
          have e14 := g2.2.2.2.1
          have z2 := g2.z
          rw [e14, iz_sub, show d + 1 - 1 = d by omega]
          have g0 : XF w w' := (((XF.i13 w _).trans (XF.i14 _ _)).trans (XF.i13 _ _)).trans g1
          have g7 : XF w (sI w' 14 (iz d)) := g0.trans (XF.i14 _ _)
          refine ⟨by show gZ w' + 1 ≤ 600000; omega, fun r2 hr hn => ?_⟩
          rintro w24 rfl
          refine ⟨_, by rw [gF_sZ, gF_sF, if_pos rfl], by simp, ?_⟩
          rintro w26 rfl
          have hn' : gF w' r2 = none := hn
          have h00 := g7.fresh hn
          have nr : r ≠ r2 := fun z => by rw [z, hn'] at g4; exact nomatch g4
          have keep : ∀ q, q ≠ r2 → ∀ v1 v2, gF (sF (sZ (sF (sI w' 14 (iz d)) r2 v1) (gZ (sI w' 14 (iz d)) + 1)) r2 v2) q = gF w' q := fun q hq v1 v2 => by
            rw [gF_sF, if_neg hq, gF_sZ, gF_sF, if_neg hq]
            rfl
          have nS : ∀ q, Sf q → q ≠ r2 := fun q hq z => by
            have := g6.2.1 q hq
            rw [z] at this
            exact this hn'
          obtain ⟨s1, s2, s3, s4, s5⟩ := g2
          refine x r2 _ (fun q => Sf q ∨ q = r) 7 [rv (some r)] (((g7.sF h00 _).sZ (Nat.le_succ _)).sF h00 _) ⟨?_, s2, ?_, ?_, ?_⟩ h00 ?_ (fun q hq => ?_) ⟨Or.inl rfl, fun q hq => ?_, fun z => ?_, fun w2 nx h2 hr2 k hk Q' q' => ?_⟩
          · show gI (sI w' 14 (iz d)) 12 = _
            rw [gI_sI, if_neg (by decide)]
            exact s1
          · show gI (sI w' 14 (iz d)) 13 = _
            rw [gI_sI, if_neg (by decide)]
            exact s3
          · show gI (sI w' 14 (iz d)) 14 = _
            rw [gI_sI, if_pos rfl]
          · show ((gZ w' + 1 : Nat) : Int) ≤ _
            omega
          · rw [gF_sF, if_pos rfl]
            rfl
          · rcases hq with hq | rfl
            · exact g5 q hq
            · exact g3
          · rcases hq with hq | rfl
            · rw [keep q (nS q hq)]
              exact g6.2.1 q hq
            · rw [keep q nr, g4]
              exact fun z => (nomatch z)
          · rcases z with z | z
            · exact nS r2 z rfl
            · exact nr z.symm
          · obtain ⟨k, rfl⟩ : ∃ j, k = j + 1 := ⟨k - 1, by omega⟩
            have er : gF w2 r = some (ci, rv none :: fs) := by rw [h2 r (Or.inr rfl), keep r nr, g4]
            refine Or.inl ⟨_, hr2, some r, ⟨_, hr2, rfl⟩, r, rfl, g6.2.2.2 w2 none (fun q hq => by rw [h2 q (Or.inl hq), keep q (nS q hq)]) er k (by omega) _ ?_⟩
            have q' : Q' (bz (!f (gA w2 15))) w2 := q'
            cases hb : f (gA w2 15)
            · rw [hb] at q'
              exact ⟨fun e => absurd rfl e, fun _ => q'⟩
            · rw [hb] at q'
              exact ⟨fun _ => q', fun e => absurd e (by decide)⟩
        · rintro w16 rfl
          rw [g2.2.2.2.1, iz_sub, show d + 1 - 1 = d by omega]
          have g3 : MF w (sI w' 72 (iz d)) := ((((MF.i70 w _).trans (MF.i72 _ _)).trans (MF.i70 _ _)).trans g1).trans (MF.i72 _ _)
          have x' := x _ g3 (g2.dp d)
          have e64 : gA (sI (sI (sI w 70 (iz p1)) 72 (iz (d + 1))) 70 (iz (p1 + 1))) 64 = gA w 64 := rfl
          rw [e64]
          have x' : Q (bz (!f (gA w 64))) (sI w' 72 (iz d)) := x'
          cases hb : f (gA w 64)
          · rw [hb] at x'
            exact ⟨fun e => absurd rfl e, fun _ => x'⟩
          · rw [hb] at x'
            exact ⟨fun _ => x', fun e => absurd e (by decide)⟩
  · by_cases c40 : c = 40
    · subst c40
      have pin := lkc_in hc (by decide)
      have hx : ∀ (Z0 : Int) (w : Wd) (Q : Nat → Wd → Prop) (X : Wd → Prop), XS t n Z0 p d w → (d < 6 → wp_X1_condition PuX none (sI (sI (sI w 13 (iz p1)) 14 (iz (d + 1))) 13 (iz (p1 + 1))) (fun r11 w12 => wp_X1_closes (iz 41) w12 (fun w14 => Q r11 w14) X) X) → (d = 6 → X (sI w 13 (iz p1))) → wp_X1_unit PuX w Q X := by
        intro Z0 w Q X S q g
        unfold wp_X1_unit
        exact x_look' B S h0 h1 hp hc ⟨fun _ => ⟨fun e => absurd rfl e, fun _ => x_opens (S.at k1) d0 d6 (by omega) (by omega) q g⟩, fun e => absurd e (by decide)⟩
      have hm : ∀ (w : Wd) (Q : Int32 → Wd → Prop), MS0 t n p d w → (d < 6 → wp_X3_condition PuM (iz 0) (iz 0) (sI (sI (sI w 70 (iz p1)) 72 (iz (d + 1))) 70 (iz (p1 + 1))) (fun r7 w8 => wp_X3_takes (iz 41) w8 (fun r9 w10 => (¬ r9 = iz 0 → ∀ w11, w11 = sI w10 72 ((gI w10 72) - (iz 1)) → zok r7 ∧ Q r7 w11) ∧ (r9 = iz 0 → Q (iz 0) w10)))) → (d = 6 → Q (iz 0) (sI (sI w 70 (iz p1)) 71 (iz p1))) → wp_X3_unit PuM w Q := by
        intro w Q S q g
        unfold wp_X3_unit
        exact m_look' B S h0 h1 hp hc ⟨fun _ => ⟨fun e => absurd rfl e, fun _ => m_goesIn (S.at p1) d0 d6 (fun e => u1 (q e)) (fun e => u0 (g e))⟩, fun e => absurd e (by decide)⟩
      by_cases dd : d = 6
      · refine Or.inl ⟨p1, k1, k2, fun Z0 zh w Q X S x => hx Z0 w Q X S (fun e => by omega) (fun _ => x _ (XF.i13 w _) (S.at k1).2.2.1 (S.at k1).z), fun w Q S x => hm w Q S (fun e => by omega) (fun _ => x _ _ zok0 ((MF.i70 w _).trans (MF.i71 _ _)) (by rw [gI_sI, if_pos rfl]))⟩
      · rcases bo_condN B (hs (by omega)) (p1 + 1) (by omega) (by omega) with ⟨pf, q1, q2, qx, qm⟩ | ⟨p2, f, q1, q2, qd, qx, qm⟩
        · refine Or.inl ⟨pf, by omega, q2, fun Z0 zh w Q X S x => hx Z0 w Q X S (fun _ => qx Z0 zh _ _ X ((S.at k1).mv (by omega)) (fun w' g1 g2 g3 => x w' ((((XF.i13 w _).trans (XF.i14 _ _)).trans (XF.i13 _ _)).trans g1) g2 g3)) (fun e => absurd e dd), fun w Q S x => hm w Q S (fun _ => qm _ _ (((S.at p1).dp (d + 1)).at (p1 + 1)) (fun v w' zv g1 g2 => ?_)) (fun e => absurd e dd)⟩
          unfold wp_X3_takes
          rw [g2]
          exact brn (iz_eq (by omega) (by omega) (by decide) (by decide)) (fun _ => m_fails2 (v := pf) (by omega) g2 ⟨zok0, u0 (x _ _ zok0 ((((MF.i70 w _).trans (MF.i72 _ _)).trans (MF.i70 _ _)).trans g1) g2)⟩) (fun e => by omega)
        · obtain ⟨k3, k4⟩ := sk_bd t q2
          generalize hp3 : sk t n p2 = p3 at k3 k4
          have cb3 := lkc_bd (t := t) (n := n) p3
          generalize hc3 : lkc t n p3 = c3 at cb3
          by_cases c41 : c3 = 41
          · subst c41
            have pin3 := lkc_in hc3 (by decide)
            refine Or.inr ⟨p3 + 1, f, by omega, by omega, qd, fun Z0 zh w Q X S x => hx Z0 w Q X S (fun _ => qx Z0 zh _ _ X ((S.at k1).mv (by omega)) (fun r w' Sf ci fs g1 g2 g3 g4 g5 g6 => ?_)) (fun e => absurd e dd), fun w Q S x => hm w Q S (fun _ => qm _ _ (((S.at p1).dp (d + 1)).at (p1 + 1)) (fun w' g1 g2 => ?_)) (fun e => absurd e dd)⟩
            · refine x_look' B g2 (by omega) q2 hp3 hc3 ⟨fun e => absurd rfl e, fun _ => u1 ?_⟩
              have S3 := g2.at k3
              rintro w5 rfl w6 rfl
              have e14 : ∀ v, gI (sI (sI w' 13 (iz p3)) 13 v) 14 = iz (d + 1) := fun v => by rw [gI_sI, if_neg (by decide)]; exact S3.2.2.2.1
              rw [S3.2.2.1, e14, iz_add, iz_sub, show d + 1 - 1 = d by omega]
              have gg : XF w' (sI (sI (sI w' 13 (iz p3)) 13 (iz (p3 + 1))) 14 (iz d)) := ((XF.i13 _ _).trans (XF.i13 _ _)).trans (XF.i14 _ _)
              exact x r _ Sf ci fs (((((XF.i13 w _).trans (XF.i14 _ _)).trans (XF.i13 _ _)).trans g1).trans gg) (S3.mv2 (by omega)) g3 g4 g5 (g6.xf gg)
            · unfold wp_X3_takes
              rw [g2.2.2.2.2]
              refine ⟨fun e => absurd rfl e, fun _ => m_look' B g2 (by omega) q2 hp3 hc3 ⟨fun _ => ?_, fun e => absurd rfl e⟩⟩
              have S3 := g2.at p3
              rintro w5 rfl
              refine u1 ?_
              rintro w6 rfl
              have e72 : ∀ v, gI (sI (sI w' 70 (iz p3)) 70 v) 72 = iz (d + 1) := fun v => by rw [gI_sI, if_neg (by decide)]; exact S3.2.2.2.1
              rw [S3.2.2.1, e72, iz_add, iz_sub, show d + 1 - 1 = d by omega]
              exact ⟨zok_bz _, x _ (((((((MF.i70 w _).trans (MF.i72 _ _)).trans (MF.i70 _ _)).trans g1).trans (MF.i70 _ _)).trans (MF.i70 _ _)).trans (MF.i72 _ _)) ((S3.at (p3 + 1)).dp d)⟩
          · refine Or.inl ⟨p3, by omega, k4, fun Z0 zh w Q X S x => hx Z0 w Q X S (fun _ => qx Z0 zh _ _ X ((S.at k1).mv (by omega)) (fun r w' Sf ci fs g1 g2 g3 g4 g5 g6 => ?_)) (fun e => absurd e dd), fun w Q S x => hm w Q S (fun _ => qm _ _ (((S.at p1).dp (d + 1)).at (p1 + 1)) (fun w' g1 g2 => ?_)) (fun e => absurd e dd)⟩
            · have S3 := g2.at k3
              exact x_look' B g2 (by omega) q2 hp3 hc3 (brn (iz_eq (by omega) (by omega) (by decide) (by decide)) (fun _ => ⟨fun e => absurd rfl e, fun _ => x _ (((((XF.i13 w _).trans (XF.i14 _ _)).trans (XF.i13 _ _)).trans g1).trans (XF.i13 _ _)) S3.2.2.1 S3.z⟩) (fun e => absurd e c41))
            · unfold wp_X3_takes
              rw [g2.2.2.2.2]
              have S3 := g2.at p3
              refine ⟨fun e => absurd rfl e, fun _ => m_look' B g2 (by omega) q2 hp3 hc3 (br (iz_eq (by omega) (by omega) (by decide) (by decide)) (fun e => absurd e c41) (fun _ => m_fails S3.2.2.2.2 ⟨zok0, u0 (x _ _ zok0 ((((((MF.i70 w _).trans (MF.i72 _ _)).trans (MF.i70 _ _)).trans g1).trans (MF.i70 _ _)).trans (MF.i71 _ _)) ?_)⟩))⟩
              rw [gI_sI, if_pos rfl]
              exact S3.2.2.1
    · have hx : ∀ (Z0 : Int) (w : Wd) (Q : Nat → Wd → Prop) (X : Wd → Prop), XS t n Z0 p d w → pf_X1_sum 10 (sI w 13 (iz p1)) (fun r3 w4 => wp_X1_compare (some r3) w4 (fun r5 w6 => Q r5 w6) X) X → wp_X1_unit PuX w Q X := by
        intro Z0 w Q X S q
        unfold wp_X1_unit
        exact x_look' B S h0 h1 hp hc (brn (iz_eq (by omega) (by omega) (by decide) (by decide)) (fun _ => brn (iz_eq (by omega) (by omega) (by decide) (by decide)) (fun _ => q) (fun e => absurd e c40)) (fun e => absurd e c33))
      have hm : ∀ (w : Wd) (Q : Int32 → Wd → Prop), MS0 t n p d w → pf_X3_sum 10 (sI w 70 (iz p1)) (fun r1 w2 => b_X3_compares_12 (fun r3 w4 => zok r3 ∧ Q r3 w4) r1 w2) → wp_X3_unit PuM w Q := by
        intro w Q S q
        unfold wp_X3_unit
        exact m_look' B S h0 h1 hp hc (brn (iz_eq (by omega) (by omega) (by decide) (by decide)) (fun _ => brn (iz_eq (by omega) (by omega) (by decide) (by decide)) (fun _ => ⟨fun _ => q, fun e => absurd rfl e⟩) (fun e => absurd e c40)) (fun e => absurd e c33))
      have flt : ∀ (pf : Int), 0 ≤ pf → pf ≤ n → ∀ (v : Int32) (w3 : Wd) (Q : Int32 → Wd → Prop), gI w3 71 = iz pf → Q (iz 0) w3 → b_X3_compares_12 Q v w3 := by
        intro pf f0 f1 v w3 Q e q
        unfold b_X3_compares_12
        rw [e]
        exact br (iz_eq (by omega) (by omega) (by decide) (by decide)) (fun e2 => by omega) (fun _ => q)
      rcases bo_S (d := d) B (show 0 ≤ p1 by omega) k2 d0 d6 with ⟨pf, q1, q2, qx, qm⟩ | ⟨p2, f1, q1, q2, qd, qx, qm⟩
      · exact Or.inl ⟨pf, by omega, q2, fun Z0 zh w Q X S x => hx Z0 w Q X S (qx Z0 zh _ _ X (S.at k1) (fun w' g1 g2 g3 => x w' ((XF.i13 w _).trans g1) g2 g3)), fun w Q S x => hm w Q S (qm _ _ (S.at p1) (fun v w' g1 g2 => flt pf (by omega) q2 v w' _ g2 ⟨zok0, x _ _ zok0 ((MF.i70 w _).trans g1) g2⟩))⟩
      · rcases bo_cmp (d := d) B (show 0 ≤ p2 by omega) q2 d0 d6 with ⟨pf, i1, i2, ix, im⟩ | ⟨p', sg, f2, i1, i2, id, ix, im⟩
        · exact Or.inl ⟨pf, by omega, i2, fun Z0 zh w Q X S x => hx Z0 w Q X S (qx Z0 zh _ _ X (S.at k1) (fun r w' Sf g1 g2 g3 g4 => ix Z0 zh w w' _ X r ((XF.i13 w _).trans g1) g2 x)), fun w Q S x => hm w Q S (qm _ _ (S.at p1) (fun w' g1 g2 => im w' _ _ g2 (fun v w'' zv y1 y2 => ⟨zv, x v w'' zv (((MF.i70 w _).trans g1).trans y1) y2⟩)))⟩
        · refine Or.inr ⟨p', fun e => cmpB sg (f1 e) (f2 e), by omega, i2, fun e e' he => by show cmpB sg (f1 e) (f2 e) = cmpB sg (f1 e') (f2 e'); rw [qd e e' he, id e e' he], fun Z0 zh w Q X S x => hx Z0 w Q X S (qx Z0 zh _ _ X (S.at k1) (fun r w' Sf g1 g2 g3 g4 => ix Z0 zh w w' _ X r f1 Sf ((XF.i13 w _).trans g1) g3 g4 g2 (fun r' w'' S' ci fs y1 y2 y3 y4 y5 y6 => x r' w'' S' ci fs y1 y2 y3 y4 y5 (y6.up (by omega))))), fun w Q S x => hm w Q S (qm _ _ (S.at p1) (fun w' g1 g2 => im w' _ _ g2 (fun w'' y1 y2 => ⟨zok_bz _, ?_⟩)))⟩
          have := x w'' (((MF.i70 w _).trans g1).trans y1) y2
          rw [show gA w' 64 = gA w 64 by rw [g1.2.1]; rfl]
          exact this
end UN
theorem bo_us {t : Int → Int} {n : Int} (B : TB t n) : ∀ (j e : Nat), j ≤ 6 → j ≤ e → ∀ p, 0 ≤ p → p ≤ n → BoT t n (3 + 2 * j) (pf_X1_unit (e + 1)) (pf_X3_unit (e + 1)) p (6 - j) := by
  intro j
  induction j with
  | zero =>
    intro e _ _
    exact bo_unit (K := 1) (PuX := pf_X1_unit e) (PuM := pf_X3_unit e) B (Nat.le_refl _) (by decide) (by decide) (fun h => absurd h (by decide))
  | succ j ih =>
    intro e h6 he
    obtain ⟨e, rfl⟩ : ∃ i, e = i + 1 := ⟨e - 1, by omega⟩
    have hs := ih e (by omega) (by omega)
    exact bo_unit (K := 3 + 2 * j) (PuX := pf_X1_unit (e + 1)) (PuM := pf_X3_unit (e + 1)) B (by omega) (by omega) (by omega) (fun _ p a b => by
      have := hs p a b
      rwa [show (6 : Int) - (j : Int) = 6 - ((j + 1 : Nat) : Int) + 1 by omega] at this)
theorem bo_U {t : Int → Int} {n p : Int} (B : TB t n) (h0 : 0 ≤ p) (h1 : p ≤ n) : BoT t n 15 (pf_X1_unit 10) (pf_X3_unit 10) p 0 := bo_us B 6 9 (by decide) (by decide) p h0 h1
