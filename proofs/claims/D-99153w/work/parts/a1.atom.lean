/-! sums: what a node means; an atom, read on both sides -/
abbrev En : Type := Int → Int32
theorem gF_sF (w : Wd) (r : Nat) (v : Nat × List Value) (q : Nat) : gF (sF w r v) q = if q = r then some v else gF w q := rfl
theorem gF_sZ (w : Wd) (z : Nat) : gF (sZ w z) = gF w := rfl
theorem gZ_sZ (w : Wd) (z : Nat) : gZ (sZ w z) = z := rfl
theorem gZ_sF (w : Wd) (r : Nat) (v : Nat × List Value) : gZ (sF w r v) = gZ w := rfl
theorem XF.sF {w0 w : Wd} (f : XF w0 w) {r : Nat} (h : gF w0 r = none) (v : Nat × List Value) : XF w0 (sF w r v) := by
  obtain ⟨f1, f2, f3, f4, f5, f6, f7⟩ := f
  refine ⟨f1, f2, f3, f4, f5, fun q hq => ?_, f7⟩
  rw [gF_sF, if_neg (fun e => by rw [e] at hq; exact hq h)]
  exact f6 q hq
theorem XF.sZ {w0 w : Wd} (f : XF w0 w) {z : Nat} (h : gZ w ≤ z) : XF w0 (sZ w z) := by
  obtain ⟨f1, f2, f3, f4, f5, f6, f7⟩ := f
  exact ⟨f1, f2, f3, f4, f5, f6, Nat.le_trans f7 h⟩
theorem XF.fresh {w0 w : Wd} (f : XF w0 w) {r : Nat} (h : gF w r = none) : gF w0 r = none := by
  cases e : gF w0 r with
  | none => rfl
  | some v =>
    have := f.2.2.2.2.2.1 r (by rw [e]; exact fun x => nomatch x)
    rw [h, e] at this
    exact nomatch this
/-- the sum at r says f, whatever else may change -/
def DenS (K : Nat) (S : Nat → Prop) (w : Wd) (r : Nat) (f : En → Int32) : Prop := (∀ q, S q → gF w q ≠ none) ∧ ∀ (w' : Wd), (∀ q, S q → gF w' q = gF w q) → ∀ (k : Nat), K ≤ k → ∀ Q : Int32 → Wd → Prop, Q (f (gA w' 15)) w' → pf_val k r 15 w' Q
theorem DenS.on {K K' : Nat} {S S' : Nat → Prop} {w w' : Wd} {r : Nat} {f : En → Int32} (D : DenS K S w r f) (hK : K ≤ K') (hS : ∀ q, S q → S' q) (ha : ∀ q, S' q → gF w' q ≠ none) (he : ∀ q, S q → gF w' q = gF w q) : DenS K' S' w' r f :=
  ⟨ha, fun w2 h2 k hk Q q => D.2 w2 (fun x hx => by rw [h2 x (hS x hx), he x hx]) k (Nat.le_trans hK hk) Q q⟩
/-- f asks the six letters alone -/
def Dep {α : Type} (f : En → α) : Prop := ∀ e e' : En, (∀ c, 0 ≤ sIx 1 c → e c = e' c) → f e = f e'
def OkX (t : Int → Int) (n : Int) (K : Nat) (P : Wd → (Nat → Wd → Prop) → (Wd → Prop) → Prop) (p d p' : Int) (f : En → Int32) : Prop := ∀ (Z0 : Int), Z0 + 600 ≤ 600000 → ∀ (w : Wd) (Q : Nat → Wd → Prop) (X : Wd → Prop), XS t n Z0 p d w → (∀ (r : Nat) (w' : Wd) (S : Nat → Prop), XF w w' → XS t n Z0 p' d w' → (∀ q, S q → gF w q = none) → DenS K S w' r f → Q r w') → P w Q X
def FaX {α : Type} (t : Int → Int) (n : Int) (P : Wd → (α → Wd → Prop) → (Wd → Prop) → Prop) (p d pf : Int) : Prop := ∀ (Z0 : Int), Z0 + 600 ≤ 600000 → ∀ (w : Wd) (Q : α → Wd → Prop) (X : Wd → Prop), XS t n Z0 p d w → (∀ w', XF w w' → gI w' 13 = iz pf → (gZ w' : Int) ≤ Z0 + 2 * pf → X w') → P w Q X
def OkM (t : Int → Int) (n : Int) (P : Wd → (Int32 → Wd → Prop) → Prop) (p d p' : Int) (f : En → Int32) : Prop := ∀ (w : Wd) (Q : Int32 → Wd → Prop), MS0 t n p d w → (∀ w', MF w w' → MS0 t n p' d w' → Q (f (gA w 64)) w') → P w Q
def FaM (t : Int → Int) (n : Int) (P : Wd → (Int32 → Wd → Prop) → Prop) (p d pf : Int) : Prop := ∀ (w : Wd) (Q : Int32 → Wd → Prop), MS0 t n p d w → (∀ v w', MF w w' → gI w' 71 = iz pf → Q v w') → P w Q
/-- both sides read a sum at p alike -/
def BoS (t : Int → Int) (n : Int) (K : Nat) (PX : Wd → (Nat → Wd → Prop) → (Wd → Prop) → Prop) (PM : Wd → (Int32 → Wd → Prop) → Prop) (p d : Int) : Prop := (∃ pf, p ≤ pf ∧ pf ≤ n ∧ FaX t n PX p d pf ∧ FaM t n PM p d pf) ∨ (∃ p' f, p < p' ∧ p' ≤ n ∧ Dep f ∧ OkX t n K PX p d p' f ∧ OkM t n PM p d p' f)
section AT
variable {t : Int → Int} {n Z0 p d : Int} {w : Wd}
theorem XS.z (S : XS t n Z0 p d w) : (gZ w : Int) ≤ Z0 + 2 * p := S.2.2.2.2
/-- a new constant -/
def CN (v : Int32) (w : Wd) (Q : Nat → Wd → Prop) : Prop := gZ w + 1 ≤ CM ∧ (∀ r1, 200 ≤ r1 → gF w r1 = none → ∀ w2, w2 = sZ (sF w r1 (3, [.int 0])) (gZ w + 1) → wp_X6_init r1 v w2 (fun w4 => Q r1 w4))
theorem digits (B : TB t n) (d : Int) : ∀ (m : Nat) (k : Int) (v : Int32) (p : Int), k + m = 4 → 0 ≤ k → 0 ≤ p → p ≤ n →
    (∃ pf, p ≤ pf ∧ pf ≤ n ∧ (∀ (Z0 : Int) (w : Wd) (Ps : Wd → (Nat → Wd → Prop) → (Wd → Prop) → Prop) (Q : Nat → Wd → Prop) (X : Wd → Prop), XS t n Z0 p d w → X (sI w 13 (iz pf)) → ∃ nn, lp_X1_atom_72 Ps Q X nn v (iz k) w) ∧ (∀ (w : Wd) (Ps : Wd → (Int32 → Wd → Prop) → Prop) (Q : Int32 → Wd → Prop), MS0 t n p d w → Q (iz 0) (sI (sI w 70 (iz pf)) 71 (iz pf)) → ∃ nn, lp_X3_atom_90 Ps Q nn v (iz k) w)) ∨
    (∃ p' v', p ≤ p' ∧ p' ≤ n ∧ (p < n → 48 ≤ t p → t p ≤ 57 → p < p') ∧ (∀ (Z0 : Int) (w : Wd) (Ps : Wd → (Nat → Wd → Prop) → (Wd → Prop) → Prop) (Q : Nat → Wd → Prop) (X : Wd → Prop), XS t n Z0 p d w → CN v' (sI w 13 (iz p')) Q → ∃ nn, lp_X1_atom_72 Ps Q X nn v (iz k) w) ∧ (∀ (w : Wd) (Ps : Wd → (Int32 → Wd → Prop) → Prop) (Q : Int32 → Wd → Prop), MS0 t n p d w → Q v' (sI w 70 (iz p')) → ∃ nn, lp_X3_atom_90 Ps Q nn v (iz k) w)) := by
  have b1 := B.1; have b2 := B.2.1
  intro m
  induction m with
  | zero =>
    intro k v p hk k0 h0 h1
    obtain rfl : k = 4 := by omega
    by_cases dg : p < n ∧ 48 ≤ t p ∧ t p ≤ 57
    · refine Or.inl ⟨p, Int.le_refl _, h1, fun Z0 w Ps Q X S x => ⟨1, ?_⟩, fun w Ps Q S x => ⟨1, ?_⟩⟩
      · have tb := B.2.2 p
        obtain ⟨s1, s2, s3, s4, s5⟩ := S
        rw [← s3, sI_self] at x
        show wl_X1_atom_72 Ps Q X _ v (iz 4) w
        unfold wl_X1_atom_72
        rw [s1, s3]
        refine br (iz_le (by omega) (by omega) (by omega) (by omega)) (fun e => by omega) (fun e => ⟨iz_inb h0 (by omega) (by omega), ?_⟩)
        rw [iz_toInt (by omega) (by omega), s2 p h0 dg.1]
        refine x_isDigit (by omega) (fun _ _ => t1 ⟨fun _ => ?_, fun h => absurd (Int32.le_refl _) h⟩) (fun h => absurd dg.2 h)
        unfold b_X1_atom_109 wp_X1_need
        exact ⟨fun h => absurd rfl h, fun _ => x⟩
      · have e70 := S.2.2.1
        have e71 := S.2.2.2.2
        show wl_X3_atom_90 Ps Q _ v (iz 4) w
        unfold wl_X3_atom_90
        refine m_isDigit B S h0 h1 (fun _ _ _ => t1 ?_) (fun h => absurd dg h)
        rw [e71]
        refine ⟨fun h => absurd rfl h, fun _ => ⟨fun h => absurd rfl h, fun _ => m_fails e71 ?_⟩⟩
        rw [← e70, sI_self] at x
        exact x
    · refine Or.inr ⟨p, v, Int.le_refl _, h1, fun a b c => absurd ⟨a, b, c⟩ dg, fun Z0 w Ps Q X S x => ⟨1, ?_⟩, fun w Ps Q S x => ⟨1, ?_⟩⟩
      · have tb := B.2.2 p
        obtain ⟨s1, s2, s3, s4, s5⟩ := S
        rw [← s3, sI_self] at x
        show wl_X1_atom_72 Ps Q X _ v (iz 4) w
        unfold wl_X1_atom_72
        rw [s1, s3]
        refine br (iz_le (by omega) (by omega) (by omega) (by omega)) (fun e => x) (fun e => ⟨iz_inb h0 (by omega) (by omega), ?_⟩)
        rw [iz_toInt (by omega) (by omega), s2 p h0 (by omega)]
        exact x_isDigit (by omega) (fun a b => absurd ⟨by omega, a, b⟩ dg) (fun h => t0 x)
      · have e70 := S.2.2.1
        rw [← e70, sI_self] at x
        show wl_X3_atom_90 Ps Q _ v (iz 4) w
        unfold wl_X3_atom_90
        exact m_isDigit B S h0 h1 (fun a b c => absurd ⟨a, b, c⟩ dg) (fun h => t0 x)
  | succ m ih =>
    intro k v p hk k0 h0 h1
    by_cases dg : p < n ∧ 48 ≤ t p ∧ t p ≤ 57
    · have xs : ∀ (Z0 : Int) (w : Wd) (Ps : Wd → (Nat → Wd → Prop) → (Wd → Prop) → Prop) (Q : Nat → Wd → Prop) (X : Wd → Prop) (nn : Nat), XS t n Z0 p d w → lp_X1_atom_72 Ps Q X nn (((iz 10 * v) + iz (t p)) - iz 48) (iz (k + 1)) (sI w 13 (iz (p + 1))) → lp_X1_atom_72 Ps Q X (nn + 1) v (iz k) w := by
        intro Z0 w Ps Q X nn S x
        have tb := B.2.2 p
        obtain ⟨s1, s2, s3, s4, s5⟩ := S
        show wl_X1_atom_72 Ps Q X _ v (iz k) w
        unfold wl_X1_atom_72
        rw [s1, s3]
        refine br (iz_le (by omega) (by omega) (by omega) (by omega)) (fun e => by omega) (fun e => ⟨iz_inb h0 (by omega) (by omega), ?_⟩)
        rw [iz_toInt (by omega) (by omega), s2 p h0 dg.1]
        refine x_isDigit (by omega) (fun _ _ => t1 (br (iz_le (by decide) (by decide) (by omega) (by omega)) (fun e => by omega) (fun e => ?_))) (fun h => absurd dg.2 h)
        unfold b_X1_atom_109 wp_X1_need
        refine u1 ⟨by rw [s3]; exact iz_inb h0 (by omega) (by omega), ?_⟩
        rintro w3 rfl
        rw [s3, iz_toInt (by omega) (by omega), s2 p h0 dg.1, iz_add, iz_add]
        exact x
      have ms : ∀ (w : Wd) (Ps : Wd → (Int32 → Wd → Prop) → Prop) (Q : Int32 → Wd → Prop) (nn : Nat), MS0 t n p d w → lp_X3_atom_90 Ps Q nn (((iz 10 * v) + iz (t p)) - iz 48) (iz (k + 1)) (sI w 70 (iz (p + 1))) → lp_X3_atom_90 Ps Q (nn + 1) v (iz k) w := by
        intro w Ps Q nn S x
        have e70 := S.2.2.1
        have e71 := S.2.2.2.2
        obtain ⟨i1, i2⟩ := S.byte B h0 dg.1
        show wl_X3_atom_90 Ps Q _ v (iz k) w
        unfold wl_X3_atom_90
        refine m_isDigit B S h0 h1 (fun _ _ _ => t1 ?_) (fun h => absurd dg h)
        rw [e71]
        refine ⟨fun h => absurd rfl h, fun _ => brn (iz_eq (by omega) (by omega) (by decide) (by decide)) (fun _ => ⟨i1, ?_⟩) (fun e => by omega)⟩
        rintro w3 rfl
        rw [i2, e70, iz_add, iz_add]
        exact x
      rcases ih (k + 1) (((iz 10 * v) + iz (t p)) - iz 48) (p + 1) (by omega) (by omega) (by omega) (by omega) with ⟨pf, q1, q2, qx, qm⟩ | ⟨p', v', q1, q2, q3, qx, qm⟩
      · refine Or.inl ⟨pf, by omega, q2, fun Z0 w Ps Q X S x => ?_, fun w Ps Q S x => ?_⟩
        · obtain ⟨nn, h⟩ := qx Z0 (sI w 13 (iz (p + 1))) Ps Q X (S.at (by omega)) (by rw [sI_sI]; exact x)
          exact ⟨_, xs Z0 w Ps Q X nn S h⟩
        · obtain ⟨nn, h⟩ := qm (sI w 70 (iz (p + 1))) Ps Q (S.at (p + 1)) (by rw [sI_sI]; exact x)
          exact ⟨_, ms w Ps Q nn S h⟩
      · refine Or.inr ⟨p', v', by omega, q2, fun _ _ _ => by omega, fun Z0 w Ps Q X S x => ?_, fun w Ps Q S x => ?_⟩
        · obtain ⟨nn, h⟩ := qx Z0 (sI w 13 (iz (p + 1))) Ps Q X (S.at (by omega)) (by rw [sI_sI]; exact x)
          exact ⟨_, xs Z0 w Ps Q X nn S h⟩
        · obtain ⟨nn, h⟩ := qm (sI w 70 (iz (p + 1))) Ps Q (S.at (p + 1)) (by rw [sI_sI]; exact x)
          exact ⟨_, ms w Ps Q nn S h⟩
    · refine Or.inr ⟨p, v, Int.le_refl _, h1, fun a b c => absurd ⟨a, b, c⟩ dg, fun Z0 w Ps Q X S x => ⟨1, ?_⟩, fun w Ps Q S x => ⟨1, ?_⟩⟩
      · have tb := B.2.2 p
        obtain ⟨s1, s2, s3, s4, s5⟩ := S
        rw [← s3, sI_self] at x
        show wl_X1_atom_72 Ps Q X _ v (iz k) w
        unfold wl_X1_atom_72
        rw [s1, s3]
        refine br (iz_le (by omega) (by omega) (by omega) (by omega)) (fun e => x) (fun e => ⟨iz_inb h0 (by omega) (by omega), ?_⟩)
        rw [iz_toInt (by omega) (by omega), s2 p h0 (by omega)]
        exact x_isDigit (by omega) (fun a b => absurd ⟨by omega, a, b⟩ dg) (fun h => t0 x)
      · have e70 := S.2.2.1
        rw [← e70, sI_self] at x
        show wl_X3_atom_90 Ps Q _ v (iz k) w
        unfold wl_X3_atom_90
        exact m_isDigit B S h0 h1 (fun a b c => absurd ⟨a, b, c⟩ dg) (fun h => t0 x)
end AT
