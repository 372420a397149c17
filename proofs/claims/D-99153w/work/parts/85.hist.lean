/-! the found ones and the histories -/
/-- the found: how many, at which place, which kind, is it so (1) or not (0) -/
abbrev Fnd : Type := Int × (Int → Int) × (Int → Int) × (Int → Int)
def FnOK (p : Fnd) : Prop := 0 ≤ p.1 ∧ p.1 ≤ 10 ∧ ∀ i, 0 ≤ i → i < p.1 → (0 ≤ p.2.1 i ∧ p.2.1 i ≤ 5) ∧ (0 ≤ p.2.2.1 i ∧ p.2.2.1 i ≤ 9) ∧ (p.2.2.2 i = 0 ∨ p.2.2.2 i = 1)
def FnX (p : Fnd) (w : Wd) : Prop := gI w 43 = iz p.1 ∧ ∀ i, 0 ≤ i → i < p.1 → gA w 40 i = iz (p.2.1 i) ∧ gA w 41 i = iz (p.2.2.1 i) ∧ gA w 42 i = iz (p.2.2.2 i)
def FnM (p : Fnd) (w : Wd) : Prop := gI w 110 = iz p.1 ∧ ∀ i, 0 ≤ i → i < p.1 → gA w 104 i = iz (p.2.1 i) ∧ gA w 105 i = iz (p.2.2.1 i) ∧ gA w 109 i = iz (p.2.2.2 i)
/-- kind k may lie at place a -/
def okAt (p : Fnd) (a k : Int) (i : Int) : Prop := p.2.1 i = a → (p.2.2.2 i = 1 ↔ p.2.2.1 i = k)
def mayAt (p : Fnd) (a k : Int) : Prop := ∀ i, 0 ≤ i → i < p.1 → okAt p a k i
section HI
variable {c : Cf} {lm : Int} {w : Wd} {p : Fnd} {Q : Int32 → Wd → Prop}
theorem x_mayBe (hp : FnOK p) (P : FnX p w) {a k : Int} (ha : 0 ≤ a ∧ a ≤ 9) (hk : 0 ≤ k ∧ k ≤ 9) (f : mayAt p a k → Q (iz 1) w) (g : ¬ mayAt p a k → Q (iz 0) w) : wp_X1_mayBe (iz a) (iz k) w Q := by
  obtain ⟨p0, p10, pp⟩ := hp
  obtain ⟨P1, P2⟩ := P
  refine lpe (fun n (s : Int32 × Wd) => lp_X1_mayBe_2 Q (iz a) (iz k) n s.1 s.2) (fun R s => wl_X1_mayBe_2 Q (iz a) (iz k) (fun x y => R (x, y)) s.1 s.2) (fun _ _ h => h) (fun i s => 0 ≤ i ∧ s = (iz i, w) ∧ ∀ j, 0 ≤ j → j < i → okAt p a k j) p.1 0 (iz 0, w) p0 ⟨by decide, rfl, fun j x y => by omega⟩ ?_
  rintro R _ i hi ⟨hi0, rfl, al⟩ kk
  unfold wl_X1_mayBe_2
  rw [P1]
  refine br (iz_le (by omega) (by omega) (by omega) (by omega)) (fun e => ?_) (fun e => ⟨iz_inb (by omega) (by omega) (by omega), ?_⟩)
  · exact f (fun j x y => al j x (by omega))
  · obtain ⟨z1, z2, z3⟩ := P2 i hi0 (by omega)
    obtain ⟨y1, y2, y3⟩ := pp i hi0 (by omega)
    have go : okAt p a k i → R (iz i + iz 1, w) := fun o => by
      rw [iz_add]
      exact kk (by omega) _ ⟨by omega, rfl, fun j x y => by
        by_cases ej : j = i
        · subst ej; exact o
        · exact al j x (by omega)⟩
    rw [iz_toInt (by omega) (by omega), z1, z2, z3]
    refine brn (iz_eq (by omega) (by omega) (by omega) (by omega)) (fun e2 => go (fun x => absurd x e2)) (fun e2 => ⟨iz_inb (by omega) (by omega) (by omega), brn (iz_eq (by omega) (by omega) (by omega) (by omega)) (fun e3 => ⟨iz_inb (by omega) (by omega) (by omega), br (iz_eq (by omega) (by omega) (by omega) (by omega)) (fun e4 => go (fun _ => by omega)) (fun e4 => g (fun m => ?_))⟩) (fun e3 => ⟨iz_inb (by omega) (by omega) (by omega), br (iz_eq (by omega) (by omega) (by omega) (by omega)) (fun e4 => go (fun _ => by omega)) (fun e4 => g (fun m => ?_))⟩)⟩)
    · have := m i hi0 (by omega) e2
      omega
    · have := m i hi0 (by omega) e2
      omega
theorem m_mayBe (hp : FnOK p) (P : FnM p w) {a k : Int} (ha : 0 ≤ a ∧ a ≤ 9) (hk : 0 ≤ k ∧ k ≤ 9) (f : mayAt p a k → Q (iz 1) w) (g : ¬ mayAt p a k → Q (iz 0) w) : wp_X3_mayBe (iz a) (iz k) w Q := by
  obtain ⟨p0, p10, pp⟩ := hp
  obtain ⟨P1, P2⟩ := P
  refine lpe (fun n (s : Int32 × Wd) => lp_X3_mayBe_2 Q (iz a) (iz k) n s.1 s.2) (fun R s => wl_X3_mayBe_2 Q (iz a) (iz k) (fun x y => R (x, y)) s.1 s.2) (fun _ _ h => h) (fun i s => 0 ≤ i ∧ s = (iz i, w) ∧ ∀ j, 0 ≤ j → j < i → okAt p a k j) p.1 0 (iz 0, w) p0 ⟨by decide, rfl, fun j x y => by omega⟩ ?_
  rintro R _ i hi ⟨hi0, rfl, al⟩ kk
  unfold wl_X3_mayBe_2
  rw [P1]
  refine br (iz_le (by omega) (by omega) (by omega) (by omega)) (fun e => ?_) (fun e => ⟨iz_inb (by omega) (by omega) (by omega), ?_⟩)
  · exact f (fun j x y => al j x (by omega))
  · obtain ⟨z1, z2, z3⟩ := P2 i hi0 (by omega)
    obtain ⟨y1, y2, y3⟩ := pp i hi0 (by omega)
    have go : okAt p a k i → R (iz i + iz 1, w) := fun o => by
      rw [iz_add]
      exact kk (by omega) _ ⟨by omega, rfl, fun j x y => by
        by_cases ej : j = i
        · subst ej; exact o
        · exact al j x (by omega)⟩
    rw [iz_toInt (by omega) (by omega), z1, z2, z3]
    refine brn (iz_eq (by omega) (by omega) (by omega) (by omega)) (fun e2 => go (fun x => absurd x e2)) (fun e2 => ⟨iz_inb (by omega) (by omega) (by omega), brn (iz_eq (by omega) (by omega) (by omega) (by omega)) (fun e3 => ⟨iz_inb (by omega) (by omega) (by omega), br (iz_eq (by omega) (by omega) (by omega) (by omega)) (fun e4 => go (fun _ => by omega)) (fun e4 => g (fun m => ?_))⟩) (fun e3 => ⟨iz_inb (by omega) (by omega) (by omega), br (iz_eq (by omega) (by omega) (by omega) (by omega)) (fun e4 => go (fun _ => by omega)) (fun e4 => g (fun m => ?_))⟩)⟩)
    · have := m i hi0 (by omega) e2
      omega
    · have := m i hi0 (by omega) e2
      omega
end HI
