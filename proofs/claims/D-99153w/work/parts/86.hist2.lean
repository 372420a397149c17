/-! the histories, one after the other -/
/-- how many, the one that is wanted, the first, where all are as the first -/
abbrev Hy : Type := Int × Int × (Int → Int) × (Int → Bool)
def hyLeaf (want d : Int) (row : Int → Int) (S : Hy) : Hy := (S.1 + 1, if S.1 = want then d else S.2.1, if S.1 = 0 then row else S.2.2.1, if S.1 = 0 then (fun _ => true) else fun t => S.2.2.2 t && decide (S.2.2.1 t = row t))
noncomputable def hyRow (f : Int → Hy → Hy) (ok : Int → Prop) : Nat → Hy → Hy
  | 0, S => S
  | n + 1, S => (haveI := Classical.propDecidable (ok n); if ok n then f n (hyRow f ok n S) else hyRow f ok n S)
theorem hyRow_t {f : Int → Hy → Hy} {ok : Int → Prop} {n : Nat} {S : Hy} (h : ok n) : hyRow f ok (n + 1) S = f n (hyRow f ok n S) := by rw [hyRow]; simp only [if_pos h]
theorem hyRow_f {f : Int → Hy → Hy} {ok : Int → Prop} {n : Nat} {S : Hy} (h : ¬ ok n) : hyRow f ok (n + 1) S = hyRow f ok n S := by rw [hyRow]; simp only [if_neg h]
/-- all histories from the place 6 - r on -/
noncomputable def hyGo (c : Cf) (p : Fnd) (want : Int) : Nat → (Int → Int) → (Int → Int) → Int → Hy → Hy
  | 0, _, row, d, S => hyLeaf want d row S
  | r + 1, left, row, d, S => hyRow (fun k S => hyGo c p want r (fun t => if t = k then left k - 1 else left t) (fun t => if t = 5 - r then k else row t) (10 * d + k) S) (fun k => ¬ left k = 0 ∧ mayAt p (5 - r) k) (cK c).toNat S
theorem hyRow_bd (f : Int → Hy → Hy) (ok : Int → Prop) (m : Int) (m0 : 0 ≤ m) (H : ∀ k S, 0 ≤ S.1 → S.1 ≤ (f k S).1 ∧ (f k S).1 ≤ S.1 + m) : ∀ (n : Nat) (S : Hy), 0 ≤ S.1 → S.1 ≤ (hyRow f ok n S).1 ∧ (hyRow f ok n S).1 ≤ S.1 + n * m := by
  intro n
  induction n with
  | zero => intro S h; rw [hyRow]; omega
  | succ n ih =>
    intro S h
    have a := ih S h
    have e : ((n + 1 : Nat) : Int) * m = n * m + m := by rw [Int.natCast_succ, Int.add_mul]; omega
    by_cases q : ok n
    · rw [hyRow_t q]
      have b := H n (hyRow f ok n S) (by omega)
      omega
    · rw [hyRow_f q]
      omega
theorem hyGo_bd {c : Cf} (HC : CfOK c) (p : Fnd) (want : Int) : ∀ (r : Nat) (left row : Int → Int) (d : Int) (S : Hy), 0 ≤ S.1 → S.1 ≤ (hyGo c p want r left row d S).1 ∧ (hyGo c p want r left row d S).1 ≤ S.1 + 6 ^ r := by
  intro r
  induction r with
  | zero => intro left row d S h; rw [hyGo]; unfold hyLeaf; simp; omega
  | succ r ih =>
    intro left row d S h
    rw [hyGo]
    have p6 : (0 : Int) ≤ 6 ^ r := Int.le_of_lt (Int.pow_pos (by decide))
    have b := hyRow_bd (fun k S => hyGo c p want r (fun t => if t = k then left k - 1 else left t) (fun t => if t = 5 - r then k else row t) (10 * d + k) S) (fun k => ¬ left k = 0 ∧ mayAt p (5 - r) k) (6 ^ r) p6 (fun k S h => ih _ _ _ S h) (cK c).toNat S h
    have k6 := HC.2.1
    have e : ((cK c).toNat : Int) * 6 ^ r ≤ 6 * 6 ^ r := Int.mul_le_mul_of_nonneg_right (by omega) p6
    rw [Int.pow_succ, Int.mul_comm _ 6]
    omega
