/-! the histories of the component, on: all of them -/
theorem hyRow_P {f : Int → Hy → Hy} {ok : Int → Prop} {P : Hy → Prop} : ∀ (n : Nat) (S : Hy), P S → (∀ (k : Nat), k < n → ∀ S, P S → P (f k S)) → P (hyRow f ok n S) := by
  intro n
  induction n with
  | zero => intro S h _; rw [hyRow]; exact h
  | succ n ih =>
    intro S h g
    have a := ih S h (fun k hk => g k (by omega))
    by_cases q : ok n
    · rw [hyRow_t q]
      exact g n (by omega) _ a
    · rw [hyRow_f q]
      exact a
def HyF (S : Hy) : Prop := S.1 ≠ 0 → ∀ t, 0 ≤ t → t < 6 → 0 ≤ S.2.2.1 t ∧ S.2.2.1 t < 6
theorem hyGo_F {c : Cf} (HC : CfOK c) (p : Fnd) (want : Int) : ∀ (r : Nat), r ≤ 6 → ∀ (left row : Int → Int) (d : Int) (S : Hy), (∀ t : Int, 0 ≤ t → t < 6 - r → 0 ≤ row t ∧ row t < 6) → 0 ≤ S.1 → HyF S → HyF (hyGo c p want r left row d S) := by
  intro r
  induction r with
  | zero =>
    intro _ left row d S hr h0 hF
    rw [hyGo]
    unfold hyLeaf HyF
    intro _ t t1 t2
    by_cases z : S.1 = 0
    · simp only [z, if_true]
      exact hr t t1 (by omega)
    · simp only [z, if_false]
      exact hF z t t1 t2
  | succ r ih =>
    intro r6 left row d S hr h0 hF
    rw [hyGo]
    have k6 := HC.2.1
    refine (hyRow_P (f := fun k S => hyGo c p want r (fun t => if t = k then left k - 1 else left t) (fun t => if t = 5 - (r : Int) then k else row t) (10 * d + k) S) (ok := fun k => ¬ left k = 0 ∧ mayAt p (5 - (r : Int)) k) (P := fun S => 0 ≤ S.1 ∧ HyF S) (cK c).toNat S ⟨h0, hF⟩ (fun k hk S hS => ⟨?_, ih (by omega) _ _ _ S (fun t t1 t2 => ?_) hS.1 hS.2⟩)).2
    · have := hyGo_bd HC p want r (fun t => if t = (k : Int) then left k - 1 else left t) (fun t => if t = 5 - (r : Int) then (k : Int) else row t) (10 * d + k) S hS.1
      omega
    · by_cases e : t = 5 - (r : Int)
      · simp only [e, if_true]
        omega
      · simp only [e, if_false]
        exact hr t t1 (by omega)
theorem FnX.fsH {p : Fnd} {w w' : Wd} (P : FnX p w) (f : fsH w w') : FnX p w' := by
  obtain ⟨f1, f2, -⟩ := f
  unfold FnX
  rw [f1 43 (by decide), f2 40 (by decide), f2 41 (by decide), f2 42 (by decide)]
  exact P
theorem fsH_sA {w : Wd} {a : Nat} (ha : a = 44 ∨ a = 45 ∨ a = 46) (i : Int) (v : Int32) : fsH w (sA w a i v) := by
  refine ⟨fun k hk => rfl, fun b hb => ?_, rfl, rfl, rfl, rfl, rfl, rfl⟩
  funext t
  rw [gA_sA, if_neg (by omega)]
section HX4
variable {c : Cf} {w : Wd} {p : Fnd}
theorem x_try (HC : CfOK c) (hp : FnOK p) {want : Int} (hw : VR want) (e0 : Nat) : ∀ (r : Nat), r ≤ 6 → ∀ (i d : Int) (left row : Int → Int) (S : Hy) (w : Wd) (Q : Wd → Prop), i = 6 - r → gI w 23 = iz (cK c) → FnX p w → gI w 48 = iz want → (∀ t, 0 ≤ t → t < 6 → gA w 44 t = iz (left t) ∧ 0 ≤ left t ∧ left t ≤ 9) → (∀ t, 0 ≤ t → t < i → gA w 45 t = iz (row t) ∧ 0 ≤ row t ∧ row t < 6) → HyX S w → HyF S → 0 ≤ S.1 → S.1 + 6 ^ r ≤ 100000 →
    (∀ w', fsH w w' → gA w' 44 = gA w 44 → (∀ t, t < i → gA w' 45 t = gA w 45 t) → HyX (hyGo c p want r left row d S) w' → Q w') → pf_X1_tryRows (e0 + r + 1) (iz i) (iz d) w Q := by
  intro r
  induction r with
  | zero =>
    intro _ i d left row S w Q hi hK P e48 hl hr X F b0 b1 q
    obtain rfl : i = 6 := by omega
    refine x_leaf (row := row) b0 (by have : (6 : Int) ^ 0 = 1 := rfl; omega) hw e48 (fun t t1 t2 => hr t t1 t2) X F (fun w' f1 f2 f3 f4 => q w' f1 f2 (fun t _ => by rw [f3]) ?_)
    rw [hyGo]
    exact f4
  | succ r ih =>
    intro r6 i d left row S w Q hi hK P e48 hl hr X F b0 b1 q
    have k0 := HC.1
    have k6 := HC.2.1
    have p6 : (0 : Int) < 6 ^ r := Int.pow_pos (by decide)
    rw [Int.pow_succ] at b1
    rw [hyGo] at q
    show wp_X1_tryRows (pf_X1_tryRows (e0 + r + 1)) (iz i) (iz d) w Q
    refine ⟨fun _ => ?_, fun e => absurd ((iz_eq (by omega) (by omega) (by decide) (by decide)).mp e) (by omega)⟩
    generalize hf : (fun (k : Int) (S : Hy) => hyGo c p want r (fun t => if t = k then left k - 1 else left t) (fun t => if t = 5 - (r : Int) then k else row t) (10 * d + k) S) = f at q
    generalize hok : (fun k : Int => ¬ left k = 0 ∧ mayAt p (5 - (r : Int)) k) = ok at q
    have fb : ∀ (k : Int) (S : Hy), 0 ≤ S.1 → S.1 ≤ (f k S).1 ∧ (f k S).1 ≤ S.1 + 6 ^ r := by
      intro k S hS
      rw [← hf]
      exact hyGo_bd HC p want r _ _ _ S hS
    refine lpe (fun n (s : Int32 × Wd) => lp_X1_tryRows_87 (pf_X1_tryRows (e0 + r + 1)) Q (iz i) (iz d) n s.1 s.2) (fun R s => wl_X1_tryRows_87 (pf_X1_tryRows (e0 + r + 1)) Q (iz i) (iz d) (fun x y => R (x, y)) s.1 s.2) (fun _ _ h => h) (fun k s => 0 ≤ k ∧ ∃ w', s = (iz k, w') ∧ fsH w w' ∧ gA w' 44 = gA w 44 ∧ (∀ t, t < i → gA w' 45 t = gA w 45 t) ∧ HyX (hyRow f ok k.toNat S) w' ∧ HyF (hyRow f ok k.toNat S)) (cK c) 0 (iz 0, w) k0 ⟨by decide, w, rfl, fsH_refl w, rfl, fun _ _ => rfl, X, F⟩ ?_
    rintro R _ k hk ⟨hk0, w1, rfl, f1, f44, f45, X1, F1⟩ kk
    have eK : gI w1 23 = iz (cK c) := by rw [f1.1 23 (by decide)]; exact hK
    unfold wl_X1_tryRows_87
    rw [eK]
    refine br (iz_le (by omega) (by omega) (by omega) (by omega)) (fun e => ?_) (fun e => ⟨iz_inb (by omega) (by omega) (by omega), ?_⟩)
    · obtain rfl : k = cK c := by omega
      exact q w1 f1 f44 f45 X1
    · have kk := kk (by omega)
      rw [show (k + 1).toNat = k.toNat + 1 by omega] at kk
      obtain ⟨l1, l2, l3⟩ := hl k hk0 (by omega)
      have ek : ((k.toNat : Nat) : Int) = k := Int.toNat_of_nonneg hk0
      have bR := hyRow_bd f ok (6 ^ r) (by omega) fb k.toNat S b0
      rw [ek] at bR
      have km : k * 6 ^ r ≤ 5 * 6 ^ r := Int.mul_le_mul_of_nonneg_right (by omega) (by omega)
      rw [iz_toInt (by omega) (by omega), f44, l1, iz_add]
      have stay : ¬ ok k → R (iz (k + 1), w1) := by
        intro z
        have z' : ¬ ok (k.toNat : Nat) := by rw [ek]; exact z
        rw [hyRow_f z'] at kk
        exact kk _ ⟨by omega, w1, rfl, f1, f44, f45, X1, F1⟩
      refine br (iz_eq (by omega) (by omega) (by decide) (by decide)) (fun e2 => stay (by rw [← hok]; exact fun z => z.1 e2)) (fun e2 => ?_)
      refine x_mayBe hp (P.fsH f1) (by omega) (by omega) (fun m => u1 ?_) (fun m => u0 (stay (by rw [← hok]; intro z; exact m (by have := z.2; rwa [show (5 : Int) - r = i by omega] at this))))
      have hokk : ok (k.toNat : Nat) := by
        rw [ek, ← hok]
        exact ⟨e2, by rw [show (5 : Int) - r = i by omega]; exact m⟩
      rw [hyRow_t hokk, ek] at kk
      refine ⟨iz_inb (by omega) (by omega) (by omega), iz_inb (by omega) (by omega) (by omega), ?_⟩
      rintro w3 rfl
      rw [f44, l1, iz_sub]
      refine ⟨iz_inb (by omega) (by omega) (by omega), ?_⟩
      rintro w4 rfl
      rw [iz_toInt (show -2147483648 ≤ i by omega) (by omega), iz_add, iz_mul, iz_add]
      have g4 : fsH w1 (sA (sA w1 44 k (iz (left k - 1))) 45 i (iz k)) := fsH_trans (fsH_sA (Or.inl rfl) _ _) (fsH_sA (Or.inr (Or.inl rfl)) _ _)
      have a44 : ∀ t, gA (sA (sA w1 44 k (iz (left k - 1))) 45 i (iz k)) 44 t = if t = k then iz (left k - 1) else gA w 44 t := fun t => by
        rw [gA_sA, if_neg (show ¬ (44 : Nat) = 45 by decide), gA_sA, if_pos rfl, f44]
      have a45 : ∀ t, gA (sA (sA w1 44 k (iz (left k - 1))) 45 i (iz k)) 45 t = if t = i then iz k else gA w1 45 t := fun t => by
        rw [gA_sA, if_pos rfl, gA_sA, if_neg (show ¬ (45 : Nat) = 44 by decide)]
      have X4 : HyX (hyRow f ok k.toNat S) (sA (sA w1 44 k (iz (left k - 1))) 45 i (iz k)) := by
        obtain ⟨x1, x2, x3⟩ := X1
        refine ⟨x1, x2, fun z t t1 t2 => ?_⟩
        rw [gA_sA, if_neg (by decide), gA_sA, if_neg (by decide)]
        exact x3 z t t1 t2
      refine ih (by omega) (i + 1) (10 * d + k) (fun t => if t = k then left k - 1 else left t) (fun t => if t = 5 - (r : Int) then k else row t) (hyRow f ok k.toNat S) _ _ (by omega) eK ((P.fsH f1).fsH g4) ?_ (fun t t1 t2 => ?_) (fun t t1 t2 => ?_) X4 F1 (by omega) (by omega) (fun w6 h1 h2 h3 h4 => ?_)
      · rw [g4.1 48 (by decide), f1.1 48 (by decide)]
        exact e48
      · rw [a44]
        by_cases e3 : t = k
        · simp only [e3, if_true]
          exact ⟨trivial, by omega, by omega⟩
        · simp only [e3, if_false]
          exact hl t t1 t2
      · rw [a45, show (5 : Int) - r = i by omega]
        by_cases e3 : t = i
        · simp only [e3, if_true]
          exact ⟨trivial, by omega, by omega⟩
        · simp only [e3, if_false]
          rw [f45 t (by omega)]
          exact hr t t1 (by omega)
      · refine ⟨iz_inb (by omega) (by omega) (by omega), iz_inb (by omega) (by omega) (by omega), ?_⟩
        rintro w7 rfl
        rw [h2, a44, if_pos rfl, iz_add]
        have f6 : fsH w w6 := fsH_trans f1 (fsH_trans g4 h1)
        have hfk : f k (hyRow f ok k.toNat S) = hyGo c p want r (fun t => if t = k then left k - 1 else left t) (fun t => if t = 5 - (r : Int) then k else row t) (10 * d + k) (hyRow f ok k.toNat S) := by rw [← hf]
        rw [← hfk] at h4
        refine kk _ ⟨by omega, _, rfl, fsH_trans f6 (fsH_sA (Or.inl rfl) _ _), ?_, fun t t1 => ?_, ?_, ?_⟩
        · funext t
          rw [gA_sA, if_pos rfl, h2, a44]
          by_cases e3 : t = k
          · simp only [e3, if_true]
            rw [l1]
            congr 1
            omega
          · simp only [e3, if_false]
        · rw [gA_sA, if_neg (by decide), h3 t (by omega), a45, if_neg (by omega)]
          exact f45 t t1
        · obtain ⟨x1, x2, x3⟩ := h4
          refine ⟨x1, x2, fun z t t1 t2 => ?_⟩
          rw [gA_sA, if_neg (by decide)]
          exact x3 z t t1 t2
        · rw [hfk]
          refine hyGo_F HC p want r (by omega) _ _ _ _ (fun t t1 t2 => ?_) (by omega) F1
          by_cases e3 : t = 5 - (r : Int)
          · simp only [e3, if_true]
            omega
          · simp only [e3, if_false]
            exact (hr t t1 (by omega)).2
end HX4
