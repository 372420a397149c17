/-! the histories of the model -/
/-- six bits -/
def m6 (a b c d e f : Bool) : Int32 :=
  let r0 := iz 0
  let r1 := if a = true then r0 ||| (iz 1 <<< (iz 0 &&& 31)) else r0
  let r2 := if b = true then r1 ||| (iz 1 <<< (iz 1 &&& 31)) else r1
  let r3 := if c = true then r2 ||| (iz 1 <<< (iz 2 &&& 31)) else r2
  let r4 := if d = true then r3 ||| (iz 1 <<< (iz 3 &&& 31)) else r3
  let r5 := if e = true then r4 ||| (iz 1 <<< (iz 4 &&& 31)) else r4
  if f = true then r5 ||| (iz 1 <<< (iz 5 &&& 31)) else r5
theorem bts_m6 (f : Int → Bool) : bts (fun t => f t = true) 6 = m6 (f 0) (f 1) (f 2) (f 3) (f 4) (f 5) := rfl
theorem m6_clr : ∀ a b c d e f : Bool, (m6 a b c d e f &&& ((iz 1 <<< (iz 0 &&& 31)) ^^^ iz (-1))) = m6 false b c d e f ∧ (m6 a b c d e f &&& ((iz 1 <<< (iz 1 &&& 31)) ^^^ iz (-1))) = m6 a false c d e f ∧ (m6 a b c d e f &&& ((iz 1 <<< (iz 2 &&& 31)) ^^^ iz (-1))) = m6 a b false d e f ∧ (m6 a b c d e f &&& ((iz 1 <<< (iz 3 &&& 31)) ^^^ iz (-1))) = m6 a b c false e f ∧ (m6 a b c d e f &&& ((iz 1 <<< (iz 4 &&& 31)) ^^^ iz (-1))) = m6 a b c d false f ∧ (m6 a b c d e f &&& ((iz 1 <<< (iz 5 &&& 31)) ^^^ iz (-1))) = m6 a b c d e false := by decide +kernel
theorem bts_clr (f g : Int → Bool) {j : Int} (h1 : 0 ≤ j) (h2 : j < 6) (hj : g j = false) (hg : ∀ t, t ≠ j → g t = f t) : (bts (fun t => f t = true) 6 &&& ((iz 1 <<< (iz j &&& 31)) ^^^ iz (-1))) = bts (fun t => g t = true) 6 := by
  rw [bts_m6, bts_m6]
  obtain ⟨c0, c1, c2, c3, c4, c5⟩ := m6_clr (f 0) (f 1) (f 2) (f 3) (f 4) (f 5)
  have hj6 : j = 0 ∨ j = 1 ∨ j = 2 ∨ j = 3 ∨ j = 4 ∨ j = 5 := by omega
  rcases hj6 with rfl | rfl | rfl | rfl | rfl | rfl
  · rw [c0, hj, hg 1 (by decide), hg 2 (by decide), hg 3 (by decide), hg 4 (by decide), hg 5 (by decide)]
  · rw [c1, hj, hg 0 (by decide), hg 2 (by decide), hg 3 (by decide), hg 4 (by decide), hg 5 (by decide)]
  · rw [c2, hj, hg 0 (by decide), hg 1 (by decide), hg 3 (by decide), hg 4 (by decide), hg 5 (by decide)]
  · rw [c3, hj, hg 0 (by decide), hg 1 (by decide), hg 2 (by decide), hg 4 (by decide), hg 5 (by decide)]
  · rw [c4, hj, hg 0 (by decide), hg 1 (by decide), hg 2 (by decide), hg 3 (by decide), hg 5 (by decide)]
  · rw [c5, hj, hg 0 (by decide), hg 1 (by decide), hg 2 (by decide), hg 3 (by decide), hg 4 (by decide)]
def fsG (w w' : Wd) : Prop := (∀ k, ¬ (k = 60 ∨ k = 111 ∨ k = 112 ∨ k = 113) → gI w' k = gI w k) ∧ (∀ a, ¬ (a = 106 ∨ a = 107 ∨ a = 108) → gA w' a = gA w a) ∧ gJ w' = gJ w ∧ gL w' = gL w ∧ gC w' = gC w ∧ gF w' = gF w ∧ gZ w' = gZ w
theorem fsG_refl (w : Wd) : fsG w w := ⟨fun _ _ => rfl, fun _ _ => rfl, rfl, rfl, rfl, rfl, rfl⟩
theorem fsG_trans {w w' w'' : Wd} (h : fsG w w') (g : fsG w' w'') : fsG w w'' := ⟨fun k hk => (g.1 k hk).trans (h.1 k hk), fun a ha => (g.2.1 a ha).trans (h.2.1 a ha), g.2.2.1.trans h.2.2.1, g.2.2.2.1.trans h.2.2.2.1, g.2.2.2.2.1.trans h.2.2.2.2.1, g.2.2.2.2.2.1.trans h.2.2.2.2.2.1, g.2.2.2.2.2.2.trans h.2.2.2.2.2.2⟩
theorem fsG_sA {w : Wd} {a : Nat} (ha : a = 106 ∨ a = 107 ∨ a = 108) (i : Int) (v : Int32) : fsG w (sA w a i v) := by
  refine ⟨fun k hk => rfl, fun b hb => ?_, rfl, rfl, rfl, rfl, rfl⟩
  funext t
  rw [gA_sA, if_neg (by omega)]
theorem fsG_sI {w : Wd} {k : Nat} (hk : k = 60 ∨ k = 111 ∨ k = 112 ∨ k = 113) (v : Int32) : fsG w (sI w k v) := by
  refine ⟨fun j hj => ?_, fun a ha => rfl, rfl, rfl, rfl, rfl, rfl⟩
  rw [gI_sI, if_neg (by omega)]
theorem FnM.fsG {p : Fnd} {w w' : Wd} (P : FnM p w) (f : fsG w w') : FnM p w' := by
  obtain ⟨f1, f2, -⟩ := f
  unfold FnM
  rw [f1 110 (by decide), f2 104 (by decide), f2 105 (by decide), f2 109 (by decide)]
  exact P
/-- the state of the histories in the model's world -/
def HyM (S : Hy) (w : Wd) : Prop := gI w 111 = iz S.1 ∧ gI w 112 = iz S.2.1 ∧ (S.1 ≠ 0 → ∀ t, 0 ≤ t → t < 6 → gA w 108 t = iz (S.2.2.1 t)) ∧ gI w 113 = bts (fun t => S.2.2.2 t = true) 6 ∧ (S.1 = 0 → ∀ t, S.2.2.2 t = true)
section HM6
variable {c : Cf} {w : Wd} {p : Fnd}
theorem m_leaf {Q : Wd → Prop} {Pt : Int32 → Int32 → Int32 → Wd → (Wd → Prop) → Prop} {S : Hy} {want d : Int} {row : Int → Int} (b0 : 0 ≤ S.1) (b1 : S.1 ≤ 1000000) (hw : VR want) (hr : ∀ t, 0 ≤ t → t < 6 → gA w 107 t = iz (row t) ∧ 0 ≤ row t ∧ row t < 6) (X : HyM S w) (F : HyF S) (q : ∀ w', fsG w w' → gA w' 106 = gA w 106 → gA w' 107 = gA w 107 → HyM (hyLeaf want d row S) w' → Q w') : wp_X3_goHistory Pt (iz 6) (iz d) (iz want) w Q := by
  obtain ⟨x1, x2, x3, x4, x5⟩ := X
  have main : ∀ (w1 : Wd) (fd : Int), fsG w w1 → gA w1 106 = gA w 106 → gA w1 107 = gA w 107 → gA w1 108 = gA w 108 → gI w1 111 = iz S.1 → gI w1 112 = iz fd → gI w1 113 = gI w 113 → fd = (if S.1 = want then d else S.2.1) → ∃ n, lp_X3_goHistory_22 Pt Q n (iz 0) w1 := by
    intro w1 fd f1 f106 f107 f108 f111 f112 f113 ed
    by_cases z : S.1 = 0
    · refine lpe (fun n (s : Int32 × Wd) => lp_X3_goHistory_22 Pt Q n s.1 s.2) (fun R s => wl_X3_goHistory_22 Pt Q (fun x y => R (x, y)) s.1 s.2) (fun _ _ h => h) (fun i s => 0 ≤ i ∧ ∃ g, s = (iz i, sB w1 108 g) ∧ (∀ t, 0 ≤ t → t < i → g t = iz (row t))) 6 0 (iz 0, w1) (by decide) ⟨by decide, gA w1 108, by rw [sB_self], fun t x y => by omega⟩ ?_
      rintro R _ i hi ⟨hi0, g, rfl, g1⟩ kk
      have eI : gI (sB w1 108 g) 111 = iz S.1 := f111
      refine br (iz_le (by decide) (by decide) (by omega) (by omega)) (fun e => ?_) (fun e => ?_)
      · obtain rfl : i = 6 := by omega
        rintro w2 rfl
        rw [eI, iz_add]
        refine q _ (fsG_trans f1 (fsG_trans (w' := sB w1 108 g) ⟨fun k hk => rfl, fun a ha => ?_, rfl, rfl, rfl, rfl, rfl⟩ (fsG_sI (Or.inr (Or.inl rfl)) _))) ?_ ?_ ⟨?_, ?_, fun _ t t1 t2 => ?_, ?_, fun _ t => ?_⟩
        · funext t
          rw [gA_sB, if_neg (by omega)]
        · funext t
          rw [gA_sI, gA_sB, if_neg (by decide), f106]
        · funext t
          rw [gA_sI, gA_sB, if_neg (by decide), f107]
        · rw [gI_sI, if_pos rfl]
          rfl
        · rw [gI_sI, if_neg (by decide)]
          show gI w1 112 = _
          rw [f112, ed]
          rfl
        · rw [gA_sI, gA_sB, if_pos rfl, g1 t t1 t2]
          unfold hyLeaf
          simp only [z, if_true]
        · rw [gI_sI, if_neg (by decide)]
          show gI w1 113 = _
          rw [f113, x4]
          refine bts_congr (by decide) (fun t _ _ => ?_)
          unfold hyLeaf
          simp only [z, if_true]
          exact ⟨fun _ => trivial, fun _ => x5 z t⟩
        · unfold hyLeaf
          simp only [z, if_true]
      · have kk := kk (by omega)
        have e107 : gA (sB w1 108 g) 107 i = iz (row i) := by rw [gA_sB, if_neg (by decide), f107, (hr i hi0 (by omega)).1]
        rw [eI, iz_toInt (by omega) (by omega), e107, iz_add]
        refine brn (iz_eq (by omega) (by omega) (by decide) (by decide)) (fun e2 => absurd z e2) (fun _ => ⟨iz_inb (by omega) (by omega) (by omega), iz_inb (by omega) (by omega) (by omega), ?_⟩)
        rintro w2 rfl
        obtain ⟨g3, e3, p3, q3⟩ := sA_ex2 w1 108 g i (iz (row i))
        rw [e3]
        refine kk _ ⟨by omega, g3, rfl, fun t x y => ?_⟩
        by_cases et : t = i
        · subst et
          exact p3
        · rw [q3 t et]
          exact g1 t x (by omega)
    · refine lpe (fun n (s : Int32 × Wd) => lp_X3_goHistory_22 Pt Q n s.1 s.2) (fun R s => wl_X3_goHistory_22 Pt Q (fun x y => R (x, y)) s.1 s.2) (fun _ _ h => h) (fun i s => 0 ≤ i ∧ ∃ v, s = (iz i, sI w1 113 v) ∧ v = bts (fun t => (S.2.2.2 t && (decide (¬ t < i) || decide (S.2.2.1 t = row t))) = true) 6) 6 0 (iz 0, w1) (by decide) ⟨by decide, gI w1 113, ?_, ?_⟩ ?_
      · congr 1
        unfold sI gI
        refine Prod.ext ?_ rfl
        funext j
        by_cases h : j = 113
        · subst h; simp
        · simp [h]
      · rw [f113, x4]
        refine bts_congr (by decide) (fun t t1 _ => ?_)
        have : ¬ t < 0 := by omega
        simp [this]
      rintro R _ i hi ⟨hi0, v, rfl, hv⟩ kk
      have eI : gI (sI w1 113 v) 111 = iz S.1 := by rw [gI_sI, if_neg (by decide)]; exact f111
      refine br (iz_le (by decide) (by decide) (by omega) (by omega)) (fun e => ?_) (fun e => ?_)
      · obtain rfl : i = 6 := by omega
        rintro w2 rfl
        rw [eI, iz_add]
        refine q _ (fsG_trans f1 (fsG_trans (w' := sI w1 113 v) (fsG_sI (Or.inr (Or.inr (Or.inr rfl))) _) (fsG_sI (Or.inr (Or.inl rfl)) _))) f106 f107 ⟨?_, ?_, fun _ t t1 t2 => ?_, ?_, fun y t => ?_⟩
        · rw [gI_sI, if_pos rfl]
          rfl
        · rw [gI_sI, if_neg (by decide), gI_sI, if_neg (by decide), f112, ed]
          rfl
        · rw [gA_sI, gA_sI, f108, x3 z t t1 t2]
          unfold hyLeaf
          simp only [z, if_false]
        · rw [gI_sI, if_neg (by decide), gI_sI, if_pos rfl, hv]
          refine bts_congr (by decide) (fun t t1 t2 => ?_)
          unfold hyLeaf
          simp [z, t2]
        · have y : S.1 + 1 = 0 := y
          omega
      · have kk := kk (by omega)
        obtain ⟨r1, r2, r3⟩ := hr i hi0 (by omega)
        have ff := F z i hi0 (by omega)
        have e107 : gA (sI w1 113 v) 107 i = iz (row i) := by rw [gA_sI, f107, r1]
        have e108 : gA (sI w1 113 v) 108 i = iz (S.2.2.1 i) := by rw [gA_sI, f108, x3 z i hi0 (by omega)]
        have eG : gI (sI w1 113 v) 113 = v := by rw [gI_sI, if_pos rfl]
        have ib : inb (iz i) 6 := iz_inb (by omega) (by omega) (by omega)
        rw [eI, iz_toInt (by omega) (by omega), e107, e108, iz_add, eG]
        refine ⟨fun _ => ⟨ib, ib, ?_⟩, fun e2 => absurd ((iz_eq (by omega) (by omega) (by decide) (by decide)).mp e2) z⟩
        refine br (iz_eq (by omega) (by omega) (by omega) (by omega)) (fun e3 => kk _ ⟨by omega, v, rfl, ?_⟩) (fun e3 => ?_)
        · rw [hv]
          refine bts_congr (by decide) (fun t t1 t2 => ?_)
          by_cases et : t = i
          · subst et
            simp [e3]
          · have : t < i ↔ t < i + 1 := by omega
            simp [this]
        · rintro w2 rfl
          refine kk _ ⟨by omega, v &&& ((iz 1 <<< (iz i &&& 31)) ^^^ iz (-1)), ?_, ?_⟩
          · congr 1
            unfold sI
            refine Prod.ext ?_ rfl
            funext j
            by_cases h : j = 113
            · simp [h]
            · simp [h]
          · rw [hv]
            refine bts_clr (fun t => S.2.2.2 t && (decide (¬ t < i) || decide (S.2.2.1 t = row t))) (fun t => S.2.2.2 t && (decide (¬ t < i + 1) || decide (S.2.2.1 t = row t))) hi0 (by omega) ?_ (fun t ht => ?_)
            · have : i < i + 1 := by omega
              simp [e3, this]
            · have : t < i ↔ t < i + 1 := by omega
              simp [this]
  unfold wp_X3_goHistory
  refine ⟨fun x => absurd rfl x, fun _ => ?_⟩
  rw [x1]
  refine brn (iz_eq (by omega) (by omega) hw.1 hw.2) (fun e => ?_) (fun e => ?_)
  · exact main w S.2.1 (fsG_refl w) rfl rfl rfl x1 x2 rfl (by rw [if_neg e])
  · rintro w3 rfl
    refine main _ d (fsG_sI (Or.inr (Or.inr (Or.inl rfl))) _) rfl rfl rfl ?_ ?_ ?_ (by rw [if_pos e])
    · rw [gI_sI, if_neg (by decide)]
      exact x1
    · rw [gI_sI, if_pos rfl]
    · rw [gI_sI, if_neg (by decide)]
theorem m_try (HC : CfOK c) (hp : FnOK p) {want : Int} (hw : VR want) (e0 : Nat) : ∀ (r : Nat), r ≤ 6 → ∀ (i d : Int) (left row : Int → Int) (S : Hy) (w : Wd) (Q : Wd → Prop), i = 6 - r → gI w 85 = iz (cK c) → FnM p w → (∀ t, 0 ≤ t → t < 6 → gA w 106 t = iz (left t) ∧ 0 ≤ left t ∧ left t ≤ 9) → (∀ t, 0 ≤ t → t < i → gA w 107 t = iz (row t) ∧ 0 ≤ row t ∧ row t < 6) → HyM S w → HyF S → 0 ≤ S.1 → S.1 + 6 ^ r ≤ 100000 →
    (∀ w', fsG w w' → gA w' 106 = gA w 106 → (∀ t, t < i → gA w' 107 t = gA w 107 t) → HyM (hyGo c p want r left row d S) w' → Q w') → pf_X3_goHistory (e0 + r + 1) (iz i) (iz d) (iz want) w Q := by
  intro r
  induction r with
  | zero =>
    intro _ i d left row S w Q hi hK P hl hr X F b0 b1 q
    obtain rfl : i = 6 := by omega
    refine m_leaf (row := row) b0 (by have : (6 : Int) ^ 0 = 1 := rfl; omega) hw (fun t t1 t2 => hr t t1 t2) X F (fun w' f1 f2 f3 f4 => q w' f1 f2 (fun t _ => by rw [f3]) ?_)
    rw [hyGo]
    exact f4
  | succ r ih =>
    intro r6 i d left row S w Q hi hK P hl hr X F b0 b1 q
    have k0 := HC.1
    have k6 := HC.2.1
    have p6 : (0 : Int) < 6 ^ r := Int.pow_pos (by decide)
    rw [Int.pow_succ] at b1
    rw [hyGo] at q
    show wp_X3_goHistory (pf_X3_goHistory (e0 + r + 1)) (iz i) (iz d) (iz want) w Q
    refine ⟨fun _ => ?_, fun e => absurd ((iz_eq (by omega) (by omega) (by decide) (by decide)).mp e) (by omega)⟩
    generalize hf : (fun (k : Int) (S : Hy) => hyGo c p want r (fun t => if t = k then left k - 1 else left t) (fun t => if t = 5 - (r : Int) then k else row t) (10 * d + k) S) = f at q
    generalize hok : (fun k : Int => ¬ left k = 0 ∧ mayAt p (5 - (r : Int)) k) = ok at q
    have fb : ∀ (k : Int) (S : Hy), 0 ≤ S.1 → S.1 ≤ (f k S).1 ∧ (f k S).1 ≤ S.1 + 6 ^ r := by
      intro k S hS
      rw [← hf]
      exact hyGo_bd HC p want r _ _ _ S hS
    refine lpe (fun n (s : Int32 × Wd) => lp_X3_goHistory_105 (pf_X3_goHistory (e0 + r + 1)) Q (iz i) (iz d) (iz want) n s.1 s.2) (fun R s => wl_X3_goHistory_105 (pf_X3_goHistory (e0 + r + 1)) Q (iz i) (iz d) (iz want) (fun x y => R (x, y)) s.1 s.2) (fun _ _ h => h) (fun k s => 0 ≤ k ∧ ∃ w', s = (iz k, w') ∧ fsG w w' ∧ gA w' 106 = gA w 106 ∧ (∀ t, t < i → gA w' 107 t = gA w 107 t) ∧ HyM (hyRow f ok k.toNat S) w' ∧ HyF (hyRow f ok k.toNat S)) (cK c) 0 (iz 0, w) k0 ⟨by decide, w, rfl, fsG_refl w, rfl, fun _ _ => rfl, X, F⟩ ?_
    rintro R _ k hk ⟨hk0, w1, rfl, f1, f44, f45, X1, F1⟩ kk
    have eK : gI w1 85 = iz (cK c) := by rw [f1.1 85 (by decide)]; exact hK
    unfold wl_X3_goHistory_105
    rw [eK]
    refine br (iz_le (by omega) (by omega) (by omega) (by omega)) (fun e => ?_) (fun e => ⟨iz_inb (by omega) (by omega) (by omega), ?_⟩)
    · obtain rfl : k = cK c := by omega
      exact q w1 f1 f44 f45 X1
    · have kk := kk (by omega)
      rw [show (k + 1).toNat = k.toNat + 1 by omega] at kk
      obtain ⟨l1, l2, l3⟩ := hl k hk0 (by omega)
      have ek : ((k.toNat : Nat) : Int) = k := Int.toNat_of_nonneg hk0
      have bR := hyRow_bd f ok (6 ^ r) (by omega) fb k.toNat S b0
      rw [ek] at bR
      have km : k * 6 ^ r ≤ 5 * 6 ^ r := Int.mul_le_mul_of_nonneg_right (by omega) (by omega)
      rw [iz_toInt (by omega) (by omega), f44, l1, iz_add]
      have stay : ¬ ok k → R (iz (k + 1), w1) := by
        intro z
        have z' : ¬ ok (k.toNat : Nat) := by rw [ek]; exact z
        rw [hyRow_f z'] at kk
        exact kk _ ⟨by omega, w1, rfl, f1, f44, f45, X1, F1⟩
      refine br (iz_eq (by omega) (by omega) (by decide) (by decide)) (fun e2 => stay (by rw [← hok]; exact fun z => z.1 e2)) (fun e2 => ?_)
      refine m_mayBe hp (P.fsG f1) (by omega) (by omega) (fun m => u1 ?_) (fun m => u0 (stay (by rw [← hok]; intro z; exact m (by have := z.2; rwa [show (5 : Int) - r = i by omega] at this))))
      have hokk : ok (k.toNat : Nat) := by
        rw [ek, ← hok]
        exact ⟨e2, by rw [show (5 : Int) - r = i by omega]; exact m⟩
      rw [hyRow_t hokk, ek] at kk
      refine ⟨iz_inb (by omega) (by omega) (by omega), iz_inb (by omega) (by omega) (by omega), ?_⟩
      rintro w3 rfl
      rw [f44, l1, iz_sub]
      refine ⟨iz_inb (by omega) (by omega) (by omega), ?_⟩
      rintro w4 rfl
      rw [iz_toInt (show -2147483648 ≤ i by omega) (by omega), iz_add, iz_mul, iz_add]
      have g4 : fsG w1 (sA (sA w1 106 k (iz (left k - 1))) 107 i (iz k)) := fsG_trans (fsG_sA (Or.inl rfl) _ _) (fsG_sA (Or.inr (Or.inl rfl)) _ _)
      have a44 : ∀ t, gA (sA (sA w1 106 k (iz (left k - 1))) 107 i (iz k)) 106 t = if t = k then iz (left k - 1) else gA w 106 t := fun t => by
        rw [gA_sA, if_neg (show ¬ (106 : Nat) = 107 by decide), gA_sA, if_pos rfl, f44]
      have a45 : ∀ t, gA (sA (sA w1 106 k (iz (left k - 1))) 107 i (iz k)) 107 t = if t = i then iz k else gA w1 107 t := fun t => by
        rw [gA_sA, if_pos rfl, gA_sA, if_neg (show ¬ (107 : Nat) = 106 by decide)]
      have X4 : HyM (hyRow f ok k.toNat S) (sA (sA w1 106 k (iz (left k - 1))) 107 i (iz k)) := by
        obtain ⟨x1, x2, x3, x4⟩ := X1
        refine ⟨x1, x2, fun z t t1 t2 => ?_, x4⟩
        rw [gA_sA, if_neg (by decide), gA_sA, if_neg (by decide)]
        exact x3 z t t1 t2
      refine ih (by omega) (i + 1) (10 * d + k) (fun t => if t = k then left k - 1 else left t) (fun t => if t = 5 - (r : Int) then k else row t) (hyRow f ok k.toNat S) _ _ (by omega) eK ((P.fsG f1).fsG g4) (fun t t1 t2 => ?_) (fun t t1 t2 => ?_) X4 F1 (by omega) (by omega) (fun w6 h1 h2 h3 h4 => ?_)
      · rw [a44]
        by_cases e3 : t = k
        · simp only [e3, if_true]
          exact ⟨trivial, by omega, by omega⟩
        · simp only [e3, if_false]
          exact hl t t1 t2
      · rw [a45, show (5 : Int) - r = i by omega]
        by_cases e3 : t = i
        · simp only [e3, if_true]
          exact ⟨trivial, by omega, by omega⟩
        · simp only [e3, if_false]
          rw [f45 t (by omega)]
          exact hr t t1 (by omega)
      · refine ⟨iz_inb (by omega) (by omega) (by omega), iz_inb (by omega) (by omega) (by omega), ?_⟩
        rintro w7 rfl
        rw [h2, a44, if_pos rfl, iz_add]
        have f6 : fsG w w6 := fsG_trans f1 (fsG_trans g4 h1)
        have hfk : f k (hyRow f ok k.toNat S) = hyGo c p want r (fun t => if t = k then left k - 1 else left t) (fun t => if t = 5 - (r : Int) then k else row t) (10 * d + k) (hyRow f ok k.toNat S) := by rw [← hf]
        rw [← hfk] at h4
        refine kk _ ⟨by omega, _, rfl, fsG_trans f6 (fsG_sA (Or.inl rfl) _ _), ?_, fun t t1 => ?_, ?_, ?_⟩
        · funext t
          rw [gA_sA, if_pos rfl, h2, a44]
          by_cases e3 : t = k
          · simp only [e3, if_true]
            rw [l1]
            congr 1
            omega
          · simp only [e3, if_false]
        · rw [gA_sA, if_neg (by decide), h3 t (by omega), a45, if_neg (by omega)]
          exact f45 t t1
        · obtain ⟨x1, x2, x3, x4⟩ := h4
          refine ⟨x1, x2, fun z t t1 t2 => ?_, x4⟩
          rw [gA_sA, if_neg (by decide)]
          exact x3 z t t1 t2
        · rw [hfk]
          refine hyGo_F HC p want r (by omega) _ _ _ _ (fun t t1 t2 => ?_) (by omega) F1
          by_cases e3 : t = 5 - (r : Int)
          · simp only [e3, if_true]
            omega
          · simp only [e3, if_false]
            exact (hr t t1 (by omega)).2
end HM6
