/-! the histories of the component -/
/-- the component's frame while it goes through histories -/
def fsH (w w' : Wd) : Prop := (∀ k, ¬ (k = 47 ∨ k = 49) → gI w' k = gI w k) ∧ (∀ a, ¬ (a = 44 ∨ a = 45 ∨ a = 46) → gA w' a = gA w a) ∧ gJ w' = gJ w ∧ gL w' = gL w ∧ gC w' = gC w ∧ gT w' = gT w ∧ gF w' = gF w ∧ gZ w' = gZ w
theorem fsH_refl (w : Wd) : fsH w w := ⟨fun _ _ => rfl, fun _ _ => rfl, rfl, rfl, rfl, rfl, rfl, rfl⟩
theorem fsH_trans {w w' w'' : Wd} (h : fsH w w') (g : fsH w' w'') : fsH w w'' := ⟨fun k hk => (g.1 k hk).trans (h.1 k hk), fun a ha => (g.2.1 a ha).trans (h.2.1 a ha), g.2.2.1.trans h.2.2.1, g.2.2.2.1.trans h.2.2.2.1, g.2.2.2.2.1.trans h.2.2.2.2.1, g.2.2.2.2.2.1.trans h.2.2.2.2.2.1, g.2.2.2.2.2.2.1.trans h.2.2.2.2.2.2.1, g.2.2.2.2.2.2.2.trans h.2.2.2.2.2.2.2⟩
/-- the state of the histories in the component's world -/
def HyX (S : Hy) (w : Wd) : Prop := gI w 47 = iz S.1 ∧ gI w 49 = iz S.2.1 ∧ (S.1 ≠ 0 → ∀ t, 0 ≤ t → t < 6 → gA w 46 t = iz (if S.2.2.2 t = true then S.2.2.1 t else -1))
section HX3
variable {c : Cf} {h : Hs} {w : Wd} {p : Fnd}
/-- one whole history more -/
theorem x_leaf {Q : Wd → Prop} {Pt : Int32 → Int32 → Wd → (Wd → Prop) → Prop} {S : Hy} {want d : Int} {row : Int → Int} (b0 : 0 ≤ S.1) (b1 : S.1 ≤ 1000000) (hw : VR want) (e48 : gI w 48 = iz want) (hr : ∀ t, 0 ≤ t → t < 6 → gA w 45 t = iz (row t) ∧ 0 ≤ row t ∧ row t < 6) (X : HyX S w) (F : S.1 ≠ 0 → ∀ t, 0 ≤ t → t < 6 → 0 ≤ S.2.2.1 t ∧ S.2.2.1 t < 6) (q : ∀ w', fsH w w' → gA w' 44 = gA w 44 → gA w' 45 = gA w 45 → HyX (hyLeaf want d row S) w' → Q w') : wp_X1_tryRows Pt (iz 6) (iz d) w Q := by
  obtain ⟨x1, x2, x3⟩ := X
  have main : ∀ (w1 : Wd) (fd : Int), fsH w w1 → gA w1 44 = gA w 44 → gA w1 45 = gA w 45 → gA w1 46 = gA w 46 → gI w1 47 = iz S.1 → gI w1 49 = iz fd → fd = (if S.1 = want then d else S.2.1) → ∃ n, lp_X1_tryRows_24 Pt Q n (iz 0) w1 := by
    intro w1 fd f1 f44 f45 f46 f47 f49 ed
    refine lpe (fun n (s : Int32 × Wd) => lp_X1_tryRows_24 Pt Q n s.1 s.2) (fun R s => wl_X1_tryRows_24 Pt Q (fun x y => R (x, y)) s.1 s.2) (fun _ _ h => h) (fun i s => 0 ≤ i ∧ ∃ g, s = (iz i, sB w1 46 g) ∧ (∀ t, 0 ≤ t → t < i → g t = iz (if S.1 = 0 then row t else if S.2.2.2 t = true ∧ S.2.2.1 t = row t then S.2.2.1 t else -1)) ∧ ∀ t, i ≤ t → g t = gA w 46 t) 6 0 (iz 0, w1) (by decide) ⟨by decide, gA w1 46, by rw [sB_self], fun t x y => by omega, fun t _ => by rw [f46]⟩ ?_
    rintro R _ i hi ⟨hi0, g, rfl, g1, g2⟩ kk
    have eI : gI (sB w1 46 g) 47 = iz S.1 := f47
    refine br (iz_le (by decide) (by decide) (by omega) (by omega)) (fun e => ?_) (fun e => ?_)
    · obtain rfl : i = 6 := by omega
      rintro w2 rfl
      rw [eI, iz_add]
      refine q _ ?_ ?_ ?_ ?_
      · refine fsH_trans f1 ⟨fun k hk => ?_, fun a ha => ?_, rfl, rfl, rfl, rfl, rfl, rfl⟩
        · rw [gI_sI, if_neg (by omega)]
          rfl
        · funext t
          rw [gA_sI, gA_sB, if_neg (by omega)]
      · funext t
        rw [gA_sI, gA_sB, if_neg (by decide), f44]
      · funext t
        rw [gA_sI, gA_sB, if_neg (by decide), f45]
      · refine ⟨?_, ?_, fun _ t t1 t2 => ?_⟩
        · rw [gI_sI, if_pos rfl]
          rfl
        · rw [gI_sI, if_neg (by decide)]
          show gI w1 49 = _
          rw [f49, ed]
          rfl
        · rw [gA_sI, gA_sB, if_pos rfl, g1 t t1 t2]
          unfold hyLeaf
          by_cases z : S.1 = 0
          · simp only [z, if_true]
          · simp only [z, if_false]
            congr 1
            by_cases z2 : S.2.2.2 t = true ∧ S.2.2.1 t = row t
            · rw [if_pos z2]
              simp [z2.1, z2.2]
            · rw [if_neg z2, if_neg (by simpa using z2)]
    · have kk := kk (by omega)
      obtain ⟨r1, r2, r3⟩ := hr i hi0 (by omega)
      have e45 : gA (sB w1 46 g) 45 i = iz (row i) := by rw [gA_sB, if_neg (by decide), f45, r1]
      have e46 : gA (sB w1 46 g) 46 i = gA w 46 i := by rw [gA_sB, if_pos rfl, g2 i (Int.le_refl _)]
      rw [eI, iz_toInt (by omega) (by omega), e45, e46, iz_add]
      have ib : inb (iz i) 6 := iz_inb (by omega) (by omega) (by omega)
      have stp : ∀ v : Int, v = (if S.1 = 0 then row i else if S.2.2.2 i = true ∧ S.2.2.1 i = row i then S.2.2.1 i else -1) → R (iz (i + 1), sA (sB w1 46 g) 46 i (iz v)) := by
        intro v hv
        obtain ⟨g3, e3, p3, q3⟩ := sA_ex2 w1 46 g i (iz v)
        rw [e3]
        refine kk _ ⟨by omega, g3, rfl, fun t x y => ?_, fun t x => ?_⟩
        · by_cases et : t = i
          · subst et
            rw [p3, hv]
          · rw [q3 t et]
            exact g1 t x (by omega)
        · rw [q3 t (by omega)]
          exact g2 t (by omega)
      refine br (iz_eq (by omega) (by omega) (by decide) (by decide)) (fun e2 => ⟨ib, ib, ?_⟩) (fun e2 => ⟨ib, ib, ?_⟩)
      · rintro w2 rfl
        exact stp _ (by rw [if_pos e2])
      · have y := x3 e2 i hi0 (by omega)
        have ff := F e2 i hi0 (by omega)
        rw [y]
        by_cases z : S.2.2.2 i = true
        · rw [if_pos z]
          refine brn (iz_eq (by omega) (by omega) (by omega) (by omega)) (fun e3 => ⟨ib, ?_⟩) (fun e3 => ⟨ib, ib, ?_⟩)
          · rintro w2 rfl
            exact stp _ (by rw [if_neg e2, if_neg (fun k => e3 k.2)])
          · rintro w2 rfl
            exact stp _ (by rw [if_neg e2, if_pos ⟨z, e3⟩, e3])
        · rw [if_neg z]
          refine brn (iz_eq (by decide) (by decide) (by omega) (by omega)) (fun e3 => ⟨ib, ?_⟩) (fun e3 => by omega)
          rintro w2 rfl
          exact stp _ (by rw [if_neg e2, if_neg (fun k => z k.1)])
  unfold wp_X1_tryRows
  refine ⟨fun x => absurd rfl x, fun _ => ?_⟩
  rw [x1, e48]
  refine brn (iz_eq (by omega) (by omega) hw.1 hw.2) (fun e => ?_) (fun e => ?_)
  · exact main w S.2.1 (fsH_refl w) rfl rfl rfl x1 x2 (by rw [if_neg e])
  · rintro w3 rfl
    refine main _ d ⟨fun k hk => ?_, fun a ha => rfl, rfl, rfl, rfl, rfl, rfl, rfl⟩ rfl rfl rfl ?_ ?_ (by rw [if_pos e])
    · rw [gI_sI, if_neg (by omega)]
    · rw [gI_sI, if_neg (by decide)]
      exact x1
    · rw [gI_sI, if_pos rfl]
end HX3
