/-! the component's deeds: keeping, putting aside -/
theorem AXf_shift {h : Hs} {f g : Int → Int32} {o p : Int} (A : AXf h f o) (G1 : 0 ≤ hn h) (G2 : hn h ≤ 8) (G3 : hl h ≤ 60) (e : ∀ t, 0 ≤ t → t < 275 → g (p + t) = f (o + t)) : AXf h g p := by
  refine ⟨?_, ?_, ?_, fun b j b1 b2 j1 j2 => ?_, fun b b1 b2 => ?_, fun i j i1 i2 j1 j2 => ?_⟩
  · rw [e _ (by omega) (by omega)]; exact A.1
  · rw [e _ (by omega) (by omega)]; exact A.2.1
  · rw [e _ (by omega) (by omega)]; exact A.2.2.1
  · rw [e _ (by omega) (by omega)]; exact A.2.2.2.1 b j b1 b2 j1 j2
  · rw [e _ (by omega) (by omega)]; exact A.2.2.2.2.1 b b1 b2
  · rw [e _ (by omega) (by omega)]; exact A.2.2.2.2.2 i j i1 i2 j1 j2
/-- the kept houses, the newest last: how many, which -/
abbrev Ks : Type := Int × (Int → Hs)
def KOK (c : Cf) (k : Ks) : Prop := 0 ≤ k.1 ∧ k.1 ≤ 40 ∧ ∀ i, 0 ≤ i → i < k.1 → HsOK c (k.2 i)
def KXf (k : Ks) (f : Int → Int32) : Prop := ∀ i, 0 ≤ i → i < k.1 → AXf (k.2 i) f (275 * i)
def KMf (k : Ks) (f : Int → Int32) : Prop := ∀ i, 0 ≤ i → i < k.1 → AMf (k.2 i) f (283 * i)
def kPush (k : Ks) (h : Hs) : Ks := if k.1 = 40 then (40, fun i => if i = 39 then h else k.2 (i + 1)) else (k.1 + 1, fun i => if i = k.1 then h else k.2 i)
theorem kPush_ok {c : Cf} {k : Ks} {h : Hs} (H : KOK c k) (G : HsOK c h) : KOK c (kPush k h) := by
  obtain ⟨h1, h2, h3⟩ := H
  unfold kPush
  by_cases e : k.1 = 40
  · rw [if_pos e]
    refine ⟨(by decide : (0 : Int) ≤ 40), (by decide : (40 : Int) ≤ 40), fun i i1 i2 => ?_⟩
    have i2 : i < 40 := i2
    by_cases e2 : i = 39
    · simp only [e2, if_true]; exact G
    · simp only [e2, if_false]; exact h3 _ (by omega) (by omega)
  · rw [if_neg e]
    refine ⟨(by omega : (0 : Int) ≤ k.1 + 1), (by omega : k.1 + 1 ≤ 40), fun i i1 i2 => ?_⟩
    have i2 : i < k.1 + 1 := i2
    by_cases e2 : i = k.1
    · simp only [e2, if_true]; exact G
    · simp only [e2, if_false]; exact h3 _ (by omega) (by omega)
theorem sI_sBI (w : Wd) (k : Nat) (v v' : Int32) (a : Nat) (f : Int → Int32) : sI (sB (sI w k v) a f) k v' = sI (sB w a f) k v' := by
  unfold sI sB
  refine Prod.ext ?_ rfl
  funext j
  by_cases h : j = k
  · subst h; simp
  · simp [h]
section XM3
variable {c : Cf} {h : Hs} {w : Wd}
theorem gA_32 (w : Wd) (f : Int → Int32) (i : Int) : gA (sB w 32 f) 32 i = f i := by rw [gA_sB, if_pos rfl]
theorem x_actEnd {Q : Wd → Prop} (H : HX c h w) {k : Ks} {f0 : Int → Int32} (k1 : 0 ≤ k.1) (k2 : k.1 ≤ 39) (kk : KXf k f0) (q : ∀ f, KXf (k.1 + 1, fun i => if i = k.1 then h else k.2 i) f → Q (sI (sB w 32 f) 33 (iz (k.1 + 1)))) {w0 : Wd} (e0 : w0 = sB (sI w 33 (iz k.1)) 32 f0) (G : KOK c k) : ∃ n, lp_X1_act_54 Q n (iz 0) w0 := by
  subst e0
  refine lpe (fun n1 (s : Int32 × Wd) => lp_X1_act_54 Q n1 s.1 s.2) (fun R s => wl_X1_act_54 Q (fun x y => R (x, y)) s.1 s.2) (fun _ _ h => h) (fun i s => 0 ≤ i ∧ ∃ f, s = (iz i, sB (sI w 33 (iz k.1)) 32 f) ∧ (∀ t, 0 ≤ t → t < i → f (275 * k.1 + t) = gA w 31 t) ∧ ∀ t, t < 275 * k.1 → f t = f0 t) 275 0 (iz 0, sB (sI w 33 (iz k.1)) 32 f0) (by decide) ⟨by decide, f0, rfl, fun j x y => by omega, fun t _ => rfl⟩ ?_
  rintro R _ i hi ⟨hi0, f, rfl, g1, g2⟩ kk2
  have eI : gI (sB (sI w 33 (iz k.1)) 32 f) 33 = iz k.1 := by rw [gI_sB, gI_sI, if_pos rfl]
  refine br (iz_le (by decide) (by decide) (by omega) (by omega)) (fun e => ?_) (fun e => ?_)
  · obtain rfl : i = 275 := by omega
    rintro w1 rfl
    rw [eI, iz_add]
    have := q f (fun i i1 i2 => ?_)
    · rw [← sI_sBI w 33 (iz k.1)] at this
      exact this
    · have i2 : i < k.1 + 1 := i2
      by_cases e2 : i = k.1
      · subst e2
        simp only [if_true]
        exact AXf_shift H.ax H.hs.1 H.hs.2.1 H.hs.2.2.2.2.2.1 (fun t t1 t2 => by rw [g1 t t1 t2, Int.zero_add])
      · simp only [e2, if_false]
        have z := G.2.2 i i1 (by omega)
        exact AXf_shift (kk i i1 (by omega)) z.1 z.2.1 z.2.2.2.2.2.1 (fun t t1 t2 => g2 _ (by omega))
  · have e31 : gA (sB (sI w 33 (iz k.1)) 32 f) 31 i = gA w 31 i := by rw [gA_sB, if_neg (by decide), gA_sI]
    refine ⟨iz_inb (by omega) (by omega) (by omega), ?_⟩
    rw [eI, iz_mul, iz_add, iz_toInt (by omega) (by omega)]
    refine ⟨iz_inb (by omega) (by omega) (by omega), ?_⟩
    rw [iz_toInt (by omega) (by omega), e31]
    rintro w2 rfl
    obtain ⟨f1, e1, p1, r1⟩ := sA_ex2 (sI w 33 (iz k.1)) 32 f (275 * k.1 + i) (gA w 31 i)
    rw [e1, iz_add]
    refine kk2 (by omega) _ ⟨by omega, f1, rfl, fun t x y => ?_, fun t ht => ?_⟩
    · by_cases e6 : t = i
      · subst e6
        exact p1
      · rw [r1 _ (by omega)]
        exact g1 t x (by omega)
    · rw [r1 _ (by omega)]
      exact g2 t ht
theorem x_act {Q : Wd → Prop} (H : HX c h w) {k : Ks} (G : KOK c k) (k1 : gI w 33 = iz k.1) (kk : KXf k (gA w 32)) (q : ∀ f, KXf (kPush k h) f → Q (sI (sB w 32 f) 33 (iz (kPush k h).1))) : wp_X1_act w Q := by
  unfold wp_X1_act
  obtain ⟨G1, G2, G3⟩ := G
  rw [k1]
  refine brn (iz_eq (by omega) (by omega) (by decide) (by decide)) (fun e => ?_) (fun e => ?_)
  · refine x_actEnd (Q := Q) (k := k) (f0 := gA w 32) H G1 (by omega) kk (fun f hf => ?_) ?_ ⟨G1, G2, G3⟩
    · have := q f (by unfold kPush; rw [if_neg e]; exact hf)
      unfold kPush at this
      rwa [if_neg e] at this
    · rw [← k1]
      have e1 : sI w 33 (gI w 33) = w := by
        unfold sI gI
        refine Prod.ext ?_ rfl
        funext j
        by_cases h : j = 33
        · subst h; simp
        · simp [h]
      rw [e1, sB_self]
  · refine lpe (fun n1 (s : Int32 × Wd) => lp_X1_act_13 Q n1 s.1 s.2) (fun R s => wl_X1_act_13 Q (fun x y => R (x, y)) s.1 s.2) (fun _ _ h => h) (fun i s => 275 ≤ i ∧ ∃ f, s = (iz i, sB w 32 f) ∧ (∀ t, 0 ≤ t → t < i - 275 → f t = gA w 32 (t + 275)) ∧ ∀ t, i - 275 ≤ t → f t = gA w 32 t) 11000 275 (iz 275, w) (by decide) ⟨by decide, gA w 32, by rw [sB_self], fun j x y => by omega, fun t _ => rfl⟩ ?_
    rintro R _ i hi ⟨hi0, f, rfl, g1, g2⟩ kk2
    refine br (iz_le (by decide) (by decide) (by omega) (by omega)) (fun e5 => ?_) (fun e5 => ?_)
    · obtain rfl : i = 11000 := by omega
      rintro w1 rfl
      rw [gI_sB, k1, e, iz_sub]
      refine x_actEnd (Q := Q) (k := (39, fun i => k.2 (i + 1))) (f0 := f) H (show (0 : Int) ≤ 39 by decide) (show (39 : Int) ≤ 39 by decide) (fun i i1 i2 => ?_) (fun f hf => ?_) rfl ⟨(show (0 : Int) ≤ 39 by decide), (show (39 : Int) ≤ 40 by decide), fun i i1 i2 => G3 (i + 1) (by omega) (by have i2 : i < 39 := i2; omega)⟩
      · have i2 : i < 39 := i2
        have z := G3 (i + 1) (by omega) (by omega)
        exact AXf_shift (kk (i + 1) (by omega) (by omega)) z.1 z.2.1 z.2.2.2.2.2.1 (fun t t1 t2 => by rw [g1 _ (by omega) (by omega)]; congr 1; omega)
      · have := q f (by unfold kPush; rw [if_pos e]; exact hf)
        unfold kPush at this
        rwa [if_pos e] at this
    · refine ⟨iz_inb (by omega) (by omega) (by omega), ?_⟩
      rw [iz_sub]
      refine ⟨iz_inb (by omega) (by omega) (by omega), ?_⟩
      rintro w2 rfl
      rw [gA_32, iz_toInt (by omega) (by omega), iz_toInt (by omega) (by omega), g2 _ (by omega)]
      obtain ⟨f1, e1, p1, r1⟩ := sA_ex2 w 32 f (i - 275) (gA w 32 i)
      rw [e1, iz_add]
      refine kk2 (by omega) _ ⟨by omega, f1, rfl, fun t x y => ?_, fun t ht => ?_⟩
      · by_cases e6 : t = i - 275
        · subst e6
          rw [p1]
          congr 1
          omega
        · rw [r1 _ (by omega)]
          exact g1 t x (by omega)
      · rw [r1 _ (by omega)]
        exact g2 t (by omega)
theorem x_putAside {Q : Wd → Prop} (q : ∀ f, (∀ t, 0 ≤ t → t < 275 → f t = gA w 31 t) → Q (sB w 35 f)) : wp_X1_putAside w Q := by
  refine lpe (fun n1 (s : Int32 × Wd) => lp_X1_putAside_2 Q n1 s.1 s.2) (fun R s => wl_X1_putAside_2 Q (fun x y => R (x, y)) s.1 s.2) (fun _ _ h => h) (fun i s => 0 ≤ i ∧ ∃ f, s = (iz i, sB w 35 f) ∧ (∀ t, 0 ≤ t → t < i → f t = gA w 31 t)) 275 0 (iz 0, w) (by decide) ⟨by decide, gA w 35, by rw [sB_self], fun j x y => by omega⟩ ?_
  rintro R _ i hi ⟨hi0, f, rfl, g1⟩ kk
  refine br (iz_le (by decide) (by decide) (by omega) (by omega)) (fun e => ?_) (fun e => ?_)
  · obtain rfl : i = 275 := by omega
    exact q f g1
  · refine ⟨iz_inb (by omega) (by omega) (by omega), iz_inb (by omega) (by omega) (by omega), ?_⟩
    rintro w1 rfl
    rw [iz_toInt (by omega) (by omega), gA_sB, if_neg (by decide)]
    obtain ⟨f1, e1, p1, r1⟩ := sA_ex2 w 35 f i (gA w 31 i)
    rw [e1, iz_add]
    refine kk (by omega) _ ⟨by omega, f1, rfl, fun t x y => ?_⟩
    by_cases e6 : t = i
    · subst e6
      exact p1
    · rw [r1 _ (by omega)]
      exact g1 t x (by omega)
theorem x_takeBack {Q : Wd → Prop} (q : ∀ f, (∀ t, 0 ≤ t → t < 275 → f t = gA w 35 t) → Q (sB w 31 f)) : wp_X1_takeBack w Q := by
  refine lpe (fun n1 (s : Int32 × Wd) => lp_X1_takeBack_2 Q n1 s.1 s.2) (fun R s => wl_X1_takeBack_2 Q (fun x y => R (x, y)) s.1 s.2) (fun _ _ h => h) (fun i s => 0 ≤ i ∧ ∃ f, s = (iz i, sB w 31 f) ∧ (∀ t, 0 ≤ t → t < i → f t = gA w 35 t)) 275 0 (iz 0, w) (by decide) ⟨by decide, gA w 31, by rw [sB_self], fun j x y => by omega⟩ ?_
  rintro R _ i hi ⟨hi0, f, rfl, g1⟩ kk
  refine br (iz_le (by decide) (by decide) (by omega) (by omega)) (fun e => ?_) (fun e => ?_)
  · obtain rfl : i = 275 := by omega
    exact q f g1
  · refine ⟨iz_inb (by omega) (by omega) (by omega), iz_inb (by omega) (by omega) (by omega), ?_⟩
    rintro w1 rfl
    rw [iz_toInt (by omega) (by omega), gA_sB, if_neg (by decide)]
    obtain ⟨f1, e1, p1, r1⟩ := sA_ex2 w 31 f i (gA w 35 i)
    rw [e1, iz_add]
    refine kk (by omega) _ ⟨by omega, f1, rfl, fun t x y => ?_⟩
    by_cases e6 : t = i
    · subst e6
      exact p1
    · rw [r1 _ (by omega)]
      exact g1 t x (by omega)
end XM3
