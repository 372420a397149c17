/-! THE WHOLE STATE on both sides, and what an operation may touch -/
def xI (k : Nat) : Bool := [13, 14, 21, 22, 33, 47, 48, 49].contains k
def xA (a : Nat) : Bool := [15, 16, 17, 18, 24, 25, 31, 32, 35, 36, 44, 45, 46].contains a
def xB (a : Nat) : Bool := [15, 16, 17, 18, 31, 32, 35, 36, 44, 45, 46].contains a
/-- the component's frame -/
def fX (z : Nat) (w w' : Wd) : Prop := (∀ k, xI k = false → gI w' k = gI w k) ∧ (∀ a, xA a = false → gA w' a = gA w a) ∧ (∀ t, t < 256 → gA w' 24 t = gA w 24 t) ∧ (∀ t, t < 4 → gA w' 25 t = gA w 25 t) ∧ (∀ k, k ≠ 34 → gJ w' k = gJ w k) ∧ (∀ a, a ≠ 3 → gL w' a = gL w a) ∧ gC w' = gC w ∧ (∀ r, gF w r ≠ none → gF w' r = gF w r) ∧ gZ w ≤ gZ w' ∧ gZ w' ≤ gZ w + z
def mI (k : Nat) : Bool := [60, 68, 69, 70, 71, 72, 73, 74, 77, 86, 87, 89, 97, 99, 100, 111, 112, 113].contains k
def mA (a : Nat) : Bool := [64, 79, 81, 82, 83, 84, 90, 91, 95, 96, 106, 107, 108].contains a
def mB (a : Nat) : Bool := [64, 79, 81, 82, 90, 91, 95, 96, 106, 107, 108].contains a
/-- the model's -/
def fM (w w' : Wd) : Prop := (∀ k, mI k = false → gI w' k = gI w k) ∧ (∀ a, mA a = false → gA w' a = gA w a) ∧ (∀ t, t < 256 → gA w' 83 t = gA w 83 t) ∧ (∀ t, t < 4 → gA w' 84 t = gA w 84 t) ∧ (∀ k, k ≠ 98 → gJ w' k = gJ w k) ∧ (∀ a, a ≠ 94 → gL w' a = gL w a) ∧ gC w' = gC w ∧ gF w' = gF w ∧ gZ w' = gZ w
section FR
variable {w w' w'' : Wd} {z : Nat}
theorem fX.refl (w : Wd) : fX 0 w w := ⟨fun _ _ => rfl, fun _ _ => rfl, fun _ _ => rfl, fun _ _ => rfl, fun _ _ => rfl, fun _ _ => rfl, rfl, fun _ _ => rfl, Nat.le_refl _, Nat.le_refl _⟩
theorem fX.trans {z1 z2 : Nat} (f : fX z1 w w') (g : fX z2 w' w'') : fX (z1 + z2) w w'' := by
  obtain ⟨f1, f2, f3, f4, f5, f6, f7, f8, f9, f10⟩ := f
  obtain ⟨g1, g2, g3, g4, g5, g6, g7, g8, g9, g10⟩ := g
  refine ⟨fun k h => (g1 k h).trans (f1 k h), fun k h => (g2 k h).trans (f2 k h), fun k h => (g3 k h).trans (f3 k h), fun k h => (g4 k h).trans (f4 k h), fun k h => (g5 k h).trans (f5 k h), fun k h => (g6 k h).trans (f6 k h), g7.trans f7, fun r h => ?_, by omega, by omega⟩
  have e := f8 r h
  rw [g8 r (by rw [e]; exact h), e]
theorem fX.tr0 (f : fX z w w') (g : fX 0 w' w'') : fX z w w'' := f.trans g
theorem fX.ztr (f : fX 0 w w') (g : fX z w' w'') : fX z w w'' := by
  have := f.trans g
  rwa [Nat.zero_add] at this
theorem fX.up (f : fX 0 w w') : fX z w w' := by
  obtain ⟨f1, f2, f3, f4, f5, f6, f7, f8, f9, f10⟩ := f
  exact ⟨f1, f2, f3, f4, f5, f6, f7, f8, f9, by omega⟩
theorem xB_x {a : Nat} (h : xB a = true) : xA a = true ∧ a ≠ 24 ∧ a ≠ 25 := by
  unfold xB at h
  unfold xA
  simp at h ⊢
  omega
theorem fX.sB0 (w : Wd) {a : Nat} (h : xB a = true) (g : Int → Int32) : fX 0 w (sB w a g) := by
  obtain ⟨h1, h2, h3⟩ := xB_x h
  refine ⟨fun _ _ => rfl, fun b hb => ?_, fun t _ => ?_, fun t _ => ?_, fun _ _ => rfl, fun _ _ => rfl, rfl, fun _ _ => rfl, Nat.le_refl _, Nat.le_refl _⟩
  · exact gA_n w (fun e => by rw [e, h1] at hb; cases hb) g
  · rw [gA_sB, if_neg (fun e => h2 e.symm)]
  · rw [gA_sB, if_neg (fun e => h3 e.symm)]
theorem fX.sB (f : fX z w w') {a : Nat} (h : xB a = true) (g : Int → Int32) : fX z w (sB w' a g) := f.tr0 (fX.sB0 w' h g)
theorem fX.sA (f : fX z w w') {a : Nat} (h : xB a = true) (i : Int) (v : Int32) : fX z w (sA w' a i v) := by
  rw [sA_sB]
  exact f.sB h _
theorem fX.sI (f : fX z w w') {k : Nat} (h : xI k = true) (v : Int32) : fX z w (sI w' k v) := by
  refine f.tr0 ⟨fun j hj => ?_, fun _ _ => rfl, fun _ _ => rfl, fun _ _ => rfl, fun _ _ => rfl, fun _ _ => rfl, rfl, fun _ _ => rfl, Nat.le_refl _, Nat.le_refl _⟩
  rw [gI_sI, if_neg (fun e => by rw [e, h] at hj; cases hj)]
theorem gJ_sJ (w : Wd) (k j : Nat) (v : Int64) : gJ (sJ w k v) j = if j = k then v else gJ w j := rfl
theorem fX.sJ (f : fX z w w') (v : Int64) : fX z w (sJ w' 34 v) := by
  refine f.tr0 ⟨fun j hj => rfl, fun _ _ => rfl, fun _ _ => rfl, fun _ _ => rfl, fun j hj => ?_, fun _ _ => rfl, rfl, fun _ _ => rfl, Nat.le_refl _, Nat.le_refl _⟩
  rw [gJ_sJ, if_neg hj]
theorem fX.h3 (f : fsH3 w w') : fX 0 w w' := by
  obtain ⟨f1, f2, f3, f4, f5, f6, f7, f8⟩ := f
  refine ⟨fun k hk => f1 k (fun e => ?_), fun a ha => f2 a (fun e => ?_), fun t _ => by rw [f2 24 (by decide)], fun t _ => by rw [f2 25 (by decide)], fun _ _ => by rw [f3], fun _ _ => by rw [f4], f5, fun _ _ => by rw [f7], by rw [f8]; exact Nat.le_refl _, by rw [f8]; exact Nat.le_refl _⟩
  · unfold xI at hk
    simp at hk
    omega
  · unfold xA at ha
    simp at ha
    omega
theorem fM.refl (w : Wd) : fM w w := ⟨fun _ _ => rfl, fun _ _ => rfl, fun _ _ => rfl, fun _ _ => rfl, fun _ _ => rfl, fun _ _ => rfl, rfl, rfl, rfl⟩
theorem fM.trans (f : fM w w') (g : fM w' w'') : fM w w'' := by
  obtain ⟨f1, f2, f3, f4, f5, f6, f7, f8, f9⟩ := f
  obtain ⟨g1, g2, g3, g4, g5, g6, g7, g8, g9⟩ := g
  exact ⟨fun k h => (g1 k h).trans (f1 k h), fun k h => (g2 k h).trans (f2 k h), fun k h => (g3 k h).trans (f3 k h), fun k h => (g4 k h).trans (f4 k h), fun k h => (g5 k h).trans (f5 k h), fun k h => (g6 k h).trans (f6 k h), g7.trans f7, g8.trans f8, g9.trans f9⟩
theorem mB_x {a : Nat} (h : mB a = true) : mA a = true ∧ a ≠ 83 ∧ a ≠ 84 := by
  unfold mB at h
  unfold mA
  simp at h ⊢
  omega
theorem fM.sB (f : fM w w') {a : Nat} (h : mB a = true) (g : Int → Int32) : fM w (sB w' a g) := by
  obtain ⟨h1, h2, h3⟩ := mB_x h
  refine f.trans ⟨fun _ _ => rfl, fun b hb => ?_, fun t _ => ?_, fun t _ => ?_, fun _ _ => rfl, fun _ _ => rfl, rfl, rfl, rfl⟩
  · exact gA_n w' (fun e => by rw [e, h1] at hb; cases hb) g
  · rw [gA_sB, if_neg (fun e => h2 e.symm)]
  · rw [gA_sB, if_neg (fun e => h3 e.symm)]
theorem fM.sA (f : fM w w') {a : Nat} (h : mB a = true) (i : Int) (v : Int32) : fM w (sA w' a i v) := by
  rw [sA_sB]
  exact f.sB h _
theorem fM.sI (f : fM w w') {k : Nat} (h : mI k = true) (v : Int32) : fM w (sI w' k v) := by
  refine f.trans ⟨fun j hj => ?_, fun _ _ => rfl, fun _ _ => rfl, fun _ _ => rfl, fun _ _ => rfl, fun _ _ => rfl, rfl, rfl, rfl⟩
  rw [gI_sI, if_neg (fun e => by rw [e, h] at hj; cases hj)]
theorem fM.sJ (f : fM w w') (v : Int64) : fM w (sJ w' 98 v) := by
  refine f.trans ⟨fun j hj => rfl, fun _ _ => rfl, fun _ _ => rfl, fun _ _ => rfl, fun j hj => ?_, fun _ _ => rfl, rfl, rfl, rfl⟩
  rw [gJ_sJ, if_neg hj]
theorem fsM.f (f : fsM w w') : fM w w' := by
  obtain ⟨f1, f2, f3, f4, f5, f6, f7⟩ := f
  refine ⟨fun k hk => f1 k (fun e => ?_), fun a ha => f2 a (fun e => ?_), fun t _ => by rw [f2 83 (by decide)], fun t _ => by rw [f2 84 (by decide)], fun _ _ => by rw [f3], f4, f5, f6, f7⟩
  · unfold mI at hk
    simp at hk
    omega
  · unfold mA at ha
    simp at ha
    omega
theorem fsE.f (f : fsE w w') : fM w w' := by
  obtain ⟨f1, f2, f3, f4, f5, f6, f7⟩ := f
  refine ⟨fun k hk => f1 k (fun e => ?_), fun a ha => f2 a (fun e => ?_), fun t _ => by rw [f2 83 (by decide)], fun t _ => by rw [f2 84 (by decide)], fun _ _ => by rw [f3], f4, f5, f6, f7⟩
  · unfold mI at hk
    simp at hk
    omega
  · unfold mA at ha
    simp at ha
    omega
theorem fsG.f (f : fsG w w') : fM w w' := by
  obtain ⟨f1, f2, f3, f4, f5, f6, f7⟩ := f
  refine ⟨fun k hk => f1 k (fun e => ?_), fun a ha => f2 a (fun e => ?_), fun t _ => by rw [f2 83 (by decide)], fun t _ => by rw [f2 84 (by decide)], fun _ _ => by rw [f3], fun _ _ => by rw [f4], f5, f6, f7⟩
  · unfold mI at hk
    simp at hk
    omega
  · unfold mA at ha
    simp at ha
    omega
end FR
/-- the tape: how many bytes, which (from -128 on) -/
abbrev Tp : Type := Int × (Int → Int)
def TpOK (p : Tp) : Prop := 0 ≤ p.1 ∧ p.1 ≤ 240 ∧ ∀ i, -128 ≤ p.2 i ∧ p.2 i ≤ 127
def TpX (p : Tp) (w : Wd) : Prop := gI w 12 = iz p.1 ∧ ∀ i, 0 ≤ i → i < p.1 → gA w 11 i = iz (p.2 i)
def TpM (p : Tp) (w : Wd) : Prop := gI w 66 = iz p.1 ∧ ∀ i, 0 ≤ i → i < p.1 → gA w 61 i = iz (p.2 i)
/-- the plans: how many, how long each, their numbers (64 to a plan, 4 to a step) -/
abbrev Pl : Type := Int × (Int → Int) × (Int → Int)
def stepOK (f : Int → Int) (t : Int) : Prop := 0 ≤ f t ∧ f t ≤ 4 ∧ 0 ≤ f (t + 1) ∧ f (t + 1) ≤ 99 ∧ (f t ≤ 3 → f (t + 1) ≤ 9) ∧ -1 ≤ f (t + 2) ∧ f (t + 2) ≤ 9 ∧ -1 ≤ f (t + 3) ∧ f (t + 3) ≤ 1 ∧ (f t = 0 → 0 ≤ f (t + 2) ∧ 0 ≤ f (t + 3))
def PlOK (p : Pl) : Prop := 0 ≤ p.1 ∧ p.1 ≤ 4 ∧ ∀ q, 0 ≤ q → q < p.1 → 1 ≤ p.2.1 q ∧ p.2.1 q ≤ 16 ∧ ∀ i, 0 ≤ i → i < p.2.1 q → stepOK p.2.2 (64 * q + 4 * i)
def PlX (p : Pl) (w : Wd) : Prop := gI w 26 = iz p.1 ∧ ∀ q, 0 ≤ q → q < p.1 → gA w 25 q = iz (p.2.1 q) ∧ ∀ t, 0 ≤ t → t < 4 * p.2.1 q → gA w 24 (64 * q + t) = iz (p.2.2 (64 * q + t))
def PlM (p : Pl) (w : Wd) : Prop := gI w 88 = iz p.1 ∧ ∀ q, 0 ≤ q → q < p.1 → gA w 84 q = iz (p.2.1 q) ∧ ∀ t, 0 ≤ t → t < 4 * p.2.1 q → gA w 83 (64 * q + t) = iz (p.2.2 (64 * q + t))
/-- one law of the component -/
def LXi (c : Cf) (w : Wd) (i : Int) : Prop := ∀ (w' : Wd) (a o n y k m : Int) (Q : Int32 → Wd → Prop), (∀ r, gF w r ≠ none → gF w' r = gF w r) → gA w' 15 97 = iz a → gA w' 15 111 = iz o → gA w' 15 110 = iz n → gA w' 15 121 = iz y → gA w' 15 107 = iz k → gA w' 15 109 = iz m → Q (iz (cF c i a o n y k m)) w' → wp_X1_worth (gC w i) (iz 121) 15 w' Q
def SOK (c : Cf) (lm : Int) (h : Hs) (k : Ks) (im : Int × Hs) (hv : Int) (tp : Tp) (pl : Pl) (pk : Pk) (fn : Fnd) : Prop := CfOK c ∧ 0 ≤ lm ∧ lm ≤ 4 ∧ cH c < lm ∧ HsOK c h ∧ KOK c k ∧ (im.1 = 0 ∨ im.1 = 1 ∧ HsOK c im.2) ∧ 0 ≤ hv ∧ hv ≤ 9 ∧ TpOK tp ∧ PlOK pl ∧ PkOK pk ∧ FnOK fn
def SX (c : Cf) (lm : Int) (h : Hs) (k : Ks) (im : Int × Hs) (hv : Int) (tp : Tp) (pl : Pl) (pk : Pk) (fn : Fnd) (w : Wd) : Prop := gI w 28 = iz lm ∧ (∀ i, 0 ≤ i → i < lm → LXi c w i) ∧ gI w 23 = iz (cK c) ∧ (∀ i, 0 ≤ i → i < 4 → gA w 19 i = iz (cR c i)) ∧ (∀ i, 0 ≤ i → i < 30 → gA w 20 i = iz (cD c i)) ∧ gI w 29 = iz (cH c) ∧ AXf h (gA w 31) 0 ∧ gI w 33 = iz k.1 ∧ KXf k (gA w 32) ∧ gI w 51 = iz im.1 ∧ (im.1 = 1 → AXf im.2 (gA w 50) 0) ∧ gI w 30 = iz hv ∧ TpX tp w ∧ PlX pl w ∧ PkX pk w ∧ FnX fn w
def SM (c : Cf) (lm : Int) (h : Hs) (k : Ks) (im : Int × Hs) (hv : Int) (tp : Tp) (pl : Pl) (pk : Pk) (fn : Fnd) (w : Wd) : Prop := HM c lm w ∧ gI w 67 = iz lm ∧ AMf h (gA w 90) 0 ∧ gI w 97 = iz k.1 ∧ KMf k (gA w 96) ∧ gI w 115 = iz im.1 ∧ (im.1 = 1 → AMf im.2 (gA w 114) 0) ∧ gI w 93 = iz hv ∧ TpM tp w ∧ PlM pl w ∧ PkM pk w ∧ FnM fn w
/-- the invariant of the law's loop -/
def INV (z : Nat) (w : Wd) : Prop := ∃ c lm h k im hv tp pl pk fn, SOK c lm h k im hv tp pl pk fn ∧ SX c lm h k im hv tp pl pk fn w ∧ SM c lm h k im hv tp pl pk fn w ∧ gZ w ≤ z
section ST
variable {c : Cf} {lm : Int} {h h' : Hs} {k k' : Ks} {im : Int × Hs} {hv : Int} {tp : Tp} {pl : Pl} {pk : Pk} {fn : Fnd} {w w' w'' : Wd} {z : Nat}
theorem SX.hx (X : SX c lm h k im hv tp pl pk fn w) (ok : SOK c lm h k im hv tp pl pk fn) : HX c h w := by
  obtain ⟨x1, x2, x3, x4, x5, x6, x7, x8⟩ := X
  obtain ⟨o1, o2, o3, o4, o5, o6⟩ := ok
  exact ⟨o1, o5, x3, x4, x5, x6, x7, fun i i1 i2 e => x2 i i1 (by omega)⟩
theorem SM.hm (M : SM c lm h k im hv tp pl pk fn w) : HM c lm w := M.1
theorem SM.mh (M : SM c lm h k im hv tp pl pk fn w) (ok : SOK c lm h k im hv tp pl pk fn) : MH c 90 h w := ⟨ok.2.2.2.2.1, M.2.2.1⟩
theorem LXi.fr {i : Int} (L : LXi c w i) (e : gC w' = gC w) (g : ∀ r, gF w r ≠ none → gF w' r = gF w r) : LXi c w' i := by
  intro w2 a o n y k m Q g2 h1 h2 h3 h4 h5 h6 q
  rw [e]
  refine L w2 a o n y k m Q (fun r hr => ?_) h1 h2 h3 h4 h5 h6 q
  have := g r hr
  rw [g2 r (by rw [this]; exact hr), this]
/-- the component after a deed -/
theorem SX.deed (X : SX c lm h k im hv tp pl pk fn w) (ok : SOK c lm h k im hv tp pl pk fn) (f : fX z w w') (a : AXf h' (gA w' 31) 0) (b : gI w' 33 = iz k'.1) (d : KXf k' (gA w' 32)) : SX c lm h' k' im hv tp pl pk fn w' := by
  obtain ⟨x1, x2, x3, x4, x5, x6, x7, x8, x9, x10, x11, x12, x13, x14, x15, x16⟩ := X
  obtain ⟨f1, f2, f3, f4, f5, f6, f7, f8, f9, f10⟩ := f
  have okP := ok.2.2.2.2.2.2.2.2.2.2.1
  refine ⟨by rw [f1 28 (by decide)]; exact x1, fun i i1 i2 => (x2 i i1 i2).fr f7 f8, by rw [f1 23 (by decide)]; exact x3, by rw [f2 19 (by decide)]; exact x4, by rw [f2 20 (by decide)]; exact x5, by rw [f1 29 (by decide)]; exact x6, a, b, d, by rw [f1 51 (by decide)]; exact x10, by rw [f2 50 (by decide)]; exact x11, by rw [f1 30 (by decide)]; exact x12, ?_, ?_, ?_, ?_⟩
  · unfold TpX
    rw [f1 12 (by decide), f2 11 (by decide)]
    exact x13
  · refine ⟨by rw [f1 26 (by decide)]; exact x14.1, fun q q1 q2 => ?_⟩
    obtain ⟨y1, y2⟩ := x14.2 q q1 q2
    obtain ⟨p1, p2, p3⟩ := okP
    have p3 := p3 q q1 q2
    refine ⟨by rw [f4 q (by omega)]; exact y1, fun t t1 t2 => by rw [f3 _ (by omega)]; exact y2 t t1 t2⟩
  · unfold PkX
    rw [f1 39 (by decide), f2 37 (by decide), f2 38 (by decide)]
    exact x15
  · unfold FnX
    rw [f1 43 (by decide), f2 40 (by decide), f2 41 (by decide), f2 42 (by decide)]
    exact x16
theorem SX.fr (X : SX c lm h k im hv tp pl pk fn w) (f : fM w w') : SX c lm h k im hv tp pl pk fn w' := by
  obtain ⟨x1, x2, x3, x4, x5, x6, x7, x8, x9, x10, x11, x12, x13, x14, x15, x16⟩ := X
  obtain ⟨f1, f2, f3, f4, f5, f6, f7, f8, f9⟩ := f
  refine ⟨by rw [f1 28 (by decide)]; exact x1, fun i i1 i2 => (x2 i i1 i2).fr f7 (fun r _ => by rw [f8]), by rw [f1 23 (by decide)]; exact x3, by rw [f2 19 (by decide)]; exact x4, by rw [f2 20 (by decide)]; exact x5, by rw [f1 29 (by decide)]; exact x6, by rw [f2 31 (by decide)]; exact x7, by rw [f1 33 (by decide)]; exact x8, by rw [f2 32 (by decide)]; exact x9, by rw [f1 51 (by decide)]; exact x10, by rw [f2 50 (by decide)]; exact x11, by rw [f1 30 (by decide)]; exact x12, ?_, ?_, ?_, ?_⟩
  · unfold TpX
    rw [f1 12 (by decide), f2 11 (by decide)]
    exact x13
  · unfold PlX
    rw [f1 26 (by decide), f2 25 (by decide), f2 24 (by decide)]
    exact x14
  · unfold PkX
    rw [f1 39 (by decide), f2 37 (by decide), f2 38 (by decide)]
    exact x15
  · unfold FnX
    rw [f1 43 (by decide), f2 40 (by decide), f2 41 (by decide), f2 42 (by decide)]
    exact x16
theorem HM.fr (H : HM c lm w) (e85 : gI w' 85 = gI w 85) (e92 : gI w' 92 = gI w 92) (a78 : gA w' 78 = gA w 78) (a80 : gA w' 80 = gA w 80) (a62 : gA w' 62 = gA w 62) (a63 : gA w' 63 = gA w 63) (M : Memo c lm w') : HM c lm w' := by
  obtain ⟨h1, h3, h4, h5, h6, h8, h9, h10⟩ := H
  refine ⟨h1, by rw [e85]; exact h3, by rw [a78]; exact h4, by rw [a80]; exact h5, by rw [e92]; exact h6, fun i i1 i2 => ?_, M, h10⟩
  have z := h8 i i1 i2
  unfold LM at z ⊢
  rw [a62, a63]
  exact z
theorem Memo.fr (H : Memo c lm w) (e : gL w' 94 = gL w 94) (a : gA w' 95 = gA w 95) : Memo c lm w' := by
  intro i1 a' b l a2 o' n' y' k' m' A2 ke
  rw [e] at ke
  rw [a]
  exact H i1 a' b l a2 o' n' y' k' m' A2 ke
theorem SM.fr (M : SM c lm h k im hv tp pl pk fn w) (f : fX z w w') : SM c lm h k im hv tp pl pk fn w' := by
  obtain ⟨x1, x2, x3, x4, x5, x6, x7, x8, x9, x10, x11, x12⟩ := M
  obtain ⟨f1, f2, f3, f4, f5, f6, f7, f8, f9, f10⟩ := f
  refine ⟨x1.fr (f1 85 (by decide)) (f1 92 (by decide)) (f2 78 (by decide)) (f2 80 (by decide)) (f2 62 (by decide)) (f2 63 (by decide)) (x1.2.2.2.2.2.2.1.fr (f6 94 (by decide)) (f2 95 (by decide))), by rw [f1 67 (by decide)]; exact x2, by rw [f2 90 (by decide)]; exact x3, by rw [f1 97 (by decide)]; exact x4, by rw [f2 96 (by decide)]; exact x5, by rw [f1 115 (by decide)]; exact x6, by rw [f2 114 (by decide)]; exact x7, by rw [f1 93 (by decide)]; exact x8, ?_, ?_, ?_, ?_⟩
  · unfold TpM
    rw [f1 66 (by decide), f2 61 (by decide)]
    exact x9
  · unfold PlM
    rw [f1 88 (by decide), f2 84 (by decide), f2 83 (by decide)]
    exact x10
  · unfold PkM
    rw [f1 103 (by decide), f2 101 (by decide), f2 102 (by decide)]
    exact x11
  · unfold FnM
    rw [f1 110 (by decide), f2 104 (by decide), f2 105 (by decide), f2 109 (by decide)]
    exact x12
/-- the model after a deed -/
theorem SM.deed (M : SM c lm h k im hv tp pl pk fn w) (ok : SOK c lm h k im hv tp pl pk fn) (f : fM w w') (mm : Memo c lm w') (a : AMf h' (gA w' 90) 0) (b : gI w' 97 = iz k'.1) (d : KMf k' (gA w' 96)) : SM c lm h' k' im hv tp pl pk fn w' := by
  obtain ⟨x1, x2, x3, x4, x5, x6, x7, x8, x9, x10, x11, x12⟩ := M
  obtain ⟨f1, f2, f3, f4, f5, f6, f7, f8, f9⟩ := f
  have okP := ok.2.2.2.2.2.2.2.2.2.2.1
  refine ⟨x1.fr (f1 85 (by decide)) (f1 92 (by decide)) (f2 78 (by decide)) (f2 80 (by decide)) (f2 62 (by decide)) (f2 63 (by decide)) mm, by rw [f1 67 (by decide)]; exact x2, a, b, d, by rw [f1 115 (by decide)]; exact x6, by rw [f2 114 (by decide)]; exact x7, by rw [f1 93 (by decide)]; exact x8, ?_, ?_, ?_, ?_⟩
  · unfold TpM
    rw [f1 66 (by decide), f2 61 (by decide)]
    exact x9
  · refine ⟨by rw [f1 88 (by decide)]; exact x10.1, fun q q1 q2 => ?_⟩
    obtain ⟨y1, y2⟩ := x10.2 q q1 q2
    obtain ⟨p1, p2, p3⟩ := okP
    have p3 := p3 q q1 q2
    refine ⟨by rw [f4 q (by omega)]; exact y1, fun t t1 t2 => by rw [f3 _ (by omega)]; exact y2 t t1 t2⟩
  · unfold PkM
    rw [f1 103 (by decide), f2 101 (by decide), f2 102 (by decide)]
    exact x11
  · unfold FnM
    rw [f1 110 (by decide), f2 104 (by decide), f2 105 (by decide), f2 109 (by decide)]
    exact x12
/-- questions: the house and what is kept are as they were -/
def qX (w w' : Wd) : Prop := fX 0 w w' ∧ gA w' 31 = gA w 31 ∧ gA w' 32 = gA w 32 ∧ gI w' 33 = gI w 33
def qM (c : Cf) (lm : Int) (w w' : Wd) : Prop := fM w w' ∧ Memo c lm w' ∧ gA w' 90 = gA w 90 ∧ gA w' 96 = gA w 96 ∧ gI w' 97 = gI w 97
theorem qX.refl (w : Wd) : qX w w := ⟨fX.refl w, rfl, rfl, rfl⟩
theorem qX.trans (f : qX w w') (g : qX w' w'') : qX w w'' := ⟨f.1.tr0 g.1, g.2.1.trans f.2.1, g.2.2.1.trans f.2.2.1, g.2.2.2.trans f.2.2.2⟩
theorem qX.sB (f : qX w w') {a : Nat} (h : xB a = true) (h2 : a ≠ 31) (h3 : a ≠ 32) (g : Int → Int32) : qX w (sB w' a g) := ⟨f.1.sB h g, (gA_n w' (Ne.symm h2) g).trans f.2.1, (gA_n w' (Ne.symm h3) g).trans f.2.2.1, f.2.2.2⟩
theorem qxs15 (w : Wd) (g : Int → Int32) : qX w (sB w 15 g) := (qX.refl w).sB (by decide) (by decide) (by decide) g
theorem qX.h3 (f : fsH3 w w') : qX w w' := ⟨fX.h3 f, f.2.1 31 (by decide), f.2.1 32 (by decide), f.1 33 (by decide)⟩
theorem qM.trans (f : qM c lm w w') (g : qM c lm w' w'') : qM c lm w w'' := ⟨f.1.trans g.1, g.2.1, g.2.2.1.trans f.2.2.1, g.2.2.2.1.trans f.2.2.2.1, g.2.2.2.2.trans f.2.2.2.2⟩
theorem MS.q (M : MS c lm w w') : qM c lm w w' := ⟨M.1.f, M.2, M.1.2.1 90 (by decide), M.1.2.1 96 (by decide), M.1.1 97 (by decide)⟩
theorem ME.q (M : ME c lm w w') : qM c lm w w' := ⟨M.1.f, M.2, M.1.2.1 90 (by decide), M.1.2.1 96 (by decide), M.1.1 97 (by decide)⟩
theorem MA.q (M : MA c lm w w') : qM c lm w w' := by
  obtain ⟨f, M⟩ := M
  have q := M.q
  refine ⟨((fM.refl w).sB (a := 91) (by decide) f).trans q.1, q.2.1, ?_, ?_, q.2.2.2.2⟩
  · rw [q.2.2.1, gA_n _ (by decide)]
  · rw [q.2.2.2.1, gA_n _ (by decide)]
theorem hm_qg (H : HM c lm w) (f : fsG w w') : qM c lm w w' := ⟨f.f, H.2.2.2.2.2.2.1.fr (by rw [f.2.2.2.1]) (f.2.1 95 (by decide)), f.2.1 90 (by decide), f.2.1 96 (by decide), f.1 97 (by decide)⟩
theorem SX.q (X : SX c lm h k im hv tp pl pk fn w) (ok : SOK c lm h k im hv tp pl pk fn) (f : qX w w') : SX c lm h k im hv tp pl pk fn w' := by
  obtain ⟨f1, f2, f3, f4⟩ := f
  refine X.deed ok f1 (by rw [f2]; exact X.2.2.2.2.2.2.1) (by rw [f4]; exact X.2.2.2.2.2.2.2.1) (by rw [f3]; exact X.2.2.2.2.2.2.2.2.1)
theorem SM.q (M : SM c lm h k im hv tp pl pk fn w) (ok : SOK c lm h k im hv tp pl pk fn) (f : qM c lm w w') : SM c lm h k im hv tp pl pk fn w' := by
  obtain ⟨f1, f2, f3, f4, f5⟩ := f
  exact M.deed ok f1 f2 (by rw [f3]; exact M.2.2.1) (by rw [f5]; exact M.2.2.2.1) (by rw [f4]; exact M.2.2.2.2.1)
/-- a question is answered -/
theorem inv_q (ok : SOK c lm h k im hv tp pl pk fn) (X : SX c lm h k im hv tp pl pk fn w) (M : SM c lm h k im hv tp pl pk fn w) (hz : gZ w ≤ z) (a : qX w w') (b : qM c lm w' w'') : INV z w'' := by
  refine ⟨c, lm, h, k, im, hv, tp, pl, pk, fn, ok, (X.q ok a).fr b.1, (M.fr a.1).q ok b, ?_⟩
  have e1 := b.1.2.2.2.2.2.2.2.2
  have e2 := a.1.2.2.2.2.2.2.2.2.2
  omega
/-- a deed is done -/
theorem inv_d {z1 : Nat} (ok : SOK c lm h' k' im hv tp pl pk fn) (ok0 : SOK c lm h k im hv tp pl pk fn) (X : SX c lm h' k' im hv tp pl pk fn w') (M : SM c lm h k im hv tp pl pk fn w') (hz : gZ w' ≤ z1) (f : fM w' w'') (mm : Memo c lm w'') (a : AMf h' (gA w'' 90) 0) (b : gI w'' 97 = iz k'.1) (d : KMf k' (gA w'' 96)) : INV z1 w'' := by
  refine ⟨c, lm, h', k', im, hv, tp, pl, pk, fn, ok, X.fr f, M.deed ok0 f mm a b d, ?_⟩
  have e1 := f.2.2.2.2.2.2.2.2
  omega
end ST
