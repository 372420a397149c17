/-! what may be done to a house -/
def AXf (h : Hs) (f : Int → Int32) (o : Int) : Prop := f (o + 32) = iz (hn h) ∧ f (o + 33) = iz (hm h) ∧ f (o + 34) = iz (hl h) ∧ (∀ b j, 0 ≤ b → b < hn h → 0 ≤ j → j < 3 → f (o + (4 * (hn h - 1 - b) + j)) = iz (hb h b j)) ∧ (∀ b, 0 ≤ b → b < hn h → f (o + (4 * (hn h - 1 - b) + 3)) = iz (if hb h b 3 = 1 then hb h b 4 else -1)) ∧ ∀ i j, 0 ≤ i → i < hl h → 0 ≤ j → j < 4 → f (o + (35 + 4 * i + j)) = iz (hg h i j)
def AMf (h : Hs) (f : Int → Int32) (o : Int) : Prop := f (o + 40) = iz (hn h) ∧ f (o + 41) = iz (hm h) ∧ f (o + 42) = iz (hl h) ∧ (∀ b j, 0 ≤ b → b < hn h → 0 ≤ j → j < 4 → f (o + (5 * b + j)) = iz (hb h b j)) ∧ (∀ b, 0 ≤ b → b < hn h → hb h b 3 = 1 → f (o + (5 * b + 4)) = iz (hb h b 4)) ∧ ∀ i j, 0 ≤ i → i < hl h → 0 ≤ j → j < 4 → f (o + (43 + 4 * i + j)) = iz (hg h i j)
theorem AXf_eq (h : Hs) (w : Wd) (a : Nat) (o : Int) : AX h w a o = AXf h (gA w a) o := rfl
theorem AMf_eq (h : Hs) (w : Wd) (a : Nat) (o : Int) : AM h w a o = AMf h (gA w a) o := rfl
def mkH (n m l : Int) (b g : Int → Int → Int) : Hs := (n, m, l, b, g)
theorem hn_mk (n m l : Int) (b g : Int → Int → Int) : hn (mkH n m l b g) = n := rfl
theorem hm_mk (n m l : Int) (b g : Int → Int → Int) : hm (mkH n m l b g) = m := rfl
theorem hl_mk (n m l : Int) (b g : Int → Int → Int) : hl (mkH n m l b g) = l := rfl
theorem hb_mk (n m l : Int) (b g : Int → Int → Int) : hb (mkH n m l b g) = b := rfl
theorem hg_mk (n m l : Int) (b g : Int → Int → Int) : hg (mkH n m l b g) = g := rfl
def hPut (h : Hs) (k p lab : Int) : Hs := mkH (hn h + 1) (hm h) (hl h) (fun b j => if b = 0 then (if j = 0 then k else if j = 1 then p else if j = 2 then 0 else if j = 3 then lab else hm h) else hb h (b - 1) j) (hg h)
def hOld (h : Hs) (more : Int) : Hs := mkH (hn h) (hm h) (hl h) (fun b j => if j = 2 then min 99 (hb h b 2 + more) else hb h b j) (hg h)
def hPass (c : Cf) (h : Hs) : Hs := mkH (hn h) (hm h + 1) (hl h) (fun b j => if j = 2 then min 99 (hb h b 2 + 1) else if j = 3 then (if hb h b 3 = 1 ∧ hm h + 1 - hb h b 4 < cR c 2 then 1 else 0) else hb h b j) (hg h)
def hLabel (h : Hs) (a : Int) : Hs := mkH (hn h) (hm h) (hl h) (fun b j => if b = a then (if j = 3 then 1 else if j = 4 then hm h else hb h b j) else hb h b j) (hg h)
def hDrop (h : Hs) (a : Int) : Hs := mkH (hn h - 1) (hm h) (hl h) (fun b j => if b < a then hb h b j else hb h (b + 1) j) (hg h)
def nlog (c : Cf) (h : Hs) (a j : Int) : Int := if j = 3 then valO c h a else hb h a j
def hLog (c : Cf) (h : Hs) (a : Int) : Hs := mkH (hn h) (hm h) (if hl h = 60 then 60 else hl h + 1) (hb h) (fun i j => if hl h = 60 then (if i = 59 then nlog c h a j else hg h (i + 1) j) else (if i = hl h then nlog c h a j else hg h i j))
def hTake (c : Cf) (h : Hs) (a : Int) : Hs := hDrop (hLog c h a) a
section HP
variable {c : Cf} {h : Hs}
theorem hPut_ok (H : CfOK c) (G : HsOK c h) {k p lab : Int} (h1 : 0 ≤ k) (h2 : k < cK c) (h3 : 1 ≤ p) (h4 : p ≤ 9) (h5 : lab = 0 ∨ lab = 1) (h6 : hn h < 8) : HsOK c (hPut h k p lab) := by
  obtain ⟨g1, g2, g3, g4, g5, g6, g7, g8⟩ := G
  unfold HsOK hPut
  simp only [hn_mk, hm_mk, hl_mk, hb_mk, hg_mk]
  refine ⟨by omega, by omega, g3, g4, g5, g6, fun e => by omega, fun b b1 b2 => ?_⟩
  by_cases e : b = 0
  · simp only [e, if_true]
    simp
    omega
  · simp only [e, if_false]
    exact g8 (b - 1) (by omega) (by omega)
theorem hOld_ok (G : HsOK c h) {more : Int} (h1 : 0 ≤ more) : HsOK c (hOld h more) := by
  obtain ⟨g1, g2, g3, g4, g5, g6, g7, g8⟩ := G
  unfold HsOK hOld
  simp only [hn_mk, hm_mk, hl_mk, hb_mk, hg_mk]
  refine ⟨g1, g2, g3, g4, g5, g6, g7, fun b b1 b2 => ?_⟩
  have := g8 b b1 b2
  simp
  omega
theorem hPass_ok (G : HsOK c h) (h1 : hm h < 999) : HsOK c (hPass c h) := by
  obtain ⟨g1, g2, g3, g4, g5, g6, g7, g8⟩ := G
  unfold HsOK hPass
  simp only [hn_mk, hm_mk, hl_mk, hb_mk, hg_mk]
  refine ⟨g1, g2, by omega, by omega, g5, g6, g7, fun b b1 b2 => ?_⟩
  have := g8 b b1 b2
  simp
  by_cases e : hb h b 3 = 1 ∧ hm h + 1 - hb h b 4 < cR c 2
  · simp only [e]
    simp
    omega
  · simp only [e]
    simp
    omega
theorem hLabel_ok (G : HsOK c h) {a : Int} : HsOK c (hLabel h a) := by
  obtain ⟨g1, g2, g3, g4, g5, g6, g7, g8⟩ := G
  unfold HsOK hLabel
  simp only [hn_mk, hm_mk, hl_mk, hb_mk, hg_mk]
  refine ⟨g1, g2, g3, g4, g5, g6, g7, fun b b1 b2 => ?_⟩
  have := g8 b b1 b2
  by_cases e : b = a
  · simp [e]
    subst e
    omega
  · simp [e]
    exact this
theorem hDrop_ok (G : HsOK c h) {a : Int} (h1 : 0 ≤ a) (h2 : a < hn h) : HsOK c (hDrop h a) := by
  obtain ⟨g1, g2, g3, g4, g5, g6, g7, g8⟩ := G
  unfold HsOK hDrop
  simp only [hn_mk, hm_mk, hl_mk, hb_mk, hg_mk]
  refine ⟨by omega, by omega, g3, g4, g5, g6, fun e => by have := g7 e; omega, fun b b1 b2 => ?_⟩
  by_cases e : b < a
  · simp only [e, if_true]
    exact g8 b b1 (by omega)
  · simp only [e, if_false]
    exact g8 (b + 1) (by omega) (by omega)
theorem hLog_ok (G : HsOK c h) {a : Int} : HsOK c (hLog c h a) := by
  obtain ⟨g1, g2, g3, g4, g5, g6, g7, g8⟩ := G
  unfold HsOK hLog
  simp only [hn_mk, hm_mk, hl_mk, hb_mk, hg_mk]
  refine ⟨g1, g2, g3, g4, ?_, ?_, g7, g8⟩
  · split <;> omega
  · split <;> omega
theorem hTake_ok (G : HsOK c h) {a : Int} (h1 : 0 ≤ a) (h2 : a < hn h) : HsOK c (hTake c h a) := hDrop_ok (hLog_ok G) h1 h2
end HP
