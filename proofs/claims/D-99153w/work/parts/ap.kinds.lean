/-! the house's items: their signs, bounds and usual numbers, alike on both sides -/
def loI (l i : Int) : Int := if l = 115 then (if i = 0 ∨ i = 2 then 1 else 0) else if l = 107 then (if i = 1 ∨ i = 2 then 1 else 0) else (if i = 1 then 1 else 0)
def hiI (l i : Int) : Int := if l = 115 then (if i = 1 then 24 else if i = 3 then 5 else 99) else if l = 107 then (if i = 0 then 5 else if i = 2 then 36 else if i = 4 then 6 else 9) else (if i = 0 then 5 else if i = 1 then 9 else if i = 2 then 99 else 1)
def usI (l i : Int) : Int := if l = 115 then (if i = 0 then 40 else if i = 1 then 9 else if i = 2 then 6 else 1) else if l = 107 then (if i = 0 then 0 else if i = 2 then 12 else if i = 4 then 6 else 3) else (if i = 1 then 2 else 0)
def cnI (l : Int) : Int := if l = 107 then 5 else 4
def stI (l : Int) : Nat := if l = 115 then 2 else if l = 107 then 3 else 4
abbrev KdI (l : Int) : Prop := l = 115 ∨ l = 107 ∨ l = 98
theorem KdI.cases {P : Int → Int → Prop} {l i : Int} (h : KdI l) (h0 : 0 ≤ i) (h1 : i < cnI l) (a0 : P 115 0) (a1 : P 115 1) (a2 : P 115 2) (a3 : P 115 3) (b0 : P 107 0) (b1 : P 107 1) (b2 : P 107 2) (b3 : P 107 3) (b4 : P 107 4) (c0 : P 98 0) (c1 : P 98 1) (c2 : P 98 2) (c3 : P 98 3) : P l i := by
  rcases h with rfl | rfl | rfl
  · have h1 : i < 4 := h1
    rcases (by omega : i = 0 ∨ i = 1 ∨ i = 2 ∨ i = 3) with rfl | rfl | rfl | rfl <;> assumption
  · have h1 : i < 5 := h1
    rcases (by omega : i = 0 ∨ i = 1 ∨ i = 2 ∨ i = 3 ∨ i = 4) with rfl | rfl | rfl | rfl | rfl <;> assumption
  · have h1 : i < 4 := h1
    rcases (by omega : i = 0 ∨ i = 1 ∨ i = 2 ∨ i = 3) with rfl | rfl | rfl | rfl <;> assumption
section KI
variable {l i : Int} {w : Wd} {Q : Int32 → Wd → Prop}
theorem usI_bd (h : KdI l) (h0 : 0 ≤ i) (h1 : i < cnI l) : loI l i ≤ usI l i ∧ usI l i ≤ hiI l i :=
  KdI.cases (P := fun l i => loI l i ≤ usI l i ∧ usI l i ≤ hiI l i) h h0 h1 (by decide) (by decide) (by decide) (by decide) (by decide) (by decide) (by decide) (by decide) (by decide) (by decide) (by decide) (by decide) (by decide)
theorem x_lowestI (h : KdI l) (h0 : 0 ≤ i) (h1 : i < cnI l) : Q (iz (loI l i)) w → wp_X1_lowest (iz l) (iz i) w Q := by
  refine KdI.cases (P := fun l i => Q (iz (loI l i)) w → wp_X1_lowest (iz l) (iz i) w Q) h h0 h1 ?_ ?_ ?_ ?_ ?_ ?_ ?_ ?_ ?_ ?_ ?_ ?_ ?_
  all_goals
    intro q
    unfold wp_X1_lowest
    repeat' (first | (refine ⟨?_, ?_⟩) | (intro e; first | exact absurd e (by decide) | skip))
    all_goals exact q
theorem x_highestI (h : KdI l) (h0 : 0 ≤ i) (h1 : i < cnI l) : Q (iz (hiI l i)) w → wp_X1_highest (iz l) (iz i) w Q := by
  refine KdI.cases (P := fun l i => Q (iz (hiI l i)) w → wp_X1_highest (iz l) (iz i) w Q) h h0 h1 ?_ ?_ ?_ ?_ ?_ ?_ ?_ ?_ ?_ ?_ ?_ ?_ ?_
  all_goals
    intro q
    unfold wp_X1_highest
    repeat' (first | (refine ⟨?_, ?_⟩) | (intro e; first | exact absurd e (by decide) | skip))
    all_goals exact q
theorem x_usualI (h : KdI l) (h0 : 0 ≤ i) (h1 : i < cnI l) : Q (iz (usI l i)) w → wp_X1_usual (iz l) (iz i) w Q := by
  refine KdI.cases (P := fun l i => Q (iz (usI l i)) w → wp_X1_usual (iz l) (iz i) w Q) h h0 h1 ?_ ?_ ?_ ?_ ?_ ?_ ?_ ?_ ?_ ?_ ?_ ?_ ?_
  all_goals
    intro q
    unfold wp_X1_usual
    repeat' (first | (refine ⟨?_, ?_⟩) | (intro e; first | exact absurd e (by decide) | skip))
    all_goals exact q
theorem m_leastI (h : KdI l) (h0 : 0 ≤ i) (h1 : i < cnI l) : Q (iz (loI l i)) w → wp_X3_leastOf (iz l) (iz i) w Q := by
  refine KdI.cases (P := fun l i => Q (iz (loI l i)) w → wp_X3_leastOf (iz l) (iz i) w Q) h h0 h1 ?_ ?_ ?_ ?_ ?_ ?_ ?_ ?_ ?_ ?_ ?_ ?_ ?_
  all_goals
    intro q
    unfold wp_X3_leastOf
    repeat' (first | (refine ⟨?_, ?_⟩) | (intro e; first | exact absurd e (by decide) | skip))
    all_goals exact q
theorem m_mostI (h : KdI l) (h0 : 0 ≤ i) (h1 : i < cnI l) : Q (iz (hiI l i)) w → wp_X3_mostOf (iz l) (iz i) w Q := by
  refine KdI.cases (P := fun l i => Q (iz (hiI l i)) w → wp_X3_mostOf (iz l) (iz i) w Q) h h0 h1 ?_ ?_ ?_ ?_ ?_ ?_ ?_ ?_ ?_ ?_ ?_ ?_ ?_
  all_goals
    intro q
    unfold wp_X3_mostOf
    repeat' (first | (refine ⟨?_, ?_⟩) | (intro e; first | exact absurd e (by decide) | skip))
    all_goals exact q
theorem m_usualI (h : KdI l) (h0 : 0 ≤ i) (h1 : i < cnI l) : Q (iz (usI l i)) w → wp_X3_usual (iz l) (iz i) w Q := by
  refine KdI.cases (P := fun l i => Q (iz (usI l i)) w → wp_X3_usual (iz l) (iz i) w Q) h h0 h1 ?_ ?_ ?_ ?_ ?_ ?_ ?_ ?_ ?_ ?_ ?_ ?_ ?_
  all_goals
    intro q
    unfold wp_X3_usual
    repeat' (first | (refine ⟨?_, ?_⟩) | (intro e; first | exact absurd e (by decide) | skip))
    all_goals exact q
theorem x_itemI (h : KdI l) {c : Int} (hc : VR c) (q : Q (iz (sIx (stI l) c)) w) : wp_X1_item (iz l) (iz c) w Q := by
  rcases h with rfl | rfl | rfl
  · exact ⟨fun e => absurd rfl e, fun _ => ⟨by decide, s_indexOf (by decide) hc.1 hc.2 q⟩⟩
  · exact ⟨fun _ => ⟨fun e => absurd rfl e, fun _ => ⟨by decide, s_indexOf (by decide) hc.1 hc.2 q⟩⟩, fun e => absurd e (by decide)⟩
  · exact ⟨fun _ => ⟨fun _ => ⟨by decide, s_indexOf (by decide) hc.1 hc.2 q⟩, fun e => absurd e (by decide)⟩, fun e => absurd e (by decide)⟩
theorem sIx_I (h : KdI l) (c : Int) : sIx (stI l) c = -1 ∨ (0 ≤ sIx (stI l) c ∧ sIx (stI l) c < cnI l ∧ c ≠ 59 ∧ c ≠ -1) := by
  have e := sIx_or (stI l) c
  have b := pIx_lt (sTx.getD (stI l) []) c 0 (by decide)
  have hb : sIx (stI l) c = pIx (sTx.getD (stI l) []) c 0 := rfl
  rcases e with e | e
  · refine Or.inr ⟨e, ?_, fun z => ?_, fun z => ?_⟩
    · rcases h with rfl | rfl | rfl
      · have : (sTx.getD (stI 115) []).length = 4 := by decide
        have : cnI 115 = 4 := by decide
        omega
      · have : (sTx.getD (stI 107) []).length = 5 := by decide
        have : cnI 107 = 5 := by decide
        omega
      · have : (sTx.getD (stI 98) []).length = 4 := by decide
        have : cnI 98 = 4 := by decide
        omega
    · rw [z] at e
      rcases h with rfl | rfl | rfl <;> exact absurd e (by decide)
    · rw [z] at e
      rcases h with rfl | rfl | rfl <;> exact absurd e (by decide)
  · exact Or.inl e
end KI
