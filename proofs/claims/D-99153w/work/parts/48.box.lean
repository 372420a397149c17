set_option maxRecDepth 100000

abbrev k_X1_box : MK := ("FrostBox", cX1_box, 3, (some .int), [], "box")
def wp_X1_box (l1 : Int32) (l2 : Int32) (w : Wd) (Q : Int32 → Wd → Prop) (X : Wd → Prop) : Prop := wp_X1_isBox l1 w (fun r1 w2 => (r1 = iz 0 → gZ w2 + 1 ≤ CM ∧ (∀ w3, w3 = sZ w2 (gZ w2 + 1) → X w3)) ∧ (¬ r1 = iz 0 → wp_X1_in l2 (iz 0) (iz 6) w2 (fun r4 w5 => (¬ r4 = iz 0 → (l2.toInt = 3 → wp_X1_isLabelled l1 w5 (fun r6 w7 => (r6 = iz 0 → Q (iz 0) w7) ∧ (¬ r6 = iz 0 → Q (iz 1) w7))) ∧ (l2.toInt = 4 → wp_X1_valueOf l1 w5 (fun r8 w9 => Q r8 w9)) ∧ (l2.toInt = 5 → wp_X1_weighs l1 w5 (fun r10 w11 => Q r10 w11)) ∧ (l2.toInt = 6 → wp_X1_turned l1 w5 (fun r12 w13 => Q r12 w13)) ∧ (l2.toInt < 3 ∨ 6 < l2.toInt → wp_X1_of l1 l2 w5 (fun r14 w15 => Q r14 w15))) ∧ (r4 = iz 0 → gZ w5 + 1 ≤ CM ∧ (∀ w16, w16 = sZ w5 (gZ w5 + 1) → X w16)))))
set_option maxRecDepth 100000 in
set_option maxHeartbeats 4000000 in
theorem sd_X1_box {γ : GG} (l1 : Int32) (l2 : Int32) (w : Wd) (Q : Int32 → Wd → Prop) (X : Wd → Prop) : wp_X1_box l1 l2 w Q X → Ctr γ 97 yX1_box (ws_ yX1_box cX1_box 3 (some .int)) [.ref 1, .int l1, .int l2] w (qI Q) (xE "java/util/NoSuchElementException" X) := by
  intro h
  unfold wp_X1_box at h
  refine Ctr.of (μ := k_X1_box) (by decide) rfl rfl rfl (Nat.le_of_ble_eq_true rfl) ⟨0, ?_⟩
  have es : lva [.ref 1, .int l1, .int l2] ++ List.replicate 0 none = [some (.ref 1), some (.int l1), some (.int l2)] := rfl
  rw [es]
  refine R.aload_n 1 dX1_box_0 rfl rfl ?_
  refine R.iload_n 2 dX1_box_1 rfl rfl ?_
  refine Rch.callv (sd_X1_isBox _ _ _ h) dX1_box_2 (lw_V q805 q807 qs38 q142 q808) dk_X1_isBox rcX (by decide) (Nat.le_of_ble_eq_true rfl) rfl rfl (Nat.le_of_ble_eq_true rfl) (kI 5 rfl fun r1 w2 h => ?_) kN
  refine R.if_eq 18 8 dX1_box_5 (by decide) rfl (fun hc => ?_) (fun hc => ?_)
  · replace h := h.1 hc
    obtain ⟨hZ, h⟩ := h
    replace h := h _ rfl
    refine R.throwNSE hZ dX1_box_18 dX1_box_21 dX1_box_22 dX1_box_25 rfl (by decide) ?_
    exact RchX.out (fun x hx => nomatch hx) ⟨rfl, h⟩
  · replace h := h.2 hc
    refine R.iload_n 9 dX1_box_8 rfl rfl ?_
    refine R.iconst 10 dX1_box_9 rfl ?_
    refine R.bipush 12 dX1_box_10 rfl (by decide +kernel) ?_
    refine Rch.calls (sd_X1_in _ _ _ _ _ h) dX1_box_12 (lw_S q700 q701 q142 q702) dk_X1_in (by decide) (Nat.le_of_ble_eq_true rfl) rfl rfl (Nat.le_of_ble_eq_true rfl) (kI 15 rfl fun r4 w5 h => ?_) kN
    refine R.if_ne 26 18 dX1_box_15 (by decide) rfl (fun hc => ?_) (fun hc => ?_)
    · replace h := h.1 hc
      refine R.iload_n 27 dX1_box_26 rfl rfl ?_
      by_cases c0 : l2.toInt = 3
      · replace h := h.1 c0
        refine R.tswIn 3 56 dX1_box_27 c0 (by decide) (by decide) rfl (by decide) ?_
        refine R.aload_n 57 dX1_box_56 rfl rfl ?_
        refine R.iload_n 58 dX1_box_57 rfl rfl ?_
        refine Rch.callv (sd_X1_isLabelled _ _ _ h) dX1_box_58 (lw_V q908 q910 qs46 q142 q911) dk_X1_isLabelled rcX (by decide) (Nat.le_of_ble_eq_true rfl) rfl rfl (Nat.le_of_ble_eq_true rfl) (kI 61 rfl fun r6 w7 h => ?_) kN
        refine R.if_eq 68 64 dX1_box_61 (by decide) rfl (fun hc => ?_) (fun hc => ?_)
        · replace h := h.1 hc
          refine R.iconst 69 dX1_box_68 rfl ?_
          exact R.retI dX1_box_69 rfl h
        · replace h := h.2 hc
          refine R.iconst 65 dX1_box_64 rfl ?_
          refine R.goto 69 dX1_box_65 (by decide) ?_
          exact R.retI dX1_box_69 rfl h
      replace h := h.2
      by_cases c1 : l2.toInt = 4
      · replace h := h.1 c1
        refine R.tswIn 4 70 dX1_box_27 c1 (by decide) (by decide) rfl (by decide) ?_
        refine R.aload_n 71 dX1_box_70 rfl rfl ?_
        refine R.iload_n 72 dX1_box_71 rfl rfl ?_
        refine Rch.callv (sd_X1_valueOf _ _ _ h) dX1_box_72 (lw_V q813 q815 qs40 q142 q816) dk_X1_valueOf rcX (by decide) (Nat.le_of_ble_eq_true rfl) rfl rfl (Nat.le_of_ble_eq_true rfl) (kI 75 rfl fun r8 w9 h => ?_) kN
        exact R.retI dX1_box_75 rfl h
      replace h := h.2
      by_cases c2 : l2.toInt = 5
      · replace h := h.1 c2
        refine R.tswIn 5 76 dX1_box_27 c2 (by decide) (by decide) rfl (by decide) ?_
        refine R.aload_n 77 dX1_box_76 rfl rfl ?_
        refine R.iload_n 78 dX1_box_77 rfl rfl ?_
        refine Rch.callv (sd_X1_weighs _ _ _ h) dX1_box_78 (lw_V q1073 q1075 qs69 q142 q1076) dk_X1_weighs rcX (by decide) (Nat.le_of_ble_eq_true rfl) rfl rfl (Nat.le_of_ble_eq_true rfl) (kI 81 rfl fun r10 w11 h => ?_) kN
        exact R.retI dX1_box_81 rfl h
      replace h := h.2
      by_cases c3 : l2.toInt = 6
      · replace h := h.1 c3
        refine R.tswIn 6 82 dX1_box_27 c3 (by decide) (by decide) rfl (by decide) ?_
        refine R.aload_n 83 dX1_box_82 rfl rfl ?_
        refine R.iload_n 84 dX1_box_83 rfl rfl ?_
        refine Rch.callv (sd_X1_turned _ _ _ h) dX1_box_84 (lw_V q789 q791 qs35 q142 q792) dk_X1_turned rcX (by decide) (Nat.le_of_ble_eq_true rfl) rfl rfl (Nat.le_of_ble_eq_true rfl) (kI 87 rfl fun r12 w13 h => ?_) kN
        exact R.retI dX1_box_87 rfl h
      replace h := h.2
      have cd : l2.toInt < 3 ∨ 6 < l2.toInt := by omega
      replace h := h cd
      refine R.tswOut 88 dX1_box_27 cd (by decide) ?_
      refine R.aload_n 89 dX1_box_88 rfl rfl ?_
      refine R.iload_n 90 dX1_box_89 rfl rfl ?_
      refine R.iload_n 91 dX1_box_90 rfl rfl ?_
      refine Rch.callv (sd_X1_of _ _ _ _ h) dX1_box_91 (lw_V q785 q787 qs34 q142 q788) dk_X1_of rcX (by decide) (Nat.le_of_ble_eq_true rfl) rfl rfl (Nat.le_of_ble_eq_true rfl) (kI 94 rfl fun r14 w15 h => ?_) kN
      exact R.retI dX1_box_94 rfl h
    · replace h := h.2 hc
      obtain ⟨hZ, h⟩ := h
      replace h := h _ rfl
      refine R.throwNSE hZ dX1_box_18 dX1_box_21 dX1_box_22 dX1_box_25 rfl (by decide) ?_
      exact RchX.out (fun x hx => nomatch hx) ⟨rfl, h⟩

abbrev k_X0_box : MK := ("FrostBoxLaw", cX0_box, 5, (some .int), [(0, 10, 13, 13)], "box")
def wp_X0_box (l1 : Int32) (l2 : Int32) (w : Wd) (Q : Int32 → Wd → Prop) : Prop := wp_X1_box l1 l2 w (fun r1 w2 => inb (iz 0) 1 ∧ (∀ w3, w3 = sL w2 3 (iz 0).toInt (r1).toInt64 → Q (iz 0) w3)) (fun w4 => Q (iz 1) w4)
set_option maxRecDepth 100000 in
set_option maxHeartbeats 4000000 in
theorem sd_X0_box {γ : GG} (l1 : Int32) (l2 : Int32) (w : Wd) (Q : Int32 → Wd → Prop) : wp_X0_box l1 l2 w Q → Ctr γ 98 yX0_box (wsW_ yX0_box cX0_box 5 (some .int) [(0, 10, 13, 13)]) [.ref 1, .int l1, .int l2, .ref 3] w (qI Q) xN := by
  intro h
  unfold wp_X0_box at h
  refine Ctr.ofH (μ := k_X0_box) (by decide) rfl rfl (Nat.le_of_ble_eq_true rfl) ⟨1, ?_⟩
  have es : lva [.ref 1, .int l1, .int l2, .ref 3] ++ List.replicate 1 none = [some (.ref 1), some (.int l1), some (.int l2), some (.ref 3), none] := rfl
  rw [es]
  refine R.aload_n 1 dX0_box_0 rfl rfl ?_
  refine R.iconst 2 dX0_box_1 rfl ?_
  refine R.aload_n 3 dX0_box_2 rfl rfl ?_
  refine R.iload_n 4 dX0_box_3 rfl rfl ?_
  refine R.iload_n 5 dX0_box_4 rfl rfl ?_
  refine Rch.callv (sd_X1_box _ _ _ _ _ h) dX0_box_5 (lw_V q1200 q1201 q1202 q142 q1203) dk_X1_box rcX (by decide) (Nat.le_of_ble_eq_true rfl) rfl rfl (Nat.le_of_ble_eq_true rfl) (kI 8 rfl fun r1 w2 h => ?_) (kC fun w4 h => ?_)
  · refine R.i2l 9 dX0_box_8 rfl ?_
    obtain ⟨hb, h⟩ := h
    replace h := h _ rfl
    refine R.last ar_3 10 dX0_box_9 rfl hb ?_
    refine R.goto 17 dX0_box_10 (by decide) ?_
    refine R.iconst 18 dX0_box_17 rfl ?_
    exact R.retI dX0_box_18 rfl h
  · refine RchX.catch' (k0 := 4) rfl (by decide) (by decide) q1199 (List.mem_of_getElem? (i := 1) rfl) dX0_box_13 rfl (Nat.le_of_ble_eq_true rfl) (hpS (i := 3) rfl rfl) ?_
    refine R.iconst 16 dX0_box_15 rfl ?_
    exact R.retI dX0_box_16 rfl h
