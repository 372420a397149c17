set_option maxRecDepth 100000

abbrev k_X3_valueOf : MK := ("FrostBoxModel", cX3_valueOf, 3, (some .int), [], "valueOf")
def wp_X3_valueOf (l1 : Nat) (l2 : Int32) (w : Wd) (Q : Int32 → Wd → Prop) : Prop := inA l1 (iz 40) ∧ wp_X3_valueOn l1 l2 (((gA w l1 (iz 40).toInt) - (iz 1)) - l2) (iz 0) w (fun r1 w2 => Q r1 w2)
set_option maxRecDepth 100000 in
set_option maxHeartbeats 4000000 in
theorem sd_X3_valueOf {γ : GG} (l1 : Nat) (l2 : Int32) (w : Wd) (Q : Int32 → Wd → Prop) : wp_X3_valueOf l1 l2 w Q → Ctr γ 74 yX3_valueOf (ws_ yX3_valueOf cX3_valueOf 3 (some .int)) [.ref 2, .ref l1, .int l2] w (qI Q) xN := by
  intro h
  unfold wp_X3_valueOf at h
  refine Ctr.of (μ := k_X3_valueOf) (by decide) rfl rfl rfl (Nat.le_of_ble_eq_true rfl) ⟨0, ?_⟩
  have es : lva [.ref 2, .ref l1, .int l2] ++ List.replicate 0 none = [some (.ref 2), some (.ref l1), some (.int l2)] := rfl
  rw [es]
  refine R.aload_n 1 dX3_valueOf_0 rfl rfl ?_
  refine R.aload_n 2 dX3_valueOf_1 rfl rfl ?_
  refine R.iload_n 3 dX3_valueOf_2 rfl rfl ?_
  refine R.aload_n 4 dX3_valueOf_3 rfl rfl ?_
  refine R.bipush 6 dX3_valueOf_4 rfl (by decide +kernel) ?_
  obtain ⟨hb, h⟩ := h
  refine R.iaA 7 dX3_valueOf_6 rfl hb ?_
  refine R.iconst 8 dX3_valueOf_7 rfl ?_
  refine R.isub 9 dX3_valueOf_8 rfl ?_
  refine R.iload_n 10 dX3_valueOf_9 rfl rfl ?_
  refine R.isub 11 dX3_valueOf_10 rfl ?_
  refine R.iconst 12 dX3_valueOf_11 rfl ?_
  refine Rch.callv (sd_X3_valueOn _ _ _ _ _ _ h) dX3_valueOf_12 (lw_V q1595 q1597 qs108 q146 q1598) dk_X3_valueOn rcM (by decide) (Nat.le_of_ble_eq_true rfl) rfl rfl (Nat.le_of_ble_eq_true rfl) (kI 15 rfl fun r1 w2 h => ?_) kN
  exact R.retI dX3_valueOf_15 rfl h

abbrev k_X3_weightOf : MK := ("FrostBoxModel", cX3_weightOf, 3, (some .int), [], "weightOf")
def wp_X3_weightOf (l1 : Nat) (l2 : Int32) (w : Wd) (Q : Int32 → Wd → Prop) : Prop := inA l1 (((iz 5) * l2) + (iz 1)) ∧ inA l1 (((iz 5) * l2) + (iz 0)) ∧ wp_X3_told (gA w l1 (((iz 5) * l2) + (iz 0)).toInt) (iz 1) w (fun r1 w2 => Q ((gA w l1 (((iz 5) * l2) + (iz 1)).toInt) * r1) w2)
set_option maxRecDepth 100000 in
set_option maxHeartbeats 4000000 in
theorem sd_X3_weightOf {γ : GG} (l1 : Nat) (l2 : Int32) (w : Wd) (Q : Int32 → Wd → Prop) : wp_X3_weightOf l1 l2 w Q → Ctr γ 2 yX3_weightOf (ws_ yX3_weightOf cX3_weightOf 3 (some .int)) [.ref 2, .ref l1, .int l2] w (qI Q) xN := by
  intro h
  unfold wp_X3_weightOf at h
  refine Ctr.of (μ := k_X3_weightOf) (by decide) rfl rfl rfl (Nat.le_of_ble_eq_true rfl) ⟨0, ?_⟩
  have es : lva [.ref 2, .ref l1, .int l2] ++ List.replicate 0 none = [some (.ref 2), some (.ref l1), some (.int l2)] := rfl
  rw [es]
  refine R.aload_n 1 dX3_weightOf_0 rfl rfl ?_
  refine R.iconst 2 dX3_weightOf_1 rfl ?_
  refine R.iload_n 3 dX3_weightOf_2 rfl rfl ?_
  refine R.imul 4 dX3_weightOf_3 rfl ?_
  refine R.iconst 5 dX3_weightOf_4 rfl ?_
  refine R.iadd 6 dX3_weightOf_5 rfl ?_
  obtain ⟨hb, h⟩ := h
  refine R.iaA 7 dX3_weightOf_6 rfl hb ?_
  refine R.aload_n 8 dX3_weightOf_7 rfl rfl ?_
  refine R.aload_n 9 dX3_weightOf_8 rfl rfl ?_
  refine R.iconst 10 dX3_weightOf_9 rfl ?_
  refine R.iload_n 11 dX3_weightOf_10 rfl rfl ?_
  refine R.imul 12 dX3_weightOf_11 rfl ?_
  refine R.iconst 13 dX3_weightOf_12 rfl ?_
  refine R.iadd 14 dX3_weightOf_13 rfl ?_
  obtain ⟨hb, h⟩ := h
  refine R.iaA 15 dX3_weightOf_14 rfl hb ?_
  refine R.iconst 16 dX3_weightOf_15 rfl ?_
  refine Rch.callv (sd_X3_told _ _ _ _ h) dX3_weightOf_16 (lw_V q1578 q1580 qs105 q146 q1581) dk_X3_told rcM (by decide) (Nat.le_of_ble_eq_true rfl) rfl rfl (Nat.le_of_ble_eq_true rfl) (kI 19 rfl fun r1 w2 h => ?_) kN
  refine R.imul 20 dX3_weightOf_19 rfl ?_
  exact R.retI dX3_weightOf_20 rfl h

abbrev k_X3_box : MK := ("FrostBoxModel", cX3_box, 3, (some .int), [], "box")
def b_X3_box_30 (Q : Int32 → Wd → Prop) (l1 : Int32) (l2 : Int32) (t0 : Int32) (w : Wd) : Prop := ∀ w1, w1 = sI w 60 t0 → ((gI w1 60) ≤ iz 0 → (l2.toInt = 4 → wp_X3_valueOf 90 l1 w1 (fun r2 w3 => Q r2 w3)) ∧ (l2.toInt = 5 → wp_X3_weightOf 90 l1 w1 (fun r4 w5 => Q r4 w5)) ∧ (l2.toInt = 6 → inb (iz 40) 283 ∧ Q (((gA w1 90 (iz 40).toInt) - (iz 1)) - l1) w1) ∧ (l2.toInt < 4 ∨ 6 < l2.toInt → inb (((iz 5) * l1) + l2) 283 ∧ Q (gA w1 90 (((iz 5) * l1) + l2).toInt) w1)) ∧ (¬ (gI w1 60) ≤ iz 0 → Q (iz 0) w1)
def wp_X3_box (l1 : Int32) (l2 : Int32) (w : Wd) (Q : Int32 → Wd → Prop) : Prop := wp_X3_isBox 90 l1 w (fun r1 w2 => (r1 = iz 0 → b_X3_box_30 Q l1 l2 (iz 1) w2) ∧ (¬ r1 = iz 0 → wp_X3_isIn ((l2).toInt64) (lz 0) (lz 6) w2 (fun r3 w4 => (r3 = iz 0 → b_X3_box_30 Q l1 l2 (iz 1) w4) ∧ (¬ r3 = iz 0 → b_X3_box_30 Q l1 l2 (iz 0) w4))))
set_option maxRecDepth 100000 in
set_option maxHeartbeats 4000000 in
theorem s_X3_box_30 {γ : GG} (Q : Int32 → Wd → Prop) (l1 : Int32) (l2 : Int32) (t0 : Int32) : ∀ (w : Wd), b_X3_box_30 Q l1 l2 t0 w → Rch γ 75 k_X3_box 30 [some (.ref 2), some (.int l1), some (.int l2)] [.int t0, .ref 2] w (qI Q) xN := by
  intro w h
  unfold b_X3_box_30 at h
  replace h := h _ rfl
  refine pf_60 _ 33 dX3_box_30 rfl rfl ?_
  refine R.aload_n 34 dX3_box_33 rfl rfl ?_
  refine gf_60 37 dX3_box_34 rfl rfl ?_
  refine R.if_le 42 40 dX3_box_37 (by decide) rfl (fun hc => ?_) (fun hc => ?_)
  · replace h := h.1 hc
    refine R.iload_n 43 dX3_box_42 rfl rfl ?_
    by_cases c0 : l2.toInt = 4
    · replace h := h.1 c0
      refine R.tswIn 4 68 dX3_box_43 c0 (by decide) (by decide) rfl (by decide) ?_
      refine R.aload_n 69 dX3_box_68 rfl rfl ?_
      refine R.aload_n 70 dX3_box_69 rfl rfl ?_
      refine gf_90 73 dX3_box_70 rfl rfl ?_
      refine R.iload_n 74 dX3_box_73 rfl rfl ?_
      refine Rch.callv (sd_X3_valueOf _ _ _ _ h) dX3_box_74 (lw_V q1591 q1593 qs107 q146 q1594) dk_X3_valueOf rcM (by decide) (Nat.le_of_ble_eq_true rfl) rfl rfl (Nat.le_of_ble_eq_true rfl) (kI 77 rfl fun r2 w3 h => ?_) kN
      exact R.retI dX3_box_77 rfl h
    replace h := h.2
    by_cases c1 : l2.toInt = 5
    · replace h := h.1 c1
      refine R.tswIn 5 78 dX3_box_43 c1 (by decide) (by decide) rfl (by decide) ?_
      refine R.aload_n 79 dX3_box_78 rfl rfl ?_
      refine R.aload_n 80 dX3_box_79 rfl rfl ?_
      refine gf_90 83 dX3_box_80 rfl rfl ?_
      refine R.iload_n 84 dX3_box_83 rfl rfl ?_
      refine Rch.callv (sd_X3_weightOf _ _ _ _ h) dX3_box_84 (lw_V q1614 q1616 qs111 q146 q1617) dk_X3_weightOf rcM (by decide) (Nat.le_of_ble_eq_true rfl) rfl rfl (Nat.le_of_ble_eq_true rfl) (kI 87 rfl fun r4 w5 h => ?_) kN
      exact R.retI dX3_box_87 rfl h
    replace h := h.2
    by_cases c2 : l2.toInt = 6
    · replace h := h.1 c2
      refine R.tswIn 6 88 dX3_box_43 c2 (by decide) (by decide) rfl (by decide) ?_
      refine R.aload_n 89 dX3_box_88 rfl rfl ?_
      refine gf_90 92 dX3_box_89 rfl rfl ?_
      refine R.bipush 94 dX3_box_92 rfl (by decide +kernel) ?_
      obtain ⟨hb, h⟩ := h
      refine R.iald ar_90 95 dX3_box_94 rfl hb ?_
      refine R.iconst 96 dX3_box_95 rfl ?_
      refine R.isub 97 dX3_box_96 rfl ?_
      refine R.iload_n 98 dX3_box_97 rfl rfl ?_
      refine R.isub 99 dX3_box_98 rfl ?_
      exact R.retI dX3_box_99 rfl h
    replace h := h.2
    have cd : l2.toInt < 4 ∨ 6 < l2.toInt := by omega
    replace h := h cd
    refine R.tswOut 100 dX3_box_43 cd (by decide) ?_
    refine R.aload_n 101 dX3_box_100 rfl rfl ?_
    refine gf_90 104 dX3_box_101 rfl rfl ?_
    refine R.iconst 105 dX3_box_104 rfl ?_
    refine R.iload_n 106 dX3_box_105 rfl rfl ?_
    refine R.imul 107 dX3_box_106 rfl ?_
    refine R.iload_n 108 dX3_box_107 rfl rfl ?_
    refine R.iadd 109 dX3_box_108 rfl ?_
    obtain ⟨hb, h⟩ := h
    refine R.iald ar_90 110 dX3_box_109 rfl hb ?_
    exact R.retI dX3_box_110 rfl h
  · replace h := h.2 hc
    refine R.iconst 41 dX3_box_40 rfl ?_
    exact R.retI dX3_box_41 rfl h
set_option maxRecDepth 100000 in
set_option maxHeartbeats 4000000 in
theorem sd_X3_box {γ : GG} (l1 : Int32) (l2 : Int32) (w : Wd) (Q : Int32 → Wd → Prop) : wp_X3_box l1 l2 w Q → Ctr γ 75 yX3_box (ws_ yX3_box cX3_box 3 (some .int)) [.ref 2, .int l1, .int l2] w (qI Q) xN := by
  intro h
  unfold wp_X3_box at h
  refine Ctr.of (μ := k_X3_box) (by decide) rfl rfl rfl (Nat.le_of_ble_eq_true rfl) ⟨0, ?_⟩
  have es : lva [.ref 2, .int l1, .int l2] ++ List.replicate 0 none = [some (.ref 2), some (.int l1), some (.int l2)] := rfl
  rw [es]
  refine R.aload_n 1 dX3_box_0 rfl rfl ?_
  refine R.aload_n 2 dX3_box_1 rfl rfl ?_
  refine R.aload_n 3 dX3_box_2 rfl rfl ?_
  refine gf_90 6 dX3_box_3 rfl rfl ?_
  refine R.iload_n 7 dX3_box_6 rfl rfl ?_
  refine Rch.callv (sd_X3_isBox _ _ _ _ h) dX3_box_7 (lw_V q1586 q1588 qs106 q146 q1589) dk_X3_isBox rcM (by decide) (Nat.le_of_ble_eq_true rfl) rfl rfl (Nat.le_of_ble_eq_true rfl) (kI 10 rfl fun r1 w2 h => ?_) kN
  refine R.if_eq 29 13 dX3_box_10 (by decide) rfl (fun hc => ?_) (fun hc => ?_)
  · replace h := h.1 hc
    refine R.iconst 30 dX3_box_29 rfl ?_
    exact Rch.dropk (s_X3_box_30 Q _ _ _ _ h) ⟨rfl, ⟨rfl, ⟨rfl, trivial⟩⟩⟩
  · replace h := h.2 hc
    refine R.iload_n 14 dX3_box_13 rfl rfl ?_
    refine R.i2l 15 dX3_box_14 rfl ?_
    refine R.lconst (m0 := 0) 16 dX3_box_15 rfl (by decide +kernel) ?_
    refine R.ldc2 (n := 6) 19 dX3_box_16 rfl q1590 (by decide +kernel) ?_
    refine Rch.calls (sd_X3_isIn _ _ _ _ _ h) dX3_box_19 (lw_S q1426 q1427 q146 q1428) dk_X3_isIn (by decide) (Nat.le_of_ble_eq_true rfl) rfl rfl (Nat.le_of_ble_eq_true rfl) (kI 22 rfl fun r3 w4 h => ?_) kN
    refine R.if_eq 29 25 dX3_box_22 (by decide) rfl (fun hc => ?_) (fun hc => ?_)
    · replace h := h.1 hc
      refine R.iconst 30 dX3_box_29 rfl ?_
      exact Rch.dropk (s_X3_box_30 Q _ _ _ _ h) ⟨rfl, ⟨rfl, ⟨rfl, trivial⟩⟩⟩
    · replace h := h.2 hc
      refine R.iconst 26 dX3_box_25 rfl ?_
      refine R.goto 30 dX3_box_26 (by decide) ?_
      exact Rch.dropk (s_X3_box_30 Q _ _ _ _ h) ⟨rfl, ⟨rfl, ⟨rfl, trivial⟩⟩⟩

abbrev k_X3_law : MK := ("FrostBoxModel", cX3_law, 2, (some .boolean), [], "law")
def wp_X3_law (l1 : Int32) (w : Wd) (Q : Int32 → Wd → Prop) : Prop := ∀ w1, w1 = sI w 60 (iz 0) → (l1 = (iz (-1)) → ∀ w2, w2 = sI w1 92 l1 → Q (iz 1) w2) ∧ (¬ l1 = (iz (-1)) → wp_X3_isIn ((l1).toInt64) (lz 0) ((((gI w1 67) - (iz 1))).toInt64) w1 (fun r3 w4 => (¬ r3 = iz 0 → ∀ w5, w5 = sI w4 92 l1 → Q (iz 1) w5) ∧ (r3 = iz 0 → Q (iz 0) w4)))
set_option maxRecDepth 100000 in
set_option maxHeartbeats 4000000 in
theorem sd_X3_law {γ : GG} (l1 : Int32) (w : Wd) (Q : Int32 → Wd → Prop) : wp_X3_law l1 w Q → Ctr γ 2 yX3_law (ws_ yX3_law cX3_law 2 (some .boolean)) [.ref 2, .int l1] w (qI Q) xN := by
  intro h
  unfold wp_X3_law at h
  refine Ctr.of (μ := k_X3_law) (by decide) rfl rfl rfl (Nat.le_of_ble_eq_true rfl) ⟨0, ?_⟩
  have es : lva [.ref 2, .int l1] ++ List.replicate 0 none = [some (.ref 2), some (.int l1)] := rfl
  rw [es]
  refine R.aload_n 1 dX3_law_0 rfl rfl ?_
  refine R.iconst 2 dX3_law_1 rfl ?_
  replace h := h _ rfl
  refine pf_60 _ 5 dX3_law_2 rfl rfl ?_
  refine R.iload_n 6 dX3_law_5 rfl rfl ?_
  refine R.iconst 7 dX3_law_6 rfl ?_
  refine R.icmp_eq 28 10 dX3_law_7 (by decide) rfl (fun hc => ?_) (fun hc => ?_)
  · replace h := h.1 hc
    refine R.aload_n 29 dX3_law_28 rfl rfl ?_
    refine R.iload_n 30 dX3_law_29 rfl rfl ?_
    replace h := h _ rfl
    refine pf_92 _ 33 dX3_law_30 rfl rfl ?_
    refine R.iconst 34 dX3_law_33 rfl ?_
    exact R.retZ dX3_law_34 rfl zok1 h
  · replace h := h.2 hc
    refine R.iload_n 11 dX3_law_10 rfl rfl ?_
    refine R.i2l 12 dX3_law_11 rfl ?_
    refine R.lconst (m0 := 0) 13 dX3_law_12 rfl (by decide +kernel) ?_
    refine R.aload_n 14 dX3_law_13 rfl rfl ?_
    refine gf_67 17 dX3_law_14 rfl rfl ?_
    refine R.iconst 18 dX3_law_17 rfl ?_
    refine R.isub 19 dX3_law_18 rfl ?_
    refine R.i2l 20 dX3_law_19 rfl ?_
    refine Rch.calls (sd_X3_isIn _ _ _ _ _ h) dX3_law_20 (lw_S q1426 q1427 q146 q1428) dk_X3_isIn (by decide) (Nat.le_of_ble_eq_true rfl) rfl rfl (Nat.le_of_ble_eq_true rfl) (kI 23 rfl fun r3 w4 h => ?_) kN
    refine R.if_ne 28 26 dX3_law_23 (by decide) rfl (fun hc => ?_) (fun hc => ?_)
    · replace h := h.1 hc
      refine R.aload_n 29 dX3_law_28 rfl rfl ?_
      refine R.iload_n 30 dX3_law_29 rfl rfl ?_
      replace h := h _ rfl
      refine pf_92 _ 33 dX3_law_30 rfl rfl ?_
      refine R.iconst 34 dX3_law_33 rfl ?_
      exact R.retZ dX3_law_34 rfl zok1 h
    · replace h := h.2 hc
      refine R.iconst 27 dX3_law_26 rfl ?_
      exact R.retZ dX3_law_27 rfl zok0 h

abbrev k_X3_habit : MK := ("FrostBoxModel", cX3_habit, 2, (some .boolean), [], "habit")
def wp_X3_habit (l1 : Int32) (w : Wd) (Q : Int32 → Wd → Prop) : Prop := ∀ w1, w1 = sI w 60 (iz 0) → wp_X3_isIn ((l1).toInt64) (lz 0) (lz 9) w1 (fun r2 w3 => (r2 = iz 0 → Q (iz 0) w3) ∧ (¬ r2 = iz 0 → (¬ l1 = (gI w3 93) → ∀ w4, w4 = sI w3 93 l1 → Q (iz 1) w4) ∧ (l1 = (gI w3 93) → Q (iz 0) w3)))
set_option maxRecDepth 100000 in
set_option maxHeartbeats 4000000 in
theorem sd_X3_habit {γ : GG} (l1 : Int32) (w : Wd) (Q : Int32 → Wd → Prop) : wp_X3_habit l1 w Q → Ctr γ 2 yX3_habit (ws_ yX3_habit cX3_habit 2 (some .boolean)) [.ref 2, .int l1] w (qI Q) xN := by
  intro h
  unfold wp_X3_habit at h
  refine Ctr.of (μ := k_X3_habit) (by decide) rfl rfl rfl (Nat.le_of_ble_eq_true rfl) ⟨0, ?_⟩
  have es : lva [.ref 2, .int l1] ++ List.replicate 0 none = [some (.ref 2), some (.int l1)] := rfl
  rw [es]
  refine R.aload_n 1 dX3_habit_0 rfl rfl ?_
  refine R.iconst 2 dX3_habit_1 rfl ?_
  replace h := h _ rfl
  refine pf_60 _ 5 dX3_habit_2 rfl rfl ?_
  refine R.iload_n 6 dX3_habit_5 rfl rfl ?_
  refine R.i2l 7 dX3_habit_6 rfl ?_
  refine R.lconst (m0 := 0) 8 dX3_habit_7 rfl (by decide +kernel) ?_
  refine R.ldc2 (n := 9) 11 dX3_habit_8 rfl q1626 (by decide +kernel) ?_
  refine Rch.calls (sd_X3_isIn _ _ _ _ _ h) dX3_habit_11 (lw_S q1426 q1427 q146 q1428) dk_X3_isIn (by decide) (Nat.le_of_ble_eq_true rfl) rfl rfl (Nat.le_of_ble_eq_true rfl) (kI 14 rfl fun r2 w3 h => ?_) kN
  refine R.if_eq 25 17 dX3_habit_14 (by decide) rfl (fun hc => ?_) (fun hc => ?_)
  · replace h := h.1 hc
    refine R.iconst 26 dX3_habit_25 rfl ?_
    exact R.retZ dX3_habit_26 rfl zok0 h
  · replace h := h.2 hc
    refine R.iload_n 18 dX3_habit_17 rfl rfl ?_
    refine R.aload_n 19 dX3_habit_18 rfl rfl ?_
    refine gf_93 22 dX3_habit_19 rfl rfl ?_
    refine R.icmp_ne 27 25 dX3_habit_22 (by decide) rfl (fun hc => ?_) (fun hc => ?_)
    · replace h := h.1 hc
      refine R.aload_n 28 dX3_habit_27 rfl rfl ?_
      refine R.iload_n 29 dX3_habit_28 rfl rfl ?_
      replace h := h _ rfl
      refine pf_93 _ 32 dX3_habit_29 rfl rfl ?_
      refine R.iconst 33 dX3_habit_32 rfl ?_
      exact R.retZ dX3_habit_33 rfl zok1 h
    · replace h := h.2 hc
      refine R.iconst 26 dX3_habit_25 rfl ?_
      exact R.retZ dX3_habit_26 rfl zok0 h

abbrev k_X3_sumIn : MK := ("FrostBoxModel", cX3_sumIn, 4, (some .int), [], "sumIn")
def wl_X3_sumIn_4 (Q : Int32 → Wd → Prop) (l1 : Nat) (R4 : Int32 → Int32 → Wd → Prop) (l2 : Int32) (l3 : Int32) (w : Wd) : Prop := inA l1 (iz 40) ∧ ((gA w l1 (iz 40).toInt) ≤ l3 → Q l2 w) ∧ (¬ (gA w l1 (iz 40).toInt) ≤ l3 → inA l1 (((iz 5) * l3) + (iz 1)) ∧ R4 (l2 + (gA w l1 (((iz 5) * l3) + (iz 1)).toInt)) (l3 + iz 1) w)
def lp_X3_sumIn_4 (Q : Int32 → Wd → Prop) (l1 : Nat) : Nat → Int32 → Int32 → Wd → Prop
  | 0, _, _, _ => False
  | n + 1, l2, l3, w => wl_X3_sumIn_4 Q l1 (lp_X3_sumIn_4 Q l1 n) l2 l3 w
def wp_X3_sumIn (l1 : Nat) (w : Wd) (Q : Int32 → Wd → Prop) : Prop := ∃ n1, lp_X3_sumIn_4 Q l1 n1 (iz 0) (iz 0) w
set_option maxRecDepth 100000 in
set_option maxHeartbeats 4000000 in
theorem sl_X3_sumIn_4 {γ : GG} (Q : Int32 → Wd → Prop) (l1 : Nat) : ∀ (n : Nat) (l2 : Int32) (l3 : Int32) (w : Wd), lp_X3_sumIn_4 Q l1 n l2 l3 w → Rch γ 1 k_X3_sumIn 4 [none, some (.ref l1), some (.int l2), some (.int l3)] [] w (qI Q) xN := by
  intro n
  induction n with
  | zero => intro _ _ _ h; exact h.elim
  | succ n hR4 =>
    intro l2 l3 w h
    have h : wl_X3_sumIn_4 Q l1 (lp_X3_sumIn_4 Q l1 n) l2 l3 w := h
    unfold wl_X3_sumIn_4 at h
    refine R.iload_n 5 dX3_sumIn_4 rfl rfl ?_
    refine R.aload_n 6 dX3_sumIn_5 rfl rfl ?_
    refine R.bipush 8 dX3_sumIn_6 rfl (by decide +kernel) ?_
    obtain ⟨hb, h⟩ := h
    refine R.iaA 9 dX3_sumIn_8 rfl hb ?_
    refine R.icmp_ge 28 12 dX3_sumIn_9 (by decide) rfl (fun hc => ?_) (fun hc => ?_)
    · replace h := h.1 hc
      refine R.iload_n 29 dX3_sumIn_28 rfl rfl ?_
      exact R.retI dX3_sumIn_29 rfl h
    · replace h := h.2 hc
      refine R.iload_n 13 dX3_sumIn_12 rfl rfl ?_
      refine R.aload_n 14 dX3_sumIn_13 rfl rfl ?_
      refine R.iconst 15 dX3_sumIn_14 rfl ?_
      refine R.iload_n 16 dX3_sumIn_15 rfl rfl ?_
      refine R.imul 17 dX3_sumIn_16 rfl ?_
      refine R.iconst 18 dX3_sumIn_17 rfl ?_
      refine R.iadd 19 dX3_sumIn_18 rfl ?_
      obtain ⟨hb, h⟩ := h
      refine R.iaA 20 dX3_sumIn_19 rfl hb ?_
      refine R.iadd 21 dX3_sumIn_20 rfl ?_
      refine R.ist2n 22 dX3_sumIn_21 rfl (Nat.le_of_ble_eq_true rfl) rfl ?_
      refine R.inc3 25 dX3_sumIn_22 rfl (Nat.le_of_ble_eq_true rfl) rfl ?_
      refine R.goto 4 dX3_sumIn_25 (by decide) ?_
      exact Rch.dropk (hR4 _ _ _ h) ⟨rfl, ⟨rfl, ⟨rfl, trivial⟩⟩⟩
set_option maxRecDepth 100000 in
set_option maxHeartbeats 4000000 in
theorem sd_X3_sumIn {γ : GG} (l1 : Nat) (w : Wd) (Q : Int32 → Wd → Prop) : wp_X3_sumIn l1 w Q → Ctr γ 1 yX3_sumIn (ws_ yX3_sumIn cX3_sumIn 4 (some .int)) [.ref 2, .ref l1] w (qI Q) xN := by
  intro h
  unfold wp_X3_sumIn at h
  refine Ctr.of (μ := k_X3_sumIn) (by decide) rfl rfl rfl (Nat.le_of_ble_eq_true rfl) ⟨2, ?_⟩
  have es : lva [.ref 2, .ref l1] ++ List.replicate 2 none = [some (.ref 2), some (.ref l1), none, none] := rfl
  rw [es]
  refine R.iconst 1 dX3_sumIn_0 rfl ?_
  refine R.ist2n 2 dX3_sumIn_1 rfl (Nat.le_of_ble_eq_true rfl) rfl ?_
  refine R.iconst 3 dX3_sumIn_2 rfl ?_
  refine R.ist3n 4 dX3_sumIn_3 rfl (Nat.le_of_ble_eq_true rfl) rfl ?_
  obtain ⟨n1, h⟩ := h
  exact Rch.dropk (sl_X3_sumIn_4 Q _ n1 _ _ _ h) ⟨rfl, ⟨rfl, ⟨rfl, trivial⟩⟩⟩

abbrev k_X3_canPut : MK := ("FrostBoxModel", cX3_canPut, 4, (some .boolean), [], "canPut")
def wp_X3_canPut (l1 : Nat) (l2 : Int32) (l3 : Int32) (w : Wd) (Q : Int32 → Wd → Prop) : Prop := wp_X3_isKind l2 w (fun r1 w2 => (r1 = iz 0 → Q (iz 0) w2) ∧ (¬ r1 = iz 0 → wp_X3_isIn ((l3).toInt64) (lz 1) (lz 9) w2 (fun r3 w4 => (r3 = iz 0 → Q (iz 0) w4) ∧ (¬ r3 = iz 0 → inA l1 (iz 40) ∧ ((iz 8) ≤ (gA w4 l1 (iz 40).toInt) → Q (iz 0) w4) ∧ (¬ (iz 8) ≤ (gA w4 l1 (iz 40).toInt) → wp_X3_sumIn l1 w4 (fun r5 w6 => inb (iz 0) 4 ∧ ((gA w6 78 (iz 0).toInt) < (r5 + l3) → Q (iz 0) w6) ∧ (¬ (gA w6 78 (iz 0).toInt) < (r5 + l3) → Q (iz 1) w6)))))))
set_option maxRecDepth 100000 in
set_option maxHeartbeats 4000000 in
theorem sd_X3_canPut {γ : GG} (l1 : Nat) (l2 : Int32) (l3 : Int32) (w : Wd) (Q : Int32 → Wd → Prop) : wp_X3_canPut l1 l2 l3 w Q → Ctr γ 2 yX3_canPut (ws_ yX3_canPut cX3_canPut 4 (some .boolean)) [.ref 2, .ref l1, .int l2, .int l3] w (qI Q) xN := by
  intro h
  unfold wp_X3_canPut at h
  refine Ctr.of (μ := k_X3_canPut) (by decide) rfl rfl rfl (Nat.le_of_ble_eq_true rfl) ⟨0, ?_⟩
  have es : lva [.ref 2, .ref l1, .int l2, .int l3] ++ List.replicate 0 none = [some (.ref 2), some (.ref l1), some (.int l2), some (.int l3)] := rfl
  rw [es]
  refine R.aload_n 1 dX3_canPut_0 rfl rfl ?_
  refine R.iload_n 2 dX3_canPut_1 rfl rfl ?_
  refine Rch.callv (sd_X3_isKind _ _ _ h) dX3_canPut_2 (lw_V q1573 q1575 qs104 q146 q1576) dk_X3_isKind rcM (by decide) (Nat.le_of_ble_eq_true rfl) rfl rfl (Nat.le_of_ble_eq_true rfl) (kI 5 rfl fun r1 w2 h => ?_) kN
  refine R.if_eq 49 8 dX3_canPut_5 (by decide) rfl (fun hc => ?_) (fun hc => ?_)
  · replace h := h.1 hc
    refine R.iconst 50 dX3_canPut_49 rfl ?_
    exact R.retZ dX3_canPut_50 rfl zok0 h
  · replace h := h.2 hc
    refine R.iload_n 9 dX3_canPut_8 rfl rfl ?_
    refine R.i2l 10 dX3_canPut_9 rfl ?_
    refine R.lconst (m0 := 1) 11 dX3_canPut_10 rfl (by decide +kernel) ?_
    refine R.ldc2 (n := 9) 14 dX3_canPut_11 rfl q1626 (by decide +kernel) ?_
    refine Rch.calls (sd_X3_isIn _ _ _ _ _ h) dX3_canPut_14 (lw_S q1426 q1427 q146 q1428) dk_X3_isIn (by decide) (Nat.le_of_ble_eq_true rfl) rfl rfl (Nat.le_of_ble_eq_true rfl) (kI 17 rfl fun r3 w4 h => ?_) kN
    refine R.if_eq 49 20 dX3_canPut_17 (by decide) rfl (fun hc => ?_) (fun hc => ?_)
    · replace h := h.1 hc
      refine R.iconst 50 dX3_canPut_49 rfl ?_
      exact R.retZ dX3_canPut_50 rfl zok0 h
    · replace h := h.2 hc
      refine R.aload_n 21 dX3_canPut_20 rfl rfl ?_
      refine R.bipush 23 dX3_canPut_21 rfl (by decide +kernel) ?_
      obtain ⟨hb, h⟩ := h
      refine R.iaA 24 dX3_canPut_23 rfl hb ?_
      refine R.bipush 26 dX3_canPut_24 rfl (by decide +kernel) ?_
      refine R.icmp_ge 49 29 dX3_canPut_26 (by decide) rfl (fun hc => ?_) (fun hc => ?_)
      · replace h := h.1 hc
        refine R.iconst 50 dX3_canPut_49 rfl ?_
        exact R.retZ dX3_canPut_50 rfl zok0 h
      · replace h := h.2 hc
        refine R.aload_n 30 dX3_canPut_29 rfl rfl ?_
        refine R.aload_n 31 dX3_canPut_30 rfl rfl ?_
        refine Rch.callv (sd_X3_sumIn _ _ _ h) dX3_canPut_31 (lw_V q1635 q1637 qs113 q146 q1638) dk_X3_sumIn rcM (by decide) (Nat.le_of_ble_eq_true rfl) rfl rfl (Nat.le_of_ble_eq_true rfl) (kI 34 rfl fun r5 w6 h => ?_) kN
        refine R.iload_n 35 dX3_canPut_34 rfl rfl ?_
        refine R.iadd 36 dX3_canPut_35 rfl ?_
        refine R.aload_n 37 dX3_canPut_36 rfl rfl ?_
        refine gf_78 40 dX3_canPut_37 rfl rfl ?_
        refine R.iconst 41 dX3_canPut_40 rfl ?_
        obtain ⟨hb, h⟩ := h
        refine R.iald ar_78 42 dX3_canPut_41 rfl hb ?_
        refine R.icmp_gt 49 45 dX3_canPut_42 (by decide) rfl (fun hc => ?_) (fun hc => ?_)
        · replace h := h.1 hc
          refine R.iconst 50 dX3_canPut_49 rfl ?_
          exact R.retZ dX3_canPut_50 rfl zok0 h
        · replace h := h.2 hc
          refine R.iconst 46 dX3_canPut_45 rfl ?_
          refine R.goto 50 dX3_canPut_46 (by decide) ?_
          exact R.retZ dX3_canPut_50 rfl zok1 h

abbrev k_X3_remember : MK := ("FrostBoxModel", cX3_remember, 2, none, [], "remember")
def wl_X3_remember_52 (Q : Wd → Prop) (R52 : Int32 → Wd → Prop) (l1 : Int32) (w : Wd) : Prop := ((iz 283) ≤ l1 → ∀ w1, w1 = sI w 97 ((gI w 97) + (iz 1)) → Q w1) ∧ (¬ (iz 283) ≤ l1 → inb l1 283 ∧ inb (((iz 283) * (gI w 97)) + l1) 11320 ∧ (∀ w2, w2 = sA w 96 (((iz 283) * (gI w 97)) + l1).toInt (gA w 90 l1.toInt) → R52 (l1 + iz 1) w2))
def lp_X3_remember_52 (Q : Wd → Prop) : Nat → Int32 → Wd → Prop
  | 0, _, _ => False
  | n + 1, l1, w => wl_X3_remember_52 Q (lp_X3_remember_52 Q n) l1 w
def wl_X3_remember_11 (Q : Wd → Prop) (R11 : Int32 → Wd → Prop) (l1 : Int32) (w : Wd) : Prop := ((iz 11037) ≤ l1 → ∀ w1, w1 = sI w 97 ((gI w 97) - (iz 1)) → ∃ n2, lp_X3_remember_52 Q n2 (iz 0) w1) ∧ (¬ (iz 11037) ≤ l1 → inb (l1 + (iz 283)) 11320 ∧ inb l1 11320 ∧ (∀ w3, w3 = sA w 96 l1.toInt (gA w 96 (l1 + (iz 283)).toInt) → R11 (l1 + iz 1) w3))
def lp_X3_remember_11 (Q : Wd → Prop) : Nat → Int32 → Wd → Prop
  | 0, _, _ => False
  | n + 1, l1, w => wl_X3_remember_11 Q (lp_X3_remember_11 Q n) l1 w
def wp_X3_remember (w : Wd) (Q : Wd → Prop) : Prop := (¬ (gI w 97) = (iz 40) → ∃ n1, lp_X3_remember_52 Q n1 (iz 0) w) ∧ ((gI w 97) = (iz 40) → ∃ n2, lp_X3_remember_11 Q n2 (iz 0) w)
set_option maxRecDepth 100000 in
set_option maxHeartbeats 4000000 in
theorem sl_X3_remember_52 {γ : GG} (Q : Wd → Prop) : ∀ (n : Nat) (l1 : Int32) (w : Wd), lp_X3_remember_52 Q n l1 w → Rch γ 1 k_X3_remember 52 [some (.ref 2), some (.int l1)] [] w (qV Q) xN := by
  intro n
  induction n with
  | zero => intro _ _ h; exact h.elim
  | succ n hR52 =>
    intro l1 w h
    have h : wl_X3_remember_52 Q (lp_X3_remember_52 Q n) l1 w := h
    unfold wl_X3_remember_52 at h
    refine R.iload_n 53 dX3_remember_52 rfl rfl ?_
    refine R.sipush 56 dX3_remember_53 rfl (by decide +kernel) ?_
    refine R.icmp_ge 86 59 dX3_remember_56 (by decide) rfl (fun hc => ?_) (fun hc => ?_)
    · replace h := h.1 hc
      refine R.aload_n 87 dX3_remember_86 rfl rfl ?_
      refine R.dupR 88 dX3_remember_87 rfl ?_
      refine gf_97 91 dX3_remember_88 rfl rfl ?_
      refine R.iconst 92 dX3_remember_91 rfl ?_
      refine R.iadd 93 dX3_remember_92 rfl ?_
      replace h := h _ rfl
      refine pf_97 _ 96 dX3_remember_93 rfl rfl ?_
      exact R.retV dX3_remember_96 rfl h
    · replace h := h.2 hc
      refine R.aload_n 60 dX3_remember_59 rfl rfl ?_
      refine gf_96 63 dX3_remember_60 rfl rfl ?_
      refine R.sipush 66 dX3_remember_63 rfl (by decide +kernel) ?_
      refine R.aload_n 67 dX3_remember_66 rfl rfl ?_
      refine gf_97 70 dX3_remember_67 rfl rfl ?_
      refine R.imul 71 dX3_remember_70 rfl ?_
      refine R.iload_n 72 dX3_remember_71 rfl rfl ?_
      refine R.iadd 73 dX3_remember_72 rfl ?_
      refine R.aload_n 74 dX3_remember_73 rfl rfl ?_
      refine gf_90 77 dX3_remember_74 rfl rfl ?_
      refine R.iload_n 78 dX3_remember_77 rfl rfl ?_
      obtain ⟨hb, h⟩ := h
      refine R.iald ar_90 79 dX3_remember_78 rfl hb ?_
      obtain ⟨hb, h⟩ := h
      replace h := h _ rfl
      refine R.iast ar_96 80 dX3_remember_79 rfl hb ?_
      refine R.inc1 83 dX3_remember_80 rfl (Nat.le_of_ble_eq_true rfl) rfl ?_
      refine R.goto 52 dX3_remember_83 (by decide) ?_
      exact Rch.dropk (hR52 _ _ h) ⟨rfl, ⟨rfl, trivial⟩⟩
set_option maxRecDepth 100000 in
set_option maxHeartbeats 4000000 in
theorem sl_X3_remember_11 {γ : GG} (Q : Wd → Prop) : ∀ (n : Nat) (l1 : Int32) (w : Wd), lp_X3_remember_11 Q n l1 w → Rch γ 1 k_X3_remember 11 [some (.ref 2), some (.int l1)] [] w (qV Q) xN := by
  intro n
  induction n with
  | zero => intro _ _ h; exact h.elim
  | succ n hR11 =>
    intro l1 w h
    have h : wl_X3_remember_11 Q (lp_X3_remember_11 Q n) l1 w := h
    unfold wl_X3_remember_11 at h
    refine R.iload_n 12 dX3_remember_11 rfl rfl ?_
    refine R.sipush 15 dX3_remember_12 rfl (by decide +kernel) ?_
    refine R.icmp_ge 40 18 dX3_remember_15 (by decide) rfl (fun hc => ?_) (fun hc => ?_)
    · replace h := h.1 hc
      refine R.aload_n 41 dX3_remember_40 rfl rfl ?_
      refine R.dupR 42 dX3_remember_41 rfl ?_
      refine gf_97 45 dX3_remember_42 rfl rfl ?_
      refine R.iconst 46 dX3_remember_45 rfl ?_
      refine R.isub 47 dX3_remember_46 rfl ?_
      replace h := h _ rfl
      refine pf_97 _ 50 dX3_remember_47 rfl rfl ?_
      refine R.iconst 51 dX3_remember_50 rfl ?_
      refine R.ist1n 52 dX3_remember_51 rfl (Nat.le_of_ble_eq_true rfl) rfl ?_
      obtain ⟨n2, h⟩ := h
      exact Rch.dropk (sl_X3_remember_52 Q n2 _ _ h) ⟨rfl, ⟨rfl, trivial⟩⟩
    · replace h := h.2 hc
      refine R.aload_n 19 dX3_remember_18 rfl rfl ?_
      refine gf_96 22 dX3_remember_19 rfl rfl ?_
      refine R.iload_n 23 dX3_remember_22 rfl rfl ?_
      refine R.aload_n 24 dX3_remember_23 rfl rfl ?_
      refine gf_96 27 dX3_remember_24 rfl rfl ?_
      refine R.iload_n 28 dX3_remember_27 rfl rfl ?_
      refine R.sipush 31 dX3_remember_28 rfl (by decide +kernel) ?_
      refine R.iadd 32 dX3_remember_31 rfl ?_
      obtain ⟨hb, h⟩ := h
      refine R.iald ar_96 33 dX3_remember_32 rfl hb ?_
      obtain ⟨hb, h⟩ := h
      replace h := h _ rfl
      refine R.iast ar_96 34 dX3_remember_33 rfl hb ?_
      refine R.inc1 37 dX3_remember_34 rfl (Nat.le_of_ble_eq_true rfl) rfl ?_
      refine R.goto 11 dX3_remember_37 (by decide) ?_
      exact Rch.dropk (hR11 _ _ h) ⟨rfl, ⟨rfl, trivial⟩⟩
set_option maxRecDepth 100000 in
set_option maxHeartbeats 4000000 in
theorem sd_X3_remember {γ : GG} (w : Wd) (Q : Wd → Prop) : wp_X3_remember w Q → Ctr γ 1 yX3_remember (ws_ yX3_remember cX3_remember 2 none) [.ref 2] w (qV Q) xN := by
  intro h
  unfold wp_X3_remember at h
  refine Ctr.of (μ := k_X3_remember) (by decide) rfl rfl rfl (Nat.le_of_ble_eq_true rfl) ⟨1, ?_⟩
  have es : lva [.ref 2] ++ List.replicate 1 none = [some (.ref 2), none] := rfl
  rw [es]
  refine R.aload_n 1 dX3_remember_0 rfl rfl ?_
  refine gf_97 4 dX3_remember_1 rfl rfl ?_
  refine R.bipush 6 dX3_remember_4 rfl (by decide +kernel) ?_
  refine R.icmp_ne 50 9 dX3_remember_6 (by decide) rfl (fun hc => ?_) (fun hc => ?_)
  · replace h := h.1 hc
    refine R.iconst 51 dX3_remember_50 rfl ?_
    refine R.ist1n 52 dX3_remember_51 rfl (Nat.le_of_ble_eq_true rfl) rfl ?_
    obtain ⟨n1, h⟩ := h
    exact Rch.dropk (sl_X3_remember_52 Q n1 _ _ h) ⟨rfl, ⟨rfl, trivial⟩⟩
  · replace h := h.2 hc
    refine R.iconst 10 dX3_remember_9 rfl ?_
    refine R.ist1n 11 dX3_remember_10 rfl (Nat.le_of_ble_eq_true rfl) rfl ?_
    obtain ⟨n2, h⟩ := h
    exact Rch.dropk (sl_X3_remember_11 Q n2 _ _ h) ⟨rfl, ⟨rfl, trivial⟩⟩

abbrev k_X3_puts : MK := ("FrostBoxModel", cX3_puts, 5, none, [], "puts")
def wl_X3_puts_10 (Q : Wd → Prop) (l0 : Nat) (l1 : Int32) (l2 : Int32) (l3 : Int32) (R10 : Int32 → Wd → Prop) (l4 : Int32) (w : Wd) : Prop := (l4 < iz 0 → inA l0 (iz 0) ∧ (∀ w1, w1 = sA w l0 (iz 0).toInt l1 → inA l0 (iz 1) ∧ (∀ w2, w2 = sA w1 l0 (iz 1).toInt l2 → inA l0 (iz 2) ∧ (∀ w3, w3 = sA w2 l0 (iz 2).toInt (iz 0) → inA l0 (iz 3) ∧ (∀ w4, w4 = sA w3 l0 (iz 3).toInt l3 → inA l0 (iz 41) ∧ inA l0 (iz 4) ∧ (∀ w5, w5 = sA w4 l0 (iz 4).toInt (gA w4 l0 (iz 41).toInt) → inA l0 (iz 40) ∧ inA l0 (iz 40) ∧ (∀ w6, w6 = sA w5 l0 (iz 40).toInt ((gA w5 l0 (iz 40).toInt) + (iz 1)) → Q w6))))))) ∧ (¬ l4 < iz 0 → inA l0 l4 ∧ inA l0 (l4 + (iz 5)) ∧ (∀ w7, w7 = sA w l0 (l4 + (iz 5)).toInt (gA w l0 l4.toInt) → R10 (l4 + iz (-1)) w7))
def lp_X3_puts_10 (Q : Wd → Prop) (l0 : Nat) (l1 : Int32) (l2 : Int32) (l3 : Int32) : Nat → Int32 → Wd → Prop
  | 0, _, _ => False
  | n + 1, l4, w => wl_X3_puts_10 Q l0 l1 l2 l3 (lp_X3_puts_10 Q l0 l1 l2 l3 n) l4 w
def wp_X3_puts (l0 : Nat) (l1 : Int32) (l2 : Int32) (l3 : Int32) (w : Wd) (Q : Wd → Prop) : Prop := inA l0 (iz 40) ∧ ∃ n1, lp_X3_puts_10 Q l0 l1 l2 l3 n1 (((iz 5) * (gA w l0 (iz 40).toInt)) - (iz 1)) w
set_option maxRecDepth 100000 in
set_option maxHeartbeats 4000000 in
theorem sl_X3_puts_10 {γ : GG} (Q : Wd → Prop) (l0 : Nat) (l1 : Int32) (l2 : Int32) (l3 : Int32) : ∀ (n : Nat) (l4 : Int32) (w : Wd), lp_X3_puts_10 Q l0 l1 l2 l3 n l4 w → Rch γ 1 k_X3_puts 10 [some (.ref l0), some (.int l1), some (.int l2), some (.int l3), some (.int l4)] [] w (qV Q) xN := by
  intro n
  induction n with
  | zero => intro _ _ h; exact h.elim
  | succ n hR10 =>
    intro l4 w h
    have h : wl_X3_puts_10 Q l0 l1 l2 l3 (lp_X3_puts_10 Q l0 l1 l2 l3 n) l4 w := h
    unfold wl_X3_puts_10 at h
    refine R.iload 12 dX3_puts_10 rfl rfl ?_
    refine R.if_lt 31 15 dX3_puts_12 (by decide) rfl (fun hc => ?_) (fun hc => ?_)
    · replace h := h.1 hc
      refine R.aload_n 32 dX3_puts_31 rfl rfl ?_
      refine R.iconst 33 dX3_puts_32 rfl ?_
      refine R.iload_n 34 dX3_puts_33 rfl rfl ?_
      obtain ⟨hb, h⟩ := h
      replace h := h _ rfl
      refine R.iasA 35 dX3_puts_34 rfl hb ?_
      refine R.aload_n 36 dX3_puts_35 rfl rfl ?_
      refine R.iconst 37 dX3_puts_36 rfl ?_
      refine R.iload_n 38 dX3_puts_37 rfl rfl ?_
      obtain ⟨hb, h⟩ := h
      replace h := h _ rfl
      refine R.iasA 39 dX3_puts_38 rfl hb ?_
      refine R.aload_n 40 dX3_puts_39 rfl rfl ?_
      refine R.iconst 41 dX3_puts_40 rfl ?_
      refine R.iconst 42 dX3_puts_41 rfl ?_
      obtain ⟨hb, h⟩ := h
      replace h := h _ rfl
      refine R.iasA 43 dX3_puts_42 rfl hb ?_
      refine R.aload_n 44 dX3_puts_43 rfl rfl ?_
      refine R.iconst 45 dX3_puts_44 rfl ?_
      refine R.iload_n 46 dX3_puts_45 rfl rfl ?_
      obtain ⟨hb, h⟩ := h
      replace h := h _ rfl
      refine R.iasA 47 dX3_puts_46 rfl hb ?_
      refine R.aload_n 48 dX3_puts_47 rfl rfl ?_
      refine R.iconst 49 dX3_puts_48 rfl ?_
      refine R.aload_n 50 dX3_puts_49 rfl rfl ?_
      refine R.bipush 52 dX3_puts_50 rfl (by decide +kernel) ?_
      obtain ⟨hb, h⟩ := h
      refine R.iaA 53 dX3_puts_52 rfl hb ?_
      obtain ⟨hb, h⟩ := h
      replace h := h _ rfl
      refine R.iasA 54 dX3_puts_53 rfl hb ?_
      refine R.aload_n 55 dX3_puts_54 rfl rfl ?_
      refine R.bipush 57 dX3_puts_55 rfl (by decide +kernel) ?_
      refine R.dup2 58 dX3_puts_57 rfl ?_
      obtain ⟨hb, h⟩ := h
      refine R.iaA 59 dX3_puts_58 rfl hb ?_
      refine R.iconst 60 dX3_puts_59 rfl ?_
      refine R.iadd 61 dX3_puts_60 rfl ?_
      obtain ⟨hb, h⟩ := h
      replace h := h _ rfl
      refine R.iasA 62 dX3_puts_61 rfl hb ?_
      exact R.retV dX3_puts_62 rfl h
    · replace h := h.2 hc
      refine R.aload_n 16 dX3_puts_15 rfl rfl ?_
      refine R.iload 18 dX3_puts_16 rfl rfl ?_
      refine R.iconst 19 dX3_puts_18 rfl ?_
      refine R.iadd 20 dX3_puts_19 rfl ?_
      refine R.aload_n 21 dX3_puts_20 rfl rfl ?_
      refine R.iload 23 dX3_puts_21 rfl rfl ?_
      obtain ⟨hb, h⟩ := h
      refine R.iaA 24 dX3_puts_23 rfl hb ?_
      obtain ⟨hb, h⟩ := h
      replace h := h _ rfl
      refine R.iasA 25 dX3_puts_24 rfl hb ?_
      refine R.inc4 28 dX3_puts_25 rfl (Nat.le_of_ble_eq_true rfl) rfl ?_
      refine R.goto 10 dX3_puts_28 (by decide) ?_
      exact Rch.dropk (hR10 _ _ h) ⟨rfl, ⟨rfl, ⟨rfl, ⟨rfl, ⟨rfl, trivial⟩⟩⟩⟩⟩
set_option maxRecDepth 100000 in
set_option maxHeartbeats 4000000 in
theorem sd_X3_puts {γ : GG} (l0 : Nat) (l1 : Int32) (l2 : Int32) (l3 : Int32) (w : Wd) (Q : Wd → Prop) : wp_X3_puts l0 l1 l2 l3 w Q → Ctr γ 1 yX3_puts (ws_ yX3_puts cX3_puts 5 none) [.ref l0, .int l1, .int l2, .int l3] w (qV Q) xN := by
  intro h
  unfold wp_X3_puts at h
  refine Ctr.of (μ := k_X3_puts) (by decide) rfl rfl rfl (Nat.le_of_ble_eq_true rfl) ⟨1, ?_⟩
  have es : lva [.ref l0, .int l1, .int l2, .int l3] ++ List.replicate 1 none = [some (.ref l0), some (.int l1), some (.int l2), some (.int l3), none] := rfl
  rw [es]
  refine R.iconst 1 dX3_puts_0 rfl ?_
  refine R.aload_n 2 dX3_puts_1 rfl rfl ?_
  refine R.bipush 4 dX3_puts_2 rfl (by decide +kernel) ?_
  obtain ⟨hb, h⟩ := h
  refine R.iaA 5 dX3_puts_4 rfl hb ?_
  refine R.imul 6 dX3_puts_5 rfl ?_
  refine R.iconst 7 dX3_puts_6 rfl ?_
  refine R.isub 8 dX3_puts_7 rfl ?_
  refine R.ist4 10 dX3_puts_8 rfl (Nat.le_of_ble_eq_true rfl) rfl ?_
  obtain ⟨n1, h⟩ := h
  exact Rch.dropk (sl_X3_puts_10 Q _ _ _ _ n1 _ _ h) ⟨rfl, ⟨rfl, ⟨rfl, ⟨rfl, ⟨rfl, trivial⟩⟩⟩⟩⟩

abbrev k_X3_put_2 : MK := ("FrostBoxModel", cX3_put_2, 4, (some .int), [], "put")
def wp_X3_put_2 (l1 : Int32) (l2 : Int32) (l3 : Int32) (w : Wd) (Q : Int32 → Wd → Prop) : Prop := ∀ w1, w1 = sI w 60 (iz 0) → wp_X3_canPut 90 l1 l2 w1 (fun r2 w3 => (¬ r2 = iz 0 → wp_X3_remember w3 (fun w5 => (l3 = iz 0 → wp_X3_puts 90 l1 l2 (iz 0) w5 (fun w7 => inb (iz 40) 283 ∧ Q (gA w7 90 (iz 40).toInt) w7)) ∧ (¬ l3 = iz 0 → wp_X3_puts 90 l1 l2 (iz 1) w5 (fun w9 => inb (iz 40) 283 ∧ Q (gA w9 90 (iz 40).toInt) w9)))) ∧ (r2 = iz 0 → Q (iz (-1)) w3))
set_option maxRecDepth 100000 in
set_option maxHeartbeats 4000000 in
theorem sd_X3_put_2 {γ : GG} (l1 : Int32) (l2 : Int32) (l3 : Int32) (w : Wd) (Q : Int32 → Wd → Prop) : wp_X3_put_2 l1 l2 l3 w Q → Ctr γ 3 yX3_put_2 (ws_ yX3_put_2 cX3_put_2 4 (some .int)) [.ref 2, .int l1, .int l2, .int l3] w (qI Q) xN := by
  intro h
  unfold wp_X3_put_2 at h
  refine Ctr.of (μ := k_X3_put_2) (by decide) rfl rfl rfl (Nat.le_of_ble_eq_true rfl) ⟨0, ?_⟩
  have es : lva [.ref 2, .int l1, .int l2, .int l3] ++ List.replicate 0 none = [some (.ref 2), some (.int l1), some (.int l2), some (.int l3)] := rfl
  rw [es]
  refine R.aload_n 1 dX3_put_2_0 rfl rfl ?_
  refine R.iconst 2 dX3_put_2_1 rfl ?_
  replace h := h _ rfl
  refine pf_60 _ 5 dX3_put_2_2 rfl rfl ?_
  refine R.aload_n 6 dX3_put_2_5 rfl rfl ?_
  refine R.aload_n 7 dX3_put_2_6 rfl rfl ?_
  refine gf_90 10 dX3_put_2_7 rfl rfl ?_
  refine R.iload_n 11 dX3_put_2_10 rfl rfl ?_
  refine R.iload_n 12 dX3_put_2_11 rfl rfl ?_
  refine Rch.callv (sd_X3_canPut _ _ _ _ _ h) dX3_put_2_12 (lw_V q1631 q1633 qs112 q146 q1634) dk_X3_canPut rcM (by decide) (Nat.le_of_ble_eq_true rfl) rfl rfl (Nat.le_of_ble_eq_true rfl) (kI 15 rfl fun r2 w3 h => ?_) kN
  refine R.if_ne 20 18 dX3_put_2_15 (by decide) rfl (fun hc => ?_) (fun hc => ?_)
  · replace h := h.1 hc
    refine R.aload_n 21 dX3_put_2_20 rfl rfl ?_
    refine Rch.callv (sd_X3_remember _ _ h) dX3_put_2_21 (lw_V q1639 q1641 qs114 q146 q1642) dk_X3_remember rcM (by decide) (Nat.le_of_ble_eq_true rfl) rfl rfl (Nat.le_of_ble_eq_true rfl) (kV 24 rfl fun w5 h => ?_) kN
    refine R.aload_n 25 dX3_put_2_24 rfl rfl ?_
    refine gf_90 28 dX3_put_2_25 rfl rfl ?_
    refine R.iload_n 29 dX3_put_2_28 rfl rfl ?_
    refine R.iload_n 30 dX3_put_2_29 rfl rfl ?_
    refine R.iload_n 31 dX3_put_2_30 rfl rfl ?_
    refine R.if_eq 38 34 dX3_put_2_31 (by decide) rfl (fun hc => ?_) (fun hc => ?_)
    · replace h := h.1 hc
      refine R.iconst 39 dX3_put_2_38 rfl ?_
      refine Rch.calls (sd_X3_puts _ _ _ _ _ _ h) dX3_put_2_39 (lw_S q1643 q1644 q146 q1645) dk_X3_puts (by decide) (Nat.le_of_ble_eq_true rfl) rfl rfl (Nat.le_of_ble_eq_true rfl) (kV 42 rfl fun w7 h => ?_) kN
      refine R.aload_n 43 dX3_put_2_42 rfl rfl ?_
      refine gf_90 46 dX3_put_2_43 rfl rfl ?_
      refine R.bipush 48 dX3_put_2_46 rfl (by decide +kernel) ?_
      obtain ⟨hb, h⟩ := h
      refine R.iald ar_90 49 dX3_put_2_48 rfl hb ?_
      exact R.retI dX3_put_2_49 rfl h
    · replace h := h.2 hc
      refine R.iconst 35 dX3_put_2_34 rfl ?_
      refine R.goto 39 dX3_put_2_35 (by decide) ?_
      refine Rch.calls (sd_X3_puts _ _ _ _ _ _ h) dX3_put_2_39 (lw_S q1643 q1644 q146 q1645) dk_X3_puts (by decide) (Nat.le_of_ble_eq_true rfl) rfl rfl (Nat.le_of_ble_eq_true rfl) (kV 42 rfl fun w9 h => ?_) kN
      refine R.aload_n 43 dX3_put_2_42 rfl rfl ?_
      refine gf_90 46 dX3_put_2_43 rfl rfl ?_
      refine R.bipush 48 dX3_put_2_46 rfl (by decide +kernel) ?_
      obtain ⟨hb, h⟩ := h
      refine R.iald ar_90 49 dX3_put_2_48 rfl hb ?_
      exact R.retI dX3_put_2_49 rfl h
  · replace h := h.2 hc
    refine R.iconst 19 dX3_put_2_18 rfl ?_
    exact R.retI dX3_put_2_19 rfl h

abbrev k_X3_drops : MK := ("FrostBoxModel", cX3_drops, 3, none, [], "drops")
def wl_X3_drops_39 (Q : Wd → Prop) (l0 : Nat) (R39 : Int32 → Wd → Prop) (l2 : Int32) (w : Wd) : Prop := inA l0 (iz 40) ∧ (((iz 5) * (gA w l0 (iz 40).toInt)) ≤ l2 → inA l0 (iz 40) ∧ inA l0 (iz 40) ∧ (∀ w1, w1 = sA w l0 (iz 40).toInt ((gA w l0 (iz 40).toInt) - (iz 1)) → Q w1)) ∧ (¬ ((iz 5) * (gA w l0 (iz 40).toInt)) ≤ l2 → inA l0 l2 ∧ (∀ w2, w2 = sA w l0 l2.toInt (iz 0) → R39 (l2 + iz 1) w2))
def lp_X3_drops_39 (Q : Wd → Prop) (l0 : Nat) : Nat → Int32 → Wd → Prop
  | 0, _, _ => False
  | n + 1, l2, w => wl_X3_drops_39 Q l0 (lp_X3_drops_39 Q l0 n) l2 w
def wl_X3_drops_4 (Q : Wd → Prop) (l0 : Nat) (R4 : Int32 → Wd → Prop) (l2 : Int32) (w : Wd) : Prop := inA l0 (iz 40) ∧ (((iz 5) * ((gA w l0 (iz 40).toInt) - (iz 1))) ≤ l2 → inA l0 (iz 40) ∧ ∃ n1, lp_X3_drops_39 Q l0 n1 ((iz 5) * ((gA w l0 (iz 40).toInt) - (iz 1))) w) ∧ (¬ ((iz 5) * ((gA w l0 (iz 40).toInt) - (iz 1))) ≤ l2 → inA l0 (l2 + (iz 5)) ∧ inA l0 l2 ∧ (∀ w2, w2 = sA w l0 l2.toInt (gA w l0 (l2 + (iz 5)).toInt) → R4 (l2 + iz 1) w2))
def lp_X3_drops_4 (Q : Wd → Prop) (l0 : Nat) : Nat → Int32 → Wd → Prop
  | 0, _, _ => False
  | n + 1, l2, w => wl_X3_drops_4 Q l0 (lp_X3_drops_4 Q l0 n) l2 w
def wp_X3_drops (l0 : Nat) (l1 : Int32) (w : Wd) (Q : Wd → Prop) : Prop := ∃ n1, lp_X3_drops_4 Q l0 n1 ((iz 5) * l1) w
set_option maxRecDepth 100000 in
set_option maxHeartbeats 4000000 in
theorem sl_X3_drops_39 {γ : GG} (Q : Wd → Prop) (l0 : Nat) : ∀ (n : Nat) (l2 : Int32) (w : Wd), lp_X3_drops_39 Q l0 n l2 w → Rch γ 1 k_X3_drops 39 [some (.ref l0), none, some (.int l2)] [] w (qV Q) xN := by
  intro n
  induction n with
  | zero => intro _ _ h; exact h.elim
  | succ n hR39 =>
    intro l2 w h
    have h : wl_X3_drops_39 Q l0 (lp_X3_drops_39 Q l0 n) l2 w := h
    unfold wl_X3_drops_39 at h
    refine R.iload_n 40 dX3_drops_39 rfl rfl ?_
    refine R.iconst 41 dX3_drops_40 rfl ?_
    refine R.aload_n 42 dX3_drops_41 rfl rfl ?_
    refine R.bipush 44 dX3_drops_42 rfl (by decide +kernel) ?_
    obtain ⟨hb, h⟩ := h
    refine R.iaA 45 dX3_drops_44 rfl hb ?_
    refine R.imul 46 dX3_drops_45 rfl ?_
    refine R.icmp_ge 59 49 dX3_drops_46 (by decide) rfl (fun hc => ?_) (fun hc => ?_)
    · replace h := h.1 hc
      refine R.aload_n 60 dX3_drops_59 rfl rfl ?_
      refine R.bipush 62 dX3_drops_60 rfl (by decide +kernel) ?_
      refine R.dup2 63 dX3_drops_62 rfl ?_
      obtain ⟨hb, h⟩ := h
      refine R.iaA 64 dX3_drops_63 rfl hb ?_
      refine R.iconst 65 dX3_drops_64 rfl ?_
      refine R.isub 66 dX3_drops_65 rfl ?_
      obtain ⟨hb, h⟩ := h
      replace h := h _ rfl
      refine R.iasA 67 dX3_drops_66 rfl hb ?_
      exact R.retV dX3_drops_67 rfl h
    · replace h := h.2 hc
      refine R.aload_n 50 dX3_drops_49 rfl rfl ?_
      refine R.iload_n 51 dX3_drops_50 rfl rfl ?_
      refine R.iconst 52 dX3_drops_51 rfl ?_
      obtain ⟨hb, h⟩ := h
      replace h := h _ rfl
      refine R.iasA 53 dX3_drops_52 rfl hb ?_
      refine R.inc2 56 dX3_drops_53 rfl (Nat.le_of_ble_eq_true rfl) rfl ?_
      refine R.goto 39 dX3_drops_56 (by decide) ?_
      exact Rch.dropk (hR39 _ _ h) ⟨rfl, ⟨rfl, trivial⟩⟩
set_option maxRecDepth 100000 in
set_option maxHeartbeats 4000000 in
theorem sl_X3_drops_4 {γ : GG} (Q : Wd → Prop) (l0 : Nat) : ∀ (n : Nat) (l2 : Int32) (w : Wd), lp_X3_drops_4 Q l0 n l2 w → Rch γ 1 k_X3_drops 4 [some (.ref l0), none, some (.int l2)] [] w (qV Q) xN := by
  intro n
  induction n with
  | zero => intro _ _ h; exact h.elim
  | succ n hR4 =>
    intro l2 w h
    have h : wl_X3_drops_4 Q l0 (lp_X3_drops_4 Q l0 n) l2 w := h
    unfold wl_X3_drops_4 at h
    refine R.iload_n 5 dX3_drops_4 rfl rfl ?_
    refine R.iconst 6 dX3_drops_5 rfl ?_
    refine R.aload_n 7 dX3_drops_6 rfl rfl ?_
    refine R.bipush 9 dX3_drops_7 rfl (by decide +kernel) ?_
    obtain ⟨hb, h⟩ := h
    refine R.iaA 10 dX3_drops_9 rfl hb ?_
    refine R.iconst 11 dX3_drops_10 rfl ?_
    refine R.isub 12 dX3_drops_11 rfl ?_
    refine R.imul 13 dX3_drops_12 rfl ?_
    refine R.icmp_ge 30 16 dX3_drops_13 (by decide) rfl (fun hc => ?_) (fun hc => ?_)
    · replace h := h.1 hc
      refine R.iconst 31 dX3_drops_30 rfl ?_
      refine R.aload_n 32 dX3_drops_31 rfl rfl ?_
      refine R.bipush 34 dX3_drops_32 rfl (by decide +kernel) ?_
      obtain ⟨hb, h⟩ := h
      refine R.iaA 35 dX3_drops_34 rfl hb ?_
      refine R.iconst 36 dX3_drops_35 rfl ?_
      refine R.isub 37 dX3_drops_36 rfl ?_
      refine R.imul 38 dX3_drops_37 rfl ?_
      refine R.ist2n 39 dX3_drops_38 rfl (Nat.le_of_ble_eq_true rfl) rfl ?_
      obtain ⟨n1, h⟩ := h
      exact Rch.dropk (sl_X3_drops_39 Q _ n1 _ _ h) ⟨rfl, ⟨rfl, trivial⟩⟩
    · replace h := h.2 hc
      refine R.aload_n 17 dX3_drops_16 rfl rfl ?_
      refine R.iload_n 18 dX3_drops_17 rfl rfl ?_
      refine R.aload_n 19 dX3_drops_18 rfl rfl ?_
      refine R.iload_n 20 dX3_drops_19 rfl rfl ?_
      refine R.iconst 21 dX3_drops_20 rfl ?_
      refine R.iadd 22 dX3_drops_21 rfl ?_
      obtain ⟨hb, h⟩ := h
      refine R.iaA 23 dX3_drops_22 rfl hb ?_
      obtain ⟨hb, h⟩ := h
      replace h := h _ rfl
      refine R.iasA 24 dX3_drops_23 rfl hb ?_
      refine R.inc2 27 dX3_drops_24 rfl (Nat.le_of_ble_eq_true rfl) rfl ?_
      refine R.goto 4 dX3_drops_27 (by decide) ?_
      exact Rch.dropk (hR4 _ _ h) ⟨rfl, ⟨rfl, trivial⟩⟩
set_option maxRecDepth 100000 in
set_option maxHeartbeats 4000000 in
theorem sd_X3_drops {γ : GG} (l0 : Nat) (l1 : Int32) (w : Wd) (Q : Wd → Prop) : wp_X3_drops l0 l1 w Q → Ctr γ 1 yX3_drops (ws_ yX3_drops cX3_drops 3 none) [.ref l0, .int l1] w (qV Q) xN := by
  intro h
  unfold wp_X3_drops at h
  refine Ctr.of (μ := k_X3_drops) (by decide) rfl rfl rfl (Nat.le_of_ble_eq_true rfl) ⟨1, ?_⟩
  have es : lva [.ref l0, .int l1] ++ List.replicate 1 none = [some (.ref l0), some (.int l1), none] := rfl
  rw [es]
  refine R.iconst 1 dX3_drops_0 rfl ?_
  refine R.iload_n 2 dX3_drops_1 rfl rfl ?_
  refine R.imul 3 dX3_drops_2 rfl ?_
  refine R.ist2n 4 dX3_drops_3 rfl (Nat.le_of_ble_eq_true rfl) rfl ?_
  obtain ⟨n1, h⟩ := h
  exact Rch.dropk (sl_X3_drops_4 Q _ n1 _ _ h) ⟨rfl, ⟨rfl, trivial⟩⟩

abbrev k_X3_eats : MK := ("FrostBoxModel", cX3_eats, 5, (some .int), [], "eats")
def b_X3_eats_46 (Q : Int32 → Wd → Prop) (l1 : Nat) (l2 : Int32) (w : Wd) : Prop := wp_X3_valueOf l1 l2 w (fun r1 w2 => inA l1 (iz 42) ∧ inA l1 (((iz 5) * l2) + (iz 0)) ∧ inA l1 ((iz 43) + ((iz 4) * (gA w2 l1 (iz 42).toInt))) ∧ (∀ w3, w3 = sA w2 l1 ((iz 43) + ((iz 4) * (gA w2 l1 (iz 42).toInt))).toInt (gA w2 l1 (((iz 5) * l2) + (iz 0)).toInt) → inA l1 (((iz 5) * l2) + (iz 1)) ∧ inA l1 (((iz 43) + ((iz 4) * (gA w2 l1 (iz 42).toInt))) + (iz 1)) ∧ (∀ w4, w4 = sA w3 l1 (((iz 43) + ((iz 4) * (gA w2 l1 (iz 42).toInt))) + (iz 1)).toInt (gA w3 l1 (((iz 5) * l2) + (iz 1)).toInt) → inA l1 (((iz 5) * l2) + (iz 2)) ∧ inA l1 (((iz 43) + ((iz 4) * (gA w2 l1 (iz 42).toInt))) + (iz 2)) ∧ (∀ w5, w5 = sA w4 l1 (((iz 43) + ((iz 4) * (gA w2 l1 (iz 42).toInt))) + (iz 2)).toInt (gA w4 l1 (((iz 5) * l2) + (iz 2)).toInt) → inA l1 (((iz 43) + ((iz 4) * (gA w2 l1 (iz 42).toInt))) + (iz 3)) ∧ (∀ w6, w6 = sA w5 l1 (((iz 43) + ((iz 4) * (gA w2 l1 (iz 42).toInt))) + (iz 3)).toInt r1 → inA l1 (iz 42) ∧ inA l1 (iz 42) ∧ (∀ w7, w7 = sA w6 l1 (iz 42).toInt ((gA w6 l1 (iz 42).toInt) + (iz 1)) → wp_X3_drops l1 l2 w7 (fun w9 => Q r1 w9)))))))
def wl_X3_eats_11 (Q : Int32 → Wd → Prop) (l1 : Nat) (l2 : Int32) (R11 : Int32 → Wd → Prop) (l3 : Int32) (w : Wd) : Prop := ((iz 236) < l3 → inA l1 (iz 42) ∧ inA l1 (iz 42) ∧ (∀ w1, w1 = sA w l1 (iz 42).toInt ((gA w l1 (iz 42).toInt) - (iz 1)) → b_X3_eats_46 Q l1 l2 w1)) ∧ (¬ (iz 236) < l3 → inA l1 (((iz 42) + l3) + (iz 4)) ∧ inA l1 ((iz 42) + l3) ∧ (∀ w2, w2 = sA w l1 ((iz 42) + l3).toInt (gA w l1 (((iz 42) + l3) + (iz 4)).toInt) → R11 (l3 + iz 1) w2))
def lp_X3_eats_11 (Q : Int32 → Wd → Prop) (l1 : Nat) (l2 : Int32) : Nat → Int32 → Wd → Prop
  | 0, _, _ => False
  | n + 1, l3, w => wl_X3_eats_11 Q l1 l2 (lp_X3_eats_11 Q l1 l2 n) l3 w
def wp_X3_eats (l1 : Nat) (l2 : Int32) (w : Wd) (Q : Int32 → Wd → Prop) : Prop := inA l1 (iz 42) ∧ (¬ (gA w l1 (iz 42).toInt) = (iz 60) → b_X3_eats_46 Q l1 l2 w) ∧ ((gA w l1 (iz 42).toInt) = (iz 60) → ∃ n1, lp_X3_eats_11 Q l1 l2 n1 (iz 1) w)
set_option maxRecDepth 100000 in
set_option maxHeartbeats 4000000 in
theorem s_X3_eats_46 {γ : GG} (Q : Int32 → Wd → Prop) (l1 : Nat) (l2 : Int32) : ∀ (w : Wd), b_X3_eats_46 Q l1 l2 w → Rch γ 75 k_X3_eats 46 [some (.ref 2), some (.ref l1), some (.int l2), none, none] [] w (qI Q) xN := by
  intro w h
  unfold b_X3_eats_46 at h
  refine R.aload_n 47 dX3_eats_46 rfl rfl ?_
  refine R.aload_n 48 dX3_eats_47 rfl rfl ?_
  refine R.iload_n 49 dX3_eats_48 rfl rfl ?_
  refine Rch.callv (sd_X3_valueOf _ _ _ _ h) dX3_eats_49 (lw_V q1591 q1593 qs107 q146 q1594) dk_X3_valueOf rcM (by decide) (Nat.le_of_ble_eq_true rfl) rfl rfl (Nat.le_of_ble_eq_true rfl) (kI 52 rfl fun r1 w2 h => ?_) kN
  refine R.ist3n 53 dX3_eats_52 rfl (Nat.le_of_ble_eq_true rfl) rfl ?_
  refine R.bipush 55 dX3_eats_53 rfl (by decide +kernel) ?_
  refine R.iconst 56 dX3_eats_55 rfl ?_
  refine R.aload_n 57 dX3_eats_56 rfl rfl ?_
  refine R.bipush 59 dX3_eats_57 rfl (by decide +kernel) ?_
  obtain ⟨hb, h⟩ := h
  refine R.iaA 60 dX3_eats_59 rfl hb ?_
  refine R.imul 61 dX3_eats_60 rfl ?_
  refine R.iadd 62 dX3_eats_61 rfl ?_
  refine R.ist4 64 dX3_eats_62 rfl (Nat.le_of_ble_eq_true rfl) rfl ?_
  refine R.aload_n 65 dX3_eats_64 rfl rfl ?_
  refine R.iload 67 dX3_eats_65 rfl rfl ?_
  refine R.aload_n 68 dX3_eats_67 rfl rfl ?_
  refine R.iconst 69 dX3_eats_68 rfl ?_
  refine R.iload_n 70 dX3_eats_69 rfl rfl ?_
  refine R.imul 71 dX3_eats_70 rfl ?_
  refine R.iconst 72 dX3_eats_71 rfl ?_
  refine R.iadd 73 dX3_eats_72 rfl ?_
  obtain ⟨hb, h⟩ := h
  refine R.iaA 74 dX3_eats_73 rfl hb ?_
  obtain ⟨hb, h⟩ := h
  replace h := h _ rfl
  refine R.iasA 75 dX3_eats_74 rfl hb ?_
  refine R.aload_n 76 dX3_eats_75 rfl rfl ?_
  refine R.iload 78 dX3_eats_76 rfl rfl ?_
  refine R.iconst 79 dX3_eats_78 rfl ?_
  refine R.iadd 80 dX3_eats_79 rfl ?_
  refine R.aload_n 81 dX3_eats_80 rfl rfl ?_
  refine R.iconst 82 dX3_eats_81 rfl ?_
  refine R.iload_n 83 dX3_eats_82 rfl rfl ?_
  refine R.imul 84 dX3_eats_83 rfl ?_
  refine R.iconst 85 dX3_eats_84 rfl ?_
  refine R.iadd 86 dX3_eats_85 rfl ?_
  obtain ⟨hb, h⟩ := h
  refine R.iaA 87 dX3_eats_86 rfl hb ?_
  obtain ⟨hb, h⟩ := h
  replace h := h _ rfl
  refine R.iasA 88 dX3_eats_87 rfl hb ?_
  refine R.aload_n 89 dX3_eats_88 rfl rfl ?_
  refine R.iload 91 dX3_eats_89 rfl rfl ?_
  refine R.iconst 92 dX3_eats_91 rfl ?_
  refine R.iadd 93 dX3_eats_92 rfl ?_
  refine R.aload_n 94 dX3_eats_93 rfl rfl ?_
  refine R.iconst 95 dX3_eats_94 rfl ?_
  refine R.iload_n 96 dX3_eats_95 rfl rfl ?_
  refine R.imul 97 dX3_eats_96 rfl ?_
  refine R.iconst 98 dX3_eats_97 rfl ?_
  refine R.iadd 99 dX3_eats_98 rfl ?_
  obtain ⟨hb, h⟩ := h
  refine R.iaA 100 dX3_eats_99 rfl hb ?_
  obtain ⟨hb, h⟩ := h
  replace h := h _ rfl
  refine R.iasA 101 dX3_eats_100 rfl hb ?_
  refine R.aload_n 102 dX3_eats_101 rfl rfl ?_
  refine R.iload 104 dX3_eats_102 rfl rfl ?_
  refine R.iconst 105 dX3_eats_104 rfl ?_
  refine R.iadd 106 dX3_eats_105 rfl ?_
  refine R.iload_n 107 dX3_eats_106 rfl rfl ?_
  obtain ⟨hb, h⟩ := h
  replace h := h _ rfl
  refine R.iasA 108 dX3_eats_107 rfl hb ?_
  refine R.aload_n 109 dX3_eats_108 rfl rfl ?_
  refine R.bipush 111 dX3_eats_109 rfl (by decide +kernel) ?_
  refine R.dup2 112 dX3_eats_111 rfl ?_
  obtain ⟨hb, h⟩ := h
  refine R.iaA 113 dX3_eats_112 rfl hb ?_
  refine R.iconst 114 dX3_eats_113 rfl ?_
  refine R.iadd 115 dX3_eats_114 rfl ?_
  obtain ⟨hb, h⟩ := h
  replace h := h _ rfl
  refine R.iasA 116 dX3_eats_115 rfl hb ?_
  refine R.aload_n 117 dX3_eats_116 rfl rfl ?_
  refine R.iload_n 118 dX3_eats_117 rfl rfl ?_
  refine Rch.calls (sd_X3_drops _ _ _ _ h) dX3_eats_118 (lw_S q1654 q1655 q146 q1656) dk_X3_drops (by decide) (Nat.le_of_ble_eq_true rfl) rfl rfl (Nat.le_of_ble_eq_true rfl) (kV 121 rfl fun w9 h => ?_) kN
  refine R.iload_n 122 dX3_eats_121 rfl rfl ?_
  exact R.retI dX3_eats_122 rfl h
set_option maxRecDepth 100000 in
set_option maxHeartbeats 4000000 in
theorem sl_X3_eats_11 {γ : GG} (Q : Int32 → Wd → Prop) (l1 : Nat) (l2 : Int32) : ∀ (n : Nat) (l3 : Int32) (w : Wd), lp_X3_eats_11 Q l1 l2 n l3 w → Rch γ 75 k_X3_eats 11 [some (.ref 2), some (.ref l1), some (.int l2), some (.int l3), none] [] w (qI Q) xN := by
  intro n
  induction n with
  | zero => intro _ _ h; exact h.elim
  | succ n hR11 =>
    intro l3 w h
    have h : wl_X3_eats_11 Q l1 l2 (lp_X3_eats_11 Q l1 l2 n) l3 w := h
    unfold wl_X3_eats_11 at h
    refine R.iload_n 12 dX3_eats_11 rfl rfl ?_
    refine R.sipush 15 dX3_eats_12 rfl (by decide +kernel) ?_
    refine R.icmp_gt 38 18 dX3_eats_15 (by decide) rfl (fun hc => ?_) (fun hc => ?_)
    · replace h := h.1 hc
      refine R.aload_n 39 dX3_eats_38 rfl rfl ?_
      refine R.bipush 41 dX3_eats_39 rfl (by decide +kernel) ?_
      refine R.dup2 42 dX3_eats_41 rfl ?_
      obtain ⟨hb, h⟩ := h
      refine R.iaA 43 dX3_eats_42 rfl hb ?_
      refine R.iconst 44 dX3_eats_43 rfl ?_
      refine R.isub 45 dX3_eats_44 rfl ?_
      obtain ⟨hb, h⟩ := h
      replace h := h _ rfl
      refine R.iasA 46 dX3_eats_45 rfl hb ?_
      exact Rch.dropk (s_X3_eats_46 Q _ _ _ h) ⟨rfl, ⟨rfl, ⟨rfl, trivial⟩⟩⟩
    · replace h := h.2 hc
      refine R.aload_n 19 dX3_eats_18 rfl rfl ?_
      refine R.bipush 21 dX3_eats_19 rfl (by decide +kernel) ?_
      refine R.iload_n 22 dX3_eats_21 rfl rfl ?_
      refine R.iadd 23 dX3_eats_22 rfl ?_
      refine R.aload_n 24 dX3_eats_23 rfl rfl ?_
      refine R.bipush 26 dX3_eats_24 rfl (by decide +kernel) ?_
      refine R.iload_n 27 dX3_eats_26 rfl rfl ?_
      refine R.iadd 28 dX3_eats_27 rfl ?_
      refine R.iconst 29 dX3_eats_28 rfl ?_
      refine R.iadd 30 dX3_eats_29 rfl ?_
      obtain ⟨hb, h⟩ := h
      refine R.iaA 31 dX3_eats_30 rfl hb ?_
      obtain ⟨hb, h⟩ := h
      replace h := h _ rfl
      refine R.iasA 32 dX3_eats_31 rfl hb ?_
      refine R.inc3 35 dX3_eats_32 rfl (Nat.le_of_ble_eq_true rfl) rfl ?_
      refine R.goto 11 dX3_eats_35 (by decide) ?_
      exact Rch.dropk (hR11 _ _ h) ⟨rfl, ⟨rfl, ⟨rfl, ⟨rfl, trivial⟩⟩⟩⟩
set_option maxRecDepth 100000 in
set_option maxHeartbeats 4000000 in
theorem sd_X3_eats {γ : GG} (l1 : Nat) (l2 : Int32) (w : Wd) (Q : Int32 → Wd → Prop) : wp_X3_eats l1 l2 w Q → Ctr γ 75 yX3_eats (ws_ yX3_eats cX3_eats 5 (some .int)) [.ref 2, .ref l1, .int l2] w (qI Q) xN := by
  intro h
  unfold wp_X3_eats at h
  refine Ctr.of (μ := k_X3_eats) (by decide) rfl rfl rfl (Nat.le_of_ble_eq_true rfl) ⟨2, ?_⟩
  have es : lva [.ref 2, .ref l1, .int l2] ++ List.replicate 2 none = [some (.ref 2), some (.ref l1), some (.int l2), none, none] := rfl
  rw [es]
  refine R.aload_n 1 dX3_eats_0 rfl rfl ?_
  refine R.bipush 3 dX3_eats_1 rfl (by decide +kernel) ?_
  obtain ⟨hb, h⟩ := h
  refine R.iaA 4 dX3_eats_3 rfl hb ?_
  refine R.bipush 6 dX3_eats_4 rfl (by decide +kernel) ?_
  refine R.icmp_ne 46 9 dX3_eats_6 (by decide) rfl (fun hc => ?_) (fun hc => ?_)
  · replace h := h.1 hc
    exact Rch.dropk (s_X3_eats_46 Q _ _ _ h) ⟨rfl, ⟨rfl, ⟨rfl, trivial⟩⟩⟩
  · replace h := h.2 hc
    refine R.iconst 10 dX3_eats_9 rfl ?_
    refine R.ist3n 11 dX3_eats_10 rfl (Nat.le_of_ble_eq_true rfl) rfl ?_
    obtain ⟨n1, h⟩ := h
    exact Rch.dropk (sl_X3_eats_11 Q _ _ n1 _ _ h) ⟨rfl, ⟨rfl, ⟨rfl, ⟨rfl, trivial⟩⟩⟩⟩

abbrev k_X3_take : MK := ("FrostBoxModel", cX3_take, 2, (some .int), [], "take")
def wp_X3_take (l1 : Int32) (w : Wd) (Q : Int32 → Wd → Prop) : Prop := ∀ w1, w1 = sI w 60 (iz 0) → wp_X3_isBox 90 l1 w1 (fun r2 w3 => (¬ r2 = iz 0 → wp_X3_remember w3 (fun w5 => wp_X3_eats 90 l1 w5 (fun r6 w7 => Q r6 w7))) ∧ (r2 = iz 0 → Q (iz (-1)) w3))
set_option maxRecDepth 100000 in
set_option maxHeartbeats 4000000 in
theorem sd_X3_take {γ : GG} (l1 : Int32) (w : Wd) (Q : Int32 → Wd → Prop) : wp_X3_take l1 w Q → Ctr γ 76 yX3_take (ws_ yX3_take cX3_take 2 (some .int)) [.ref 2, .int l1] w (qI Q) xN := by
  intro h
  unfold wp_X3_take at h
  refine Ctr.of (μ := k_X3_take) (by decide) rfl rfl rfl (Nat.le_of_ble_eq_true rfl) ⟨0, ?_⟩
  have es : lva [.ref 2, .int l1] ++ List.replicate 0 none = [some (.ref 2), some (.int l1)] := rfl
  rw [es]
  refine R.aload_n 1 dX3_take_0 rfl rfl ?_
  refine R.iconst 2 dX3_take_1 rfl ?_
  replace h := h _ rfl
  refine pf_60 _ 5 dX3_take_2 rfl rfl ?_
  refine R.aload_n 6 dX3_take_5 rfl rfl ?_
  refine R.aload_n 7 dX3_take_6 rfl rfl ?_
  refine gf_90 10 dX3_take_7 rfl rfl ?_
  refine R.iload_n 11 dX3_take_10 rfl rfl ?_
  refine Rch.callv (sd_X3_isBox _ _ _ _ h) dX3_take_11 (lw_V q1586 q1588 qs106 q146 q1589) dk_X3_isBox rcM (by decide) (Nat.le_of_ble_eq_true rfl) rfl rfl (Nat.le_of_ble_eq_true rfl) (kI 14 rfl fun r2 w3 h => ?_) kN
  refine R.if_ne 19 17 dX3_take_14 (by decide) rfl (fun hc => ?_) (fun hc => ?_)
  · replace h := h.1 hc
    refine R.aload_n 20 dX3_take_19 rfl rfl ?_
    refine Rch.callv (sd_X3_remember _ _ h) dX3_take_20 (lw_V q1639 q1641 qs114 q146 q1642) dk_X3_remember rcM (by decide) (Nat.le_of_ble_eq_true rfl) rfl rfl (Nat.le_of_ble_eq_true rfl) (kV 23 rfl fun w5 h => ?_) kN
    refine R.aload_n 24 dX3_take_23 rfl rfl ?_
    refine R.aload_n 25 dX3_take_24 rfl rfl ?_
    refine gf_90 28 dX3_take_25 rfl rfl ?_
    refine R.iload_n 29 dX3_take_28 rfl rfl ?_
    refine Rch.callv (sd_X3_eats _ _ _ _ h) dX3_take_29 (lw_V q1650 q1652 qs115 q146 q1653) dk_X3_eats rcM (by decide) (Nat.le_of_ble_eq_true rfl) rfl rfl (Nat.le_of_ble_eq_true rfl) (kI 32 rfl fun r6 w7 h => ?_) kN
    exact R.retI dX3_take_32 rfl h
  · replace h := h.2 hc
    refine R.iconst 18 dX3_take_17 rfl ?_
    exact R.retI dX3_take_18 rfl h

abbrev k_X3_canLabel : MK := ("FrostBoxModel", cX3_canLabel, 3, (some .boolean), [], "canLabel")
def wp_X3_canLabel (l1 : Nat) (l2 : Int32) (w : Wd) (Q : Int32 → Wd → Prop) : Prop := wp_X3_isBox l1 l2 w (fun r1 w2 => (r1 = iz 0 → Q (iz 0) w2) ∧ (¬ r1 = iz 0 → inA l1 (((iz 5) * l2) + (iz 3)) ∧ (¬ (gA w2 l1 (((iz 5) * l2) + (iz 3)).toInt) = iz 0 → Q (iz 0) w2) ∧ ((gA w2 l1 (((iz 5) * l2) + (iz 3)).toInt) = iz 0 → Q (iz 1) w2)))
set_option maxRecDepth 100000 in
set_option maxHeartbeats 4000000 in
theorem sd_X3_canLabel {γ : GG} (l1 : Nat) (l2 : Int32) (w : Wd) (Q : Int32 → Wd → Prop) : wp_X3_canLabel l1 l2 w Q → Ctr γ 2 yX3_canLabel (ws_ yX3_canLabel cX3_canLabel 3 (some .boolean)) [.ref 2, .ref l1, .int l2] w (qI Q) xN := by
  intro h
  unfold wp_X3_canLabel at h
  refine Ctr.of (μ := k_X3_canLabel) (by decide) rfl rfl rfl (Nat.le_of_ble_eq_true rfl) ⟨0, ?_⟩
  have es : lva [.ref 2, .ref l1, .int l2] ++ List.replicate 0 none = [some (.ref 2), some (.ref l1), some (.int l2)] := rfl
  rw [es]
  refine R.aload_n 1 dX3_canLabel_0 rfl rfl ?_
  refine R.aload_n 2 dX3_canLabel_1 rfl rfl ?_
  refine R.iload_n 3 dX3_canLabel_2 rfl rfl ?_
  refine Rch.callv (sd_X3_isBox _ _ _ _ h) dX3_canLabel_3 (lw_V q1586 q1588 qs106 q146 q1589) dk_X3_isBox rcM (by decide) (Nat.le_of_ble_eq_true rfl) rfl rfl (Nat.le_of_ble_eq_true rfl) (kI 6 rfl fun r1 w2 h => ?_) kN
  refine R.if_eq 23 9 dX3_canLabel_6 (by decide) rfl (fun hc => ?_) (fun hc => ?_)
  · replace h := h.1 hc
    refine R.iconst 24 dX3_canLabel_23 rfl ?_
    exact R.retZ dX3_canLabel_24 rfl zok0 h
  · replace h := h.2 hc
    refine R.aload_n 10 dX3_canLabel_9 rfl rfl ?_
    refine R.iconst 11 dX3_canLabel_10 rfl ?_
    refine R.iload_n 12 dX3_canLabel_11 rfl rfl ?_
    refine R.imul 13 dX3_canLabel_12 rfl ?_
    refine R.iconst 14 dX3_canLabel_13 rfl ?_
    refine R.iadd 15 dX3_canLabel_14 rfl ?_
    obtain ⟨hb, h⟩ := h
    refine R.iaA 16 dX3_canLabel_15 rfl hb ?_
    refine R.if_ne 23 19 dX3_canLabel_16 (by decide) rfl (fun hc => ?_) (fun hc => ?_)
    · replace h := h.1 hc
      refine R.iconst 24 dX3_canLabel_23 rfl ?_
      exact R.retZ dX3_canLabel_24 rfl zok0 h
    · replace h := h.2 hc
      refine R.iconst 20 dX3_canLabel_19 rfl ?_
      refine R.goto 24 dX3_canLabel_20 (by decide) ?_
      exact R.retZ dX3_canLabel_24 rfl zok1 h

abbrev k_X3_names : MK := ("FrostBoxModel", cX3_names, 2, none, [], "names")
def wp_X3_names (l0 : Nat) (l1 : Int32) (w : Wd) (Q : Wd → Prop) : Prop := inA l0 (((iz 5) * l1) + (iz 3)) ∧ (∀ w1, w1 = sA w l0 (((iz 5) * l1) + (iz 3)).toInt (iz 1) → inA l0 (iz 41) ∧ inA l0 (((iz 5) * l1) + (iz 4)) ∧ (∀ w2, w2 = sA w1 l0 (((iz 5) * l1) + (iz 4)).toInt (gA w1 l0 (iz 41).toInt) → Q w2))
set_option maxRecDepth 100000 in
set_option maxHeartbeats 4000000 in
theorem sd_X3_names {γ : GG} (l0 : Nat) (l1 : Int32) (w : Wd) (Q : Wd → Prop) : wp_X3_names l0 l1 w Q → Ctr γ 1 yX3_names (ws_ yX3_names cX3_names 2 none) [.ref l0, .int l1] w (qV Q) xN := by
  intro h
  unfold wp_X3_names at h
  refine Ctr.of (μ := k_X3_names) (by decide) rfl rfl rfl (Nat.le_of_ble_eq_true rfl) ⟨0, ?_⟩
  have es : lva [.ref l0, .int l1] ++ List.replicate 0 none = [some (.ref l0), some (.int l1)] := rfl
  rw [es]
  refine R.aload_n 1 dX3_names_0 rfl rfl ?_
  refine R.iconst 2 dX3_names_1 rfl ?_
  refine R.iload_n 3 dX3_names_2 rfl rfl ?_
  refine R.imul 4 dX3_names_3 rfl ?_
  refine R.iconst 5 dX3_names_4 rfl ?_
  refine R.iadd 6 dX3_names_5 rfl ?_
  refine R.iconst 7 dX3_names_6 rfl ?_
  obtain ⟨hb, h⟩ := h
  replace h := h _ rfl
  refine R.iasA 8 dX3_names_7 rfl hb ?_
  refine R.aload_n 9 dX3_names_8 rfl rfl ?_
  refine R.iconst 10 dX3_names_9 rfl ?_
  refine R.iload_n 11 dX3_names_10 rfl rfl ?_
  refine R.imul 12 dX3_names_11 rfl ?_
  refine R.iconst 13 dX3_names_12 rfl ?_
  refine R.iadd 14 dX3_names_13 rfl ?_
  refine R.aload_n 15 dX3_names_14 rfl rfl ?_
  refine R.bipush 17 dX3_names_15 rfl (by decide +kernel) ?_
  obtain ⟨hb, h⟩ := h
  refine R.iaA 18 dX3_names_17 rfl hb ?_
  obtain ⟨hb, h⟩ := h
  replace h := h _ rfl
  refine R.iasA 19 dX3_names_18 rfl hb ?_
  exact R.retV dX3_names_19 rfl h

abbrev k_X3_label : MK := ("FrostBoxModel", cX3_label, 2, (some .boolean), [], "label")
def wp_X3_label (l1 : Int32) (w : Wd) (Q : Int32 → Wd → Prop) : Prop := ∀ w1, w1 = sI w 60 (iz 0) → wp_X3_canLabel 90 l1 w1 (fun r2 w3 => (¬ r2 = iz 0 → wp_X3_remember w3 (fun w5 => wp_X3_names 90 l1 w5 (fun w7 => Q (iz 1) w7))) ∧ (r2 = iz 0 → Q (iz 0) w3))
set_option maxRecDepth 100000 in
set_option maxHeartbeats 4000000 in
theorem sd_X3_label {γ : GG} (l1 : Int32) (w : Wd) (Q : Int32 → Wd → Prop) : wp_X3_label l1 w Q → Ctr γ 3 yX3_label (ws_ yX3_label cX3_label 2 (some .boolean)) [.ref 2, .int l1] w (qI Q) xN := by
  intro h
  unfold wp_X3_label at h
  refine Ctr.of (μ := k_X3_label) (by decide) rfl rfl rfl (Nat.le_of_ble_eq_true rfl) ⟨0, ?_⟩
  have es : lva [.ref 2, .int l1] ++ List.replicate 0 none = [some (.ref 2), some (.int l1)] := rfl
  rw [es]
  refine R.aload_n 1 dX3_label_0 rfl rfl ?_
  refine R.iconst 2 dX3_label_1 rfl ?_
  replace h := h _ rfl
  refine pf_60 _ 5 dX3_label_2 rfl rfl ?_
  refine R.aload_n 6 dX3_label_5 rfl rfl ?_
  refine R.aload_n 7 dX3_label_6 rfl rfl ?_
  refine gf_90 10 dX3_label_7 rfl rfl ?_
  refine R.iload_n 11 dX3_label_10 rfl rfl ?_
  refine Rch.callv (sd_X3_canLabel _ _ _ _ h) dX3_label_11 (lw_V q1661 q1663 qs116 q146 q1664) dk_X3_canLabel rcM (by decide) (Nat.le_of_ble_eq_true rfl) rfl rfl (Nat.le_of_ble_eq_true rfl) (kI 14 rfl fun r2 w3 h => ?_) kN
  refine R.if_ne 19 17 dX3_label_14 (by decide) rfl (fun hc => ?_) (fun hc => ?_)
  · replace h := h.1 hc
    refine R.aload_n 20 dX3_label_19 rfl rfl ?_
    refine Rch.callv (sd_X3_remember _ _ h) dX3_label_20 (lw_V q1639 q1641 qs114 q146 q1642) dk_X3_remember rcM (by decide) (Nat.le_of_ble_eq_true rfl) rfl rfl (Nat.le_of_ble_eq_true rfl) (kV 23 rfl fun w5 h => ?_) kN
    refine R.aload_n 24 dX3_label_23 rfl rfl ?_
    refine gf_90 27 dX3_label_24 rfl rfl ?_
    refine R.iload_n 28 dX3_label_27 rfl rfl ?_
    refine Rch.calls (sd_X3_names _ _ _ _ h) dX3_label_28 (lw_S q1665 q1666 q146 q1667) dk_X3_names (by decide) (Nat.le_of_ble_eq_true rfl) rfl rfl (Nat.le_of_ble_eq_true rfl) (kV 31 rfl fun w7 h => ?_) kN
    refine R.iconst 32 dX3_label_31 rfl ?_
    exact R.retZ dX3_label_32 rfl zok1 h
  · replace h := h.2 hc
    refine R.iconst 18 dX3_label_17 rfl ?_
    exact R.retZ dX3_label_18 rfl zok0 h

abbrev k_X3_mayPass : MK := ("FrostBoxModel", cX3_mayPass, 4, (some .boolean), [], "mayPass")
def wp_X3_mayPass (l1 : Nat) (l2 : Int32) (l3 : Int32) (w : Wd) (Q : Int32 → Wd → Prop) : Prop := ((gI w 85) ≤ iz 0 → Q (iz 0) w) ∧ (¬ (gI w 85) ≤ iz 0 → wp_X3_isIn ((l2).toInt64) (lz 1) ((l3).toInt64) w (fun r1 w2 => (r1 = iz 0 → Q (iz 0) w2) ∧ (¬ r1 = iz 0 → inA l1 (iz 41) ∧ ((iz 999) < ((gA w2 l1 (iz 41).toInt) + l2) → Q (iz 0) w2) ∧ (¬ (iz 999) < ((gA w2 l1 (iz 41).toInt) + l2) → Q (iz 1) w2))))
set_option maxRecDepth 100000 in
set_option maxHeartbeats 4000000 in
theorem sd_X3_mayPass {γ : GG} (l1 : Nat) (l2 : Int32) (l3 : Int32) (w : Wd) (Q : Int32 → Wd → Prop) : wp_X3_mayPass l1 l2 l3 w Q → Ctr γ 2 yX3_mayPass (ws_ yX3_mayPass cX3_mayPass 4 (some .boolean)) [.ref 2, .ref l1, .int l2, .int l3] w (qI Q) xN := by
  intro h
  unfold wp_X3_mayPass at h
  refine Ctr.of (μ := k_X3_mayPass) (by decide) rfl rfl rfl (Nat.le_of_ble_eq_true rfl) ⟨0, ?_⟩
  have es : lva [.ref 2, .ref l1, .int l2, .int l3] ++ List.replicate 0 none = [some (.ref 2), some (.ref l1), some (.int l2), some (.int l3)] := rfl
  rw [es]
  refine R.aload_n 1 dX3_mayPass_0 rfl rfl ?_
  refine gf_85 4 dX3_mayPass_1 rfl rfl ?_
  refine R.if_le 34 7 dX3_mayPass_4 (by decide) rfl (fun hc => ?_) (fun hc => ?_)
  · replace h := h.1 hc
    refine R.iconst 35 dX3_mayPass_34 rfl ?_
    exact R.retZ dX3_mayPass_35 rfl zok0 h
  · replace h := h.2 hc
    refine R.iload_n 8 dX3_mayPass_7 rfl rfl ?_
    refine R.i2l 9 dX3_mayPass_8 rfl ?_
    refine R.lconst (m0 := 1) 10 dX3_mayPass_9 rfl (by decide +kernel) ?_
    refine R.iload_n 11 dX3_mayPass_10 rfl rfl ?_
    refine R.i2l 12 dX3_mayPass_11 rfl ?_
    refine Rch.calls (sd_X3_isIn _ _ _ _ _ h) dX3_mayPass_12 (lw_S q1426 q1427 q146 q1428) dk_X3_isIn (by decide) (Nat.le_of_ble_eq_true rfl) rfl rfl (Nat.le_of_ble_eq_true rfl) (kI 15 rfl fun r1 w2 h => ?_) kN
    refine R.if_eq 34 18 dX3_mayPass_15 (by decide) rfl (fun hc => ?_) (fun hc => ?_)
    · replace h := h.1 hc
      refine R.iconst 35 dX3_mayPass_34 rfl ?_
      exact R.retZ dX3_mayPass_35 rfl zok0 h
    · replace h := h.2 hc
      refine R.aload_n 19 dX3_mayPass_18 rfl rfl ?_
      refine R.bipush 21 dX3_mayPass_19 rfl (by decide +kernel) ?_
      obtain ⟨hb, h⟩ := h
      refine R.iaA 22 dX3_mayPass_21 rfl hb ?_
      refine R.iload_n 23 dX3_mayPass_22 rfl rfl ?_
      refine R.iadd 24 dX3_mayPass_23 rfl ?_
      refine R.sipush 27 dX3_mayPass_24 rfl (by decide +kernel) ?_
      refine R.icmp_gt 34 30 dX3_mayPass_27 (by decide) rfl (fun hc => ?_) (fun hc => ?_)
      · replace h := h.1 hc
        refine R.iconst 35 dX3_mayPass_34 rfl ?_
        exact R.retZ dX3_mayPass_35 rfl zok0 h
      · replace h := h.2 hc
        refine R.iconst 31 dX3_mayPass_30 rfl ?_
        refine R.goto 35 dX3_mayPass_31 (by decide) ?_
        exact R.retZ dX3_mayPass_35 rfl zok1 h

abbrev k_X3_ages : MK := ("FrostBoxModel", cX3_ages, 4, none, [], "ages")
def wl_X3_ages_2 (Q : Wd → Prop) (l1 : Nat) (l2 : Int32) (R2 : Int32 → Wd → Prop) (l3 : Int32) (w : Wd) : Prop := inA l1 (iz 40) ∧ ((gA w l1 (iz 40).toInt) ≤ l3 → Q w) ∧ (¬ (gA w l1 (iz 40).toInt) ≤ l3 → inA l1 (((iz 5) * l3) + (iz 2)) ∧ inA l1 (((iz 5) * l3) + (iz 2)) ∧ (∀ w1, w1 = sA w l1 (((iz 5) * l3) + (iz 2)).toInt (imin (iz 99) ((gA w l1 (((iz 5) * l3) + (iz 2)).toInt) + l2)) → R2 (l3 + iz 1) w1))
def lp_X3_ages_2 (Q : Wd → Prop) (l1 : Nat) (l2 : Int32) : Nat → Int32 → Wd → Prop
  | 0, _, _ => False
  | n + 1, l3, w => wl_X3_ages_2 Q l1 l2 (lp_X3_ages_2 Q l1 l2 n) l3 w
def wp_X3_ages (l1 : Nat) (l2 : Int32) (w : Wd) (Q : Wd → Prop) : Prop := ∃ n1, lp_X3_ages_2 Q l1 l2 n1 (iz 0) w
set_option maxRecDepth 100000 in
set_option maxHeartbeats 4000000 in
theorem sl_X3_ages_2 {γ : GG} (Q : Wd → Prop) (l1 : Nat) (l2 : Int32) : ∀ (n : Nat) (l3 : Int32) (w : Wd), lp_X3_ages_2 Q l1 l2 n l3 w → Rch γ 1 k_X3_ages 2 [none, some (.ref l1), some (.int l2), some (.int l3)] [] w (qV Q) xN := by
  intro n
  induction n with
  | zero => intro _ _ h; exact h.elim
  | succ n hR2 =>
    intro l3 w h
    have h : wl_X3_ages_2 Q l1 l2 (lp_X3_ages_2 Q l1 l2 n) l3 w := h
    unfold wl_X3_ages_2 at h
    refine R.iload_n 3 dX3_ages_2 rfl rfl ?_
    refine R.aload_n 4 dX3_ages_3 rfl rfl ?_
    refine R.bipush 6 dX3_ages_4 rfl (by decide +kernel) ?_
    obtain ⟨hb, h⟩ := h
    refine R.iaA 7 dX3_ages_6 rfl hb ?_
    refine R.icmp_ge 37 10 dX3_ages_7 (by decide) rfl (fun hc => ?_) (fun hc => ?_)
    · replace h := h.1 hc
      exact R.retV dX3_ages_37 rfl h
    · replace h := h.2 hc
      refine R.aload_n 11 dX3_ages_10 rfl rfl ?_
      refine R.iconst 12 dX3_ages_11 rfl ?_
      refine R.iload_n 13 dX3_ages_12 rfl rfl ?_
      refine R.imul 14 dX3_ages_13 rfl ?_
      refine R.iconst 15 dX3_ages_14 rfl ?_
      refine R.iadd 16 dX3_ages_15 rfl ?_
      refine R.bipush 18 dX3_ages_16 rfl (by decide +kernel) ?_
      refine R.aload_n 19 dX3_ages_18 rfl rfl ?_
      refine R.iconst 20 dX3_ages_19 rfl ?_
      refine R.iload_n 21 dX3_ages_20 rfl rfl ?_
      refine R.imul 22 dX3_ages_21 rfl ?_
      refine R.iconst 23 dX3_ages_22 rfl ?_
      refine R.iadd 24 dX3_ages_23 rfl ?_
      obtain ⟨hb, h⟩ := h
      refine R.iaA 25 dX3_ages_24 rfl hb ?_
      refine R.iload_n 26 dX3_ages_25 rfl rfl ?_
      refine R.iadd 27 dX3_ages_26 rfl ?_
      refine R.mmin 30 dX3_ages_27 rfl q1599 q427 q149 q428 (by omega) (Nat.le_of_ble_eq_true rfl) ?_
      obtain ⟨hb, h⟩ := h
      replace h := h _ rfl
      refine R.iasA 31 dX3_ages_30 rfl hb ?_
      refine R.inc3 34 dX3_ages_31 rfl (Nat.le_of_ble_eq_true rfl) rfl ?_
      refine R.goto 2 dX3_ages_34 (by decide) ?_
      exact Rch.dropk (hR2 _ _ h) ⟨rfl, ⟨rfl, ⟨rfl, trivial⟩⟩⟩
set_option maxRecDepth 100000 in
set_option maxHeartbeats 4000000 in
theorem sd_X3_ages {γ : GG} (l1 : Nat) (l2 : Int32) (w : Wd) (Q : Wd → Prop) : wp_X3_ages l1 l2 w Q → Ctr γ 1 yX3_ages (ws_ yX3_ages cX3_ages 4 none) [.ref 2, .ref l1, .int l2] w (qV Q) xN := by
  intro h
  unfold wp_X3_ages at h
  refine Ctr.of (μ := k_X3_ages) (by decide) rfl rfl rfl (Nat.le_of_ble_eq_true rfl) ⟨1, ?_⟩
  have es : lva [.ref 2, .ref l1, .int l2] ++ List.replicate 1 none = [some (.ref 2), some (.ref l1), some (.int l2), none] := rfl
  rw [es]
  refine R.iconst 1 dX3_ages_0 rfl ?_
  refine R.ist3n 2 dX3_ages_1 rfl (Nat.le_of_ble_eq_true rfl) rfl ?_
  obtain ⟨n1, h⟩ := h
  exact Rch.dropk (sl_X3_ages_2 Q _ _ n1 _ _ h) ⟨rfl, ⟨rfl, ⟨rfl, trivial⟩⟩⟩

abbrev k_X3_goMonth : MK := ("FrostBoxModel", cX3_goMonth, 3, none, [], "goMonth")
def wl_X3_goMonth_16 (Q : Wd → Prop) (l1 : Nat) (R16 : Int32 → Wd → Prop) (l2 : Int32) (w : Wd) : Prop := inA l1 (iz 40) ∧ ((gA w l1 (iz 40).toInt) ≤ l2 → Q w) ∧ (¬ (gA w l1 (iz 40).toInt) ≤ l2 → inA l1 (iz 41) ∧ inA l1 (((iz 5) * l2) + (iz 4)) ∧ inb (iz 2) 4 ∧ (((gA w l1 (iz 41).toInt) - (gA w l1 (((iz 5) * l2) + (iz 4)).toInt)) < (gA w 78 (iz 2).toInt) → R16 (l2 + iz 1) w) ∧ (¬ ((gA w l1 (iz 41).toInt) - (gA w l1 (((iz 5) * l2) + (iz 4)).toInt)) < (gA w 78 (iz 2).toInt) → inA l1 (((iz 5) * l2) + (iz 3)) ∧ (∀ w1, w1 = sA w l1 (((iz 5) * l2) + (iz 3)).toInt (iz 0) → R16 (l2 + iz 1) w1)))
def lp_X3_goMonth_16 (Q : Wd → Prop) (l1 : Nat) : Nat → Int32 → Wd → Prop
  | 0, _, _ => False
  | n + 1, l2, w => wl_X3_goMonth_16 Q l1 (lp_X3_goMonth_16 Q l1 n) l2 w
def wp_X3_goMonth (l1 : Nat) (w : Wd) (Q : Wd → Prop) : Prop := wp_X3_ages l1 (iz 1) w (fun w2 => inA l1 (iz 41) ∧ inA l1 (iz 41) ∧ (∀ w3, w3 = sA w2 l1 (iz 41).toInt ((gA w2 l1 (iz 41).toInt) + (iz 1)) → ∃ n4, lp_X3_goMonth_16 Q l1 n4 (iz 0) w3))
set_option maxRecDepth 100000 in
set_option maxHeartbeats 4000000 in
theorem sl_X3_goMonth_16 {γ : GG} (Q : Wd → Prop) (l1 : Nat) : ∀ (n : Nat) (l2 : Int32) (w : Wd), lp_X3_goMonth_16 Q l1 n l2 w → Rch γ 2 k_X3_goMonth 16 [some (.ref 2), some (.ref l1), some (.int l2)] [] w (qV Q) xN := by
  intro n
  induction n with
  | zero => intro _ _ h; exact h.elim
  | succ n hR16 =>
    intro l2 w h
    have h : wl_X3_goMonth_16 Q l1 (lp_X3_goMonth_16 Q l1 n) l2 w := h
    unfold wl_X3_goMonth_16 at h
    refine R.iload_n 17 dX3_goMonth_16 rfl rfl ?_
    refine R.aload_n 18 dX3_goMonth_17 rfl rfl ?_
    refine R.bipush 20 dX3_goMonth_18 rfl (by decide +kernel) ?_
    obtain ⟨hb, h⟩ := h
    refine R.iaA 21 dX3_goMonth_20 rfl hb ?_
    refine R.icmp_ge 59 24 dX3_goMonth_21 (by decide) rfl (fun hc => ?_) (fun hc => ?_)
    · replace h := h.1 hc
      exact R.retV dX3_goMonth_59 rfl h
    · replace h := h.2 hc
      refine R.aload_n 25 dX3_goMonth_24 rfl rfl ?_
      refine R.bipush 27 dX3_goMonth_25 rfl (by decide +kernel) ?_
      obtain ⟨hb, h⟩ := h
      refine R.iaA 28 dX3_goMonth_27 rfl hb ?_
      refine R.aload_n 29 dX3_goMonth_28 rfl rfl ?_
      refine R.iconst 30 dX3_goMonth_29 rfl ?_
      refine R.iload_n 31 dX3_goMonth_30 rfl rfl ?_
      refine R.imul 32 dX3_goMonth_31 rfl ?_
      refine R.iconst 33 dX3_goMonth_32 rfl ?_
      refine R.iadd 34 dX3_goMonth_33 rfl ?_
      obtain ⟨hb, h⟩ := h
      refine R.iaA 35 dX3_goMonth_34 rfl hb ?_
      refine R.isub 36 dX3_goMonth_35 rfl ?_
      refine R.aload_n 37 dX3_goMonth_36 rfl rfl ?_
      refine gf_78 40 dX3_goMonth_37 rfl rfl ?_
      refine R.iconst 41 dX3_goMonth_40 rfl ?_
      obtain ⟨hb, h⟩ := h
      refine R.iald ar_78 42 dX3_goMonth_41 rfl hb ?_
      refine R.icmp_lt 53 45 dX3_goMonth_42 (by decide) rfl (fun hc => ?_) (fun hc => ?_)
      · replace h := h.1 hc
        refine R.inc2 56 dX3_goMonth_53 rfl (Nat.le_of_ble_eq_true rfl) rfl ?_
        refine R.goto 16 dX3_goMonth_56 (by decide) ?_
        exact Rch.dropk (hR16 _ _ h) ⟨rfl, ⟨rfl, ⟨rfl, trivial⟩⟩⟩
      · replace h := h.2 hc
        refine R.aload_n 46 dX3_goMonth_45 rfl rfl ?_
        refine R.iconst 47 dX3_goMonth_46 rfl ?_
        refine R.iload_n 48 dX3_goMonth_47 rfl rfl ?_
        refine R.imul 49 dX3_goMonth_48 rfl ?_
        refine R.iconst 50 dX3_goMonth_49 rfl ?_
        refine R.iadd 51 dX3_goMonth_50 rfl ?_
        refine R.iconst 52 dX3_goMonth_51 rfl ?_
        obtain ⟨hb, h⟩ := h
        replace h := h _ rfl
        refine R.iasA 53 dX3_goMonth_52 rfl hb ?_
        refine R.inc2 56 dX3_goMonth_53 rfl (Nat.le_of_ble_eq_true rfl) rfl ?_
        refine R.goto 16 dX3_goMonth_56 (by decide) ?_
        exact Rch.dropk (hR16 _ _ h) ⟨rfl, ⟨rfl, ⟨rfl, trivial⟩⟩⟩
set_option maxRecDepth 100000 in
set_option maxHeartbeats 4000000 in
theorem sd_X3_goMonth {γ : GG} (l1 : Nat) (w : Wd) (Q : Wd → Prop) : wp_X3_goMonth l1 w Q → Ctr γ 2 yX3_goMonth (ws_ yX3_goMonth cX3_goMonth 3 none) [.ref 2, .ref l1] w (qV Q) xN := by
  intro h
  unfold wp_X3_goMonth at h
  refine Ctr.of (μ := k_X3_goMonth) (by decide) rfl rfl rfl (Nat.le_of_ble_eq_true rfl) ⟨1, ?_⟩
  have es : lva [.ref 2, .ref l1] ++ List.replicate 1 none = [some (.ref 2), some (.ref l1), none] := rfl
  rw [es]
  refine R.aload_n 1 dX3_goMonth_0 rfl rfl ?_
  refine R.aload_n 2 dX3_goMonth_1 rfl rfl ?_
  refine R.iconst 3 dX3_goMonth_2 rfl ?_
  refine Rch.callv (sd_X3_ages _ _ _ _ h) dX3_goMonth_3 (lw_V q1680 q1682 qs119 q146 q1683) dk_X3_ages rcM (by decide) (Nat.le_of_ble_eq_true rfl) rfl rfl (Nat.le_of_ble_eq_true rfl) (kV 6 rfl fun w2 h => ?_) kN
  refine R.aload_n 7 dX3_goMonth_6 rfl rfl ?_
  refine R.bipush 9 dX3_goMonth_7 rfl (by decide +kernel) ?_
  refine R.dup2 10 dX3_goMonth_9 rfl ?_
  obtain ⟨hb, h⟩ := h
  refine R.iaA 11 dX3_goMonth_10 rfl hb ?_
  refine R.iconst 12 dX3_goMonth_11 rfl ?_
  refine R.iadd 13 dX3_goMonth_12 rfl ?_
  obtain ⟨hb, h⟩ := h
  replace h := h _ rfl
  refine R.iasA 14 dX3_goMonth_13 rfl hb ?_
  refine R.iconst 15 dX3_goMonth_14 rfl ?_
  refine R.ist2n 16 dX3_goMonth_15 rfl (Nat.le_of_ble_eq_true rfl) rfl ?_
  obtain ⟨n4, h⟩ := h
  exact Rch.dropk (sl_X3_goMonth_16 Q _ n4 _ _ h) ⟨rfl, ⟨rfl, ⟨rfl, trivial⟩⟩⟩

abbrev k_X3_months : MK := ("FrostBoxModel", cX3_months, 3, (some .int), [], "months")
def wl_X3_months_23 (Q : Int32 → Wd → Prop) (l1 : Int32) (R23 : Int32 → Wd → Prop) (l2 : Int32) (w : Wd) : Prop := (l1 ≤ l2 → inb (iz 41) 283 ∧ Q (gA w 90 (iz 41).toInt) w) ∧ (¬ l1 ≤ l2 → wp_X3_remember w (fun w2 => wp_X3_goMonth 90 w2 (fun w4 => R23 (l2 + iz 1) w4)))
def lp_X3_months_23 (Q : Int32 → Wd → Prop) (l1 : Int32) : Nat → Int32 → Wd → Prop
  | 0, _, _ => False
  | n + 1, l2, w => wl_X3_months_23 Q l1 (lp_X3_months_23 Q l1 n) l2 w
def wp_X3_months (l1 : Int32) (w : Wd) (Q : Int32 → Wd → Prop) : Prop := ∀ w1, w1 = sI w 60 (iz 0) → wp_X3_mayPass 90 l1 (iz 60) w1 (fun r2 w3 => (¬ r2 = iz 0 → ∃ n4, lp_X3_months_23 Q l1 n4 (iz 0) w3) ∧ (r2 = iz 0 → Q (iz (-1)) w3))
set_option maxRecDepth 100000 in
set_option maxHeartbeats 4000000 in
theorem sl_X3_months_23 {γ : GG} (Q : Int32 → Wd → Prop) (l1 : Int32) : ∀ (n : Nat) (l2 : Int32) (w : Wd), lp_X3_months_23 Q l1 n l2 w → Rch γ 3 k_X3_months 23 [some (.ref 2), some (.int l1), some (.int l2)] [] w (qI Q) xN := by
  intro n
  induction n with
  | zero => intro _ _ h; exact h.elim
  | succ n hR23 =>
    intro l2 w h
    have h : wl_X3_months_23 Q l1 (lp_X3_months_23 Q l1 n) l2 w := h
    unfold wl_X3_months_23 at h
    refine R.iload_n 24 dX3_months_23 rfl rfl ?_
    refine R.iload_n 25 dX3_months_24 rfl rfl ?_
    refine R.icmp_ge 46 28 dX3_months_25 (by decide) rfl (fun hc => ?_) (fun hc => ?_)
    · replace h := h.1 hc
      refine R.aload_n 47 dX3_months_46 rfl rfl ?_
      refine gf_90 50 dX3_months_47 rfl rfl ?_
      refine R.bipush 52 dX3_months_50 rfl (by decide +kernel) ?_
      obtain ⟨hb, h⟩ := h
      refine R.iald ar_90 53 dX3_months_52 rfl hb ?_
      exact R.retI dX3_months_53 rfl h
    · replace h := h.2 hc
      refine R.aload_n 29 dX3_months_28 rfl rfl ?_
      refine Rch.callv (sd_X3_remember _ _ h) dX3_months_29 (lw_V q1639 q1641 qs114 q146 q1642) dk_X3_remember rcM (by decide) (Nat.le_of_ble_eq_true rfl) rfl rfl (Nat.le_of_ble_eq_true rfl) (kV 32 rfl fun w2 h => ?_) kN
      refine R.aload_n 33 dX3_months_32 rfl rfl ?_
      refine R.aload_n 34 dX3_months_33 rfl rfl ?_
      refine gf_90 37 dX3_months_34 rfl rfl ?_
      refine Rch.callv (sd_X3_goMonth _ _ _ h) dX3_months_37 (lw_V q1676 q1678 qs118 q146 q1679) dk_X3_goMonth rcM (by decide) (Nat.le_of_ble_eq_true rfl) rfl rfl (Nat.le_of_ble_eq_true rfl) (kV 40 rfl fun w4 h => ?_) kN
      refine R.inc2 43 dX3_months_40 rfl (Nat.le_of_ble_eq_true rfl) rfl ?_
      refine R.goto 23 dX3_months_43 (by decide) ?_
      exact Rch.dropk (hR23 _ _ h) ⟨rfl, ⟨rfl, ⟨rfl, trivial⟩⟩⟩
set_option maxRecDepth 100000 in
set_option maxHeartbeats 4000000 in
theorem sd_X3_months {γ : GG} (l1 : Int32) (w : Wd) (Q : Int32 → Wd → Prop) : wp_X3_months l1 w Q → Ctr γ 3 yX3_months (ws_ yX3_months cX3_months 3 (some .int)) [.ref 2, .int l1] w (qI Q) xN := by
  intro h
  unfold wp_X3_months at h
  refine Ctr.of (μ := k_X3_months) (by decide) rfl rfl rfl (Nat.le_of_ble_eq_true rfl) ⟨1, ?_⟩
  have es : lva [.ref 2, .int l1] ++ List.replicate 1 none = [some (.ref 2), some (.int l1), none] := rfl
  rw [es]
  refine R.aload_n 1 dX3_months_0 rfl rfl ?_
  refine R.iconst 2 dX3_months_1 rfl ?_
  replace h := h _ rfl
  refine pf_60 _ 5 dX3_months_2 rfl rfl ?_
  refine R.aload_n 6 dX3_months_5 rfl rfl ?_
  refine R.aload_n 7 dX3_months_6 rfl rfl ?_
  refine gf_90 10 dX3_months_7 rfl rfl ?_
  refine R.iload_n 11 dX3_months_10 rfl rfl ?_
  refine R.bipush 13 dX3_months_11 rfl (by decide +kernel) ?_
  refine Rch.callv (sd_X3_mayPass _ _ _ _ _ h) dX3_months_13 (lw_V q1672 q1674 qs117 q146 q1675) dk_X3_mayPass rcM (by decide) (Nat.le_of_ble_eq_true rfl) rfl rfl (Nat.le_of_ble_eq_true rfl) (kI 16 rfl fun r2 w3 h => ?_) kN
  refine R.if_ne 21 19 dX3_months_16 (by decide) rfl (fun hc => ?_) (fun hc => ?_)
  · replace h := h.1 hc
    refine R.iconst 22 dX3_months_21 rfl ?_
    refine R.ist2n 23 dX3_months_22 rfl (Nat.le_of_ble_eq_true rfl) rfl ?_
    obtain ⟨n4, h⟩ := h
    exact Rch.dropk (sl_X3_months_23 Q _ n4 _ _ h) ⟨rfl, ⟨rfl, ⟨rfl, trivial⟩⟩⟩
  · replace h := h.2 hc
    refine R.iconst 20 dX3_months_19 rfl ?_
    exact R.retI dX3_months_20 rfl h

abbrev k_X3_isHours : MK := ("FrostBoxModel", cX3_isHours, 2, (some .boolean), [], "isHours")
def wp_X3_isHours (l1 : Int32) (w : Wd) (Q : Int32 → Wd → Prop) : Prop := ((gI w 85) ≤ iz 0 → Q (iz 0) w) ∧ (¬ (gI w 85) ≤ iz 0 → wp_X3_isIn ((l1).toInt64) (lz 1) (lz 99) w (fun r1 w2 => (r1 = iz 0 → Q (iz 0) w2) ∧ (¬ r1 = iz 0 → Q (iz 1) w2)))
set_option maxRecDepth 100000 in
set_option maxHeartbeats 4000000 in
theorem sd_X3_isHours {γ : GG} (l1 : Int32) (w : Wd) (Q : Int32 → Wd → Prop) : wp_X3_isHours l1 w Q → Ctr γ 2 yX3_isHours (ws_ yX3_isHours cX3_isHours 2 (some .boolean)) [.ref 2, .int l1] w (qI Q) xN := by
  intro h
  unfold wp_X3_isHours at h
  refine Ctr.of (μ := k_X3_isHours) (by decide) rfl rfl rfl (Nat.le_of_ble_eq_true rfl) ⟨0, ?_⟩
  have es : lva [.ref 2, .int l1] ++ List.replicate 0 none = [some (.ref 2), some (.int l1)] := rfl
  rw [es]
  refine R.aload_n 1 dX3_isHours_0 rfl rfl ?_
  refine gf_85 4 dX3_isHours_1 rfl rfl ?_
  refine R.if_le 23 7 dX3_isHours_4 (by decide) rfl (fun hc => ?_) (fun hc => ?_)
  · replace h := h.1 hc
    refine R.iconst 24 dX3_isHours_23 rfl ?_
    exact R.retZ dX3_isHours_24 rfl zok0 h
  · replace h := h.2 hc
    refine R.iload_n 8 dX3_isHours_7 rfl rfl ?_
    refine R.i2l 9 dX3_isHours_8 rfl ?_
    refine R.lconst (m0 := 1) 10 dX3_isHours_9 rfl (by decide +kernel) ?_
    refine R.ldc2 (n := 99) 13 dX3_isHours_10 rfl q1692 (by decide +kernel) ?_
    refine Rch.calls (sd_X3_isIn _ _ _ _ _ h) dX3_isHours_13 (lw_S q1426 q1427 q146 q1428) dk_X3_isIn (by decide) (Nat.le_of_ble_eq_true rfl) rfl rfl (Nat.le_of_ble_eq_true rfl) (kI 16 rfl fun r1 w2 h => ?_) kN
    refine R.if_eq 23 19 dX3_isHours_16 (by decide) rfl (fun hc => ?_) (fun hc => ?_)
    · replace h := h.1 hc
      refine R.iconst 24 dX3_isHours_23 rfl ?_
      exact R.retZ dX3_isHours_24 rfl zok0 h
    · replace h := h.2 hc
      refine R.iconst 20 dX3_isHours_19 rfl ?_
      refine R.goto 24 dX3_isHours_20 (by decide) ?_
      exact R.retZ dX3_isHours_24 rfl zok1 h

abbrev k_X3_moreThanBorne : MK := ("FrostBoxModel", cX3_moreThanBorne, 3, (some .int), [], "moreThanBorne")
def wp_X3_moreThanBorne (l1 : Int32) (l2 : Int32) (w : Wd) (Q : Int32 → Wd → Prop) : Prop := inb (iz 1) 4 ∧ inb (iz 0) 4 ∧ (¬ (gA w 78 (iz 0).toInt) = 0) ∧ Q (imax (iz 0) (l2 - (((gA w 78 (iz 1).toInt) * l1) / (gA w 78 (iz 0).toInt)))) w
set_option maxRecDepth 100000 in
set_option maxHeartbeats 4000000 in
theorem sd_X3_moreThanBorne {γ : GG} (l1 : Int32) (l2 : Int32) (w : Wd) (Q : Int32 → Wd → Prop) : wp_X3_moreThanBorne l1 l2 w Q → Ctr γ 1 yX3_moreThanBorne (ws_ yX3_moreThanBorne cX3_moreThanBorne 3 (some .int)) [.ref 2, .int l1, .int l2] w (qI Q) xN := by
  intro h
  unfold wp_X3_moreThanBorne at h
  refine Ctr.of (μ := k_X3_moreThanBorne) (by decide) rfl rfl rfl (Nat.le_of_ble_eq_true rfl) ⟨0, ?_⟩
  have es : lva [.ref 2, .int l1, .int l2] ++ List.replicate 0 none = [some (.ref 2), some (.int l1), some (.int l2)] := rfl
  rw [es]
  refine R.iconst 1 dX3_moreThanBorne_0 rfl ?_
  refine R.iload_n 2 dX3_moreThanBorne_1 rfl rfl ?_
  refine R.aload_n 3 dX3_moreThanBorne_2 rfl rfl ?_
  refine gf_78 6 dX3_moreThanBorne_3 rfl rfl ?_
  refine R.iconst 7 dX3_moreThanBorne_6 rfl ?_
  obtain ⟨hb, h⟩ := h
  refine R.iald ar_78 8 dX3_moreThanBorne_7 rfl hb ?_
  refine R.iload_n 9 dX3_moreThanBorne_8 rfl rfl ?_
  refine R.imul 10 dX3_moreThanBorne_9 rfl ?_
  refine R.aload_n 11 dX3_moreThanBorne_10 rfl rfl ?_
  refine gf_78 14 dX3_moreThanBorne_11 rfl rfl ?_
  refine R.iconst 15 dX3_moreThanBorne_14 rfl ?_
  obtain ⟨hb, h⟩ := h
  refine R.iald ar_78 16 dX3_moreThanBorne_15 rfl hb ?_
  obtain ⟨hz, h⟩ := h
  refine R.idiv 17 dX3_moreThanBorne_16 rfl hz ?_
  refine R.isub 18 dX3_moreThanBorne_17 rfl ?_
  refine R.mmax 21 dX3_moreThanBorne_18 rfl q1604 q424 q149 q425 (by omega) (Nat.le_of_ble_eq_true rfl) ?_
  exact R.retI dX3_moreThanBorne_21 rfl h

abbrev k_X3_off : MK := ("FrostBoxModel", cX3_off, 3, (some .int), [], "off")
def wp_X3_off (l1 : Int32) (w : Wd) (Q : Int32 → Wd → Prop) : Prop := ∀ w1, w1 = sI w 60 (iz 0) → wp_X3_isHours l1 w1 (fun r2 w3 => (¬ r2 = iz 0 → wp_X3_remember w3 (fun w5 => wp_X3_sumIn 90 w5 (fun r6 w7 => wp_X3_moreThanBorne r6 l1 w7 (fun r8 w9 => wp_X3_ages 90 r8 w9 (fun w11 => Q r8 w11))))) ∧ (r2 = iz 0 → Q (iz (-1)) w3))
set_option maxRecDepth 100000 in
set_option maxHeartbeats 4000000 in
theorem sd_X3_off {γ : GG} (l1 : Int32) (w : Wd) (Q : Int32 → Wd → Prop) : wp_X3_off l1 w Q → Ctr γ 3 yX3_off (ws_ yX3_off cX3_off 3 (some .int)) [.ref 2, .int l1] w (qI Q) xN := by
  intro h
  unfold wp_X3_off at h
  refine Ctr.of (μ := k_X3_off) (by decide) rfl rfl rfl (Nat.le_of_ble_eq_true rfl) ⟨1, ?_⟩
  have es : lva [.ref 2, .int l1] ++ List.replicate 1 none = [some (.ref 2), some (.int l1), none] := rfl
  rw [es]
  refine R.aload_n 1 dX3_off_0 rfl rfl ?_
  refine R.iconst 2 dX3_off_1 rfl ?_
  replace h := h _ rfl
  refine pf_60 _ 5 dX3_off_2 rfl rfl ?_
  refine R.aload_n 6 dX3_off_5 rfl rfl ?_
  refine R.iload_n 7 dX3_off_6 rfl rfl ?_
  refine Rch.callv (sd_X3_isHours _ _ _ h) dX3_off_7 (lw_V q1688 q1690 qs120 q146 q1691) dk_X3_isHours rcM (by decide) (Nat.le_of_ble_eq_true rfl) rfl rfl (Nat.le_of_ble_eq_true rfl) (kI 10 rfl fun r2 w3 h => ?_) kN
  refine R.if_ne 15 13 dX3_off_10 (by decide) rfl (fun hc => ?_) (fun hc => ?_)
  · replace h := h.1 hc
    refine R.aload_n 16 dX3_off_15 rfl rfl ?_
    refine Rch.callv (sd_X3_remember _ _ h) dX3_off_16 (lw_V q1639 q1641 qs114 q146 q1642) dk_X3_remember rcM (by decide) (Nat.le_of_ble_eq_true rfl) rfl rfl (Nat.le_of_ble_eq_true rfl) (kV 19 rfl fun w5 h => ?_) kN
    refine R.aload_n 20 dX3_off_19 rfl rfl ?_
    refine R.aload_n 21 dX3_off_20 rfl rfl ?_
    refine R.aload_n 22 dX3_off_21 rfl rfl ?_
    refine gf_90 25 dX3_off_22 rfl rfl ?_
    refine Rch.callv (sd_X3_sumIn _ _ _ h) dX3_off_25 (lw_V q1635 q1637 qs113 q146 q1638) dk_X3_sumIn rcM (by decide) (Nat.le_of_ble_eq_true rfl) rfl rfl (Nat.le_of_ble_eq_true rfl) (kI 28 rfl fun r6 w7 h => ?_) kN
    refine R.iload_n 29 dX3_off_28 rfl rfl ?_
    refine Rch.callv (sd_X3_moreThanBorne _ _ _ _ h) dX3_off_29 (lw_V q1693 q1695 qs121 q146 q1696) dk_X3_moreThanBorne rcM (by decide) (Nat.le_of_ble_eq_true rfl) rfl rfl (Nat.le_of_ble_eq_true rfl) (kI 32 rfl fun r8 w9 h => ?_) kN
    refine R.ist2n 33 dX3_off_32 rfl (Nat.le_of_ble_eq_true rfl) rfl ?_
    refine R.aload_n 34 dX3_off_33 rfl rfl ?_
    refine R.aload_n 35 dX3_off_34 rfl rfl ?_
    refine gf_90 38 dX3_off_35 rfl rfl ?_
    refine R.iload_n 39 dX3_off_38 rfl rfl ?_
    refine Rch.callv (sd_X3_ages _ _ _ _ h) dX3_off_39 (lw_V q1680 q1682 qs119 q146 q1683) dk_X3_ages rcM (by decide) (Nat.le_of_ble_eq_true rfl) rfl rfl (Nat.le_of_ble_eq_true rfl) (kV 42 rfl fun w11 h => ?_) kN
    refine R.iload_n 43 dX3_off_42 rfl rfl ?_
    exact R.retI dX3_off_43 rfl h
  · replace h := h.2 hc
    refine R.iconst 14 dX3_off_13 rfl ?_
    exact R.retI dX3_off_14 rfl h
