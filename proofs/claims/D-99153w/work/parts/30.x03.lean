set_option maxRecDepth 100000

abbrev k_X1_take : MK := ("FrostBox", cX1_take, 2, (some .int), [], "take")
def wp_X1_take (l1 : Int32) (w : Wd) (Q : Int32 → Wd → Prop) : Prop := wp_X1_isBox l1 w (fun r1 w2 => (¬ r1 = iz 0 → wp_X1_act w2 (fun w4 => wp_X1_takeNow l1 w4 (fun r5 w6 => Q r5 w6))) ∧ (r1 = iz 0 → Q (iz (-1)) w2))
set_option maxRecDepth 100000 in
set_option maxHeartbeats 4000000 in
theorem sd_X1_take {γ : GG} (l1 : Int32) (w : Wd) (Q : Int32 → Wd → Prop) : wp_X1_take l1 w Q → Ctr γ 98 yX1_take (ws_ yX1_take cX1_take 2 (some .int)) [.ref 1, .int l1] w (qI Q) xN := by
  intro h
  unfold wp_X1_take at h
  refine Ctr.of (μ := k_X1_take) (by decide) rfl rfl rfl (Nat.le_of_ble_eq_true rfl) ⟨0, ?_⟩
  have es : lva [.ref 1, .int l1] ++ List.replicate 0 none = [some (.ref 1), some (.int l1)] := rfl
  rw [es]
  refine R.aload_n 1 dX1_take_0 rfl rfl ?_
  refine R.iload_n 2 dX1_take_1 rfl rfl ?_
  refine Rch.callv (sd_X1_isBox _ _ _ h) dX1_take_2 (lw_V q805 q807 qs38 q142 q808) dk_X1_isBox rcX (by decide) (Nat.le_of_ble_eq_true rfl) rfl rfl (Nat.le_of_ble_eq_true rfl) (kI 5 rfl fun r1 w2 h => ?_) kN
  refine R.if_ne 10 8 dX1_take_5 (by decide) rfl (fun hc => ?_) (fun hc => ?_)
  · replace h := h.1 hc
    refine R.aload_n 11 dX1_take_10 rfl rfl ?_
    refine Rch.callv (sd_X1_act _ _ h) dX1_take_11 (lw_V q793 q795 qs36 q142 q796) dk_X1_act rcX (by decide) (Nat.le_of_ble_eq_true rfl) rfl rfl (Nat.le_of_ble_eq_true rfl) (kV 14 rfl fun w4 h => ?_) kN
    refine R.aload_n 15 dX1_take_14 rfl rfl ?_
    refine R.iload_n 16 dX1_take_15 rfl rfl ?_
    refine Rch.callv (sd_X1_takeNow _ _ _ h) dX1_take_16 (lw_V q809 q811 qs39 q142 q812) dk_X1_takeNow rcX (by decide) (Nat.le_of_ble_eq_true rfl) rfl rfl (Nat.le_of_ble_eq_true rfl) (kI 19 rfl fun r5 w6 h => ?_) kN
    exact R.retI dX1_take_19 rfl h
  · replace h := h.2 hc
    refine R.iconst 9 dX1_take_8 rfl ?_
    exact R.retI dX1_take_9 rfl h

abbrev k_X1_isLabelled : MK := ("FrostBox", cX1_isLabelled, 2, (some .boolean), [], "isLabelled")
def wp_X1_isLabelled (l1 : Int32) (w : Wd) (Q : Int32 → Wd → Prop) : Prop := wp_X1_of l1 (iz 3) w (fun r1 w2 => (r1 = (iz (-1)) → Q (iz 0) w2) ∧ (¬ r1 = (iz (-1)) → Q (iz 1) w2))
set_option maxRecDepth 100000 in
set_option maxHeartbeats 4000000 in
theorem sd_X1_isLabelled {γ : GG} (l1 : Int32) (w : Wd) (Q : Int32 → Wd → Prop) : wp_X1_isLabelled l1 w Q → Ctr γ 4 yX1_isLabelled (ws_ yX1_isLabelled cX1_isLabelled 2 (some .boolean)) [.ref 1, .int l1] w (qI Q) xN := by
  intro h
  unfold wp_X1_isLabelled at h
  refine Ctr.of (μ := k_X1_isLabelled) (by decide) rfl rfl rfl (Nat.le_of_ble_eq_true rfl) ⟨0, ?_⟩
  have es : lva [.ref 1, .int l1] ++ List.replicate 0 none = [some (.ref 1), some (.int l1)] := rfl
  rw [es]
  refine R.aload_n 1 dX1_isLabelled_0 rfl rfl ?_
  refine R.iload_n 2 dX1_isLabelled_1 rfl rfl ?_
  refine R.iconst 3 dX1_isLabelled_2 rfl ?_
  refine Rch.callv (sd_X1_of _ _ _ _ h) dX1_isLabelled_3 (lw_V q785 q787 qs34 q142 q788) dk_X1_of rcX (by decide) (Nat.le_of_ble_eq_true rfl) rfl rfl (Nat.le_of_ble_eq_true rfl) (kI 6 rfl fun r1 w2 h => ?_) kN
  refine R.iconst 7 dX1_isLabelled_6 rfl ?_
  refine R.icmp_eq 14 10 dX1_isLabelled_7 (by decide) rfl (fun hc => ?_) (fun hc => ?_)
  · replace h := h.1 hc
    refine R.iconst 15 dX1_isLabelled_14 rfl ?_
    exact R.retZ dX1_isLabelled_15 rfl zok0 h
  · replace h := h.2 hc
    refine R.iconst 11 dX1_isLabelled_10 rfl ?_
    refine R.goto 15 dX1_isLabelled_11 (by decide) ?_
    exact R.retZ dX1_isLabelled_15 rfl zok1 h

abbrev k_X1_canLabel : MK := ("FrostBox", cX1_canLabel, 2, (some .boolean), [], "canLabel")
def wp_X1_canLabel (l1 : Int32) (w : Wd) (Q : Int32 → Wd → Prop) : Prop := wp_X1_isBox l1 w (fun r1 w2 => (r1 = iz 0 → Q (iz 0) w2) ∧ (¬ r1 = iz 0 → wp_X1_isLabelled l1 w2 (fun r3 w4 => (¬ r3 = iz 0 → Q (iz 0) w4) ∧ (r3 = iz 0 → Q (iz 1) w4))))
set_option maxRecDepth 100000 in
set_option maxHeartbeats 4000000 in
theorem sd_X1_canLabel {γ : GG} (l1 : Int32) (w : Wd) (Q : Int32 → Wd → Prop) : wp_X1_canLabel l1 w Q → Ctr γ 5 yX1_canLabel (ws_ yX1_canLabel cX1_canLabel 2 (some .boolean)) [.ref 1, .int l1] w (qI Q) xN := by
  intro h
  unfold wp_X1_canLabel at h
  refine Ctr.of (μ := k_X1_canLabel) (by decide) rfl rfl rfl (Nat.le_of_ble_eq_true rfl) ⟨0, ?_⟩
  have es : lva [.ref 1, .int l1] ++ List.replicate 0 none = [some (.ref 1), some (.int l1)] := rfl
  rw [es]
  refine R.aload_n 1 dX1_canLabel_0 rfl rfl ?_
  refine R.iload_n 2 dX1_canLabel_1 rfl rfl ?_
  refine Rch.callv (sd_X1_isBox _ _ _ h) dX1_canLabel_2 (lw_V q805 q807 qs38 q142 q808) dk_X1_isBox rcX (by decide) (Nat.le_of_ble_eq_true rfl) rfl rfl (Nat.le_of_ble_eq_true rfl) (kI 5 rfl fun r1 w2 h => ?_) kN
  refine R.if_eq 20 8 dX1_canLabel_5 (by decide) rfl (fun hc => ?_) (fun hc => ?_)
  · replace h := h.1 hc
    refine R.iconst 21 dX1_canLabel_20 rfl ?_
    exact R.retZ dX1_canLabel_21 rfl zok0 h
  · replace h := h.2 hc
    refine R.aload_n 9 dX1_canLabel_8 rfl rfl ?_
    refine R.iload_n 10 dX1_canLabel_9 rfl rfl ?_
    refine Rch.callv (sd_X1_isLabelled _ _ _ h) dX1_canLabel_10 (lw_V q908 q910 qs46 q142 q911) dk_X1_isLabelled rcX (by decide) (Nat.le_of_ble_eq_true rfl) rfl rfl (Nat.le_of_ble_eq_true rfl) (kI 13 rfl fun r3 w4 h => ?_) kN
    refine R.if_ne 20 16 dX1_canLabel_13 (by decide) rfl (fun hc => ?_) (fun hc => ?_)
    · replace h := h.1 hc
      refine R.iconst 21 dX1_canLabel_20 rfl ?_
      exact R.retZ dX1_canLabel_21 rfl zok0 h
    · replace h := h.2 hc
      refine R.iconst 17 dX1_canLabel_16 rfl ?_
      refine R.goto 21 dX1_canLabel_17 (by decide) ?_
      exact R.retZ dX1_canLabel_21 rfl zok1 h

abbrev k_X1_labelNow : MK := ("FrostBox", cX1_labelNow, 2, none, [], "labelNow")
def wp_X1_labelNow (l1 : Int32) (w : Wd) (Q : Wd → Prop) : Prop := wp_X1_turned l1 w (fun r1 w2 => inb (iz 33) 275 ∧ inb (((iz 4) * r1) + (iz 3)) 275 ∧ (∀ w3, w3 = sA w2 31 (((iz 4) * r1) + (iz 3)).toInt (gA w2 31 (iz 33).toInt) → Q w3))
set_option maxRecDepth 100000 in
set_option maxHeartbeats 4000000 in
theorem sd_X1_labelNow {γ : GG} (l1 : Int32) (w : Wd) (Q : Wd → Prop) : wp_X1_labelNow l1 w Q → Ctr γ 3 yX1_labelNow (ws_ yX1_labelNow cX1_labelNow 2 none) [.ref 1, .int l1] w (qV Q) xN := by
  intro h
  unfold wp_X1_labelNow at h
  refine Ctr.of (μ := k_X1_labelNow) (by decide) rfl rfl rfl (Nat.le_of_ble_eq_true rfl) ⟨0, ?_⟩
  have es : lva [.ref 1, .int l1] ++ List.replicate 0 none = [some (.ref 1), some (.int l1)] := rfl
  rw [es]
  refine R.aload_n 1 dX1_labelNow_0 rfl rfl ?_
  refine gf_31 4 dX1_labelNow_1 rfl rfl ?_
  refine R.iconst 5 dX1_labelNow_4 rfl ?_
  refine R.aload_n 6 dX1_labelNow_5 rfl rfl ?_
  refine R.iload_n 7 dX1_labelNow_6 rfl rfl ?_
  refine Rch.callv (sd_X1_turned _ _ _ h) dX1_labelNow_7 (lw_V q789 q791 qs35 q142 q792) dk_X1_turned rcX (by decide) (Nat.le_of_ble_eq_true rfl) rfl rfl (Nat.le_of_ble_eq_true rfl) (kI 10 rfl fun r1 w2 h => ?_) kN
  refine R.imul 11 dX1_labelNow_10 rfl ?_
  refine R.iconst 12 dX1_labelNow_11 rfl ?_
  refine R.iadd 13 dX1_labelNow_12 rfl ?_
  refine R.aload_n 14 dX1_labelNow_13 rfl rfl ?_
  refine gf_31 17 dX1_labelNow_14 rfl rfl ?_
  refine R.bipush 19 dX1_labelNow_17 rfl (by decide +kernel) ?_
  obtain ⟨hb, h⟩ := h
  refine R.iald ar_31 20 dX1_labelNow_19 rfl hb ?_
  obtain ⟨hb, h⟩ := h
  replace h := h _ rfl
  refine R.iast ar_31 21 dX1_labelNow_20 rfl hb ?_
  exact R.retV dX1_labelNow_21 rfl h

abbrev k_X1_label : MK := ("FrostBox", cX1_label, 2, (some .boolean), [], "label")
def wp_X1_label (l1 : Int32) (w : Wd) (Q : Int32 → Wd → Prop) : Prop := wp_X1_canLabel l1 w (fun r1 w2 => (¬ r1 = iz 0 → wp_X1_act w2 (fun w4 => wp_X1_labelNow l1 w4 (fun w6 => Q (iz 1) w6))) ∧ (r1 = iz 0 → Q (iz 0) w2))
set_option maxRecDepth 100000 in
set_option maxHeartbeats 4000000 in
theorem sd_X1_label {γ : GG} (l1 : Int32) (w : Wd) (Q : Int32 → Wd → Prop) : wp_X1_label l1 w Q → Ctr γ 6 yX1_label (ws_ yX1_label cX1_label 2 (some .boolean)) [.ref 1, .int l1] w (qI Q) xN := by
  intro h
  unfold wp_X1_label at h
  refine Ctr.of (μ := k_X1_label) (by decide) rfl rfl rfl (Nat.le_of_ble_eq_true rfl) ⟨0, ?_⟩
  have es : lva [.ref 1, .int l1] ++ List.replicate 0 none = [some (.ref 1), some (.int l1)] := rfl
  rw [es]
  refine R.aload_n 1 dX1_label_0 rfl rfl ?_
  refine R.iload_n 2 dX1_label_1 rfl rfl ?_
  refine Rch.callv (sd_X1_canLabel _ _ _ h) dX1_label_2 (lw_V q904 q906 qs45 q142 q907) dk_X1_canLabel rcX (by decide) (Nat.le_of_ble_eq_true rfl) rfl rfl (Nat.le_of_ble_eq_true rfl) (kI 5 rfl fun r1 w2 h => ?_) kN
  refine R.if_ne 10 8 dX1_label_5 (by decide) rfl (fun hc => ?_) (fun hc => ?_)
  · replace h := h.1 hc
    refine R.aload_n 11 dX1_label_10 rfl rfl ?_
    refine Rch.callv (sd_X1_act _ _ h) dX1_label_11 (lw_V q793 q795 qs36 q142 q796) dk_X1_act rcX (by decide) (Nat.le_of_ble_eq_true rfl) rfl rfl (Nat.le_of_ble_eq_true rfl) (kV 14 rfl fun w4 h => ?_) kN
    refine R.aload_n 15 dX1_label_14 rfl rfl ?_
    refine R.iload_n 16 dX1_label_15 rfl rfl ?_
    refine Rch.callv (sd_X1_labelNow _ _ _ h) dX1_label_16 (lw_V q912 q914 qs47 q142 q915) dk_X1_labelNow rcX (by decide) (Nat.le_of_ble_eq_true rfl) rfl rfl (Nat.le_of_ble_eq_true rfl) (kV 19 rfl fun w6 h => ?_) kN
    refine R.iconst 20 dX1_label_19 rfl ?_
    exact R.retZ dX1_label_20 rfl zok1 h
  · replace h := h.2 hc
    refine R.iconst 9 dX1_label_8 rfl ?_
    exact R.retZ dX1_label_9 rfl zok0 h

abbrev k_X1_canPass : MK := ("FrostBox", cX1_canPass, 2, (some .boolean), [], "canPass")
def wp_X1_canPass (l1 : Int32) (w : Wd) (Q : Int32 → Wd → Prop) : Prop := wp_X1_isHouse w (fun r1 w2 => (r1 = iz 0 → Q (iz 0) w2) ∧ (¬ r1 = iz 0 → wp_X1_in l1 (iz 1) (iz 60) w2 (fun r3 w4 => (r3 = iz 0 → Q (iz 0) w4) ∧ (¬ r3 = iz 0 → inb (iz 33) 275 ∧ ((iz 999) < ((gA w4 31 (iz 33).toInt) + l1) → Q (iz 0) w4) ∧ (¬ (iz 999) < ((gA w4 31 (iz 33).toInt) + l1) → Q (iz 1) w4)))))
set_option maxRecDepth 100000 in
set_option maxHeartbeats 4000000 in
theorem sd_X1_canPass {γ : GG} (l1 : Int32) (w : Wd) (Q : Int32 → Wd → Prop) : wp_X1_canPass l1 w Q → Ctr γ 2 yX1_canPass (ws_ yX1_canPass cX1_canPass 2 (some .boolean)) [.ref 1, .int l1] w (qI Q) xN := by
  intro h
  unfold wp_X1_canPass at h
  refine Ctr.of (μ := k_X1_canPass) (by decide) rfl rfl rfl (Nat.le_of_ble_eq_true rfl) ⟨0, ?_⟩
  have es : lva [.ref 1, .int l1] ++ List.replicate 0 none = [some (.ref 1), some (.int l1)] := rfl
  rw [es]
  refine R.aload_n 1 dX1_canPass_0 rfl rfl ?_
  refine Rch.callv (sd_X1_isHouse _ _ h) dX1_canPass_1 (lw_V q737 q739 qs26 q142 q740) dk_X1_isHouse rcX (by decide) (Nat.le_of_ble_eq_true rfl) rfl rfl (Nat.le_of_ble_eq_true rfl) (kI 4 rfl fun r1 w2 h => ?_) kN
  refine R.if_eq 36 7 dX1_canPass_4 (by decide) rfl (fun hc => ?_) (fun hc => ?_)
  · replace h := h.1 hc
    refine R.iconst 37 dX1_canPass_36 rfl ?_
    exact R.retZ dX1_canPass_37 rfl zok0 h
  · replace h := h.2 hc
    refine R.iload_n 8 dX1_canPass_7 rfl rfl ?_
    refine R.iconst 9 dX1_canPass_8 rfl ?_
    refine R.bipush 11 dX1_canPass_9 rfl (by decide +kernel) ?_
    refine Rch.calls (sd_X1_in _ _ _ _ _ h) dX1_canPass_11 (lw_S q700 q701 q142 q702) dk_X1_in (by decide) (Nat.le_of_ble_eq_true rfl) rfl rfl (Nat.le_of_ble_eq_true rfl) (kI 14 rfl fun r3 w4 h => ?_) kN
    refine R.if_eq 36 17 dX1_canPass_14 (by decide) rfl (fun hc => ?_) (fun hc => ?_)
    · replace h := h.1 hc
      refine R.iconst 37 dX1_canPass_36 rfl ?_
      exact R.retZ dX1_canPass_37 rfl zok0 h
    · replace h := h.2 hc
      refine R.aload_n 18 dX1_canPass_17 rfl rfl ?_
      refine gf_31 21 dX1_canPass_18 rfl rfl ?_
      refine R.bipush 23 dX1_canPass_21 rfl (by decide +kernel) ?_
      obtain ⟨hb, h⟩ := h
      refine R.iald ar_31 24 dX1_canPass_23 rfl hb ?_
      refine R.iload_n 25 dX1_canPass_24 rfl rfl ?_
      refine R.iadd 26 dX1_canPass_25 rfl ?_
      refine R.sipush 29 dX1_canPass_26 rfl (by decide +kernel) ?_
      refine R.icmp_gt 36 32 dX1_canPass_29 (by decide) rfl (fun hc => ?_) (fun hc => ?_)
      · replace h := h.1 hc
        refine R.iconst 37 dX1_canPass_36 rfl ?_
        exact R.retZ dX1_canPass_37 rfl zok0 h
      · replace h := h.2 hc
        refine R.iconst 33 dX1_canPass_32 rfl ?_
        refine R.goto 37 dX1_canPass_33 (by decide) ?_
        exact R.retZ dX1_canPass_37 rfl zok1 h

abbrev k_X1_older : MK := ("FrostBox", cX1_older, 3, none, [], "older")
def wl_X1_older_2 (Q : Wd → Prop) (l1 : Int32) (R2 : Int32 → Wd → Prop) (l2 : Int32) (w : Wd) : Prop := wp_X1_boxMany w (fun r1 w2 => (r1 ≤ l2 → Q w2) ∧ (¬ r1 ≤ l2 → inb (((iz 4) * l2) + (iz 2)) 275 ∧ inb (((iz 4) * l2) + (iz 2)) 275 ∧ (∀ w3, w3 = sA w2 31 (((iz 4) * l2) + (iz 2)).toInt (imin (iz 99) ((gA w2 31 (((iz 4) * l2) + (iz 2)).toInt) + l1)) → R2 (l2 + iz 1) w3)))
def lp_X1_older_2 (Q : Wd → Prop) (l1 : Int32) : Nat → Int32 → Wd → Prop
  | 0, _, _ => False
  | n + 1, l2, w => wl_X1_older_2 Q l1 (lp_X1_older_2 Q l1 n) l2 w
def wp_X1_older (l1 : Int32) (w : Wd) (Q : Wd → Prop) : Prop := ∃ n1, lp_X1_older_2 Q l1 n1 (iz 0) w
set_option maxRecDepth 100000 in
set_option maxHeartbeats 4000000 in
theorem sl_X1_older_2 {γ : GG} (Q : Wd → Prop) (l1 : Int32) : ∀ (n : Nat) (l2 : Int32) (w : Wd), lp_X1_older_2 Q l1 n l2 w → Rch γ 2 k_X1_older 2 [some (.ref 1), some (.int l1), some (.int l2)] [] w (qV Q) xN := by
  intro n
  induction n with
  | zero => intro _ _ h; exact h.elim
  | succ n hR2 =>
    intro l2 w h
    have h : wl_X1_older_2 Q l1 (lp_X1_older_2 Q l1 n) l2 w := h
    unfold wl_X1_older_2 at h
    refine R.iload_n 3 dX1_older_2 rfl rfl ?_
    refine R.aload_n 4 dX1_older_3 rfl rfl ?_
    refine Rch.callv (sd_X1_boxMany _ _ h) dX1_older_4 (lw_V q773 q775 qs31 q142 q776) dk_X1_boxMany rcX (by decide) (Nat.le_of_ble_eq_true rfl) rfl rfl (Nat.le_of_ble_eq_true rfl) (kI 7 rfl fun r1 w2 h => ?_) kN
    refine R.icmp_ge 43 10 dX1_older_7 (by decide) rfl (fun hc => ?_) (fun hc => ?_)
    · replace h := h.1 hc
      exact R.retV dX1_older_43 rfl h
    · replace h := h.2 hc
      refine R.aload_n 11 dX1_older_10 rfl rfl ?_
      refine gf_31 14 dX1_older_11 rfl rfl ?_
      refine R.iconst 15 dX1_older_14 rfl ?_
      refine R.iload_n 16 dX1_older_15 rfl rfl ?_
      refine R.imul 17 dX1_older_16 rfl ?_
      refine R.iconst 18 dX1_older_17 rfl ?_
      refine R.iadd 19 dX1_older_18 rfl ?_
      refine R.bipush 21 dX1_older_19 rfl (by decide +kernel) ?_
      refine R.aload_n 22 dX1_older_21 rfl rfl ?_
      refine gf_31 25 dX1_older_22 rfl rfl ?_
      refine R.iconst 26 dX1_older_25 rfl ?_
      refine R.iload_n 27 dX1_older_26 rfl rfl ?_
      refine R.imul 28 dX1_older_27 rfl ?_
      refine R.iconst 29 dX1_older_28 rfl ?_
      refine R.iadd 30 dX1_older_29 rfl ?_
      obtain ⟨hb, h⟩ := h
      refine R.iald ar_31 31 dX1_older_30 rfl hb ?_
      refine R.iload_n 32 dX1_older_31 rfl rfl ?_
      refine R.iadd 33 dX1_older_32 rfl ?_
      refine R.mmin 36 dX1_older_33 rfl q825 q427 q149 q428 (by omega) (Nat.le_of_ble_eq_true rfl) ?_
      obtain ⟨hb, h⟩ := h
      replace h := h _ rfl
      refine R.iast ar_31 37 dX1_older_36 rfl hb ?_
      refine R.inc2 40 dX1_older_37 rfl (Nat.le_of_ble_eq_true rfl) rfl ?_
      refine R.goto 2 dX1_older_40 (by decide) ?_
      exact Rch.dropk (hR2 _ _ h) ⟨rfl, ⟨rfl, ⟨rfl, trivial⟩⟩⟩
set_option maxRecDepth 100000 in
set_option maxHeartbeats 4000000 in
theorem sd_X1_older {γ : GG} (l1 : Int32) (w : Wd) (Q : Wd → Prop) : wp_X1_older l1 w Q → Ctr γ 2 yX1_older (ws_ yX1_older cX1_older 3 none) [.ref 1, .int l1] w (qV Q) xN := by
  intro h
  unfold wp_X1_older at h
  refine Ctr.of (μ := k_X1_older) (by decide) rfl rfl rfl (Nat.le_of_ble_eq_true rfl) ⟨1, ?_⟩
  have es : lva [.ref 1, .int l1] ++ List.replicate 1 none = [some (.ref 1), some (.int l1), none] := rfl
  rw [es]
  refine R.iconst 1 dX1_older_0 rfl ?_
  refine R.ist2n 2 dX1_older_1 rfl (Nat.le_of_ble_eq_true rfl) rfl ?_
  obtain ⟨n1, h⟩ := h
  exact Rch.dropk (sl_X1_older_2 Q _ n1 _ _ h) ⟨rfl, ⟨rfl, ⟨rfl, trivial⟩⟩⟩

abbrev k_X1_pass : MK := ("FrostBox", cX1_pass, 3, none, [], "pass")
def wl_X1_pass_18 (Q : Wd → Prop) (R18 : Int32 → Wd → Prop) (l1 : Int32) (w : Wd) : Prop := wp_X1_boxMany w (fun r1 w2 => (r1 ≤ l1 → Q w2) ∧ (¬ r1 ≤ l1 → inb (((iz 4) * l1) + (iz 3)) 275 ∧ ((gA w2 31 (((iz 4) * l1) + (iz 3)).toInt) = (iz (-1)) → R18 (l1 + iz 1) w2) ∧ (¬ (gA w2 31 (((iz 4) * l1) + (iz 3)).toInt) = (iz (-1)) → inb (iz 33) 275 ∧ inb (((iz 4) * l1) + (iz 3)) 275 ∧ inb (iz 2) 4 ∧ (((gA w2 31 (iz 33).toInt) - (gA w2 31 (((iz 4) * l1) + (iz 3)).toInt)) < (gA w2 19 (iz 2).toInt) → R18 (l1 + iz 1) w2) ∧ (¬ ((gA w2 31 (iz 33).toInt) - (gA w2 31 (((iz 4) * l1) + (iz 3)).toInt)) < (gA w2 19 (iz 2).toInt) → inb (((iz 4) * l1) + (iz 3)) 275 ∧ (∀ w3, w3 = sA w2 31 (((iz 4) * l1) + (iz 3)).toInt (iz (-1)) → R18 (l1 + iz 1) w3)))))
def lp_X1_pass_18 (Q : Wd → Prop) : Nat → Int32 → Wd → Prop
  | 0, _, _ => False
  | n + 1, l1, w => wl_X1_pass_18 Q (lp_X1_pass_18 Q n) l1 w
def wp_X1_pass (w : Wd) (Q : Wd → Prop) : Prop := wp_X1_older (iz 1) w (fun w2 => inb (iz 33) 275 ∧ inb (iz 33) 275 ∧ (∀ w3, w3 = sA w2 31 (iz 33).toInt ((gA w2 31 (iz 33).toInt) + (iz 1)) → ∃ n4, lp_X1_pass_18 Q n4 (iz 0) w3))
set_option maxRecDepth 100000 in
set_option maxHeartbeats 4000000 in
theorem sl_X1_pass_18 {γ : GG} (Q : Wd → Prop) : ∀ (n : Nat) (l1 : Int32) (w : Wd), lp_X1_pass_18 Q n l1 w → Rch γ 3 k_X1_pass 18 [some (.ref 1), some (.int l1), none] [] w (qV Q) xN := by
  intro n
  induction n with
  | zero => intro _ _ h; exact h.elim
  | succ n hR18 =>
    intro l1 w h
    have h : wl_X1_pass_18 Q (lp_X1_pass_18 Q n) l1 w := h
    unfold wl_X1_pass_18 at h
    refine R.iload_n 19 dX1_pass_18 rfl rfl ?_
    refine R.aload_n 20 dX1_pass_19 rfl rfl ?_
    refine Rch.callv (sd_X1_boxMany _ _ h) dX1_pass_20 (lw_V q773 q775 qs31 q142 q776) dk_X1_boxMany rcX (by decide) (Nat.le_of_ble_eq_true rfl) rfl rfl (Nat.le_of_ble_eq_true rfl) (kI 23 rfl fun r1 w2 h => ?_) kN
    refine R.icmp_ge 78 26 dX1_pass_23 (by decide) rfl (fun hc => ?_) (fun hc => ?_)
    · replace h := h.1 hc
      exact R.retV dX1_pass_78 rfl h
    · replace h := h.2 hc
      refine R.iconst 27 dX1_pass_26 rfl ?_
      refine R.iload_n 28 dX1_pass_27 rfl rfl ?_
      refine R.imul 29 dX1_pass_28 rfl ?_
      refine R.iconst 30 dX1_pass_29 rfl ?_
      refine R.iadd 31 dX1_pass_30 rfl ?_
      refine R.ist2n 32 dX1_pass_31 rfl (Nat.le_of_ble_eq_true rfl) rfl ?_
      refine R.aload_n 33 dX1_pass_32 rfl rfl ?_
      refine gf_31 36 dX1_pass_33 rfl rfl ?_
      refine R.iload_n 37 dX1_pass_36 rfl rfl ?_
      obtain ⟨hb, h⟩ := h
      refine R.iald ar_31 38 dX1_pass_37 rfl hb ?_
      refine R.iconst 39 dX1_pass_38 rfl ?_
      refine R.icmp_eq 72 42 dX1_pass_39 (by decide) rfl (fun hc => ?_) (fun hc => ?_)
      · replace h := h.1 hc
        refine R.inc1 75 dX1_pass_72 rfl (Nat.le_of_ble_eq_true rfl) rfl ?_
        refine R.goto 18 dX1_pass_75 (by decide) ?_
        exact Rch.dropk (hR18 _ _ h) ⟨rfl, ⟨rfl, trivial⟩⟩
      · replace h := h.2 hc
        refine R.aload_n 43 dX1_pass_42 rfl rfl ?_
        refine gf_31 46 dX1_pass_43 rfl rfl ?_
        refine R.bipush 48 dX1_pass_46 rfl (by decide +kernel) ?_
        obtain ⟨hb, h⟩ := h
        refine R.iald ar_31 49 dX1_pass_48 rfl hb ?_
        refine R.aload_n 50 dX1_pass_49 rfl rfl ?_
        refine gf_31 53 dX1_pass_50 rfl rfl ?_
        refine R.iload_n 54 dX1_pass_53 rfl rfl ?_
        obtain ⟨hb, h⟩ := h
        refine R.iald ar_31 55 dX1_pass_54 rfl hb ?_
        refine R.isub 56 dX1_pass_55 rfl ?_
        refine R.aload_n 57 dX1_pass_56 rfl rfl ?_
        refine gf_19 60 dX1_pass_57 rfl rfl ?_
        refine R.iconst 61 dX1_pass_60 rfl ?_
        obtain ⟨hb, h⟩ := h
        refine R.iald ar_19 62 dX1_pass_61 rfl hb ?_
        refine R.icmp_lt 72 65 dX1_pass_62 (by decide) rfl (fun hc => ?_) (fun hc => ?_)
        · replace h := h.1 hc
          refine R.inc1 75 dX1_pass_72 rfl (Nat.le_of_ble_eq_true rfl) rfl ?_
          refine R.goto 18 dX1_pass_75 (by decide) ?_
          exact Rch.dropk (hR18 _ _ h) ⟨rfl, ⟨rfl, trivial⟩⟩
        · replace h := h.2 hc
          refine R.aload_n 66 dX1_pass_65 rfl rfl ?_
          refine gf_31 69 dX1_pass_66 rfl rfl ?_
          refine R.iload_n 70 dX1_pass_69 rfl rfl ?_
          refine R.iconst 71 dX1_pass_70 rfl ?_
          obtain ⟨hb, h⟩ := h
          replace h := h _ rfl
          refine R.iast ar_31 72 dX1_pass_71 rfl hb ?_
          refine R.inc1 75 dX1_pass_72 rfl (Nat.le_of_ble_eq_true rfl) rfl ?_
          refine R.goto 18 dX1_pass_75 (by decide) ?_
          exact Rch.dropk (hR18 _ _ h) ⟨rfl, ⟨rfl, trivial⟩⟩
set_option maxRecDepth 100000 in
set_option maxHeartbeats 4000000 in
theorem sd_X1_pass {γ : GG} (w : Wd) (Q : Wd → Prop) : wp_X1_pass w Q → Ctr γ 3 yX1_pass (ws_ yX1_pass cX1_pass 3 none) [.ref 1] w (qV Q) xN := by
  intro h
  unfold wp_X1_pass at h
  refine Ctr.of (μ := k_X1_pass) (by decide) rfl rfl rfl (Nat.le_of_ble_eq_true rfl) ⟨2, ?_⟩
  have es : lva [.ref 1] ++ List.replicate 2 none = [some (.ref 1), none, none] := rfl
  rw [es]
  refine R.aload_n 1 dX1_pass_0 rfl rfl ?_
  refine R.iconst 2 dX1_pass_1 rfl ?_
  refine Rch.callv (sd_X1_older _ _ _ h) dX1_pass_2 (lw_V q928 q930 qs50 q142 q931) dk_X1_older rcX (by decide) (Nat.le_of_ble_eq_true rfl) rfl rfl (Nat.le_of_ble_eq_true rfl) (kV 5 rfl fun w2 h => ?_) kN
  refine R.aload_n 6 dX1_pass_5 rfl rfl ?_
  refine gf_31 9 dX1_pass_6 rfl rfl ?_
  refine R.bipush 11 dX1_pass_9 rfl (by decide +kernel) ?_
  refine R.dup2 12 dX1_pass_11 rfl ?_
  obtain ⟨hb, h⟩ := h
  refine R.iald ar_31 13 dX1_pass_12 rfl hb ?_
  refine R.iconst 14 dX1_pass_13 rfl ?_
  refine R.iadd 15 dX1_pass_14 rfl ?_
  obtain ⟨hb, h⟩ := h
  replace h := h _ rfl
  refine R.iast ar_31 16 dX1_pass_15 rfl hb ?_
  refine R.iconst 17 dX1_pass_16 rfl ?_
  refine R.ist1n 18 dX1_pass_17 rfl (Nat.le_of_ble_eq_true rfl) rfl ?_
  obtain ⟨n4, h⟩ := h
  exact Rch.dropk (sl_X1_pass_18 Q n4 _ _ h) ⟨rfl, ⟨rfl, trivial⟩⟩

abbrev k_X1_months : MK := ("FrostBox", cX1_months, 3, (some .int), [], "months")
def wl_X1_months_12 (Q : Int32 → Wd → Prop) (l1 : Int32) (R12 : Int32 → Wd → Prop) (l2 : Int32) (w : Wd) : Prop := (l1 ≤ l2 → inb (iz 33) 275 ∧ Q (gA w 31 (iz 33).toInt) w) ∧ (¬ l1 ≤ l2 → wp_X1_act w (fun w2 => wp_X1_pass w2 (fun w4 => R12 (l2 + iz 1) w4)))
def lp_X1_months_12 (Q : Int32 → Wd → Prop) (l1 : Int32) : Nat → Int32 → Wd → Prop
  | 0, _, _ => False
  | n + 1, l2, w => wl_X1_months_12 Q l1 (lp_X1_months_12 Q l1 n) l2 w
def wp_X1_months (l1 : Int32) (w : Wd) (Q : Int32 → Wd → Prop) : Prop := wp_X1_canPass l1 w (fun r1 w2 => (¬ r1 = iz 0 → ∃ n3, lp_X1_months_12 Q l1 n3 (iz 0) w2) ∧ (r1 = iz 0 → Q (iz (-1)) w2))
set_option maxRecDepth 100000 in
set_option maxHeartbeats 4000000 in
theorem sl_X1_months_12 {γ : GG} (Q : Int32 → Wd → Prop) (l1 : Int32) : ∀ (n : Nat) (l2 : Int32) (w : Wd), lp_X1_months_12 Q l1 n l2 w → Rch γ 4 k_X1_months 12 [some (.ref 1), some (.int l1), some (.int l2)] [] w (qI Q) xN := by
  intro n
  induction n with
  | zero => intro _ _ h; exact h.elim
  | succ n hR12 =>
    intro l2 w h
    have h : wl_X1_months_12 Q l1 (lp_X1_months_12 Q l1 n) l2 w := h
    unfold wl_X1_months_12 at h
    refine R.iload_n 13 dX1_months_12 rfl rfl ?_
    refine R.iload_n 14 dX1_months_13 rfl rfl ?_
    refine R.icmp_ge 31 17 dX1_months_14 (by decide) rfl (fun hc => ?_) (fun hc => ?_)
    · replace h := h.1 hc
      refine R.aload_n 32 dX1_months_31 rfl rfl ?_
      refine gf_31 35 dX1_months_32 rfl rfl ?_
      refine R.bipush 37 dX1_months_35 rfl (by decide +kernel) ?_
      obtain ⟨hb, h⟩ := h
      refine R.iald ar_31 38 dX1_months_37 rfl hb ?_
      exact R.retI dX1_months_38 rfl h
    · replace h := h.2 hc
      refine R.aload_n 18 dX1_months_17 rfl rfl ?_
      refine Rch.callv (sd_X1_act _ _ h) dX1_months_18 (lw_V q793 q795 qs36 q142 q796) dk_X1_act rcX (by decide) (Nat.le_of_ble_eq_true rfl) rfl rfl (Nat.le_of_ble_eq_true rfl) (kV 21 rfl fun w2 h => ?_) kN
      refine R.aload_n 22 dX1_months_21 rfl rfl ?_
      refine Rch.callv (sd_X1_pass _ _ h) dX1_months_22 (lw_V q924 q926 qs49 q142 q927) dk_X1_pass rcX (by decide) (Nat.le_of_ble_eq_true rfl) rfl rfl (Nat.le_of_ble_eq_true rfl) (kV 25 rfl fun w4 h => ?_) kN
      refine R.inc2 28 dX1_months_25 rfl (Nat.le_of_ble_eq_true rfl) rfl ?_
      refine R.goto 12 dX1_months_28 (by decide) ?_
      exact Rch.dropk (hR12 _ _ h) ⟨rfl, ⟨rfl, ⟨rfl, trivial⟩⟩⟩
set_option maxRecDepth 100000 in
set_option maxHeartbeats 4000000 in
theorem sd_X1_months {γ : GG} (l1 : Int32) (w : Wd) (Q : Int32 → Wd → Prop) : wp_X1_months l1 w Q → Ctr γ 4 yX1_months (ws_ yX1_months cX1_months 3 (some .int)) [.ref 1, .int l1] w (qI Q) xN := by
  intro h
  unfold wp_X1_months at h
  refine Ctr.of (μ := k_X1_months) (by decide) rfl rfl rfl (Nat.le_of_ble_eq_true rfl) ⟨1, ?_⟩
  have es : lva [.ref 1, .int l1] ++ List.replicate 1 none = [some (.ref 1), some (.int l1), none] := rfl
  rw [es]
  refine R.aload_n 1 dX1_months_0 rfl rfl ?_
  refine R.iload_n 2 dX1_months_1 rfl rfl ?_
  refine Rch.callv (sd_X1_canPass _ _ _ h) dX1_months_2 (lw_V q920 q922 qs48 q142 q923) dk_X1_canPass rcX (by decide) (Nat.le_of_ble_eq_true rfl) rfl rfl (Nat.le_of_ble_eq_true rfl) (kI 5 rfl fun r1 w2 h => ?_) kN
  refine R.if_ne 10 8 dX1_months_5 (by decide) rfl (fun hc => ?_) (fun hc => ?_)
  · replace h := h.1 hc
    refine R.iconst 11 dX1_months_10 rfl ?_
    refine R.ist2n 12 dX1_months_11 rfl (Nat.le_of_ble_eq_true rfl) rfl ?_
    obtain ⟨n3, h⟩ := h
    exact Rch.dropk (sl_X1_months_12 Q _ n3 _ _ h) ⟨rfl, ⟨rfl, ⟨rfl, trivial⟩⟩⟩
  · replace h := h.2 hc
    refine R.iconst 9 dX1_months_8 rfl ?_
    exact R.retI dX1_months_9 rfl h

abbrev k_X1_isOff : MK := ("FrostBox", cX1_isOff, 2, (some .boolean), [], "isOff")
def wp_X1_isOff (l1 : Int32) (w : Wd) (Q : Int32 → Wd → Prop) : Prop := wp_X1_isHouse w (fun r1 w2 => (r1 = iz 0 → Q (iz 0) w2) ∧ (¬ r1 = iz 0 → wp_X1_in l1 (iz 1) (iz 99) w2 (fun r3 w4 => (r3 = iz 0 → Q (iz 0) w4) ∧ (¬ r3 = iz 0 → Q (iz 1) w4))))
set_option maxRecDepth 100000 in
set_option maxHeartbeats 4000000 in
theorem sd_X1_isOff {γ : GG} (l1 : Int32) (w : Wd) (Q : Int32 → Wd → Prop) : wp_X1_isOff l1 w Q → Ctr γ 2 yX1_isOff (ws_ yX1_isOff cX1_isOff 2 (some .boolean)) [.ref 1, .int l1] w (qI Q) xN := by
  intro h
  unfold wp_X1_isOff at h
  refine Ctr.of (μ := k_X1_isOff) (by decide) rfl rfl rfl (Nat.le_of_ble_eq_true rfl) ⟨0, ?_⟩
  have es : lva [.ref 1, .int l1] ++ List.replicate 0 none = [some (.ref 1), some (.int l1)] := rfl
  rw [es]
  refine R.aload_n 1 dX1_isOff_0 rfl rfl ?_
  refine Rch.callv (sd_X1_isHouse _ _ h) dX1_isOff_1 (lw_V q737 q739 qs26 q142 q740) dk_X1_isHouse rcX (by decide) (Nat.le_of_ble_eq_true rfl) rfl rfl (Nat.le_of_ble_eq_true rfl) (kI 4 rfl fun r1 w2 h => ?_) kN
  refine R.if_eq 21 7 dX1_isOff_4 (by decide) rfl (fun hc => ?_) (fun hc => ?_)
  · replace h := h.1 hc
    refine R.iconst 22 dX1_isOff_21 rfl ?_
    exact R.retZ dX1_isOff_22 rfl zok0 h
  · replace h := h.2 hc
    refine R.iload_n 8 dX1_isOff_7 rfl rfl ?_
    refine R.iconst 9 dX1_isOff_8 rfl ?_
    refine R.bipush 11 dX1_isOff_9 rfl (by decide +kernel) ?_
    refine Rch.calls (sd_X1_in _ _ _ _ _ h) dX1_isOff_11 (lw_S q700 q701 q142 q702) dk_X1_in (by decide) (Nat.le_of_ble_eq_true rfl) rfl rfl (Nat.le_of_ble_eq_true rfl) (kI 14 rfl fun r3 w4 h => ?_) kN
    refine R.if_eq 21 17 dX1_isOff_14 (by decide) rfl (fun hc => ?_) (fun hc => ?_)
    · replace h := h.1 hc
      refine R.iconst 22 dX1_isOff_21 rfl ?_
      exact R.retZ dX1_isOff_22 rfl zok0 h
    · replace h := h.2 hc
      refine R.iconst 18 dX1_isOff_17 rfl ?_
      refine R.goto 22 dX1_isOff_18 (by decide) ?_
      exact R.retZ dX1_isOff_22 rfl zok1 h

abbrev k_X1_tooMany : MK := ("FrostBox", cX1_tooMany, 2, (some .int), [], "tooMany")
def wp_X1_tooMany (l1 : Int32) (w : Wd) (Q : Int32 → Wd → Prop) : Prop := inb (iz 1) 4 ∧ wp_X1_portionsAll w (fun r1 w2 => inb (iz 0) 4 ∧ (¬ (gA w2 19 (iz 0).toInt) = 0) ∧ Q (imax (iz 0) (l1 - (((gA w 19 (iz 1).toInt) * r1) / (gA w2 19 (iz 0).toInt)))) w2)
set_option maxRecDepth 100000 in
set_option maxHeartbeats 4000000 in
theorem sd_X1_tooMany {γ : GG} (l1 : Int32) (w : Wd) (Q : Int32 → Wd → Prop) : wp_X1_tooMany l1 w Q → Ctr γ 6 yX1_tooMany (ws_ yX1_tooMany cX1_tooMany 2 (some .int)) [.ref 1, .int l1] w (qI Q) xN := by
  intro h
  unfold wp_X1_tooMany at h
  refine Ctr.of (μ := k_X1_tooMany) (by decide) rfl rfl rfl (Nat.le_of_ble_eq_true rfl) ⟨0, ?_⟩
  have es : lva [.ref 1, .int l1] ++ List.replicate 0 none = [some (.ref 1), some (.int l1)] := rfl
  rw [es]
  refine R.iconst 1 dX1_tooMany_0 rfl ?_
  refine R.iload_n 2 dX1_tooMany_1 rfl rfl ?_
  refine R.aload_n 3 dX1_tooMany_2 rfl rfl ?_
  refine gf_19 6 dX1_tooMany_3 rfl rfl ?_
  refine R.iconst 7 dX1_tooMany_6 rfl ?_
  obtain ⟨hb, h⟩ := h
  refine R.iald ar_19 8 dX1_tooMany_7 rfl hb ?_
  refine R.aload_n 9 dX1_tooMany_8 rfl rfl ?_
  refine Rch.callv (sd_X1_portionsAll _ _ h) dX1_tooMany_9 (lw_V q777 q779 qs32 q142 q780) dk_X1_portionsAll rcX (by decide) (Nat.le_of_ble_eq_true rfl) rfl rfl (Nat.le_of_ble_eq_true rfl) (kI 12 rfl fun r1 w2 h => ?_) kN
  refine R.imul 13 dX1_tooMany_12 rfl ?_
  refine R.aload_n 14 dX1_tooMany_13 rfl rfl ?_
  refine gf_19 17 dX1_tooMany_14 rfl rfl ?_
  refine R.iconst 18 dX1_tooMany_17 rfl ?_
  obtain ⟨hb, h⟩ := h
  refine R.iald ar_19 19 dX1_tooMany_18 rfl hb ?_
  obtain ⟨hz, h⟩ := h
  refine R.idiv 20 dX1_tooMany_19 rfl hz ?_
  refine R.isub 21 dX1_tooMany_20 rfl ?_
  refine R.mmax 24 dX1_tooMany_21 rfl q830 q424 q149 q425 (by omega) (Nat.le_of_ble_eq_true rfl) ?_
  exact R.retI dX1_tooMany_24 rfl h

abbrev k_X1_off : MK := ("FrostBox", cX1_off, 3, (some .int), [], "off")
def wp_X1_off (l1 : Int32) (w : Wd) (Q : Int32 → Wd → Prop) : Prop := wp_X1_isOff l1 w (fun r1 w2 => (¬ r1 = iz 0 → wp_X1_act w2 (fun w4 => wp_X1_tooMany l1 w4 (fun r5 w6 => wp_X1_older r5 w6 (fun w8 => Q r5 w8)))) ∧ (r1 = iz 0 → Q (iz (-1)) w2))
set_option maxRecDepth 100000 in
set_option maxHeartbeats 4000000 in
theorem sd_X1_off {γ : GG} (l1 : Int32) (w : Wd) (Q : Int32 → Wd → Prop) : wp_X1_off l1 w Q → Ctr γ 7 yX1_off (ws_ yX1_off cX1_off 3 (some .int)) [.ref 1, .int l1] w (qI Q) xN := by
  intro h
  unfold wp_X1_off at h
  refine Ctr.of (μ := k_X1_off) (by decide) rfl rfl rfl (Nat.le_of_ble_eq_true rfl) ⟨1, ?_⟩
  have es : lva [.ref 1, .int l1] ++ List.replicate 1 none = [some (.ref 1), some (.int l1), none] := rfl
  rw [es]
  refine R.aload_n 1 dX1_off_0 rfl rfl ?_
  refine R.iload_n 2 dX1_off_1 rfl rfl ?_
  refine Rch.callv (sd_X1_isOff _ _ _ h) dX1_off_2 (lw_V q936 q938 qs51 q142 q939) dk_X1_isOff rcX (by decide) (Nat.le_of_ble_eq_true rfl) rfl rfl (Nat.le_of_ble_eq_true rfl) (kI 5 rfl fun r1 w2 h => ?_) kN
  refine R.if_ne 10 8 dX1_off_5 (by decide) rfl (fun hc => ?_) (fun hc => ?_)
  · replace h := h.1 hc
    refine R.aload_n 11 dX1_off_10 rfl rfl ?_
    refine Rch.callv (sd_X1_act _ _ h) dX1_off_11 (lw_V q793 q795 qs36 q142 q796) dk_X1_act rcX (by decide) (Nat.le_of_ble_eq_true rfl) rfl rfl (Nat.le_of_ble_eq_true rfl) (kV 14 rfl fun w4 h => ?_) kN
    refine R.aload_n 15 dX1_off_14 rfl rfl ?_
    refine R.iload_n 16 dX1_off_15 rfl rfl ?_
    refine Rch.callv (sd_X1_tooMany _ _ _ h) dX1_off_16 (lw_V q940 q942 qs52 q142 q943) dk_X1_tooMany rcX (by decide) (Nat.le_of_ble_eq_true rfl) rfl rfl (Nat.le_of_ble_eq_true rfl) (kI 19 rfl fun r5 w6 h => ?_) kN
    refine R.ist2n 20 dX1_off_19 rfl (Nat.le_of_ble_eq_true rfl) rfl ?_
    refine R.aload_n 21 dX1_off_20 rfl rfl ?_
    refine R.iload_n 22 dX1_off_21 rfl rfl ?_
    refine Rch.callv (sd_X1_older _ _ _ h) dX1_off_22 (lw_V q928 q930 qs50 q142 q931) dk_X1_older rcX (by decide) (Nat.le_of_ble_eq_true rfl) rfl rfl (Nat.le_of_ble_eq_true rfl) (kV 25 rfl fun w8 h => ?_) kN
    refine R.iload_n 26 dX1_off_25 rfl rfl ?_
    exact R.retI dX1_off_26 rfl h
  · replace h := h.2 hc
    refine R.iconst 9 dX1_off_8 rfl ?_
    exact R.retI dX1_off_9 rfl h

abbrev k_X1_draw : MK := ("FrostBox", cX1_draw, 2, (some .int), [], "draw")
def wp_X1_draw (l1 : Int32) (w : Wd) (Q : Int32 → Wd → Prop) : Prop := ∀ w1, w1 = sJ w 34 (((gJ w 34) * (lz 6364136223846793005)) + (lz 1442695040888963407)) → (¬ (l1).toInt64 = 0) ∧ Q (((((gJ w1 34)).toUInt64 >>> (((iz 33)).toInt64.toUInt64 &&& Int64.toUInt64 63)).toInt64 - (((gJ w1 34)).toUInt64 >>> (((iz 33)).toInt64.toUInt64 &&& Int64.toUInt64 63)).toInt64 / (l1).toInt64 * (l1).toInt64)).toInt32 w1
set_option maxRecDepth 100000 in
set_option maxHeartbeats 4000000 in
theorem sd_X1_draw {γ : GG} (l1 : Int32) (w : Wd) (Q : Int32 → Wd → Prop) : wp_X1_draw l1 w Q → Ctr γ 1 yX1_draw (ws_ yX1_draw cX1_draw 2 (some .int)) [.ref 1, .int l1] w (qI Q) xN := by
  intro h
  unfold wp_X1_draw at h
  refine Ctr.of (μ := k_X1_draw) (by decide) rfl rfl rfl (Nat.le_of_ble_eq_true rfl) ⟨0, ?_⟩
  have es : lva [.ref 1, .int l1] ++ List.replicate 0 none = [some (.ref 1), some (.int l1)] := rfl
  rw [es]
  refine R.aload_n 1 dX1_draw_0 rfl rfl ?_
  refine R.aload_n 2 dX1_draw_1 rfl rfl ?_
  refine gf_34 5 dX1_draw_2 rfl rfl ?_
  refine R.ldc2 (n := 6364136223846793005) 8 dX1_draw_5 rfl q952 (by decide +kernel) ?_
  refine R.lmul 9 dX1_draw_8 rfl ?_
  refine R.ldc2 (n := 1442695040888963407) 12 dX1_draw_9 rfl q953 (by decide +kernel) ?_
  refine R.ladd 13 dX1_draw_12 rfl ?_
  replace h := h _ rfl
  refine pf_34 _ 16 dX1_draw_13 rfl rfl ?_
  refine R.aload_n 17 dX1_draw_16 rfl rfl ?_
  refine gf_34 20 dX1_draw_17 rfl rfl ?_
  refine R.bipush 22 dX1_draw_20 rfl (by decide +kernel) ?_
  refine R.lushr 23 dX1_draw_22 rfl ?_
  refine R.iload_n 24 dX1_draw_23 rfl rfl ?_
  refine R.i2l 25 dX1_draw_24 rfl ?_
  obtain ⟨hz, h⟩ := h
  refine R.lrem 26 dX1_draw_25 rfl hz ?_
  refine R.l2i 27 dX1_draw_26 rfl ?_
  exact R.retI dX1_draw_27 rfl h

abbrev k_X1_years : MK := ("FrostBox", cX1_years, 9, (some .int), [], "years")
def b_X1_years_119 (Q : Int32 → Wd → Prop) (R18 : Int32 → Wd → Prop) (l1 : Int32) (l4 : Int32) (t0 : Int32) (w : Wd) : Prop := wp_X1_takeNow t0 w (fun r1 w2 => wp_X1_pass w2 (fun w4 => R18 (l4 + iz 1) w4))
def b_X1_years_89 (Q : Int32 → Wd → Prop) (R18 : Int32 → Wd → Prop) (l1 : Int32) (l4 : Int32) (w : Wd) : Prop := wp_X1_draw (iz 2) w (fun r1 w2 => wp_X1_boxMany w2 (fun r3 w4 => (r3 ≤ iz 0 → wp_X1_pass w4 (fun w6 => R18 (l4 + iz 1) w6)) ∧ (¬ r3 ≤ iz 0 → (¬ r1 = iz 0 → wp_X1_boxMany w4 (fun r7 w8 => b_X1_years_119 Q R18 l1 l4 (r7 - (iz 1)) w8)) ∧ (r1 = iz 0 → b_X1_years_119 Q R18 l1 l4 (iz 0) w4))))
def b_X1_years_66 (Q : Int32 → Wd → Prop) (R18 : Int32 → Wd → Prop) (l1 : Int32) (l4 : Int32) (l5 : Int32) (l6 : Int32) (t0 : Int32) (w : Wd) : Prop := wp_X1_canPut l5 l6 w (fun r1 w2 => (r1 = iz 0 → b_X1_years_89 Q R18 l1 l4 w2) ∧ (¬ r1 = iz 0 → wp_X1_putNow l5 l6 t0 w2 (fun w4 => b_X1_years_89 Q R18 l1 l4 w4)))
def wl_X1_years_18 (Q : Int32 → Wd → Prop) (l1 : Int32) (R18 : Int32 → Wd → Prop) (l4 : Int32) (w : Wd) : Prop := (l1 ≤ l4 → inb (iz 33) 275 ∧ Q (gA w 31 (iz 33).toInt) w) ∧ (¬ l1 ≤ l4 → wp_X1_act w (fun w2 => wp_X1_draw (gI w2 23) w2 (fun r3 w4 => wp_X1_draw (iz 9) w4 (fun r5 w6 => wp_X1_draw (iz 10) w6 (fun r7 w8 => ((gI w8 30) ≤ r7 → b_X1_years_66 Q R18 l1 l4 r3 (r5 + (iz 1)) (iz 0) w8) ∧ (¬ (gI w8 30) ≤ r7 → b_X1_years_66 Q R18 l1 l4 r3 (r5 + (iz 1)) (iz 1) w8))))))
def lp_X1_years_18 (Q : Int32 → Wd → Prop) (l1 : Int32) : Nat → Int32 → Wd → Prop
  | 0, _, _ => False
  | n + 1, l4, w => wl_X1_years_18 Q l1 (lp_X1_years_18 Q l1 n) l4 w
def wp_X1_years (l1 : Int32) (l2 : Int64) (w : Wd) (Q : Int32 → Wd → Prop) : Prop := wp_X1_canPass l1 w (fun r1 w2 => (¬ r1 = iz 0 → ∀ w3, w3 = sJ w2 34 l2 → ∃ n4, lp_X1_years_18 Q l1 n4 (iz 0) w3) ∧ (r1 = iz 0 → Q (iz (-1)) w2))
set_option maxRecDepth 100000 in
set_option maxHeartbeats 4000000 in
theorem s_X1_years_119 {γ : GG} (Q : Int32 → Wd → Prop) (R18 : Int32 → Wd → Prop) (l1 : Int32) (l4 : Int32) (t0 : Int32) (hR18 : ∀ (l4 : Int32) (w : Wd), R18 l4 w → Rch γ 98 k_X1_years 18 [some (.ref 1), some (.int l1), none, none, some (.int l4), none, none, none, none] [] w (qI Q) xN) : ∀ (w : Wd), b_X1_years_119 Q R18 l1 l4 t0 w → Rch γ 98 k_X1_years 119 [some (.ref 1), some (.int l1), none, none, some (.int l4), none, none, none, none] [.int t0, .ref 1] w (qI Q) xN := by
  intro w h
  unfold b_X1_years_119 at h
  refine Rch.callv (sd_X1_takeNow _ _ _ h) dX1_years_119 (lw_V q809 q811 qs39 q142 q812) dk_X1_takeNow rcX (by decide) (Nat.le_of_ble_eq_true rfl) rfl rfl (Nat.le_of_ble_eq_true rfl) (kI 122 rfl fun r1 w2 h => ?_) kN
  refine R.pop 123 dX1_years_122 rfl ?_
  refine R.aload_n 124 dX1_years_123 rfl rfl ?_
  refine Rch.callv (sd_X1_pass _ _ h) dX1_years_124 (lw_V q924 q926 qs49 q142 q927) dk_X1_pass rcX (by decide) (Nat.le_of_ble_eq_true rfl) rfl rfl (Nat.le_of_ble_eq_true rfl) (kV 127 rfl fun w4 h => ?_) kN
  refine R.inc4 130 dX1_years_127 rfl (Nat.le_of_ble_eq_true rfl) rfl ?_
  refine R.goto 18 dX1_years_130 (by decide) ?_
  exact Rch.dropk (hR18 _ _ h) ⟨rfl, ⟨rfl, ⟨rfl, trivial⟩⟩⟩
set_option maxRecDepth 100000 in
set_option maxHeartbeats 4000000 in
theorem s_X1_years_89 {γ : GG} (Q : Int32 → Wd → Prop) (R18 : Int32 → Wd → Prop) (l1 : Int32) (l4 : Int32) (hR18 : ∀ (l4 : Int32) (w : Wd), R18 l4 w → Rch γ 98 k_X1_years 18 [some (.ref 1), some (.int l1), none, none, some (.int l4), none, none, none, none] [] w (qI Q) xN) : ∀ (w : Wd), b_X1_years_89 Q R18 l1 l4 w → Rch γ 98 k_X1_years 89 [some (.ref 1), some (.int l1), none, none, some (.int l4), none, none, none, none] [] w (qI Q) xN := by
  intro w h
  unfold b_X1_years_89 at h
  refine R.aload_n 90 dX1_years_89 rfl rfl ?_
  refine R.iconst 91 dX1_years_90 rfl ?_
  refine Rch.callv (sd_X1_draw _ _ _ h) dX1_years_91 (lw_V q948 q950 qs53 q142 q951) dk_X1_draw rcX (by decide) (Nat.le_of_ble_eq_true rfl) rfl rfl (Nat.le_of_ble_eq_true rfl) (kI 94 rfl fun r1 w2 h => ?_) kN
  refine R.ist8 96 dX1_years_94 rfl (Nat.le_of_ble_eq_true rfl) rfl ?_
  refine R.aload_n 97 dX1_years_96 rfl rfl ?_
  refine Rch.callv (sd_X1_boxMany _ _ h) dX1_years_97 (lw_V q773 q775 qs31 q142 q776) dk_X1_boxMany rcX (by decide) (Nat.le_of_ble_eq_true rfl) rfl rfl (Nat.le_of_ble_eq_true rfl) (kI 100 rfl fun r3 w4 h => ?_) kN
  refine R.if_le 123 103 dX1_years_100 (by decide) rfl (fun hc => ?_) (fun hc => ?_)
  · replace h := h.1 hc
    refine R.aload_n 124 dX1_years_123 rfl rfl ?_
    refine Rch.callv (sd_X1_pass _ _ h) dX1_years_124 (lw_V q924 q926 qs49 q142 q927) dk_X1_pass rcX (by decide) (Nat.le_of_ble_eq_true rfl) rfl rfl (Nat.le_of_ble_eq_true rfl) (kV 127 rfl fun w6 h => ?_) kN
    refine R.inc4 130 dX1_years_127 rfl (Nat.le_of_ble_eq_true rfl) rfl ?_
    refine R.goto 18 dX1_years_130 (by decide) ?_
    exact Rch.dropk (hR18 _ _ h) ⟨rfl, ⟨rfl, ⟨rfl, trivial⟩⟩⟩
  · replace h := h.2 hc
    refine R.aload_n 104 dX1_years_103 rfl rfl ?_
    refine R.iload 106 dX1_years_104 rfl rfl ?_
    refine R.if_ne 113 109 dX1_years_106 (by decide) rfl (fun hc => ?_) (fun hc => ?_)
    · replace h := h.1 hc
      refine R.aload_n 114 dX1_years_113 rfl rfl ?_
      refine Rch.callv (sd_X1_boxMany _ _ h) dX1_years_114 (lw_V q773 q775 qs31 q142 q776) dk_X1_boxMany rcX (by decide) (Nat.le_of_ble_eq_true rfl) rfl rfl (Nat.le_of_ble_eq_true rfl) (kI 117 rfl fun r7 w8 h => ?_) kN
      refine R.iconst 118 dX1_years_117 rfl ?_
      refine R.isub 119 dX1_years_118 rfl ?_
      exact Rch.dropk (s_X1_years_119 Q _ _ _ _ hR18 _ h) ⟨rfl, ⟨rfl, ⟨rfl, trivial⟩⟩⟩
    · replace h := h.2 hc
      refine R.iconst 110 dX1_years_109 rfl ?_
      refine R.goto 119 dX1_years_110 (by decide) ?_
      exact Rch.dropk (s_X1_years_119 Q _ _ _ _ hR18 _ h) ⟨rfl, ⟨rfl, ⟨rfl, trivial⟩⟩⟩
set_option maxRecDepth 100000 in
set_option maxHeartbeats 4000000 in
theorem s_X1_years_66 {γ : GG} (Q : Int32 → Wd → Prop) (R18 : Int32 → Wd → Prop) (l1 : Int32) (l4 : Int32) (l5 : Int32) (l6 : Int32) (t0 : Int32) (hR18 : ∀ (l4 : Int32) (w : Wd), R18 l4 w → Rch γ 98 k_X1_years 18 [some (.ref 1), some (.int l1), none, none, some (.int l4), none, none, none, none] [] w (qI Q) xN) : ∀ (w : Wd), b_X1_years_66 Q R18 l1 l4 l5 l6 t0 w → Rch γ 98 k_X1_years 66 [some (.ref 1), some (.int l1), none, none, some (.int l4), some (.int l5), some (.int l6), none, none] [.int t0] w (qI Q) xN := by
  intro w h
  unfold b_X1_years_66 at h
  refine R.ist7 68 dX1_years_66 rfl (Nat.le_of_ble_eq_true rfl) rfl ?_
  refine R.aload_n 69 dX1_years_68 rfl rfl ?_
  refine R.iload 71 dX1_years_69 rfl rfl ?_
  refine R.iload 73 dX1_years_71 rfl rfl ?_
  refine Rch.callv (sd_X1_canPut _ _ _ _ h) dX1_years_73 (lw_V q769 q771 qs30 q142 q772) dk_X1_canPut rcX (by decide) (Nat.le_of_ble_eq_true rfl) rfl rfl (Nat.le_of_ble_eq_true rfl) (kI 76 rfl fun r1 w2 h => ?_) kN
  refine R.if_eq 89 79 dX1_years_76 (by decide) rfl (fun hc => ?_) (fun hc => ?_)
  · replace h := h.1 hc
    exact Rch.dropk (s_X1_years_89 Q _ _ _ hR18 _ h) ⟨rfl, ⟨rfl, ⟨rfl, trivial⟩⟩⟩
  · replace h := h.2 hc
    refine R.aload_n 80 dX1_years_79 rfl rfl ?_
    refine R.iload 82 dX1_years_80 rfl rfl ?_
    refine R.iload 84 dX1_years_82 rfl rfl ?_
    refine R.iload 86 dX1_years_84 rfl rfl ?_
    refine Rch.callv (sd_X1_putNow _ _ _ _ _ h) dX1_years_86 (lw_V q797 q799 qs37 q142 q800) dk_X1_putNow rcX (by decide) (Nat.le_of_ble_eq_true rfl) rfl rfl (Nat.le_of_ble_eq_true rfl) (kV 89 rfl fun w4 h => ?_) kN
    exact Rch.dropk (s_X1_years_89 Q _ _ _ hR18 _ h) ⟨rfl, ⟨rfl, ⟨rfl, trivial⟩⟩⟩
set_option maxRecDepth 100000 in
set_option maxHeartbeats 4000000 in
theorem sl_X1_years_18 {γ : GG} (Q : Int32 → Wd → Prop) (l1 : Int32) : ∀ (n : Nat) (l4 : Int32) (w : Wd), lp_X1_years_18 Q l1 n l4 w → Rch γ 98 k_X1_years 18 [some (.ref 1), some (.int l1), none, none, some (.int l4), none, none, none, none] [] w (qI Q) xN := by
  intro n
  induction n with
  | zero => intro _ _ h; exact h.elim
  | succ n hR18 =>
    intro l4 w h
    have h : wl_X1_years_18 Q l1 (lp_X1_years_18 Q l1 n) l4 w := h
    unfold wl_X1_years_18 at h
    refine R.iload 20 dX1_years_18 rfl rfl ?_
    refine R.iload_n 21 dX1_years_20 rfl rfl ?_
    refine R.icmp_ge 133 24 dX1_years_21 (by decide) rfl (fun hc => ?_) (fun hc => ?_)
    · replace h := h.1 hc
      refine R.aload_n 134 dX1_years_133 rfl rfl ?_
      refine gf_31 137 dX1_years_134 rfl rfl ?_
      refine R.bipush 139 dX1_years_137 rfl (by decide +kernel) ?_
      obtain ⟨hb, h⟩ := h
      refine R.iald ar_31 140 dX1_years_139 rfl hb ?_
      exact R.retI dX1_years_140 rfl h
    · replace h := h.2 hc
      refine R.aload_n 25 dX1_years_24 rfl rfl ?_
      refine Rch.callv (sd_X1_act _ _ h) dX1_years_25 (lw_V q793 q795 qs36 q142 q796) dk_X1_act rcX (by decide) (Nat.le_of_ble_eq_true rfl) rfl rfl (Nat.le_of_ble_eq_true rfl) (kV 28 rfl fun w2 h => ?_) kN
      refine R.aload_n 29 dX1_years_28 rfl rfl ?_
      refine R.aload_n 30 dX1_years_29 rfl rfl ?_
      refine gf_23 33 dX1_years_30 rfl rfl ?_
      refine Rch.callv (sd_X1_draw _ _ _ h) dX1_years_33 (lw_V q948 q950 qs53 q142 q951) dk_X1_draw rcX (by decide) (Nat.le_of_ble_eq_true rfl) rfl rfl (Nat.le_of_ble_eq_true rfl) (kI 36 rfl fun r3 w4 h => ?_) kN
      refine R.ist5 38 dX1_years_36 rfl (Nat.le_of_ble_eq_true rfl) rfl ?_
      refine R.aload_n 39 dX1_years_38 rfl rfl ?_
      refine R.bipush 41 dX1_years_39 rfl (by decide +kernel) ?_
      refine Rch.callv (sd_X1_draw _ _ _ h) dX1_years_41 (lw_V q948 q950 qs53 q142 q951) dk_X1_draw rcX (by decide) (Nat.le_of_ble_eq_true rfl) rfl rfl (Nat.le_of_ble_eq_true rfl) (kI 44 rfl fun r5 w6 h => ?_) kN
      refine R.iconst 45 dX1_years_44 rfl ?_
      refine R.iadd 46 dX1_years_45 rfl ?_
      refine R.ist6 48 dX1_years_46 rfl (Nat.le_of_ble_eq_true rfl) rfl ?_
      refine R.aload_n 49 dX1_years_48 rfl rfl ?_
      refine R.bipush 51 dX1_years_49 rfl (by decide +kernel) ?_
      refine Rch.callv (sd_X1_draw _ _ _ h) dX1_years_51 (lw_V q948 q950 qs53 q142 q951) dk_X1_draw rcX (by decide) (Nat.le_of_ble_eq_true rfl) rfl rfl (Nat.le_of_ble_eq_true rfl) (kI 54 rfl fun r7 w8 h => ?_) kN
      refine R.aload_n 55 dX1_years_54 rfl rfl ?_
      refine gf_30 58 dX1_years_55 rfl rfl ?_
      refine R.icmp_ge 65 61 dX1_years_58 (by decide) rfl (fun hc => ?_) (fun hc => ?_)
      · replace h := h.1 hc
        refine R.iconst 66 dX1_years_65 rfl ?_
        exact Rch.dropk (s_X1_years_66 Q _ _ _ _ _ _ hR18 _ h) ⟨rfl, ⟨rfl, ⟨rfl, ⟨rfl, ⟨rfl, trivial⟩⟩⟩⟩⟩
      · replace h := h.2 hc
        refine R.iconst 62 dX1_years_61 rfl ?_
        refine R.goto 66 dX1_years_62 (by decide) ?_
        exact Rch.dropk (s_X1_years_66 Q _ _ _ _ _ _ hR18 _ h) ⟨rfl, ⟨rfl, ⟨rfl, ⟨rfl, ⟨rfl, trivial⟩⟩⟩⟩⟩
set_option maxRecDepth 100000 in
set_option maxHeartbeats 4000000 in
theorem sd_X1_years {γ : GG} (l1 : Int32) (l2 : Int64) (w : Wd) (Q : Int32 → Wd → Prop) : wp_X1_years l1 l2 w Q → Ctr γ 98 yX1_years (ws_ yX1_years cX1_years 9 (some .int)) [.ref 1, .int l1, .long l2] w (qI Q) xN := by
  intro h
  unfold wp_X1_years at h
  refine Ctr.of (μ := k_X1_years) (by decide) rfl rfl rfl (Nat.le_of_ble_eq_true rfl) ⟨5, ?_⟩
  have es : lva [.ref 1, .int l1, .long l2] ++ List.replicate 5 none = [some (.ref 1), some (.int l1), some (.long l2), none, none, none, none, none, none] := rfl
  rw [es]
  refine R.aload_n 1 dX1_years_0 rfl rfl ?_
  refine R.iload_n 2 dX1_years_1 rfl rfl ?_
  refine Rch.callv (sd_X1_canPass _ _ _ h) dX1_years_2 (lw_V q920 q922 qs48 q142 q923) dk_X1_canPass rcX (by decide) (Nat.le_of_ble_eq_true rfl) rfl rfl (Nat.le_of_ble_eq_true rfl) (kI 5 rfl fun r1 w2 h => ?_) kN
  refine R.if_ne 10 8 dX1_years_5 (by decide) rfl (fun hc => ?_) (fun hc => ?_)
  · replace h := h.1 hc
    refine R.aload_n 11 dX1_years_10 rfl rfl ?_
    refine R.lload_n 12 dX1_years_11 rfl rfl ?_
    replace h := h _ rfl
    refine pf_34 _ 15 dX1_years_12 rfl rfl ?_
    refine R.iconst 16 dX1_years_15 rfl ?_
    refine R.ist4 18 dX1_years_16 rfl (Nat.le_of_ble_eq_true rfl) rfl ?_
    obtain ⟨n4, h⟩ := h
    exact Rch.dropk (sl_X1_years_18 Q _ n4 _ _ h) ⟨rfl, ⟨rfl, ⟨rfl, trivial⟩⟩⟩
  · replace h := h.2 hc
    refine R.iconst 9 dX1_years_8 rfl ?_
    exact R.retI dX1_years_9 rfl h

abbrev k_X1_undo : MK := ("FrostBox", cX1_undo, 2, (some .int), [], "undo")
def wl_X1_undo_21 (Q : Int32 → Wd → Prop) (R21 : Int32 → Wd → Prop) (l1 : Int32) (w : Wd) : Prop := ((iz 275) ≤ l1 → Q (gI w 33) w) ∧ (¬ (iz 275) ≤ l1 → inb (((iz 275) * (gI w 33)) + l1) 11000 ∧ inb l1 275 ∧ (∀ w1, w1 = sA w 31 l1.toInt (gA w 32 (((iz 275) * (gI w 33)) + l1).toInt) → R21 (l1 + iz 1) w1))
def lp_X1_undo_21 (Q : Int32 → Wd → Prop) : Nat → Int32 → Wd → Prop
  | 0, _, _ => False
  | n + 1, l1, w => wl_X1_undo_21 Q (lp_X1_undo_21 Q n) l1 w
def wp_X1_undo (w : Wd) (Q : Int32 → Wd → Prop) : Prop := (¬ (gI w 33) = iz 0 → ∀ w1, w1 = sI w 33 ((gI w 33) - (iz 1)) → ∃ n2, lp_X1_undo_21 Q n2 (iz 0) w1) ∧ ((gI w 33) = iz 0 → Q (iz (-1)) w)
set_option maxRecDepth 100000 in
set_option maxHeartbeats 4000000 in
theorem sl_X1_undo_21 {γ : GG} (Q : Int32 → Wd → Prop) : ∀ (n : Nat) (l1 : Int32) (w : Wd), lp_X1_undo_21 Q n l1 w → Rch γ 1 k_X1_undo 21 [some (.ref 1), some (.int l1)] [] w (qI Q) xN := by
  intro n
  induction n with
  | zero => intro _ _ h; exact h.elim
  | succ n hR21 =>
    intro l1 w h
    have h : wl_X1_undo_21 Q (lp_X1_undo_21 Q n) l1 w := h
    unfold wl_X1_undo_21 at h
    refine R.iload_n 22 dX1_undo_21 rfl rfl ?_
    refine R.sipush 25 dX1_undo_22 rfl (by decide +kernel) ?_
    refine R.icmp_ge 55 28 dX1_undo_25 (by decide) rfl (fun hc => ?_) (fun hc => ?_)
    · replace h := h.1 hc
      refine R.aload_n 56 dX1_undo_55 rfl rfl ?_
      refine gf_33 59 dX1_undo_56 rfl rfl ?_
      exact R.retI dX1_undo_59 rfl h
    · replace h := h.2 hc
      refine R.aload_n 29 dX1_undo_28 rfl rfl ?_
      refine gf_31 32 dX1_undo_29 rfl rfl ?_
      refine R.iload_n 33 dX1_undo_32 rfl rfl ?_
      refine R.aload_n 34 dX1_undo_33 rfl rfl ?_
      refine gf_32 37 dX1_undo_34 rfl rfl ?_
      refine R.sipush 40 dX1_undo_37 rfl (by decide +kernel) ?_
      refine R.aload_n 41 dX1_undo_40 rfl rfl ?_
      refine gf_33 44 dX1_undo_41 rfl rfl ?_
      refine R.imul 45 dX1_undo_44 rfl ?_
      refine R.iload_n 46 dX1_undo_45 rfl rfl ?_
      refine R.iadd 47 dX1_undo_46 rfl ?_
      obtain ⟨hb, h⟩ := h
      refine R.iald ar_32 48 dX1_undo_47 rfl hb ?_
      obtain ⟨hb, h⟩ := h
      replace h := h _ rfl
      refine R.iast ar_31 49 dX1_undo_48 rfl hb ?_
      refine R.inc1 52 dX1_undo_49 rfl (Nat.le_of_ble_eq_true rfl) rfl ?_
      refine R.goto 21 dX1_undo_52 (by decide) ?_
      exact Rch.dropk (hR21 _ _ h) ⟨rfl, ⟨rfl, trivial⟩⟩
set_option maxRecDepth 100000 in
set_option maxHeartbeats 4000000 in
theorem sd_X1_undo {γ : GG} (w : Wd) (Q : Int32 → Wd → Prop) : wp_X1_undo w Q → Ctr γ 1 yX1_undo (ws_ yX1_undo cX1_undo 2 (some .int)) [.ref 1] w (qI Q) xN := by
  intro h
  unfold wp_X1_undo at h
  refine Ctr.of (μ := k_X1_undo) (by decide) rfl rfl rfl (Nat.le_of_ble_eq_true rfl) ⟨1, ?_⟩
  have es : lva [.ref 1] ++ List.replicate 1 none = [some (.ref 1), none] := rfl
  rw [es]
  refine R.aload_n 1 dX1_undo_0 rfl rfl ?_
  refine gf_33 4 dX1_undo_1 rfl rfl ?_
  refine R.if_ne 9 7 dX1_undo_4 (by decide) rfl (fun hc => ?_) (fun hc => ?_)
  · replace h := h.1 hc
    refine R.aload_n 10 dX1_undo_9 rfl rfl ?_
    refine R.dupR 11 dX1_undo_10 rfl ?_
    refine gf_33 14 dX1_undo_11 rfl rfl ?_
    refine R.iconst 15 dX1_undo_14 rfl ?_
    refine R.isub 16 dX1_undo_15 rfl ?_
    replace h := h _ rfl
    refine pf_33 _ 19 dX1_undo_16 rfl rfl ?_
    refine R.iconst 20 dX1_undo_19 rfl ?_
    refine R.ist1n 21 dX1_undo_20 rfl (Nat.le_of_ble_eq_true rfl) rfl ?_
    obtain ⟨n2, h⟩ := h
    exact Rch.dropk (sl_X1_undo_21 Q n2 _ _ h) ⟨rfl, ⟨rfl, trivial⟩⟩
  · replace h := h.2 hc
    refine R.iconst 8 dX1_undo_7 rfl ?_
    exact R.retI dX1_undo_8 rfl h

abbrev k_X1_log : MK := ("FrostBox", cX1_log, 3, (some .int), [], "log")
def wp_X1_log (l1 : Int32) (l2 : Int32) (w : Wd) (Q : Int32 → Wd → Prop) : Prop := inb (iz 34) 275 ∧ wp_X1_in l1 (iz 0) ((gA w 31 (iz 34).toInt) - (iz 1)) w (fun r1 w2 => (r1 = iz 0 → Q (iz (-1)) w2) ∧ (¬ r1 = iz 0 → wp_X1_in l2 (iz 0) (iz 3) w2 (fun r3 w4 => (r3 = iz 0 → Q (iz (-1)) w4) ∧ (¬ r3 = iz 0 → inb (iz 34) 275 ∧ inb (((iz 35) + ((iz 4) * (((gA w4 31 (iz 34).toInt) - (iz 1)) - l1))) + l2) 275 ∧ Q (gA w4 31 (((iz 35) + ((iz 4) * (((gA w4 31 (iz 34).toInt) - (iz 1)) - l1))) + l2).toInt) w4))))
set_option maxRecDepth 100000 in
set_option maxHeartbeats 4000000 in
theorem sd_X1_log {γ : GG} (l1 : Int32) (l2 : Int32) (w : Wd) (Q : Int32 → Wd → Prop) : wp_X1_log l1 l2 w Q → Ctr γ 2 yX1_log (ws_ yX1_log cX1_log 3 (some .int)) [.ref 1, .int l1, .int l2] w (qI Q) xN := by
  intro h
  unfold wp_X1_log at h
  refine Ctr.of (μ := k_X1_log) (by decide) rfl rfl rfl (Nat.le_of_ble_eq_true rfl) ⟨0, ?_⟩
  have es : lva [.ref 1, .int l1, .int l2] ++ List.replicate 0 none = [some (.ref 1), some (.int l1), some (.int l2)] := rfl
  rw [es]
  refine R.iload_n 1 dX1_log_0 rfl rfl ?_
  refine R.iconst 2 dX1_log_1 rfl ?_
  refine R.aload_n 3 dX1_log_2 rfl rfl ?_
  refine gf_31 6 dX1_log_3 rfl rfl ?_
  refine R.bipush 8 dX1_log_6 rfl (by decide +kernel) ?_
  obtain ⟨hb, h⟩ := h
  refine R.iald ar_31 9 dX1_log_8 rfl hb ?_
  refine R.iconst 10 dX1_log_9 rfl ?_
  refine R.isub 11 dX1_log_10 rfl ?_
  refine Rch.calls (sd_X1_in _ _ _ _ _ h) dX1_log_11 (lw_S q700 q701 q142 q702) dk_X1_in (by decide) (Nat.le_of_ble_eq_true rfl) rfl rfl (Nat.le_of_ble_eq_true rfl) (kI 14 rfl fun r1 w2 h => ?_) kN
  refine R.if_eq 52 17 dX1_log_14 (by decide) rfl (fun hc => ?_) (fun hc => ?_)
  · replace h := h.1 hc
    refine R.iconst 53 dX1_log_52 rfl ?_
    exact R.retI dX1_log_53 rfl h
  · replace h := h.2 hc
    refine R.iload_n 18 dX1_log_17 rfl rfl ?_
    refine R.iconst 19 dX1_log_18 rfl ?_
    refine R.iconst 20 dX1_log_19 rfl ?_
    refine Rch.calls (sd_X1_in _ _ _ _ _ h) dX1_log_20 (lw_S q700 q701 q142 q702) dk_X1_in (by decide) (Nat.le_of_ble_eq_true rfl) rfl rfl (Nat.le_of_ble_eq_true rfl) (kI 23 rfl fun r3 w4 h => ?_) kN
    refine R.if_eq 52 26 dX1_log_23 (by decide) rfl (fun hc => ?_) (fun hc => ?_)
    · replace h := h.1 hc
      refine R.iconst 53 dX1_log_52 rfl ?_
      exact R.retI dX1_log_53 rfl h
    · replace h := h.2 hc
      refine R.aload_n 27 dX1_log_26 rfl rfl ?_
      refine gf_31 30 dX1_log_27 rfl rfl ?_
      refine R.bipush 32 dX1_log_30 rfl (by decide +kernel) ?_
      refine R.iconst 33 dX1_log_32 rfl ?_
      refine R.aload_n 34 dX1_log_33 rfl rfl ?_
      refine gf_31 37 dX1_log_34 rfl rfl ?_
      refine R.bipush 39 dX1_log_37 rfl (by decide +kernel) ?_
      obtain ⟨hb, h⟩ := h
      refine R.iald ar_31 40 dX1_log_39 rfl hb ?_
      refine R.iconst 41 dX1_log_40 rfl ?_
      refine R.isub 42 dX1_log_41 rfl ?_
      refine R.iload_n 43 dX1_log_42 rfl rfl ?_
      refine R.isub 44 dX1_log_43 rfl ?_
      refine R.imul 45 dX1_log_44 rfl ?_
      refine R.iadd 46 dX1_log_45 rfl ?_
      refine R.iload_n 47 dX1_log_46 rfl rfl ?_
      refine R.iadd 48 dX1_log_47 rfl ?_
      obtain ⟨hb, h⟩ := h
      refine R.iald ar_31 49 dX1_log_48 rfl hb ?_
      refine R.goto 53 dX1_log_49 (by decide) ?_
      exact R.retI dX1_log_53 rfl h

abbrev k_X1_isPlan : MK := ("FrostBox", cX1_isPlan, 2, (some .boolean), [], "isPlan")
def wp_X1_isPlan (l1 : Int32) (w : Wd) (Q : Int32 → Wd → Prop) : Prop := wp_X1_in l1 (iz 0) ((gI w 26) - (iz 1)) w (fun r1 w2 => zok r1 ∧ Q r1 w2)
set_option maxRecDepth 100000 in
set_option maxHeartbeats 4000000 in
theorem sd_X1_isPlan {γ : GG} (l1 : Int32) (w : Wd) (Q : Int32 → Wd → Prop) : wp_X1_isPlan l1 w Q → Ctr γ 2 yX1_isPlan (ws_ yX1_isPlan cX1_isPlan 2 (some .boolean)) [.ref 1, .int l1] w (qI Q) xN := by
  intro h
  unfold wp_X1_isPlan at h
  refine Ctr.of (μ := k_X1_isPlan) (by decide) rfl rfl rfl (Nat.le_of_ble_eq_true rfl) ⟨0, ?_⟩
  have es : lva [.ref 1, .int l1] ++ List.replicate 0 none = [some (.ref 1), some (.int l1)] := rfl
  rw [es]
  refine R.iload_n 1 dX1_isPlan_0 rfl rfl ?_
  refine R.iconst 2 dX1_isPlan_1 rfl ?_
  refine R.aload_n 3 dX1_isPlan_2 rfl rfl ?_
  refine gf_26 6 dX1_isPlan_3 rfl rfl ?_
  refine R.iconst 7 dX1_isPlan_6 rfl ?_
  refine R.isub 8 dX1_isPlan_7 rfl ?_
  refine Rch.calls (sd_X1_in _ _ _ _ _ h) dX1_isPlan_8 (lw_S q700 q701 q142 q702) dk_X1_in (by decide) (Nat.le_of_ble_eq_true rfl) rfl rfl (Nat.le_of_ble_eq_true rfl) (kI 11 rfl fun r1 w2 h => ?_) kN
  exact R.retZ dX1_isPlan_11 rfl h.1 h.2

abbrev k_X1_step : MK := ("FrostBox", cX1_step, 4, (some .int), [], "step")
def wp_X1_step (l1 : Int32) (l2 : Int32) (l3 : Int32) (w : Wd) (Q : Int32 → Wd → Prop) : Prop := wp_X1_isPlan l1 w (fun r1 w2 => (r1 = iz 0 → Q (iz (-1000000)) w2) ∧ (¬ r1 = iz 0 → inb l1 5 ∧ wp_X1_in l2 (iz 0) ((gA w2 25 l1.toInt) - (iz 1)) w2 (fun r3 w4 => (r3 = iz 0 → Q (iz (-1000000)) w4) ∧ (¬ r3 = iz 0 → wp_X1_in l3 (iz 0) (iz 3) w4 (fun r5 w6 => (r5 = iz 0 → Q (iz (-1000000)) w6) ∧ (¬ r5 = iz 0 → inb (((iz 4) * (((iz 16) * l1) + l2)) + l3) 320 ∧ Q (gA w6 24 (((iz 4) * (((iz 16) * l1) + l2)) + l3).toInt) w6))))))
set_option maxRecDepth 100000 in
set_option maxHeartbeats 4000000 in
theorem sd_X1_step {γ : GG} (l1 : Int32) (l2 : Int32) (l3 : Int32) (w : Wd) (Q : Int32 → Wd → Prop) : wp_X1_step l1 l2 l3 w Q → Ctr γ 3 yX1_step (ws_ yX1_step cX1_step 4 (some .int)) [.ref 1, .int l1, .int l2, .int l3] w (qI Q) xN := by
  intro h
  unfold wp_X1_step at h
  refine Ctr.of (μ := k_X1_step) (by decide) rfl rfl rfl (Nat.le_of_ble_eq_true rfl) ⟨0, ?_⟩
  have es : lva [.ref 1, .int l1, .int l2, .int l3] ++ List.replicate 0 none = [some (.ref 1), some (.int l1), some (.int l2), some (.int l3)] := rfl
  rw [es]
  refine R.aload_n 1 dX1_step_0 rfl rfl ?_
  refine R.iload_n 2 dX1_step_1 rfl rfl ?_
  refine Rch.callv (sd_X1_isPlan _ _ _ h) dX1_step_2 (lw_V q966 q968 qs54 q142 q969) dk_X1_isPlan rcX (by decide) (Nat.le_of_ble_eq_true rfl) rfl rfl (Nat.le_of_ble_eq_true rfl) (kI 5 rfl fun r1 w2 h => ?_) kN
  refine R.if_eq 51 8 dX1_step_5 (by decide) rfl (fun hc => ?_) (fun hc => ?_)
  · replace h := h.1 hc
    refine R.ldcw (n := (-1000000)) 54 dX1_step_51 rfl q970 (by decide +kernel) ?_
    exact R.retI dX1_step_54 rfl h
  · replace h := h.2 hc
    refine R.iload_n 9 dX1_step_8 rfl rfl ?_
    refine R.iconst 10 dX1_step_9 rfl ?_
    refine R.aload_n 11 dX1_step_10 rfl rfl ?_
    refine gf_25 14 dX1_step_11 rfl rfl ?_
    refine R.iload_n 15 dX1_step_14 rfl rfl ?_
    obtain ⟨hb, h⟩ := h
    refine R.iald ar_25 16 dX1_step_15 rfl hb ?_
    refine R.iconst 17 dX1_step_16 rfl ?_
    refine R.isub 18 dX1_step_17 rfl ?_
    refine Rch.calls (sd_X1_in _ _ _ _ _ h) dX1_step_18 (lw_S q700 q701 q142 q702) dk_X1_in (by decide) (Nat.le_of_ble_eq_true rfl) rfl rfl (Nat.le_of_ble_eq_true rfl) (kI 21 rfl fun r3 w4 h => ?_) kN
    refine R.if_eq 51 24 dX1_step_21 (by decide) rfl (fun hc => ?_) (fun hc => ?_)
    · replace h := h.1 hc
      refine R.ldcw (n := (-1000000)) 54 dX1_step_51 rfl q970 (by decide +kernel) ?_
      exact R.retI dX1_step_54 rfl h
    · replace h := h.2 hc
      refine R.iload_n 25 dX1_step_24 rfl rfl ?_
      refine R.iconst 26 dX1_step_25 rfl ?_
      refine R.iconst 27 dX1_step_26 rfl ?_
      refine Rch.calls (sd_X1_in _ _ _ _ _ h) dX1_step_27 (lw_S q700 q701 q142 q702) dk_X1_in (by decide) (Nat.le_of_ble_eq_true rfl) rfl rfl (Nat.le_of_ble_eq_true rfl) (kI 30 rfl fun r5 w6 h => ?_) kN
      refine R.if_eq 51 33 dX1_step_30 (by decide) rfl (fun hc => ?_) (fun hc => ?_)
      · replace h := h.1 hc
        refine R.ldcw (n := (-1000000)) 54 dX1_step_51 rfl q970 (by decide +kernel) ?_
        exact R.retI dX1_step_54 rfl h
      · replace h := h.2 hc
        refine R.aload_n 34 dX1_step_33 rfl rfl ?_
        refine gf_24 37 dX1_step_34 rfl rfl ?_
        refine R.iconst 38 dX1_step_37 rfl ?_
        refine R.bipush 40 dX1_step_38 rfl (by decide +kernel) ?_
        refine R.iload_n 41 dX1_step_40 rfl rfl ?_
        refine R.imul 42 dX1_step_41 rfl ?_
        refine R.iload_n 43 dX1_step_42 rfl rfl ?_
        refine R.iadd 44 dX1_step_43 rfl ?_
        refine R.imul 45 dX1_step_44 rfl ?_
        refine R.iload_n 46 dX1_step_45 rfl rfl ?_
        refine R.iadd 47 dX1_step_46 rfl ?_
        obtain ⟨hb, h⟩ := h
        refine R.iald ar_24 48 dX1_step_47 rfl hb ?_
        refine R.goto 54 dX1_step_48 (by decide) ?_
        exact R.retI dX1_step_54 rfl h

abbrev k_X1_putAside : MK := ("FrostBox", cX1_putAside, 2, none, [], "putAside")
def wl_X1_putAside_2 (Q : Wd → Prop) (R2 : Int32 → Wd → Prop) (l1 : Int32) (w : Wd) : Prop := ((iz 275) ≤ l1 → Q w) ∧ (¬ (iz 275) ≤ l1 → inb l1 275 ∧ inb l1 275 ∧ (∀ w1, w1 = sA w 35 l1.toInt (gA w 31 l1.toInt) → R2 (l1 + iz 1) w1))
def lp_X1_putAside_2 (Q : Wd → Prop) : Nat → Int32 → Wd → Prop
  | 0, _, _ => False
  | n + 1, l1, w => wl_X1_putAside_2 Q (lp_X1_putAside_2 Q n) l1 w
def wp_X1_putAside (w : Wd) (Q : Wd → Prop) : Prop := ∃ n1, lp_X1_putAside_2 Q n1 (iz 0) w
set_option maxRecDepth 100000 in
set_option maxHeartbeats 4000000 in
theorem sl_X1_putAside_2 {γ : GG} (Q : Wd → Prop) : ∀ (n : Nat) (l1 : Int32) (w : Wd), lp_X1_putAside_2 Q n l1 w → Rch γ 1 k_X1_putAside 2 [some (.ref 1), some (.int l1)] [] w (qV Q) xN := by
  intro n
  induction n with
  | zero => intro _ _ h; exact h.elim
  | succ n hR2 =>
    intro l1 w h
    have h : wl_X1_putAside_2 Q (lp_X1_putAside_2 Q n) l1 w := h
    unfold wl_X1_putAside_2 at h
    refine R.iload_n 3 dX1_putAside_2 rfl rfl ?_
    refine R.sipush 6 dX1_putAside_3 rfl (by decide +kernel) ?_
    refine R.icmp_ge 27 9 dX1_putAside_6 (by decide) rfl (fun hc => ?_) (fun hc => ?_)
    · replace h := h.1 hc
      exact R.retV dX1_putAside_27 rfl h
    · replace h := h.2 hc
      refine R.aload_n 10 dX1_putAside_9 rfl rfl ?_
      refine gf_35 13 dX1_putAside_10 rfl rfl ?_
      refine R.iload_n 14 dX1_putAside_13 rfl rfl ?_
      refine R.aload_n 15 dX1_putAside_14 rfl rfl ?_
      refine gf_31 18 dX1_putAside_15 rfl rfl ?_
      refine R.iload_n 19 dX1_putAside_18 rfl rfl ?_
      obtain ⟨hb, h⟩ := h
      refine R.iald ar_31 20 dX1_putAside_19 rfl hb ?_
      obtain ⟨hb, h⟩ := h
      replace h := h _ rfl
      refine R.iast ar_35 21 dX1_putAside_20 rfl hb ?_
      refine R.inc1 24 dX1_putAside_21 rfl (Nat.le_of_ble_eq_true rfl) rfl ?_
      refine R.goto 2 dX1_putAside_24 (by decide) ?_
      exact Rch.dropk (hR2 _ _ h) ⟨rfl, ⟨rfl, trivial⟩⟩
set_option maxRecDepth 100000 in
set_option maxHeartbeats 4000000 in
theorem sd_X1_putAside {γ : GG} (w : Wd) (Q : Wd → Prop) : wp_X1_putAside w Q → Ctr γ 1 yX1_putAside (ws_ yX1_putAside cX1_putAside 2 none) [.ref 1] w (qV Q) xN := by
  intro h
  unfold wp_X1_putAside at h
  refine Ctr.of (μ := k_X1_putAside) (by decide) rfl rfl rfl (Nat.le_of_ble_eq_true rfl) ⟨1, ?_⟩
  have es : lva [.ref 1] ++ List.replicate 1 none = [some (.ref 1), none] := rfl
  rw [es]
  refine R.iconst 1 dX1_putAside_0 rfl ?_
  refine R.ist1n 2 dX1_putAside_1 rfl (Nat.le_of_ble_eq_true rfl) rfl ?_
  obtain ⟨n1, h⟩ := h
  exact Rch.dropk (sl_X1_putAside_2 Q n1 _ _ h) ⟨rfl, ⟨rfl, trivial⟩⟩

abbrev k_X1_canStep : MK := ("FrostBox", cX1_canStep, 3, (some .boolean), [], "canStep")
def wp_X1_canStep (l1 : Int32) (w : Wd) (Q : Int32 → Wd → Prop) : Prop := inb (l1 + (iz 1)) 320 ∧ inb l1 320 ∧ ((gA w 24 l1.toInt).toInt = 0 → inb (l1 + (iz 2)) 320 ∧ wp_X1_canPut (gA w 24 (l1 + (iz 1)).toInt) (gA w 24 (l1 + (iz 2)).toInt) w (fun r1 w2 => zok r1 ∧ Q r1 w2)) ∧ ((gA w 24 l1.toInt).toInt = 1 → wp_X1_isBox (gA w 24 (l1 + (iz 1)).toInt) w (fun r3 w4 => zok r3 ∧ Q r3 w4)) ∧ ((gA w 24 l1.toInt).toInt = 2 → wp_X1_canLabel (gA w 24 (l1 + (iz 1)).toInt) w (fun r5 w6 => zok r5 ∧ Q r5 w6)) ∧ ((gA w 24 l1.toInt).toInt = 3 → wp_X1_canPass (gA w 24 (l1 + (iz 1)).toInt) w (fun r7 w8 => zok r7 ∧ Q r7 w8)) ∧ ((gA w 24 l1.toInt).toInt < 0 ∨ 3 < (gA w 24 l1.toInt).toInt → wp_X1_isOff (gA w 24 (l1 + (iz 1)).toInt) w (fun r9 w10 => zok r9 ∧ Q r9 w10))
set_option maxRecDepth 100000 in
set_option maxHeartbeats 4000000 in
theorem sd_X1_canStep {γ : GG} (l1 : Int32) (w : Wd) (Q : Int32 → Wd → Prop) : wp_X1_canStep l1 w Q → Ctr γ 7 yX1_canStep (ws_ yX1_canStep cX1_canStep 3 (some .boolean)) [.ref 1, .int l1] w (qI Q) xN := by
  intro h
  unfold wp_X1_canStep at h
  refine Ctr.of (μ := k_X1_canStep) (by decide) rfl rfl rfl (Nat.le_of_ble_eq_true rfl) ⟨1, ?_⟩
  have es : lva [.ref 1, .int l1] ++ List.replicate 1 none = [some (.ref 1), some (.int l1), none] := rfl
  rw [es]
  refine R.aload_n 1 dX1_canStep_0 rfl rfl ?_
  refine gf_24 4 dX1_canStep_1 rfl rfl ?_
  refine R.iload_n 5 dX1_canStep_4 rfl rfl ?_
  refine R.iconst 6 dX1_canStep_5 rfl ?_
  refine R.iadd 7 dX1_canStep_6 rfl ?_
  obtain ⟨hb, h⟩ := h
  refine R.iald ar_24 8 dX1_canStep_7 rfl hb ?_
  refine R.ist2n 9 dX1_canStep_8 rfl (Nat.le_of_ble_eq_true rfl) rfl ?_
  refine R.aload_n 10 dX1_canStep_9 rfl rfl ?_
  refine gf_24 13 dX1_canStep_10 rfl rfl ?_
  refine R.iload_n 14 dX1_canStep_13 rfl rfl ?_
  obtain ⟨hb, h⟩ := h
  refine R.iald ar_24 15 dX1_canStep_14 rfl hb ?_
  by_cases c0 : (gA w 24 l1.toInt).toInt = 0
  · replace h := h.1 c0
    refine R.tswIn 0 44 dX1_canStep_15 c0 (by decide) (by decide) rfl (by decide) ?_
    refine R.aload_n 45 dX1_canStep_44 rfl rfl ?_
    refine R.iload_n 46 dX1_canStep_45 rfl rfl ?_
    refine R.aload_n 47 dX1_canStep_46 rfl rfl ?_
    refine gf_24 50 dX1_canStep_47 rfl rfl ?_
    refine R.iload_n 51 dX1_canStep_50 rfl rfl ?_
    refine R.iconst 52 dX1_canStep_51 rfl ?_
    refine R.iadd 53 dX1_canStep_52 rfl ?_
    obtain ⟨hb, h⟩ := h
    refine R.iald ar_24 54 dX1_canStep_53 rfl hb ?_
    refine Rch.callv (sd_X1_canPut _ _ _ _ h) dX1_canStep_54 (lw_V q769 q771 qs30 q142 q772) dk_X1_canPut rcX (by decide) (Nat.le_of_ble_eq_true rfl) rfl rfl (Nat.le_of_ble_eq_true rfl) (kI 57 rfl fun r1 w2 h => ?_) kN
    exact R.retZ dX1_canStep_57 rfl h.1 h.2
  replace h := h.2
  by_cases c1 : (gA w 24 l1.toInt).toInt = 1
  · replace h := h.1 c1
    refine R.tswIn 1 58 dX1_canStep_15 c1 (by decide) (by decide) rfl (by decide) ?_
    refine R.aload_n 59 dX1_canStep_58 rfl rfl ?_
    refine R.iload_n 60 dX1_canStep_59 rfl rfl ?_
    refine Rch.callv (sd_X1_isBox _ _ _ h) dX1_canStep_60 (lw_V q805 q807 qs38 q142 q808) dk_X1_isBox rcX (by decide) (Nat.le_of_ble_eq_true rfl) rfl rfl (Nat.le_of_ble_eq_true rfl) (kI 63 rfl fun r3 w4 h => ?_) kN
    exact R.retZ dX1_canStep_63 rfl h.1 h.2
  replace h := h.2
  by_cases c2 : (gA w 24 l1.toInt).toInt = 2
  · replace h := h.1 c2
    refine R.tswIn 2 64 dX1_canStep_15 c2 (by decide) (by decide) rfl (by decide) ?_
    refine R.aload_n 65 dX1_canStep_64 rfl rfl ?_
    refine R.iload_n 66 dX1_canStep_65 rfl rfl ?_
    refine Rch.callv (sd_X1_canLabel _ _ _ h) dX1_canStep_66 (lw_V q904 q906 qs45 q142 q907) dk_X1_canLabel rcX (by decide) (Nat.le_of_ble_eq_true rfl) rfl rfl (Nat.le_of_ble_eq_true rfl) (kI 69 rfl fun r5 w6 h => ?_) kN
    exact R.retZ dX1_canStep_69 rfl h.1 h.2
  replace h := h.2
  by_cases c3 : (gA w 24 l1.toInt).toInt = 3
  · replace h := h.1 c3
    refine R.tswIn 3 70 dX1_canStep_15 c3 (by decide) (by decide) rfl (by decide) ?_
    refine R.aload_n 71 dX1_canStep_70 rfl rfl ?_
    refine R.iload_n 72 dX1_canStep_71 rfl rfl ?_
    refine Rch.callv (sd_X1_canPass _ _ _ h) dX1_canStep_72 (lw_V q920 q922 qs48 q142 q923) dk_X1_canPass rcX (by decide) (Nat.le_of_ble_eq_true rfl) rfl rfl (Nat.le_of_ble_eq_true rfl) (kI 75 rfl fun r7 w8 h => ?_) kN
    exact R.retZ dX1_canStep_75 rfl h.1 h.2
  replace h := h.2
  have cd : (gA w 24 l1.toInt).toInt < 0 ∨ 3 < (gA w 24 l1.toInt).toInt := by omega
  replace h := h cd
  refine R.tswOut 76 dX1_canStep_15 cd (by decide) ?_
  refine R.aload_n 77 dX1_canStep_76 rfl rfl ?_
  refine R.iload_n 78 dX1_canStep_77 rfl rfl ?_
  refine Rch.callv (sd_X1_isOff _ _ _ h) dX1_canStep_78 (lw_V q936 q938 qs51 q142 q939) dk_X1_isOff rcX (by decide) (Nat.le_of_ble_eq_true rfl) rfl rfl (Nat.le_of_ble_eq_true rfl) (kI 81 rfl fun r9 w10 h => ?_) kN
  exact R.retZ dX1_canStep_81 rfl h.1 h.2

abbrev k_X1_doStep : MK := ("FrostBox", cX1_doStep, 4, (some .int), [], "doStep")
def wl_X1_doStep_91 (Q : Int32 → Wd → Prop) (l2 : Int32) (R91 : Int32 → Wd → Prop) (l3 : Int32) (w : Wd) : Prop := (l2 ≤ l3 → Q (iz 0) w) ∧ (¬ l2 ≤ l3 → wp_X1_pass w (fun w2 => R91 (l3 + iz 1) w2))
def lp_X1_doStep_91 (Q : Int32 → Wd → Prop) (l2 : Int32) : Nat → Int32 → Wd → Prop
  | 0, _, _ => False
  | n + 1, l3, w => wl_X1_doStep_91 Q l2 (lp_X1_doStep_91 Q l2 n) l3 w
def wp_X1_doStep (l1 : Int32) (w : Wd) (Q : Int32 → Wd → Prop) : Prop := inb (l1 + (iz 1)) 320 ∧ inb l1 320 ∧ ((gA w 24 l1.toInt).toInt = 0 → inb (l1 + (iz 2)) 320 ∧ inb (l1 + (iz 3)) 320 ∧ (¬ (gA w 24 (l1 + (iz 3)).toInt) = (iz 1) → wp_X1_putNow (gA w 24 (l1 + (iz 1)).toInt) (gA w 24 (l1 + (iz 2)).toInt) (iz 0) w (fun w2 => Q (iz 0) w2)) ∧ ((gA w 24 (l1 + (iz 3)).toInt) = (iz 1) → wp_X1_putNow (gA w 24 (l1 + (iz 1)).toInt) (gA w 24 (l1 + (iz 2)).toInt) (iz 1) w (fun w4 => Q (iz 0) w4))) ∧ ((gA w 24 l1.toInt).toInt = 1 → wp_X1_takeNow (gA w 24 (l1 + (iz 1)).toInt) w (fun r5 w6 => Q r5 w6)) ∧ ((gA w 24 l1.toInt).toInt = 2 → wp_X1_labelNow (gA w 24 (l1 + (iz 1)).toInt) w (fun w8 => Q (iz 0) w8)) ∧ ((gA w 24 l1.toInt).toInt = 3 → ∃ n9, lp_X1_doStep_91 Q (gA w 24 (l1 + (iz 1)).toInt) n9 (iz 0) w) ∧ ((gA w 24 l1.toInt).toInt < 0 ∨ 3 < (gA w 24 l1.toInt).toInt → wp_X1_tooMany (gA w 24 (l1 + (iz 1)).toInt) w (fun r10 w11 => wp_X1_older r10 w11 (fun w13 => Q (iz 0) w13)))
set_option maxRecDepth 100000 in
set_option maxHeartbeats 4000000 in
theorem sl_X1_doStep_91 {γ : GG} (Q : Int32 → Wd → Prop) (l2 : Int32) : ∀ (n : Nat) (l3 : Int32) (w : Wd), lp_X1_doStep_91 Q l2 n l3 w → Rch γ 98 k_X1_doStep 91 [some (.ref 1), none, some (.int l2), some (.int l3)] [] w (qI Q) xN := by
  intro n
  induction n with
  | zero => intro _ _ h; exact h.elim
  | succ n hR91 =>
    intro l3 w h
    have h : wl_X1_doStep_91 Q l2 (lp_X1_doStep_91 Q l2 n) l3 w := h
    unfold wl_X1_doStep_91 at h
    refine R.iload_n 92 dX1_doStep_91 rfl rfl ?_
    refine R.iload_n 93 dX1_doStep_92 rfl rfl ?_
    refine R.icmp_ge 106 96 dX1_doStep_93 (by decide) rfl (fun hc => ?_) (fun hc => ?_)
    · replace h := h.1 hc
      refine R.iconst 107 dX1_doStep_106 rfl ?_
      exact R.retI dX1_doStep_107 rfl h
    · replace h := h.2 hc
      refine R.aload_n 97 dX1_doStep_96 rfl rfl ?_
      refine Rch.callv (sd_X1_pass _ _ h) dX1_doStep_97 (lw_V q924 q926 qs49 q142 q927) dk_X1_pass rcX (by decide) (Nat.le_of_ble_eq_true rfl) rfl rfl (Nat.le_of_ble_eq_true rfl) (kV 100 rfl fun w2 h => ?_) kN
      refine R.inc3 103 dX1_doStep_100 rfl (Nat.le_of_ble_eq_true rfl) rfl ?_
      refine R.goto 91 dX1_doStep_103 (by decide) ?_
      exact Rch.dropk (hR91 _ _ h) ⟨rfl, ⟨rfl, ⟨rfl, trivial⟩⟩⟩
set_option maxRecDepth 100000 in
set_option maxHeartbeats 4000000 in
theorem sd_X1_doStep {γ : GG} (l1 : Int32) (w : Wd) (Q : Int32 → Wd → Prop) : wp_X1_doStep l1 w Q → Ctr γ 98 yX1_doStep (ws_ yX1_doStep cX1_doStep 4 (some .int)) [.ref 1, .int l1] w (qI Q) xN := by
  intro h
  unfold wp_X1_doStep at h
  refine Ctr.of (μ := k_X1_doStep) (by decide) rfl rfl rfl (Nat.le_of_ble_eq_true rfl) ⟨2, ?_⟩
  have es : lva [.ref 1, .int l1] ++ List.replicate 2 none = [some (.ref 1), some (.int l1), none, none] := rfl
  rw [es]
  refine R.aload_n 1 dX1_doStep_0 rfl rfl ?_
  refine gf_24 4 dX1_doStep_1 rfl rfl ?_
  refine R.iload_n 5 dX1_doStep_4 rfl rfl ?_
  refine R.iconst 6 dX1_doStep_5 rfl ?_
  refine R.iadd 7 dX1_doStep_6 rfl ?_
  obtain ⟨hb, h⟩ := h
  refine R.iald ar_24 8 dX1_doStep_7 rfl hb ?_
  refine R.ist2n 9 dX1_doStep_8 rfl (Nat.le_of_ble_eq_true rfl) rfl ?_
  refine R.aload_n 10 dX1_doStep_9 rfl rfl ?_
  refine gf_24 13 dX1_doStep_10 rfl rfl ?_
  refine R.iload_n 14 dX1_doStep_13 rfl rfl ?_
  obtain ⟨hb, h⟩ := h
  refine R.iald ar_24 15 dX1_doStep_14 rfl hb ?_
  by_cases c0 : (gA w 24 l1.toInt).toInt = 0
  · replace h := h.1 c0
    refine R.tswIn 0 44 dX1_doStep_15 c0 (by decide) (by decide) rfl (by decide) ?_
    refine R.aload_n 45 dX1_doStep_44 rfl rfl ?_
    refine R.iload_n 46 dX1_doStep_45 rfl rfl ?_
    refine R.aload_n 47 dX1_doStep_46 rfl rfl ?_
    refine gf_24 50 dX1_doStep_47 rfl rfl ?_
    refine R.iload_n 51 dX1_doStep_50 rfl rfl ?_
    refine R.iconst 52 dX1_doStep_51 rfl ?_
    refine R.iadd 53 dX1_doStep_52 rfl ?_
    obtain ⟨hb, h⟩ := h
    refine R.iald ar_24 54 dX1_doStep_53 rfl hb ?_
    refine R.aload_n 55 dX1_doStep_54 rfl rfl ?_
    refine gf_24 58 dX1_doStep_55 rfl rfl ?_
    refine R.iload_n 59 dX1_doStep_58 rfl rfl ?_
    refine R.iconst 60 dX1_doStep_59 rfl ?_
    refine R.iadd 61 dX1_doStep_60 rfl ?_
    obtain ⟨hb, h⟩ := h
    refine R.iald ar_24 62 dX1_doStep_61 rfl hb ?_
    refine R.iconst 63 dX1_doStep_62 rfl ?_
    refine R.icmp_ne 70 66 dX1_doStep_63 (by decide) rfl (fun hc => ?_) (fun hc => ?_)
    · replace h := h.1 hc
      refine R.iconst 71 dX1_doStep_70 rfl ?_
      refine Rch.callv (sd_X1_putNow _ _ _ _ _ h) dX1_doStep_71 (lw_V q797 q799 qs37 q142 q800) dk_X1_putNow rcX (by decide) (Nat.le_of_ble_eq_true rfl) rfl rfl (Nat.le_of_ble_eq_true rfl) (kV 74 rfl fun w2 h => ?_) kN
      refine R.iconst 75 dX1_doStep_74 rfl ?_
      exact R.retI dX1_doStep_75 rfl h
    · replace h := h.2 hc
      refine R.iconst 67 dX1_doStep_66 rfl ?_
      refine R.goto 71 dX1_doStep_67 (by decide) ?_
      refine Rch.callv (sd_X1_putNow _ _ _ _ _ h) dX1_doStep_71 (lw_V q797 q799 qs37 q142 q800) dk_X1_putNow rcX (by decide) (Nat.le_of_ble_eq_true rfl) rfl rfl (Nat.le_of_ble_eq_true rfl) (kV 74 rfl fun w4 h => ?_) kN
      refine R.iconst 75 dX1_doStep_74 rfl ?_
      exact R.retI dX1_doStep_75 rfl h
  replace h := h.2
  by_cases c1 : (gA w 24 l1.toInt).toInt = 1
  · replace h := h.1 c1
    refine R.tswIn 1 76 dX1_doStep_15 c1 (by decide) (by decide) rfl (by decide) ?_
    refine R.aload_n 77 dX1_doStep_76 rfl rfl ?_
    refine R.iload_n 78 dX1_doStep_77 rfl rfl ?_
    refine Rch.callv (sd_X1_takeNow _ _ _ h) dX1_doStep_78 (lw_V q809 q811 qs39 q142 q812) dk_X1_takeNow rcX (by decide) (Nat.le_of_ble_eq_true rfl) rfl rfl (Nat.le_of_ble_eq_true rfl) (kI 81 rfl fun r5 w6 h => ?_) kN
    exact R.retI dX1_doStep_81 rfl h
  replace h := h.2
  by_cases c2 : (gA w 24 l1.toInt).toInt = 2
  · replace h := h.1 c2
    refine R.tswIn 2 82 dX1_doStep_15 c2 (by decide) (by decide) rfl (by decide) ?_
    refine R.aload_n 83 dX1_doStep_82 rfl rfl ?_
    refine R.iload_n 84 dX1_doStep_83 rfl rfl ?_
    refine Rch.callv (sd_X1_labelNow _ _ _ h) dX1_doStep_84 (lw_V q912 q914 qs47 q142 q915) dk_X1_labelNow rcX (by decide) (Nat.le_of_ble_eq_true rfl) rfl rfl (Nat.le_of_ble_eq_true rfl) (kV 87 rfl fun w8 h => ?_) kN
    refine R.iconst 88 dX1_doStep_87 rfl ?_
    exact R.retI dX1_doStep_88 rfl h
  replace h := h.2
  by_cases c3 : (gA w 24 l1.toInt).toInt = 3
  · replace h := h.1 c3
    refine R.tswIn 3 89 dX1_doStep_15 c3 (by decide) (by decide) rfl (by decide) ?_
    refine R.iconst 90 dX1_doStep_89 rfl ?_
    refine R.ist3n 91 dX1_doStep_90 rfl (Nat.le_of_ble_eq_true rfl) rfl ?_
    obtain ⟨n9, h⟩ := h
    exact Rch.dropk (sl_X1_doStep_91 Q _ n9 _ _ h) ⟨rfl, ⟨rfl, ⟨rfl, trivial⟩⟩⟩
  replace h := h.2
  have cd : (gA w 24 l1.toInt).toInt < 0 ∨ 3 < (gA w 24 l1.toInt).toInt := by omega
  replace h := h cd
  refine R.tswOut 108 dX1_doStep_15 cd (by decide) ?_
  refine R.aload_n 109 dX1_doStep_108 rfl rfl ?_
  refine R.aload_n 110 dX1_doStep_109 rfl rfl ?_
  refine R.iload_n 111 dX1_doStep_110 rfl rfl ?_
  refine Rch.callv (sd_X1_tooMany _ _ _ h) dX1_doStep_111 (lw_V q940 q942 qs52 q142 q943) dk_X1_tooMany rcX (by decide) (Nat.le_of_ble_eq_true rfl) rfl rfl (Nat.le_of_ble_eq_true rfl) (kI 114 rfl fun r10 w11 h => ?_) kN
  refine Rch.callv (sd_X1_older _ _ _ h) dX1_doStep_114 (lw_V q928 q930 qs50 q142 q931) dk_X1_older rcX (by decide) (Nat.le_of_ble_eq_true rfl) rfl rfl (Nat.le_of_ble_eq_true rfl) (kV 117 rfl fun w13 h => ?_) kN
  refine R.iconst 118 dX1_doStep_117 rfl ?_
  exact R.retI dX1_doStep_118 rfl h

abbrev k_X1_takeBack : MK := ("FrostBox", cX1_takeBack, 2, none, [], "takeBack")
def wl_X1_takeBack_2 (Q : Wd → Prop) (R2 : Int32 → Wd → Prop) (l1 : Int32) (w : Wd) : Prop := ((iz 275) ≤ l1 → Q w) ∧ (¬ (iz 275) ≤ l1 → inb l1 275 ∧ inb l1 275 ∧ (∀ w1, w1 = sA w 31 l1.toInt (gA w 35 l1.toInt) → R2 (l1 + iz 1) w1))
def lp_X1_takeBack_2 (Q : Wd → Prop) : Nat → Int32 → Wd → Prop
  | 0, _, _ => False
  | n + 1, l1, w => wl_X1_takeBack_2 Q (lp_X1_takeBack_2 Q n) l1 w
def wp_X1_takeBack (w : Wd) (Q : Wd → Prop) : Prop := ∃ n1, lp_X1_takeBack_2 Q n1 (iz 0) w
set_option maxRecDepth 100000 in
set_option maxHeartbeats 4000000 in
theorem sl_X1_takeBack_2 {γ : GG} (Q : Wd → Prop) : ∀ (n : Nat) (l1 : Int32) (w : Wd), lp_X1_takeBack_2 Q n l1 w → Rch γ 1 k_X1_takeBack 2 [some (.ref 1), some (.int l1)] [] w (qV Q) xN := by
  intro n
  induction n with
  | zero => intro _ _ h; exact h.elim
  | succ n hR2 =>
    intro l1 w h
    have h : wl_X1_takeBack_2 Q (lp_X1_takeBack_2 Q n) l1 w := h
    unfold wl_X1_takeBack_2 at h
    refine R.iload_n 3 dX1_takeBack_2 rfl rfl ?_
    refine R.sipush 6 dX1_takeBack_3 rfl (by decide +kernel) ?_
    refine R.icmp_ge 27 9 dX1_takeBack_6 (by decide) rfl (fun hc => ?_) (fun hc => ?_)
    · replace h := h.1 hc
      exact R.retV dX1_takeBack_27 rfl h
    · replace h := h.2 hc
      refine R.aload_n 10 dX1_takeBack_9 rfl rfl ?_
      refine gf_31 13 dX1_takeBack_10 rfl rfl ?_
      refine R.iload_n 14 dX1_takeBack_13 rfl rfl ?_
      refine R.aload_n 15 dX1_takeBack_14 rfl rfl ?_
      refine gf_35 18 dX1_takeBack_15 rfl rfl ?_
      refine R.iload_n 19 dX1_takeBack_18 rfl rfl ?_
      obtain ⟨hb, h⟩ := h
      refine R.iald ar_35 20 dX1_takeBack_19 rfl hb ?_
      obtain ⟨hb, h⟩ := h
      replace h := h _ rfl
      refine R.iast ar_31 21 dX1_takeBack_20 rfl hb ?_
      refine R.inc1 24 dX1_takeBack_21 rfl (Nat.le_of_ble_eq_true rfl) rfl ?_
      refine R.goto 2 dX1_takeBack_24 (by decide) ?_
      exact Rch.dropk (hR2 _ _ h) ⟨rfl, ⟨rfl, trivial⟩⟩
set_option maxRecDepth 100000 in
set_option maxHeartbeats 4000000 in
theorem sd_X1_takeBack {γ : GG} (w : Wd) (Q : Wd → Prop) : wp_X1_takeBack w Q → Ctr γ 1 yX1_takeBack (ws_ yX1_takeBack cX1_takeBack 2 none) [.ref 1] w (qV Q) xN := by
  intro h
  unfold wp_X1_takeBack at h
  refine Ctr.of (μ := k_X1_takeBack) (by decide) rfl rfl rfl (Nat.le_of_ble_eq_true rfl) ⟨1, ?_⟩
  have es : lva [.ref 1] ++ List.replicate 1 none = [some (.ref 1), none] := rfl
  rw [es]
  refine R.iconst 1 dX1_takeBack_0 rfl ?_
  refine R.ist1n 2 dX1_takeBack_1 rfl (Nat.le_of_ble_eq_true rfl) rfl ?_
  obtain ⟨n1, h⟩ := h
  exact Rch.dropk (sl_X1_takeBack_2 Q n1 _ _ h) ⟨rfl, ⟨rfl, trivial⟩⟩

abbrev k_X1_run : MK := ("FrostBox", cX1_run, 5, (some .int), [], "run")
def b_X1_run_85 (Q : Int32 → Wd → Prop) (l1 : Int32) (l2 : Int32) (l3 : Int32) (l4 : Int32) (w : Wd) : Prop := wp_X1_takeBack w (fun w2 => (¬ l2 = (iz 1) → inb l1 5 ∧ (¬ l3 = (gA w2 25 l1.toInt) → Q l3 w2) ∧ (l3 = (gA w2 25 l1.toInt) → Q (iz (-1)) w2)) ∧ (l2 = (iz 1) → Q l4 w2))
def wl_X1_run_37 (Q : Int32 → Wd → Prop) (l1 : Int32) (l2 : Int32) (R37 : Int32 → Int32 → Wd → Prop) (l3 : Int32) (l4 : Int32) (w : Wd) : Prop := inb l1 5 ∧ ((gA w 25 l1.toInt) ≤ l3 → b_X1_run_85 Q l1 l2 l3 l4 w) ∧ (¬ (gA w 25 l1.toInt) ≤ l3 → wp_X1_canStep ((iz 4) * (((iz 16) * l1) + l3)) w (fun r1 w2 => (r1 = iz 0 → b_X1_run_85 Q l1 l2 l3 l4 w2) ∧ (¬ r1 = iz 0 → wp_X1_doStep ((iz 4) * (((iz 16) * l1) + l3)) w2 (fun r3 w4 => R37 (l3 + iz 1) (l4 + r3) w4))))
def lp_X1_run_37 (Q : Int32 → Wd → Prop) (l1 : Int32) (l2 : Int32) : Nat → Int32 → Int32 → Wd → Prop
  | 0, _, _, _ => False
  | n + 1, l3, l4, w => wl_X1_run_37 Q l1 l2 (lp_X1_run_37 Q l1 l2 n) l3 l4 w
def wp_X1_run (l1 : Int32) (l2 : Int32) (w : Wd) (Q : Int32 → Wd → Prop) : Prop := wp_X1_isHouse w (fun r1 w2 => (r1 = iz 0 → Q (iz (-1000000)) w2) ∧ (¬ r1 = iz 0 → wp_X1_isPlan l1 w2 (fun r3 w4 => (r3 = iz 0 → Q (iz (-1000000)) w4) ∧ (¬ r3 = iz 0 → wp_X1_in l2 (iz 0) (iz 1) w4 (fun r5 w6 => (¬ r5 = iz 0 → wp_X1_putAside w6 (fun w8 => ∃ n9, lp_X1_run_37 Q l1 l2 n9 (iz 0) (iz 0) w8)) ∧ (r5 = iz 0 → Q (iz (-1000000)) w6))))))
set_option maxRecDepth 100000 in
set_option maxHeartbeats 4000000 in
theorem s_X1_run_85 {γ : GG} (Q : Int32 → Wd → Prop) (l1 : Int32) (l2 : Int32) (l3 : Int32) (l4 : Int32) : ∀ (w : Wd), b_X1_run_85 Q l1 l2 l3 l4 w → Rch γ 99 k_X1_run 85 [some (.ref 1), some (.int l1), some (.int l2), some (.int l3), some (.int l4)] [] w (qI Q) xN := by
  intro w h
  unfold b_X1_run_85 at h
  refine R.aload_n 86 dX1_run_85 rfl rfl ?_
  refine Rch.callv (sd_X1_takeBack _ _ h) dX1_run_86 (lw_V q987 q989 qs58 q142 q990) dk_X1_takeBack rcX (by decide) (Nat.le_of_ble_eq_true rfl) rfl rfl (Nat.le_of_ble_eq_true rfl) (kV 89 rfl fun w2 h => ?_) kN
  refine R.iload_n 90 dX1_run_89 rfl rfl ?_
  refine R.iconst 91 dX1_run_90 rfl ?_
  refine R.icmp_ne 99 94 dX1_run_91 (by decide) rfl (fun hc => ?_) (fun hc => ?_)
  · replace h := h.1 hc
    refine R.iload_n 100 dX1_run_99 rfl rfl ?_
    refine R.aload_n 101 dX1_run_100 rfl rfl ?_
    refine gf_25 104 dX1_run_101 rfl rfl ?_
    refine R.iload_n 105 dX1_run_104 rfl rfl ?_
    obtain ⟨hb, h⟩ := h
    refine R.iald ar_25 106 dX1_run_105 rfl hb ?_
    refine R.icmp_ne 113 109 dX1_run_106 (by decide) rfl (fun hc => ?_) (fun hc => ?_)
    · replace h := h.1 hc
      refine R.iload_n 114 dX1_run_113 rfl rfl ?_
      exact R.retI dX1_run_114 rfl h
    · replace h := h.2 hc
      refine R.iconst 110 dX1_run_109 rfl ?_
      refine R.goto 114 dX1_run_110 (by decide) ?_
      exact R.retI dX1_run_114 rfl h
  · replace h := h.2 hc
    refine R.iload 96 dX1_run_94 rfl rfl ?_
    refine R.goto 114 dX1_run_96 (by decide) ?_
    exact R.retI dX1_run_114 rfl h
set_option maxRecDepth 100000 in
set_option maxHeartbeats 4000000 in
theorem sl_X1_run_37 {γ : GG} (Q : Int32 → Wd → Prop) (l1 : Int32) (l2 : Int32) : ∀ (n : Nat) (l3 : Int32) (l4 : Int32) (w : Wd), lp_X1_run_37 Q l1 l2 n l3 l4 w → Rch γ 99 k_X1_run 37 [some (.ref 1), some (.int l1), some (.int l2), some (.int l3), some (.int l4)] [] w (qI Q) xN := by
  intro n
  induction n with
  | zero => intro _ _ _ h; exact h.elim
  | succ n hR37 =>
    intro l3 l4 w h
    have h : wl_X1_run_37 Q l1 l2 (lp_X1_run_37 Q l1 l2 n) l3 l4 w := h
    unfold wl_X1_run_37 at h
    refine R.iload_n 38 dX1_run_37 rfl rfl ?_
    refine R.aload_n 39 dX1_run_38 rfl rfl ?_
    refine gf_25 42 dX1_run_39 rfl rfl ?_
    refine R.iload_n 43 dX1_run_42 rfl rfl ?_
    obtain ⟨hb, h⟩ := h
    refine R.iald ar_25 44 dX1_run_43 rfl hb ?_
    refine R.icmp_ge 85 47 dX1_run_44 (by decide) rfl (fun hc => ?_) (fun hc => ?_)
    · replace h := h.1 hc
      exact Rch.dropk (s_X1_run_85 Q _ _ _ _ _ h) ⟨rfl, ⟨rfl, ⟨rfl, ⟨rfl, ⟨rfl, trivial⟩⟩⟩⟩⟩
    · replace h := h.2 hc
      refine R.aload_n 48 dX1_run_47 rfl rfl ?_
      refine R.iconst 49 dX1_run_48 rfl ?_
      refine R.bipush 51 dX1_run_49 rfl (by decide +kernel) ?_
      refine R.iload_n 52 dX1_run_51 rfl rfl ?_
      refine R.imul 53 dX1_run_52 rfl ?_
      refine R.iload_n 54 dX1_run_53 rfl rfl ?_
      refine R.iadd 55 dX1_run_54 rfl ?_
      refine R.imul 56 dX1_run_55 rfl ?_
      refine Rch.callv (sd_X1_canStep _ _ _ h) dX1_run_56 (lw_V q979 q981 qs56 q142 q982) dk_X1_canStep rcX (by decide) (Nat.le_of_ble_eq_true rfl) rfl rfl (Nat.le_of_ble_eq_true rfl) (kI 59 rfl fun r1 w2 h => ?_) kN
      refine R.if_eq 85 62 dX1_run_59 (by decide) rfl (fun hc => ?_) (fun hc => ?_)
      · replace h := h.1 hc
        exact Rch.dropk (s_X1_run_85 Q _ _ _ _ _ h) ⟨rfl, ⟨rfl, ⟨rfl, ⟨rfl, ⟨rfl, trivial⟩⟩⟩⟩⟩
      · replace h := h.2 hc
        refine R.iload 64 dX1_run_62 rfl rfl ?_
        refine R.aload_n 65 dX1_run_64 rfl rfl ?_
        refine R.iconst 66 dX1_run_65 rfl ?_
        refine R.bipush 68 dX1_run_66 rfl (by decide +kernel) ?_
        refine R.iload_n 69 dX1_run_68 rfl rfl ?_
        refine R.imul 70 dX1_run_69 rfl ?_
        refine R.iload_n 71 dX1_run_70 rfl rfl ?_
        refine R.iadd 72 dX1_run_71 rfl ?_
        refine R.imul 73 dX1_run_72 rfl ?_
        refine Rch.callv (sd_X1_doStep _ _ _ h) dX1_run_73 (lw_V q983 q985 qs57 q142 q986) dk_X1_doStep rcX (by decide) (Nat.le_of_ble_eq_true rfl) rfl rfl (Nat.le_of_ble_eq_true rfl) (kI 76 rfl fun r3 w4 h => ?_) kN
        refine R.iadd 77 dX1_run_76 rfl ?_
        refine R.ist4 79 dX1_run_77 rfl (Nat.le_of_ble_eq_true rfl) rfl ?_
        refine R.inc3 82 dX1_run_79 rfl (Nat.le_of_ble_eq_true rfl) rfl ?_
        refine R.goto 37 dX1_run_82 (by decide) ?_
        exact Rch.dropk (hR37 _ _ _ h) ⟨rfl, ⟨rfl, ⟨rfl, ⟨rfl, ⟨rfl, trivial⟩⟩⟩⟩⟩
set_option maxRecDepth 100000 in
set_option maxHeartbeats 4000000 in
theorem sd_X1_run {γ : GG} (l1 : Int32) (l2 : Int32) (w : Wd) (Q : Int32 → Wd → Prop) : wp_X1_run l1 l2 w Q → Ctr γ 99 yX1_run (ws_ yX1_run cX1_run 5 (some .int)) [.ref 1, .int l1, .int l2] w (qI Q) xN := by
  intro h
  unfold wp_X1_run at h
  refine Ctr.of (μ := k_X1_run) (by decide) rfl rfl rfl (Nat.le_of_ble_eq_true rfl) ⟨2, ?_⟩
  have es : lva [.ref 1, .int l1, .int l2] ++ List.replicate 2 none = [some (.ref 1), some (.int l1), some (.int l2), none, none] := rfl
  rw [es]
  refine R.aload_n 1 dX1_run_0 rfl rfl ?_
  refine Rch.callv (sd_X1_isHouse _ _ h) dX1_run_1 (lw_V q737 q739 qs26 q142 q740) dk_X1_isHouse rcX (by decide) (Nat.le_of_ble_eq_true rfl) rfl rfl (Nat.le_of_ble_eq_true rfl) (kI 4 rfl fun r1 w2 h => ?_) kN
  refine R.if_eq 24 7 dX1_run_4 (by decide) rfl (fun hc => ?_) (fun hc => ?_)
  · replace h := h.1 hc
    refine R.ldcw (n := (-1000000)) 27 dX1_run_24 rfl q970 (by decide +kernel) ?_
    exact R.retI dX1_run_27 rfl h
  · replace h := h.2 hc
    refine R.aload_n 8 dX1_run_7 rfl rfl ?_
    refine R.iload_n 9 dX1_run_8 rfl rfl ?_
    refine Rch.callv (sd_X1_isPlan _ _ _ h) dX1_run_9 (lw_V q966 q968 qs54 q142 q969) dk_X1_isPlan rcX (by decide) (Nat.le_of_ble_eq_true rfl) rfl rfl (Nat.le_of_ble_eq_true rfl) (kI 12 rfl fun r3 w4 h => ?_) kN
    refine R.if_eq 24 15 dX1_run_12 (by decide) rfl (fun hc => ?_) (fun hc => ?_)
    · replace h := h.1 hc
      refine R.ldcw (n := (-1000000)) 27 dX1_run_24 rfl q970 (by decide +kernel) ?_
      exact R.retI dX1_run_27 rfl h
    · replace h := h.2 hc
      refine R.iload_n 16 dX1_run_15 rfl rfl ?_
      refine R.iconst 17 dX1_run_16 rfl ?_
      refine R.iconst 18 dX1_run_17 rfl ?_
      refine Rch.calls (sd_X1_in _ _ _ _ _ h) dX1_run_18 (lw_S q700 q701 q142 q702) dk_X1_in (by decide) (Nat.le_of_ble_eq_true rfl) rfl rfl (Nat.le_of_ble_eq_true rfl) (kI 21 rfl fun r5 w6 h => ?_) kN
      refine R.if_ne 28 24 dX1_run_21 (by decide) rfl (fun hc => ?_) (fun hc => ?_)
      · replace h := h.1 hc
        refine R.aload_n 29 dX1_run_28 rfl rfl ?_
        refine Rch.callv (sd_X1_putAside _ _ h) dX1_run_29 (lw_V q975 q977 qs55 q142 q978) dk_X1_putAside rcX (by decide) (Nat.le_of_ble_eq_true rfl) rfl rfl (Nat.le_of_ble_eq_true rfl) (kV 32 rfl fun w8 h => ?_) kN
        refine R.iconst 33 dX1_run_32 rfl ?_
        refine R.ist3n 34 dX1_run_33 rfl (Nat.le_of_ble_eq_true rfl) rfl ?_
        refine R.iconst 35 dX1_run_34 rfl ?_
        refine R.ist4 37 dX1_run_35 rfl (Nat.le_of_ble_eq_true rfl) rfl ?_
        obtain ⟨n9, h⟩ := h
        exact Rch.dropk (sl_X1_run_37 Q _ _ n9 _ _ _ h) ⟨rfl, ⟨rfl, ⟨rfl, ⟨rfl, ⟨rfl, trivial⟩⟩⟩⟩⟩
      · replace h := h.2 hc
        refine R.ldcw (n := (-1000000)) 27 dX1_run_24 rfl q970 (by decide +kernel) ?_
        exact R.retI dX1_run_27 rfl h

abbrev k_X1_perform : MK := ("FrostBox", cX1_perform, 4, (some .int), [], "perform")
def wl_X1_perform_19 (Q : Int32 → Wd → Prop) (l1 : Int32) (R19 : Int32 → Wd → Prop) (l2 : Int32) (w : Wd) : Prop := inb l1 5 ∧ ((gA w 25 l1.toInt) ≤ l2 → Q l2 w) ∧ (¬ (gA w 25 l1.toInt) ≤ l2 → wp_X1_canStep ((iz 4) * (((iz 16) * l1) + l2)) w (fun r1 w2 => (r1 = iz 0 → Q l2 w2) ∧ (¬ r1 = iz 0 → inb ((iz 4) * (((iz 16) * l1) + l2)) 320 ∧ (¬ (gA w2 24 ((iz 4) * (((iz 16) * l1) + l2)).toInt) = (iz 3) → wp_X1_act w2 (fun w4 => wp_X1_doStep ((iz 4) * (((iz 16) * l1) + l2)) w4 (fun r5 w6 => R19 (l2 + iz 1) w6))) ∧ ((gA w2 24 ((iz 4) * (((iz 16) * l1) + l2)).toInt) = (iz 3) → inb (((iz 4) * (((iz 16) * l1) + l2)) + (iz 1)) 320 ∧ wp_X1_months (gA w2 24 (((iz 4) * (((iz 16) * l1) + l2)) + (iz 1)).toInt) w2 (fun r7 w8 => R19 (l2 + iz 1) w8)))))
def lp_X1_perform_19 (Q : Int32 → Wd → Prop) (l1 : Int32) : Nat → Int32 → Wd → Prop
  | 0, _, _ => False
  | n + 1, l2, w => wl_X1_perform_19 Q l1 (lp_X1_perform_19 Q l1 n) l2 w
def wp_X1_perform (l1 : Int32) (w : Wd) (Q : Int32 → Wd → Prop) : Prop := wp_X1_isHouse w (fun r1 w2 => (r1 = iz 0 → Q (iz (-1)) w2) ∧ (¬ r1 = iz 0 → wp_X1_isPlan l1 w2 (fun r3 w4 => (¬ r3 = iz 0 → ∃ n5, lp_X1_perform_19 Q l1 n5 (iz 0) w4) ∧ (r3 = iz 0 → Q (iz (-1)) w4))))
set_option maxRecDepth 100000 in
set_option maxHeartbeats 4000000 in
theorem sl_X1_perform_19 {γ : GG} (Q : Int32 → Wd → Prop) (l1 : Int32) : ∀ (n : Nat) (l2 : Int32) (w : Wd), lp_X1_perform_19 Q l1 n l2 w → Rch γ 99 k_X1_perform 19 [some (.ref 1), some (.int l1), some (.int l2), none] [] w (qI Q) xN := by
  intro n
  induction n with
  | zero => intro _ _ h; exact h.elim
  | succ n hR19 =>
    intro l2 w h
    have h : wl_X1_perform_19 Q l1 (lp_X1_perform_19 Q l1 n) l2 w := h
    unfold wl_X1_perform_19 at h
    refine R.iload_n 20 dX1_perform_19 rfl rfl ?_
    refine R.aload_n 21 dX1_perform_20 rfl rfl ?_
    refine gf_25 24 dX1_perform_21 rfl rfl ?_
    refine R.iload_n 25 dX1_perform_24 rfl rfl ?_
    obtain ⟨hb, h⟩ := h
    refine R.iald ar_25 26 dX1_perform_25 rfl hb ?_
    refine R.icmp_ge 95 29 dX1_perform_26 (by decide) rfl (fun hc => ?_) (fun hc => ?_)
    · replace h := h.1 hc
      refine R.iload_n 96 dX1_perform_95 rfl rfl ?_
      exact R.retI dX1_perform_96 rfl h
    · replace h := h.2 hc
      refine R.aload_n 30 dX1_perform_29 rfl rfl ?_
      refine R.iconst 31 dX1_perform_30 rfl ?_
      refine R.bipush 33 dX1_perform_31 rfl (by decide +kernel) ?_
      refine R.iload_n 34 dX1_perform_33 rfl rfl ?_
      refine R.imul 35 dX1_perform_34 rfl ?_
      refine R.iload_n 36 dX1_perform_35 rfl rfl ?_
      refine R.iadd 37 dX1_perform_36 rfl ?_
      refine R.imul 38 dX1_perform_37 rfl ?_
      refine Rch.callv (sd_X1_canStep _ _ _ h) dX1_perform_38 (lw_V q979 q981 qs56 q142 q982) dk_X1_canStep rcX (by decide) (Nat.le_of_ble_eq_true rfl) rfl rfl (Nat.le_of_ble_eq_true rfl) (kI 41 rfl fun r1 w2 h => ?_) kN
      refine R.if_eq 95 44 dX1_perform_41 (by decide) rfl (fun hc => ?_) (fun hc => ?_)
      · replace h := h.1 hc
        refine R.iload_n 96 dX1_perform_95 rfl rfl ?_
        exact R.retI dX1_perform_96 rfl h
      · replace h := h.2 hc
        refine R.iconst 45 dX1_perform_44 rfl ?_
        refine R.bipush 47 dX1_perform_45 rfl (by decide +kernel) ?_
        refine R.iload_n 48 dX1_perform_47 rfl rfl ?_
        refine R.imul 49 dX1_perform_48 rfl ?_
        refine R.iload_n 50 dX1_perform_49 rfl rfl ?_
        refine R.iadd 51 dX1_perform_50 rfl ?_
        refine R.imul 52 dX1_perform_51 rfl ?_
        refine R.ist3n 53 dX1_perform_52 rfl (Nat.le_of_ble_eq_true rfl) rfl ?_
        refine R.aload_n 54 dX1_perform_53 rfl rfl ?_
        refine gf_24 57 dX1_perform_54 rfl rfl ?_
        refine R.iload_n 58 dX1_perform_57 rfl rfl ?_
        obtain ⟨hb, h⟩ := h
        refine R.iald ar_24 59 dX1_perform_58 rfl hb ?_
        refine R.iconst 60 dX1_perform_59 rfl ?_
        refine R.icmp_ne 79 63 dX1_perform_60 (by decide) rfl (fun hc => ?_) (fun hc => ?_)
        · replace h := h.1 hc
          refine R.aload_n 80 dX1_perform_79 rfl rfl ?_
          refine Rch.callv (sd_X1_act _ _ h) dX1_perform_80 (lw_V q793 q795 qs36 q142 q796) dk_X1_act rcX (by decide) (Nat.le_of_ble_eq_true rfl) rfl rfl (Nat.le_of_ble_eq_true rfl) (kV 83 rfl fun w4 h => ?_) kN
          refine R.aload_n 84 dX1_perform_83 rfl rfl ?_
          refine R.iload_n 85 dX1_perform_84 rfl rfl ?_
          refine Rch.callv (sd_X1_doStep _ _ _ h) dX1_perform_85 (lw_V q983 q985 qs57 q142 q986) dk_X1_doStep rcX (by decide) (Nat.le_of_ble_eq_true rfl) rfl rfl (Nat.le_of_ble_eq_true rfl) (kI 88 rfl fun r5 w6 h => ?_) kN
          refine R.pop 89 dX1_perform_88 rfl ?_
          refine R.inc2 92 dX1_perform_89 rfl (Nat.le_of_ble_eq_true rfl) rfl ?_
          refine R.goto 19 dX1_perform_92 (by decide) ?_
          exact Rch.dropk (hR19 _ _ h) ⟨rfl, ⟨rfl, ⟨rfl, trivial⟩⟩⟩
        · replace h := h.2 hc
          refine R.aload_n 64 dX1_perform_63 rfl rfl ?_
          refine R.aload_n 65 dX1_perform_64 rfl rfl ?_
          refine gf_24 68 dX1_perform_65 rfl rfl ?_
          refine R.iload_n 69 dX1_perform_68 rfl rfl ?_
          refine R.iconst 70 dX1_perform_69 rfl ?_
          refine R.iadd 71 dX1_perform_70 rfl ?_
          obtain ⟨hb, h⟩ := h
          refine R.iald ar_24 72 dX1_perform_71 rfl hb ?_
          refine Rch.callv (sd_X1_months _ _ _ h) dX1_perform_72 (lw_V q995 q917 q918 q142 q919) dk_X1_months rcX (by decide) (Nat.le_of_ble_eq_true rfl) rfl rfl (Nat.le_of_ble_eq_true rfl) (kI 75 rfl fun r7 w8 h => ?_) kN
          refine R.pop 76 dX1_perform_75 rfl ?_
          refine R.goto 89 dX1_perform_76 (by decide) ?_
          refine R.inc2 92 dX1_perform_89 rfl (Nat.le_of_ble_eq_true rfl) rfl ?_
          refine R.goto 19 dX1_perform_92 (by decide) ?_
          exact Rch.dropk (hR19 _ _ h) ⟨rfl, ⟨rfl, ⟨rfl, trivial⟩⟩⟩
set_option maxRecDepth 100000 in
set_option maxHeartbeats 4000000 in
theorem sd_X1_perform {γ : GG} (l1 : Int32) (w : Wd) (Q : Int32 → Wd → Prop) : wp_X1_perform l1 w Q → Ctr γ 99 yX1_perform (ws_ yX1_perform cX1_perform 4 (some .int)) [.ref 1, .int l1] w (qI Q) xN := by
  intro h
  unfold wp_X1_perform at h
  refine Ctr.of (μ := k_X1_perform) (by decide) rfl rfl rfl (Nat.le_of_ble_eq_true rfl) ⟨2, ?_⟩
  have es : lva [.ref 1, .int l1] ++ List.replicate 2 none = [some (.ref 1), some (.int l1), none, none] := rfl
  rw [es]
  refine R.aload_n 1 dX1_perform_0 rfl rfl ?_
  refine Rch.callv (sd_X1_isHouse _ _ h) dX1_perform_1 (lw_V q737 q739 qs26 q142 q740) dk_X1_isHouse rcX (by decide) (Nat.le_of_ble_eq_true rfl) rfl rfl (Nat.le_of_ble_eq_true rfl) (kI 4 rfl fun r1 w2 h => ?_) kN
  refine R.if_eq 15 7 dX1_perform_4 (by decide) rfl (fun hc => ?_) (fun hc => ?_)
  · replace h := h.1 hc
    refine R.iconst 16 dX1_perform_15 rfl ?_
    exact R.retI dX1_perform_16 rfl h
  · replace h := h.2 hc
    refine R.aload_n 8 dX1_perform_7 rfl rfl ?_
    refine R.iload_n 9 dX1_perform_8 rfl rfl ?_
    refine Rch.callv (sd_X1_isPlan _ _ _ h) dX1_perform_9 (lw_V q966 q968 qs54 q142 q969) dk_X1_isPlan rcX (by decide) (Nat.le_of_ble_eq_true rfl) rfl rfl (Nat.le_of_ble_eq_true rfl) (kI 12 rfl fun r3 w4 h => ?_) kN
    refine R.if_ne 17 15 dX1_perform_12 (by decide) rfl (fun hc => ?_) (fun hc => ?_)
    · replace h := h.1 hc
      refine R.iconst 18 dX1_perform_17 rfl ?_
      refine R.ist2n 19 dX1_perform_18 rfl (Nat.le_of_ble_eq_true rfl) rfl ?_
      obtain ⟨n5, h⟩ := h
      exact Rch.dropk (sl_X1_perform_19 Q _ n5 _ _ h) ⟨rfl, ⟨rfl, ⟨rfl, trivial⟩⟩⟩
    · replace h := h.2 hc
      refine R.iconst 16 dX1_perform_15 rfl ?_
      exact R.retI dX1_perform_16 rfl h

abbrev k_X1_isWith : MK := ("FrostBox", cX1_isWith, 3, (some .boolean), [], "isWith")
def wp_X1_isWith (l1 : Int32) (l2 : Int32) (w : Wd) (Q : Int32 → Wd → Prop) : Prop := (l1 = l2 → Q (iz 1) w) ∧ (¬ l1 = l2 → wp_X1_goesWith l1 w (fun r1 w2 => (r1 = l2 → Q (iz 1) w2) ∧ (¬ r1 = l2 → wp_X1_goesWith l2 w2 (fun r3 w4 => (¬ r3 = l1 → Q (iz 0) w4) ∧ (r3 = l1 → Q (iz 1) w4)))))
set_option maxRecDepth 100000 in
set_option maxHeartbeats 4000000 in
theorem sd_X1_isWith {γ : GG} (l1 : Int32) (l2 : Int32) (w : Wd) (Q : Int32 → Wd → Prop) : wp_X1_isWith l1 l2 w Q → Ctr γ 3 yX1_isWith (ws_ yX1_isWith cX1_isWith 3 (some .boolean)) [.ref 1, .int l1, .int l2] w (qI Q) xN := by
  intro h
  unfold wp_X1_isWith at h
  refine Ctr.of (μ := k_X1_isWith) (by decide) rfl rfl rfl (Nat.le_of_ble_eq_true rfl) ⟨0, ?_⟩
  have es : lva [.ref 1, .int l1, .int l2] ++ List.replicate 0 none = [some (.ref 1), some (.int l1), some (.int l2)] := rfl
  rw [es]
  refine R.iload_n 1 dX1_isWith_0 rfl rfl ?_
  refine R.iload_n 2 dX1_isWith_1 rfl rfl ?_
  refine R.icmp_eq 23 5 dX1_isWith_2 (by decide) rfl (fun hc => ?_) (fun hc => ?_)
  · replace h := h.1 hc
    refine R.iconst 24 dX1_isWith_23 rfl ?_
    refine R.goto 28 dX1_isWith_24 (by decide) ?_
    exact R.retZ dX1_isWith_28 rfl zok1 h
  · replace h := h.2 hc
    refine R.aload_n 6 dX1_isWith_5 rfl rfl ?_
    refine R.iload_n 7 dX1_isWith_6 rfl rfl ?_
    refine Rch.callv (sd_X1_goesWith _ _ _ h) dX1_isWith_7 (lw_V q749 q751 qs28 q142 q752) dk_X1_goesWith rcX (by decide) (Nat.le_of_ble_eq_true rfl) rfl rfl (Nat.le_of_ble_eq_true rfl) (kI 10 rfl fun r1 w2 h => ?_) kN
    refine R.iload_n 11 dX1_isWith_10 rfl rfl ?_
    refine R.icmp_eq 23 14 dX1_isWith_11 (by decide) rfl (fun hc => ?_) (fun hc => ?_)
    · replace h := h.1 hc
      refine R.iconst 24 dX1_isWith_23 rfl ?_
      refine R.goto 28 dX1_isWith_24 (by decide) ?_
      exact R.retZ dX1_isWith_28 rfl zok1 h
    · replace h := h.2 hc
      refine R.aload_n 15 dX1_isWith_14 rfl rfl ?_
      refine R.iload_n 16 dX1_isWith_15 rfl rfl ?_
      refine Rch.callv (sd_X1_goesWith _ _ _ h) dX1_isWith_16 (lw_V q749 q751 qs28 q142 q752) dk_X1_goesWith rcX (by decide) (Nat.le_of_ble_eq_true rfl) rfl rfl (Nat.le_of_ble_eq_true rfl) (kI 19 rfl fun r3 w4 h => ?_) kN
      refine R.iload_n 20 dX1_isWith_19 rfl rfl ?_
      refine R.icmp_ne 27 23 dX1_isWith_20 (by decide) rfl (fun hc => ?_) (fun hc => ?_)
      · replace h := h.1 hc
        refine R.iconst 28 dX1_isWith_27 rfl ?_
        exact R.retZ dX1_isWith_28 rfl zok0 h
      · replace h := h.2 hc
        refine R.iconst 24 dX1_isWith_23 rfl ?_
        refine R.goto 28 dX1_isWith_24 (by decide) ?_
        exact R.retZ dX1_isWith_28 rfl zok1 h
