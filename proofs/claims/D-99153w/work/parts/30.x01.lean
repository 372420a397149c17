set_option maxRecDepth 100000

abbrev k_X1_item : MK := ("FrostBox", cX1_item, 2, (some .int), [], "item")
def wp_X1_item (l0 : Int32) (l1 : Int32) (w : Wd) (Q : Int32 → Wd → Prop) : Prop := (¬ l0 = (iz 115) → (¬ l0 = (iz 107) → 4 < 6 ∧ wp_J2_indexOf 4 l1 w (fun r1 w2 => Q r1 w2)) ∧ (l0 = (iz 107) → 3 < 6 ∧ wp_J2_indexOf 3 l1 w (fun r3 w4 => Q r3 w4))) ∧ (l0 = (iz 115) → 2 < 6 ∧ wp_J2_indexOf 2 l1 w (fun r5 w6 => Q r5 w6))
set_option maxRecDepth 100000 in
set_option maxHeartbeats 4000000 in
theorem sd_X1_item {γ : GG} (l0 : Int32) (l1 : Int32) (w : Wd) (Q : Int32 → Wd → Prop) : wp_X1_item l0 l1 w Q → Ctr γ 5 yX1_item (ws_ yX1_item cX1_item 2 (some .int)) [.int l0, .int l1] w (qI Q) xN := by
  intro h
  unfold wp_X1_item at h
  refine Ctr.of (μ := k_X1_item) (by decide) rfl rfl rfl (Nat.le_of_ble_eq_true rfl) ⟨0, ?_⟩
  have es : lva [.int l0, .int l1] ++ List.replicate 0 none = [some (.int l0), some (.int l1)] := rfl
  rw [es]
  refine R.iload_n 1 dX1_item_0 rfl rfl ?_
  refine R.bipush 3 dX1_item_1 rfl (by decide +kernel) ?_
  refine R.icmp_ne 11 6 dX1_item_3 (by decide) rfl (fun hc => ?_) (fun hc => ?_)
  · replace h := h.1 hc
    refine R.iload_n 12 dX1_item_11 rfl rfl ?_
    refine R.bipush 14 dX1_item_12 rfl (by decide +kernel) ?_
    refine R.icmp_ne 22 17 dX1_item_14 (by decide) rfl (fun hc => ?_) (fun hc => ?_)
    · replace h := h.1 hc
      refine R.ldcS (i := 4) 24 dX1_item_22 rfl (List.mem_of_getElem? (i := 4) rfl) ?_
      refine R.iload_n 25 dX1_item_24 rfl rfl ?_
      obtain ⟨h6, h⟩ := h
      refine Rch.callv (sd_J2_indexOf _ _ _ _ h) dX1_item_25 (lw_V q395 q396 q397 q147 q398) dk_J2_indexOf (rcS 4 h6) (by decide) (Nat.le_of_ble_eq_true rfl) rfl rfl (Nat.le_of_ble_eq_true rfl) (kI 28 rfl fun r1 w2 h => ?_) kN
      exact R.retI dX1_item_28 rfl h
    · replace h := h.2 hc
      refine R.ldcS (i := 3) 19 dX1_item_17 rfl (List.mem_of_getElem? (i := 3) rfl) ?_
      refine R.goto 24 dX1_item_19 (by decide) ?_
      refine R.iload_n 25 dX1_item_24 rfl rfl ?_
      obtain ⟨h6, h⟩ := h
      refine Rch.callv (sd_J2_indexOf _ _ _ _ h) dX1_item_25 (lw_V q395 q396 q397 q147 q398) dk_J2_indexOf (rcS 3 h6) (by decide) (Nat.le_of_ble_eq_true rfl) rfl rfl (Nat.le_of_ble_eq_true rfl) (kI 28 rfl fun r3 w4 h => ?_) kN
      exact R.retI dX1_item_28 rfl h
  · replace h := h.2 hc
    refine R.ldcS (i := 2) 8 dX1_item_6 rfl (List.mem_of_getElem? (i := 2) rfl) ?_
    refine R.goto 24 dX1_item_8 (by decide) ?_
    refine R.iload_n 25 dX1_item_24 rfl rfl ?_
    obtain ⟨h6, h⟩ := h
    refine Rch.callv (sd_J2_indexOf _ _ _ _ h) dX1_item_25 (lw_V q395 q396 q397 q147 q398) dk_J2_indexOf (rcS 2 h6) (by decide) (Nat.le_of_ble_eq_true rfl) rfl rfl (Nat.le_of_ble_eq_true rfl) (kI 28 rfl fun r5 w6 h => ?_) kN
    exact R.retI dX1_item_28 rfl h

abbrev k_X1_has : MK := ("FrostBox", cX1_has, 2, (some .boolean), [], "has")
def wp_X1_has (l0 : Int32) (l1 : Int32) (w : Wd) (Q : Int32 → Wd → Prop) : Prop := (¬ ((l0 >>> (l1 &&& 31)) &&& (iz 1)) = (iz 1) → Q (iz 0) w) ∧ (((l0 >>> (l1 &&& 31)) &&& (iz 1)) = (iz 1) → Q (iz 1) w)
set_option maxRecDepth 100000 in
set_option maxHeartbeats 4000000 in
theorem sd_X1_has {γ : GG} (l0 : Int32) (l1 : Int32) (w : Wd) (Q : Int32 → Wd → Prop) : wp_X1_has l0 l1 w Q → Ctr γ 1 yX1_has (ws_ yX1_has cX1_has 2 (some .boolean)) [.int l0, .int l1] w (qI Q) xN := by
  intro h
  unfold wp_X1_has at h
  refine Ctr.of (μ := k_X1_has) (by decide) rfl rfl rfl (Nat.le_of_ble_eq_true rfl) ⟨0, ?_⟩
  have es : lva [.int l0, .int l1] ++ List.replicate 0 none = [some (.int l0), some (.int l1)] := rfl
  rw [es]
  refine R.iload_n 1 dX1_has_0 rfl rfl ?_
  refine R.iload_n 2 dX1_has_1 rfl rfl ?_
  refine R.ishr 3 dX1_has_2 rfl ?_
  refine R.iconst 4 dX1_has_3 rfl ?_
  refine R.iand 5 dX1_has_4 rfl ?_
  refine R.iconst 6 dX1_has_5 rfl ?_
  refine R.icmp_ne 13 9 dX1_has_6 (by decide) rfl (fun hc => ?_) (fun hc => ?_)
  · replace h := h.1 hc
    refine R.iconst 14 dX1_has_13 rfl ?_
    exact R.retZ dX1_has_14 rfl zok0 h
  · replace h := h.2 hc
    refine R.iconst 10 dX1_has_9 rfl ?_
    refine R.goto 14 dX1_has_10 (by decide) ?_
    exact R.retZ dX1_has_14 rfl zok1 h

abbrev k_X1_lowest : MK := ("FrostBox", cX1_lowest, 2, (some .int), [], "lowest")
def wp_X1_lowest (l0 : Int32) (l1 : Int32) (w : Wd) (Q : Int32 → Wd → Prop) : Prop := (l0.toInt = 107 → (l1 = (iz 1) → Q (iz 1) w) ∧ (¬ l1 = (iz 1) → (¬ l1 = (iz 2) → Q (iz 0) w) ∧ (l1 = (iz 2) → Q (iz 1) w))) ∧ (l0.toInt = 115 → (l1 = iz 0 → Q (iz 1) w) ∧ (¬ l1 = iz 0 → (¬ l1 = (iz 2) → Q (iz 0) w) ∧ (l1 = (iz 2) → Q (iz 1) w))) ∧ (¬ l0.toInt = 107 ∧ ¬ l0.toInt = 115 → (¬ l1 = (iz 1) → Q (iz 0) w) ∧ (l1 = (iz 1) → Q (iz 1) w))
set_option maxRecDepth 100000 in
set_option maxHeartbeats 4000000 in
theorem sd_X1_lowest {γ : GG} (l0 : Int32) (l1 : Int32) (w : Wd) (Q : Int32 → Wd → Prop) : wp_X1_lowest l0 l1 w Q → Ctr γ 1 yX1_lowest (ws_ yX1_lowest cX1_lowest 2 (some .int)) [.int l0, .int l1] w (qI Q) xN := by
  intro h
  unfold wp_X1_lowest at h
  refine Ctr.of (μ := k_X1_lowest) (by decide) rfl rfl rfl (Nat.le_of_ble_eq_true rfl) ⟨0, ?_⟩
  have es : lva [.int l0, .int l1] ++ List.replicate 0 none = [some (.int l0), some (.int l1)] := rfl
  rw [es]
  refine R.iload_n 1 dX1_lowest_0 rfl rfl ?_
  by_cases c0 : l0.toInt = 107
  · replace h := h.1 c0
    refine R.lsw (off := 42) 43 dX1_lowest_1 (by decide) (by rw [c0]; rfl) (by decide) ?_
    refine R.iload_n 44 dX1_lowest_43 rfl rfl ?_
    refine R.iconst 45 dX1_lowest_44 rfl ?_
    refine R.icmp_eq 53 48 dX1_lowest_45 (by decide) rfl (fun hc => ?_) (fun hc => ?_)
    · replace h := h.1 hc
      refine R.iconst 54 dX1_lowest_53 rfl ?_
      refine R.goto 58 dX1_lowest_54 (by decide) ?_
      exact R.retI dX1_lowest_58 rfl h
    · replace h := h.2 hc
      refine R.iload_n 49 dX1_lowest_48 rfl rfl ?_
      refine R.iconst 50 dX1_lowest_49 rfl ?_
      refine R.icmp_ne 57 53 dX1_lowest_50 (by decide) rfl (fun hc => ?_) (fun hc => ?_)
      · replace h := h.1 hc
        refine R.iconst 58 dX1_lowest_57 rfl ?_
        exact R.retI dX1_lowest_58 rfl h
      · replace h := h.2 hc
        refine R.iconst 54 dX1_lowest_53 rfl ?_
        refine R.goto 58 dX1_lowest_54 (by decide) ?_
        exact R.retI dX1_lowest_58 rfl h
  replace h := h.2
  by_cases c1 : l0.toInt = 115
  · replace h := h.1 c1
    refine R.lsw (off := 27) 28 dX1_lowest_1 (by decide) (by rw [c1]; rfl) (by decide) ?_
    refine R.iload_n 29 dX1_lowest_28 rfl rfl ?_
    refine R.if_eq 37 32 dX1_lowest_29 (by decide) rfl (fun hc => ?_) (fun hc => ?_)
    · replace h := h.1 hc
      refine R.iconst 38 dX1_lowest_37 rfl ?_
      refine R.goto 42 dX1_lowest_38 (by decide) ?_
      exact R.retI dX1_lowest_42 rfl h
    · replace h := h.2 hc
      refine R.iload_n 33 dX1_lowest_32 rfl rfl ?_
      refine R.iconst 34 dX1_lowest_33 rfl ?_
      refine R.icmp_ne 41 37 dX1_lowest_34 (by decide) rfl (fun hc => ?_) (fun hc => ?_)
      · replace h := h.1 hc
        refine R.iconst 42 dX1_lowest_41 rfl ?_
        exact R.retI dX1_lowest_42 rfl h
      · replace h := h.2 hc
        refine R.iconst 38 dX1_lowest_37 rfl ?_
        refine R.goto 42 dX1_lowest_38 (by decide) ?_
        exact R.retI dX1_lowest_42 rfl h
  replace h := h.2
  replace h := h ⟨c0, c1⟩
  refine R.lsw (off := 58) 59 dX1_lowest_1 (by decide) (lsw_d2 c0 c1) (by decide) ?_
  refine R.iload_n 60 dX1_lowest_59 rfl rfl ?_
  refine R.iconst 61 dX1_lowest_60 rfl ?_
  refine R.icmp_ne 68 64 dX1_lowest_61 (by decide) rfl (fun hc => ?_) (fun hc => ?_)
  · replace h := h.1 hc
    refine R.iconst 69 dX1_lowest_68 rfl ?_
    exact R.retI dX1_lowest_69 rfl h
  · replace h := h.2 hc
    refine R.iconst 65 dX1_lowest_64 rfl ?_
    refine R.goto 69 dX1_lowest_65 (by decide) ?_
    exact R.retI dX1_lowest_69 rfl h

abbrev k_X1_highest : MK := ("FrostBox", cX1_highest, 2, (some .int), [], "highest")
def wp_X1_highest (l0 : Int32) (l1 : Int32) (w : Wd) (Q : Int32 → Wd → Prop) : Prop := (l0.toInt = 107 → (¬ l1 = iz 0 → (¬ l1 = (iz 2) → (¬ l1 = (iz 4) → Q (iz 9) w) ∧ (l1 = (iz 4) → Q (iz 6) w)) ∧ (l1 = (iz 2) → Q (iz 36) w)) ∧ (l1 = iz 0 → Q (iz 5) w)) ∧ (l0.toInt = 115 → (¬ l1 = (iz 1) → (¬ l1 = (iz 3) → Q (iz 99) w) ∧ (l1 = (iz 3) → Q (iz 5) w)) ∧ (l1 = (iz 1) → Q (iz 24) w)) ∧ (¬ l0.toInt = 107 ∧ ¬ l0.toInt = 115 → (¬ l1 = iz 0 → (¬ l1 = (iz 1) → (¬ l1 = (iz 2) → Q (iz 1) w) ∧ (l1 = (iz 2) → Q (iz 99) w)) ∧ (l1 = (iz 1) → Q (iz 9) w)) ∧ (l1 = iz 0 → Q (iz 5) w))
set_option maxRecDepth 100000 in
set_option maxHeartbeats 4000000 in
theorem sd_X1_highest {γ : GG} (l0 : Int32) (l1 : Int32) (w : Wd) (Q : Int32 → Wd → Prop) : wp_X1_highest l0 l1 w Q → Ctr γ 1 yX1_highest (ws_ yX1_highest cX1_highest 2 (some .int)) [.int l0, .int l1] w (qI Q) xN := by
  intro h
  unfold wp_X1_highest at h
  refine Ctr.of (μ := k_X1_highest) (by decide) rfl rfl rfl (Nat.le_of_ble_eq_true rfl) ⟨0, ?_⟩
  have es : lva [.int l0, .int l1] ++ List.replicate 0 none = [some (.int l0), some (.int l1)] := rfl
  rw [es]
  refine R.iload_n 1 dX1_highest_0 rfl rfl ?_
  by_cases c0 : l0.toInt = 107
  · replace h := h.1 c0
    refine R.lsw (off := 49) 50 dX1_highest_1 (by decide) (by rw [c0]; rfl) (by decide) ?_
    refine R.iload_n 51 dX1_highest_50 rfl rfl ?_
    refine R.if_ne 58 54 dX1_highest_51 (by decide) rfl (fun hc => ?_) (fun hc => ?_)
    · replace h := h.1 hc
      refine R.iload_n 59 dX1_highest_58 rfl rfl ?_
      refine R.iconst 60 dX1_highest_59 rfl ?_
      refine R.icmp_ne 68 63 dX1_highest_60 (by decide) rfl (fun hc => ?_) (fun hc => ?_)
      · replace h := h.1 hc
        refine R.iload_n 69 dX1_highest_68 rfl rfl ?_
        refine R.iconst 70 dX1_highest_69 rfl ?_
        refine R.icmp_ne 78 73 dX1_highest_70 (by decide) rfl (fun hc => ?_) (fun hc => ?_)
        · replace h := h.1 hc
          refine R.bipush 80 dX1_highest_78 rfl (by decide +kernel) ?_
          exact R.retI dX1_highest_80 rfl h
        · replace h := h.2 hc
          refine R.bipush 75 dX1_highest_73 rfl (by decide +kernel) ?_
          refine R.goto 80 dX1_highest_75 (by decide) ?_
          exact R.retI dX1_highest_80 rfl h
      · replace h := h.2 hc
        refine R.bipush 65 dX1_highest_63 rfl (by decide +kernel) ?_
        refine R.goto 80 dX1_highest_65 (by decide) ?_
        exact R.retI dX1_highest_80 rfl h
    · replace h := h.2 hc
      refine R.iconst 55 dX1_highest_54 rfl ?_
      refine R.goto 80 dX1_highest_55 (by decide) ?_
      exact R.retI dX1_highest_80 rfl h
  replace h := h.2
  by_cases c1 : l0.toInt = 115
  · replace h := h.1 c1
    refine R.lsw (off := 27) 28 dX1_highest_1 (by decide) (by rw [c1]; rfl) (by decide) ?_
    refine R.iload_n 29 dX1_highest_28 rfl rfl ?_
    refine R.iconst 30 dX1_highest_29 rfl ?_
    refine R.icmp_ne 38 33 dX1_highest_30 (by decide) rfl (fun hc => ?_) (fun hc => ?_)
    · replace h := h.1 hc
      refine R.iload_n 39 dX1_highest_38 rfl rfl ?_
      refine R.iconst 40 dX1_highest_39 rfl ?_
      refine R.icmp_ne 47 43 dX1_highest_40 (by decide) rfl (fun hc => ?_) (fun hc => ?_)
      · replace h := h.1 hc
        refine R.bipush 49 dX1_highest_47 rfl (by decide +kernel) ?_
        exact R.retI dX1_highest_49 rfl h
      · replace h := h.2 hc
        refine R.iconst 44 dX1_highest_43 rfl ?_
        refine R.goto 49 dX1_highest_44 (by decide) ?_
        exact R.retI dX1_highest_49 rfl h
    · replace h := h.2 hc
      refine R.bipush 35 dX1_highest_33 rfl (by decide +kernel) ?_
      refine R.goto 49 dX1_highest_35 (by decide) ?_
      exact R.retI dX1_highest_49 rfl h
  replace h := h.2
  replace h := h ⟨c0, c1⟩
  refine R.lsw (off := 80) 81 dX1_highest_1 (by decide) (lsw_d2 c0 c1) (by decide) ?_
  refine R.iload_n 82 dX1_highest_81 rfl rfl ?_
  refine R.if_ne 89 85 dX1_highest_82 (by decide) rfl (fun hc => ?_) (fun hc => ?_)
  · replace h := h.1 hc
    refine R.iload_n 90 dX1_highest_89 rfl rfl ?_
    refine R.iconst 91 dX1_highest_90 rfl ?_
    refine R.icmp_ne 99 94 dX1_highest_91 (by decide) rfl (fun hc => ?_) (fun hc => ?_)
    · replace h := h.1 hc
      refine R.iload_n 100 dX1_highest_99 rfl rfl ?_
      refine R.iconst 101 dX1_highest_100 rfl ?_
      refine R.icmp_ne 109 104 dX1_highest_101 (by decide) rfl (fun hc => ?_) (fun hc => ?_)
      · replace h := h.1 hc
        refine R.iconst 110 dX1_highest_109 rfl ?_
        exact R.retI dX1_highest_110 rfl h
      · replace h := h.2 hc
        refine R.bipush 106 dX1_highest_104 rfl (by decide +kernel) ?_
        refine R.goto 110 dX1_highest_106 (by decide) ?_
        exact R.retI dX1_highest_110 rfl h
    · replace h := h.2 hc
      refine R.bipush 96 dX1_highest_94 rfl (by decide +kernel) ?_
      refine R.goto 110 dX1_highest_96 (by decide) ?_
      exact R.retI dX1_highest_110 rfl h
  · replace h := h.2 hc
    refine R.iconst 86 dX1_highest_85 rfl ?_
    refine R.goto 110 dX1_highest_86 (by decide) ?_
    exact R.retI dX1_highest_110 rfl h

abbrev k_X1_in : MK := ("FrostBox", cX1_in, 3, (some .boolean), [], "in")
def wp_X1_in (l0 : Int32) (l1 : Int32) (l2 : Int32) (w : Wd) (Q : Int32 → Wd → Prop) : Prop := (l0 < l1 → Q (iz 0) w) ∧ (¬ l0 < l1 → (l2 < l0 → Q (iz 0) w) ∧ (¬ l2 < l0 → Q (iz 1) w))
set_option maxRecDepth 100000 in
set_option maxHeartbeats 4000000 in
theorem sd_X1_in {γ : GG} (l0 : Int32) (l1 : Int32) (l2 : Int32) (w : Wd) (Q : Int32 → Wd → Prop) : wp_X1_in l0 l1 l2 w Q → Ctr γ 1 yX1_in (ws_ yX1_in cX1_in 3 (some .boolean)) [.int l0, .int l1, .int l2] w (qI Q) xN := by
  intro h
  unfold wp_X1_in at h
  refine Ctr.of (μ := k_X1_in) (by decide) rfl rfl rfl (Nat.le_of_ble_eq_true rfl) ⟨0, ?_⟩
  have es : lva [.int l0, .int l1, .int l2] ++ List.replicate 0 none = [some (.int l0), some (.int l1), some (.int l2)] := rfl
  rw [es]
  refine R.iload_n 1 dX1_in_0 rfl rfl ?_
  refine R.iload_n 2 dX1_in_1 rfl rfl ?_
  refine R.icmp_lt 14 5 dX1_in_2 (by decide) rfl (fun hc => ?_) (fun hc => ?_)
  · replace h := h.1 hc
    refine R.iconst 15 dX1_in_14 rfl ?_
    exact R.retZ dX1_in_15 rfl zok0 h
  · replace h := h.2 hc
    refine R.iload_n 6 dX1_in_5 rfl rfl ?_
    refine R.iload_n 7 dX1_in_6 rfl rfl ?_
    refine R.icmp_gt 14 10 dX1_in_7 (by decide) rfl (fun hc => ?_) (fun hc => ?_)
    · replace h := h.1 hc
      refine R.iconst 15 dX1_in_14 rfl ?_
      exact R.retZ dX1_in_15 rfl zok0 h
    · replace h := h.2 hc
      refine R.iconst 11 dX1_in_10 rfl ?_
      refine R.goto 15 dX1_in_11 (by decide) ?_
      exact R.retZ dX1_in_15 rfl zok1 h

abbrev k_X1_number : MK := ("FrostBox", cX1_number, 4, (some .int), [], "number")
def b_X1_number_78 (Q : Int32 → Wd → Prop) (X : Wd → Prop) (l1 : Int32) (l2 : Int32) (l3 : Int32) (t0 : Int32) (w : Wd) : Prop := wp_X1_need t0 w (fun w2 => wp_X1_in l3 l1 l2 w2 (fun r3 w4 => (¬ r3 = iz 0 → Q l3 w4) ∧ (r3 = iz 0 → ∀ w5, w5 = sI w4 13 ((gI w4 13) - (iz 1)) → X w5))) X
def b_X1_number_62 (Q : Int32 → Wd → Prop) (X : Wd → Prop) (l1 : Int32) (l2 : Int32) (l3 : Int32) (w : Wd) : Prop := wp_X1_there w (fun r1 w2 => wp_X1_isDigit r1 w2 (fun r3 w4 => (¬ r3 = iz 0 → b_X1_number_78 Q X l1 l2 l3 (iz 0) w4) ∧ (r3 = iz 0 → b_X1_number_78 Q X l1 l2 l3 (iz 1) w4)))
def wp_X1_number (l1 : Int32) (l2 : Int32) (w : Wd) (Q : Int32 → Wd → Prop) (X : Wd → Prop) : Prop := wp_X1_look w (fun r1 w2 => wp_X1_isDigit r1 w2 (fun r3 w4 => wp_X1_need r3 w4 (fun w6 => wp_X1_there w6 (fun r7 w8 => ∀ w9, w9 = sI w8 13 ((gI w8 13) + (iz 1)) → wp_X1_there w9 (fun r10 w11 => wp_X1_isDigit r10 w11 (fun r12 w13 => (r12 = iz 0 → b_X1_number_62 Q X l1 l2 (r7 - (iz 48)) w13) ∧ (¬ r12 = iz 0 → wp_X1_there w13 (fun r14 w15 => ∀ w16, w16 = sI w15 13 ((gI w15 13) + (iz 1)) → b_X1_number_62 Q X l1 l2 ((((iz 10) * (r7 - (iz 48))) + r14) - (iz 48)) w16)))))) X))
set_option maxRecDepth 100000 in
set_option maxHeartbeats 4000000 in
theorem s_X1_number_78 {γ : GG} (Q : Int32 → Wd → Prop) (X : Wd → Prop) (l1 : Int32) (l2 : Int32) (l3 : Int32) (t0 : Int32) : ∀ (w : Wd), b_X1_number_78 Q X l1 l2 l3 t0 w → Rch γ 2 k_X1_number 78 [some (.ref 1), some (.int l1), some (.int l2), some (.int l3)] [.int t0, .ref 1] w (qI Q) (xE "FrostBox$Fault" X) := by
  intro w h
  unfold b_X1_number_78 at h
  refine Rch.callv (sd_X1_need _ _ _ _ h) dX1_number_78 (lw_V q481 q483 qs5 q142 q484) dk_X1_need rcX (by decide) (Nat.le_of_ble_eq_true rfl) rfl rfl (Nat.le_of_ble_eq_true rfl) (kV 81 rfl fun w2 h => ?_) (kP rfl)
  refine R.iload_n 82 dX1_number_81 rfl rfl ?_
  refine R.iload_n 83 dX1_number_82 rfl rfl ?_
  refine R.iload_n 84 dX1_number_83 rfl rfl ?_
  refine Rch.calls (sd_X1_in _ _ _ _ _ h) dX1_number_84 (lw_S q700 q701 q142 q702) dk_X1_in (by decide) (Nat.le_of_ble_eq_true rfl) rfl rfl (Nat.le_of_ble_eq_true rfl) (kI 87 rfl fun r3 w4 h => ?_) kN
  refine R.if_ne 105 90 dX1_number_87 (by decide) rfl (fun hc => ?_) (fun hc => ?_)
  · replace h := h.1 hc
    refine R.iload_n 106 dX1_number_105 rfl rfl ?_
    exact R.retI dX1_number_106 rfl h
  · replace h := h.2 hc
    refine R.aload_n 91 dX1_number_90 rfl rfl ?_
    refine R.dupR 92 dX1_number_91 rfl ?_
    refine gf_13 95 dX1_number_92 rfl rfl ?_
    refine R.iconst 96 dX1_number_95 rfl ?_
    refine R.isub 97 dX1_number_96 rfl ?_
    replace h := h _ rfl
    refine pf_13 _ 100 dX1_number_97 rfl rfl ?_
    refine R.aload_n 101 dX1_number_100 rfl rfl ?_
    refine gf_10 104 dX1_number_101 rfl rfl ?_
    refine R.throwF dX1_number_104 ?_
    exact RchX.out (fun x hx => nomatch hx) ⟨rfl, h⟩
set_option maxRecDepth 100000 in
set_option maxHeartbeats 4000000 in
theorem s_X1_number_62 {γ : GG} (Q : Int32 → Wd → Prop) (X : Wd → Prop) (l1 : Int32) (l2 : Int32) (l3 : Int32) : ∀ (w : Wd), b_X1_number_62 Q X l1 l2 l3 w → Rch γ 2 k_X1_number 62 [some (.ref 1), some (.int l1), some (.int l2), some (.int l3)] [] w (qI Q) (xE "FrostBox$Fault" X) := by
  intro w h
  unfold b_X1_number_62 at h
  refine R.aload_n 63 dX1_number_62 rfl rfl ?_
  refine R.aload_n 64 dX1_number_63 rfl rfl ?_
  refine Rch.callv (sd_X1_there _ _ h) dX1_number_64 (lw_V q677 q679 qs18 q142 q680) dk_X1_there rcX (by decide) (Nat.le_of_ble_eq_true rfl) rfl rfl (Nat.le_of_ble_eq_true rfl) (kI 67 rfl fun r1 w2 h => ?_) kN
  refine Rch.calls (sd_X1_isDigit _ _ _ h) dX1_number_67 (lw_S q519 q520 q142 q521) dk_X1_isDigit (by decide) (Nat.le_of_ble_eq_true rfl) rfl rfl (Nat.le_of_ble_eq_true rfl) (kI 70 rfl fun r3 w4 h => ?_) kN
  refine R.if_ne 77 73 dX1_number_70 (by decide) rfl (fun hc => ?_) (fun hc => ?_)
  · replace h := h.1 hc
    refine R.iconst 78 dX1_number_77 rfl ?_
    exact Rch.dropk (s_X1_number_78 Q X _ _ _ _ _ h) ⟨rfl, ⟨rfl, ⟨rfl, ⟨rfl, trivial⟩⟩⟩⟩
  · replace h := h.2 hc
    refine R.iconst 74 dX1_number_73 rfl ?_
    refine R.goto 78 dX1_number_74 (by decide) ?_
    exact Rch.dropk (s_X1_number_78 Q X _ _ _ _ _ h) ⟨rfl, ⟨rfl, ⟨rfl, ⟨rfl, trivial⟩⟩⟩⟩
set_option maxRecDepth 100000 in
set_option maxHeartbeats 4000000 in
theorem sd_X1_number {γ : GG} (l1 : Int32) (l2 : Int32) (w : Wd) (Q : Int32 → Wd → Prop) (X : Wd → Prop) : wp_X1_number l1 l2 w Q X → Ctr γ 2 yX1_number (ws_ yX1_number cX1_number 4 (some .int)) [.ref 1, .int l1, .int l2] w (qI Q) (xE "FrostBox$Fault" X) := by
  intro h
  unfold wp_X1_number at h
  refine Ctr.of (μ := k_X1_number) (by decide) rfl rfl rfl (Nat.le_of_ble_eq_true rfl) ⟨1, ?_⟩
  have es : lva [.ref 1, .int l1, .int l2] ++ List.replicate 1 none = [some (.ref 1), some (.int l1), some (.int l2), none] := rfl
  rw [es]
  refine R.aload_n 1 dX1_number_0 rfl rfl ?_
  refine R.aload_n 2 dX1_number_1 rfl rfl ?_
  refine Rch.callv (sd_X1_look _ _ h) dX1_number_2 (lw_V q390 q392 qs4 q142 q393) dk_X1_look rcX (by decide) (Nat.le_of_ble_eq_true rfl) rfl rfl (Nat.le_of_ble_eq_true rfl) (kI 5 rfl fun r1 w2 h => ?_) kN
  refine Rch.calls (sd_X1_isDigit _ _ _ h) dX1_number_5 (lw_S q519 q520 q142 q521) dk_X1_isDigit (by decide) (Nat.le_of_ble_eq_true rfl) rfl rfl (Nat.le_of_ble_eq_true rfl) (kI 8 rfl fun r3 w4 h => ?_) kN
  refine Rch.callv (sd_X1_need _ _ _ _ h) dX1_number_8 (lw_V q481 q483 qs5 q142 q484) dk_X1_need rcX (by decide) (Nat.le_of_ble_eq_true rfl) rfl rfl (Nat.le_of_ble_eq_true rfl) (kV 11 rfl fun w6 h => ?_) (kP rfl)
  refine R.aload_n 12 dX1_number_11 rfl rfl ?_
  refine Rch.callv (sd_X1_there _ _ h) dX1_number_12 (lw_V q677 q679 qs18 q142 q680) dk_X1_there rcX (by decide) (Nat.le_of_ble_eq_true rfl) rfl rfl (Nat.le_of_ble_eq_true rfl) (kI 15 rfl fun r7 w8 h => ?_) kN
  refine R.bipush 17 dX1_number_15 rfl (by decide +kernel) ?_
  refine R.isub 18 dX1_number_17 rfl ?_
  refine R.ist3n 19 dX1_number_18 rfl (Nat.le_of_ble_eq_true rfl) rfl ?_
  refine R.aload_n 20 dX1_number_19 rfl rfl ?_
  refine R.dupR 21 dX1_number_20 rfl ?_
  refine gf_13 24 dX1_number_21 rfl rfl ?_
  refine R.iconst 25 dX1_number_24 rfl ?_
  refine R.iadd 26 dX1_number_25 rfl ?_
  replace h := h _ rfl
  refine pf_13 _ 29 dX1_number_26 rfl rfl ?_
  refine R.aload_n 30 dX1_number_29 rfl rfl ?_
  refine Rch.callv (sd_X1_there _ _ h) dX1_number_30 (lw_V q677 q679 qs18 q142 q680) dk_X1_there rcX (by decide) (Nat.le_of_ble_eq_true rfl) rfl rfl (Nat.le_of_ble_eq_true rfl) (kI 33 rfl fun r10 w11 h => ?_) kN
  refine Rch.calls (sd_X1_isDigit _ _ _ h) dX1_number_33 (lw_S q519 q520 q142 q521) dk_X1_isDigit (by decide) (Nat.le_of_ble_eq_true rfl) rfl rfl (Nat.le_of_ble_eq_true rfl) (kI 36 rfl fun r12 w13 h => ?_) kN
  refine R.if_eq 62 39 dX1_number_36 (by decide) rfl (fun hc => ?_) (fun hc => ?_)
  · replace h := h.1 hc
    exact Rch.dropk (s_X1_number_62 Q X _ _ _ _ h) ⟨rfl, ⟨rfl, ⟨rfl, ⟨rfl, trivial⟩⟩⟩⟩
  · replace h := h.2 hc
    refine R.bipush 41 dX1_number_39 rfl (by decide +kernel) ?_
    refine R.iload_n 42 dX1_number_41 rfl rfl ?_
    refine R.imul 43 dX1_number_42 rfl ?_
    refine R.aload_n 44 dX1_number_43 rfl rfl ?_
    refine Rch.callv (sd_X1_there _ _ h) dX1_number_44 (lw_V q677 q679 qs18 q142 q680) dk_X1_there rcX (by decide) (Nat.le_of_ble_eq_true rfl) rfl rfl (Nat.le_of_ble_eq_true rfl) (kI 47 rfl fun r14 w15 h => ?_) kN
    refine R.iadd 48 dX1_number_47 rfl ?_
    refine R.bipush 50 dX1_number_48 rfl (by decide +kernel) ?_
    refine R.isub 51 dX1_number_50 rfl ?_
    refine R.ist3n 52 dX1_number_51 rfl (Nat.le_of_ble_eq_true rfl) rfl ?_
    refine R.aload_n 53 dX1_number_52 rfl rfl ?_
    refine R.dupR 54 dX1_number_53 rfl ?_
    refine gf_13 57 dX1_number_54 rfl rfl ?_
    refine R.iconst 58 dX1_number_57 rfl ?_
    refine R.iadd 59 dX1_number_58 rfl ?_
    replace h := h _ rfl
    refine pf_13 _ 62 dX1_number_59 rfl rfl ?_
    exact Rch.dropk (s_X1_number_62 Q X _ _ _ _ h) ⟨rfl, ⟨rfl, ⟨rfl, ⟨rfl, trivial⟩⟩⟩⟩

abbrev k_X1_items : MK := ("FrostBox", cX1_items, 7, none, [], "items")
def wl_X1_items_31 (Q : Wd → Prop) (X : Wd → Prop) (l1 : Int32) (l2 : Nat) (l3 : Int32) (R31 : Int32 → Wd → Prop) (l5 : Int32) (w : Wd) : Prop := wp_X1_look w (fun r1 w2 => (r1 = (iz (-1)) → Q w2) ∧ (¬ r1 = (iz (-1)) → wp_X1_there w2 (fun r3 w4 => wp_X1_item l1 r3 w4 (fun r5 w6 => (r5 < iz 0 → Q w6) ∧ (¬ r5 < iz 0 → wp_X1_there w6 (fun r7 w8 => wp_X1_item l1 r7 w8 (fun r9 w10 => wp_X1_has l5 r9 w10 (fun r11 w12 => (¬ r11 = iz 0 → Q w12) ∧ (r11 = iz 0 → wp_X1_there w12 (fun r13 w14 => wp_X1_item l1 r13 w14 (fun r15 w16 => ∀ w17, w17 = sI w16 13 ((gI w16 13) + (iz 1)) → wp_X1_lowest l1 r15 w17 (fun r18 w19 => wp_X1_highest l1 r15 w19 (fun r20 w21 => wp_X1_number r18 r20 w21 (fun r22 w23 => inA l2 (l3 + r15) ∧ (∀ w24, w24 = sA w23 l2 (l3 + r15).toInt r22 → R31 (l5 ||| ((iz 1) <<< (r15 &&& 31))) w24)) X)))))))))))))
def lp_X1_items_31 (Q : Wd → Prop) (X : Wd → Prop) (l1 : Int32) (l2 : Nat) (l3 : Int32) : Nat → Int32 → Wd → Prop
  | 0, _, _ => False
  | n + 1, l5, w => wl_X1_items_31 Q X l1 l2 l3 (lp_X1_items_31 Q X l1 l2 l3 n) l5 w
def wl_X1_items_3 (Q : Wd → Prop) (X : Wd → Prop) (l1 : Int32) (l2 : Nat) (l3 : Int32) (l4 : Int32) (R3 : Int32 → Wd → Prop) (l5 : Int32) (w : Wd) : Prop := (l4 ≤ l5 → ∃ n1, lp_X1_items_31 Q X l1 l2 l3 n1 (iz 0) w) ∧ (¬ l4 ≤ l5 → wp_X1_usual l1 l5 w (fun r2 w3 => inA l2 (l3 + l5) ∧ (∀ w4, w4 = sA w3 l2 (l3 + l5).toInt r2 → R3 (l5 + iz 1) w4)))
def lp_X1_items_3 (Q : Wd → Prop) (X : Wd → Prop) (l1 : Int32) (l2 : Nat) (l3 : Int32) (l4 : Int32) : Nat → Int32 → Wd → Prop
  | 0, _, _ => False
  | n + 1, l5, w => wl_X1_items_3 Q X l1 l2 l3 l4 (lp_X1_items_3 Q X l1 l2 l3 l4 n) l5 w
def wp_X1_items (l1 : Int32) (l2 : Nat) (l3 : Int32) (l4 : Int32) (w : Wd) (Q : Wd → Prop) (X : Wd → Prop) : Prop := ∃ n1, lp_X1_items_3 Q X l1 l2 l3 l4 n1 (iz 0) w
set_option maxRecDepth 100000 in
set_option maxHeartbeats 4000000 in
theorem sl_X1_items_31 {γ : GG} (Q : Wd → Prop) (X : Wd → Prop) (l1 : Int32) (l2 : Nat) (l3 : Int32) : ∀ (n : Nat) (l5 : Int32) (w : Wd), lp_X1_items_31 Q X l1 l2 l3 n l5 w → Rch γ 6 k_X1_items 31 [some (.ref 1), some (.int l1), some (.ref l2), some (.int l3), none, some (.int l5), none] [] w (qV Q) (xE "FrostBox$Fault" X) := by
  intro n
  induction n with
  | zero => intro _ _ h; exact h.elim
  | succ n hR31 =>
    intro l5 w h
    have h : wl_X1_items_31 Q X l1 l2 l3 (lp_X1_items_31 Q X l1 l2 l3 n) l5 w := h
    unfold wl_X1_items_31 at h
    refine R.aload_n 32 dX1_items_31 rfl rfl ?_
    refine Rch.callv (sd_X1_look _ _ h) dX1_items_32 (lw_V q390 q392 qs4 q142 q393) dk_X1_look rcX (by decide) (Nat.le_of_ble_eq_true rfl) rfl rfl (Nat.le_of_ble_eq_true rfl) (kI 35 rfl fun r1 w2 h => ?_) kN
    refine R.iconst 36 dX1_items_35 rfl ?_
    refine R.icmp_eq 120 39 dX1_items_36 (by decide) rfl (fun hc => ?_) (fun hc => ?_)
    · replace h := h.1 hc
      exact R.retV dX1_items_120 rfl h
    · replace h := h.2 hc
      refine R.iload_n 40 dX1_items_39 rfl rfl ?_
      refine R.aload_n 41 dX1_items_40 rfl rfl ?_
      refine Rch.callv (sd_X1_there _ _ h) dX1_items_41 (lw_V q677 q679 qs18 q142 q680) dk_X1_there rcX (by decide) (Nat.le_of_ble_eq_true rfl) rfl rfl (Nat.le_of_ble_eq_true rfl) (kI 44 rfl fun r3 w4 h => ?_) kN
      refine Rch.calls (sd_X1_item _ _ _ _ h) dX1_items_44 (lw_S q681 q682 q142 q683) dk_X1_item (by decide) (Nat.le_of_ble_eq_true rfl) rfl rfl (Nat.le_of_ble_eq_true rfl) (kI 47 rfl fun r5 w6 h => ?_) kN
      refine R.if_lt 120 50 dX1_items_47 (by decide) rfl (fun hc => ?_) (fun hc => ?_)
      · replace h := h.1 hc
        exact R.retV dX1_items_120 rfl h
      · replace h := h.2 hc
        refine R.iload 52 dX1_items_50 rfl rfl ?_
        refine R.iload_n 53 dX1_items_52 rfl rfl ?_
        refine R.aload_n 54 dX1_items_53 rfl rfl ?_
        refine Rch.callv (sd_X1_there _ _ h) dX1_items_54 (lw_V q677 q679 qs18 q142 q680) dk_X1_there rcX (by decide) (Nat.le_of_ble_eq_true rfl) rfl rfl (Nat.le_of_ble_eq_true rfl) (kI 57 rfl fun r7 w8 h => ?_) kN
        refine Rch.calls (sd_X1_item _ _ _ _ h) dX1_items_57 (lw_S q681 q682 q142 q683) dk_X1_item (by decide) (Nat.le_of_ble_eq_true rfl) rfl rfl (Nat.le_of_ble_eq_true rfl) (kI 60 rfl fun r9 w10 h => ?_) kN
        refine Rch.calls (sd_X1_has _ _ _ _ h) dX1_items_60 (lw_S q687 q688 q142 q689) dk_X1_has (by decide) (Nat.le_of_ble_eq_true rfl) rfl rfl (Nat.le_of_ble_eq_true rfl) (kI 63 rfl fun r11 w12 h => ?_) kN
        refine R.if_ne 120 66 dX1_items_63 (by decide) rfl (fun hc => ?_) (fun hc => ?_)
        · replace h := h.1 hc
          exact R.retV dX1_items_120 rfl h
        · replace h := h.2 hc
          refine R.iload_n 67 dX1_items_66 rfl rfl ?_
          refine R.aload_n 68 dX1_items_67 rfl rfl ?_
          refine Rch.callv (sd_X1_there _ _ h) dX1_items_68 (lw_V q677 q679 qs18 q142 q680) dk_X1_there rcX (by decide) (Nat.le_of_ble_eq_true rfl) rfl rfl (Nat.le_of_ble_eq_true rfl) (kI 71 rfl fun r13 w14 h => ?_) kN
          refine Rch.calls (sd_X1_item _ _ _ _ h) dX1_items_71 (lw_S q681 q682 q142 q683) dk_X1_item (by decide) (Nat.le_of_ble_eq_true rfl) rfl rfl (Nat.le_of_ble_eq_true rfl) (kI 74 rfl fun r15 w16 h => ?_) kN
          refine R.ist6 76 dX1_items_74 rfl (Nat.le_of_ble_eq_true rfl) rfl ?_
          refine R.iload 78 dX1_items_76 rfl rfl ?_
          refine R.iconst 79 dX1_items_78 rfl ?_
          refine R.iload 81 dX1_items_79 rfl rfl ?_
          refine R.ishl 82 dX1_items_81 rfl ?_
          refine R.ior 83 dX1_items_82 rfl ?_
          refine R.ist5 85 dX1_items_83 rfl (Nat.le_of_ble_eq_true rfl) rfl ?_
          refine R.aload_n 86 dX1_items_85 rfl rfl ?_
          refine R.dupR 87 dX1_items_86 rfl ?_
          refine gf_13 90 dX1_items_87 rfl rfl ?_
          refine R.iconst 91 dX1_items_90 rfl ?_
          refine R.iadd 92 dX1_items_91 rfl ?_
          replace h := h _ rfl
          refine pf_13 _ 95 dX1_items_92 rfl rfl ?_
          refine R.aload_n 96 dX1_items_95 rfl rfl ?_
          refine R.iload_n 97 dX1_items_96 rfl rfl ?_
          refine R.iload 99 dX1_items_97 rfl rfl ?_
          refine R.iadd 100 dX1_items_99 rfl ?_
          refine R.aload_n 101 dX1_items_100 rfl rfl ?_
          refine R.iload_n 102 dX1_items_101 rfl rfl ?_
          refine R.iload 104 dX1_items_102 rfl rfl ?_
          refine Rch.calls (sd_X1_lowest _ _ _ _ h) dX1_items_104 (lw_S q690 q691 q142 q692) dk_X1_lowest (by decide) (Nat.le_of_ble_eq_true rfl) rfl rfl (Nat.le_of_ble_eq_true rfl) (kI 107 rfl fun r18 w19 h => ?_) kN
          refine R.iload_n 108 dX1_items_107 rfl rfl ?_
          refine R.iload 110 dX1_items_108 rfl rfl ?_
          refine Rch.calls (sd_X1_highest _ _ _ _ h) dX1_items_110 (lw_S q693 q694 q142 q695) dk_X1_highest (by decide) (Nat.le_of_ble_eq_true rfl) rfl rfl (Nat.le_of_ble_eq_true rfl) (kI 113 rfl fun r20 w21 h => ?_) kN
          refine Rch.callv (sd_X1_number _ _ _ _ _ h) dX1_items_113 (lw_V q696 q698 qs19 q142 q699) dk_X1_number rcX (by decide) (Nat.le_of_ble_eq_true rfl) rfl rfl (Nat.le_of_ble_eq_true rfl) (kI 116 rfl fun r22 w23 h => ?_) (kP rfl)
          obtain ⟨hb, h⟩ := h
          replace h := h _ rfl
          refine R.iasA 117 dX1_items_116 rfl hb ?_
          refine R.goto 31 dX1_items_117 (by decide) ?_
          exact Rch.dropk (hR31 _ _ h) ⟨rfl, ⟨rfl, ⟨rfl, ⟨rfl, ⟨rfl, trivial⟩⟩⟩⟩⟩
set_option maxRecDepth 100000 in
set_option maxHeartbeats 4000000 in
theorem sl_X1_items_3 {γ : GG} (Q : Wd → Prop) (X : Wd → Prop) (l1 : Int32) (l2 : Nat) (l3 : Int32) (l4 : Int32) : ∀ (n : Nat) (l5 : Int32) (w : Wd), lp_X1_items_3 Q X l1 l2 l3 l4 n l5 w → Rch γ 6 k_X1_items 3 [some (.ref 1), some (.int l1), some (.ref l2), some (.int l3), some (.int l4), some (.int l5), none] [] w (qV Q) (xE "FrostBox$Fault" X) := by
  intro n
  induction n with
  | zero => intro _ _ h; exact h.elim
  | succ n hR3 =>
    intro l5 w h
    have h : wl_X1_items_3 Q X l1 l2 l3 l4 (lp_X1_items_3 Q X l1 l2 l3 l4 n) l5 w := h
    unfold wl_X1_items_3 at h
    refine R.iload 5 dX1_items_3 rfl rfl ?_
    refine R.iload 7 dX1_items_5 rfl rfl ?_
    refine R.icmp_ge 28 10 dX1_items_7 (by decide) rfl (fun hc => ?_) (fun hc => ?_)
    · replace h := h.1 hc
      refine R.iconst 29 dX1_items_28 rfl ?_
      refine R.ist5 31 dX1_items_29 rfl (Nat.le_of_ble_eq_true rfl) rfl ?_
      obtain ⟨n1, h⟩ := h
      exact Rch.dropk (sl_X1_items_31 Q X _ _ _ n1 _ _ h) ⟨rfl, ⟨rfl, ⟨rfl, ⟨rfl, ⟨rfl, trivial⟩⟩⟩⟩⟩
    · replace h := h.2 hc
      refine R.aload_n 11 dX1_items_10 rfl rfl ?_
      refine R.iload_n 12 dX1_items_11 rfl rfl ?_
      refine R.iload 14 dX1_items_12 rfl rfl ?_
      refine R.iadd 15 dX1_items_14 rfl ?_
      refine R.iload_n 16 dX1_items_15 rfl rfl ?_
      refine R.iload 18 dX1_items_16 rfl rfl ?_
      refine Rch.calls (sd_X1_usual _ _ _ _ h) dX1_items_18 (lw_S q670 q671 q142 q672) dk_X1_usual (by decide) (Nat.le_of_ble_eq_true rfl) rfl rfl (Nat.le_of_ble_eq_true rfl) (kI 21 rfl fun r2 w3 h => ?_) kN
      obtain ⟨hb, h⟩ := h
      replace h := h _ rfl
      refine R.iasA 22 dX1_items_21 rfl hb ?_
      refine R.inc5 25 dX1_items_22 rfl (Nat.le_of_ble_eq_true rfl) rfl ?_
      refine R.goto 3 dX1_items_25 (by decide) ?_
      exact Rch.dropk (hR3 _ _ h) ⟨rfl, ⟨rfl, ⟨rfl, ⟨rfl, ⟨rfl, ⟨rfl, trivial⟩⟩⟩⟩⟩⟩
set_option maxRecDepth 100000 in
set_option maxHeartbeats 4000000 in
theorem sd_X1_items {γ : GG} (l1 : Int32) (l2 : Nat) (l3 : Int32) (l4 : Int32) (w : Wd) (Q : Wd → Prop) (X : Wd → Prop) : wp_X1_items l1 l2 l3 l4 w Q X → Ctr γ 6 yX1_items (ws_ yX1_items cX1_items 7 none) [.ref 1, .int l1, .ref l2, .int l3, .int l4] w (qV Q) (xE "FrostBox$Fault" X) := by
  intro h
  unfold wp_X1_items at h
  refine Ctr.of (μ := k_X1_items) (by decide) rfl rfl rfl (Nat.le_of_ble_eq_true rfl) ⟨2, ?_⟩
  have es : lva [.ref 1, .int l1, .ref l2, .int l3, .int l4] ++ List.replicate 2 none = [some (.ref 1), some (.int l1), some (.ref l2), some (.int l3), some (.int l4), none, none] := rfl
  rw [es]
  refine R.iconst 1 dX1_items_0 rfl ?_
  refine R.ist5 3 dX1_items_1 rfl (Nat.le_of_ble_eq_true rfl) rfl ?_
  obtain ⟨n1, h⟩ := h
  exact Rch.dropk (sl_X1_items_3 Q X _ _ _ _ n1 _ _ h) ⟨rfl, ⟨rfl, ⟨rfl, ⟨rfl, ⟨rfl, ⟨rfl, trivial⟩⟩⟩⟩⟩⟩

abbrev k_X1_isWhole : MK := ("FrostBox", cX1_isWhole, 5, (some .boolean), [], "isWhole")
def b_X1_isWhole_105 (Q : Int32 → Wd → Prop) (R71 : Int32 → Int32 → Int32 → Wd → Prop) (l2 : Int32) (l3 : Int32) (t0 : Int32) (w : Wd) : Prop := inb (((iz 4) * l3) + (iz 1)) 32 ∧ R71 t0 (l2 + (gA w 18 (((iz 4) * l3) + (iz 1)).toInt)) (l3 + iz 1) w
def wl_X1_isWhole_71 (Q : Int32 → Wd → Prop) (R71 : Int32 → Int32 → Int32 → Wd → Prop) (l1 : Int32) (l2 : Int32) (l3 : Int32) (w : Wd) : Prop := ((gI w 22) ≤ l3 → (l1 = iz 0 → Q (iz 0) w) ∧ (¬ l1 = iz 0 → inb (iz 0) 4 ∧ ((gA w 16 (iz 0).toInt) < l2 → Q (iz 0) w) ∧ (¬ (gA w 16 (iz 0).toInt) < l2 → Q (iz 1) w))) ∧ (¬ (gI w 22) ≤ l3 → (l1 = iz 0 → b_X1_isWhole_105 Q R71 l2 l3 (iz 0) w) ∧ (¬ l1 = iz 0 → inb (((iz 4) * l3) + (iz 0)) 32 ∧ ((gI w 21) ≤ (gA w 18 (((iz 4) * l3) + (iz 0)).toInt) → b_X1_isWhole_105 Q R71 l2 l3 (iz 0) w) ∧ (¬ (gI w 21) ≤ (gA w 18 (((iz 4) * l3) + (iz 0)).toInt) → b_X1_isWhole_105 Q R71 l2 l3 (iz 1) w)))
def lp_X1_isWhole_71 (Q : Int32 → Wd → Prop) : Nat → Int32 → Int32 → Int32 → Wd → Prop
  | 0, _, _, _, _ => False
  | n + 1, l1, l2, l3, w => wl_X1_isWhole_71 Q (lp_X1_isWhole_71 Q n) l1 l2 l3 w
def wl_X1_isWhole_17 (Q : Int32 → Wd → Prop) (l2 : Int32) (R17 : Int32 → Int32 → Wd → Prop) (l1 : Int32) (l3 : Int32) (w : Wd) : Prop := ((gI w 21) ≤ l3 → ∃ n1, lp_X1_isWhole_71 Q n1 l1 l2 (iz 0) w) ∧ (¬ (gI w 21) ≤ l3 → inb (((iz 5) * l3) + (iz 4)) 30 ∧ (l1 = iz 0 → R17 (iz 0) (l3 + iz 1) w) ∧ (¬ l1 = iz 0 → ((gA w 17 (((iz 5) * l3) + (iz 4)).toInt) = (iz 6) → R17 (iz 1) (l3 + iz 1) w) ∧ (¬ (gA w 17 (((iz 5) * l3) + (iz 4)).toInt) = (iz 6) → ((gI w 21) ≤ (gA w 17 (((iz 5) * l3) + (iz 4)).toInt) → R17 (iz 0) (l3 + iz 1) w) ∧ (¬ (gI w 21) ≤ (gA w 17 (((iz 5) * l3) + (iz 4)).toInt) → R17 (iz 1) (l3 + iz 1) w))))
def lp_X1_isWhole_17 (Q : Int32 → Wd → Prop) (l2 : Int32) : Nat → Int32 → Int32 → Wd → Prop
  | 0, _, _, _ => False
  | n + 1, l1, l3, w => wl_X1_isWhole_17 Q l2 (lp_X1_isWhole_17 Q l2 n) l1 l3 w
def wp_X1_isWhole (w : Wd) (Q : Int32 → Wd → Prop) : Prop := ((gI w 21) ≤ iz 0 → ∃ n1, lp_X1_isWhole_17 Q (iz 0) n1 (iz 0) (iz 0) w) ∧ (¬ (gI w 21) ≤ iz 0 → ∃ n2, lp_X1_isWhole_17 Q (iz 0) n2 (iz 1) (iz 0) w)
set_option maxRecDepth 100000 in
set_option maxHeartbeats 4000000 in
theorem s_X1_isWhole_105 {γ : GG} (Q : Int32 → Wd → Prop) (R71 : Int32 → Int32 → Int32 → Wd → Prop) (l2 : Int32) (l3 : Int32) (t0 : Int32) (hR71 : ∀ (l1 : Int32) (l2 : Int32) (l3 : Int32) (w : Wd), R71 l1 l2 l3 w → Rch γ 1 k_X1_isWhole 71 [some (.ref 1), some (.int l1), some (.int l2), some (.int l3), none] [] w (qI Q) xN) : ∀ (w : Wd), b_X1_isWhole_105 Q R71 l2 l3 t0 w → Rch γ 1 k_X1_isWhole 105 [some (.ref 1), none, some (.int l2), some (.int l3), none] [.int t0] w (qI Q) xN := by
  intro w h
  unfold b_X1_isWhole_105 at h
  refine R.ist1n 106 dX1_isWhole_105 rfl (Nat.le_of_ble_eq_true rfl) rfl ?_
  refine R.iload_n 107 dX1_isWhole_106 rfl rfl ?_
  refine R.aload_n 108 dX1_isWhole_107 rfl rfl ?_
  refine gf_18 111 dX1_isWhole_108 rfl rfl ?_
  refine R.iconst 112 dX1_isWhole_111 rfl ?_
  refine R.iload_n 113 dX1_isWhole_112 rfl rfl ?_
  refine R.imul 114 dX1_isWhole_113 rfl ?_
  refine R.iconst 115 dX1_isWhole_114 rfl ?_
  refine R.iadd 116 dX1_isWhole_115 rfl ?_
  obtain ⟨hb, h⟩ := h
  refine R.iald ar_18 117 dX1_isWhole_116 rfl hb ?_
  refine R.iadd 118 dX1_isWhole_117 rfl ?_
  refine R.ist2n 119 dX1_isWhole_118 rfl (Nat.le_of_ble_eq_true rfl) rfl ?_
  refine R.inc3 122 dX1_isWhole_119 rfl (Nat.le_of_ble_eq_true rfl) rfl ?_
  refine R.goto 71 dX1_isWhole_122 (by decide) ?_
  exact Rch.dropk (hR71 _ _ _ _ h) ⟨rfl, ⟨rfl, ⟨rfl, ⟨rfl, trivial⟩⟩⟩⟩
set_option maxRecDepth 100000 in
set_option maxHeartbeats 4000000 in
theorem sl_X1_isWhole_71 {γ : GG} (Q : Int32 → Wd → Prop) : ∀ (n : Nat) (l1 : Int32) (l2 : Int32) (l3 : Int32) (w : Wd), lp_X1_isWhole_71 Q n l1 l2 l3 w → Rch γ 1 k_X1_isWhole 71 [some (.ref 1), some (.int l1), some (.int l2), some (.int l3), none] [] w (qI Q) xN := by
  intro n
  induction n with
  | zero => intro _ _ _ _ h; exact h.elim
  | succ n hR71 =>
    intro l1 l2 l3 w h
    have h : wl_X1_isWhole_71 Q (lp_X1_isWhole_71 Q n) l1 l2 l3 w := h
    unfold wl_X1_isWhole_71 at h
    refine R.iload_n 72 dX1_isWhole_71 rfl rfl ?_
    refine R.aload_n 73 dX1_isWhole_72 rfl rfl ?_
    refine gf_22 76 dX1_isWhole_73 rfl rfl ?_
    refine R.icmp_ge 125 79 dX1_isWhole_76 (by decide) rfl (fun hc => ?_) (fun hc => ?_)
    · replace h := h.1 hc
      refine R.iload_n 126 dX1_isWhole_125 rfl rfl ?_
      refine R.if_eq 143 129 dX1_isWhole_126 (by decide) rfl (fun hc => ?_) (fun hc => ?_)
      · replace h := h.1 hc
        refine R.iconst 144 dX1_isWhole_143 rfl ?_
        exact R.retZ dX1_isWhole_144 rfl zok0 h
      · replace h := h.2 hc
        refine R.iload_n 130 dX1_isWhole_129 rfl rfl ?_
        refine R.aload_n 131 dX1_isWhole_130 rfl rfl ?_
        refine gf_16 134 dX1_isWhole_131 rfl rfl ?_
        refine R.iconst 135 dX1_isWhole_134 rfl ?_
        obtain ⟨hb, h⟩ := h
        refine R.iald ar_16 136 dX1_isWhole_135 rfl hb ?_
        refine R.icmp_gt 143 139 dX1_isWhole_136 (by decide) rfl (fun hc => ?_) (fun hc => ?_)
        · replace h := h.1 hc
          refine R.iconst 144 dX1_isWhole_143 rfl ?_
          exact R.retZ dX1_isWhole_144 rfl zok0 h
        · replace h := h.2 hc
          refine R.iconst 140 dX1_isWhole_139 rfl ?_
          refine R.goto 144 dX1_isWhole_140 (by decide) ?_
          exact R.retZ dX1_isWhole_144 rfl zok1 h
    · replace h := h.2 hc
      refine R.iload_n 80 dX1_isWhole_79 rfl rfl ?_
      refine R.if_eq 104 83 dX1_isWhole_80 (by decide) rfl (fun hc => ?_) (fun hc => ?_)
      · replace h := h.1 hc
        refine R.iconst 105 dX1_isWhole_104 rfl ?_
        exact Rch.dropk (s_X1_isWhole_105 Q _ _ _ _ hR71 _ h) ⟨rfl, ⟨rfl, ⟨rfl, trivial⟩⟩⟩
      · replace h := h.2 hc
        refine R.aload_n 84 dX1_isWhole_83 rfl rfl ?_
        refine gf_18 87 dX1_isWhole_84 rfl rfl ?_
        refine R.iconst 88 dX1_isWhole_87 rfl ?_
        refine R.iload_n 89 dX1_isWhole_88 rfl rfl ?_
        refine R.imul 90 dX1_isWhole_89 rfl ?_
        refine R.iconst 91 dX1_isWhole_90 rfl ?_
        refine R.iadd 92 dX1_isWhole_91 rfl ?_
        obtain ⟨hb, h⟩ := h
        refine R.iald ar_18 93 dX1_isWhole_92 rfl hb ?_
        refine R.aload_n 94 dX1_isWhole_93 rfl rfl ?_
        refine gf_21 97 dX1_isWhole_94 rfl rfl ?_
        refine R.icmp_ge 104 100 dX1_isWhole_97 (by decide) rfl (fun hc => ?_) (fun hc => ?_)
        · replace h := h.1 hc
          refine R.iconst 105 dX1_isWhole_104 rfl ?_
          exact Rch.dropk (s_X1_isWhole_105 Q _ _ _ _ hR71 _ h) ⟨rfl, ⟨rfl, ⟨rfl, trivial⟩⟩⟩
        · replace h := h.2 hc
          refine R.iconst 101 dX1_isWhole_100 rfl ?_
          refine R.goto 105 dX1_isWhole_101 (by decide) ?_
          exact Rch.dropk (s_X1_isWhole_105 Q _ _ _ _ hR71 _ h) ⟨rfl, ⟨rfl, ⟨rfl, trivial⟩⟩⟩
set_option maxRecDepth 100000 in
set_option maxHeartbeats 4000000 in
theorem sl_X1_isWhole_17 {γ : GG} (Q : Int32 → Wd → Prop) (l2 : Int32) : ∀ (n : Nat) (l1 : Int32) (l3 : Int32) (w : Wd), lp_X1_isWhole_17 Q l2 n l1 l3 w → Rch γ 1 k_X1_isWhole 17 [some (.ref 1), some (.int l1), some (.int l2), some (.int l3), none] [] w (qI Q) xN := by
  intro n
  induction n with
  | zero => intro _ _ _ h; exact h.elim
  | succ n hR17 =>
    intro l1 l3 w h
    have h : wl_X1_isWhole_17 Q l2 (lp_X1_isWhole_17 Q l2 n) l1 l3 w := h
    unfold wl_X1_isWhole_17 at h
    refine R.iload_n 18 dX1_isWhole_17 rfl rfl ?_
    refine R.aload_n 19 dX1_isWhole_18 rfl rfl ?_
    refine gf_21 22 dX1_isWhole_19 rfl rfl ?_
    refine R.icmp_ge 69 25 dX1_isWhole_22 (by decide) rfl (fun hc => ?_) (fun hc => ?_)
    · replace h := h.1 hc
      refine R.iconst 70 dX1_isWhole_69 rfl ?_
      refine R.ist3n 71 dX1_isWhole_70 rfl (Nat.le_of_ble_eq_true rfl) rfl ?_
      obtain ⟨n1, h⟩ := h
      exact Rch.dropk (sl_X1_isWhole_71 Q n1 _ _ _ _ h) ⟨rfl, ⟨rfl, ⟨rfl, ⟨rfl, trivial⟩⟩⟩⟩
    · replace h := h.2 hc
      refine R.aload_n 26 dX1_isWhole_25 rfl rfl ?_
      refine gf_17 29 dX1_isWhole_26 rfl rfl ?_
      refine R.iconst 30 dX1_isWhole_29 rfl ?_
      refine R.iload_n 31 dX1_isWhole_30 rfl rfl ?_
      refine R.imul 32 dX1_isWhole_31 rfl ?_
      refine R.iconst 33 dX1_isWhole_32 rfl ?_
      refine R.iadd 34 dX1_isWhole_33 rfl ?_
      obtain ⟨hb, h⟩ := h
      refine R.iald ar_17 35 dX1_isWhole_34 rfl hb ?_
      refine R.ist4 37 dX1_isWhole_35 rfl (Nat.le_of_ble_eq_true rfl) rfl ?_
      refine R.iload_n 38 dX1_isWhole_37 rfl rfl ?_
      refine R.if_eq 61 41 dX1_isWhole_38 (by decide) rfl (fun hc => ?_) (fun hc => ?_)
      · replace h := h.1 hc
        refine R.iconst 62 dX1_isWhole_61 rfl ?_
        refine R.ist1n 63 dX1_isWhole_62 rfl (Nat.le_of_ble_eq_true rfl) rfl ?_
        refine R.inc3 66 dX1_isWhole_63 rfl (Nat.le_of_ble_eq_true rfl) rfl ?_
        refine R.goto 17 dX1_isWhole_66 (by decide) ?_
        exact Rch.dropk (hR17 _ _ _ h) ⟨rfl, ⟨rfl, ⟨rfl, ⟨rfl, trivial⟩⟩⟩⟩
      · replace h := h.2 hc
        refine R.iload 43 dX1_isWhole_41 rfl rfl ?_
        refine R.bipush 45 dX1_isWhole_43 rfl (by decide +kernel) ?_
        refine R.icmp_eq 57 48 dX1_isWhole_45 (by decide) rfl (fun hc => ?_) (fun hc => ?_)
        · replace h := h.1 hc
          refine R.iconst 58 dX1_isWhole_57 rfl ?_
          refine R.goto 62 dX1_isWhole_58 (by decide) ?_
          refine R.ist1n 63 dX1_isWhole_62 rfl (Nat.le_of_ble_eq_true rfl) rfl ?_
          refine R.inc3 66 dX1_isWhole_63 rfl (Nat.le_of_ble_eq_true rfl) rfl ?_
          refine R.goto 17 dX1_isWhole_66 (by decide) ?_
          exact Rch.dropk (hR17 _ _ _ h) ⟨rfl, ⟨rfl, ⟨rfl, ⟨rfl, trivial⟩⟩⟩⟩
        · replace h := h.2 hc
          refine R.iload 50 dX1_isWhole_48 rfl rfl ?_
          refine R.aload_n 51 dX1_isWhole_50 rfl rfl ?_
          refine gf_21 54 dX1_isWhole_51 rfl rfl ?_
          refine R.icmp_ge 61 57 dX1_isWhole_54 (by decide) rfl (fun hc => ?_) (fun hc => ?_)
          · replace h := h.1 hc
            refine R.iconst 62 dX1_isWhole_61 rfl ?_
            refine R.ist1n 63 dX1_isWhole_62 rfl (Nat.le_of_ble_eq_true rfl) rfl ?_
            refine R.inc3 66 dX1_isWhole_63 rfl (Nat.le_of_ble_eq_true rfl) rfl ?_
            refine R.goto 17 dX1_isWhole_66 (by decide) ?_
            exact Rch.dropk (hR17 _ _ _ h) ⟨rfl, ⟨rfl, ⟨rfl, ⟨rfl, trivial⟩⟩⟩⟩
          · replace h := h.2 hc
            refine R.iconst 58 dX1_isWhole_57 rfl ?_
            refine R.goto 62 dX1_isWhole_58 (by decide) ?_
            refine R.ist1n 63 dX1_isWhole_62 rfl (Nat.le_of_ble_eq_true rfl) rfl ?_
            refine R.inc3 66 dX1_isWhole_63 rfl (Nat.le_of_ble_eq_true rfl) rfl ?_
            refine R.goto 17 dX1_isWhole_66 (by decide) ?_
            exact Rch.dropk (hR17 _ _ _ h) ⟨rfl, ⟨rfl, ⟨rfl, ⟨rfl, trivial⟩⟩⟩⟩
set_option maxRecDepth 100000 in
set_option maxHeartbeats 4000000 in
theorem sd_X1_isWhole {γ : GG} (w : Wd) (Q : Int32 → Wd → Prop) : wp_X1_isWhole w Q → Ctr γ 1 yX1_isWhole (ws_ yX1_isWhole cX1_isWhole 5 (some .boolean)) [.ref 1] w (qI Q) xN := by
  intro h
  unfold wp_X1_isWhole at h
  refine Ctr.of (μ := k_X1_isWhole) (by decide) rfl rfl rfl (Nat.le_of_ble_eq_true rfl) ⟨4, ?_⟩
  have es : lva [.ref 1] ++ List.replicate 4 none = [some (.ref 1), none, none, none, none] := rfl
  rw [es]
  refine R.aload_n 1 dX1_isWhole_0 rfl rfl ?_
  refine gf_21 4 dX1_isWhole_1 rfl rfl ?_
  refine R.if_le 11 7 dX1_isWhole_4 (by decide) rfl (fun hc => ?_) (fun hc => ?_)
  · replace h := h.1 hc
    refine R.iconst 12 dX1_isWhole_11 rfl ?_
    refine R.ist1n 13 dX1_isWhole_12 rfl (Nat.le_of_ble_eq_true rfl) rfl ?_
    refine R.iconst 14 dX1_isWhole_13 rfl ?_
    refine R.ist2n 15 dX1_isWhole_14 rfl (Nat.le_of_ble_eq_true rfl) rfl ?_
    refine R.iconst 16 dX1_isWhole_15 rfl ?_
    refine R.ist3n 17 dX1_isWhole_16 rfl (Nat.le_of_ble_eq_true rfl) rfl ?_
    obtain ⟨n1, h⟩ := h
    exact Rch.dropk (sl_X1_isWhole_17 Q _ n1 _ _ _ h) ⟨rfl, ⟨rfl, ⟨rfl, ⟨rfl, trivial⟩⟩⟩⟩
  · replace h := h.2 hc
    refine R.iconst 8 dX1_isWhole_7 rfl ?_
    refine R.goto 12 dX1_isWhole_8 (by decide) ?_
    refine R.ist1n 13 dX1_isWhole_12 rfl (Nat.le_of_ble_eq_true rfl) rfl ?_
    refine R.iconst 14 dX1_isWhole_13 rfl ?_
    refine R.ist2n 15 dX1_isWhole_14 rfl (Nat.le_of_ble_eq_true rfl) rfl ?_
    refine R.iconst 16 dX1_isWhole_15 rfl ?_
    refine R.ist3n 17 dX1_isWhole_16 rfl (Nat.le_of_ble_eq_true rfl) rfl ?_
    obtain ⟨n2, h⟩ := h
    exact Rch.dropk (sl_X1_isWhole_17 Q _ n2 _ _ _ h) ⟨rfl, ⟨rfl, ⟨rfl, ⟨rfl, trivial⟩⟩⟩⟩

abbrev k_X1_wholeHouse : MK := ("FrostBox", cX1_wholeHouse, 4, none, [], "wholeHouse")
def b_X1_wholeHouse_209 (Q : Wd → Prop) (X : Wd → Prop) (R44 : Int32 → Int32 → Wd → Prop) (l1 : Int32) (t0 : Int32) (w : Wd) : Prop := (t0 = iz 0 → R44 l1 t0 w) ∧ (¬ t0 = iz 0 → ∀ w1, w1 = sI w 13 ((gI w 13) + (iz 1)) → R44 l1 t0 w1)
def b_X1_wholeHouse_195 (Q : Wd → Prop) (X : Wd → Prop) (R44 : Int32 → Int32 → Wd → Prop) (l1 : Int32) (w : Wd) : Prop := wp_X1_look w (fun r1 w2 => (¬ r1 = (iz 59) → b_X1_wholeHouse_209 Q X R44 l1 (iz 0) w2) ∧ (r1 = (iz 59) → b_X1_wholeHouse_209 Q X R44 l1 (iz 1) w2))
def b_X1_wholeHouse_99 (Q : Wd → Prop) (X : Wd → Prop) (R44 : Int32 → Int32 → Wd → Prop) (l1 : Int32) (l3 : Int32) (t0 : Int32) (w : Wd) : Prop := wp_X1_need t0 w (fun w2 => ∀ w3, w3 = sI w2 13 ((gI w2 13) + (iz 1)) → (¬ l3 = (iz 115) → (¬ l3 = (iz 107) → wp_X1_items l3 18 ((iz 4) * (gI w3 22)) (iz 4) w3 (fun w5 => ∀ w6, w6 = sI w5 22 ((gI w5 22) + (iz 1)) → b_X1_wholeHouse_195 Q X R44 l1 w6) X) ∧ (l3 = (iz 107) → wp_X1_items l3 17 ((iz 5) * (gI w3 21)) (iz 5) w3 (fun w9 => ∀ w10, w10 = sI w9 21 ((gI w9 21) + (iz 1)) → b_X1_wholeHouse_195 Q X R44 l1 w10) X)) ∧ (l3 = (iz 115) → wp_X1_items l3 16 (iz 0) (iz 4) w3 (fun w13 => b_X1_wholeHouse_195 Q X R44 (iz 1) w13) X)) X
def b_X1_wholeHouse_79 (Q : Wd → Prop) (X : Wd → Prop) (R44 : Int32 → Int32 → Wd → Prop) (l1 : Int32) (l3 : Int32) (w : Wd) : Prop := (¬ l3 = (iz 98) → b_X1_wholeHouse_99 Q X R44 l1 l3 (iz 0) w) ∧ (l3 = (iz 98) → ((iz 8) ≤ (gI w 22) → b_X1_wholeHouse_99 Q X R44 l1 l3 (iz 0) w) ∧ (¬ (iz 8) ≤ (gI w 22) → b_X1_wholeHouse_99 Q X R44 l1 l3 (iz 1) w))
def b_X1_wholeHouse_64 (Q : Wd → Prop) (X : Wd → Prop) (R44 : Int32 → Int32 → Wd → Prop) (l1 : Int32) (l3 : Int32) (w : Wd) : Prop := (¬ l3 = (iz 107) → b_X1_wholeHouse_79 Q X R44 l1 l3 w) ∧ (l3 = (iz 107) → ((gI w 21) < (iz 6) → b_X1_wholeHouse_99 Q X R44 l1 l3 (iz 1) w) ∧ (¬ (gI w 21) < (iz 6) → b_X1_wholeHouse_79 Q X R44 l1 l3 w))
def wl_X1_wholeHouse_44 (Q : Wd → Prop) (X : Wd → Prop) (R44 : Int32 → Int32 → Wd → Prop) (l1 : Int32) (l2 : Int32) (w : Wd) : Prop := (l2 = iz 0 → wp_X1_look w (fun r1 w2 => (¬ r1 = (iz (-1)) → wp_X1_need (iz 0) w2 (fun w4 => Q w4) X) ∧ (r1 = (iz (-1)) → wp_X1_isWhole w2 (fun r6 w7 => (r6 = iz 0 → wp_X1_need (iz 0) w7 (fun w9 => Q w9) X) ∧ (¬ r6 = iz 0 → wp_X1_need (iz 1) w7 (fun w12 => Q w12) X))))) ∧ (¬ l2 = iz 0 → wp_X1_look w (fun r14 w15 => (¬ r14 = (iz 115) → b_X1_wholeHouse_64 Q X R44 l1 r14 w15) ∧ (r14 = (iz 115) → (l1 = iz 0 → b_X1_wholeHouse_99 Q X R44 l1 r14 (iz 1) w15) ∧ (¬ l1 = iz 0 → b_X1_wholeHouse_64 Q X R44 l1 r14 w15))))
def lp_X1_wholeHouse_44 (Q : Wd → Prop) (X : Wd → Prop) : Nat → Int32 → Int32 → Wd → Prop
  | 0, _, _, _ => False
  | n + 1, l1, l2, w => wl_X1_wholeHouse_44 Q X (lp_X1_wholeHouse_44 Q X n) l1 l2 w
def wl_X1_wholeHouse_19 (Q : Wd → Prop) (X : Wd → Prop) (l1 : Int32) (R19 : Int32 → Wd → Prop) (l2 : Int32) (w : Wd) : Prop := ((iz 4) ≤ l2 → ∃ n1, lp_X1_wholeHouse_44 Q X n1 l1 (iz 1) w) ∧ (¬ (iz 4) ≤ l2 → wp_X1_usual (iz 115) l2 w (fun r2 w3 => inb l2 4 ∧ (∀ w4, w4 = sA w3 16 l2.toInt r2 → R19 (l2 + iz 1) w4)))
def lp_X1_wholeHouse_19 (Q : Wd → Prop) (X : Wd → Prop) (l1 : Int32) : Nat → Int32 → Wd → Prop
  | 0, _, _ => False
  | n + 1, l2, w => wl_X1_wholeHouse_19 Q X l1 (lp_X1_wholeHouse_19 Q X l1 n) l2 w
def wp_X1_wholeHouse (w : Wd) (Q : Wd → Prop) (X : Wd → Prop) : Prop := ∀ w1, w1 = sI w 13 (iz 0) → ∀ w2, w2 = sI w1 21 (iz 0) → ∀ w3, w3 = sI w2 22 (iz 0) → ∃ n4, lp_X1_wholeHouse_19 Q X (iz 0) n4 (iz 0) w3
set_option maxRecDepth 100000 in
set_option maxHeartbeats 4000000 in
theorem s_X1_wholeHouse_209 {γ : GG} (Q : Wd → Prop) (X : Wd → Prop) (R44 : Int32 → Int32 → Wd → Prop) (l1 : Int32) (t0 : Int32) (hR44 : ∀ (l1 : Int32) (l2 : Int32) (w : Wd), R44 l1 l2 w → Rch γ 7 k_X1_wholeHouse 44 [some (.ref 1), some (.int l1), some (.int l2), none] [] w (qV Q) (xE "FrostBox$Fault" X)) : ∀ (w : Wd), b_X1_wholeHouse_209 Q X R44 l1 t0 w → Rch γ 7 k_X1_wholeHouse 209 [some (.ref 1), some (.int l1), none, none] [.int t0] w (qV Q) (xE "FrostBox$Fault" X) := by
  intro w h
  unfold b_X1_wholeHouse_209 at h
  refine R.ist2n 210 dX1_wholeHouse_209 rfl (Nat.le_of_ble_eq_true rfl) rfl ?_
  refine R.iload_n 211 dX1_wholeHouse_210 rfl rfl ?_
  refine R.if_eq 224 214 dX1_wholeHouse_211 (by decide) rfl (fun hc => ?_) (fun hc => ?_)
  · replace h := h.1 hc
    refine R.goto 44 dX1_wholeHouse_224 (by decide) ?_
    exact Rch.dropk (hR44 _ _ _ h) ⟨rfl, ⟨rfl, ⟨rfl, trivial⟩⟩⟩
  · replace h := h.2 hc
    refine R.aload_n 215 dX1_wholeHouse_214 rfl rfl ?_
    refine R.dupR 216 dX1_wholeHouse_215 rfl ?_
    refine gf_13 219 dX1_wholeHouse_216 rfl rfl ?_
    refine R.iconst 220 dX1_wholeHouse_219 rfl ?_
    refine R.iadd 221 dX1_wholeHouse_220 rfl ?_
    replace h := h _ rfl
    refine pf_13 _ 224 dX1_wholeHouse_221 rfl rfl ?_
    refine R.goto 44 dX1_wholeHouse_224 (by decide) ?_
    exact Rch.dropk (hR44 _ _ _ h) ⟨rfl, ⟨rfl, ⟨rfl, trivial⟩⟩⟩
set_option maxRecDepth 100000 in
set_option maxHeartbeats 4000000 in
theorem s_X1_wholeHouse_195 {γ : GG} (Q : Wd → Prop) (X : Wd → Prop) (R44 : Int32 → Int32 → Wd → Prop) (l1 : Int32) (hR44 : ∀ (l1 : Int32) (l2 : Int32) (w : Wd), R44 l1 l2 w → Rch γ 7 k_X1_wholeHouse 44 [some (.ref 1), some (.int l1), some (.int l2), none] [] w (qV Q) (xE "FrostBox$Fault" X)) : ∀ (w : Wd), b_X1_wholeHouse_195 Q X R44 l1 w → Rch γ 7 k_X1_wholeHouse 195 [some (.ref 1), some (.int l1), none, none] [] w (qV Q) (xE "FrostBox$Fault" X) := by
  intro w h
  unfold b_X1_wholeHouse_195 at h
  refine R.aload_n 196 dX1_wholeHouse_195 rfl rfl ?_
  refine Rch.callv (sd_X1_look _ _ h) dX1_wholeHouse_196 (lw_V q390 q392 qs4 q142 q393) dk_X1_look rcX (by decide) (Nat.le_of_ble_eq_true rfl) rfl rfl (Nat.le_of_ble_eq_true rfl) (kI 199 rfl fun r1 w2 h => ?_) kN
  refine R.bipush 201 dX1_wholeHouse_199 rfl (by decide +kernel) ?_
  refine R.icmp_ne 208 204 dX1_wholeHouse_201 (by decide) rfl (fun hc => ?_) (fun hc => ?_)
  · replace h := h.1 hc
    refine R.iconst 209 dX1_wholeHouse_208 rfl ?_
    exact Rch.dropk (s_X1_wholeHouse_209 Q X _ _ _ hR44 _ h) ⟨rfl, ⟨rfl, trivial⟩⟩
  · replace h := h.2 hc
    refine R.iconst 205 dX1_wholeHouse_204 rfl ?_
    refine R.goto 209 dX1_wholeHouse_205 (by decide) ?_
    exact Rch.dropk (s_X1_wholeHouse_209 Q X _ _ _ hR44 _ h) ⟨rfl, ⟨rfl, trivial⟩⟩
set_option maxRecDepth 100000 in
set_option maxHeartbeats 4000000 in
theorem s_X1_wholeHouse_99 {γ : GG} (Q : Wd → Prop) (X : Wd → Prop) (R44 : Int32 → Int32 → Wd → Prop) (l1 : Int32) (l3 : Int32) (t0 : Int32) (hR44 : ∀ (l1 : Int32) (l2 : Int32) (w : Wd), R44 l1 l2 w → Rch γ 7 k_X1_wholeHouse 44 [some (.ref 1), some (.int l1), some (.int l2), none] [] w (qV Q) (xE "FrostBox$Fault" X)) : ∀ (w : Wd), b_X1_wholeHouse_99 Q X R44 l1 l3 t0 w → Rch γ 7 k_X1_wholeHouse 99 [some (.ref 1), some (.int l1), none, some (.int l3)] [.int t0, .ref 1] w (qV Q) (xE "FrostBox$Fault" X) := by
  intro w h
  unfold b_X1_wholeHouse_99 at h
  refine Rch.callv (sd_X1_need _ _ _ _ h) dX1_wholeHouse_99 (lw_V q481 q483 qs5 q142 q484) dk_X1_need rcX (by decide) (Nat.le_of_ble_eq_true rfl) rfl rfl (Nat.le_of_ble_eq_true rfl) (kV 102 rfl fun w2 h => ?_) (kP rfl)
  refine R.aload_n 103 dX1_wholeHouse_102 rfl rfl ?_
  refine R.dupR 104 dX1_wholeHouse_103 rfl ?_
  refine gf_13 107 dX1_wholeHouse_104 rfl rfl ?_
  refine R.iconst 108 dX1_wholeHouse_107 rfl ?_
  refine R.iadd 109 dX1_wholeHouse_108 rfl ?_
  replace h := h _ rfl
  refine pf_13 _ 112 dX1_wholeHouse_109 rfl rfl ?_
  refine R.iload_n 113 dX1_wholeHouse_112 rfl rfl ?_
  refine R.bipush 115 dX1_wholeHouse_113 rfl (by decide +kernel) ?_
  refine R.icmp_ne 134 118 dX1_wholeHouse_115 (by decide) rfl (fun hc => ?_) (fun hc => ?_)
  · replace h := h.1 hc
    refine R.iload_n 135 dX1_wholeHouse_134 rfl rfl ?_
    refine R.bipush 137 dX1_wholeHouse_135 rfl (by decide +kernel) ?_
    refine R.icmp_ne 169 140 dX1_wholeHouse_137 (by decide) rfl (fun hc => ?_) (fun hc => ?_)
    · replace h := h.1 hc
      refine R.aload_n 170 dX1_wholeHouse_169 rfl rfl ?_
      refine R.iload_n 171 dX1_wholeHouse_170 rfl rfl ?_
      refine R.aload_n 172 dX1_wholeHouse_171 rfl rfl ?_
      refine gf_18 175 dX1_wholeHouse_172 rfl rfl ?_
      refine R.iconst 176 dX1_wholeHouse_175 rfl ?_
      refine R.aload_n 177 dX1_wholeHouse_176 rfl rfl ?_
      refine gf_22 180 dX1_wholeHouse_177 rfl rfl ?_
      refine R.imul 181 dX1_wholeHouse_180 rfl ?_
      refine R.iconst 182 dX1_wholeHouse_181 rfl ?_
      refine Rch.callv (sd_X1_items _ _ _ _ _ _ _ h) dX1_wholeHouse_182 (lw_V q673 q675 qs17 q142 q676) dk_X1_items rcX (by decide) (Nat.le_of_ble_eq_true rfl) rfl rfl (Nat.le_of_ble_eq_true rfl) (kV 185 rfl fun w5 h => ?_) (kP rfl)
      refine R.aload_n 186 dX1_wholeHouse_185 rfl rfl ?_
      refine R.dupR 187 dX1_wholeHouse_186 rfl ?_
      refine gf_22 190 dX1_wholeHouse_187 rfl rfl ?_
      refine R.iconst 191 dX1_wholeHouse_190 rfl ?_
      refine R.iadd 192 dX1_wholeHouse_191 rfl ?_
      replace h := h _ rfl
      refine pf_22 _ 195 dX1_wholeHouse_192 rfl rfl ?_
      exact Rch.dropk (s_X1_wholeHouse_195 Q X _ _ hR44 _ h) ⟨rfl, ⟨rfl, trivial⟩⟩
    · replace h := h.2 hc
      refine R.aload_n 141 dX1_wholeHouse_140 rfl rfl ?_
      refine R.iload_n 142 dX1_wholeHouse_141 rfl rfl ?_
      refine R.aload_n 143 dX1_wholeHouse_142 rfl rfl ?_
      refine gf_17 146 dX1_wholeHouse_143 rfl rfl ?_
      refine R.iconst 147 dX1_wholeHouse_146 rfl ?_
      refine R.aload_n 148 dX1_wholeHouse_147 rfl rfl ?_
      refine gf_21 151 dX1_wholeHouse_148 rfl rfl ?_
      refine R.imul 152 dX1_wholeHouse_151 rfl ?_
      refine R.iconst 153 dX1_wholeHouse_152 rfl ?_
      refine Rch.callv (sd_X1_items _ _ _ _ _ _ _ h) dX1_wholeHouse_153 (lw_V q673 q675 qs17 q142 q676) dk_X1_items rcX (by decide) (Nat.le_of_ble_eq_true rfl) rfl rfl (Nat.le_of_ble_eq_true rfl) (kV 156 rfl fun w9 h => ?_) (kP rfl)
      refine R.aload_n 157 dX1_wholeHouse_156 rfl rfl ?_
      refine R.dupR 158 dX1_wholeHouse_157 rfl ?_
      refine gf_21 161 dX1_wholeHouse_158 rfl rfl ?_
      refine R.iconst 162 dX1_wholeHouse_161 rfl ?_
      refine R.iadd 163 dX1_wholeHouse_162 rfl ?_
      replace h := h _ rfl
      refine pf_21 _ 166 dX1_wholeHouse_163 rfl rfl ?_
      refine R.goto 195 dX1_wholeHouse_166 (by decide) ?_
      exact Rch.dropk (s_X1_wholeHouse_195 Q X _ _ hR44 _ h) ⟨rfl, ⟨rfl, trivial⟩⟩
  · replace h := h.2 hc
    refine R.iconst 119 dX1_wholeHouse_118 rfl ?_
    refine R.ist1n 120 dX1_wholeHouse_119 rfl (Nat.le_of_ble_eq_true rfl) rfl ?_
    refine R.aload_n 121 dX1_wholeHouse_120 rfl rfl ?_
    refine R.iload_n 122 dX1_wholeHouse_121 rfl rfl ?_
    refine R.aload_n 123 dX1_wholeHouse_122 rfl rfl ?_
    refine gf_16 126 dX1_wholeHouse_123 rfl rfl ?_
    refine R.iconst 127 dX1_wholeHouse_126 rfl ?_
    refine R.iconst 128 dX1_wholeHouse_127 rfl ?_
    refine Rch.callv (sd_X1_items _ _ _ _ _ _ _ h) dX1_wholeHouse_128 (lw_V q673 q675 qs17 q142 q676) dk_X1_items rcX (by decide) (Nat.le_of_ble_eq_true rfl) rfl rfl (Nat.le_of_ble_eq_true rfl) (kV 131 rfl fun w13 h => ?_) (kP rfl)
    refine R.goto 195 dX1_wholeHouse_131 (by decide) ?_
    exact Rch.dropk (s_X1_wholeHouse_195 Q X _ _ hR44 _ h) ⟨rfl, ⟨rfl, trivial⟩⟩
set_option maxRecDepth 100000 in
set_option maxHeartbeats 4000000 in
theorem s_X1_wholeHouse_79 {γ : GG} (Q : Wd → Prop) (X : Wd → Prop) (R44 : Int32 → Int32 → Wd → Prop) (l1 : Int32) (l3 : Int32) (hR44 : ∀ (l1 : Int32) (l2 : Int32) (w : Wd), R44 l1 l2 w → Rch γ 7 k_X1_wholeHouse 44 [some (.ref 1), some (.int l1), some (.int l2), none] [] w (qV Q) (xE "FrostBox$Fault" X)) : ∀ (w : Wd), b_X1_wholeHouse_79 Q X R44 l1 l3 w → Rch γ 7 k_X1_wholeHouse 79 [some (.ref 1), some (.int l1), none, some (.int l3)] [.ref 1] w (qV Q) (xE "FrostBox$Fault" X) := by
  intro w h
  unfold b_X1_wholeHouse_79 at h
  refine R.iload_n 80 dX1_wholeHouse_79 rfl rfl ?_
  refine R.bipush 82 dX1_wholeHouse_80 rfl (by decide +kernel) ?_
  refine R.icmp_ne 98 85 dX1_wholeHouse_82 (by decide) rfl (fun hc => ?_) (fun hc => ?_)
  · replace h := h.1 hc
    refine R.iconst 99 dX1_wholeHouse_98 rfl ?_
    exact Rch.dropk (s_X1_wholeHouse_99 Q X _ _ _ _ hR44 _ h) ⟨rfl, ⟨rfl, ⟨rfl, trivial⟩⟩⟩
  · replace h := h.2 hc
    refine R.aload_n 86 dX1_wholeHouse_85 rfl rfl ?_
    refine gf_22 89 dX1_wholeHouse_86 rfl rfl ?_
    refine R.bipush 91 dX1_wholeHouse_89 rfl (by decide +kernel) ?_
    refine R.icmp_ge 98 94 dX1_wholeHouse_91 (by decide) rfl (fun hc => ?_) (fun hc => ?_)
    · replace h := h.1 hc
      refine R.iconst 99 dX1_wholeHouse_98 rfl ?_
      exact Rch.dropk (s_X1_wholeHouse_99 Q X _ _ _ _ hR44 _ h) ⟨rfl, ⟨rfl, ⟨rfl, trivial⟩⟩⟩
    · replace h := h.2 hc
      refine R.iconst 95 dX1_wholeHouse_94 rfl ?_
      refine R.goto 99 dX1_wholeHouse_95 (by decide) ?_
      exact Rch.dropk (s_X1_wholeHouse_99 Q X _ _ _ _ hR44 _ h) ⟨rfl, ⟨rfl, ⟨rfl, trivial⟩⟩⟩
set_option maxRecDepth 100000 in
set_option maxHeartbeats 4000000 in
theorem s_X1_wholeHouse_64 {γ : GG} (Q : Wd → Prop) (X : Wd → Prop) (R44 : Int32 → Int32 → Wd → Prop) (l1 : Int32) (l3 : Int32) (hR44 : ∀ (l1 : Int32) (l2 : Int32) (w : Wd), R44 l1 l2 w → Rch γ 7 k_X1_wholeHouse 44 [some (.ref 1), some (.int l1), some (.int l2), none] [] w (qV Q) (xE "FrostBox$Fault" X)) : ∀ (w : Wd), b_X1_wholeHouse_64 Q X R44 l1 l3 w → Rch γ 7 k_X1_wholeHouse 64 [some (.ref 1), some (.int l1), none, some (.int l3)] [.ref 1] w (qV Q) (xE "FrostBox$Fault" X) := by
  intro w h
  unfold b_X1_wholeHouse_64 at h
  refine R.iload_n 65 dX1_wholeHouse_64 rfl rfl ?_
  refine R.bipush 67 dX1_wholeHouse_65 rfl (by decide +kernel) ?_
  refine R.icmp_ne 79 70 dX1_wholeHouse_67 (by decide) rfl (fun hc => ?_) (fun hc => ?_)
  · replace h := h.1 hc
    exact Rch.dropk (s_X1_wholeHouse_79 Q X _ _ _ hR44 _ h) ⟨rfl, ⟨rfl, ⟨rfl, trivial⟩⟩⟩
  · replace h := h.2 hc
    refine R.aload_n 71 dX1_wholeHouse_70 rfl rfl ?_
    refine gf_21 74 dX1_wholeHouse_71 rfl rfl ?_
    refine R.bipush 76 dX1_wholeHouse_74 rfl (by decide +kernel) ?_
    refine R.icmp_lt 94 79 dX1_wholeHouse_76 (by decide) rfl (fun hc => ?_) (fun hc => ?_)
    · replace h := h.1 hc
      refine R.iconst 95 dX1_wholeHouse_94 rfl ?_
      refine R.goto 99 dX1_wholeHouse_95 (by decide) ?_
      exact Rch.dropk (s_X1_wholeHouse_99 Q X _ _ _ _ hR44 _ h) ⟨rfl, ⟨rfl, ⟨rfl, trivial⟩⟩⟩
    · replace h := h.2 hc
      exact Rch.dropk (s_X1_wholeHouse_79 Q X _ _ _ hR44 _ h) ⟨rfl, ⟨rfl, ⟨rfl, trivial⟩⟩⟩
set_option maxRecDepth 100000 in
set_option maxHeartbeats 4000000 in
theorem sl_X1_wholeHouse_44 {γ : GG} (Q : Wd → Prop) (X : Wd → Prop) : ∀ (n : Nat) (l1 : Int32) (l2 : Int32) (w : Wd), lp_X1_wholeHouse_44 Q X n l1 l2 w → Rch γ 7 k_X1_wholeHouse 44 [some (.ref 1), some (.int l1), some (.int l2), none] [] w (qV Q) (xE "FrostBox$Fault" X) := by
  intro n
  induction n with
  | zero => intro _ _ _ h; exact h.elim
  | succ n hR44 =>
    intro l1 l2 w h
    have h : wl_X1_wholeHouse_44 Q X (lp_X1_wholeHouse_44 Q X n) l1 l2 w := h
    unfold wl_X1_wholeHouse_44 at h
    refine R.iload_n 45 dX1_wholeHouse_44 rfl rfl ?_
    refine R.if_eq 227 48 dX1_wholeHouse_45 (by decide) rfl (fun hc => ?_) (fun hc => ?_)
    · replace h := h.1 hc
      refine R.aload_n 228 dX1_wholeHouse_227 rfl rfl ?_
      refine R.aload_n 229 dX1_wholeHouse_228 rfl rfl ?_
      refine Rch.callv (sd_X1_look _ _ h) dX1_wholeHouse_229 (lw_V q390 q392 qs4 q142 q393) dk_X1_look rcX (by decide) (Nat.le_of_ble_eq_true rfl) rfl rfl (Nat.le_of_ble_eq_true rfl) (kI 232 rfl fun r1 w2 h => ?_) kN
      refine R.iconst 233 dX1_wholeHouse_232 rfl ?_
      refine R.icmp_ne 247 236 dX1_wholeHouse_233 (by decide) rfl (fun hc => ?_) (fun hc => ?_)
      · replace h := h.1 hc
        refine R.iconst 248 dX1_wholeHouse_247 rfl ?_
        refine Rch.callv (sd_X1_need _ _ _ _ h) dX1_wholeHouse_248 (lw_V q481 q483 qs5 q142 q484) dk_X1_need rcX (by decide) (Nat.le_of_ble_eq_true rfl) rfl rfl (Nat.le_of_ble_eq_true rfl) (kV 251 rfl fun w4 h => ?_) (kP rfl)
        exact R.retV dX1_wholeHouse_251 rfl h
      · replace h := h.2 hc
        refine R.aload_n 237 dX1_wholeHouse_236 rfl rfl ?_
        refine Rch.callv (sd_X1_isWhole _ _ h) dX1_wholeHouse_237 (lw_V q703 q705 qs20 q142 q706) dk_X1_isWhole rcX (by decide) (Nat.le_of_ble_eq_true rfl) rfl rfl (Nat.le_of_ble_eq_true rfl) (kI 240 rfl fun r6 w7 h => ?_) kN
        refine R.if_eq 247 243 dX1_wholeHouse_240 (by decide) rfl (fun hc => ?_) (fun hc => ?_)
        · replace h := h.1 hc
          refine R.iconst 248 dX1_wholeHouse_247 rfl ?_
          refine Rch.callv (sd_X1_need _ _ _ _ h) dX1_wholeHouse_248 (lw_V q481 q483 qs5 q142 q484) dk_X1_need rcX (by decide) (Nat.le_of_ble_eq_true rfl) rfl rfl (Nat.le_of_ble_eq_true rfl) (kV 251 rfl fun w9 h => ?_) (kP rfl)
          exact R.retV dX1_wholeHouse_251 rfl h
        · replace h := h.2 hc
          refine R.iconst 244 dX1_wholeHouse_243 rfl ?_
          refine R.goto 248 dX1_wholeHouse_244 (by decide) ?_
          refine Rch.callv (sd_X1_need _ _ _ _ h) dX1_wholeHouse_248 (lw_V q481 q483 qs5 q142 q484) dk_X1_need rcX (by decide) (Nat.le_of_ble_eq_true rfl) rfl rfl (Nat.le_of_ble_eq_true rfl) (kV 251 rfl fun w12 h => ?_) (kP rfl)
          exact R.retV dX1_wholeHouse_251 rfl h
    · replace h := h.2 hc
      refine R.aload_n 49 dX1_wholeHouse_48 rfl rfl ?_
      refine Rch.callv (sd_X1_look _ _ h) dX1_wholeHouse_49 (lw_V q390 q392 qs4 q142 q393) dk_X1_look rcX (by decide) (Nat.le_of_ble_eq_true rfl) rfl rfl (Nat.le_of_ble_eq_true rfl) (kI 52 rfl fun r14 w15 h => ?_) kN
      refine R.ist3n 53 dX1_wholeHouse_52 rfl (Nat.le_of_ble_eq_true rfl) rfl ?_
      refine R.aload_n 54 dX1_wholeHouse_53 rfl rfl ?_
      refine R.iload_n 55 dX1_wholeHouse_54 rfl rfl ?_
      refine R.bipush 57 dX1_wholeHouse_55 rfl (by decide +kernel) ?_
      refine R.icmp_ne 64 60 dX1_wholeHouse_57 (by decide) rfl (fun hc => ?_) (fun hc => ?_)
      · replace h := h.1 hc
        exact Rch.dropk (s_X1_wholeHouse_64 Q X _ _ _ hR44 _ h) ⟨rfl, ⟨rfl, ⟨rfl, trivial⟩⟩⟩
      · replace h := h.2 hc
        refine R.iload_n 61 dX1_wholeHouse_60 rfl rfl ?_
        refine R.if_eq 94 64 dX1_wholeHouse_61 (by decide) rfl (fun hc => ?_) (fun hc => ?_)
        · replace h := h.1 hc
          refine R.iconst 95 dX1_wholeHouse_94 rfl ?_
          refine R.goto 99 dX1_wholeHouse_95 (by decide) ?_
          exact Rch.dropk (s_X1_wholeHouse_99 Q X _ _ _ _ hR44 _ h) ⟨rfl, ⟨rfl, ⟨rfl, trivial⟩⟩⟩
        · replace h := h.2 hc
          exact Rch.dropk (s_X1_wholeHouse_64 Q X _ _ _ hR44 _ h) ⟨rfl, ⟨rfl, ⟨rfl, trivial⟩⟩⟩
set_option maxRecDepth 100000 in
set_option maxHeartbeats 4000000 in
theorem sl_X1_wholeHouse_19 {γ : GG} (Q : Wd → Prop) (X : Wd → Prop) (l1 : Int32) : ∀ (n : Nat) (l2 : Int32) (w : Wd), lp_X1_wholeHouse_19 Q X l1 n l2 w → Rch γ 7 k_X1_wholeHouse 19 [some (.ref 1), some (.int l1), some (.int l2), none] [] w (qV Q) (xE "FrostBox$Fault" X) := by
  intro n
  induction n with
  | zero => intro _ _ h; exact h.elim
  | succ n hR19 =>
    intro l2 w h
    have h : wl_X1_wholeHouse_19 Q X l1 (lp_X1_wholeHouse_19 Q X l1 n) l2 w := h
    unfold wl_X1_wholeHouse_19 at h
    refine R.iload_n 20 dX1_wholeHouse_19 rfl rfl ?_
    refine R.iconst 21 dX1_wholeHouse_20 rfl ?_
    refine R.icmp_ge 42 24 dX1_wholeHouse_21 (by decide) rfl (fun hc => ?_) (fun hc => ?_)
    · replace h := h.1 hc
      refine R.iconst 43 dX1_wholeHouse_42 rfl ?_
      refine R.ist2n 44 dX1_wholeHouse_43 rfl (Nat.le_of_ble_eq_true rfl) rfl ?_
      obtain ⟨n1, h⟩ := h
      exact Rch.dropk (sl_X1_wholeHouse_44 Q X n1 _ _ _ h) ⟨rfl, ⟨rfl, ⟨rfl, trivial⟩⟩⟩
    · replace h := h.2 hc
      refine R.aload_n 25 dX1_wholeHouse_24 rfl rfl ?_
      refine gf_16 28 dX1_wholeHouse_25 rfl rfl ?_
      refine R.iload_n 29 dX1_wholeHouse_28 rfl rfl ?_
      refine R.bipush 31 dX1_wholeHouse_29 rfl (by decide +kernel) ?_
      refine R.iload_n 32 dX1_wholeHouse_31 rfl rfl ?_
      refine Rch.calls (sd_X1_usual _ _ _ _ h) dX1_wholeHouse_32 (lw_S q670 q671 q142 q672) dk_X1_usual (by decide) (Nat.le_of_ble_eq_true rfl) rfl rfl (Nat.le_of_ble_eq_true rfl) (kI 35 rfl fun r2 w3 h => ?_) kN
      obtain ⟨hb, h⟩ := h
      replace h := h _ rfl
      refine R.iast ar_16 36 dX1_wholeHouse_35 rfl hb ?_
      refine R.inc2 39 dX1_wholeHouse_36 rfl (Nat.le_of_ble_eq_true rfl) rfl ?_
      refine R.goto 19 dX1_wholeHouse_39 (by decide) ?_
      exact Rch.dropk (hR19 _ _ h) ⟨rfl, ⟨rfl, ⟨rfl, trivial⟩⟩⟩
set_option maxRecDepth 100000 in
set_option maxHeartbeats 4000000 in
theorem sd_X1_wholeHouse {γ : GG} (w : Wd) (Q : Wd → Prop) (X : Wd → Prop) : wp_X1_wholeHouse w Q X → Ctr γ 7 yX1_wholeHouse (ws_ yX1_wholeHouse cX1_wholeHouse 4 none) [.ref 1] w (qV Q) (xE "FrostBox$Fault" X) := by
  intro h
  unfold wp_X1_wholeHouse at h
  refine Ctr.of (μ := k_X1_wholeHouse) (by decide) rfl rfl rfl (Nat.le_of_ble_eq_true rfl) ⟨3, ?_⟩
  have es : lva [.ref 1] ++ List.replicate 3 none = [some (.ref 1), none, none, none] := rfl
  rw [es]
  refine R.aload_n 1 dX1_wholeHouse_0 rfl rfl ?_
  refine R.iconst 2 dX1_wholeHouse_1 rfl ?_
  replace h := h _ rfl
  refine pf_13 _ 5 dX1_wholeHouse_2 rfl rfl ?_
  refine R.aload_n 6 dX1_wholeHouse_5 rfl rfl ?_
  refine R.iconst 7 dX1_wholeHouse_6 rfl ?_
  replace h := h _ rfl
  refine pf_21 _ 10 dX1_wholeHouse_7 rfl rfl ?_
  refine R.aload_n 11 dX1_wholeHouse_10 rfl rfl ?_
  refine R.iconst 12 dX1_wholeHouse_11 rfl ?_
  replace h := h _ rfl
  refine pf_22 _ 15 dX1_wholeHouse_12 rfl rfl ?_
  refine R.iconst 16 dX1_wholeHouse_15 rfl ?_
  refine R.ist1n 17 dX1_wholeHouse_16 rfl (Nat.le_of_ble_eq_true rfl) rfl ?_
  refine R.iconst 18 dX1_wholeHouse_17 rfl ?_
  refine R.ist2n 19 dX1_wholeHouse_18 rfl (Nat.le_of_ble_eq_true rfl) rfl ?_
  obtain ⟨n4, h⟩ := h
  exact Rch.dropk (sl_X1_wholeHouse_19 Q X _ n4 _ _ h) ⟨rfl, ⟨rfl, ⟨rfl, trivial⟩⟩⟩

abbrev k_X1_digit : MK := ("FrostBox", cX1_digit, 2, (some .int), [], "digit")
def b_X1_digit_27 (Q : Int32 → Wd → Prop) (X : Wd → Prop) (t0 : Int32) (w : Wd) : Prop := wp_X1_need t0 w (fun w2 => ∀ w3, w3 = sI w2 13 ((gI w2 13) + (iz 1)) → inb ((gI w3 13) - (iz 1)) 240 ∧ Q ((gA w3 11 ((gI w3 13) - (iz 1)).toInt) - (iz 48)) w3) X
def wp_X1_digit (l1 : Int32) (w : Wd) (Q : Int32 → Wd → Prop) (X : Wd → Prop) : Prop := wp_X1_look w (fun r1 w2 => wp_X1_isDigit r1 w2 (fun r3 w4 => (r3 = iz 0 → b_X1_digit_27 Q X (iz 0) w4) ∧ (¬ r3 = iz 0 → wp_X1_there w4 (fun r5 w6 => (l1 < (r5 - (iz 48)) → b_X1_digit_27 Q X (iz 0) w6) ∧ (¬ l1 < (r5 - (iz 48)) → b_X1_digit_27 Q X (iz 1) w6)))))
set_option maxRecDepth 100000 in
set_option maxHeartbeats 4000000 in
theorem s_X1_digit_27 {γ : GG} (Q : Int32 → Wd → Prop) (X : Wd → Prop) (t0 : Int32) : ∀ (w : Wd), b_X1_digit_27 Q X t0 w → Rch γ 2 k_X1_digit 27 [some (.ref 1), none] [.int t0, .ref 1] w (qI Q) (xE "FrostBox$Fault" X) := by
  intro w h
  unfold b_X1_digit_27 at h
  refine Rch.callv (sd_X1_need _ _ _ _ h) dX1_digit_27 (lw_V q481 q483 qs5 q142 q484) dk_X1_need rcX (by decide) (Nat.le_of_ble_eq_true rfl) rfl rfl (Nat.le_of_ble_eq_true rfl) (kV 30 rfl fun w2 h => ?_) (kP rfl)
  refine R.aload_n 31 dX1_digit_30 rfl rfl ?_
  refine R.dupR 32 dX1_digit_31 rfl ?_
  refine gf_13 35 dX1_digit_32 rfl rfl ?_
  refine R.iconst 36 dX1_digit_35 rfl ?_
  refine R.iadd 37 dX1_digit_36 rfl ?_
  replace h := h _ rfl
  refine pf_13 _ 40 dX1_digit_37 rfl rfl ?_
  refine R.aload_n 41 dX1_digit_40 rfl rfl ?_
  refine gf_11 44 dX1_digit_41 rfl rfl ?_
  refine R.aload_n 45 dX1_digit_44 rfl rfl ?_
  refine gf_13 48 dX1_digit_45 rfl rfl ?_
  refine R.iconst 49 dX1_digit_48 rfl ?_
  refine R.isub 50 dX1_digit_49 rfl ?_
  obtain ⟨hb, h⟩ := h
  refine R.bald ar_11 51 dX1_digit_50 rfl hb ?_
  refine R.bipush 53 dX1_digit_51 rfl (by decide +kernel) ?_
  refine R.isub 54 dX1_digit_53 rfl ?_
  exact R.retI dX1_digit_54 rfl h
set_option maxRecDepth 100000 in
set_option maxHeartbeats 4000000 in
theorem sd_X1_digit {γ : GG} (l1 : Int32) (w : Wd) (Q : Int32 → Wd → Prop) (X : Wd → Prop) : wp_X1_digit l1 w Q X → Ctr γ 2 yX1_digit (ws_ yX1_digit cX1_digit 2 (some .int)) [.ref 1, .int l1] w (qI Q) (xE "FrostBox$Fault" X) := by
  intro h
  unfold wp_X1_digit at h
  refine Ctr.of (μ := k_X1_digit) (by decide) rfl rfl rfl (Nat.le_of_ble_eq_true rfl) ⟨0, ?_⟩
  have es : lva [.ref 1, .int l1] ++ List.replicate 0 none = [some (.ref 1), some (.int l1)] := rfl
  rw [es]
  refine R.aload_n 1 dX1_digit_0 rfl rfl ?_
  refine R.aload_n 2 dX1_digit_1 rfl rfl ?_
  refine Rch.callv (sd_X1_look _ _ h) dX1_digit_2 (lw_V q390 q392 qs4 q142 q393) dk_X1_look rcX (by decide) (Nat.le_of_ble_eq_true rfl) rfl rfl (Nat.le_of_ble_eq_true rfl) (kI 5 rfl fun r1 w2 h => ?_) kN
  refine Rch.calls (sd_X1_isDigit _ _ _ h) dX1_digit_5 (lw_S q519 q520 q142 q521) dk_X1_isDigit (by decide) (Nat.le_of_ble_eq_true rfl) rfl rfl (Nat.le_of_ble_eq_true rfl) (kI 8 rfl fun r3 w4 h => ?_) kN
  refine R.if_eq 26 11 dX1_digit_8 (by decide) rfl (fun hc => ?_) (fun hc => ?_)
  · replace h := h.1 hc
    refine R.iconst 27 dX1_digit_26 rfl ?_
    exact Rch.dropk (s_X1_digit_27 Q X _ _ h) ⟨rfl, trivial⟩
  · replace h := h.2 hc
    refine R.aload_n 12 dX1_digit_11 rfl rfl ?_
    refine Rch.callv (sd_X1_there _ _ h) dX1_digit_12 (lw_V q677 q679 qs18 q142 q680) dk_X1_there rcX (by decide) (Nat.le_of_ble_eq_true rfl) rfl rfl (Nat.le_of_ble_eq_true rfl) (kI 15 rfl fun r5 w6 h => ?_) kN
    refine R.bipush 17 dX1_digit_15 rfl (by decide +kernel) ?_
    refine R.isub 18 dX1_digit_17 rfl ?_
    refine R.iload_n 19 dX1_digit_18 rfl rfl ?_
    refine R.icmp_gt 26 22 dX1_digit_19 (by decide) rfl (fun hc => ?_) (fun hc => ?_)
    · replace h := h.1 hc
      refine R.iconst 27 dX1_digit_26 rfl ?_
      exact Rch.dropk (s_X1_digit_27 Q X _ _ h) ⟨rfl, trivial⟩
    · replace h := h.2 hc
      refine R.iconst 23 dX1_digit_22 rfl ?_
      refine R.goto 27 dX1_digit_23 (by decide) ?_
      exact Rch.dropk (s_X1_digit_27 Q X _ _ h) ⟨rfl, trivial⟩

abbrev k_X1_stepRead : MK := ("FrostBox", cX1_stepRead, 3, none, [], "stepRead")
def b_X1_stepRead_119 (Q : Wd → Prop) (X : Wd → Prop) (l1 : Int32) (l2 : Int32) (t0 : Int32) (t1 : Int32) (w : Wd) : Prop := inb t1 320 ∧ (∀ w1, w1 = sA w 24 t1.toInt t0 → (¬ l2 = iz 0 → inb (l1 + (iz 3)) 320 ∧ (∀ w2, w2 = sA w1 24 (l1 + (iz 3)).toInt (iz (-1)) → Q w2)) ∧ (l2 = iz 0 → wp_X1_digit (iz 1) w1 (fun r3 w4 => inb (l1 + (iz 3)) 320 ∧ (∀ w5, w5 = sA w4 24 (l1 + (iz 3)).toInt r3 → Q w5)) X))
def b_X1_stepRead_98 (Q : Wd → Prop) (X : Wd → Prop) (l1 : Int32) (l2 : Int32) (w : Wd) : Prop := (¬ l2 = iz 0 → b_X1_stepRead_119 Q X l1 l2 (iz (-1)) (l1 + (iz 2)) w) ∧ (l2 = iz 0 → wp_X1_digit (iz 9) w (fun r1 w2 => b_X1_stepRead_119 Q X l1 l2 r1 (l1 + (iz 2)) w2) X)
def b_X1_stepRead_33 (Q : Wd → Prop) (X : Wd → Prop) (l1 : Int32) (l2 : Int32) (t0 : Int32) (w : Wd) : Prop := wp_X1_need t0 w (fun w2 => ∀ w3, w3 = sI w2 13 ((gI w2 13) + (iz 1)) → inb l1 320 ∧ (∀ w4, w4 = sA w3 24 l1.toInt l2 → wp_X1_digit (iz 9) w4 (fun r5 w6 => inb (l1 + (iz 1)) 320 ∧ (∀ w7, w7 = sA w6 24 (l1 + (iz 1)).toInt r5 → (l2 ≤ (iz 3) → b_X1_stepRead_98 Q X l1 l2 w7) ∧ (¬ l2 ≤ (iz 3) → inb (l1 + (iz 1)) 320 ∧ wp_X1_digit (iz 9) w7 (fun r8 w9 => inb (l1 + (iz 1)) 320 ∧ (∀ w10, w10 = sA w9 24 (l1 + (iz 1)).toInt (((iz 10) * (gA w7 24 (l1 + (iz 1)).toInt)) + r8) → b_X1_stepRead_98 Q X l1 l2 w10)) X))) X)) X
def wp_X1_stepRead (l1 : Int32) (w : Wd) (Q : Wd → Prop) (X : Wd → Prop) : Prop := wp_X1_look w (fun r1 w2 => (¬ r1 = (iz (-1)) → wp_X1_there w2 (fun r3 w4 => 5 < 6 ∧ wp_J2_indexOf 5 r3 w4 (fun r5 w6 => (r5 < iz 0 → b_X1_stepRead_33 Q X l1 r5 (iz 0) w6) ∧ (¬ r5 < iz 0 → b_X1_stepRead_33 Q X l1 r5 (iz 1) w6)))) ∧ (r1 = (iz (-1)) → ((iz (-1)) < iz 0 → b_X1_stepRead_33 Q X l1 (iz (-1)) (iz 0) w2) ∧ (¬ (iz (-1)) < iz 0 → b_X1_stepRead_33 Q X l1 (iz (-1)) (iz 1) w2)))
set_option maxRecDepth 100000 in
set_option maxHeartbeats 4000000 in
theorem s_X1_stepRead_119 {γ : GG} (Q : Wd → Prop) (X : Wd → Prop) (l1 : Int32) (l2 : Int32) (t0 : Int32) (t1 : Int32) : ∀ (w : Wd), b_X1_stepRead_119 Q X l1 l2 t0 t1 w → Rch γ 5 k_X1_stepRead 119 [some (.ref 1), some (.int l1), some (.int l2)] [.int t0, .int t1, .ref 24] w (qV Q) (xE "FrostBox$Fault" X) := by
  intro w h
  unfold b_X1_stepRead_119 at h
  obtain ⟨hb, h⟩ := h
  replace h := h _ rfl
  refine R.iast ar_24 120 dX1_stepRead_119 rfl hb ?_
  refine R.aload_n 121 dX1_stepRead_120 rfl rfl ?_
  refine gf_24 124 dX1_stepRead_121 rfl rfl ?_
  refine R.iload_n 125 dX1_stepRead_124 rfl rfl ?_
  refine R.iconst 126 dX1_stepRead_125 rfl ?_
  refine R.iadd 127 dX1_stepRead_126 rfl ?_
  refine R.iload_n 128 dX1_stepRead_127 rfl rfl ?_
  refine R.if_ne 139 131 dX1_stepRead_128 (by decide) rfl (fun hc => ?_) (fun hc => ?_)
  · replace h := h.1 hc
    refine R.iconst 140 dX1_stepRead_139 rfl ?_
    obtain ⟨hb, h⟩ := h
    replace h := h _ rfl
    refine R.iast ar_24 141 dX1_stepRead_140 rfl hb ?_
    exact R.retV dX1_stepRead_141 rfl h
  · replace h := h.2 hc
    refine R.aload_n 132 dX1_stepRead_131 rfl rfl ?_
    refine R.iconst 133 dX1_stepRead_132 rfl ?_
    refine Rch.callv (sd_X1_digit _ _ _ _ h) dX1_stepRead_133 (lw_V q716 q718 qs23 q142 q719) dk_X1_digit rcX (by decide) (Nat.le_of_ble_eq_true rfl) rfl rfl (Nat.le_of_ble_eq_true rfl) (kI 136 rfl fun r3 w4 h => ?_) (kP rfl)
    refine R.goto 140 dX1_stepRead_136 (by decide) ?_
    obtain ⟨hb, h⟩ := h
    replace h := h _ rfl
    refine R.iast ar_24 141 dX1_stepRead_140 rfl hb ?_
    exact R.retV dX1_stepRead_141 rfl h
set_option maxRecDepth 100000 in
set_option maxHeartbeats 4000000 in
theorem s_X1_stepRead_98 {γ : GG} (Q : Wd → Prop) (X : Wd → Prop) (l1 : Int32) (l2 : Int32) : ∀ (w : Wd), b_X1_stepRead_98 Q X l1 l2 w → Rch γ 5 k_X1_stepRead 98 [some (.ref 1), some (.int l1), some (.int l2)] [] w (qV Q) (xE "FrostBox$Fault" X) := by
  intro w h
  unfold b_X1_stepRead_98 at h
  refine R.aload_n 99 dX1_stepRead_98 rfl rfl ?_
  refine gf_24 102 dX1_stepRead_99 rfl rfl ?_
  refine R.iload_n 103 dX1_stepRead_102 rfl rfl ?_
  refine R.iconst 104 dX1_stepRead_103 rfl ?_
  refine R.iadd 105 dX1_stepRead_104 rfl ?_
  refine R.iload_n 106 dX1_stepRead_105 rfl rfl ?_
  refine R.if_ne 118 109 dX1_stepRead_106 (by decide) rfl (fun hc => ?_) (fun hc => ?_)
  · replace h := h.1 hc
    refine R.iconst 119 dX1_stepRead_118 rfl ?_
    exact Rch.dropk (s_X1_stepRead_119 Q X _ _ _ _ _ h) ⟨rfl, ⟨rfl, ⟨rfl, trivial⟩⟩⟩
  · replace h := h.2 hc
    refine R.aload_n 110 dX1_stepRead_109 rfl rfl ?_
    refine R.bipush 112 dX1_stepRead_110 rfl (by decide +kernel) ?_
    refine Rch.callv (sd_X1_digit _ _ _ _ h) dX1_stepRead_112 (lw_V q716 q718 qs23 q142 q719) dk_X1_digit rcX (by decide) (Nat.le_of_ble_eq_true rfl) rfl rfl (Nat.le_of_ble_eq_true rfl) (kI 115 rfl fun r1 w2 h => ?_) (kP rfl)
    refine R.goto 119 dX1_stepRead_115 (by decide) ?_
    exact Rch.dropk (s_X1_stepRead_119 Q X _ _ _ _ _ h) ⟨rfl, ⟨rfl, ⟨rfl, trivial⟩⟩⟩
set_option maxRecDepth 100000 in
set_option maxHeartbeats 4000000 in
theorem s_X1_stepRead_33 {γ : GG} (Q : Wd → Prop) (X : Wd → Prop) (l1 : Int32) (l2 : Int32) (t0 : Int32) : ∀ (w : Wd), b_X1_stepRead_33 Q X l1 l2 t0 w → Rch γ 5 k_X1_stepRead 33 [some (.ref 1), some (.int l1), some (.int l2)] [.int t0, .ref 1] w (qV Q) (xE "FrostBox$Fault" X) := by
  intro w h
  unfold b_X1_stepRead_33 at h
  refine Rch.callv (sd_X1_need _ _ _ _ h) dX1_stepRead_33 (lw_V q481 q483 qs5 q142 q484) dk_X1_need rcX (by decide) (Nat.le_of_ble_eq_true rfl) rfl rfl (Nat.le_of_ble_eq_true rfl) (kV 36 rfl fun w2 h => ?_) (kP rfl)
  refine R.aload_n 37 dX1_stepRead_36 rfl rfl ?_
  refine R.dupR 38 dX1_stepRead_37 rfl ?_
  refine gf_13 41 dX1_stepRead_38 rfl rfl ?_
  refine R.iconst 42 dX1_stepRead_41 rfl ?_
  refine R.iadd 43 dX1_stepRead_42 rfl ?_
  replace h := h _ rfl
  refine pf_13 _ 46 dX1_stepRead_43 rfl rfl ?_
  refine R.aload_n 47 dX1_stepRead_46 rfl rfl ?_
  refine gf_24 50 dX1_stepRead_47 rfl rfl ?_
  refine R.iload_n 51 dX1_stepRead_50 rfl rfl ?_
  refine R.iload_n 52 dX1_stepRead_51 rfl rfl ?_
  obtain ⟨hb, h⟩ := h
  replace h := h _ rfl
  refine R.iast ar_24 53 dX1_stepRead_52 rfl hb ?_
  refine R.aload_n 54 dX1_stepRead_53 rfl rfl ?_
  refine gf_24 57 dX1_stepRead_54 rfl rfl ?_
  refine R.iload_n 58 dX1_stepRead_57 rfl rfl ?_
  refine R.iconst 59 dX1_stepRead_58 rfl ?_
  refine R.iadd 60 dX1_stepRead_59 rfl ?_
  refine R.aload_n 61 dX1_stepRead_60 rfl rfl ?_
  refine R.bipush 63 dX1_stepRead_61 rfl (by decide +kernel) ?_
  refine Rch.callv (sd_X1_digit _ _ _ _ h) dX1_stepRead_63 (lw_V q716 q718 qs23 q142 q719) dk_X1_digit rcX (by decide) (Nat.le_of_ble_eq_true rfl) rfl rfl (Nat.le_of_ble_eq_true rfl) (kI 66 rfl fun r5 w6 h => ?_) (kP rfl)
  obtain ⟨hb, h⟩ := h
  replace h := h _ rfl
  refine R.iast ar_24 67 dX1_stepRead_66 rfl hb ?_
  refine R.iload_n 68 dX1_stepRead_67 rfl rfl ?_
  refine R.iconst 69 dX1_stepRead_68 rfl ?_
  refine R.icmp_le 98 72 dX1_stepRead_69 (by decide) rfl (fun hc => ?_) (fun hc => ?_)
  · replace h := h.1 hc
    exact Rch.dropk (s_X1_stepRead_98 Q X _ _ _ h) ⟨rfl, ⟨rfl, ⟨rfl, trivial⟩⟩⟩
  · replace h := h.2 hc
    refine R.aload_n 73 dX1_stepRead_72 rfl rfl ?_
    refine gf_24 76 dX1_stepRead_73 rfl rfl ?_
    refine R.iload_n 77 dX1_stepRead_76 rfl rfl ?_
    refine R.iconst 78 dX1_stepRead_77 rfl ?_
    refine R.iadd 79 dX1_stepRead_78 rfl ?_
    refine R.bipush 81 dX1_stepRead_79 rfl (by decide +kernel) ?_
    refine R.aload_n 82 dX1_stepRead_81 rfl rfl ?_
    refine gf_24 85 dX1_stepRead_82 rfl rfl ?_
    refine R.iload_n 86 dX1_stepRead_85 rfl rfl ?_
    refine R.iconst 87 dX1_stepRead_86 rfl ?_
    refine R.iadd 88 dX1_stepRead_87 rfl ?_
    obtain ⟨hb, h⟩ := h
    refine R.iald ar_24 89 dX1_stepRead_88 rfl hb ?_
    refine R.imul 90 dX1_stepRead_89 rfl ?_
    refine R.aload_n 91 dX1_stepRead_90 rfl rfl ?_
    refine R.bipush 93 dX1_stepRead_91 rfl (by decide +kernel) ?_
    refine Rch.callv (sd_X1_digit _ _ _ _ h) dX1_stepRead_93 (lw_V q716 q718 qs23 q142 q719) dk_X1_digit rcX (by decide) (Nat.le_of_ble_eq_true rfl) rfl rfl (Nat.le_of_ble_eq_true rfl) (kI 96 rfl fun r8 w9 h => ?_) (kP rfl)
    refine R.iadd 97 dX1_stepRead_96 rfl ?_
    obtain ⟨hb, h⟩ := h
    replace h := h _ rfl
    refine R.iast ar_24 98 dX1_stepRead_97 rfl hb ?_
    exact Rch.dropk (s_X1_stepRead_98 Q X _ _ _ h) ⟨rfl, ⟨rfl, ⟨rfl, trivial⟩⟩⟩
set_option maxRecDepth 100000 in
set_option maxHeartbeats 4000000 in
theorem sd_X1_stepRead {γ : GG} (l1 : Int32) (w : Wd) (Q : Wd → Prop) (X : Wd → Prop) : wp_X1_stepRead l1 w Q X → Ctr γ 5 yX1_stepRead (ws_ yX1_stepRead cX1_stepRead 3 none) [.ref 1, .int l1] w (qV Q) (xE "FrostBox$Fault" X) := by
  intro h
  unfold wp_X1_stepRead at h
  refine Ctr.of (μ := k_X1_stepRead) (by decide) rfl rfl rfl (Nat.le_of_ble_eq_true rfl) ⟨1, ?_⟩
  have es : lva [.ref 1, .int l1] ++ List.replicate 1 none = [some (.ref 1), some (.int l1), none] := rfl
  rw [es]
  refine R.aload_n 1 dX1_stepRead_0 rfl rfl ?_
  refine Rch.callv (sd_X1_look _ _ h) dX1_stepRead_1 (lw_V q390 q392 qs4 q142 q393) dk_X1_look rcX (by decide) (Nat.le_of_ble_eq_true rfl) rfl rfl (Nat.le_of_ble_eq_true rfl) (kI 4 rfl fun r1 w2 h => ?_) kN
  refine R.iconst 5 dX1_stepRead_4 rfl ?_
  refine R.icmp_ne 12 8 dX1_stepRead_5 (by decide) rfl (fun hc => ?_) (fun hc => ?_)
  · replace h := h.1 hc
    refine R.ldcSW (i := 5) 15 dX1_stepRead_12 rfl (List.mem_of_getElem? (i := 5) rfl) ?_
    refine R.aload_n 16 dX1_stepRead_15 rfl rfl ?_
    refine Rch.callv (sd_X1_there _ _ h) dX1_stepRead_16 (lw_V q677 q679 qs18 q142 q680) dk_X1_there rcX (by decide) (Nat.le_of_ble_eq_true rfl) rfl rfl (Nat.le_of_ble_eq_true rfl) (kI 19 rfl fun r3 w4 h => ?_) kN
    obtain ⟨h6, h⟩ := h
    refine Rch.callv (sd_J2_indexOf _ _ _ _ h) dX1_stepRead_19 (lw_V q395 q396 q397 q147 q398) dk_J2_indexOf (rcS 5 h6) (by decide) (Nat.le_of_ble_eq_true rfl) rfl rfl (Nat.le_of_ble_eq_true rfl) (kI 22 rfl fun r5 w6 h => ?_) kN
    refine R.ist2n 23 dX1_stepRead_22 rfl (Nat.le_of_ble_eq_true rfl) rfl ?_
    refine R.aload_n 24 dX1_stepRead_23 rfl rfl ?_
    refine R.iload_n 25 dX1_stepRead_24 rfl rfl ?_
    refine R.if_lt 32 28 dX1_stepRead_25 (by decide) rfl (fun hc => ?_) (fun hc => ?_)
    · replace h := h.1 hc
      refine R.iconst 33 dX1_stepRead_32 rfl ?_
      exact Rch.dropk (s_X1_stepRead_33 Q X _ _ _ _ h) ⟨rfl, ⟨rfl, ⟨rfl, trivial⟩⟩⟩
    · replace h := h.2 hc
      refine R.iconst 29 dX1_stepRead_28 rfl ?_
      refine R.goto 33 dX1_stepRead_29 (by decide) ?_
      exact Rch.dropk (s_X1_stepRead_33 Q X _ _ _ _ h) ⟨rfl, ⟨rfl, ⟨rfl, trivial⟩⟩⟩
  · replace h := h.2 hc
    refine R.iconst 9 dX1_stepRead_8 rfl ?_
    refine R.goto 22 dX1_stepRead_9 (by decide) ?_
    refine R.ist2n 23 dX1_stepRead_22 rfl (Nat.le_of_ble_eq_true rfl) rfl ?_
    refine R.aload_n 24 dX1_stepRead_23 rfl rfl ?_
    refine R.iload_n 25 dX1_stepRead_24 rfl rfl ?_
    refine R.if_lt 32 28 dX1_stepRead_25 (by decide) rfl (fun hc => ?_) (fun hc => ?_)
    · replace h := h.1 hc
      refine R.iconst 33 dX1_stepRead_32 rfl ?_
      exact Rch.dropk (s_X1_stepRead_33 Q X _ _ _ _ h) ⟨rfl, ⟨rfl, ⟨rfl, trivial⟩⟩⟩
    · replace h := h.2 hc
      refine R.iconst 29 dX1_stepRead_28 rfl ?_
      refine R.goto 33 dX1_stepRead_29 (by decide) ?_
      exact Rch.dropk (s_X1_stepRead_33 Q X _ _ _ _ h) ⟨rfl, ⟨rfl, ⟨rfl, trivial⟩⟩⟩

abbrev k_X1_wholePlan : MK := ("FrostBox", cX1_wholePlan, 3, none, [], "wholePlan")
def b_X1_wholePlan_70 (Q : Wd → Prop) (X : Wd → Prop) (R14 : Int32 → Wd → Prop) (l1 : Int32) (t0 : Int32) (w : Wd) : Prop := (t0 = iz 0 → R14 t0 w) ∧ (¬ t0 = iz 0 → ∀ w1, w1 = sI w 13 ((gI w 13) + (iz 1)) → R14 t0 w1)
def wl_X1_wholePlan_14 (Q : Wd → Prop) (X : Wd → Prop) (l1 : Int32) (R14 : Int32 → Wd → Prop) (l2 : Int32) (w : Wd) : Prop := (l2 = iz 0 → wp_X1_look w (fun r1 w2 => (¬ r1 = (iz (-1)) → wp_X1_need (iz 0) w2 (fun w4 => Q w4) X) ∧ (r1 = (iz (-1)) → wp_X1_need (iz 1) w2 (fun w7 => Q w7) X))) ∧ (¬ l2 = iz 0 → inb l1 5 ∧ wp_X1_stepRead ((iz 4) * (((iz 16) * l1) + (gA w 25 l1.toInt))) w (fun w10 => inb l1 5 ∧ inb l1 5 ∧ (∀ w11, w11 = sA w10 25 l1.toInt ((gA w10 25 l1.toInt) + (iz 1)) → wp_X1_look w11 (fun r12 w13 => (¬ r12 = (iz 59) → b_X1_wholePlan_70 Q X R14 l1 (iz 0) w13) ∧ (r12 = (iz 59) → inb l1 5 ∧ ((iz 16) ≤ (gA w13 25 l1.toInt) → b_X1_wholePlan_70 Q X R14 l1 (iz 0) w13) ∧ (¬ (iz 16) ≤ (gA w13 25 l1.toInt) → b_X1_wholePlan_70 Q X R14 l1 (iz 1) w13))))) X)
def lp_X1_wholePlan_14 (Q : Wd → Prop) (X : Wd → Prop) (l1 : Int32) : Nat → Int32 → Wd → Prop
  | 0, _, _ => False
  | n + 1, l2, w => wl_X1_wholePlan_14 Q X l1 (lp_X1_wholePlan_14 Q X l1 n) l2 w
def wp_X1_wholePlan (l1 : Int32) (w : Wd) (Q : Wd → Prop) (X : Wd → Prop) : Prop := ∀ w1, w1 = sI w 13 (iz 0) → inb l1 5 ∧ (∀ w2, w2 = sA w1 25 l1.toInt (iz 0) → ∃ n3, lp_X1_wholePlan_14 Q X l1 n3 (iz 1) w2)
set_option maxRecDepth 100000 in
set_option maxHeartbeats 4000000 in
theorem s_X1_wholePlan_70 {γ : GG} (Q : Wd → Prop) (X : Wd → Prop) (R14 : Int32 → Wd → Prop) (l1 : Int32) (t0 : Int32) (hR14 : ∀ (l2 : Int32) (w : Wd), R14 l2 w → Rch γ 6 k_X1_wholePlan 14 [some (.ref 1), some (.int l1), some (.int l2)] [] w (qV Q) (xE "FrostBox$Fault" X)) : ∀ (w : Wd), b_X1_wholePlan_70 Q X R14 l1 t0 w → Rch γ 6 k_X1_wholePlan 70 [some (.ref 1), some (.int l1), none] [.int t0] w (qV Q) (xE "FrostBox$Fault" X) := by
  intro w h
  unfold b_X1_wholePlan_70 at h
  refine R.ist2n 71 dX1_wholePlan_70 rfl (Nat.le_of_ble_eq_true rfl) rfl ?_
  refine R.iload_n 72 dX1_wholePlan_71 rfl rfl ?_
  refine R.if_eq 14 75 dX1_wholePlan_72 (by decide) rfl (fun hc => ?_) (fun hc => ?_)
  · replace h := h.1 hc
    exact Rch.dropk (hR14 _ _ h) ⟨rfl, ⟨rfl, ⟨rfl, trivial⟩⟩⟩
  · replace h := h.2 hc
    refine R.aload_n 76 dX1_wholePlan_75 rfl rfl ?_
    refine R.dupR 77 dX1_wholePlan_76 rfl ?_
    refine gf_13 80 dX1_wholePlan_77 rfl rfl ?_
    refine R.iconst 81 dX1_wholePlan_80 rfl ?_
    refine R.iadd 82 dX1_wholePlan_81 rfl ?_
    replace h := h _ rfl
    refine pf_13 _ 85 dX1_wholePlan_82 rfl rfl ?_
    refine R.goto 14 dX1_wholePlan_85 (by decide) ?_
    exact Rch.dropk (hR14 _ _ h) ⟨rfl, ⟨rfl, ⟨rfl, trivial⟩⟩⟩
set_option maxRecDepth 100000 in
set_option maxHeartbeats 4000000 in
theorem sl_X1_wholePlan_14 {γ : GG} (Q : Wd → Prop) (X : Wd → Prop) (l1 : Int32) : ∀ (n : Nat) (l2 : Int32) (w : Wd), lp_X1_wholePlan_14 Q X l1 n l2 w → Rch γ 6 k_X1_wholePlan 14 [some (.ref 1), some (.int l1), some (.int l2)] [] w (qV Q) (xE "FrostBox$Fault" X) := by
  intro n
  induction n with
  | zero => intro _ _ h; exact h.elim
  | succ n hR14 =>
    intro l2 w h
    have h : wl_X1_wholePlan_14 Q X l1 (lp_X1_wholePlan_14 Q X l1 n) l2 w := h
    unfold wl_X1_wholePlan_14 at h
    refine R.iload_n 15 dX1_wholePlan_14 rfl rfl ?_
    refine R.if_eq 88 18 dX1_wholePlan_15 (by decide) rfl (fun hc => ?_) (fun hc => ?_)
    · replace h := h.1 hc
      refine R.aload_n 89 dX1_wholePlan_88 rfl rfl ?_
      refine R.aload_n 90 dX1_wholePlan_89 rfl rfl ?_
      refine Rch.callv (sd_X1_look _ _ h) dX1_wholePlan_90 (lw_V q390 q392 qs4 q142 q393) dk_X1_look rcX (by decide) (Nat.le_of_ble_eq_true rfl) rfl rfl (Nat.le_of_ble_eq_true rfl) (kI 93 rfl fun r1 w2 h => ?_) kN
      refine R.iconst 94 dX1_wholePlan_93 rfl ?_
      refine R.icmp_ne 101 97 dX1_wholePlan_94 (by decide) rfl (fun hc => ?_) (fun hc => ?_)
      · replace h := h.1 hc
        refine R.iconst 102 dX1_wholePlan_101 rfl ?_
        refine Rch.callv (sd_X1_need _ _ _ _ h) dX1_wholePlan_102 (lw_V q481 q483 qs5 q142 q484) dk_X1_need rcX (by decide) (Nat.le_of_ble_eq_true rfl) rfl rfl (Nat.le_of_ble_eq_true rfl) (kV 105 rfl fun w4 h => ?_) (kP rfl)
        exact R.retV dX1_wholePlan_105 rfl h
      · replace h := h.2 hc
        refine R.iconst 98 dX1_wholePlan_97 rfl ?_
        refine R.goto 102 dX1_wholePlan_98 (by decide) ?_
        refine Rch.callv (sd_X1_need _ _ _ _ h) dX1_wholePlan_102 (lw_V q481 q483 qs5 q142 q484) dk_X1_need rcX (by decide) (Nat.le_of_ble_eq_true rfl) rfl rfl (Nat.le_of_ble_eq_true rfl) (kV 105 rfl fun w7 h => ?_) (kP rfl)
        exact R.retV dX1_wholePlan_105 rfl h
    · replace h := h.2 hc
      refine R.aload_n 19 dX1_wholePlan_18 rfl rfl ?_
      refine R.iconst 20 dX1_wholePlan_19 rfl ?_
      refine R.bipush 22 dX1_wholePlan_20 rfl (by decide +kernel) ?_
      refine R.iload_n 23 dX1_wholePlan_22 rfl rfl ?_
      refine R.imul 24 dX1_wholePlan_23 rfl ?_
      refine R.aload_n 25 dX1_wholePlan_24 rfl rfl ?_
      refine gf_25 28 dX1_wholePlan_25 rfl rfl ?_
      refine R.iload_n 29 dX1_wholePlan_28 rfl rfl ?_
      obtain ⟨hb, h⟩ := h
      refine R.iald ar_25 30 dX1_wholePlan_29 rfl hb ?_
      refine R.iadd 31 dX1_wholePlan_30 rfl ?_
      refine R.imul 32 dX1_wholePlan_31 rfl ?_
      refine Rch.callv (sd_X1_stepRead _ _ _ _ h) dX1_wholePlan_32 (lw_V q711 q713 qs22 q142 q714) dk_X1_stepRead rcX (by decide) (Nat.le_of_ble_eq_true rfl) rfl rfl (Nat.le_of_ble_eq_true rfl) (kV 35 rfl fun w10 h => ?_) (kP rfl)
      refine R.aload_n 36 dX1_wholePlan_35 rfl rfl ?_
      refine gf_25 39 dX1_wholePlan_36 rfl rfl ?_
      refine R.iload_n 40 dX1_wholePlan_39 rfl rfl ?_
      refine R.dup2 41 dX1_wholePlan_40 rfl ?_
      obtain ⟨hb, h⟩ := h
      refine R.iald ar_25 42 dX1_wholePlan_41 rfl hb ?_
      refine R.iconst 43 dX1_wholePlan_42 rfl ?_
      refine R.iadd 44 dX1_wholePlan_43 rfl ?_
      obtain ⟨hb, h⟩ := h
      replace h := h _ rfl
      refine R.iast ar_25 45 dX1_wholePlan_44 rfl hb ?_
      refine R.aload_n 46 dX1_wholePlan_45 rfl rfl ?_
      refine Rch.callv (sd_X1_look _ _ h) dX1_wholePlan_46 (lw_V q390 q392 qs4 q142 q393) dk_X1_look rcX (by decide) (Nat.le_of_ble_eq_true rfl) rfl rfl (Nat.le_of_ble_eq_true rfl) (kI 49 rfl fun r12 w13 h => ?_) kN
      refine R.bipush 51 dX1_wholePlan_49 rfl (by decide +kernel) ?_
      refine R.icmp_ne 69 54 dX1_wholePlan_51 (by decide) rfl (fun hc => ?_) (fun hc => ?_)
      · replace h := h.1 hc
        refine R.iconst 70 dX1_wholePlan_69 rfl ?_
        exact Rch.dropk (s_X1_wholePlan_70 Q X _ _ _ hR14 _ h) ⟨rfl, ⟨rfl, trivial⟩⟩
      · replace h := h.2 hc
        refine R.aload_n 55 dX1_wholePlan_54 rfl rfl ?_
        refine gf_25 58 dX1_wholePlan_55 rfl rfl ?_
        refine R.iload_n 59 dX1_wholePlan_58 rfl rfl ?_
        obtain ⟨hb, h⟩ := h
        refine R.iald ar_25 60 dX1_wholePlan_59 rfl hb ?_
        refine R.bipush 62 dX1_wholePlan_60 rfl (by decide +kernel) ?_
        refine R.icmp_ge 69 65 dX1_wholePlan_62 (by decide) rfl (fun hc => ?_) (fun hc => ?_)
        · replace h := h.1 hc
          refine R.iconst 70 dX1_wholePlan_69 rfl ?_
          exact Rch.dropk (s_X1_wholePlan_70 Q X _ _ _ hR14 _ h) ⟨rfl, ⟨rfl, trivial⟩⟩
        · replace h := h.2 hc
          refine R.iconst 66 dX1_wholePlan_65 rfl ?_
          refine R.goto 70 dX1_wholePlan_66 (by decide) ?_
          exact Rch.dropk (s_X1_wholePlan_70 Q X _ _ _ hR14 _ h) ⟨rfl, ⟨rfl, trivial⟩⟩
set_option maxRecDepth 100000 in
set_option maxHeartbeats 4000000 in
theorem sd_X1_wholePlan {γ : GG} (l1 : Int32) (w : Wd) (Q : Wd → Prop) (X : Wd → Prop) : wp_X1_wholePlan l1 w Q X → Ctr γ 6 yX1_wholePlan (ws_ yX1_wholePlan cX1_wholePlan 3 none) [.ref 1, .int l1] w (qV Q) (xE "FrostBox$Fault" X) := by
  intro h
  unfold wp_X1_wholePlan at h
  refine Ctr.of (μ := k_X1_wholePlan) (by decide) rfl rfl rfl (Nat.le_of_ble_eq_true rfl) ⟨1, ?_⟩
  have es : lva [.ref 1, .int l1] ++ List.replicate 1 none = [some (.ref 1), some (.int l1), none] := rfl
  rw [es]
  refine R.aload_n 1 dX1_wholePlan_0 rfl rfl ?_
  refine R.iconst 2 dX1_wholePlan_1 rfl ?_
  replace h := h _ rfl
  refine pf_13 _ 5 dX1_wholePlan_2 rfl rfl ?_
  refine R.aload_n 6 dX1_wholePlan_5 rfl rfl ?_
  refine gf_25 9 dX1_wholePlan_6 rfl rfl ?_
  refine R.iload_n 10 dX1_wholePlan_9 rfl rfl ?_
  refine R.iconst 11 dX1_wholePlan_10 rfl ?_
  obtain ⟨hb, h⟩ := h
  replace h := h _ rfl
  refine R.iast ar_25 12 dX1_wholePlan_11 rfl hb ?_
  refine R.iconst 13 dX1_wholePlan_12 rfl ?_
  refine R.ist2n 14 dX1_wholePlan_13 rfl (Nat.le_of_ble_eq_true rfl) rfl ?_
  obtain ⟨n3, h⟩ := h
  exact Rch.dropk (sl_X1_wholePlan_14 Q X _ n3 _ _ h) ⟨rfl, ⟨rfl, ⟨rfl, trivial⟩⟩⟩

abbrev k_X1_readAs : MK := ("FrostBox", cX1_readAs, 2, none, [], "readAs")
def wp_X1_readAs (l1 : Int32) (w : Wd) (Q : Wd → Prop) (X : Wd → Prop) : Prop := (¬ l1 = iz 0 → wp_X1_wholePlan (iz 4) w (fun w2 => Q w2) X) ∧ (l1 = iz 0 → wp_X1_wholeHouse w (fun w5 => Q w5) X)
set_option maxRecDepth 100000 in
set_option maxHeartbeats 4000000 in
theorem sd_X1_readAs {γ : GG} (l1 : Int32) (w : Wd) (Q : Wd → Prop) (X : Wd → Prop) : wp_X1_readAs l1 w Q X → Ctr γ 8 yX1_readAs (ws_ yX1_readAs cX1_readAs 2 none) [.ref 1, .int l1] w (qV Q) (xE "FrostBox$Fault" X) := by
  intro h
  unfold wp_X1_readAs at h
  refine Ctr.of (μ := k_X1_readAs) (by decide) rfl rfl rfl (Nat.le_of_ble_eq_true rfl) ⟨0, ?_⟩
  have es : lva [.ref 1, .int l1] ++ List.replicate 0 none = [some (.ref 1), some (.int l1)] := rfl
  rw [es]
  refine R.iload_n 1 dX1_readAs_0 rfl rfl ?_
  refine R.if_ne 11 4 dX1_readAs_1 (by decide) rfl (fun hc => ?_) (fun hc => ?_)
  · replace h := h.1 hc
    refine R.aload_n 12 dX1_readAs_11 rfl rfl ?_
    refine R.iconst 13 dX1_readAs_12 rfl ?_
    refine Rch.callv (sd_X1_wholePlan _ _ _ _ h) dX1_readAs_13 (lw_V q707 q709 qs21 q142 q710) dk_X1_wholePlan rcX (by decide) (Nat.le_of_ble_eq_true rfl) rfl rfl (Nat.le_of_ble_eq_true rfl) (kV 16 rfl fun w2 h => ?_) (kP rfl)
    exact R.retV dX1_readAs_16 rfl h
  · replace h := h.2 hc
    refine R.aload_n 5 dX1_readAs_4 rfl rfl ?_
    refine Rch.callv (sd_X1_wholeHouse _ _ _ h) dX1_readAs_5 (lw_V q666 q668 qs16 q142 q669) dk_X1_wholeHouse rcX (by decide) (Nat.le_of_ble_eq_true rfl) rfl rfl (Nat.le_of_ble_eq_true rfl) (kV 8 rfl fun w5 h => ?_) (kP rfl)
    refine R.goto 16 dX1_readAs_8 (by decide) ?_
    exact R.retV dX1_readAs_16 rfl h

abbrev k_X1_fault : MK := ("FrostBox", cX1_fault, 3, (some .int), [(22, 28, 29, 9)], "fault")
def wp_X1_fault (l1 : Int32) (w : Wd) (Q : Int32 → Wd → Prop) : Prop := (¬ l1 = (iz 1) → (l1 = iz 0 → wp_X1_readAs l1 w (fun w2 => Q (iz (-1)) w2) (fun w3 => Q (gI w3 13) w3)) ∧ (¬ l1 = iz 0 → (l1 = (iz 2) → wp_X1_readAs l1 w (fun w5 => Q (iz (-1)) w5) (fun w6 => Q (gI w6 13) w6)) ∧ (¬ l1 = (iz 2) → Q (iz (-2)) w))) ∧ (l1 = (iz 1) → wp_X1_lawFault w (fun r7 w8 => Q r7 w8))
set_option maxRecDepth 100000 in
set_option maxHeartbeats 4000000 in
theorem sd_X1_fault {γ : GG} (l1 : Int32) (w : Wd) (Q : Int32 → Wd → Prop) : wp_X1_fault l1 w Q → Ctr γ 71 yX1_fault (wsW_ yX1_fault cX1_fault 3 (some .int) [(22, 28, 29, 9)]) [.ref 1, .int l1] w (qI Q) xN := by
  intro h
  unfold wp_X1_fault at h
  refine Ctr.ofH (μ := k_X1_fault) (by decide) rfl rfl (Nat.le_of_ble_eq_true rfl) ⟨1, ?_⟩
  have es : lva [.ref 1, .int l1] ++ List.replicate 1 none = [some (.ref 1), some (.int l1), none] := rfl
  rw [es]
  refine R.iload_n 1 dX1_fault_0 rfl rfl ?_
  refine R.iconst 2 dX1_fault_1 rfl ?_
  refine R.icmp_ne 10 5 dX1_fault_2 (by decide) rfl (fun hc => ?_) (fun hc => ?_)
  · replace h := h.1 hc
    refine R.iload_n 11 dX1_fault_10 rfl rfl ?_
    refine R.if_eq 22 14 dX1_fault_11 (by decide) rfl (fun hc => ?_) (fun hc => ?_)
    · replace h := h.1 hc
      refine R.aload_n 23 dX1_fault_22 rfl rfl ?_
      refine R.iload_n 24 dX1_fault_23 rfl rfl ?_
      refine Rch.callv (sd_X1_readAs _ _ _ _ h) dX1_fault_24 (lw_V q662 q664 qs15 q142 q665) dk_X1_readAs rcX (by decide) (Nat.le_of_ble_eq_true rfl) rfl rfl (Nat.le_of_ble_eq_true rfl) (kV 27 rfl fun w2 h => ?_) (kC fun w3 h => ?_)
      · refine R.iconst 28 dX1_fault_27 rfl ?_
        exact R.retI dX1_fault_28 rfl h
      · refine RchX.catch (k0 := 2) rfl (by decide) (by decide) q174 (List.mem_of_getElem? (i := 0) rfl) dX1_fault_29 rfl (Nat.le_of_ble_eq_true rfl) (hpS (i := 1) rfl rfl) ?_
        refine R.aload_n 31 dX1_fault_30 rfl rfl ?_
        refine gf_13 34 dX1_fault_31 rfl rfl ?_
        exact R.retI dX1_fault_34 rfl h
    · replace h := h.2 hc
      refine R.iload_n 15 dX1_fault_14 rfl rfl ?_
      refine R.iconst 16 dX1_fault_15 rfl ?_
      refine R.icmp_eq 22 19 dX1_fault_16 (by decide) rfl (fun hc => ?_) (fun hc => ?_)
      · replace h := h.1 hc
        refine R.aload_n 23 dX1_fault_22 rfl rfl ?_
        refine R.iload_n 24 dX1_fault_23 rfl rfl ?_
        refine Rch.callv (sd_X1_readAs _ _ _ _ h) dX1_fault_24 (lw_V q662 q664 qs15 q142 q665) dk_X1_readAs rcX (by decide) (Nat.le_of_ble_eq_true rfl) rfl rfl (Nat.le_of_ble_eq_true rfl) (kV 27 rfl fun w5 h => ?_) (kC fun w6 h => ?_)
        · refine R.iconst 28 dX1_fault_27 rfl ?_
          exact R.retI dX1_fault_28 rfl h
        · refine RchX.catch (k0 := 2) rfl (by decide) (by decide) q174 (List.mem_of_getElem? (i := 0) rfl) dX1_fault_29 rfl (Nat.le_of_ble_eq_true rfl) (hpS (i := 1) rfl rfl) ?_
          refine R.aload_n 31 dX1_fault_30 rfl rfl ?_
          refine gf_13 34 dX1_fault_31 rfl rfl ?_
          exact R.retI dX1_fault_34 rfl h
      · replace h := h.2 hc
        refine R.bipush 21 dX1_fault_19 rfl (by decide +kernel) ?_
        exact R.retI dX1_fault_21 rfl h
  · replace h := h.2 hc
    refine R.aload_n 6 dX1_fault_5 rfl rfl ?_
    refine Rch.callvH (sd_X1_lawFault _ _ h) dX1_fault_6 (lw_VW q378 q380 qs1 q142 q381) dk_X1_lawFault rcX (by decide) (Nat.le_of_ble_eq_true rfl) rfl rfl (Nat.le_of_ble_eq_true rfl) (kI 9 rfl fun r7 w8 h => ?_) kN
    exact R.retI dX1_fault_9 rfl h

abbrev k_X1_lawRead : MK := ("FrostBox", cX1_lawRead, 2, (some .int), [(10, 23, 26, 9)], "lawRead")
def wp_X1_lawRead (w : Wd) (Q : Int32 → Wd → Prop) : Prop := (¬ (gI w 28) = (iz 4) → wp_X1_wholeLaw w (fun r1 w2 => inb (gI w 28) 4 ∧ (∃ fs, gF w2 r1 = some (6, fs)) ∧ (∀ w3, w3 = sC w2 (gI w 28).toInt (some r1) → ∀ w4, w4 = sI w3 12 (iz 0) → ∀ w5, w5 = sI w4 28 ((gI w4 28) + (iz 1)) → Q ((gI w5 28) - (iz 1)) w5)) (fun w6 => Q (iz (-1)) w6)) ∧ ((gI w 28) = (iz 4) → Q (iz (-1)) w)
set_option maxRecDepth 100000 in
set_option maxHeartbeats 4000000 in
theorem sd_X1_lawRead {γ : GG} (w : Wd) (Q : Int32 → Wd → Prop) : wp_X1_lawRead w Q → Ctr γ 70 yX1_lawRead (wsW_ yX1_lawRead cX1_lawRead 2 (some .int) [(10, 23, 26, 9)]) [.ref 1] w (qI Q) xN := by
  intro h
  unfold wp_X1_lawRead at h
  refine Ctr.ofH (μ := k_X1_lawRead) (by decide) rfl rfl (Nat.le_of_ble_eq_true rfl) ⟨1, ?_⟩
  have es : lva [.ref 1] ++ List.replicate 1 none = [some (.ref 1), none] := rfl
  rw [es]
  refine R.aload_n 1 dX1_lawRead_0 rfl rfl ?_
  refine gf_28 4 dX1_lawRead_1 rfl rfl ?_
  refine R.iconst 5 dX1_lawRead_4 rfl ?_
  refine R.icmp_ne 10 8 dX1_lawRead_5 (by decide) rfl (fun hc => ?_) (fun hc => ?_)
  · replace h := h.1 hc
    refine R.aload_n 11 dX1_lawRead_10 rfl rfl ?_
    refine gf_27 14 dX1_lawRead_11 rfl rfl ?_
    refine R.aload_n 15 dX1_lawRead_14 rfl rfl ?_
    refine gf_28 18 dX1_lawRead_15 rfl rfl ?_
    refine R.aload_n 19 dX1_lawRead_18 rfl rfl ?_
    refine Rch.callv (sd_X1_wholeLaw _ _ _ h) dX1_lawRead_19 (lw_V q382 q384 qs2 q142 q385) dk_X1_wholeLaw rcX (by decide) (Nat.le_of_ble_eq_true rfl) rfl rfl (Nat.le_of_ble_eq_true rfl) (kR 22 rfl fun r1 w2 h => ?_) (kC fun w6 h => ?_)
    · obtain ⟨hb, ⟨fs, hg⟩, h⟩ := h
      replace h := h _ rfl
      refine R.aast 23 dX1_lawRead_22 rfl hb hg ?_
      refine R.goto 29 dX1_lawRead_23 (by decide) ?_
      refine R.aload_n 30 dX1_lawRead_29 rfl rfl ?_
      refine R.iconst 31 dX1_lawRead_30 rfl ?_
      replace h := h _ rfl
      refine pf_12 _ 34 dX1_lawRead_31 rfl rfl ?_
      refine R.aload_n 35 dX1_lawRead_34 rfl rfl ?_
      refine R.dupR 36 dX1_lawRead_35 rfl ?_
      refine gf_28 39 dX1_lawRead_36 rfl rfl ?_
      refine R.iconst 40 dX1_lawRead_39 rfl ?_
      refine R.iadd 41 dX1_lawRead_40 rfl ?_
      replace h := h _ rfl
      refine pf_28 _ 44 dX1_lawRead_41 rfl rfl ?_
      refine R.aload_n 45 dX1_lawRead_44 rfl rfl ?_
      refine gf_28 48 dX1_lawRead_45 rfl rfl ?_
      refine R.iconst 49 dX1_lawRead_48 rfl ?_
      refine R.isub 50 dX1_lawRead_49 rfl ?_
      exact R.retI dX1_lawRead_50 rfl h
    · refine RchX.catch (k0 := 1) rfl (by decide) (by decide) q174 (List.mem_of_getElem? (i := 0) rfl) dX1_lawRead_26 rfl (Nat.le_of_ble_eq_true rfl) (hpS (i := 0) rfl rfl) ?_
      refine R.iconst 28 dX1_lawRead_27 rfl ?_
      exact R.retI dX1_lawRead_28 rfl h
  · replace h := h.2 hc
    refine R.iconst 9 dX1_lawRead_8 rfl ?_
    exact R.retI dX1_lawRead_9 rfl h
