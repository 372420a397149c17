set_option maxRecDepth 100000

abbrev k_X3_make : MK := ("FrostBoxModel", cX3_make, 4, (some .int), [], "make")
def wp_X3_make (l1 : Int32) (l2 : Int32) (w : Wd) (Q : Int32 → Wd → Prop) : Prop := ∀ w1, w1 = sI w 60 (iz 0) → wp_X3_isKind l1 w1 (fun r2 w3 => (r2 = iz 0 → Q (iz (-1)) w3) ∧ (¬ r2 = iz 0 → wp_X3_isIn ((l2).toInt64) (lz 1) (lz 81) w3 (fun r4 w5 => (¬ r4 = iz 0 → wp_X3_told l1 (iz 1) w5 (fun r6 w7 => (¬ r6 = 0) ∧ (¬ (l2 - l2 / r6 * r6) = iz 0 → Q (iz (-1)) w7) ∧ ((l2 - l2 / r6 * r6) = iz 0 → (¬ r6 = 0) ∧ ((iz 9) < (l2 / r6) → Q (iz (-1)) w7) ∧ (¬ (iz 9) < (l2 / r6) → (¬ r6 = 0) ∧ Q (l2 / r6) w7)))) ∧ (r4 = iz 0 → Q (iz (-1)) w5))))
set_option maxRecDepth 100000 in
set_option maxHeartbeats 4000000 in
theorem sd_X3_make {γ : GG} (l1 : Int32) (l2 : Int32) (w : Wd) (Q : Int32 → Wd → Prop) : wp_X3_make l1 l2 w Q → Ctr γ 2 yX3_make (ws_ yX3_make cX3_make 4 (some .int)) [.ref 2, .int l1, .int l2] w (qI Q) xN := by
  intro h
  unfold wp_X3_make at h
  refine Ctr.of (μ := k_X3_make) (by decide) rfl rfl rfl (Nat.le_of_ble_eq_true rfl) ⟨1, ?_⟩
  have es : lva [.ref 2, .int l1, .int l2] ++ List.replicate 1 none = [some (.ref 2), some (.int l1), some (.int l2), none] := rfl
  rw [es]
  refine R.aload_n 1 dX3_make_0 rfl rfl ?_
  refine R.iconst 2 dX3_make_1 rfl ?_
  replace h := h _ rfl
  refine pf_60 _ 5 dX3_make_2 rfl rfl ?_
  refine R.aload_n 6 dX3_make_5 rfl rfl ?_
  refine R.iload_n 7 dX3_make_6 rfl rfl ?_
  refine Rch.callv (sd_X3_isKind _ _ _ h) dX3_make_7 (lw_V q1573 q1575 qs104 q146 q1576) dk_X3_isKind rcM (by decide) (Nat.le_of_ble_eq_true rfl) rfl rfl (Nat.le_of_ble_eq_true rfl) (kI 10 rfl fun r2 w3 h => ?_) kN
  refine R.if_eq 25 13 dX3_make_10 (by decide) rfl (fun hc => ?_) (fun hc => ?_)
  · replace h := h.1 hc
    refine R.iconst 26 dX3_make_25 rfl ?_
    exact R.retI dX3_make_26 rfl h
  · replace h := h.2 hc
    refine R.iload_n 14 dX3_make_13 rfl rfl ?_
    refine R.i2l 15 dX3_make_14 rfl ?_
    refine R.lconst (m0 := 1) 16 dX3_make_15 rfl (by decide +kernel) ?_
    refine R.ldc2 (n := 81) 19 dX3_make_16 rfl q1901 (by decide +kernel) ?_
    refine Rch.calls (sd_X3_isIn _ _ _ _ _ h) dX3_make_19 (lw_S q1426 q1427 q146 q1428) dk_X3_isIn (by decide) (Nat.le_of_ble_eq_true rfl) rfl rfl (Nat.le_of_ble_eq_true rfl) (kI 22 rfl fun r4 w5 h => ?_) kN
    refine R.if_ne 27 25 dX3_make_22 (by decide) rfl (fun hc => ?_) (fun hc => ?_)
    · replace h := h.1 hc
      refine R.aload_n 28 dX3_make_27 rfl rfl ?_
      refine R.iload_n 29 dX3_make_28 rfl rfl ?_
      refine R.iconst 30 dX3_make_29 rfl ?_
      refine Rch.callv (sd_X3_told _ _ _ _ h) dX3_make_30 (lw_V q1578 q1580 qs105 q146 q1581) dk_X3_told rcM (by decide) (Nat.le_of_ble_eq_true rfl) rfl rfl (Nat.le_of_ble_eq_true rfl) (kI 33 rfl fun r6 w7 h => ?_) kN
      refine R.ist3n 34 dX3_make_33 rfl (Nat.le_of_ble_eq_true rfl) rfl ?_
      refine R.iload_n 35 dX3_make_34 rfl rfl ?_
      refine R.iload_n 36 dX3_make_35 rfl rfl ?_
      obtain ⟨hz, h⟩ := h
      refine R.irem 37 dX3_make_36 rfl hz ?_
      refine R.if_ne 54 40 dX3_make_37 (by decide) rfl (fun hc => ?_) (fun hc => ?_)
      · replace h := h.1 hc
        refine R.iconst 55 dX3_make_54 rfl ?_
        exact R.retI dX3_make_55 rfl h
      · replace h := h.2 hc
        refine R.iload_n 41 dX3_make_40 rfl rfl ?_
        refine R.iload_n 42 dX3_make_41 rfl rfl ?_
        obtain ⟨hz, h⟩ := h
        refine R.idiv 43 dX3_make_42 rfl hz ?_
        refine R.bipush 45 dX3_make_43 rfl (by decide +kernel) ?_
        refine R.icmp_gt 54 48 dX3_make_45 (by decide) rfl (fun hc => ?_) (fun hc => ?_)
        · replace h := h.1 hc
          refine R.iconst 55 dX3_make_54 rfl ?_
          exact R.retI dX3_make_55 rfl h
        · replace h := h.2 hc
          refine R.iload_n 49 dX3_make_48 rfl rfl ?_
          refine R.iload_n 50 dX3_make_49 rfl rfl ?_
          obtain ⟨hz, h⟩ := h
          refine R.idiv 51 dX3_make_50 rfl hz ?_
          refine R.goto 55 dX3_make_51 (by decide) ?_
          exact R.retI dX3_make_55 rfl h
    · replace h := h.2 hc
      refine R.iconst 26 dX3_make_25 rfl ?_
      exact R.retI dX3_make_26 rfl h

abbrev k_X3_image : MK := ("FrostBoxModel", cX3_image, 1, (some .int), [], "image")
def wp_X3_image (w : Wd) (Q : Int32 → Wd → Prop) : Prop := ∀ w1, w1 = sI w 60 (iz 0) → (¬ (gI w1 85) = iz 0 → wp_X3_copy 90 114 w1 (fun w3 => ∀ w4, w4 = sI w3 115 (iz 1) → inb (iz 41) 283 ∧ Q (gA w4 90 (iz 41).toInt) w4)) ∧ ((gI w1 85) = iz 0 → Q (iz (-1)) w1)
set_option maxRecDepth 100000 in
set_option maxHeartbeats 4000000 in
theorem sd_X3_image {γ : GG} (w : Wd) (Q : Int32 → Wd → Prop) : wp_X3_image w Q → Ctr γ 2 yX3_image (ws_ yX3_image cX3_image 1 (some .int)) [.ref 2] w (qI Q) xN := by
  intro h
  unfold wp_X3_image at h
  refine Ctr.of (μ := k_X3_image) (by decide) rfl rfl rfl (Nat.le_of_ble_eq_true rfl) ⟨0, ?_⟩
  have es : lva [.ref 2] ++ List.replicate 0 none = [some (.ref 2)] := rfl
  rw [es]
  refine R.aload_n 1 dX3_image_0 rfl rfl ?_
  refine R.iconst 2 dX3_image_1 rfl ?_
  replace h := h _ rfl
  refine pf_60 _ 5 dX3_image_2 rfl rfl ?_
  refine R.aload_n 6 dX3_image_5 rfl rfl ?_
  refine gf_85 9 dX3_image_6 rfl rfl ?_
  refine R.if_ne 14 12 dX3_image_9 (by decide) rfl (fun hc => ?_) (fun hc => ?_)
  · replace h := h.1 hc
    refine R.aload_n 15 dX3_image_14 rfl rfl ?_
    refine gf_90 18 dX3_image_15 rfl rfl ?_
    refine R.aload_n 19 dX3_image_18 rfl rfl ?_
    refine gf_114 22 dX3_image_19 rfl rfl ?_
    refine Rch.calls (sd_X3_copy _ _ _ _ h) dX3_image_22 (lw_S q1728 q1729 q146 q1730) dk_X3_copy (by decide) (Nat.le_of_ble_eq_true rfl) rfl rfl (Nat.le_of_ble_eq_true rfl) (kV 25 rfl fun w3 h => ?_) kN
    refine R.aload_n 26 dX3_image_25 rfl rfl ?_
    refine R.iconst 27 dX3_image_26 rfl ?_
    replace h := h _ rfl
    refine pf_115 _ 30 dX3_image_27 rfl rfl zok1 ?_
    refine R.aload_n 31 dX3_image_30 rfl rfl ?_
    refine gf_90 34 dX3_image_31 rfl rfl ?_
    refine R.bipush 36 dX3_image_34 rfl (by decide +kernel) ?_
    obtain ⟨hb, h⟩ := h
    refine R.iald ar_90 37 dX3_image_36 rfl hb ?_
    exact R.retI dX3_image_37 rfl h
  · replace h := h.2 hc
    refine R.iconst 13 dX3_image_12 rfl ?_
    exact R.retI dX3_image_13 rfl h

abbrev k_X3_back : MK := ("FrostBoxModel", cX3_back, 1, (some .int), [], "back")
def wp_X3_back (w : Wd) (Q : Int32 → Wd → Prop) : Prop := ∀ w1, w1 = sI w 60 (iz 0) → (¬ (gI w1 115) = iz 0 → wp_X3_copy 114 90 w1 (fun w3 => ∀ w4, w4 = sI w3 97 (iz 0) → inb (iz 41) 283 ∧ Q (gA w4 90 (iz 41).toInt) w4)) ∧ ((gI w1 115) = iz 0 → Q (iz (-1)) w1)
set_option maxRecDepth 100000 in
set_option maxHeartbeats 4000000 in
theorem sd_X3_back {γ : GG} (w : Wd) (Q : Int32 → Wd → Prop) : wp_X3_back w Q → Ctr γ 2 yX3_back (ws_ yX3_back cX3_back 1 (some .int)) [.ref 2] w (qI Q) xN := by
  intro h
  unfold wp_X3_back at h
  refine Ctr.of (μ := k_X3_back) (by decide) rfl rfl rfl (Nat.le_of_ble_eq_true rfl) ⟨0, ?_⟩
  have es : lva [.ref 2] ++ List.replicate 0 none = [some (.ref 2)] := rfl
  rw [es]
  refine R.aload_n 1 dX3_back_0 rfl rfl ?_
  refine R.iconst 2 dX3_back_1 rfl ?_
  replace h := h _ rfl
  refine pf_60 _ 5 dX3_back_2 rfl rfl ?_
  refine R.aload_n 6 dX3_back_5 rfl rfl ?_
  refine gf_115 9 dX3_back_6 rfl rfl ?_
  refine R.if_ne 14 12 dX3_back_9 (by decide) rfl (fun hc => ?_) (fun hc => ?_)
  · replace h := h.1 hc
    refine R.aload_n 15 dX3_back_14 rfl rfl ?_
    refine gf_114 18 dX3_back_15 rfl rfl ?_
    refine R.aload_n 19 dX3_back_18 rfl rfl ?_
    refine gf_90 22 dX3_back_19 rfl rfl ?_
    refine Rch.calls (sd_X3_copy _ _ _ _ h) dX3_back_22 (lw_S q1728 q1729 q146 q1730) dk_X3_copy (by decide) (Nat.le_of_ble_eq_true rfl) rfl rfl (Nat.le_of_ble_eq_true rfl) (kV 25 rfl fun w3 h => ?_) kN
    refine R.aload_n 26 dX3_back_25 rfl rfl ?_
    refine R.iconst 27 dX3_back_26 rfl ?_
    replace h := h _ rfl
    refine pf_97 _ 30 dX3_back_27 rfl rfl ?_
    refine R.aload_n 31 dX3_back_30 rfl rfl ?_
    refine gf_90 34 dX3_back_31 rfl rfl ?_
    refine R.bipush 36 dX3_back_34 rfl (by decide +kernel) ?_
    obtain ⟨hb, h⟩ := h
    refine R.iald ar_90 37 dX3_back_36 rfl hb ?_
    exact R.retI dX3_back_37 rfl h
  · replace h := h.2 hc
    refine R.iconst 13 dX3_back_12 rfl ?_
    exact R.retI dX3_back_13 rfl h

abbrev k_X3_count : MK := ("FrostBoxModel", cX3_count, 4, (some .int), [], "count")
def wl_X3_count_158 (Q : Int32 → Wd → Prop) (R158 : Int32 → Int32 → Wd → Prop) (l2 : Int32) (l3 : Int32) (w : Wd) : Prop := inb (iz 42) 283 ∧ ((gA w 90 (iz 42).toInt) ≤ l3 → Q l2 w) ∧ (¬ (gA w 90 (iz 42).toInt) ≤ l3 → inb ((iz 46) + ((iz 4) * l3)) 283 ∧ R158 (l2 + (gA w 90 ((iz 46) + ((iz 4) * l3)).toInt)) (l3 + iz 1) w)
def lp_X3_count_158 (Q : Int32 → Wd → Prop) : Nat → Int32 → Int32 → Wd → Prop
  | 0, _, _, _ => False
  | n + 1, l2, l3, w => wl_X3_count_158 Q (lp_X3_count_158 Q n) l2 l3 w
def wp_X3_count (l1 : Int32) (w : Wd) (Q : Int32 → Wd → Prop) : Prop := ∀ w1, w1 = sI w 60 (iz 0) → (l1.toInt = 0 → Q (gI w1 85) w1) ∧ (l1.toInt = 1 → inb (iz 40) 283 ∧ Q (gA w1 90 (iz 40).toInt) w1) ∧ (l1.toInt = 2 → Q (gI w1 67) w1) ∧ (l1.toInt = 3 → Q (gI w1 88) w1) ∧ (l1.toInt = 4 → Q (gI w1 66) w1) ∧ (l1.toInt = 5 → Q (gI w1 92) w1) ∧ (l1.toInt = 6 → inb (iz 41) 283 ∧ Q (gA w1 90 (iz 41).toInt) w1) ∧ (l1.toInt = 7 → wp_X3_sumIn 90 w1 (fun r2 w3 => Q r2 w3)) ∧ (l1.toInt = 8 → wp_X3_valueIn 90 w1 (fun r4 w5 => Q r4 w5)) ∧ (l1.toInt = 9 → Q (gI w1 93) w1) ∧ (l1.toInt = 10 → Q (gI w1 103) w1) ∧ (l1.toInt = 11 → Q (gI w1 110) w1) ∧ (l1.toInt = 12 → ∃ n6, lp_X3_count_158 Q n6 (iz 0) (iz 0) w1) ∧ (l1.toInt = 13 → inb (iz 42) 283 ∧ Q (gA w1 90 (iz 42).toInt) w1) ∧ (l1.toInt = 14 → Q (gI w1 97) w1) ∧ (l1.toInt < 0 ∨ 14 < l1.toInt → Q (iz (-1000000)) w1)
set_option maxRecDepth 100000 in
set_option maxHeartbeats 4000000 in
theorem sl_X3_count_158 {γ : GG} (Q : Int32 → Wd → Prop) : ∀ (n : Nat) (l2 : Int32) (l3 : Int32) (w : Wd), lp_X3_count_158 Q n l2 l3 w → Rch γ 76 k_X3_count 158 [some (.ref 2), none, some (.int l2), some (.int l3)] [] w (qI Q) xN := by
  intro n
  induction n with
  | zero => intro _ _ _ h; exact h.elim
  | succ n hR158 =>
    intro l2 l3 w h
    have h : wl_X3_count_158 Q (lp_X3_count_158 Q n) l2 l3 w := h
    unfold wl_X3_count_158 at h
    refine R.iload_n 159 dX3_count_158 rfl rfl ?_
    refine R.aload_n 160 dX3_count_159 rfl rfl ?_
    refine gf_90 163 dX3_count_160 rfl rfl ?_
    refine R.bipush 165 dX3_count_163 rfl (by decide +kernel) ?_
    obtain ⟨hb, h⟩ := h
    refine R.iald ar_90 166 dX3_count_165 rfl hb ?_
    refine R.icmp_ge 189 169 dX3_count_166 (by decide) rfl (fun hc => ?_) (fun hc => ?_)
    · replace h := h.1 hc
      refine R.iload_n 190 dX3_count_189 rfl rfl ?_
      exact R.retI dX3_count_190 rfl h
    · replace h := h.2 hc
      refine R.iload_n 170 dX3_count_169 rfl rfl ?_
      refine R.aload_n 171 dX3_count_170 rfl rfl ?_
      refine gf_90 174 dX3_count_171 rfl rfl ?_
      refine R.bipush 176 dX3_count_174 rfl (by decide +kernel) ?_
      refine R.iconst 177 dX3_count_176 rfl ?_
      refine R.iload_n 178 dX3_count_177 rfl rfl ?_
      refine R.imul 179 dX3_count_178 rfl ?_
      refine R.iadd 180 dX3_count_179 rfl ?_
      obtain ⟨hb, h⟩ := h
      refine R.iald ar_90 181 dX3_count_180 rfl hb ?_
      refine R.iadd 182 dX3_count_181 rfl ?_
      refine R.ist2n 183 dX3_count_182 rfl (Nat.le_of_ble_eq_true rfl) rfl ?_
      refine R.inc3 186 dX3_count_183 rfl (Nat.le_of_ble_eq_true rfl) rfl ?_
      refine R.goto 158 dX3_count_186 (by decide) ?_
      exact Rch.dropk (hR158 _ _ _ h) ⟨rfl, ⟨rfl, ⟨rfl, trivial⟩⟩⟩
set_option maxRecDepth 100000 in
set_option maxHeartbeats 4000000 in
theorem sd_X3_count {γ : GG} (l1 : Int32) (w : Wd) (Q : Int32 → Wd → Prop) : wp_X3_count l1 w Q → Ctr γ 76 yX3_count (ws_ yX3_count cX3_count 4 (some .int)) [.ref 2, .int l1] w (qI Q) xN := by
  intro h
  unfold wp_X3_count at h
  refine Ctr.of (μ := k_X3_count) (by decide) rfl rfl rfl (Nat.le_of_ble_eq_true rfl) ⟨2, ?_⟩
  have es : lva [.ref 2, .int l1] ++ List.replicate 2 none = [some (.ref 2), some (.int l1), none, none] := rfl
  rw [es]
  refine R.aload_n 1 dX3_count_0 rfl rfl ?_
  refine R.iconst 2 dX3_count_1 rfl ?_
  replace h := h _ rfl
  refine pf_60 _ 5 dX3_count_2 rfl rfl ?_
  refine R.iload_n 6 dX3_count_5 rfl rfl ?_
  by_cases c0 : l1.toInt = 0
  · replace h := h.1 c0
    refine R.tswIn 0 80 dX3_count_6 c0 (by decide) (by decide) rfl (by decide) ?_
    refine R.aload_n 81 dX3_count_80 rfl rfl ?_
    refine gf_85 84 dX3_count_81 rfl rfl ?_
    exact R.retI dX3_count_84 rfl h
  replace h := h.2
  by_cases c1 : l1.toInt = 1
  · replace h := h.1 c1
    refine R.tswIn 1 85 dX3_count_6 c1 (by decide) (by decide) rfl (by decide) ?_
    refine R.aload_n 86 dX3_count_85 rfl rfl ?_
    refine gf_90 89 dX3_count_86 rfl rfl ?_
    refine R.bipush 91 dX3_count_89 rfl (by decide +kernel) ?_
    obtain ⟨hb, h⟩ := h
    refine R.iald ar_90 92 dX3_count_91 rfl hb ?_
    exact R.retI dX3_count_92 rfl h
  replace h := h.2
  by_cases c2 : l1.toInt = 2
  · replace h := h.1 c2
    refine R.tswIn 2 93 dX3_count_6 c2 (by decide) (by decide) rfl (by decide) ?_
    refine R.aload_n 94 dX3_count_93 rfl rfl ?_
    refine gf_67 97 dX3_count_94 rfl rfl ?_
    exact R.retI dX3_count_97 rfl h
  replace h := h.2
  by_cases c3 : l1.toInt = 3
  · replace h := h.1 c3
    refine R.tswIn 3 98 dX3_count_6 c3 (by decide) (by decide) rfl (by decide) ?_
    refine R.aload_n 99 dX3_count_98 rfl rfl ?_
    refine gf_88 102 dX3_count_99 rfl rfl ?_
    exact R.retI dX3_count_102 rfl h
  replace h := h.2
  by_cases c4 : l1.toInt = 4
  · replace h := h.1 c4
    refine R.tswIn 4 103 dX3_count_6 c4 (by decide) (by decide) rfl (by decide) ?_
    refine R.aload_n 104 dX3_count_103 rfl rfl ?_
    refine gf_66 107 dX3_count_104 rfl rfl ?_
    exact R.retI dX3_count_107 rfl h
  replace h := h.2
  by_cases c5 : l1.toInt = 5
  · replace h := h.1 c5
    refine R.tswIn 5 108 dX3_count_6 c5 (by decide) (by decide) rfl (by decide) ?_
    refine R.aload_n 109 dX3_count_108 rfl rfl ?_
    refine gf_92 112 dX3_count_109 rfl rfl ?_
    exact R.retI dX3_count_112 rfl h
  replace h := h.2
  by_cases c6 : l1.toInt = 6
  · replace h := h.1 c6
    refine R.tswIn 6 113 dX3_count_6 c6 (by decide) (by decide) rfl (by decide) ?_
    refine R.aload_n 114 dX3_count_113 rfl rfl ?_
    refine gf_90 117 dX3_count_114 rfl rfl ?_
    refine R.bipush 119 dX3_count_117 rfl (by decide +kernel) ?_
    obtain ⟨hb, h⟩ := h
    refine R.iald ar_90 120 dX3_count_119 rfl hb ?_
    exact R.retI dX3_count_120 rfl h
  replace h := h.2
  by_cases c7 : l1.toInt = 7
  · replace h := h.1 c7
    refine R.tswIn 7 121 dX3_count_6 c7 (by decide) (by decide) rfl (by decide) ?_
    refine R.aload_n 122 dX3_count_121 rfl rfl ?_
    refine R.aload_n 123 dX3_count_122 rfl rfl ?_
    refine gf_90 126 dX3_count_123 rfl rfl ?_
    refine Rch.callv (sd_X3_sumIn _ _ _ h) dX3_count_126 (lw_V q1635 q1637 qs113 q146 q1638) dk_X3_sumIn rcM (by decide) (Nat.le_of_ble_eq_true rfl) rfl rfl (Nat.le_of_ble_eq_true rfl) (kI 129 rfl fun r2 w3 h => ?_) kN
    exact R.retI dX3_count_129 rfl h
  replace h := h.2
  by_cases c8 : l1.toInt = 8
  · replace h := h.1 c8
    refine R.tswIn 8 130 dX3_count_6 c8 (by decide) (by decide) rfl (by decide) ?_
    refine R.aload_n 131 dX3_count_130 rfl rfl ?_
    refine R.aload_n 132 dX3_count_131 rfl rfl ?_
    refine gf_90 135 dX3_count_132 rfl rfl ?_
    refine Rch.callv (sd_X3_valueIn _ _ _ h) dX3_count_135 (lw_V q1781 q1783 qs132 q146 q1784) dk_X3_valueIn rcM (by decide) (Nat.le_of_ble_eq_true rfl) rfl rfl (Nat.le_of_ble_eq_true rfl) (kI 138 rfl fun r4 w5 h => ?_) kN
    exact R.retI dX3_count_138 rfl h
  replace h := h.2
  by_cases c9 : l1.toInt = 9
  · replace h := h.1 c9
    refine R.tswIn 9 139 dX3_count_6 c9 (by decide) (by decide) rfl (by decide) ?_
    refine R.aload_n 140 dX3_count_139 rfl rfl ?_
    refine gf_93 143 dX3_count_140 rfl rfl ?_
    exact R.retI dX3_count_143 rfl h
  replace h := h.2
  by_cases c10 : l1.toInt = 10
  · replace h := h.1 c10
    refine R.tswIn 10 144 dX3_count_6 c10 (by decide) (by decide) rfl (by decide) ?_
    refine R.aload_n 145 dX3_count_144 rfl rfl ?_
    refine gf_103 148 dX3_count_145 rfl rfl ?_
    exact R.retI dX3_count_148 rfl h
  replace h := h.2
  by_cases c11 : l1.toInt = 11
  · replace h := h.1 c11
    refine R.tswIn 11 149 dX3_count_6 c11 (by decide) (by decide) rfl (by decide) ?_
    refine R.aload_n 150 dX3_count_149 rfl rfl ?_
    refine gf_110 153 dX3_count_150 rfl rfl ?_
    exact R.retI dX3_count_153 rfl h
  replace h := h.2
  by_cases c12 : l1.toInt = 12
  · replace h := h.1 c12
    refine R.tswIn 12 154 dX3_count_6 c12 (by decide) (by decide) rfl (by decide) ?_
    refine R.iconst 155 dX3_count_154 rfl ?_
    refine R.ist2n 156 dX3_count_155 rfl (Nat.le_of_ble_eq_true rfl) rfl ?_
    refine R.iconst 157 dX3_count_156 rfl ?_
    refine R.ist3n 158 dX3_count_157 rfl (Nat.le_of_ble_eq_true rfl) rfl ?_
    obtain ⟨n6, h⟩ := h
    exact Rch.dropk (sl_X3_count_158 Q n6 _ _ _ h) ⟨rfl, ⟨rfl, ⟨rfl, trivial⟩⟩⟩
  replace h := h.2
  by_cases c13 : l1.toInt = 13
  · replace h := h.1 c13
    refine R.tswIn 13 191 dX3_count_6 c13 (by decide) (by decide) rfl (by decide) ?_
    refine R.aload_n 192 dX3_count_191 rfl rfl ?_
    refine gf_90 195 dX3_count_192 rfl rfl ?_
    refine R.bipush 197 dX3_count_195 rfl (by decide +kernel) ?_
    obtain ⟨hb, h⟩ := h
    refine R.iald ar_90 198 dX3_count_197 rfl hb ?_
    exact R.retI dX3_count_198 rfl h
  replace h := h.2
  by_cases c14 : l1.toInt = 14
  · replace h := h.1 c14
    refine R.tswIn 14 199 dX3_count_6 c14 (by decide) (by decide) rfl (by decide) ?_
    refine R.aload_n 200 dX3_count_199 rfl rfl ?_
    refine gf_97 203 dX3_count_200 rfl rfl ?_
    exact R.retI dX3_count_203 rfl h
  replace h := h.2
  have cd : l1.toInt < 0 ∨ 14 < l1.toInt := by omega
  replace h := h cd
  refine R.tswOut 204 dX3_count_6 cd (by decide) ?_
  refine R.ldcw (n := (-1000000)) 207 dX3_count_204 rfl q1723 (by decide +kernel) ?_
  exact R.retI dX3_count_207 rfl h
