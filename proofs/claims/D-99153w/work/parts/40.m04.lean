set_option maxRecDepth 100000

abbrev k_X3_draw : MK := ("FrostBoxModel", cX3_draw, 2, (some .int), [], "draw")
def wp_X3_draw (l1 : Int32) (w : Wd) (Q : Int32 → Wd → Prop) : Prop := ∀ w1, w1 = sJ w 98 (((gJ w 98) * (lz 6364136223846793005)) + (lz 1442695040888963407)) → (¬ (l1).toInt64 = 0) ∧ Q (((((gJ w1 98)).toUInt64 >>> (((iz 33)).toInt64.toUInt64 &&& Int64.toUInt64 63)).toInt64 - (((gJ w1 98)).toUInt64 >>> (((iz 33)).toInt64.toUInt64 &&& Int64.toUInt64 63)).toInt64 / (l1).toInt64 * (l1).toInt64)).toInt32 w1
set_option maxRecDepth 100000 in
set_option maxHeartbeats 4000000 in
theorem sd_X3_draw {γ : GG} (l1 : Int32) (w : Wd) (Q : Int32 → Wd → Prop) : wp_X3_draw l1 w Q → Ctr γ 1 yX3_draw (ws_ yX3_draw cX3_draw 2 (some .int)) [.ref 2, .int l1] w (qI Q) xN := by
  intro h
  unfold wp_X3_draw at h
  refine Ctr.of (μ := k_X3_draw) (by decide) rfl rfl rfl (Nat.le_of_ble_eq_true rfl) ⟨0, ?_⟩
  have es : lva [.ref 2, .int l1] ++ List.replicate 0 none = [some (.ref 2), some (.int l1)] := rfl
  rw [es]
  refine R.aload_n 1 dX3_draw_0 rfl rfl ?_
  refine R.aload_n 2 dX3_draw_1 rfl rfl ?_
  refine gf_98 5 dX3_draw_2 rfl rfl ?_
  refine R.ldc2 (n := 6364136223846793005) 8 dX3_draw_5 rfl q1705 (by decide +kernel) ?_
  refine R.lmul 9 dX3_draw_8 rfl ?_
  refine R.ldc2 (n := 1442695040888963407) 12 dX3_draw_9 rfl q1706 (by decide +kernel) ?_
  refine R.ladd 13 dX3_draw_12 rfl ?_
  replace h := h _ rfl
  refine pf_98 _ 16 dX3_draw_13 rfl rfl ?_
  refine R.aload_n 17 dX3_draw_16 rfl rfl ?_
  refine gf_98 20 dX3_draw_17 rfl rfl ?_
  refine R.bipush 22 dX3_draw_20 rfl (by decide +kernel) ?_
  refine R.lushr 23 dX3_draw_22 rfl ?_
  refine R.iload_n 24 dX3_draw_23 rfl rfl ?_
  refine R.i2l 25 dX3_draw_24 rfl ?_
  obtain ⟨hz, h⟩ := h
  refine R.lrem 26 dX3_draw_25 rfl hz ?_
  refine R.l2i 27 dX3_draw_26 rfl ?_
  exact R.retI dX3_draw_27 rfl h

abbrev k_X3_years : MK := ("FrostBoxModel", cX3_years, 10, (some .int), [], "years")
def b_X3_years_154 (Q : Int32 → Wd → Prop) (R29 : Int32 → Wd → Prop) (l1 : Int32) (l4 : Int32) (t0 : Int32) (w : Wd) : Prop := wp_X3_goMonth 90 w (fun w2 => R29 (l4 + iz 1) w2)
def b_X3_years_107 (Q : Int32 → Wd → Prop) (R29 : Int32 → Wd → Prop) (l1 : Int32) (l4 : Int32) (w : Wd) : Prop := wp_X3_draw (iz 2) w (fun r1 w2 => inb (iz 40) 283 ∧ (¬ (gA w2 90 (iz 40).toInt) = iz 0 → (¬ r1 = iz 0 → inb (iz 40) 283 ∧ wp_X3_eats 90 ((gA w2 90 (iz 40).toInt) - (iz 1)) w2 (fun r3 w4 => b_X3_years_154 Q R29 l1 l4 r3 w4)) ∧ (r1 = iz 0 → wp_X3_eats 90 (iz 0) w2 (fun r5 w6 => b_X3_years_154 Q R29 l1 l4 r5 w6))) ∧ ((gA w2 90 (iz 40).toInt) = iz 0 → b_X3_years_154 Q R29 l1 l4 (iz 0) w2))
def b_X3_years_77 (Q : Int32 → Wd → Prop) (R29 : Int32 → Wd → Prop) (l1 : Int32) (l4 : Int32) (l5 : Int32) (l6 : Int32) (t0 : Int32) (w : Wd) : Prop := wp_X3_canPut 90 l5 l6 w (fun r1 w2 => (r1 = iz 0 → b_X3_years_107 Q R29 l1 l4 w2) ∧ (¬ r1 = iz 0 → wp_X3_puts 90 l5 l6 t0 w2 (fun w4 => b_X3_years_107 Q R29 l1 l4 w4)))
def wl_X3_years_29 (Q : Int32 → Wd → Prop) (l1 : Int32) (R29 : Int32 → Wd → Prop) (l4 : Int32) (w : Wd) : Prop := (l1 ≤ l4 → inb (iz 41) 283 ∧ Q (gA w 90 (iz 41).toInt) w) ∧ (¬ l1 ≤ l4 → wp_X3_remember w (fun w2 => wp_X3_draw (gI w2 85) w2 (fun r3 w4 => wp_X3_draw (iz 9) w4 (fun r5 w6 => wp_X3_draw (iz 10) w6 (fun r7 w8 => ((gI w8 93) ≤ r7 → b_X3_years_77 Q R29 l1 l4 r3 (r5 + (iz 1)) (iz 0) w8) ∧ (¬ (gI w8 93) ≤ r7 → b_X3_years_77 Q R29 l1 l4 r3 (r5 + (iz 1)) (iz 1) w8))))))
def lp_X3_years_29 (Q : Int32 → Wd → Prop) (l1 : Int32) : Nat → Int32 → Wd → Prop
  | 0, _, _ => False
  | n + 1, l4, w => wl_X3_years_29 Q l1 (lp_X3_years_29 Q l1 n) l4 w
def wp_X3_years (l1 : Int32) (l2 : Int64) (w : Wd) (Q : Int32 → Wd → Prop) : Prop := ∀ w1, w1 = sI w 60 (iz 0) → wp_X3_mayPass 90 l1 (iz 60) w1 (fun r2 w3 => (¬ r2 = iz 0 → ∀ w4, w4 = sJ w3 98 l2 → ∃ n5, lp_X3_years_29 Q l1 n5 (iz 0) w4) ∧ (r2 = iz 0 → Q (iz (-1)) w3))
set_option maxRecDepth 100000 in
set_option maxHeartbeats 4000000 in
theorem s_X3_years_154 {γ : GG} (Q : Int32 → Wd → Prop) (R29 : Int32 → Wd → Prop) (l1 : Int32) (l4 : Int32) (t0 : Int32) (hR29 : ∀ (l4 : Int32) (w : Wd), R29 l4 w → Rch γ 76 k_X3_years 29 [some (.ref 2), some (.int l1), none, none, some (.int l4), none, none, none, none, none] [] w (qI Q) xN) : ∀ (w : Wd), b_X3_years_154 Q R29 l1 l4 t0 w → Rch γ 76 k_X3_years 154 [some (.ref 2), some (.int l1), none, none, some (.int l4), none, none, none, none, none] [.int t0] w (qI Q) xN := by
  intro w h
  unfold b_X3_years_154 at h
  refine R.ist9 156 dX3_years_154 rfl (Nat.le_of_ble_eq_true rfl) rfl ?_
  refine R.aload_n 157 dX3_years_156 rfl rfl ?_
  refine R.aload_n 158 dX3_years_157 rfl rfl ?_
  refine gf_90 161 dX3_years_158 rfl rfl ?_
  refine Rch.callv (sd_X3_goMonth _ _ _ h) dX3_years_161 (lw_V q1676 q1678 qs118 q146 q1679) dk_X3_goMonth rcM (by decide) (Nat.le_of_ble_eq_true rfl) rfl rfl (Nat.le_of_ble_eq_true rfl) (kV 164 rfl fun w2 h => ?_) kN
  refine R.inc4 167 dX3_years_164 rfl (Nat.le_of_ble_eq_true rfl) rfl ?_
  refine R.goto 29 dX3_years_167 (by decide) ?_
  exact Rch.dropk (hR29 _ _ h) ⟨rfl, ⟨rfl, ⟨rfl, trivial⟩⟩⟩
set_option maxRecDepth 100000 in
set_option maxHeartbeats 4000000 in
theorem s_X3_years_107 {γ : GG} (Q : Int32 → Wd → Prop) (R29 : Int32 → Wd → Prop) (l1 : Int32) (l4 : Int32) (hR29 : ∀ (l4 : Int32) (w : Wd), R29 l4 w → Rch γ 76 k_X3_years 29 [some (.ref 2), some (.int l1), none, none, some (.int l4), none, none, none, none, none] [] w (qI Q) xN) : ∀ (w : Wd), b_X3_years_107 Q R29 l1 l4 w → Rch γ 76 k_X3_years 107 [some (.ref 2), some (.int l1), none, none, some (.int l4), none, none, none, none, none] [] w (qI Q) xN := by
  intro w h
  unfold b_X3_years_107 at h
  refine R.aload_n 108 dX3_years_107 rfl rfl ?_
  refine R.iconst 109 dX3_years_108 rfl ?_
  refine Rch.callv (sd_X3_draw _ _ _ h) dX3_years_109 (lw_V q1701 q1703 qs122 q146 q1704) dk_X3_draw rcM (by decide) (Nat.le_of_ble_eq_true rfl) rfl rfl (Nat.le_of_ble_eq_true rfl) (kI 112 rfl fun r1 w2 h => ?_) kN
  refine R.ist8 114 dX3_years_112 rfl (Nat.le_of_ble_eq_true rfl) rfl ?_
  refine R.aload_n 115 dX3_years_114 rfl rfl ?_
  refine gf_90 118 dX3_years_115 rfl rfl ?_
  refine R.bipush 120 dX3_years_118 rfl (by decide +kernel) ?_
  obtain ⟨hb, h⟩ := h
  refine R.iald ar_90 121 dX3_years_120 rfl hb ?_
  refine R.if_ne 128 124 dX3_years_121 (by decide) rfl (fun hc => ?_) (fun hc => ?_)
  · replace h := h.1 hc
    refine R.aload_n 129 dX3_years_128 rfl rfl ?_
    refine R.aload_n 130 dX3_years_129 rfl rfl ?_
    refine gf_90 133 dX3_years_130 rfl rfl ?_
    refine R.iload 135 dX3_years_133 rfl rfl ?_
    refine R.if_ne 142 138 dX3_years_135 (by decide) rfl (fun hc => ?_) (fun hc => ?_)
    · replace h := h.1 hc
      refine R.aload_n 143 dX3_years_142 rfl rfl ?_
      refine gf_90 146 dX3_years_143 rfl rfl ?_
      refine R.bipush 148 dX3_years_146 rfl (by decide +kernel) ?_
      obtain ⟨hb, h⟩ := h
      refine R.iald ar_90 149 dX3_years_148 rfl hb ?_
      refine R.iconst 150 dX3_years_149 rfl ?_
      refine R.isub 151 dX3_years_150 rfl ?_
      refine Rch.callv (sd_X3_eats _ _ _ _ h) dX3_years_151 (lw_V q1650 q1652 qs115 q146 q1653) dk_X3_eats rcM (by decide) (Nat.le_of_ble_eq_true rfl) rfl rfl (Nat.le_of_ble_eq_true rfl) (kI 154 rfl fun r3 w4 h => ?_) kN
      exact Rch.dropk (s_X3_years_154 Q _ _ _ _ hR29 _ h) ⟨rfl, ⟨rfl, ⟨rfl, trivial⟩⟩⟩
    · replace h := h.2 hc
      refine R.iconst 139 dX3_years_138 rfl ?_
      refine R.goto 151 dX3_years_139 (by decide) ?_
      refine Rch.callv (sd_X3_eats _ _ _ _ h) dX3_years_151 (lw_V q1650 q1652 qs115 q146 q1653) dk_X3_eats rcM (by decide) (Nat.le_of_ble_eq_true rfl) rfl rfl (Nat.le_of_ble_eq_true rfl) (kI 154 rfl fun r5 w6 h => ?_) kN
      exact Rch.dropk (s_X3_years_154 Q _ _ _ _ hR29 _ h) ⟨rfl, ⟨rfl, ⟨rfl, trivial⟩⟩⟩
  · replace h := h.2 hc
    refine R.iconst 125 dX3_years_124 rfl ?_
    refine R.goto 154 dX3_years_125 (by decide) ?_
    exact Rch.dropk (s_X3_years_154 Q _ _ _ _ hR29 _ h) ⟨rfl, ⟨rfl, ⟨rfl, trivial⟩⟩⟩
set_option maxRecDepth 100000 in
set_option maxHeartbeats 4000000 in
theorem s_X3_years_77 {γ : GG} (Q : Int32 → Wd → Prop) (R29 : Int32 → Wd → Prop) (l1 : Int32) (l4 : Int32) (l5 : Int32) (l6 : Int32) (t0 : Int32) (hR29 : ∀ (l4 : Int32) (w : Wd), R29 l4 w → Rch γ 76 k_X3_years 29 [some (.ref 2), some (.int l1), none, none, some (.int l4), none, none, none, none, none] [] w (qI Q) xN) : ∀ (w : Wd), b_X3_years_77 Q R29 l1 l4 l5 l6 t0 w → Rch γ 76 k_X3_years 77 [some (.ref 2), some (.int l1), none, none, some (.int l4), some (.int l5), some (.int l6), none, none, none] [.int t0] w (qI Q) xN := by
  intro w h
  unfold b_X3_years_77 at h
  refine R.ist7 79 dX3_years_77 rfl (Nat.le_of_ble_eq_true rfl) rfl ?_
  refine R.aload_n 80 dX3_years_79 rfl rfl ?_
  refine R.aload_n 81 dX3_years_80 rfl rfl ?_
  refine gf_90 84 dX3_years_81 rfl rfl ?_
  refine R.iload 86 dX3_years_84 rfl rfl ?_
  refine R.iload 88 dX3_years_86 rfl rfl ?_
  refine Rch.callv (sd_X3_canPut _ _ _ _ _ h) dX3_years_88 (lw_V q1631 q1633 qs112 q146 q1634) dk_X3_canPut rcM (by decide) (Nat.le_of_ble_eq_true rfl) rfl rfl (Nat.le_of_ble_eq_true rfl) (kI 91 rfl fun r1 w2 h => ?_) kN
  refine R.if_eq 107 94 dX3_years_91 (by decide) rfl (fun hc => ?_) (fun hc => ?_)
  · replace h := h.1 hc
    exact Rch.dropk (s_X3_years_107 Q _ _ _ hR29 _ h) ⟨rfl, ⟨rfl, ⟨rfl, trivial⟩⟩⟩
  · replace h := h.2 hc
    refine R.aload_n 95 dX3_years_94 rfl rfl ?_
    refine gf_90 98 dX3_years_95 rfl rfl ?_
    refine R.iload 100 dX3_years_98 rfl rfl ?_
    refine R.iload 102 dX3_years_100 rfl rfl ?_
    refine R.iload 104 dX3_years_102 rfl rfl ?_
    refine Rch.calls (sd_X3_puts _ _ _ _ _ _ h) dX3_years_104 (lw_S q1643 q1644 q146 q1645) dk_X3_puts (by decide) (Nat.le_of_ble_eq_true rfl) rfl rfl (Nat.le_of_ble_eq_true rfl) (kV 107 rfl fun w4 h => ?_) kN
    exact Rch.dropk (s_X3_years_107 Q _ _ _ hR29 _ h) ⟨rfl, ⟨rfl, ⟨rfl, trivial⟩⟩⟩
set_option maxRecDepth 100000 in
set_option maxHeartbeats 4000000 in
theorem sl_X3_years_29 {γ : GG} (Q : Int32 → Wd → Prop) (l1 : Int32) : ∀ (n : Nat) (l4 : Int32) (w : Wd), lp_X3_years_29 Q l1 n l4 w → Rch γ 76 k_X3_years 29 [some (.ref 2), some (.int l1), none, none, some (.int l4), none, none, none, none, none] [] w (qI Q) xN := by
  intro n
  induction n with
  | zero => intro _ _ h; exact h.elim
  | succ n hR29 =>
    intro l4 w h
    have h : wl_X3_years_29 Q l1 (lp_X3_years_29 Q l1 n) l4 w := h
    unfold wl_X3_years_29 at h
    refine R.iload 31 dX3_years_29 rfl rfl ?_
    refine R.iload_n 32 dX3_years_31 rfl rfl ?_
    refine R.icmp_ge 170 35 dX3_years_32 (by decide) rfl (fun hc => ?_) (fun hc => ?_)
    · replace h := h.1 hc
      refine R.aload_n 171 dX3_years_170 rfl rfl ?_
      refine gf_90 174 dX3_years_171 rfl rfl ?_
      refine R.bipush 176 dX3_years_174 rfl (by decide +kernel) ?_
      obtain ⟨hb, h⟩ := h
      refine R.iald ar_90 177 dX3_years_176 rfl hb ?_
      exact R.retI dX3_years_177 rfl h
    · replace h := h.2 hc
      refine R.aload_n 36 dX3_years_35 rfl rfl ?_
      refine Rch.callv (sd_X3_remember _ _ h) dX3_years_36 (lw_V q1639 q1641 qs114 q146 q1642) dk_X3_remember rcM (by decide) (Nat.le_of_ble_eq_true rfl) rfl rfl (Nat.le_of_ble_eq_true rfl) (kV 39 rfl fun w2 h => ?_) kN
      refine R.aload_n 40 dX3_years_39 rfl rfl ?_
      refine R.aload_n 41 dX3_years_40 rfl rfl ?_
      refine gf_85 44 dX3_years_41 rfl rfl ?_
      refine Rch.callv (sd_X3_draw _ _ _ h) dX3_years_44 (lw_V q1701 q1703 qs122 q146 q1704) dk_X3_draw rcM (by decide) (Nat.le_of_ble_eq_true rfl) rfl rfl (Nat.le_of_ble_eq_true rfl) (kI 47 rfl fun r3 w4 h => ?_) kN
      refine R.ist5 49 dX3_years_47 rfl (Nat.le_of_ble_eq_true rfl) rfl ?_
      refine R.aload_n 50 dX3_years_49 rfl rfl ?_
      refine R.bipush 52 dX3_years_50 rfl (by decide +kernel) ?_
      refine Rch.callv (sd_X3_draw _ _ _ h) dX3_years_52 (lw_V q1701 q1703 qs122 q146 q1704) dk_X3_draw rcM (by decide) (Nat.le_of_ble_eq_true rfl) rfl rfl (Nat.le_of_ble_eq_true rfl) (kI 55 rfl fun r5 w6 h => ?_) kN
      refine R.iconst 56 dX3_years_55 rfl ?_
      refine R.iadd 57 dX3_years_56 rfl ?_
      refine R.ist6 59 dX3_years_57 rfl (Nat.le_of_ble_eq_true rfl) rfl ?_
      refine R.aload_n 60 dX3_years_59 rfl rfl ?_
      refine R.bipush 62 dX3_years_60 rfl (by decide +kernel) ?_
      refine Rch.callv (sd_X3_draw _ _ _ h) dX3_years_62 (lw_V q1701 q1703 qs122 q146 q1704) dk_X3_draw rcM (by decide) (Nat.le_of_ble_eq_true rfl) rfl rfl (Nat.le_of_ble_eq_true rfl) (kI 65 rfl fun r7 w8 h => ?_) kN
      refine R.aload_n 66 dX3_years_65 rfl rfl ?_
      refine gf_93 69 dX3_years_66 rfl rfl ?_
      refine R.icmp_ge 76 72 dX3_years_69 (by decide) rfl (fun hc => ?_) (fun hc => ?_)
      · replace h := h.1 hc
        refine R.iconst 77 dX3_years_76 rfl ?_
        exact Rch.dropk (s_X3_years_77 Q _ _ _ _ _ _ hR29 _ h) ⟨rfl, ⟨rfl, ⟨rfl, ⟨rfl, ⟨rfl, trivial⟩⟩⟩⟩⟩
      · replace h := h.2 hc
        refine R.iconst 73 dX3_years_72 rfl ?_
        refine R.goto 77 dX3_years_73 (by decide) ?_
        exact Rch.dropk (s_X3_years_77 Q _ _ _ _ _ _ hR29 _ h) ⟨rfl, ⟨rfl, ⟨rfl, ⟨rfl, ⟨rfl, trivial⟩⟩⟩⟩⟩
set_option maxRecDepth 100000 in
set_option maxHeartbeats 4000000 in
theorem sd_X3_years {γ : GG} (l1 : Int32) (l2 : Int64) (w : Wd) (Q : Int32 → Wd → Prop) : wp_X3_years l1 l2 w Q → Ctr γ 76 yX3_years (ws_ yX3_years cX3_years 10 (some .int)) [.ref 2, .int l1, .long l2] w (qI Q) xN := by
  intro h
  unfold wp_X3_years at h
  refine Ctr.of (μ := k_X3_years) (by decide) rfl rfl rfl (Nat.le_of_ble_eq_true rfl) ⟨6, ?_⟩
  have es : lva [.ref 2, .int l1, .long l2] ++ List.replicate 6 none = [some (.ref 2), some (.int l1), some (.long l2), none, none, none, none, none, none, none] := rfl
  rw [es]
  refine R.aload_n 1 dX3_years_0 rfl rfl ?_
  refine R.iconst 2 dX3_years_1 rfl ?_
  replace h := h _ rfl
  refine pf_60 _ 5 dX3_years_2 rfl rfl ?_
  refine R.aload_n 6 dX3_years_5 rfl rfl ?_
  refine R.aload_n 7 dX3_years_6 rfl rfl ?_
  refine gf_90 10 dX3_years_7 rfl rfl ?_
  refine R.iload_n 11 dX3_years_10 rfl rfl ?_
  refine R.bipush 13 dX3_years_11 rfl (by decide +kernel) ?_
  refine Rch.callv (sd_X3_mayPass _ _ _ _ _ h) dX3_years_13 (lw_V q1672 q1674 qs117 q146 q1675) dk_X3_mayPass rcM (by decide) (Nat.le_of_ble_eq_true rfl) rfl rfl (Nat.le_of_ble_eq_true rfl) (kI 16 rfl fun r2 w3 h => ?_) kN
  refine R.if_ne 21 19 dX3_years_16 (by decide) rfl (fun hc => ?_) (fun hc => ?_)
  · replace h := h.1 hc
    refine R.aload_n 22 dX3_years_21 rfl rfl ?_
    refine R.lload_n 23 dX3_years_22 rfl rfl ?_
    replace h := h _ rfl
    refine pf_98 _ 26 dX3_years_23 rfl rfl ?_
    refine R.iconst 27 dX3_years_26 rfl ?_
    refine R.ist4 29 dX3_years_27 rfl (Nat.le_of_ble_eq_true rfl) rfl ?_
    obtain ⟨n5, h⟩ := h
    exact Rch.dropk (sl_X3_years_29 Q _ n5 _ _ h) ⟨rfl, ⟨rfl, ⟨rfl, trivial⟩⟩⟩
  · replace h := h.2 hc
    refine R.iconst 20 dX3_years_19 rfl ?_
    exact R.retI dX3_years_20 rfl h

abbrev k_X3_undo : MK := ("FrostBoxModel", cX3_undo, 2, (some .int), [], "undo")
def wl_X3_undo_26 (Q : Int32 → Wd → Prop) (R26 : Int32 → Wd → Prop) (l1 : Int32) (w : Wd) : Prop := ((iz 283) ≤ l1 → Q (gI w 97) w) ∧ (¬ (iz 283) ≤ l1 → inb (((iz 283) * (gI w 97)) + l1) 11320 ∧ inb l1 283 ∧ (∀ w1, w1 = sA w 90 l1.toInt (gA w 96 (((iz 283) * (gI w 97)) + l1).toInt) → R26 (l1 + iz 1) w1))
def lp_X3_undo_26 (Q : Int32 → Wd → Prop) : Nat → Int32 → Wd → Prop
  | 0, _, _ => False
  | n + 1, l1, w => wl_X3_undo_26 Q (lp_X3_undo_26 Q n) l1 w
def wp_X3_undo (w : Wd) (Q : Int32 → Wd → Prop) : Prop := ∀ w1, w1 = sI w 60 (iz 0) → (¬ (gI w1 97) = iz 0 → ∀ w2, w2 = sI w1 97 ((gI w1 97) - (iz 1)) → ∃ n3, lp_X3_undo_26 Q n3 (iz 0) w2) ∧ ((gI w1 97) = iz 0 → Q (iz (-1)) w1)
set_option maxRecDepth 100000 in
set_option maxHeartbeats 4000000 in
theorem sl_X3_undo_26 {γ : GG} (Q : Int32 → Wd → Prop) : ∀ (n : Nat) (l1 : Int32) (w : Wd), lp_X3_undo_26 Q n l1 w → Rch γ 1 k_X3_undo 26 [some (.ref 2), some (.int l1)] [] w (qI Q) xN := by
  intro n
  induction n with
  | zero => intro _ _ h; exact h.elim
  | succ n hR26 =>
    intro l1 w h
    have h : wl_X3_undo_26 Q (lp_X3_undo_26 Q n) l1 w := h
    unfold wl_X3_undo_26 at h
    refine R.iload_n 27 dX3_undo_26 rfl rfl ?_
    refine R.sipush 30 dX3_undo_27 rfl (by decide +kernel) ?_
    refine R.icmp_ge 60 33 dX3_undo_30 (by decide) rfl (fun hc => ?_) (fun hc => ?_)
    · replace h := h.1 hc
      refine R.aload_n 61 dX3_undo_60 rfl rfl ?_
      refine gf_97 64 dX3_undo_61 rfl rfl ?_
      exact R.retI dX3_undo_64 rfl h
    · replace h := h.2 hc
      refine R.aload_n 34 dX3_undo_33 rfl rfl ?_
      refine gf_90 37 dX3_undo_34 rfl rfl ?_
      refine R.iload_n 38 dX3_undo_37 rfl rfl ?_
      refine R.aload_n 39 dX3_undo_38 rfl rfl ?_
      refine gf_96 42 dX3_undo_39 rfl rfl ?_
      refine R.sipush 45 dX3_undo_42 rfl (by decide +kernel) ?_
      refine R.aload_n 46 dX3_undo_45 rfl rfl ?_
      refine gf_97 49 dX3_undo_46 rfl rfl ?_
      refine R.imul 50 dX3_undo_49 rfl ?_
      refine R.iload_n 51 dX3_undo_50 rfl rfl ?_
      refine R.iadd 52 dX3_undo_51 rfl ?_
      obtain ⟨hb, h⟩ := h
      refine R.iald ar_96 53 dX3_undo_52 rfl hb ?_
      obtain ⟨hb, h⟩ := h
      replace h := h _ rfl
      refine R.iast ar_90 54 dX3_undo_53 rfl hb ?_
      refine R.inc1 57 dX3_undo_54 rfl (Nat.le_of_ble_eq_true rfl) rfl ?_
      refine R.goto 26 dX3_undo_57 (by decide) ?_
      exact Rch.dropk (hR26 _ _ h) ⟨rfl, ⟨rfl, trivial⟩⟩
set_option maxRecDepth 100000 in
set_option maxHeartbeats 4000000 in
theorem sd_X3_undo {γ : GG} (w : Wd) (Q : Int32 → Wd → Prop) : wp_X3_undo w Q → Ctr γ 1 yX3_undo (ws_ yX3_undo cX3_undo 2 (some .int)) [.ref 2] w (qI Q) xN := by
  intro h
  unfold wp_X3_undo at h
  refine Ctr.of (μ := k_X3_undo) (by decide) rfl rfl rfl (Nat.le_of_ble_eq_true rfl) ⟨1, ?_⟩
  have es : lva [.ref 2] ++ List.replicate 1 none = [some (.ref 2), none] := rfl
  rw [es]
  refine R.aload_n 1 dX3_undo_0 rfl rfl ?_
  refine R.iconst 2 dX3_undo_1 rfl ?_
  replace h := h _ rfl
  refine pf_60 _ 5 dX3_undo_2 rfl rfl ?_
  refine R.aload_n 6 dX3_undo_5 rfl rfl ?_
  refine gf_97 9 dX3_undo_6 rfl rfl ?_
  refine R.if_ne 14 12 dX3_undo_9 (by decide) rfl (fun hc => ?_) (fun hc => ?_)
  · replace h := h.1 hc
    refine R.aload_n 15 dX3_undo_14 rfl rfl ?_
    refine R.dupR 16 dX3_undo_15 rfl ?_
    refine gf_97 19 dX3_undo_16 rfl rfl ?_
    refine R.iconst 20 dX3_undo_19 rfl ?_
    refine R.isub 21 dX3_undo_20 rfl ?_
    replace h := h _ rfl
    refine pf_97 _ 24 dX3_undo_21 rfl rfl ?_
    refine R.iconst 25 dX3_undo_24 rfl ?_
    refine R.ist1n 26 dX3_undo_25 rfl (Nat.le_of_ble_eq_true rfl) rfl ?_
    obtain ⟨n3, h⟩ := h
    exact Rch.dropk (sl_X3_undo_26 Q n3 _ _ h) ⟨rfl, ⟨rfl, trivial⟩⟩
  · replace h := h.2 hc
    refine R.iconst 13 dX3_undo_12 rfl ?_
    exact R.retI dX3_undo_13 rfl h

abbrev k_X3_log : MK := ("FrostBoxModel", cX3_log, 3, (some .int), [], "log")
def wp_X3_log (l1 : Int32) (l2 : Int32) (w : Wd) (Q : Int32 → Wd → Prop) : Prop := ∀ w1, w1 = sI w 60 (iz 0) → inb (iz 42) 283 ∧ wp_X3_isIn ((l1).toInt64) (lz 0) ((((gA w1 90 (iz 42).toInt) - (iz 1))).toInt64) w1 (fun r2 w3 => (r2 = iz 0 → Q (iz (-1)) w3) ∧ (¬ r2 = iz 0 → wp_X3_isIn ((l2).toInt64) (lz 0) (lz 3) w3 (fun r4 w5 => (r4 = iz 0 → Q (iz (-1)) w5) ∧ (¬ r4 = iz 0 → inb (iz 42) 283 ∧ inb (((iz 43) + ((iz 4) * (((gA w5 90 (iz 42).toInt) - (iz 1)) - l1))) + l2) 283 ∧ Q (gA w5 90 (((iz 43) + ((iz 4) * (((gA w5 90 (iz 42).toInt) - (iz 1)) - l1))) + l2).toInt) w5))))
set_option maxRecDepth 100000 in
set_option maxHeartbeats 4000000 in
theorem sd_X3_log {γ : GG} (l1 : Int32) (l2 : Int32) (w : Wd) (Q : Int32 → Wd → Prop) : wp_X3_log l1 l2 w Q → Ctr γ 2 yX3_log (ws_ yX3_log cX3_log 3 (some .int)) [.ref 2, .int l1, .int l2] w (qI Q) xN := by
  intro h
  unfold wp_X3_log at h
  refine Ctr.of (μ := k_X3_log) (by decide) rfl rfl rfl (Nat.le_of_ble_eq_true rfl) ⟨0, ?_⟩
  have es : lva [.ref 2, .int l1, .int l2] ++ List.replicate 0 none = [some (.ref 2), some (.int l1), some (.int l2)] := rfl
  rw [es]
  refine R.aload_n 1 dX3_log_0 rfl rfl ?_
  refine R.iconst 2 dX3_log_1 rfl ?_
  replace h := h _ rfl
  refine pf_60 _ 5 dX3_log_2 rfl rfl ?_
  refine R.iload_n 6 dX3_log_5 rfl rfl ?_
  refine R.i2l 7 dX3_log_6 rfl ?_
  refine R.lconst (m0 := 0) 8 dX3_log_7 rfl (by decide +kernel) ?_
  refine R.aload_n 9 dX3_log_8 rfl rfl ?_
  refine gf_90 12 dX3_log_9 rfl rfl ?_
  refine R.bipush 14 dX3_log_12 rfl (by decide +kernel) ?_
  obtain ⟨hb, h⟩ := h
  refine R.iald ar_90 15 dX3_log_14 rfl hb ?_
  refine R.iconst 16 dX3_log_15 rfl ?_
  refine R.isub 17 dX3_log_16 rfl ?_
  refine R.i2l 18 dX3_log_17 rfl ?_
  refine Rch.calls (sd_X3_isIn _ _ _ _ _ h) dX3_log_18 (lw_S q1426 q1427 q146 q1428) dk_X3_isIn (by decide) (Nat.le_of_ble_eq_true rfl) rfl rfl (Nat.le_of_ble_eq_true rfl) (kI 21 rfl fun r2 w3 h => ?_) kN
  refine R.if_eq 62 24 dX3_log_21 (by decide) rfl (fun hc => ?_) (fun hc => ?_)
  · replace h := h.1 hc
    refine R.iconst 63 dX3_log_62 rfl ?_
    exact R.retI dX3_log_63 rfl h
  · replace h := h.2 hc
    refine R.iload_n 25 dX3_log_24 rfl rfl ?_
    refine R.i2l 26 dX3_log_25 rfl ?_
    refine R.lconst (m0 := 0) 27 dX3_log_26 rfl (by decide +kernel) ?_
    refine R.ldc2 (n := 3) 30 dX3_log_27 rfl q1568 (by decide +kernel) ?_
    refine Rch.calls (sd_X3_isIn _ _ _ _ _ h) dX3_log_30 (lw_S q1426 q1427 q146 q1428) dk_X3_isIn (by decide) (Nat.le_of_ble_eq_true rfl) rfl rfl (Nat.le_of_ble_eq_true rfl) (kI 33 rfl fun r4 w5 h => ?_) kN
    refine R.if_eq 62 36 dX3_log_33 (by decide) rfl (fun hc => ?_) (fun hc => ?_)
    · replace h := h.1 hc
      refine R.iconst 63 dX3_log_62 rfl ?_
      exact R.retI dX3_log_63 rfl h
    · replace h := h.2 hc
      refine R.aload_n 37 dX3_log_36 rfl rfl ?_
      refine gf_90 40 dX3_log_37 rfl rfl ?_
      refine R.bipush 42 dX3_log_40 rfl (by decide +kernel) ?_
      refine R.iconst 43 dX3_log_42 rfl ?_
      refine R.aload_n 44 dX3_log_43 rfl rfl ?_
      refine gf_90 47 dX3_log_44 rfl rfl ?_
      refine R.bipush 49 dX3_log_47 rfl (by decide +kernel) ?_
      obtain ⟨hb, h⟩ := h
      refine R.iald ar_90 50 dX3_log_49 rfl hb ?_
      refine R.iconst 51 dX3_log_50 rfl ?_
      refine R.isub 52 dX3_log_51 rfl ?_
      refine R.iload_n 53 dX3_log_52 rfl rfl ?_
      refine R.isub 54 dX3_log_53 rfl ?_
      refine R.imul 55 dX3_log_54 rfl ?_
      refine R.iadd 56 dX3_log_55 rfl ?_
      refine R.iload_n 57 dX3_log_56 rfl rfl ?_
      refine R.iadd 58 dX3_log_57 rfl ?_
      obtain ⟨hb, h⟩ := h
      refine R.iald ar_90 59 dX3_log_58 rfl hb ?_
      refine R.goto 63 dX3_log_59 (by decide) ?_
      exact R.retI dX3_log_63 rfl h

abbrev k_X3_isPlan : MK := ("FrostBoxModel", cX3_isPlan, 2, (some .boolean), [], "isPlan")
def wp_X3_isPlan (l1 : Int32) (w : Wd) (Q : Int32 → Wd → Prop) : Prop := (l1 < iz 0 → Q (iz 0) w) ∧ (¬ l1 < iz 0 → ((gI w 88) ≤ l1 → Q (iz 0) w) ∧ (¬ (gI w 88) ≤ l1 → Q (iz 1) w))
set_option maxRecDepth 100000 in
set_option maxHeartbeats 4000000 in
theorem sd_X3_isPlan {γ : GG} (l1 : Int32) (w : Wd) (Q : Int32 → Wd → Prop) : wp_X3_isPlan l1 w Q → Ctr γ 1 yX3_isPlan (ws_ yX3_isPlan cX3_isPlan 2 (some .boolean)) [.ref 2, .int l1] w (qI Q) xN := by
  intro h
  unfold wp_X3_isPlan at h
  refine Ctr.of (μ := k_X3_isPlan) (by decide) rfl rfl rfl (Nat.le_of_ble_eq_true rfl) ⟨0, ?_⟩
  have es : lva [.ref 2, .int l1] ++ List.replicate 0 none = [some (.ref 2), some (.int l1)] := rfl
  rw [es]
  refine R.iload_n 1 dX3_isPlan_0 rfl rfl ?_
  refine R.if_lt 16 4 dX3_isPlan_1 (by decide) rfl (fun hc => ?_) (fun hc => ?_)
  · replace h := h.1 hc
    refine R.iconst 17 dX3_isPlan_16 rfl ?_
    exact R.retZ dX3_isPlan_17 rfl zok0 h
  · replace h := h.2 hc
    refine R.iload_n 5 dX3_isPlan_4 rfl rfl ?_
    refine R.aload_n 6 dX3_isPlan_5 rfl rfl ?_
    refine gf_88 9 dX3_isPlan_6 rfl rfl ?_
    refine R.icmp_ge 16 12 dX3_isPlan_9 (by decide) rfl (fun hc => ?_) (fun hc => ?_)
    · replace h := h.1 hc
      refine R.iconst 17 dX3_isPlan_16 rfl ?_
      exact R.retZ dX3_isPlan_17 rfl zok0 h
    · replace h := h.2 hc
      refine R.iconst 13 dX3_isPlan_12 rfl ?_
      refine R.goto 17 dX3_isPlan_13 (by decide) ?_
      exact R.retZ dX3_isPlan_17 rfl zok1 h

abbrev k_X3_step : MK := ("FrostBoxModel", cX3_step, 4, (some .int), [], "step")
def wp_X3_step (l1 : Int32) (l2 : Int32) (l3 : Int32) (w : Wd) (Q : Int32 → Wd → Prop) : Prop := ∀ w1, w1 = sI w 60 (iz 0) → wp_X3_isPlan l1 w1 (fun r2 w3 => (r2 = iz 0 → Q (iz (-1000000)) w3) ∧ (¬ r2 = iz 0 → inb l1 5 ∧ wp_X3_isIn ((l2).toInt64) (lz 0) ((((gA w3 84 l1.toInt) - (iz 1))).toInt64) w3 (fun r4 w5 => (r4 = iz 0 → Q (iz (-1000000)) w5) ∧ (¬ r4 = iz 0 → wp_X3_isIn ((l3).toInt64) (lz 0) (lz 3) w5 (fun r6 w7 => (r6 = iz 0 → Q (iz (-1000000)) w7) ∧ (¬ r6 = iz 0 → inb (((iz 4) * (((iz 16) * l1) + l2)) + l3) 320 ∧ Q (gA w7 83 (((iz 4) * (((iz 16) * l1) + l2)) + l3).toInt) w7))))))
set_option maxRecDepth 100000 in
set_option maxHeartbeats 4000000 in
theorem sd_X3_step {γ : GG} (l1 : Int32) (l2 : Int32) (l3 : Int32) (w : Wd) (Q : Int32 → Wd → Prop) : wp_X3_step l1 l2 l3 w Q → Ctr γ 2 yX3_step (ws_ yX3_step cX3_step 4 (some .int)) [.ref 2, .int l1, .int l2, .int l3] w (qI Q) xN := by
  intro h
  unfold wp_X3_step at h
  refine Ctr.of (μ := k_X3_step) (by decide) rfl rfl rfl (Nat.le_of_ble_eq_true rfl) ⟨0, ?_⟩
  have es : lva [.ref 2, .int l1, .int l2, .int l3] ++ List.replicate 0 none = [some (.ref 2), some (.int l1), some (.int l2), some (.int l3)] := rfl
  rw [es]
  refine R.aload_n 1 dX3_step_0 rfl rfl ?_
  refine R.iconst 2 dX3_step_1 rfl ?_
  replace h := h _ rfl
  refine pf_60 _ 5 dX3_step_2 rfl rfl ?_
  refine R.aload_n 6 dX3_step_5 rfl rfl ?_
  refine R.iload_n 7 dX3_step_6 rfl rfl ?_
  refine Rch.callv (sd_X3_isPlan _ _ _ h) dX3_step_7 (lw_V q1719 q1721 qs123 q146 q1722) dk_X3_isPlan rcM (by decide) (Nat.le_of_ble_eq_true rfl) rfl rfl (Nat.le_of_ble_eq_true rfl) (kI 10 rfl fun r2 w3 h => ?_) kN
  refine R.if_eq 61 13 dX3_step_10 (by decide) rfl (fun hc => ?_) (fun hc => ?_)
  · replace h := h.1 hc
    refine R.ldcw (n := (-1000000)) 64 dX3_step_61 rfl q1723 (by decide +kernel) ?_
    exact R.retI dX3_step_64 rfl h
  · replace h := h.2 hc
    refine R.iload_n 14 dX3_step_13 rfl rfl ?_
    refine R.i2l 15 dX3_step_14 rfl ?_
    refine R.lconst (m0 := 0) 16 dX3_step_15 rfl (by decide +kernel) ?_
    refine R.aload_n 17 dX3_step_16 rfl rfl ?_
    refine gf_84 20 dX3_step_17 rfl rfl ?_
    refine R.iload_n 21 dX3_step_20 rfl rfl ?_
    obtain ⟨hb, h⟩ := h
    refine R.iald ar_84 22 dX3_step_21 rfl hb ?_
    refine R.iconst 23 dX3_step_22 rfl ?_
    refine R.isub 24 dX3_step_23 rfl ?_
    refine R.i2l 25 dX3_step_24 rfl ?_
    refine Rch.calls (sd_X3_isIn _ _ _ _ _ h) dX3_step_25 (lw_S q1426 q1427 q146 q1428) dk_X3_isIn (by decide) (Nat.le_of_ble_eq_true rfl) rfl rfl (Nat.le_of_ble_eq_true rfl) (kI 28 rfl fun r4 w5 h => ?_) kN
    refine R.if_eq 61 31 dX3_step_28 (by decide) rfl (fun hc => ?_) (fun hc => ?_)
    · replace h := h.1 hc
      refine R.ldcw (n := (-1000000)) 64 dX3_step_61 rfl q1723 (by decide +kernel) ?_
      exact R.retI dX3_step_64 rfl h
    · replace h := h.2 hc
      refine R.iload_n 32 dX3_step_31 rfl rfl ?_
      refine R.i2l 33 dX3_step_32 rfl ?_
      refine R.lconst (m0 := 0) 34 dX3_step_33 rfl (by decide +kernel) ?_
      refine R.ldc2 (n := 3) 37 dX3_step_34 rfl q1568 (by decide +kernel) ?_
      refine Rch.calls (sd_X3_isIn _ _ _ _ _ h) dX3_step_37 (lw_S q1426 q1427 q146 q1428) dk_X3_isIn (by decide) (Nat.le_of_ble_eq_true rfl) rfl rfl (Nat.le_of_ble_eq_true rfl) (kI 40 rfl fun r6 w7 h => ?_) kN
      refine R.if_eq 61 43 dX3_step_40 (by decide) rfl (fun hc => ?_) (fun hc => ?_)
      · replace h := h.1 hc
        refine R.ldcw (n := (-1000000)) 64 dX3_step_61 rfl q1723 (by decide +kernel) ?_
        exact R.retI dX3_step_64 rfl h
      · replace h := h.2 hc
        refine R.aload_n 44 dX3_step_43 rfl rfl ?_
        refine gf_83 47 dX3_step_44 rfl rfl ?_
        refine R.iconst 48 dX3_step_47 rfl ?_
        refine R.bipush 50 dX3_step_48 rfl (by decide +kernel) ?_
        refine R.iload_n 51 dX3_step_50 rfl rfl ?_
        refine R.imul 52 dX3_step_51 rfl ?_
        refine R.iload_n 53 dX3_step_52 rfl rfl ?_
        refine R.iadd 54 dX3_step_53 rfl ?_
        refine R.imul 55 dX3_step_54 rfl ?_
        refine R.iload_n 56 dX3_step_55 rfl rfl ?_
        refine R.iadd 57 dX3_step_56 rfl ?_
        obtain ⟨hb, h⟩ := h
        refine R.iald ar_83 58 dX3_step_57 rfl hb ?_
        refine R.goto 64 dX3_step_58 (by decide) ?_
        exact R.retI dX3_step_64 rfl h

abbrev k_X3_copy : MK := ("FrostBoxModel", cX3_copy, 4, none, [], "copy")
def wl_X3_copy_12 (Q : Wd → Prop) (l0 : Nat) (l1 : Nat) (l2 : Int32) (R12 : Int32 → Wd → Prop) (l3 : Int32) (w : Wd) : Prop := (l2 ≤ l3 → Q w) ∧ (¬ l2 ≤ l3 → inA l0 l3 ∧ inA l1 l3 ∧ (∀ w1, w1 = sA w l1 l3.toInt (gA w l0 l3.toInt) → R12 (l3 + iz 1) w1))
def lp_X3_copy_12 (Q : Wd → Prop) (l0 : Nat) (l1 : Nat) (l2 : Int32) : Nat → Int32 → Wd → Prop
  | 0, _, _ => False
  | n + 1, l3, w => wl_X3_copy_12 Q l0 l1 l2 (lp_X3_copy_12 Q l0 l1 l2 n) l3 w
def wp_X3_copy (l0 : Nat) (l1 : Nat) (w : Wd) (Q : Wd → Prop) : Prop := inA l0 (iz 42) ∧ ∃ n1, lp_X3_copy_12 Q l0 l1 ((iz 43) + ((iz 4) * (gA w l0 (iz 42).toInt))) n1 (iz 0) w
set_option maxRecDepth 100000 in
set_option maxHeartbeats 4000000 in
theorem sl_X3_copy_12 {γ : GG} (Q : Wd → Prop) (l0 : Nat) (l1 : Nat) (l2 : Int32) : ∀ (n : Nat) (l3 : Int32) (w : Wd), lp_X3_copy_12 Q l0 l1 l2 n l3 w → Rch γ 1 k_X3_copy 12 [some (.ref l0), some (.ref l1), some (.int l2), some (.int l3)] [] w (qV Q) xN := by
  intro n
  induction n with
  | zero => intro _ _ h; exact h.elim
  | succ n hR12 =>
    intro l3 w h
    have h : wl_X3_copy_12 Q l0 l1 l2 (lp_X3_copy_12 Q l0 l1 l2 n) l3 w := h
    unfold wl_X3_copy_12 at h
    refine R.iload_n 13 dX3_copy_12 rfl rfl ?_
    refine R.iload_n 14 dX3_copy_13 rfl rfl ?_
    refine R.icmp_ge 29 17 dX3_copy_14 (by decide) rfl (fun hc => ?_) (fun hc => ?_)
    · replace h := h.1 hc
      exact R.retV dX3_copy_29 rfl h
    · replace h := h.2 hc
      refine R.aload_n 18 dX3_copy_17 rfl rfl ?_
      refine R.iload_n 19 dX3_copy_18 rfl rfl ?_
      refine R.aload_n 20 dX3_copy_19 rfl rfl ?_
      refine R.iload_n 21 dX3_copy_20 rfl rfl ?_
      obtain ⟨hb, h⟩ := h
      refine R.iaA 22 dX3_copy_21 rfl hb ?_
      obtain ⟨hb, h⟩ := h
      replace h := h _ rfl
      refine R.iasA 23 dX3_copy_22 rfl hb ?_
      refine R.inc3 26 dX3_copy_23 rfl (Nat.le_of_ble_eq_true rfl) rfl ?_
      refine R.goto 12 dX3_copy_26 (by decide) ?_
      exact Rch.dropk (hR12 _ _ h) ⟨rfl, ⟨rfl, ⟨rfl, ⟨rfl, trivial⟩⟩⟩⟩
set_option maxRecDepth 100000 in
set_option maxHeartbeats 4000000 in
theorem sd_X3_copy {γ : GG} (l0 : Nat) (l1 : Nat) (w : Wd) (Q : Wd → Prop) : wp_X3_copy l0 l1 w Q → Ctr γ 1 yX3_copy (ws_ yX3_copy cX3_copy 4 none) [.ref l0, .ref l1] w (qV Q) xN := by
  intro h
  unfold wp_X3_copy at h
  refine Ctr.of (μ := k_X3_copy) (by decide) rfl rfl rfl (Nat.le_of_ble_eq_true rfl) ⟨2, ?_⟩
  have es : lva [.ref l0, .ref l1] ++ List.replicate 2 none = [some (.ref l0), some (.ref l1), none, none] := rfl
  rw [es]
  refine R.bipush 2 dX3_copy_0 rfl (by decide +kernel) ?_
  refine R.iconst 3 dX3_copy_2 rfl ?_
  refine R.aload_n 4 dX3_copy_3 rfl rfl ?_
  refine R.bipush 6 dX3_copy_4 rfl (by decide +kernel) ?_
  obtain ⟨hb, h⟩ := h
  refine R.iaA 7 dX3_copy_6 rfl hb ?_
  refine R.imul 8 dX3_copy_7 rfl ?_
  refine R.iadd 9 dX3_copy_8 rfl ?_
  refine R.ist2n 10 dX3_copy_9 rfl (Nat.le_of_ble_eq_true rfl) rfl ?_
  refine R.iconst 11 dX3_copy_10 rfl ?_
  refine R.ist3n 12 dX3_copy_11 rfl (Nat.le_of_ble_eq_true rfl) rfl ?_
  obtain ⟨n1, h⟩ := h
  exact Rch.dropk (sl_X3_copy_12 Q _ _ _ n1 _ _ h) ⟨rfl, ⟨rfl, ⟨rfl, ⟨rfl, trivial⟩⟩⟩⟩

abbrev k_X3_canStep : MK := ("FrostBoxModel", cX3_canStep, 4, (some .boolean), [], "canStep")
def wp_X3_canStep (l1 : Nat) (l2 : Int32) (w : Wd) (Q : Int32 → Wd → Prop) : Prop := inb (l2 + (iz 1)) 320 ∧ inb l2 320 ∧ ((gA w 83 l2.toInt).toInt = 0 → inb (l2 + (iz 2)) 320 ∧ wp_X3_canPut l1 (gA w 83 (l2 + (iz 1)).toInt) (gA w 83 (l2 + (iz 2)).toInt) w (fun r1 w2 => zok r1 ∧ Q r1 w2)) ∧ ((gA w 83 l2.toInt).toInt = 1 → wp_X3_isBox l1 (gA w 83 (l2 + (iz 1)).toInt) w (fun r3 w4 => zok r3 ∧ Q r3 w4)) ∧ ((gA w 83 l2.toInt).toInt = 2 → wp_X3_canLabel l1 (gA w 83 (l2 + (iz 1)).toInt) w (fun r5 w6 => zok r5 ∧ Q r5 w6)) ∧ ((gA w 83 l2.toInt).toInt = 3 → wp_X3_mayPass l1 (gA w 83 (l2 + (iz 1)).toInt) (iz 9) w (fun r7 w8 => zok r7 ∧ Q r7 w8)) ∧ ((gA w 83 l2.toInt).toInt < 0 ∨ 3 < (gA w 83 l2.toInt).toInt → wp_X3_isHours (gA w 83 (l2 + (iz 1)).toInt) w (fun r9 w10 => zok r9 ∧ Q r9 w10))
set_option maxRecDepth 100000 in
set_option maxHeartbeats 4000000 in
theorem sd_X3_canStep {γ : GG} (l1 : Nat) (l2 : Int32) (w : Wd) (Q : Int32 → Wd → Prop) : wp_X3_canStep l1 l2 w Q → Ctr γ 3 yX3_canStep (ws_ yX3_canStep cX3_canStep 4 (some .boolean)) [.ref 2, .ref l1, .int l2] w (qI Q) xN := by
  intro h
  unfold wp_X3_canStep at h
  refine Ctr.of (μ := k_X3_canStep) (by decide) rfl rfl rfl (Nat.le_of_ble_eq_true rfl) ⟨1, ?_⟩
  have es : lva [.ref 2, .ref l1, .int l2] ++ List.replicate 1 none = [some (.ref 2), some (.ref l1), some (.int l2), none] := rfl
  rw [es]
  refine R.aload_n 1 dX3_canStep_0 rfl rfl ?_
  refine gf_83 4 dX3_canStep_1 rfl rfl ?_
  refine R.iload_n 5 dX3_canStep_4 rfl rfl ?_
  refine R.iconst 6 dX3_canStep_5 rfl ?_
  refine R.iadd 7 dX3_canStep_6 rfl ?_
  obtain ⟨hb, h⟩ := h
  refine R.iald ar_83 8 dX3_canStep_7 rfl hb ?_
  refine R.ist3n 9 dX3_canStep_8 rfl (Nat.le_of_ble_eq_true rfl) rfl ?_
  refine R.aload_n 10 dX3_canStep_9 rfl rfl ?_
  refine gf_83 13 dX3_canStep_10 rfl rfl ?_
  refine R.iload_n 14 dX3_canStep_13 rfl rfl ?_
  obtain ⟨hb, h⟩ := h
  refine R.iald ar_83 15 dX3_canStep_14 rfl hb ?_
  by_cases c0 : (gA w 83 l2.toInt).toInt = 0
  · replace h := h.1 c0
    refine R.tswIn 0 44 dX3_canStep_15 c0 (by decide) (by decide) rfl (by decide) ?_
    refine R.aload_n 45 dX3_canStep_44 rfl rfl ?_
    refine R.aload_n 46 dX3_canStep_45 rfl rfl ?_
    refine R.iload_n 47 dX3_canStep_46 rfl rfl ?_
    refine R.aload_n 48 dX3_canStep_47 rfl rfl ?_
    refine gf_83 51 dX3_canStep_48 rfl rfl ?_
    refine R.iload_n 52 dX3_canStep_51 rfl rfl ?_
    refine R.iconst 53 dX3_canStep_52 rfl ?_
    refine R.iadd 54 dX3_canStep_53 rfl ?_
    obtain ⟨hb, h⟩ := h
    refine R.iald ar_83 55 dX3_canStep_54 rfl hb ?_
    refine Rch.callv (sd_X3_canPut _ _ _ _ _ h) dX3_canStep_55 (lw_V q1631 q1633 qs112 q146 q1634) dk_X3_canPut rcM (by decide) (Nat.le_of_ble_eq_true rfl) rfl rfl (Nat.le_of_ble_eq_true rfl) (kI 58 rfl fun r1 w2 h => ?_) kN
    exact R.retZ dX3_canStep_58 rfl h.1 h.2
  replace h := h.2
  by_cases c1 : (gA w 83 l2.toInt).toInt = 1
  · replace h := h.1 c1
    refine R.tswIn 1 59 dX3_canStep_15 c1 (by decide) (by decide) rfl (by decide) ?_
    refine R.aload_n 60 dX3_canStep_59 rfl rfl ?_
    refine R.aload_n 61 dX3_canStep_60 rfl rfl ?_
    refine R.iload_n 62 dX3_canStep_61 rfl rfl ?_
    refine Rch.callv (sd_X3_isBox _ _ _ _ h) dX3_canStep_62 (lw_V q1586 q1588 qs106 q146 q1589) dk_X3_isBox rcM (by decide) (Nat.le_of_ble_eq_true rfl) rfl rfl (Nat.le_of_ble_eq_true rfl) (kI 65 rfl fun r3 w4 h => ?_) kN
    exact R.retZ dX3_canStep_65 rfl h.1 h.2
  replace h := h.2
  by_cases c2 : (gA w 83 l2.toInt).toInt = 2
  · replace h := h.1 c2
    refine R.tswIn 2 66 dX3_canStep_15 c2 (by decide) (by decide) rfl (by decide) ?_
    refine R.aload_n 67 dX3_canStep_66 rfl rfl ?_
    refine R.aload_n 68 dX3_canStep_67 rfl rfl ?_
    refine R.iload_n 69 dX3_canStep_68 rfl rfl ?_
    refine Rch.callv (sd_X3_canLabel _ _ _ _ h) dX3_canStep_69 (lw_V q1661 q1663 qs116 q146 q1664) dk_X3_canLabel rcM (by decide) (Nat.le_of_ble_eq_true rfl) rfl rfl (Nat.le_of_ble_eq_true rfl) (kI 72 rfl fun r5 w6 h => ?_) kN
    exact R.retZ dX3_canStep_72 rfl h.1 h.2
  replace h := h.2
  by_cases c3 : (gA w 83 l2.toInt).toInt = 3
  · replace h := h.1 c3
    refine R.tswIn 3 73 dX3_canStep_15 c3 (by decide) (by decide) rfl (by decide) ?_
    refine R.aload_n 74 dX3_canStep_73 rfl rfl ?_
    refine R.aload_n 75 dX3_canStep_74 rfl rfl ?_
    refine R.iload_n 76 dX3_canStep_75 rfl rfl ?_
    refine R.bipush 78 dX3_canStep_76 rfl (by decide +kernel) ?_
    refine Rch.callv (sd_X3_mayPass _ _ _ _ _ h) dX3_canStep_78 (lw_V q1672 q1674 qs117 q146 q1675) dk_X3_mayPass rcM (by decide) (Nat.le_of_ble_eq_true rfl) rfl rfl (Nat.le_of_ble_eq_true rfl) (kI 81 rfl fun r7 w8 h => ?_) kN
    exact R.retZ dX3_canStep_81 rfl h.1 h.2
  replace h := h.2
  have cd : (gA w 83 l2.toInt).toInt < 0 ∨ 3 < (gA w 83 l2.toInt).toInt := by omega
  replace h := h cd
  refine R.tswOut 82 dX3_canStep_15 cd (by decide) ?_
  refine R.aload_n 83 dX3_canStep_82 rfl rfl ?_
  refine R.iload_n 84 dX3_canStep_83 rfl rfl ?_
  refine Rch.callv (sd_X3_isHours _ _ _ h) dX3_canStep_84 (lw_V q1688 q1690 qs120 q146 q1691) dk_X3_isHours rcM (by decide) (Nat.le_of_ble_eq_true rfl) rfl rfl (Nat.le_of_ble_eq_true rfl) (kI 87 rfl fun r9 w10 h => ?_) kN
  exact R.retZ dX3_canStep_87 rfl h.1 h.2

abbrev k_X3_timesOf : MK := ("FrostBoxModel", cX3_timesOf, 2, (some .int), [], "timesOf")
def wp_X3_timesOf (l1 : Int32) (w : Wd) (Q : Int32 → Wd → Prop) : Prop := inb l1 320 ∧ (¬ (gA w 83 l1.toInt) = (iz 3) → Q (iz 1) w) ∧ ((gA w 83 l1.toInt) = (iz 3) → inb (l1 + (iz 1)) 320 ∧ Q (gA w 83 (l1 + (iz 1)).toInt) w)
set_option maxRecDepth 100000 in
set_option maxHeartbeats 4000000 in
theorem sd_X3_timesOf {γ : GG} (l1 : Int32) (w : Wd) (Q : Int32 → Wd → Prop) : wp_X3_timesOf l1 w Q → Ctr γ 1 yX3_timesOf (ws_ yX3_timesOf cX3_timesOf 2 (some .int)) [.ref 2, .int l1] w (qI Q) xN := by
  intro h
  unfold wp_X3_timesOf at h
  refine Ctr.of (μ := k_X3_timesOf) (by decide) rfl rfl rfl (Nat.le_of_ble_eq_true rfl) ⟨0, ?_⟩
  have es : lva [.ref 2, .int l1] ++ List.replicate 0 none = [some (.ref 2), some (.int l1)] := rfl
  rw [es]
  refine R.aload_n 1 dX3_timesOf_0 rfl rfl ?_
  refine gf_83 4 dX3_timesOf_1 rfl rfl ?_
  refine R.iload_n 5 dX3_timesOf_4 rfl rfl ?_
  obtain ⟨hb, h⟩ := h
  refine R.iald ar_83 6 dX3_timesOf_5 rfl hb ?_
  refine R.iconst 7 dX3_timesOf_6 rfl ?_
  refine R.icmp_ne 21 10 dX3_timesOf_7 (by decide) rfl (fun hc => ?_) (fun hc => ?_)
  · replace h := h.1 hc
    refine R.iconst 22 dX3_timesOf_21 rfl ?_
    exact R.retI dX3_timesOf_22 rfl h
  · replace h := h.2 hc
    refine R.aload_n 11 dX3_timesOf_10 rfl rfl ?_
    refine gf_83 14 dX3_timesOf_11 rfl rfl ?_
    refine R.iload_n 15 dX3_timesOf_14 rfl rfl ?_
    refine R.iconst 16 dX3_timesOf_15 rfl ?_
    refine R.iadd 17 dX3_timesOf_16 rfl ?_
    obtain ⟨hb, h⟩ := h
    refine R.iald ar_83 18 dX3_timesOf_17 rfl hb ?_
    refine R.goto 22 dX3_timesOf_18 (by decide) ?_
    exact R.retI dX3_timesOf_22 rfl h

abbrev k_X3_steps : MK := ("FrostBoxModel", cX3_steps, 4, (some .int), [], "steps")
def wp_X3_steps (l1 : Nat) (l2 : Int32) (w : Wd) (Q : Int32 → Wd → Prop) : Prop := inb (l2 + (iz 1)) 320 ∧ inb l2 320 ∧ ((gA w 83 l2.toInt).toInt = 0 → inb (l2 + (iz 2)) 320 ∧ inb (l2 + (iz 3)) 320 ∧ wp_X3_puts l1 (gA w 83 (l2 + (iz 1)).toInt) (gA w 83 (l2 + (iz 2)).toInt) (gA w 83 (l2 + (iz 3)).toInt) w (fun w2 => Q (iz 0) w2)) ∧ ((gA w 83 l2.toInt).toInt = 1 → wp_X3_eats l1 (gA w 83 (l2 + (iz 1)).toInt) w (fun r3 w4 => Q r3 w4)) ∧ ((gA w 83 l2.toInt).toInt = 2 → wp_X3_names l1 (gA w 83 (l2 + (iz 1)).toInt) w (fun w6 => Q (iz 0) w6)) ∧ ((gA w 83 l2.toInt).toInt = 3 → wp_X3_goMonth l1 w (fun w8 => Q (iz 0) w8)) ∧ ((gA w 83 l2.toInt).toInt < 0 ∨ 3 < (gA w 83 l2.toInt).toInt → wp_X3_sumIn l1 w (fun r9 w10 => wp_X3_moreThanBorne r9 (gA w 83 (l2 + (iz 1)).toInt) w10 (fun r11 w12 => wp_X3_ages l1 r11 w12 (fun w14 => Q (iz 0) w14))))
set_option maxRecDepth 100000 in
set_option maxHeartbeats 4000000 in
theorem sd_X3_steps {γ : GG} (l1 : Nat) (l2 : Int32) (w : Wd) (Q : Int32 → Wd → Prop) : wp_X3_steps l1 l2 w Q → Ctr γ 76 yX3_steps (ws_ yX3_steps cX3_steps 4 (some .int)) [.ref 2, .ref l1, .int l2] w (qI Q) xN := by
  intro h
  unfold wp_X3_steps at h
  refine Ctr.of (μ := k_X3_steps) (by decide) rfl rfl rfl (Nat.le_of_ble_eq_true rfl) ⟨1, ?_⟩
  have es : lva [.ref 2, .ref l1, .int l2] ++ List.replicate 1 none = [some (.ref 2), some (.ref l1), some (.int l2), none] := rfl
  rw [es]
  refine R.aload_n 1 dX3_steps_0 rfl rfl ?_
  refine gf_83 4 dX3_steps_1 rfl rfl ?_
  refine R.iload_n 5 dX3_steps_4 rfl rfl ?_
  refine R.iconst 6 dX3_steps_5 rfl ?_
  refine R.iadd 7 dX3_steps_6 rfl ?_
  obtain ⟨hb, h⟩ := h
  refine R.iald ar_83 8 dX3_steps_7 rfl hb ?_
  refine R.ist3n 9 dX3_steps_8 rfl (Nat.le_of_ble_eq_true rfl) rfl ?_
  refine R.aload_n 10 dX3_steps_9 rfl rfl ?_
  refine gf_83 13 dX3_steps_10 rfl rfl ?_
  refine R.iload_n 14 dX3_steps_13 rfl rfl ?_
  obtain ⟨hb, h⟩ := h
  refine R.iald ar_83 15 dX3_steps_14 rfl hb ?_
  by_cases c0 : (gA w 83 l2.toInt).toInt = 0
  · replace h := h.1 c0
    refine R.tswIn 0 44 dX3_steps_15 c0 (by decide) (by decide) rfl (by decide) ?_
    refine R.aload_n 45 dX3_steps_44 rfl rfl ?_
    refine R.iload_n 46 dX3_steps_45 rfl rfl ?_
    refine R.aload_n 47 dX3_steps_46 rfl rfl ?_
    refine gf_83 50 dX3_steps_47 rfl rfl ?_
    refine R.iload_n 51 dX3_steps_50 rfl rfl ?_
    refine R.iconst 52 dX3_steps_51 rfl ?_
    refine R.iadd 53 dX3_steps_52 rfl ?_
    obtain ⟨hb, h⟩ := h
    refine R.iald ar_83 54 dX3_steps_53 rfl hb ?_
    refine R.aload_n 55 dX3_steps_54 rfl rfl ?_
    refine gf_83 58 dX3_steps_55 rfl rfl ?_
    refine R.iload_n 59 dX3_steps_58 rfl rfl ?_
    refine R.iconst 60 dX3_steps_59 rfl ?_
    refine R.iadd 61 dX3_steps_60 rfl ?_
    obtain ⟨hb, h⟩ := h
    refine R.iald ar_83 62 dX3_steps_61 rfl hb ?_
    refine Rch.calls (sd_X3_puts _ _ _ _ _ _ h) dX3_steps_62 (lw_S q1643 q1644 q146 q1645) dk_X3_puts (by decide) (Nat.le_of_ble_eq_true rfl) rfl rfl (Nat.le_of_ble_eq_true rfl) (kV 65 rfl fun w2 h => ?_) kN
    refine R.iconst 66 dX3_steps_65 rfl ?_
    exact R.retI dX3_steps_66 rfl h
  replace h := h.2
  by_cases c1 : (gA w 83 l2.toInt).toInt = 1
  · replace h := h.1 c1
    refine R.tswIn 1 67 dX3_steps_15 c1 (by decide) (by decide) rfl (by decide) ?_
    refine R.aload_n 68 dX3_steps_67 rfl rfl ?_
    refine R.aload_n 69 dX3_steps_68 rfl rfl ?_
    refine R.iload_n 70 dX3_steps_69 rfl rfl ?_
    refine Rch.callv (sd_X3_eats _ _ _ _ h) dX3_steps_70 (lw_V q1650 q1652 qs115 q146 q1653) dk_X3_eats rcM (by decide) (Nat.le_of_ble_eq_true rfl) rfl rfl (Nat.le_of_ble_eq_true rfl) (kI 73 rfl fun r3 w4 h => ?_) kN
    exact R.retI dX3_steps_73 rfl h
  replace h := h.2
  by_cases c2 : (gA w 83 l2.toInt).toInt = 2
  · replace h := h.1 c2
    refine R.tswIn 2 74 dX3_steps_15 c2 (by decide) (by decide) rfl (by decide) ?_
    refine R.aload_n 75 dX3_steps_74 rfl rfl ?_
    refine R.iload_n 76 dX3_steps_75 rfl rfl ?_
    refine Rch.calls (sd_X3_names _ _ _ _ h) dX3_steps_76 (lw_S q1665 q1666 q146 q1667) dk_X3_names (by decide) (Nat.le_of_ble_eq_true rfl) rfl rfl (Nat.le_of_ble_eq_true rfl) (kV 79 rfl fun w6 h => ?_) kN
    refine R.iconst 80 dX3_steps_79 rfl ?_
    exact R.retI dX3_steps_80 rfl h
  replace h := h.2
  by_cases c3 : (gA w 83 l2.toInt).toInt = 3
  · replace h := h.1 c3
    refine R.tswIn 3 81 dX3_steps_15 c3 (by decide) (by decide) rfl (by decide) ?_
    refine R.aload_n 82 dX3_steps_81 rfl rfl ?_
    refine R.aload_n 83 dX3_steps_82 rfl rfl ?_
    refine Rch.callv (sd_X3_goMonth _ _ _ h) dX3_steps_83 (lw_V q1676 q1678 qs118 q146 q1679) dk_X3_goMonth rcM (by decide) (Nat.le_of_ble_eq_true rfl) rfl rfl (Nat.le_of_ble_eq_true rfl) (kV 86 rfl fun w8 h => ?_) kN
    refine R.iconst 87 dX3_steps_86 rfl ?_
    exact R.retI dX3_steps_87 rfl h
  replace h := h.2
  have cd : (gA w 83 l2.toInt).toInt < 0 ∨ 3 < (gA w 83 l2.toInt).toInt := by omega
  replace h := h cd
  refine R.tswOut 88 dX3_steps_15 cd (by decide) ?_
  refine R.aload_n 89 dX3_steps_88 rfl rfl ?_
  refine R.aload_n 90 dX3_steps_89 rfl rfl ?_
  refine R.aload_n 91 dX3_steps_90 rfl rfl ?_
  refine R.aload_n 92 dX3_steps_91 rfl rfl ?_
  refine R.aload_n 93 dX3_steps_92 rfl rfl ?_
  refine Rch.callv (sd_X3_sumIn _ _ _ h) dX3_steps_93 (lw_V q1635 q1637 qs113 q146 q1638) dk_X3_sumIn rcM (by decide) (Nat.le_of_ble_eq_true rfl) rfl rfl (Nat.le_of_ble_eq_true rfl) (kI 96 rfl fun r9 w10 h => ?_) kN
  refine R.iload_n 97 dX3_steps_96 rfl rfl ?_
  refine Rch.callv (sd_X3_moreThanBorne _ _ _ _ h) dX3_steps_97 (lw_V q1693 q1695 qs121 q146 q1696) dk_X3_moreThanBorne rcM (by decide) (Nat.le_of_ble_eq_true rfl) rfl rfl (Nat.le_of_ble_eq_true rfl) (kI 100 rfl fun r11 w12 h => ?_) kN
  refine Rch.callv (sd_X3_ages _ _ _ _ h) dX3_steps_100 (lw_V q1680 q1682 qs119 q146 q1683) dk_X3_ages rcM (by decide) (Nat.le_of_ble_eq_true rfl) rfl rfl (Nat.le_of_ble_eq_true rfl) (kV 103 rfl fun w14 h => ?_) kN
  refine R.iconst 104 dX3_steps_103 rfl ?_
  exact R.retI dX3_steps_104 rfl h

abbrev k_X3_run : MK := ("FrostBoxModel", cX3_run, 7, (some .int), [], "run")
def b_X3_run_130 (Q : Int32 → Wd → Prop) (l1 : Int32) (l2 : Int32) (l3 : Int32) (l4 : Int32) (w : Wd) : Prop := (¬ l2 = (iz 1) → inb l1 5 ∧ (¬ l3 = (gA w 84 l1.toInt) → Q l3 w) ∧ (l3 = (gA w 84 l1.toInt) → Q (iz (-1)) w)) ∧ (l2 = (iz 1) → Q l4 w)
def wl_X3_run_92 (Q : Int32 → Wd → Prop) (R50 : Int32 → Int32 → Wd → Prop) (l1 : Int32) (l2 : Int32) (l3 : Int32) (l5 : Int32) (R92 : Int32 → Int32 → Wd → Prop) (l4 : Int32) (l6 : Int32) (w : Wd) : Prop := wp_X3_timesOf l5 w (fun r1 w2 => (r1 ≤ l6 → R50 (l3 + iz 1) l4 w2) ∧ (¬ r1 ≤ l6 → wp_X3_steps 91 l5 w2 (fun r3 w4 => R92 (l4 + r3) (l6 + iz 1) w4)))
def lp_X3_run_92 (Q : Int32 → Wd → Prop) (R50 : Int32 → Int32 → Wd → Prop) (l1 : Int32) (l2 : Int32) (l3 : Int32) (l5 : Int32) : Nat → Int32 → Int32 → Wd → Prop
  | 0, _, _, _ => False
  | n + 1, l4, l6, w => wl_X3_run_92 Q R50 l1 l2 l3 l5 (lp_X3_run_92 Q R50 l1 l2 l3 l5 n) l4 l6 w
def wl_X3_run_50 (Q : Int32 → Wd → Prop) (l1 : Int32) (l2 : Int32) (R50 : Int32 → Int32 → Wd → Prop) (l3 : Int32) (l4 : Int32) (w : Wd) : Prop := inb l1 5 ∧ ((gA w 84 l1.toInt) ≤ l3 → b_X3_run_130 Q l1 l2 l3 l4 w) ∧ (¬ (gA w 84 l1.toInt) ≤ l3 → wp_X3_canStep 91 ((iz 4) * (((iz 16) * l1) + l3)) w (fun r1 w2 => (r1 = iz 0 → b_X3_run_130 Q l1 l2 l3 l4 w2) ∧ (¬ r1 = iz 0 → ∃ n3, lp_X3_run_92 Q R50 l1 l2 l3 ((iz 4) * (((iz 16) * l1) + l3)) n3 l4 (iz 0) w2)))
def lp_X3_run_50 (Q : Int32 → Wd → Prop) (l1 : Int32) (l2 : Int32) : Nat → Int32 → Int32 → Wd → Prop
  | 0, _, _, _ => False
  | n + 1, l3, l4, w => wl_X3_run_50 Q l1 l2 (lp_X3_run_50 Q l1 l2 n) l3 l4 w
def wp_X3_run (l1 : Int32) (l2 : Int32) (w : Wd) (Q : Int32 → Wd → Prop) : Prop := ∀ w1, w1 = sI w 60 (iz 0) → wp_X3_isPlan l1 w1 (fun r2 w3 => (r2 = iz 0 → Q (iz (-1000000)) w3) ∧ (¬ r2 = iz 0 → ((gI w3 85) = iz 0 → Q (iz (-1000000)) w3) ∧ (¬ (gI w3 85) = iz 0 → wp_X3_isIn ((l2).toInt64) (lz 0) (lz 1) w3 (fun r4 w5 => (¬ r4 = iz 0 → wp_X3_copy 90 91 w5 (fun w7 => ∃ n8, lp_X3_run_50 Q l1 l2 n8 (iz 0) (iz 0) w7)) ∧ (r4 = iz 0 → Q (iz (-1000000)) w5)))))
set_option maxRecDepth 100000 in
set_option maxHeartbeats 4000000 in
theorem s_X3_run_130 {γ : GG} (Q : Int32 → Wd → Prop) (l1 : Int32) (l2 : Int32) (l3 : Int32) (l4 : Int32) : ∀ (w : Wd), b_X3_run_130 Q l1 l2 l3 l4 w → Rch γ 77 k_X3_run 130 [some (.ref 2), some (.int l1), some (.int l2), some (.int l3), some (.int l4), none, none] [] w (qI Q) xN := by
  intro w h
  unfold b_X3_run_130 at h
  refine R.iload_n 131 dX3_run_130 rfl rfl ?_
  refine R.iconst 132 dX3_run_131 rfl ?_
  refine R.icmp_ne 138 135 dX3_run_132 (by decide) rfl (fun hc => ?_) (fun hc => ?_)
  · replace h := h.1 hc
    refine R.iload_n 139 dX3_run_138 rfl rfl ?_
    refine R.aload_n 140 dX3_run_139 rfl rfl ?_
    refine gf_84 143 dX3_run_140 rfl rfl ?_
    refine R.iload_n 144 dX3_run_143 rfl rfl ?_
    obtain ⟨hb, h⟩ := h
    refine R.iald ar_84 145 dX3_run_144 rfl hb ?_
    refine R.icmp_ne 152 148 dX3_run_145 (by decide) rfl (fun hc => ?_) (fun hc => ?_)
    · replace h := h.1 hc
      refine R.iload_n 153 dX3_run_152 rfl rfl ?_
      exact R.retI dX3_run_153 rfl h
    · replace h := h.2 hc
      refine R.iconst 149 dX3_run_148 rfl ?_
      refine R.goto 153 dX3_run_149 (by decide) ?_
      exact R.retI dX3_run_153 rfl h
  · replace h := h.2 hc
    refine R.iload 137 dX3_run_135 rfl rfl ?_
    exact R.retI dX3_run_137 rfl h
set_option maxRecDepth 100000 in
set_option maxHeartbeats 4000000 in
theorem sl_X3_run_92 {γ : GG} (Q : Int32 → Wd → Prop) (R50 : Int32 → Int32 → Wd → Prop) (l1 : Int32) (l2 : Int32) (l3 : Int32) (l5 : Int32) (hR50 : ∀ (l3 : Int32) (l4 : Int32) (w : Wd), R50 l3 l4 w → Rch γ 77 k_X3_run 50 [some (.ref 2), some (.int l1), some (.int l2), some (.int l3), some (.int l4), none, none] [] w (qI Q) xN) : ∀ (n : Nat) (l4 : Int32) (l6 : Int32) (w : Wd), lp_X3_run_92 Q R50 l1 l2 l3 l5 n l4 l6 w → Rch γ 77 k_X3_run 92 [some (.ref 2), some (.int l1), some (.int l2), some (.int l3), some (.int l4), some (.int l5), some (.int l6)] [] w (qI Q) xN := by
  intro n
  induction n with
  | zero => intro _ _ _ h; exact h.elim
  | succ n hR92 =>
    intro l4 l6 w h
    have h : wl_X3_run_92 Q R50 l1 l2 l3 l5 (lp_X3_run_92 Q R50 l1 l2 l3 l5 n) l4 l6 w := h
    unfold wl_X3_run_92 at h
    refine R.iload 94 dX3_run_92 rfl rfl ?_
    refine R.aload_n 95 dX3_run_94 rfl rfl ?_
    refine R.iload 97 dX3_run_95 rfl rfl ?_
    refine Rch.callv (sd_X3_timesOf _ _ _ h) dX3_run_97 (lw_V q1735 q1737 qs125 q146 q1738) dk_X3_timesOf rcM (by decide) (Nat.le_of_ble_eq_true rfl) rfl rfl (Nat.le_of_ble_eq_true rfl) (kI 100 rfl fun r1 w2 h => ?_) kN
    refine R.icmp_ge 124 103 dX3_run_100 (by decide) rfl (fun hc => ?_) (fun hc => ?_)
    · replace h := h.1 hc
      refine R.inc3 127 dX3_run_124 rfl (Nat.le_of_ble_eq_true rfl) rfl ?_
      refine R.goto 50 dX3_run_127 (by decide) ?_
      exact Rch.dropk (hR50 _ _ _ h) ⟨rfl, ⟨rfl, ⟨rfl, ⟨rfl, ⟨rfl, trivial⟩⟩⟩⟩⟩
    · replace h := h.2 hc
      refine R.iload 105 dX3_run_103 rfl rfl ?_
      refine R.aload_n 106 dX3_run_105 rfl rfl ?_
      refine R.aload_n 107 dX3_run_106 rfl rfl ?_
      refine gf_91 110 dX3_run_107 rfl rfl ?_
      refine R.iload 112 dX3_run_110 rfl rfl ?_
      refine Rch.callv (sd_X3_steps _ _ _ _ h) dX3_run_112 (lw_V q1739 q1741 qs126 q146 q1742) dk_X3_steps rcM (by decide) (Nat.le_of_ble_eq_true rfl) rfl rfl (Nat.le_of_ble_eq_true rfl) (kI 115 rfl fun r3 w4 h => ?_) kN
      refine R.iadd 116 dX3_run_115 rfl ?_
      refine R.ist4 118 dX3_run_116 rfl (Nat.le_of_ble_eq_true rfl) rfl ?_
      refine R.inc6 121 dX3_run_118 rfl (Nat.le_of_ble_eq_true rfl) rfl ?_
      refine R.goto 92 dX3_run_121 (by decide) ?_
      exact Rch.dropk (hR92 _ _ _ h) ⟨rfl, ⟨rfl, ⟨rfl, ⟨rfl, ⟨rfl, ⟨rfl, ⟨rfl, trivial⟩⟩⟩⟩⟩⟩⟩
set_option maxRecDepth 100000 in
set_option maxHeartbeats 4000000 in
theorem sl_X3_run_50 {γ : GG} (Q : Int32 → Wd → Prop) (l1 : Int32) (l2 : Int32) : ∀ (n : Nat) (l3 : Int32) (l4 : Int32) (w : Wd), lp_X3_run_50 Q l1 l2 n l3 l4 w → Rch γ 77 k_X3_run 50 [some (.ref 2), some (.int l1), some (.int l2), some (.int l3), some (.int l4), none, none] [] w (qI Q) xN := by
  intro n
  induction n with
  | zero => intro _ _ _ h; exact h.elim
  | succ n hR50 =>
    intro l3 l4 w h
    have h : wl_X3_run_50 Q l1 l2 (lp_X3_run_50 Q l1 l2 n) l3 l4 w := h
    unfold wl_X3_run_50 at h
    refine R.iload_n 51 dX3_run_50 rfl rfl ?_
    refine R.aload_n 52 dX3_run_51 rfl rfl ?_
    refine gf_84 55 dX3_run_52 rfl rfl ?_
    refine R.iload_n 56 dX3_run_55 rfl rfl ?_
    obtain ⟨hb, h⟩ := h
    refine R.iald ar_84 57 dX3_run_56 rfl hb ?_
    refine R.icmp_ge 130 60 dX3_run_57 (by decide) rfl (fun hc => ?_) (fun hc => ?_)
    · replace h := h.1 hc
      exact Rch.dropk (s_X3_run_130 Q _ _ _ _ _ h) ⟨rfl, ⟨rfl, ⟨rfl, ⟨rfl, ⟨rfl, trivial⟩⟩⟩⟩⟩
    · replace h := h.2 hc
      refine R.aload_n 61 dX3_run_60 rfl rfl ?_
      refine R.aload_n 62 dX3_run_61 rfl rfl ?_
      refine gf_91 65 dX3_run_62 rfl rfl ?_
      refine R.iconst 66 dX3_run_65 rfl ?_
      refine R.bipush 68 dX3_run_66 rfl (by decide +kernel) ?_
      refine R.iload_n 69 dX3_run_68 rfl rfl ?_
      refine R.imul 70 dX3_run_69 rfl ?_
      refine R.iload_n 71 dX3_run_70 rfl rfl ?_
      refine R.iadd 72 dX3_run_71 rfl ?_
      refine R.imul 73 dX3_run_72 rfl ?_
      refine Rch.callv (sd_X3_canStep _ _ _ _ h) dX3_run_73 (lw_V q1731 q1733 qs124 q146 q1734) dk_X3_canStep rcM (by decide) (Nat.le_of_ble_eq_true rfl) rfl rfl (Nat.le_of_ble_eq_true rfl) (kI 76 rfl fun r1 w2 h => ?_) kN
      refine R.if_eq 130 79 dX3_run_76 (by decide) rfl (fun hc => ?_) (fun hc => ?_)
      · replace h := h.1 hc
        exact Rch.dropk (s_X3_run_130 Q _ _ _ _ _ h) ⟨rfl, ⟨rfl, ⟨rfl, ⟨rfl, ⟨rfl, trivial⟩⟩⟩⟩⟩
      · replace h := h.2 hc
        refine R.iconst 80 dX3_run_79 rfl ?_
        refine R.bipush 82 dX3_run_80 rfl (by decide +kernel) ?_
        refine R.iload_n 83 dX3_run_82 rfl rfl ?_
        refine R.imul 84 dX3_run_83 rfl ?_
        refine R.iload_n 85 dX3_run_84 rfl rfl ?_
        refine R.iadd 86 dX3_run_85 rfl ?_
        refine R.imul 87 dX3_run_86 rfl ?_
        refine R.ist5 89 dX3_run_87 rfl (Nat.le_of_ble_eq_true rfl) rfl ?_
        refine R.iconst 90 dX3_run_89 rfl ?_
        refine R.ist6 92 dX3_run_90 rfl (Nat.le_of_ble_eq_true rfl) rfl ?_
        obtain ⟨n3, h⟩ := h
        exact Rch.dropk (sl_X3_run_92 Q _ _ _ _ _ hR50 n3 _ _ _ h) ⟨rfl, ⟨rfl, ⟨rfl, ⟨rfl, ⟨rfl, ⟨rfl, ⟨rfl, trivial⟩⟩⟩⟩⟩⟩⟩
set_option maxRecDepth 100000 in
set_option maxHeartbeats 4000000 in
theorem sd_X3_run {γ : GG} (l1 : Int32) (l2 : Int32) (w : Wd) (Q : Int32 → Wd → Prop) : wp_X3_run l1 l2 w Q → Ctr γ 77 yX3_run (ws_ yX3_run cX3_run 7 (some .int)) [.ref 2, .int l1, .int l2] w (qI Q) xN := by
  intro h
  unfold wp_X3_run at h
  refine Ctr.of (μ := k_X3_run) (by decide) rfl rfl rfl (Nat.le_of_ble_eq_true rfl) ⟨4, ?_⟩
  have es : lva [.ref 2, .int l1, .int l2] ++ List.replicate 4 none = [some (.ref 2), some (.int l1), some (.int l2), none, none, none, none] := rfl
  rw [es]
  refine R.aload_n 1 dX3_run_0 rfl rfl ?_
  refine R.iconst 2 dX3_run_1 rfl ?_
  replace h := h _ rfl
  refine pf_60 _ 5 dX3_run_2 rfl rfl ?_
  refine R.aload_n 6 dX3_run_5 rfl rfl ?_
  refine R.iload_n 7 dX3_run_6 rfl rfl ?_
  refine Rch.callv (sd_X3_isPlan _ _ _ h) dX3_run_7 (lw_V q1719 q1721 qs123 q146 q1722) dk_X3_isPlan rcM (by decide) (Nat.le_of_ble_eq_true rfl) rfl rfl (Nat.le_of_ble_eq_true rfl) (kI 10 rfl fun r2 w3 h => ?_) kN
  refine R.if_eq 30 13 dX3_run_10 (by decide) rfl (fun hc => ?_) (fun hc => ?_)
  · replace h := h.1 hc
    refine R.ldcw (n := (-1000000)) 33 dX3_run_30 rfl q1723 (by decide +kernel) ?_
    exact R.retI dX3_run_33 rfl h
  · replace h := h.2 hc
    refine R.aload_n 14 dX3_run_13 rfl rfl ?_
    refine gf_85 17 dX3_run_14 rfl rfl ?_
    refine R.if_eq 30 20 dX3_run_17 (by decide) rfl (fun hc => ?_) (fun hc => ?_)
    · replace h := h.1 hc
      refine R.ldcw (n := (-1000000)) 33 dX3_run_30 rfl q1723 (by decide +kernel) ?_
      exact R.retI dX3_run_33 rfl h
    · replace h := h.2 hc
      refine R.iload_n 21 dX3_run_20 rfl rfl ?_
      refine R.i2l 22 dX3_run_21 rfl ?_
      refine R.lconst (m0 := 0) 23 dX3_run_22 rfl (by decide +kernel) ?_
      refine R.lconst (m0 := 1) 24 dX3_run_23 rfl (by decide +kernel) ?_
      refine Rch.calls (sd_X3_isIn _ _ _ _ _ h) dX3_run_24 (lw_S q1426 q1427 q146 q1428) dk_X3_isIn (by decide) (Nat.le_of_ble_eq_true rfl) rfl rfl (Nat.le_of_ble_eq_true rfl) (kI 27 rfl fun r4 w5 h => ?_) kN
      refine R.if_ne 34 30 dX3_run_27 (by decide) rfl (fun hc => ?_) (fun hc => ?_)
      · replace h := h.1 hc
        refine R.aload_n 35 dX3_run_34 rfl rfl ?_
        refine gf_90 38 dX3_run_35 rfl rfl ?_
        refine R.aload_n 39 dX3_run_38 rfl rfl ?_
        refine gf_91 42 dX3_run_39 rfl rfl ?_
        refine Rch.calls (sd_X3_copy _ _ _ _ h) dX3_run_42 (lw_S q1728 q1729 q146 q1730) dk_X3_copy (by decide) (Nat.le_of_ble_eq_true rfl) rfl rfl (Nat.le_of_ble_eq_true rfl) (kV 45 rfl fun w7 h => ?_) kN
        refine R.iconst 46 dX3_run_45 rfl ?_
        refine R.ist3n 47 dX3_run_46 rfl (Nat.le_of_ble_eq_true rfl) rfl ?_
        refine R.iconst 48 dX3_run_47 rfl ?_
        refine R.ist4 50 dX3_run_48 rfl (Nat.le_of_ble_eq_true rfl) rfl ?_
        obtain ⟨n8, h⟩ := h
        exact Rch.dropk (sl_X3_run_50 Q _ _ n8 _ _ _ h) ⟨rfl, ⟨rfl, ⟨rfl, ⟨rfl, ⟨rfl, trivial⟩⟩⟩⟩⟩
      · replace h := h.2 hc
        refine R.ldcw (n := (-1000000)) 33 dX3_run_30 rfl q1723 (by decide +kernel) ?_
        exact R.retI dX3_run_33 rfl h

abbrev k_X3_perform : MK := ("FrostBoxModel", cX3_perform, 6, (some .int), [], "perform")
def wl_X3_perform_65 (Q : Int32 → Wd → Prop) (R24 : Int32 → Wd → Prop) (l1 : Int32) (l2 : Int32) (l3 : Int32) (R65 : Int32 → Wd → Prop) (l4 : Int32) (w : Wd) : Prop := wp_X3_timesOf l3 w (fun r1 w2 => (r1 ≤ l4 → R24 (l2 + iz 1) w2) ∧ (¬ r1 ≤ l4 → wp_X3_remember w2 (fun w4 => wp_X3_steps 90 l3 w4 (fun r5 w6 => R65 (l4 + iz 1) w6))))
def lp_X3_perform_65 (Q : Int32 → Wd → Prop) (R24 : Int32 → Wd → Prop) (l1 : Int32) (l2 : Int32) (l3 : Int32) : Nat → Int32 → Wd → Prop
  | 0, _, _ => False
  | n + 1, l4, w => wl_X3_perform_65 Q R24 l1 l2 l3 (lp_X3_perform_65 Q R24 l1 l2 l3 n) l4 w
def wl_X3_perform_24 (Q : Int32 → Wd → Prop) (l1 : Int32) (R24 : Int32 → Wd → Prop) (l2 : Int32) (w : Wd) : Prop := inb l1 5 ∧ ((gA w 84 l1.toInt) ≤ l2 → Q l2 w) ∧ (¬ (gA w 84 l1.toInt) ≤ l2 → wp_X3_canStep 90 ((iz 4) * (((iz 16) * l1) + l2)) w (fun r1 w2 => (r1 = iz 0 → Q l2 w2) ∧ (¬ r1 = iz 0 → ∃ n3, lp_X3_perform_65 Q R24 l1 l2 ((iz 4) * (((iz 16) * l1) + l2)) n3 (iz 0) w2)))
def lp_X3_perform_24 (Q : Int32 → Wd → Prop) (l1 : Int32) : Nat → Int32 → Wd → Prop
  | 0, _, _ => False
  | n + 1, l2, w => wl_X3_perform_24 Q l1 (lp_X3_perform_24 Q l1 n) l2 w
def wp_X3_perform (l1 : Int32) (w : Wd) (Q : Int32 → Wd → Prop) : Prop := ∀ w1, w1 = sI w 60 (iz 0) → wp_X3_isPlan l1 w1 (fun r2 w3 => (r2 = iz 0 → Q (iz (-1)) w3) ∧ (¬ r2 = iz 0 → (¬ (gI w3 85) = iz 0 → ∃ n4, lp_X3_perform_24 Q l1 n4 (iz 0) w3) ∧ ((gI w3 85) = iz 0 → Q (iz (-1)) w3)))
set_option maxRecDepth 100000 in
set_option maxHeartbeats 4000000 in
theorem sl_X3_perform_65 {γ : GG} (Q : Int32 → Wd → Prop) (R24 : Int32 → Wd → Prop) (l1 : Int32) (l2 : Int32) (l3 : Int32) (hR24 : ∀ (l2 : Int32) (w : Wd), R24 l2 w → Rch γ 77 k_X3_perform 24 [some (.ref 2), some (.int l1), some (.int l2), none, none, none] [] w (qI Q) xN) : ∀ (n : Nat) (l4 : Int32) (w : Wd), lp_X3_perform_65 Q R24 l1 l2 l3 n l4 w → Rch γ 77 k_X3_perform 65 [some (.ref 2), some (.int l1), some (.int l2), some (.int l3), some (.int l4), none] [] w (qI Q) xN := by
  intro n
  induction n with
  | zero => intro _ _ h; exact h.elim
  | succ n hR65 =>
    intro l4 w h
    have h : wl_X3_perform_65 Q R24 l1 l2 l3 (lp_X3_perform_65 Q R24 l1 l2 l3 n) l4 w := h
    unfold wl_X3_perform_65 at h
    refine R.iload 67 dX3_perform_65 rfl rfl ?_
    refine R.aload_n 68 dX3_perform_67 rfl rfl ?_
    refine R.iload_n 69 dX3_perform_68 rfl rfl ?_
    refine Rch.callv (sd_X3_timesOf _ _ _ h) dX3_perform_69 (lw_V q1735 q1737 qs125 q146 q1738) dk_X3_timesOf rcM (by decide) (Nat.le_of_ble_eq_true rfl) rfl rfl (Nat.le_of_ble_eq_true rfl) (kI 72 rfl fun r1 w2 h => ?_) kN
    refine R.icmp_ge 96 75 dX3_perform_72 (by decide) rfl (fun hc => ?_) (fun hc => ?_)
    · replace h := h.1 hc
      refine R.inc2 99 dX3_perform_96 rfl (Nat.le_of_ble_eq_true rfl) rfl ?_
      refine R.goto 24 dX3_perform_99 (by decide) ?_
      exact Rch.dropk (hR24 _ _ h) ⟨rfl, ⟨rfl, ⟨rfl, trivial⟩⟩⟩
    · replace h := h.2 hc
      refine R.aload_n 76 dX3_perform_75 rfl rfl ?_
      refine Rch.callv (sd_X3_remember _ _ h) dX3_perform_76 (lw_V q1639 q1641 qs114 q146 q1642) dk_X3_remember rcM (by decide) (Nat.le_of_ble_eq_true rfl) rfl rfl (Nat.le_of_ble_eq_true rfl) (kV 79 rfl fun w4 h => ?_) kN
      refine R.aload_n 80 dX3_perform_79 rfl rfl ?_
      refine R.aload_n 81 dX3_perform_80 rfl rfl ?_
      refine gf_90 84 dX3_perform_81 rfl rfl ?_
      refine R.iload_n 85 dX3_perform_84 rfl rfl ?_
      refine Rch.callv (sd_X3_steps _ _ _ _ h) dX3_perform_85 (lw_V q1739 q1741 qs126 q146 q1742) dk_X3_steps rcM (by decide) (Nat.le_of_ble_eq_true rfl) rfl rfl (Nat.le_of_ble_eq_true rfl) (kI 88 rfl fun r5 w6 h => ?_) kN
      refine R.ist5 90 dX3_perform_88 rfl (Nat.le_of_ble_eq_true rfl) rfl ?_
      refine R.inc4 93 dX3_perform_90 rfl (Nat.le_of_ble_eq_true rfl) rfl ?_
      refine R.goto 65 dX3_perform_93 (by decide) ?_
      exact Rch.dropk (hR65 _ _ h) ⟨rfl, ⟨rfl, ⟨rfl, ⟨rfl, ⟨rfl, trivial⟩⟩⟩⟩⟩
set_option maxRecDepth 100000 in
set_option maxHeartbeats 4000000 in
theorem sl_X3_perform_24 {γ : GG} (Q : Int32 → Wd → Prop) (l1 : Int32) : ∀ (n : Nat) (l2 : Int32) (w : Wd), lp_X3_perform_24 Q l1 n l2 w → Rch γ 77 k_X3_perform 24 [some (.ref 2), some (.int l1), some (.int l2), none, none, none] [] w (qI Q) xN := by
  intro n
  induction n with
  | zero => intro _ _ h; exact h.elim
  | succ n hR24 =>
    intro l2 w h
    have h : wl_X3_perform_24 Q l1 (lp_X3_perform_24 Q l1 n) l2 w := h
    unfold wl_X3_perform_24 at h
    refine R.iload_n 25 dX3_perform_24 rfl rfl ?_
    refine R.aload_n 26 dX3_perform_25 rfl rfl ?_
    refine gf_84 29 dX3_perform_26 rfl rfl ?_
    refine R.iload_n 30 dX3_perform_29 rfl rfl ?_
    obtain ⟨hb, h⟩ := h
    refine R.iald ar_84 31 dX3_perform_30 rfl hb ?_
    refine R.icmp_ge 102 34 dX3_perform_31 (by decide) rfl (fun hc => ?_) (fun hc => ?_)
    · replace h := h.1 hc
      refine R.iload_n 103 dX3_perform_102 rfl rfl ?_
      exact R.retI dX3_perform_103 rfl h
    · replace h := h.2 hc
      refine R.aload_n 35 dX3_perform_34 rfl rfl ?_
      refine R.aload_n 36 dX3_perform_35 rfl rfl ?_
      refine gf_90 39 dX3_perform_36 rfl rfl ?_
      refine R.iconst 40 dX3_perform_39 rfl ?_
      refine R.bipush 42 dX3_perform_40 rfl (by decide +kernel) ?_
      refine R.iload_n 43 dX3_perform_42 rfl rfl ?_
      refine R.imul 44 dX3_perform_43 rfl ?_
      refine R.iload_n 45 dX3_perform_44 rfl rfl ?_
      refine R.iadd 46 dX3_perform_45 rfl ?_
      refine R.imul 47 dX3_perform_46 rfl ?_
      refine Rch.callv (sd_X3_canStep _ _ _ _ h) dX3_perform_47 (lw_V q1731 q1733 qs124 q146 q1734) dk_X3_canStep rcM (by decide) (Nat.le_of_ble_eq_true rfl) rfl rfl (Nat.le_of_ble_eq_true rfl) (kI 50 rfl fun r1 w2 h => ?_) kN
      refine R.if_eq 102 53 dX3_perform_50 (by decide) rfl (fun hc => ?_) (fun hc => ?_)
      · replace h := h.1 hc
        refine R.iload_n 103 dX3_perform_102 rfl rfl ?_
        exact R.retI dX3_perform_103 rfl h
      · replace h := h.2 hc
        refine R.iconst 54 dX3_perform_53 rfl ?_
        refine R.bipush 56 dX3_perform_54 rfl (by decide +kernel) ?_
        refine R.iload_n 57 dX3_perform_56 rfl rfl ?_
        refine R.imul 58 dX3_perform_57 rfl ?_
        refine R.iload_n 59 dX3_perform_58 rfl rfl ?_
        refine R.iadd 60 dX3_perform_59 rfl ?_
        refine R.imul 61 dX3_perform_60 rfl ?_
        refine R.ist3n 62 dX3_perform_61 rfl (Nat.le_of_ble_eq_true rfl) rfl ?_
        refine R.iconst 63 dX3_perform_62 rfl ?_
        refine R.ist4 65 dX3_perform_63 rfl (Nat.le_of_ble_eq_true rfl) rfl ?_
        obtain ⟨n3, h⟩ := h
        exact Rch.dropk (sl_X3_perform_65 Q _ _ _ _ hR24 n3 _ _ h) ⟨rfl, ⟨rfl, ⟨rfl, ⟨rfl, ⟨rfl, trivial⟩⟩⟩⟩⟩
set_option maxRecDepth 100000 in
set_option maxHeartbeats 4000000 in
theorem sd_X3_perform {γ : GG} (l1 : Int32) (w : Wd) (Q : Int32 → Wd → Prop) : wp_X3_perform l1 w Q → Ctr γ 77 yX3_perform (ws_ yX3_perform cX3_perform 6 (some .int)) [.ref 2, .int l1] w (qI Q) xN := by
  intro h
  unfold wp_X3_perform at h
  refine Ctr.of (μ := k_X3_perform) (by decide) rfl rfl rfl (Nat.le_of_ble_eq_true rfl) ⟨4, ?_⟩
  have es : lva [.ref 2, .int l1] ++ List.replicate 4 none = [some (.ref 2), some (.int l1), none, none, none, none] := rfl
  rw [es]
  refine R.aload_n 1 dX3_perform_0 rfl rfl ?_
  refine R.iconst 2 dX3_perform_1 rfl ?_
  replace h := h _ rfl
  refine pf_60 _ 5 dX3_perform_2 rfl rfl ?_
  refine R.aload_n 6 dX3_perform_5 rfl rfl ?_
  refine R.iload_n 7 dX3_perform_6 rfl rfl ?_
  refine Rch.callv (sd_X3_isPlan _ _ _ h) dX3_perform_7 (lw_V q1719 q1721 qs123 q146 q1722) dk_X3_isPlan rcM (by decide) (Nat.le_of_ble_eq_true rfl) rfl rfl (Nat.le_of_ble_eq_true rfl) (kI 10 rfl fun r2 w3 h => ?_) kN
  refine R.if_eq 20 13 dX3_perform_10 (by decide) rfl (fun hc => ?_) (fun hc => ?_)
  · replace h := h.1 hc
    refine R.iconst 21 dX3_perform_20 rfl ?_
    exact R.retI dX3_perform_21 rfl h
  · replace h := h.2 hc
    refine R.aload_n 14 dX3_perform_13 rfl rfl ?_
    refine gf_85 17 dX3_perform_14 rfl rfl ?_
    refine R.if_ne 22 20 dX3_perform_17 (by decide) rfl (fun hc => ?_) (fun hc => ?_)
    · replace h := h.1 hc
      refine R.iconst 23 dX3_perform_22 rfl ?_
      refine R.ist2n 24 dX3_perform_23 rfl (Nat.le_of_ble_eq_true rfl) rfl ?_
      obtain ⟨n4, h⟩ := h
      exact Rch.dropk (sl_X3_perform_24 Q _ n4 _ _ h) ⟨rfl, ⟨rfl, ⟨rfl, trivial⟩⟩⟩
    · replace h := h.2 hc
      refine R.iconst 21 dX3_perform_20 rfl ?_
      exact R.retI dX3_perform_21 rfl h

abbrev k_X3_kindIn : MK := ("FrostBoxModel", cX3_kindIn, 2, (some .int), [], "kindIn")
def wp_X3_kindIn (l1 : Int32) (w : Wd) (Q : Int32 → Wd → Prop) : Prop := inb (((iz 5) * l1) + (iz 0)) 283 ∧ Q (gA w 90 (((iz 5) * l1) + (iz 0)).toInt) w
set_option maxRecDepth 100000 in
set_option maxHeartbeats 4000000 in
theorem sd_X3_kindIn {γ : GG} (l1 : Int32) (w : Wd) (Q : Int32 → Wd → Prop) : wp_X3_kindIn l1 w Q → Ctr γ 1 yX3_kindIn (ws_ yX3_kindIn cX3_kindIn 2 (some .int)) [.ref 2, .int l1] w (qI Q) xN := by
  intro h
  unfold wp_X3_kindIn at h
  refine Ctr.of (μ := k_X3_kindIn) (by decide) rfl rfl rfl (Nat.le_of_ble_eq_true rfl) ⟨0, ?_⟩
  have es : lva [.ref 2, .int l1] ++ List.replicate 0 none = [some (.ref 2), some (.int l1)] := rfl
  rw [es]
  refine R.aload_n 1 dX3_kindIn_0 rfl rfl ?_
  refine gf_90 4 dX3_kindIn_1 rfl rfl ?_
  refine R.iconst 5 dX3_kindIn_4 rfl ?_
  refine R.iload_n 6 dX3_kindIn_5 rfl rfl ?_
  refine R.imul 7 dX3_kindIn_6 rfl ?_
  refine R.iconst 8 dX3_kindIn_7 rfl ?_
  refine R.iadd 9 dX3_kindIn_8 rfl ?_
  obtain ⟨hb, h⟩ := h
  refine R.iald ar_90 10 dX3_kindIn_9 rfl hb ?_
  exact R.retI dX3_kindIn_10 rfl h

abbrev k_X3_fit : MK := ("FrostBoxModel", cX3_fit, 3, (some .boolean), [], "fit")
def wp_X3_fit (l1 : Int32) (l2 : Int32) (w : Wd) (Q : Int32 → Wd → Prop) : Prop := (l1 = l2 → Q (iz 1) w) ∧ (¬ l1 = l2 → wp_X3_told l1 (iz 4) w (fun r1 w2 => (r1 = l2 → Q (iz 1) w2) ∧ (¬ r1 = l2 → wp_X3_told l2 (iz 4) w2 (fun r3 w4 => (¬ r3 = l1 → Q (iz 0) w4) ∧ (r3 = l1 → Q (iz 1) w4)))))
set_option maxRecDepth 100000 in
set_option maxHeartbeats 4000000 in
theorem sd_X3_fit {γ : GG} (l1 : Int32) (l2 : Int32) (w : Wd) (Q : Int32 → Wd → Prop) : wp_X3_fit l1 l2 w Q → Ctr γ 2 yX3_fit (ws_ yX3_fit cX3_fit 3 (some .boolean)) [.ref 2, .int l1, .int l2] w (qI Q) xN := by
  intro h
  unfold wp_X3_fit at h
  refine Ctr.of (μ := k_X3_fit) (by decide) rfl rfl rfl (Nat.le_of_ble_eq_true rfl) ⟨0, ?_⟩
  have es : lva [.ref 2, .int l1, .int l2] ++ List.replicate 0 none = [some (.ref 2), some (.int l1), some (.int l2)] := rfl
  rw [es]
  refine R.iload_n 1 dX3_fit_0 rfl rfl ?_
  refine R.iload_n 2 dX3_fit_1 rfl rfl ?_
  refine R.icmp_eq 25 5 dX3_fit_2 (by decide) rfl (fun hc => ?_) (fun hc => ?_)
  · replace h := h.1 hc
    refine R.iconst 26 dX3_fit_25 rfl ?_
    refine R.goto 30 dX3_fit_26 (by decide) ?_
    exact R.retZ dX3_fit_30 rfl zok1 h
  · replace h := h.2 hc
    refine R.aload_n 6 dX3_fit_5 rfl rfl ?_
    refine R.iload_n 7 dX3_fit_6 rfl rfl ?_
    refine R.iconst 8 dX3_fit_7 rfl ?_
    refine Rch.callv (sd_X3_told _ _ _ _ h) dX3_fit_8 (lw_V q1578 q1580 qs105 q146 q1581) dk_X3_told rcM (by decide) (Nat.le_of_ble_eq_true rfl) rfl rfl (Nat.le_of_ble_eq_true rfl) (kI 11 rfl fun r1 w2 h => ?_) kN
    refine R.iload_n 12 dX3_fit_11 rfl rfl ?_
    refine R.icmp_eq 25 15 dX3_fit_12 (by decide) rfl (fun hc => ?_) (fun hc => ?_)
    · replace h := h.1 hc
      refine R.iconst 26 dX3_fit_25 rfl ?_
      refine R.goto 30 dX3_fit_26 (by decide) ?_
      exact R.retZ dX3_fit_30 rfl zok1 h
    · replace h := h.2 hc
      refine R.aload_n 16 dX3_fit_15 rfl rfl ?_
      refine R.iload_n 17 dX3_fit_16 rfl rfl ?_
      refine R.iconst 18 dX3_fit_17 rfl ?_
      refine Rch.callv (sd_X3_told _ _ _ _ h) dX3_fit_18 (lw_V q1578 q1580 qs105 q146 q1581) dk_X3_told rcM (by decide) (Nat.le_of_ble_eq_true rfl) rfl rfl (Nat.le_of_ble_eq_true rfl) (kI 21 rfl fun r3 w4 h => ?_) kN
      refine R.iload_n 22 dX3_fit_21 rfl rfl ?_
      refine R.icmp_ne 29 25 dX3_fit_22 (by decide) rfl (fun hc => ?_) (fun hc => ?_)
      · replace h := h.1 hc
        refine R.iconst 30 dX3_fit_29 rfl ?_
        exact R.retZ dX3_fit_30 rfl zok0 h
      · replace h := h.2 hc
        refine R.iconst 26 dX3_fit_25 rfl ?_
        refine R.goto 30 dX3_fit_26 (by decide) ?_
        exact R.retZ dX3_fit_30 rfl zok1 h

abbrev k_X3_isDinner : MK := ("FrostBoxModel", cX3_isDinner, 4, (some .boolean), [], "isDinner")
def wl_X3_isDinner_15 (Q : Int32 → Wd → Prop) (R2 : Int32 → Wd → Prop) (l1 : Int32) (l2 : Int32) (R15 : Int32 → Wd → Prop) (l3 : Int32) (w : Wd) : Prop := (l2 ≤ l3 → R2 (l2 + iz 1) w) ∧ (¬ l2 ≤ l3 → wp_X3_has l1 l2 w (fun r1 w2 => (r1 = iz 0 → R15 (l3 + iz 1) w2) ∧ (¬ r1 = iz 0 → wp_X3_has l1 l3 w2 (fun r3 w4 => (r3 = iz 0 → R15 (l3 + iz 1) w4) ∧ (¬ r3 = iz 0 → wp_X3_kindIn l2 w4 (fun r5 w6 => wp_X3_kindIn l3 w6 (fun r7 w8 => wp_X3_fit r5 r7 w8 (fun r9 w10 => (¬ r9 = iz 0 → R15 (l3 + iz 1) w10) ∧ (r9 = iz 0 → Q (iz 0) w10)))))))))
def lp_X3_isDinner_15 (Q : Int32 → Wd → Prop) (R2 : Int32 → Wd → Prop) (l1 : Int32) (l2 : Int32) : Nat → Int32 → Wd → Prop
  | 0, _, _ => False
  | n + 1, l3, w => wl_X3_isDinner_15 Q R2 l1 l2 (lp_X3_isDinner_15 Q R2 l1 l2 n) l3 w
def wl_X3_isDinner_2 (Q : Int32 → Wd → Prop) (l1 : Int32) (R2 : Int32 → Wd → Prop) (l2 : Int32) (w : Wd) : Prop := inb (iz 40) 283 ∧ ((gA w 90 (iz 40).toInt) ≤ l2 → Q (iz 1) w) ∧ (¬ (gA w 90 (iz 40).toInt) ≤ l2 → ∃ n1, lp_X3_isDinner_15 Q R2 l1 l2 n1 (iz 0) w)
def lp_X3_isDinner_2 (Q : Int32 → Wd → Prop) (l1 : Int32) : Nat → Int32 → Wd → Prop
  | 0, _, _ => False
  | n + 1, l2, w => wl_X3_isDinner_2 Q l1 (lp_X3_isDinner_2 Q l1 n) l2 w
def wp_X3_isDinner (l1 : Int32) (w : Wd) (Q : Int32 → Wd → Prop) : Prop := ∃ n1, lp_X3_isDinner_2 Q l1 n1 (iz 0) w
set_option maxRecDepth 100000 in
set_option maxHeartbeats 4000000 in
theorem sl_X3_isDinner_15 {γ : GG} (Q : Int32 → Wd → Prop) (R2 : Int32 → Wd → Prop) (l1 : Int32) (l2 : Int32) (hR2 : ∀ (l2 : Int32) (w : Wd), R2 l2 w → Rch γ 3 k_X3_isDinner 2 [some (.ref 2), some (.int l1), some (.int l2), none] [] w (qI Q) xN) : ∀ (n : Nat) (l3 : Int32) (w : Wd), lp_X3_isDinner_15 Q R2 l1 l2 n l3 w → Rch γ 3 k_X3_isDinner 15 [some (.ref 2), some (.int l1), some (.int l2), some (.int l3)] [] w (qI Q) xN := by
  intro n
  induction n with
  | zero => intro _ _ h; exact h.elim
  | succ n hR15 =>
    intro l3 w h
    have h : wl_X3_isDinner_15 Q R2 l1 l2 (lp_X3_isDinner_15 Q R2 l1 l2 n) l3 w := h
    unfold wl_X3_isDinner_15 at h
    refine R.iload_n 16 dX3_isDinner_15 rfl rfl ?_
    refine R.iload_n 17 dX3_isDinner_16 rfl rfl ?_
    refine R.icmp_ge 61 20 dX3_isDinner_17 (by decide) rfl (fun hc => ?_) (fun hc => ?_)
    · replace h := h.1 hc
      refine R.inc2 64 dX3_isDinner_61 rfl (Nat.le_of_ble_eq_true rfl) rfl ?_
      refine R.goto 2 dX3_isDinner_64 (by decide) ?_
      exact Rch.dropk (hR2 _ _ h) ⟨rfl, ⟨rfl, ⟨rfl, trivial⟩⟩⟩
    · replace h := h.2 hc
      refine R.iload_n 21 dX3_isDinner_20 rfl rfl ?_
      refine R.iload_n 22 dX3_isDinner_21 rfl rfl ?_
      refine Rch.calls (sd_X3_has _ _ _ _ h) dX3_isDinner_22 (lw_S q1462 q1463 q146 q1464) dk_X3_has (by decide) (Nat.le_of_ble_eq_true rfl) rfl rfl (Nat.le_of_ble_eq_true rfl) (kI 25 rfl fun r1 w2 h => ?_) kN
      refine R.if_eq 55 28 dX3_isDinner_25 (by decide) rfl (fun hc => ?_) (fun hc => ?_)
      · replace h := h.1 hc
        refine R.inc3 58 dX3_isDinner_55 rfl (Nat.le_of_ble_eq_true rfl) rfl ?_
        refine R.goto 15 dX3_isDinner_58 (by decide) ?_
        exact Rch.dropk (hR15 _ _ h) ⟨rfl, ⟨rfl, ⟨rfl, ⟨rfl, trivial⟩⟩⟩⟩
      · replace h := h.2 hc
        refine R.iload_n 29 dX3_isDinner_28 rfl rfl ?_
        refine R.iload_n 30 dX3_isDinner_29 rfl rfl ?_
        refine Rch.calls (sd_X3_has _ _ _ _ h) dX3_isDinner_30 (lw_S q1462 q1463 q146 q1464) dk_X3_has (by decide) (Nat.le_of_ble_eq_true rfl) rfl rfl (Nat.le_of_ble_eq_true rfl) (kI 33 rfl fun r3 w4 h => ?_) kN
        refine R.if_eq 55 36 dX3_isDinner_33 (by decide) rfl (fun hc => ?_) (fun hc => ?_)
        · replace h := h.1 hc
          refine R.inc3 58 dX3_isDinner_55 rfl (Nat.le_of_ble_eq_true rfl) rfl ?_
          refine R.goto 15 dX3_isDinner_58 (by decide) ?_
          exact Rch.dropk (hR15 _ _ h) ⟨rfl, ⟨rfl, ⟨rfl, ⟨rfl, trivial⟩⟩⟩⟩
        · replace h := h.2 hc
          refine R.aload_n 37 dX3_isDinner_36 rfl rfl ?_
          refine R.aload_n 38 dX3_isDinner_37 rfl rfl ?_
          refine R.iload_n 39 dX3_isDinner_38 rfl rfl ?_
          refine Rch.callv (sd_X3_kindIn _ _ _ h) dX3_isDinner_39 (lw_V q1756 q1758 qs128 q146 q1759) dk_X3_kindIn rcM (by decide) (Nat.le_of_ble_eq_true rfl) rfl rfl (Nat.le_of_ble_eq_true rfl) (kI 42 rfl fun r5 w6 h => ?_) kN
          refine R.aload_n 43 dX3_isDinner_42 rfl rfl ?_
          refine R.iload_n 44 dX3_isDinner_43 rfl rfl ?_
          refine Rch.callv (sd_X3_kindIn _ _ _ h) dX3_isDinner_44 (lw_V q1756 q1758 qs128 q146 q1759) dk_X3_kindIn rcM (by decide) (Nat.le_of_ble_eq_true rfl) rfl rfl (Nat.le_of_ble_eq_true rfl) (kI 47 rfl fun r7 w8 h => ?_) kN
          refine Rch.callv (sd_X3_fit _ _ _ _ h) dX3_isDinner_47 (lw_V q1760 q1762 qs129 q146 q1763) dk_X3_fit rcM (by decide) (Nat.le_of_ble_eq_true rfl) rfl rfl (Nat.le_of_ble_eq_true rfl) (kI 50 rfl fun r9 w10 h => ?_) kN
          refine R.if_ne 55 53 dX3_isDinner_50 (by decide) rfl (fun hc => ?_) (fun hc => ?_)
          · replace h := h.1 hc
            refine R.inc3 58 dX3_isDinner_55 rfl (Nat.le_of_ble_eq_true rfl) rfl ?_
            refine R.goto 15 dX3_isDinner_58 (by decide) ?_
            exact Rch.dropk (hR15 _ _ h) ⟨rfl, ⟨rfl, ⟨rfl, ⟨rfl, trivial⟩⟩⟩⟩
          · replace h := h.2 hc
            refine R.iconst 54 dX3_isDinner_53 rfl ?_
            exact R.retZ dX3_isDinner_54 rfl zok0 h
set_option maxRecDepth 100000 in
set_option maxHeartbeats 4000000 in
theorem sl_X3_isDinner_2 {γ : GG} (Q : Int32 → Wd → Prop) (l1 : Int32) : ∀ (n : Nat) (l2 : Int32) (w : Wd), lp_X3_isDinner_2 Q l1 n l2 w → Rch γ 3 k_X3_isDinner 2 [some (.ref 2), some (.int l1), some (.int l2), none] [] w (qI Q) xN := by
  intro n
  induction n with
  | zero => intro _ _ h; exact h.elim
  | succ n hR2 =>
    intro l2 w h
    have h : wl_X3_isDinner_2 Q l1 (lp_X3_isDinner_2 Q l1 n) l2 w := h
    unfold wl_X3_isDinner_2 at h
    refine R.iload_n 3 dX3_isDinner_2 rfl rfl ?_
    refine R.aload_n 4 dX3_isDinner_3 rfl rfl ?_
    refine gf_90 7 dX3_isDinner_4 rfl rfl ?_
    refine R.bipush 9 dX3_isDinner_7 rfl (by decide +kernel) ?_
    obtain ⟨hb, h⟩ := h
    refine R.iald ar_90 10 dX3_isDinner_9 rfl hb ?_
    refine R.icmp_ge 67 13 dX3_isDinner_10 (by decide) rfl (fun hc => ?_) (fun hc => ?_)
    · replace h := h.1 hc
      refine R.iconst 68 dX3_isDinner_67 rfl ?_
      exact R.retZ dX3_isDinner_68 rfl zok1 h
    · replace h := h.2 hc
      refine R.iconst 14 dX3_isDinner_13 rfl ?_
      refine R.ist3n 15 dX3_isDinner_14 rfl (Nat.le_of_ble_eq_true rfl) rfl ?_
      obtain ⟨n1, h⟩ := h
      exact Rch.dropk (sl_X3_isDinner_15 Q _ _ _ hR2 n1 _ _ h) ⟨rfl, ⟨rfl, ⟨rfl, ⟨rfl, trivial⟩⟩⟩⟩
set_option maxRecDepth 100000 in
set_option maxHeartbeats 4000000 in
theorem sd_X3_isDinner {γ : GG} (l1 : Int32) (w : Wd) (Q : Int32 → Wd → Prop) : wp_X3_isDinner l1 w Q → Ctr γ 3 yX3_isDinner (ws_ yX3_isDinner cX3_isDinner 4 (some .boolean)) [.ref 2, .int l1] w (qI Q) xN := by
  intro h
  unfold wp_X3_isDinner at h
  refine Ctr.of (μ := k_X3_isDinner) (by decide) rfl rfl rfl (Nat.le_of_ble_eq_true rfl) ⟨2, ?_⟩
  have es : lva [.ref 2, .int l1] ++ List.replicate 2 none = [some (.ref 2), some (.int l1), none, none] := rfl
  rw [es]
  refine R.iconst 1 dX3_isDinner_0 rfl ?_
  refine R.ist2n 2 dX3_isDinner_1 rfl (Nat.le_of_ble_eq_true rfl) rfl ?_
  obtain ⟨n1, h⟩ := h
  exact Rch.dropk (sl_X3_isDinner_2 Q _ n1 _ _ h) ⟨rfl, ⟨rfl, ⟨rfl, trivial⟩⟩⟩

abbrev k_X3_dinner : MK := ("FrostBoxModel", cX3_dinner, 10, (some .int), [], "dinner")
def wl_X3_dinner_70 (Q : Int32 → Wd → Prop) (R47 : Int32 → Int32 → Int32 → Int32 → Wd → Prop) (l1 : Int32) (l2 : Int32) (l3 : Int32) (l4 : Int32) (l5 : Int32) (l6 : Int32) (R70 : Int32 → Int32 → Int32 → Wd → Prop) (l7 : Int32) (l8 : Int32) (l9 : Int32) (w : Wd) : Prop := inb (iz 40) 283 ∧ ((gA w 90 (iz 40).toInt) ≤ l9 → (l7 < l1 → R47 l3 l4 l5 (l6 + iz 1) w) ∧ (¬ l7 < l1 → wp_X3_isDinner l6 w (fun r1 w2 => (¬ r1 = iz 0 → (¬ l7 = 0) ∧ (l3 = (iz (-1)) → R47 l6 (((iz 100) * l8) / l7) l7 (l6 + iz 1) w2) ∧ (¬ l3 = (iz (-1)) → ((((iz 100) * l8) / l7) < l4 → R47 l3 l4 l5 (l6 + iz 1) w2) ∧ (¬ (((iz 100) * l8) / l7) < l4 → (¬ (((iz 100) * l8) / l7) = l4 → R47 l6 (((iz 100) * l8) / l7) l7 (l6 + iz 1) w2) ∧ ((((iz 100) * l8) / l7) = l4 → (l7 < l5 → R47 l6 (((iz 100) * l8) / l7) l7 (l6 + iz 1) w2) ∧ (¬ l7 < l5 → R47 l3 l4 l5 (l6 + iz 1) w2))))) ∧ (r1 = iz 0 → R47 l3 l4 l5 (l6 + iz 1) w2)))) ∧ (¬ (gA w 90 (iz 40).toInt) ≤ l9 → wp_X3_has l6 l9 w (fun r3 w4 => (¬ r3 = iz 0 → inb (((iz 5) * l9) + (iz 1)) 283 ∧ wp_X3_valueOf 90 l9 w4 (fun r5 w6 => R70 (l7 + (gA w4 90 (((iz 5) * l9) + (iz 1)).toInt)) (l8 + r5) (l9 + iz 1) w6)) ∧ (r3 = iz 0 → R70 l7 l8 (l9 + iz 1) w4)))
def lp_X3_dinner_70 (Q : Int32 → Wd → Prop) (R47 : Int32 → Int32 → Int32 → Int32 → Wd → Prop) (l1 : Int32) (l2 : Int32) (l3 : Int32) (l4 : Int32) (l5 : Int32) (l6 : Int32) : Nat → Int32 → Int32 → Int32 → Wd → Prop
  | 0, _, _, _, _ => False
  | n + 1, l7, l8, l9, w => wl_X3_dinner_70 Q R47 l1 l2 l3 l4 l5 l6 (lp_X3_dinner_70 Q R47 l1 l2 l3 l4 l5 l6 n) l7 l8 l9 w
def wl_X3_dinner_47 (Q : Int32 → Wd → Prop) (l1 : Int32) (l2 : Int32) (R47 : Int32 → Int32 → Int32 → Int32 → Wd → Prop) (l3 : Int32) (l4 : Int32) (l5 : Int32) (l6 : Int32) (w : Wd) : Prop := inb (iz 40) 283 ∧ (((iz 1) <<< ((gA w 90 (iz 40).toInt) &&& 31)) ≤ l6 → (l3 = (iz (-1)) → Q l3 w) ∧ (¬ l3 = (iz (-1)) → (¬ l2 = iz 0 → Q l4 w) ∧ (l2 = iz 0 → Q l3 w))) ∧ (¬ ((iz 1) <<< ((gA w 90 (iz 40).toInt) &&& 31)) ≤ l6 → ∃ n1, lp_X3_dinner_70 Q R47 l1 l2 l3 l4 l5 l6 n1 (iz 0) (iz 0) (iz 0) w)
def lp_X3_dinner_47 (Q : Int32 → Wd → Prop) (l1 : Int32) (l2 : Int32) : Nat → Int32 → Int32 → Int32 → Int32 → Wd → Prop
  | 0, _, _, _, _, _ => False
  | n + 1, l3, l4, l5, l6, w => wl_X3_dinner_47 Q l1 l2 (lp_X3_dinner_47 Q l1 l2 n) l3 l4 l5 l6 w
def wp_X3_dinner (l1 : Int32) (l2 : Int32) (w : Wd) (Q : Int32 → Wd → Prop) : Prop := ∀ w1, w1 = sI w 60 (iz 0) → ((gI w1 85) = iz 0 → Q (iz (-1)) w1) ∧ (¬ (gI w1 85) = iz 0 → wp_X3_isIn ((l1).toInt64) (lz 1) (lz 30) w1 (fun r2 w3 => (r2 = iz 0 → Q (iz (-1)) w3) ∧ (¬ r2 = iz 0 → wp_X3_isIn ((l2).toInt64) (lz 0) (lz 1) w3 (fun r4 w5 => (¬ r4 = iz 0 → ∃ n6, lp_X3_dinner_47 Q l1 l2 n6 (iz (-1)) (iz 0) (iz 0) (iz 1) w5) ∧ (r4 = iz 0 → Q (iz (-1)) w5)))))
set_option maxRecDepth 100000 in
set_option maxHeartbeats 4000000 in
theorem sl_X3_dinner_70 {γ : GG} (Q : Int32 → Wd → Prop) (R47 : Int32 → Int32 → Int32 → Int32 → Wd → Prop) (l1 : Int32) (l2 : Int32) (l3 : Int32) (l4 : Int32) (l5 : Int32) (l6 : Int32) (hR47 : ∀ (l3 : Int32) (l4 : Int32) (l5 : Int32) (l6 : Int32) (w : Wd), R47 l3 l4 l5 l6 w → Rch γ 75 k_X3_dinner 47 [some (.ref 2), some (.int l1), some (.int l2), some (.int l3), some (.int l4), some (.int l5), some (.int l6), none, none, none] [] w (qI Q) xN) : ∀ (n : Nat) (l7 : Int32) (l8 : Int32) (l9 : Int32) (w : Wd), lp_X3_dinner_70 Q R47 l1 l2 l3 l4 l5 l6 n l7 l8 l9 w → Rch γ 75 k_X3_dinner 70 [some (.ref 2), some (.int l1), some (.int l2), some (.int l3), some (.int l4), some (.int l5), some (.int l6), some (.int l7), some (.int l8), some (.int l9)] [] w (qI Q) xN := by
  intro n
  induction n with
  | zero => intro _ _ _ _ h; exact h.elim
  | succ n hR70 =>
    intro l7 l8 l9 w h
    have h : wl_X3_dinner_70 Q R47 l1 l2 l3 l4 l5 l6 (lp_X3_dinner_70 Q R47 l1 l2 l3 l4 l5 l6 n) l7 l8 l9 w := h
    unfold wl_X3_dinner_70 at h
    refine R.iload 72 dX3_dinner_70 rfl rfl ?_
    refine R.aload_n 73 dX3_dinner_72 rfl rfl ?_
    refine gf_90 76 dX3_dinner_73 rfl rfl ?_
    refine R.bipush 78 dX3_dinner_76 rfl (by decide +kernel) ?_
    obtain ⟨hb, h⟩ := h
    refine R.iald ar_90 79 dX3_dinner_78 rfl hb ?_
    refine R.icmp_ge 132 82 dX3_dinner_79 (by decide) rfl (fun hc => ?_) (fun hc => ?_)
    · replace h := h.1 hc
      refine R.iload 134 dX3_dinner_132 rfl rfl ?_
      refine R.iload_n 135 dX3_dinner_134 rfl rfl ?_
      refine R.icmp_lt 200 138 dX3_dinner_135 (by decide) rfl (fun hc => ?_) (fun hc => ?_)
      · replace h := h.1 hc
        refine R.inc6 203 dX3_dinner_200 rfl (Nat.le_of_ble_eq_true rfl) rfl ?_
        refine R.goto 47 dX3_dinner_203 (by decide) ?_
        exact Rch.dropk (hR47 _ _ _ _ _ h) ⟨rfl, ⟨rfl, ⟨rfl, ⟨rfl, ⟨rfl, ⟨rfl, ⟨rfl, trivial⟩⟩⟩⟩⟩⟩⟩
      · replace h := h.2 hc
        refine R.aload_n 139 dX3_dinner_138 rfl rfl ?_
        refine R.iload 141 dX3_dinner_139 rfl rfl ?_
        refine Rch.callv (sd_X3_isDinner _ _ _ h) dX3_dinner_141 (lw_V q1752 q1754 qs127 q146 q1755) dk_X3_isDinner rcM (by decide) (Nat.le_of_ble_eq_true rfl) rfl rfl (Nat.le_of_ble_eq_true rfl) (kI 144 rfl fun r1 w2 h => ?_) kN
        refine R.if_ne 150 147 dX3_dinner_144 (by decide) rfl (fun hc => ?_) (fun hc => ?_)
        · replace h := h.1 hc
          refine R.bipush 152 dX3_dinner_150 rfl (by decide +kernel) ?_
          refine R.iload 154 dX3_dinner_152 rfl rfl ?_
          refine R.imul 155 dX3_dinner_154 rfl ?_
          refine R.iload 157 dX3_dinner_155 rfl rfl ?_
          obtain ⟨hz, h⟩ := h
          refine R.idiv 158 dX3_dinner_157 rfl hz ?_
          refine R.ist9 160 dX3_dinner_158 rfl (Nat.le_of_ble_eq_true rfl) rfl ?_
          refine R.iload_n 161 dX3_dinner_160 rfl rfl ?_
          refine R.iconst 162 dX3_dinner_161 rfl ?_
          refine R.icmp_eq 189 165 dX3_dinner_162 (by decide) rfl (fun hc => ?_) (fun hc => ?_)
          · replace h := h.1 hc
            refine R.iload 191 dX3_dinner_189 rfl rfl ?_
            refine R.ist3n 192 dX3_dinner_191 rfl (Nat.le_of_ble_eq_true rfl) rfl ?_
            refine R.iload 194 dX3_dinner_192 rfl rfl ?_
            refine R.ist4 196 dX3_dinner_194 rfl (Nat.le_of_ble_eq_true rfl) rfl ?_
            refine R.iload 198 dX3_dinner_196 rfl rfl ?_
            refine R.ist5 200 dX3_dinner_198 rfl (Nat.le_of_ble_eq_true rfl) rfl ?_
            refine R.inc6 203 dX3_dinner_200 rfl (Nat.le_of_ble_eq_true rfl) rfl ?_
            refine R.goto 47 dX3_dinner_203 (by decide) ?_
            exact Rch.dropk (hR47 _ _ _ _ _ h) ⟨rfl, ⟨rfl, ⟨rfl, ⟨rfl, ⟨rfl, ⟨rfl, ⟨rfl, trivial⟩⟩⟩⟩⟩⟩⟩
          · replace h := h.2 hc
            refine R.iload 167 dX3_dinner_165 rfl rfl ?_
            refine R.iload 169 dX3_dinner_167 rfl rfl ?_
            refine R.icmp_lt 200 172 dX3_dinner_169 (by decide) rfl (fun hc => ?_) (fun hc => ?_)
            · replace h := h.1 hc
              refine R.inc6 203 dX3_dinner_200 rfl (Nat.le_of_ble_eq_true rfl) rfl ?_
              refine R.goto 47 dX3_dinner_203 (by decide) ?_
              exact Rch.dropk (hR47 _ _ _ _ _ h) ⟨rfl, ⟨rfl, ⟨rfl, ⟨rfl, ⟨rfl, ⟨rfl, ⟨rfl, trivial⟩⟩⟩⟩⟩⟩⟩
            · replace h := h.2 hc
              refine R.iload 174 dX3_dinner_172 rfl rfl ?_
              refine R.iload 176 dX3_dinner_174 rfl rfl ?_
              refine R.icmp_ne 189 179 dX3_dinner_176 (by decide) rfl (fun hc => ?_) (fun hc => ?_)
              · replace h := h.1 hc
                refine R.iload 191 dX3_dinner_189 rfl rfl ?_
                refine R.ist3n 192 dX3_dinner_191 rfl (Nat.le_of_ble_eq_true rfl) rfl ?_
                refine R.iload 194 dX3_dinner_192 rfl rfl ?_
                refine R.ist4 196 dX3_dinner_194 rfl (Nat.le_of_ble_eq_true rfl) rfl ?_
                refine R.iload 198 dX3_dinner_196 rfl rfl ?_
                refine R.ist5 200 dX3_dinner_198 rfl (Nat.le_of_ble_eq_true rfl) rfl ?_
                refine R.inc6 203 dX3_dinner_200 rfl (Nat.le_of_ble_eq_true rfl) rfl ?_
                refine R.goto 47 dX3_dinner_203 (by decide) ?_
                exact Rch.dropk (hR47 _ _ _ _ _ h) ⟨rfl, ⟨rfl, ⟨rfl, ⟨rfl, ⟨rfl, ⟨rfl, ⟨rfl, trivial⟩⟩⟩⟩⟩⟩⟩
              · replace h := h.2 hc
                refine R.iload 181 dX3_dinner_179 rfl rfl ?_
                refine R.iload 183 dX3_dinner_181 rfl rfl ?_
                refine R.icmp_lt 189 186 dX3_dinner_183 (by decide) rfl (fun hc => ?_) (fun hc => ?_)
                · replace h := h.1 hc
                  refine R.iload 191 dX3_dinner_189 rfl rfl ?_
                  refine R.ist3n 192 dX3_dinner_191 rfl (Nat.le_of_ble_eq_true rfl) rfl ?_
                  refine R.iload 194 dX3_dinner_192 rfl rfl ?_
                  refine R.ist4 196 dX3_dinner_194 rfl (Nat.le_of_ble_eq_true rfl) rfl ?_
                  refine R.iload 198 dX3_dinner_196 rfl rfl ?_
                  refine R.ist5 200 dX3_dinner_198 rfl (Nat.le_of_ble_eq_true rfl) rfl ?_
                  refine R.inc6 203 dX3_dinner_200 rfl (Nat.le_of_ble_eq_true rfl) rfl ?_
                  refine R.goto 47 dX3_dinner_203 (by decide) ?_
                  exact Rch.dropk (hR47 _ _ _ _ _ h) ⟨rfl, ⟨rfl, ⟨rfl, ⟨rfl, ⟨rfl, ⟨rfl, ⟨rfl, trivial⟩⟩⟩⟩⟩⟩⟩
                · replace h := h.2 hc
                  refine R.goto 200 dX3_dinner_186 (by decide) ?_
                  refine R.inc6 203 dX3_dinner_200 rfl (Nat.le_of_ble_eq_true rfl) rfl ?_
                  refine R.goto 47 dX3_dinner_203 (by decide) ?_
                  exact Rch.dropk (hR47 _ _ _ _ _ h) ⟨rfl, ⟨rfl, ⟨rfl, ⟨rfl, ⟨rfl, ⟨rfl, ⟨rfl, trivial⟩⟩⟩⟩⟩⟩⟩
        · replace h := h.2 hc
          refine R.goto 200 dX3_dinner_147 (by decide) ?_
          refine R.inc6 203 dX3_dinner_200 rfl (Nat.le_of_ble_eq_true rfl) rfl ?_
          refine R.goto 47 dX3_dinner_203 (by decide) ?_
          exact Rch.dropk (hR47 _ _ _ _ _ h) ⟨rfl, ⟨rfl, ⟨rfl, ⟨rfl, ⟨rfl, ⟨rfl, ⟨rfl, trivial⟩⟩⟩⟩⟩⟩⟩
    · replace h := h.2 hc
      refine R.iload 84 dX3_dinner_82 rfl rfl ?_
      refine R.iload 86 dX3_dinner_84 rfl rfl ?_
      refine Rch.calls (sd_X3_has _ _ _ _ h) dX3_dinner_86 (lw_S q1462 q1463 q146 q1464) dk_X3_has (by decide) (Nat.le_of_ble_eq_true rfl) rfl rfl (Nat.le_of_ble_eq_true rfl) (kI 89 rfl fun r3 w4 h => ?_) kN
      refine R.if_ne 95 92 dX3_dinner_89 (by decide) rfl (fun hc => ?_) (fun hc => ?_)
      · replace h := h.1 hc
        refine R.iload 97 dX3_dinner_95 rfl rfl ?_
        refine R.aload_n 98 dX3_dinner_97 rfl rfl ?_
        refine gf_90 101 dX3_dinner_98 rfl rfl ?_
        refine R.iconst 102 dX3_dinner_101 rfl ?_
        refine R.iload 104 dX3_dinner_102 rfl rfl ?_
        refine R.imul 105 dX3_dinner_104 rfl ?_
        refine R.iconst 106 dX3_dinner_105 rfl ?_
        refine R.iadd 107 dX3_dinner_106 rfl ?_
        obtain ⟨hb, h⟩ := h
        refine R.iald ar_90 108 dX3_dinner_107 rfl hb ?_
        refine R.iadd 109 dX3_dinner_108 rfl ?_
        refine R.ist7 111 dX3_dinner_109 rfl (Nat.le_of_ble_eq_true rfl) rfl ?_
        refine R.iload 113 dX3_dinner_111 rfl rfl ?_
        refine R.aload_n 114 dX3_dinner_113 rfl rfl ?_
        refine R.aload_n 115 dX3_dinner_114 rfl rfl ?_
        refine gf_90 118 dX3_dinner_115 rfl rfl ?_
        refine R.iload 120 dX3_dinner_118 rfl rfl ?_
        refine Rch.callv (sd_X3_valueOf _ _ _ _ h) dX3_dinner_120 (lw_V q1591 q1593 qs107 q146 q1594) dk_X3_valueOf rcM (by decide) (Nat.le_of_ble_eq_true rfl) rfl rfl (Nat.le_of_ble_eq_true rfl) (kI 123 rfl fun r5 w6 h => ?_) kN
        refine R.iadd 124 dX3_dinner_123 rfl ?_
        refine R.ist8 126 dX3_dinner_124 rfl (Nat.le_of_ble_eq_true rfl) rfl ?_
        refine R.inc9 129 dX3_dinner_126 rfl (Nat.le_of_ble_eq_true rfl) rfl ?_
        refine R.goto 70 dX3_dinner_129 (by decide) ?_
        exact Rch.dropk (hR70 _ _ _ _ h) ⟨rfl, ⟨rfl, ⟨rfl, ⟨rfl, ⟨rfl, ⟨rfl, ⟨rfl, ⟨rfl, ⟨rfl, ⟨rfl, trivial⟩⟩⟩⟩⟩⟩⟩⟩⟩⟩
      · replace h := h.2 hc
        refine R.goto 126 dX3_dinner_92 (by decide) ?_
        refine R.inc9 129 dX3_dinner_126 rfl (Nat.le_of_ble_eq_true rfl) rfl ?_
        refine R.goto 70 dX3_dinner_129 (by decide) ?_
        exact Rch.dropk (hR70 _ _ _ _ h) ⟨rfl, ⟨rfl, ⟨rfl, ⟨rfl, ⟨rfl, ⟨rfl, ⟨rfl, ⟨rfl, ⟨rfl, ⟨rfl, trivial⟩⟩⟩⟩⟩⟩⟩⟩⟩⟩
set_option maxRecDepth 100000 in
set_option maxHeartbeats 4000000 in
theorem sl_X3_dinner_47 {γ : GG} (Q : Int32 → Wd → Prop) (l1 : Int32) (l2 : Int32) : ∀ (n : Nat) (l3 : Int32) (l4 : Int32) (l5 : Int32) (l6 : Int32) (w : Wd), lp_X3_dinner_47 Q l1 l2 n l3 l4 l5 l6 w → Rch γ 75 k_X3_dinner 47 [some (.ref 2), some (.int l1), some (.int l2), some (.int l3), some (.int l4), some (.int l5), some (.int l6), none, none, none] [] w (qI Q) xN := by
  intro n
  induction n with
  | zero => intro _ _ _ _ _ h; exact h.elim
  | succ n hR47 =>
    intro l3 l4 l5 l6 w h
    have h : wl_X3_dinner_47 Q l1 l2 (lp_X3_dinner_47 Q l1 l2 n) l3 l4 l5 l6 w := h
    unfold wl_X3_dinner_47 at h
    refine R.iload 49 dX3_dinner_47 rfl rfl ?_
    refine R.iconst 50 dX3_dinner_49 rfl ?_
    refine R.aload_n 51 dX3_dinner_50 rfl rfl ?_
    refine gf_90 54 dX3_dinner_51 rfl rfl ?_
    refine R.bipush 56 dX3_dinner_54 rfl (by decide +kernel) ?_
    obtain ⟨hb, h⟩ := h
    refine R.iald ar_90 57 dX3_dinner_56 rfl hb ?_
    refine R.ishl 58 dX3_dinner_57 rfl ?_
    refine R.icmp_ge 206 61 dX3_dinner_58 (by decide) rfl (fun hc => ?_) (fun hc => ?_)
    · replace h := h.1 hc
      refine R.iload_n 207 dX3_dinner_206 rfl rfl ?_
      refine R.iconst 208 dX3_dinner_207 rfl ?_
      refine R.icmp_eq 215 211 dX3_dinner_208 (by decide) rfl (fun hc => ?_) (fun hc => ?_)
      · replace h := h.1 hc
        refine R.iload_n 216 dX3_dinner_215 rfl rfl ?_
        refine R.goto 221 dX3_dinner_216 (by decide) ?_
        exact R.retI dX3_dinner_221 rfl h
      · replace h := h.2 hc
        refine R.iload_n 212 dX3_dinner_211 rfl rfl ?_
        refine R.if_ne 219 215 dX3_dinner_212 (by decide) rfl (fun hc => ?_) (fun hc => ?_)
        · replace h := h.1 hc
          refine R.iload 221 dX3_dinner_219 rfl rfl ?_
          exact R.retI dX3_dinner_221 rfl h
        · replace h := h.2 hc
          refine R.iload_n 216 dX3_dinner_215 rfl rfl ?_
          refine R.goto 221 dX3_dinner_216 (by decide) ?_
          exact R.retI dX3_dinner_221 rfl h
    · replace h := h.2 hc
      refine R.iconst 62 dX3_dinner_61 rfl ?_
      refine R.ist7 64 dX3_dinner_62 rfl (Nat.le_of_ble_eq_true rfl) rfl ?_
      refine R.iconst 65 dX3_dinner_64 rfl ?_
      refine R.ist8 67 dX3_dinner_65 rfl (Nat.le_of_ble_eq_true rfl) rfl ?_
      refine R.iconst 68 dX3_dinner_67 rfl ?_
      refine R.ist9 70 dX3_dinner_68 rfl (Nat.le_of_ble_eq_true rfl) rfl ?_
      obtain ⟨n1, h⟩ := h
      exact Rch.dropk (sl_X3_dinner_70 Q _ _ _ _ _ _ _ hR47 n1 _ _ _ _ h) ⟨rfl, ⟨rfl, ⟨rfl, ⟨rfl, ⟨rfl, ⟨rfl, ⟨rfl, ⟨rfl, ⟨rfl, ⟨rfl, trivial⟩⟩⟩⟩⟩⟩⟩⟩⟩⟩
set_option maxRecDepth 100000 in
set_option maxHeartbeats 4000000 in
theorem sd_X3_dinner {γ : GG} (l1 : Int32) (l2 : Int32) (w : Wd) (Q : Int32 → Wd → Prop) : wp_X3_dinner l1 l2 w Q → Ctr γ 75 yX3_dinner (ws_ yX3_dinner cX3_dinner 10 (some .int)) [.ref 2, .int l1, .int l2] w (qI Q) xN := by
  intro h
  unfold wp_X3_dinner at h
  refine Ctr.of (μ := k_X3_dinner) (by decide) rfl rfl rfl (Nat.le_of_ble_eq_true rfl) ⟨7, ?_⟩
  have es : lva [.ref 2, .int l1, .int l2] ++ List.replicate 7 none = [some (.ref 2), some (.int l1), some (.int l2), none, none, none, none, none, none, none] := rfl
  rw [es]
  refine R.aload_n 1 dX3_dinner_0 rfl rfl ?_
  refine R.iconst 2 dX3_dinner_1 rfl ?_
  replace h := h _ rfl
  refine pf_60 _ 5 dX3_dinner_2 rfl rfl ?_
  refine R.aload_n 6 dX3_dinner_5 rfl rfl ?_
  refine gf_85 9 dX3_dinner_6 rfl rfl ?_
  refine R.if_eq 34 12 dX3_dinner_9 (by decide) rfl (fun hc => ?_) (fun hc => ?_)
  · replace h := h.1 hc
    refine R.iconst 35 dX3_dinner_34 rfl ?_
    exact R.retI dX3_dinner_35 rfl h
  · replace h := h.2 hc
    refine R.iload_n 13 dX3_dinner_12 rfl rfl ?_
    refine R.i2l 14 dX3_dinner_13 rfl ?_
    refine R.lconst (m0 := 1) 15 dX3_dinner_14 rfl (by decide +kernel) ?_
    refine R.ldc2 (n := 30) 18 dX3_dinner_15 rfl q1751 (by decide +kernel) ?_
    refine Rch.calls (sd_X3_isIn _ _ _ _ _ h) dX3_dinner_18 (lw_S q1426 q1427 q146 q1428) dk_X3_isIn (by decide) (Nat.le_of_ble_eq_true rfl) rfl rfl (Nat.le_of_ble_eq_true rfl) (kI 21 rfl fun r2 w3 h => ?_) kN
    refine R.if_eq 34 24 dX3_dinner_21 (by decide) rfl (fun hc => ?_) (fun hc => ?_)
    · replace h := h.1 hc
      refine R.iconst 35 dX3_dinner_34 rfl ?_
      exact R.retI dX3_dinner_35 rfl h
    · replace h := h.2 hc
      refine R.iload_n 25 dX3_dinner_24 rfl rfl ?_
      refine R.i2l 26 dX3_dinner_25 rfl ?_
      refine R.lconst (m0 := 0) 27 dX3_dinner_26 rfl (by decide +kernel) ?_
      refine R.lconst (m0 := 1) 28 dX3_dinner_27 rfl (by decide +kernel) ?_
      refine Rch.calls (sd_X3_isIn _ _ _ _ _ h) dX3_dinner_28 (lw_S q1426 q1427 q146 q1428) dk_X3_isIn (by decide) (Nat.le_of_ble_eq_true rfl) rfl rfl (Nat.le_of_ble_eq_true rfl) (kI 31 rfl fun r4 w5 h => ?_) kN
      refine R.if_ne 36 34 dX3_dinner_31 (by decide) rfl (fun hc => ?_) (fun hc => ?_)
      · replace h := h.1 hc
        refine R.iconst 37 dX3_dinner_36 rfl ?_
        refine R.ist3n 38 dX3_dinner_37 rfl (Nat.le_of_ble_eq_true rfl) rfl ?_
        refine R.iconst 39 dX3_dinner_38 rfl ?_
        refine R.ist4 41 dX3_dinner_39 rfl (Nat.le_of_ble_eq_true rfl) rfl ?_
        refine R.iconst 42 dX3_dinner_41 rfl ?_
        refine R.ist5 44 dX3_dinner_42 rfl (Nat.le_of_ble_eq_true rfl) rfl ?_
        refine R.iconst 45 dX3_dinner_44 rfl ?_
        refine R.ist6 47 dX3_dinner_45 rfl (Nat.le_of_ble_eq_true rfl) rfl ?_
        obtain ⟨n6, h⟩ := h
        exact Rch.dropk (sl_X3_dinner_47 Q _ _ n6 _ _ _ _ _ h) ⟨rfl, ⟨rfl, ⟨rfl, ⟨rfl, ⟨rfl, ⟨rfl, ⟨rfl, trivial⟩⟩⟩⟩⟩⟩⟩
      · replace h := h.2 hc
        refine R.iconst 35 dX3_dinner_34 rfl ?_
        exact R.retI dX3_dinner_35 rfl h
