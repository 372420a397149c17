set_option maxRecDepth 100000

abbrev k_X1_byteOf : MK := ("FrostBox", cX1_byteOf, 7, (some .int), [], "byteOf")
def b_X1_byteOf_45 (Q : Int32 → Wd → Prop) (l5 : Int32) (t0 : Int32) (w : Wd) : Prop := Q ((t0 >>> (((iz 24) - ((iz 8) * (l5 - l5 / (iz 4) * (iz 4)))) &&& 31)) &&& (iz 255)) w
def wp_X1_byteOf (l0 : Int32) (l1 : Int32) (l2 : Int32) (l3 : Int32) (l4 : Int32) (l5 : Int32) (w : Wd) (Q : Int32 → Wd → Prop) : Prop := ((iz 4) ≤ l5 → ((iz 8) ≤ l5 → ((iz 12) ≤ l5 → ((iz 16) ≤ l5 → b_X1_byteOf_45 Q l5 l4 w) ∧ (¬ (iz 16) ≤ l5 → b_X1_byteOf_45 Q l5 l3 w)) ∧ (¬ (iz 12) ≤ l5 → b_X1_byteOf_45 Q l5 l2 w)) ∧ (¬ (iz 8) ≤ l5 → b_X1_byteOf_45 Q l5 l1 w)) ∧ (¬ (iz 4) ≤ l5 → b_X1_byteOf_45 Q l5 l0 w)
set_option maxRecDepth 100000 in
set_option maxHeartbeats 4000000 in
theorem s_X1_byteOf_45 {γ : GG} (Q : Int32 → Wd → Prop) (l5 : Int32) (t0 : Int32) : ∀ (w : Wd), b_X1_byteOf_45 Q l5 t0 w → Rch γ 1 k_X1_byteOf 45 [none, none, none, none, none, some (.int l5), none] [.int t0] w (qI Q) xN := by
  intro w h
  unfold b_X1_byteOf_45 at h
  refine R.ist6 47 dX1_byteOf_45 rfl (Nat.le_of_ble_eq_true rfl) rfl ?_
  refine R.iload 49 dX1_byteOf_47 rfl rfl ?_
  refine R.bipush 51 dX1_byteOf_49 rfl (by decide +kernel) ?_
  refine R.bipush 53 dX1_byteOf_51 rfl (by decide +kernel) ?_
  refine R.iload 55 dX1_byteOf_53 rfl rfl ?_
  refine R.iconst 56 dX1_byteOf_55 rfl ?_
  refine R.irem 57 dX1_byteOf_56 rfl (by decide +kernel) ?_
  refine R.imul 58 dX1_byteOf_57 rfl ?_
  refine R.isub 59 dX1_byteOf_58 rfl ?_
  refine R.ishr 60 dX1_byteOf_59 rfl ?_
  refine R.sipush 63 dX1_byteOf_60 rfl (by decide +kernel) ?_
  refine R.iand 64 dX1_byteOf_63 rfl ?_
  exact R.retI dX1_byteOf_64 rfl h
set_option maxRecDepth 100000 in
set_option maxHeartbeats 4000000 in
theorem sd_X1_byteOf {γ : GG} (l0 : Int32) (l1 : Int32) (l2 : Int32) (l3 : Int32) (l4 : Int32) (l5 : Int32) (w : Wd) (Q : Int32 → Wd → Prop) : wp_X1_byteOf l0 l1 l2 l3 l4 l5 w Q → Ctr γ 1 yX1_byteOf (ws_ yX1_byteOf cX1_byteOf 7 (some .int)) [.int l0, .int l1, .int l2, .int l3, .int l4, .int l5] w (qI Q) xN := by
  intro h
  unfold wp_X1_byteOf at h
  refine Ctr.of (μ := k_X1_byteOf) (by decide) rfl rfl rfl (Nat.le_of_ble_eq_true rfl) ⟨1, ?_⟩
  have es : lva [.int l0, .int l1, .int l2, .int l3, .int l4, .int l5] ++ List.replicate 1 none = [some (.int l0), some (.int l1), some (.int l2), some (.int l3), some (.int l4), some (.int l5), none] := rfl
  rw [es]
  refine R.iload 2 dX1_byteOf_0 rfl rfl ?_
  refine R.iconst 3 dX1_byteOf_2 rfl ?_
  refine R.icmp_ge 10 6 dX1_byteOf_3 (by decide) rfl (fun hc => ?_) (fun hc => ?_)
  · replace h := h.1 hc
    refine R.iload 12 dX1_byteOf_10 rfl rfl ?_
    refine R.bipush 14 dX1_byteOf_12 rfl (by decide +kernel) ?_
    refine R.icmp_ge 21 17 dX1_byteOf_14 (by decide) rfl (fun hc => ?_) (fun hc => ?_)
    · replace h := h.1 hc
      refine R.iload 23 dX1_byteOf_21 rfl rfl ?_
      refine R.bipush 25 dX1_byteOf_23 rfl (by decide +kernel) ?_
      refine R.icmp_ge 32 28 dX1_byteOf_25 (by decide) rfl (fun hc => ?_) (fun hc => ?_)
      · replace h := h.1 hc
        refine R.iload 34 dX1_byteOf_32 rfl rfl ?_
        refine R.bipush 36 dX1_byteOf_34 rfl (by decide +kernel) ?_
        refine R.icmp_ge 43 39 dX1_byteOf_36 (by decide) rfl (fun hc => ?_) (fun hc => ?_)
        · replace h := h.1 hc
          refine R.iload 45 dX1_byteOf_43 rfl rfl ?_
          exact Rch.dropk (s_X1_byteOf_45 Q _ _ _ h) ⟨rfl, trivial⟩
        · replace h := h.2 hc
          refine R.iload_n 40 dX1_byteOf_39 rfl rfl ?_
          refine R.goto 45 dX1_byteOf_40 (by decide) ?_
          exact Rch.dropk (s_X1_byteOf_45 Q _ _ _ h) ⟨rfl, trivial⟩
      · replace h := h.2 hc
        refine R.iload_n 29 dX1_byteOf_28 rfl rfl ?_
        refine R.goto 45 dX1_byteOf_29 (by decide) ?_
        exact Rch.dropk (s_X1_byteOf_45 Q _ _ _ h) ⟨rfl, trivial⟩
    · replace h := h.2 hc
      refine R.iload_n 18 dX1_byteOf_17 rfl rfl ?_
      refine R.goto 45 dX1_byteOf_18 (by decide) ?_
      exact Rch.dropk (s_X1_byteOf_45 Q _ _ _ h) ⟨rfl, trivial⟩
  · replace h := h.2 hc
    refine R.iload_n 7 dX1_byteOf_6 rfl rfl ?_
    refine R.goto 45 dX1_byteOf_7 (by decide) ?_
    exact Rch.dropk (s_X1_byteOf_45 Q _ _ _ h) ⟨rfl, trivial⟩

abbrev k_X1_feed : MK := ("FrostBox", cX1_feed, 9, (some .int), [], "feed")
def wl_X1_feed_55 (Q : Int32 → Wd → Prop) (l1 : Int32) (l2 : Int32) (l3 : Int32) (l4 : Int32) (l5 : Int32) (R55 : Int32 → Wd → Prop) (l7 : Int32) (w : Wd) : Prop := ((iz 20) ≤ l7 → Q (gI w 12) w) ∧ (¬ (iz 20) ≤ l7 → wp_X1_byteOf l1 l2 l3 l4 l5 l7 w (fun r1 w2 => (r1 = iz 0 → R55 (l7 + iz 1) w2) ∧ (¬ r1 = iz 0 → ∀ w3, w3 = sI w2 12 ((gI w2 12) + (iz 1)) → inb (gI w2 12) 240 ∧ (∀ w4, w4 = sA w3 11 (gI w2 12).toInt ((r1).toInt8.toInt32).toInt8.toInt32 → R55 (l7 + iz 1) w4))))
def lp_X1_feed_55 (Q : Int32 → Wd → Prop) (l1 : Int32) (l2 : Int32) (l3 : Int32) (l4 : Int32) (l5 : Int32) : Nat → Int32 → Wd → Prop
  | 0, _, _ => False
  | n + 1, l7, w => wl_X1_feed_55 Q l1 l2 l3 l4 l5 (lp_X1_feed_55 Q l1 l2 l3 l4 l5 n) l7 w
def wl_X1_feed_6 (Q : Int32 → Wd → Prop) (l1 : Int32) (l2 : Int32) (l3 : Int32) (l4 : Int32) (l5 : Int32) (R6 : Int32 → Int32 → Wd → Prop) (l6 : Int32) (l7 : Int32) (w : Wd) : Prop := ((iz 20) ≤ l7 → (((gI w 12) + l6) ≤ (iz 240) → ∃ n1, lp_X1_feed_55 Q l1 l2 l3 l4 l5 n1 (iz 0) w) ∧ (¬ ((gI w 12) + l6) ≤ (iz 240) → Q (iz (-1)) w)) ∧ (¬ (iz 20) ≤ l7 → wp_X1_byteOf l1 l2 l3 l4 l5 l7 w (fun r2 w3 => (r2 = iz 0 → R6 l6 (l7 + iz 1) w3) ∧ (¬ r2 = iz 0 → R6 (l6 + iz 1) (l7 + iz 1) w3)))
def lp_X1_feed_6 (Q : Int32 → Wd → Prop) (l1 : Int32) (l2 : Int32) (l3 : Int32) (l4 : Int32) (l5 : Int32) : Nat → Int32 → Int32 → Wd → Prop
  | 0, _, _, _ => False
  | n + 1, l6, l7, w => wl_X1_feed_6 Q l1 l2 l3 l4 l5 (lp_X1_feed_6 Q l1 l2 l3 l4 l5 n) l6 l7 w
def wp_X1_feed (l1 : Int32) (l2 : Int32) (l3 : Int32) (l4 : Int32) (l5 : Int32) (w : Wd) (Q : Int32 → Wd → Prop) : Prop := ∃ n1, lp_X1_feed_6 Q l1 l2 l3 l4 l5 n1 (iz 0) (iz 0) w
set_option maxRecDepth 100000 in
set_option maxHeartbeats 4000000 in
theorem sl_X1_feed_55 {γ : GG} (Q : Int32 → Wd → Prop) (l1 : Int32) (l2 : Int32) (l3 : Int32) (l4 : Int32) (l5 : Int32) : ∀ (n : Nat) (l7 : Int32) (w : Wd), lp_X1_feed_55 Q l1 l2 l3 l4 l5 n l7 w → Rch γ 2 k_X1_feed 55 [some (.ref 1), some (.int l1), some (.int l2), some (.int l3), some (.int l4), some (.int l5), none, some (.int l7), none] [] w (qI Q) xN := by
  intro n
  induction n with
  | zero => intro _ _ h; exact h.elim
  | succ n hR55 =>
    intro l7 w h
    have h : wl_X1_feed_55 Q l1 l2 l3 l4 l5 (lp_X1_feed_55 Q l1 l2 l3 l4 l5 n) l7 w := h
    unfold wl_X1_feed_55 at h
    refine R.iload 57 dX1_feed_55 rfl rfl ?_
    refine R.bipush 59 dX1_feed_57 rfl (by decide +kernel) ?_
    refine R.icmp_ge 106 62 dX1_feed_59 (by decide) rfl (fun hc => ?_) (fun hc => ?_)
    · replace h := h.1 hc
      refine R.aload_n 107 dX1_feed_106 rfl rfl ?_
      refine gf_12 110 dX1_feed_107 rfl rfl ?_
      exact R.retI dX1_feed_110 rfl h
    · replace h := h.2 hc
      refine R.iload_n 63 dX1_feed_62 rfl rfl ?_
      refine R.iload_n 64 dX1_feed_63 rfl rfl ?_
      refine R.iload_n 65 dX1_feed_64 rfl rfl ?_
      refine R.iload 67 dX1_feed_65 rfl rfl ?_
      refine R.iload 69 dX1_feed_67 rfl rfl ?_
      refine R.iload 71 dX1_feed_69 rfl rfl ?_
      refine Rch.calls (sd_X1_byteOf _ _ _ _ _ _ _ _ h) dX1_feed_71 (lw_S q367 q368 q142 q369) dk_X1_byteOf (by decide) (Nat.le_of_ble_eq_true rfl) rfl rfl (Nat.le_of_ble_eq_true rfl) (kI 74 rfl fun r1 w2 h => ?_) kN
      refine R.ist8 76 dX1_feed_74 rfl (Nat.le_of_ble_eq_true rfl) rfl ?_
      refine R.iload 78 dX1_feed_76 rfl rfl ?_
      refine R.if_eq 100 81 dX1_feed_78 (by decide) rfl (fun hc => ?_) (fun hc => ?_)
      · replace h := h.1 hc
        refine R.inc7 103 dX1_feed_100 rfl (Nat.le_of_ble_eq_true rfl) rfl ?_
        refine R.goto 55 dX1_feed_103 (by decide) ?_
        exact Rch.dropk (hR55 _ _ h) ⟨rfl, ⟨rfl, ⟨rfl, ⟨rfl, ⟨rfl, ⟨rfl, ⟨rfl, trivial⟩⟩⟩⟩⟩⟩⟩
      · replace h := h.2 hc
        refine R.aload_n 82 dX1_feed_81 rfl rfl ?_
        refine gf_11 85 dX1_feed_82 rfl rfl ?_
        refine R.aload_n 86 dX1_feed_85 rfl rfl ?_
        refine R.dupR 87 dX1_feed_86 rfl ?_
        refine gf_12 90 dX1_feed_87 rfl rfl ?_
        refine R.dup_x1 91 dX1_feed_90 rfl ?_
        refine R.iconst 92 dX1_feed_91 rfl ?_
        refine R.iadd 93 dX1_feed_92 rfl ?_
        replace h := h _ rfl
        refine pf_12 _ 96 dX1_feed_93 rfl rfl ?_
        refine R.iload 98 dX1_feed_96 rfl rfl ?_
        refine R.i2b 99 dX1_feed_98 rfl ?_
        obtain ⟨hb, h⟩ := h
        replace h := h _ rfl
        refine R.bast ar_11 100 dX1_feed_99 rfl hb ?_
        refine R.inc7 103 dX1_feed_100 rfl (Nat.le_of_ble_eq_true rfl) rfl ?_
        refine R.goto 55 dX1_feed_103 (by decide) ?_
        exact Rch.dropk (hR55 _ _ h) ⟨rfl, ⟨rfl, ⟨rfl, ⟨rfl, ⟨rfl, ⟨rfl, ⟨rfl, trivial⟩⟩⟩⟩⟩⟩⟩
set_option maxRecDepth 100000 in
set_option maxHeartbeats 4000000 in
theorem sl_X1_feed_6 {γ : GG} (Q : Int32 → Wd → Prop) (l1 : Int32) (l2 : Int32) (l3 : Int32) (l4 : Int32) (l5 : Int32) : ∀ (n : Nat) (l6 : Int32) (l7 : Int32) (w : Wd), lp_X1_feed_6 Q l1 l2 l3 l4 l5 n l6 l7 w → Rch γ 2 k_X1_feed 6 [some (.ref 1), some (.int l1), some (.int l2), some (.int l3), some (.int l4), some (.int l5), some (.int l6), some (.int l7), none] [] w (qI Q) xN := by
  intro n
  induction n with
  | zero => intro _ _ _ h; exact h.elim
  | succ n hR6 =>
    intro l6 l7 w h
    have h : wl_X1_feed_6 Q l1 l2 l3 l4 l5 (lp_X1_feed_6 Q l1 l2 l3 l4 l5 n) l6 l7 w := h
    unfold wl_X1_feed_6 at h
    refine R.iload 8 dX1_feed_6 rfl rfl ?_
    refine R.bipush 10 dX1_feed_8 rfl (by decide +kernel) ?_
    refine R.icmp_ge 37 13 dX1_feed_10 (by decide) rfl (fun hc => ?_) (fun hc => ?_)
    · replace h := h.1 hc
      refine R.aload_n 38 dX1_feed_37 rfl rfl ?_
      refine gf_12 41 dX1_feed_38 rfl rfl ?_
      refine R.iload 43 dX1_feed_41 rfl rfl ?_
      refine R.iadd 44 dX1_feed_43 rfl ?_
      refine R.sipush 47 dX1_feed_44 rfl (by decide +kernel) ?_
      refine R.icmp_le 52 50 dX1_feed_47 (by decide) rfl (fun hc => ?_) (fun hc => ?_)
      · replace h := h.1 hc
        refine R.iconst 53 dX1_feed_52 rfl ?_
        refine R.ist7 55 dX1_feed_53 rfl (Nat.le_of_ble_eq_true rfl) rfl ?_
        obtain ⟨n1, h⟩ := h
        exact Rch.dropk (sl_X1_feed_55 Q _ _ _ _ _ n1 _ _ h) ⟨rfl, ⟨rfl, ⟨rfl, ⟨rfl, ⟨rfl, ⟨rfl, ⟨rfl, trivial⟩⟩⟩⟩⟩⟩⟩
      · replace h := h.2 hc
        refine R.iconst 51 dX1_feed_50 rfl ?_
        exact R.retI dX1_feed_51 rfl h
    · replace h := h.2 hc
      refine R.iload_n 14 dX1_feed_13 rfl rfl ?_
      refine R.iload_n 15 dX1_feed_14 rfl rfl ?_
      refine R.iload_n 16 dX1_feed_15 rfl rfl ?_
      refine R.iload 18 dX1_feed_16 rfl rfl ?_
      refine R.iload 20 dX1_feed_18 rfl rfl ?_
      refine R.iload 22 dX1_feed_20 rfl rfl ?_
      refine Rch.calls (sd_X1_byteOf _ _ _ _ _ _ _ _ h) dX1_feed_22 (lw_S q367 q368 q142 q369) dk_X1_byteOf (by decide) (Nat.le_of_ble_eq_true rfl) rfl rfl (Nat.le_of_ble_eq_true rfl) (kI 25 rfl fun r2 w3 h => ?_) kN
      refine R.if_eq 31 28 dX1_feed_25 (by decide) rfl (fun hc => ?_) (fun hc => ?_)
      · replace h := h.1 hc
        refine R.inc7 34 dX1_feed_31 rfl (Nat.le_of_ble_eq_true rfl) rfl ?_
        refine R.goto 6 dX1_feed_34 (by decide) ?_
        exact Rch.dropk (hR6 _ _ _ h) ⟨rfl, ⟨rfl, ⟨rfl, ⟨rfl, ⟨rfl, ⟨rfl, ⟨rfl, ⟨rfl, trivial⟩⟩⟩⟩⟩⟩⟩⟩
      · replace h := h.2 hc
        refine R.inc6 31 dX1_feed_28 rfl (Nat.le_of_ble_eq_true rfl) rfl ?_
        refine R.inc7 34 dX1_feed_31 rfl (Nat.le_of_ble_eq_true rfl) rfl ?_
        refine R.goto 6 dX1_feed_34 (by decide) ?_
        exact Rch.dropk (hR6 _ _ _ h) ⟨rfl, ⟨rfl, ⟨rfl, ⟨rfl, ⟨rfl, ⟨rfl, ⟨rfl, ⟨rfl, trivial⟩⟩⟩⟩⟩⟩⟩⟩
set_option maxRecDepth 100000 in
set_option maxHeartbeats 4000000 in
theorem sd_X1_feed {γ : GG} (l1 : Int32) (l2 : Int32) (l3 : Int32) (l4 : Int32) (l5 : Int32) (w : Wd) (Q : Int32 → Wd → Prop) : wp_X1_feed l1 l2 l3 l4 l5 w Q → Ctr γ 2 yX1_feed (ws_ yX1_feed cX1_feed 9 (some .int)) [.ref 1, .int l1, .int l2, .int l3, .int l4, .int l5] w (qI Q) xN := by
  intro h
  unfold wp_X1_feed at h
  refine Ctr.of (μ := k_X1_feed) (by decide) rfl rfl rfl (Nat.le_of_ble_eq_true rfl) ⟨3, ?_⟩
  have es : lva [.ref 1, .int l1, .int l2, .int l3, .int l4, .int l5] ++ List.replicate 3 none = [some (.ref 1), some (.int l1), some (.int l2), some (.int l3), some (.int l4), some (.int l5), none, none, none] := rfl
  rw [es]
  refine R.iconst 1 dX1_feed_0 rfl ?_
  refine R.ist6 3 dX1_feed_1 rfl (Nat.le_of_ble_eq_true rfl) rfl ?_
  refine R.iconst 4 dX1_feed_3 rfl ?_
  refine R.ist7 6 dX1_feed_4 rfl (Nat.le_of_ble_eq_true rfl) rfl ?_
  obtain ⟨n1, h⟩ := h
  exact Rch.dropk (sl_X1_feed_6 Q _ _ _ _ _ n1 _ _ _ h) ⟨rfl, ⟨rfl, ⟨rfl, ⟨rfl, ⟨rfl, ⟨rfl, ⟨rfl, ⟨rfl, trivial⟩⟩⟩⟩⟩⟩⟩⟩

abbrev k_X1_end : MK := ("FrostBox", cX1_end, 2, (some .boolean), [], "end")
def wp_X1_end (l1 : Int32) (w : Wd) (Q : Int32 → Wd → Prop) : Prop := (l1 < iz 0 → Q (iz 0) w) ∧ (¬ l1 < iz 0 → (l1 ≤ (gI w 12) → ∀ w1, w1 = sI w 12 l1 → Q (iz 1) w1) ∧ (¬ l1 ≤ (gI w 12) → Q (iz 0) w))
set_option maxRecDepth 100000 in
set_option maxHeartbeats 4000000 in
theorem sd_X1_end {γ : GG} (l1 : Int32) (w : Wd) (Q : Int32 → Wd → Prop) : wp_X1_end l1 w Q → Ctr γ 1 yX1_end (ws_ yX1_end cX1_end 2 (some .boolean)) [.ref 1, .int l1] w (qI Q) xN := by
  intro h
  unfold wp_X1_end at h
  refine Ctr.of (μ := k_X1_end) (by decide) rfl rfl rfl (Nat.le_of_ble_eq_true rfl) ⟨0, ?_⟩
  have es : lva [.ref 1, .int l1] ++ List.replicate 0 none = [some (.ref 1), some (.int l1)] := rfl
  rw [es]
  refine R.iload_n 1 dX1_end_0 rfl rfl ?_
  refine R.if_lt 12 4 dX1_end_1 (by decide) rfl (fun hc => ?_) (fun hc => ?_)
  · replace h := h.1 hc
    refine R.iconst 13 dX1_end_12 rfl ?_
    exact R.retZ dX1_end_13 rfl zok0 h
  · replace h := h.2 hc
    refine R.iload_n 5 dX1_end_4 rfl rfl ?_
    refine R.aload_n 6 dX1_end_5 rfl rfl ?_
    refine gf_12 9 dX1_end_6 rfl rfl ?_
    refine R.icmp_le 14 12 dX1_end_9 (by decide) rfl (fun hc => ?_) (fun hc => ?_)
    · replace h := h.1 hc
      refine R.aload_n 15 dX1_end_14 rfl rfl ?_
      refine R.iload_n 16 dX1_end_15 rfl rfl ?_
      replace h := h _ rfl
      refine pf_12 _ 19 dX1_end_16 rfl rfl ?_
      refine R.iconst 20 dX1_end_19 rfl ?_
      exact R.retZ dX1_end_20 rfl zok1 h
    · replace h := h.2 hc
      refine R.iconst 13 dX1_end_12 rfl ?_
      exact R.retZ dX1_end_13 rfl zok0 h

abbrev k_X1_look : MK := ("FrostBox", cX1_look, 1, (some .int), [], "look")
def b_X1_look_38 (Q : Int32 → Wd → Prop) (w : Wd) : Prop := ((gI w 12) ≤ (gI w 13) → Q (iz (-1)) w) ∧ (¬ (gI w 12) ≤ (gI w 13) → inb (gI w 13) 240 ∧ Q ((gA w 11 (gI w 13).toInt) &&& (iz 255)) w)
def wl_X1_look_0 (Q : Int32 → Wd → Prop) (R0 : Wd → Prop) (w : Wd) : Prop := ((gI w 12) ≤ (gI w 13) → b_X1_look_38 Q w) ∧ (¬ (gI w 12) ≤ (gI w 13) → inb (gI w 13) 240 ∧ (¬ (gA w 11 (gI w 13).toInt) = (iz 32) → b_X1_look_38 Q w) ∧ ((gA w 11 (gI w 13).toInt) = (iz 32) → ∀ w1, w1 = sI w 13 ((gI w 13) + (iz 1)) → R0 w1))
def lp_X1_look_0 (Q : Int32 → Wd → Prop) : Nat → Wd → Prop
  | 0, _ => False
  | n + 1, w => wl_X1_look_0 Q (lp_X1_look_0 Q n) w
def wp_X1_look (w : Wd) (Q : Int32 → Wd → Prop) : Prop := ∃ n1, lp_X1_look_0 Q n1 w
set_option maxRecDepth 100000 in
set_option maxHeartbeats 4000000 in
theorem s_X1_look_38 {γ : GG} (Q : Int32 → Wd → Prop) : ∀ (w : Wd), b_X1_look_38 Q w → Rch γ 1 k_X1_look 38 [some (.ref 1)] [] w (qI Q) xN := by
  intro w h
  unfold b_X1_look_38 at h
  refine R.aload_n 39 dX1_look_38 rfl rfl ?_
  refine gf_13 42 dX1_look_39 rfl rfl ?_
  refine R.aload_n 43 dX1_look_42 rfl rfl ?_
  refine gf_12 46 dX1_look_43 rfl rfl ?_
  refine R.icmp_ge 65 49 dX1_look_46 (by decide) rfl (fun hc => ?_) (fun hc => ?_)
  · replace h := h.1 hc
    refine R.iconst 66 dX1_look_65 rfl ?_
    exact R.retI dX1_look_66 rfl h
  · replace h := h.2 hc
    refine R.aload_n 50 dX1_look_49 rfl rfl ?_
    refine gf_11 53 dX1_look_50 rfl rfl ?_
    refine R.aload_n 54 dX1_look_53 rfl rfl ?_
    refine gf_13 57 dX1_look_54 rfl rfl ?_
    obtain ⟨hb, h⟩ := h
    refine R.bald ar_11 58 dX1_look_57 rfl hb ?_
    refine R.sipush 61 dX1_look_58 rfl (by decide +kernel) ?_
    refine R.iand 62 dX1_look_61 rfl ?_
    refine R.goto 66 dX1_look_62 (by decide) ?_
    exact R.retI dX1_look_66 rfl h
set_option maxRecDepth 100000 in
set_option maxHeartbeats 4000000 in
theorem sl_X1_look_0 {γ : GG} (Q : Int32 → Wd → Prop) : ∀ (n : Nat) (w : Wd), lp_X1_look_0 Q n w → Rch γ 1 k_X1_look 0 [some (.ref 1)] [] w (qI Q) xN := by
  intro n
  induction n with
  | zero => intro  _ h; exact h.elim
  | succ n hR0 =>
    intro  w h
    have h : wl_X1_look_0 Q (lp_X1_look_0 Q n) w := h
    unfold wl_X1_look_0 at h
    refine R.aload_n 1 dX1_look_0 rfl rfl ?_
    refine gf_13 4 dX1_look_1 rfl rfl ?_
    refine R.aload_n 5 dX1_look_4 rfl rfl ?_
    refine gf_12 8 dX1_look_5 rfl rfl ?_
    refine R.icmp_ge 38 11 dX1_look_8 (by decide) rfl (fun hc => ?_) (fun hc => ?_)
    · replace h := h.1 hc
      exact Rch.dropk (s_X1_look_38 Q _ h) ⟨rfl, trivial⟩
    · replace h := h.2 hc
      refine R.aload_n 12 dX1_look_11 rfl rfl ?_
      refine gf_11 15 dX1_look_12 rfl rfl ?_
      refine R.aload_n 16 dX1_look_15 rfl rfl ?_
      refine gf_13 19 dX1_look_16 rfl rfl ?_
      obtain ⟨hb, h⟩ := h
      refine R.bald ar_11 20 dX1_look_19 rfl hb ?_
      refine R.bipush 22 dX1_look_20 rfl (by decide +kernel) ?_
      refine R.icmp_ne 38 25 dX1_look_22 (by decide) rfl (fun hc => ?_) (fun hc => ?_)
      · replace h := h.1 hc
        exact Rch.dropk (s_X1_look_38 Q _ h) ⟨rfl, trivial⟩
      · replace h := h.2 hc
        refine R.aload_n 26 dX1_look_25 rfl rfl ?_
        refine R.dupR 27 dX1_look_26 rfl ?_
        refine gf_13 30 dX1_look_27 rfl rfl ?_
        refine R.iconst 31 dX1_look_30 rfl ?_
        refine R.iadd 32 dX1_look_31 rfl ?_
        replace h := h _ rfl
        refine pf_13 _ 35 dX1_look_32 rfl rfl ?_
        refine R.goto 0 dX1_look_35 (by decide) ?_
        exact Rch.dropk (hR0 _ h) ⟨rfl, trivial⟩
set_option maxRecDepth 100000 in
set_option maxHeartbeats 4000000 in
theorem sd_X1_look {γ : GG} (w : Wd) (Q : Int32 → Wd → Prop) : wp_X1_look w Q → Ctr γ 1 yX1_look (ws_ yX1_look cX1_look 1 (some .int)) [.ref 1] w (qI Q) xN := by
  intro h
  unfold wp_X1_look at h
  refine Ctr.of (μ := k_X1_look) (by decide) rfl rfl rfl (Nat.le_of_ble_eq_true rfl) ⟨0, ?_⟩
  have es : lva [.ref 1] ++ List.replicate 0 none = [some (.ref 1)] := rfl
  rw [es]
  obtain ⟨n1, h⟩ := h
  exact Rch.dropk (sl_X1_look_0 Q n1 _ h) ⟨rfl, trivial⟩

abbrev k_X1_need : MK := ("FrostBox", cX1_need, 2, none, [], "need")
def wp_X1_need (l1 : Int32) (w : Wd) (Q : Wd → Prop) (X : Wd → Prop) : Prop := (¬ l1 = iz 0 → Q w) ∧ (l1 = iz 0 → X w)
set_option maxRecDepth 100000 in
set_option maxHeartbeats 4000000 in
theorem sd_X1_need {γ : GG} (l1 : Int32) (w : Wd) (Q : Wd → Prop) (X : Wd → Prop) : wp_X1_need l1 w Q X → Ctr γ 1 yX1_need (ws_ yX1_need cX1_need 2 none) [.ref 1, .int l1] w (qV Q) (xE "FrostBox$Fault" X) := by
  intro h
  unfold wp_X1_need at h
  refine Ctr.of (μ := k_X1_need) (by decide) rfl rfl rfl (Nat.le_of_ble_eq_true rfl) ⟨0, ?_⟩
  have es : lva [.ref 1, .int l1] ++ List.replicate 0 none = [some (.ref 1), some (.int l1)] := rfl
  rw [es]
  refine R.iload_n 1 dX1_need_0 rfl rfl ?_
  refine R.if_ne 9 4 dX1_need_1 (by decide) rfl (fun hc => ?_) (fun hc => ?_)
  · replace h := h.1 hc
    exact R.retV dX1_need_9 rfl h
  · replace h := h.2 hc
    refine R.aload_n 5 dX1_need_4 rfl rfl ?_
    refine gf_10 8 dX1_need_5 rfl rfl ?_
    refine R.throwF dX1_need_8 ?_
    exact RchX.out (fun x hx => nomatch hx) ⟨rfl, h⟩

abbrev k_X1_opens : MK := ("FrostBox", cX1_opens, 1, none, [], "opens")
def b_X1_opens_15 (Q : Wd → Prop) (X : Wd → Prop) (t0 : Int32) (w : Wd) : Prop := wp_X1_need t0 w (fun w2 => ∀ w3, w3 = sI w2 14 ((gI w2 14) + (iz 1)) → ∀ w4, w4 = sI w3 13 ((gI w3 13) + (iz 1)) → Q w4) X
def wp_X1_opens (w : Wd) (Q : Wd → Prop) (X : Wd → Prop) : Prop := ((iz 6) ≤ (gI w 14) → b_X1_opens_15 Q X (iz 0) w) ∧ (¬ (iz 6) ≤ (gI w 14) → b_X1_opens_15 Q X (iz 1) w)
set_option maxRecDepth 100000 in
set_option maxHeartbeats 4000000 in
theorem s_X1_opens_15 {γ : GG} (Q : Wd → Prop) (X : Wd → Prop) (t0 : Int32) : ∀ (w : Wd), b_X1_opens_15 Q X t0 w → Rch γ 2 k_X1_opens 15 [some (.ref 1)] [.int t0, .ref 1] w (qV Q) (xE "FrostBox$Fault" X) := by
  intro w h
  unfold b_X1_opens_15 at h
  refine Rch.callv (sd_X1_need _ _ _ _ h) dX1_opens_15 (lw_V q481 q483 qs5 q142 q484) dk_X1_need rcX (by decide) (Nat.le_of_ble_eq_true rfl) rfl rfl (Nat.le_of_ble_eq_true rfl) (kV 18 rfl fun w2 h => ?_) (kP rfl)
  refine R.aload_n 19 dX1_opens_18 rfl rfl ?_
  refine R.dupR 20 dX1_opens_19 rfl ?_
  refine gf_14 23 dX1_opens_20 rfl rfl ?_
  refine R.iconst 24 dX1_opens_23 rfl ?_
  refine R.iadd 25 dX1_opens_24 rfl ?_
  replace h := h _ rfl
  refine pf_14 _ 28 dX1_opens_25 rfl rfl ?_
  refine R.aload_n 29 dX1_opens_28 rfl rfl ?_
  refine R.dupR 30 dX1_opens_29 rfl ?_
  refine gf_13 33 dX1_opens_30 rfl rfl ?_
  refine R.iconst 34 dX1_opens_33 rfl ?_
  refine R.iadd 35 dX1_opens_34 rfl ?_
  replace h := h _ rfl
  refine pf_13 _ 38 dX1_opens_35 rfl rfl ?_
  exact R.retV dX1_opens_38 rfl h
set_option maxRecDepth 100000 in
set_option maxHeartbeats 4000000 in
theorem sd_X1_opens {γ : GG} (w : Wd) (Q : Wd → Prop) (X : Wd → Prop) : wp_X1_opens w Q X → Ctr γ 2 yX1_opens (ws_ yX1_opens cX1_opens 1 none) [.ref 1] w (qV Q) (xE "FrostBox$Fault" X) := by
  intro h
  unfold wp_X1_opens at h
  refine Ctr.of (μ := k_X1_opens) (by decide) rfl rfl rfl (Nat.le_of_ble_eq_true rfl) ⟨0, ?_⟩
  have es : lva [.ref 1] ++ List.replicate 0 none = [some (.ref 1)] := rfl
  rw [es]
  refine R.aload_n 1 dX1_opens_0 rfl rfl ?_
  refine R.aload_n 2 dX1_opens_1 rfl rfl ?_
  refine gf_14 5 dX1_opens_2 rfl rfl ?_
  refine R.bipush 7 dX1_opens_5 rfl (by decide +kernel) ?_
  refine R.icmp_ge 14 10 dX1_opens_7 (by decide) rfl (fun hc => ?_) (fun hc => ?_)
  · replace h := h.1 hc
    refine R.iconst 15 dX1_opens_14 rfl ?_
    exact Rch.dropk (s_X1_opens_15 Q X _ _ h) ⟨rfl, trivial⟩
  · replace h := h.2 hc
    refine R.iconst 11 dX1_opens_10 rfl ?_
    refine R.goto 15 dX1_opens_11 (by decide) ?_
    exact Rch.dropk (s_X1_opens_15 Q X _ _ h) ⟨rfl, trivial⟩

abbrev k_X1_closes : MK := ("FrostBox", cX1_closes, 2, none, [], "closes")
def b_X1_closes_14 (Q : Wd → Prop) (X : Wd → Prop) (t0 : Int32) (w : Wd) : Prop := wp_X1_need t0 w (fun w2 => ∀ w3, w3 = sI w2 13 ((gI w2 13) + (iz 1)) → ∀ w4, w4 = sI w3 14 ((gI w3 14) - (iz 1)) → Q w4) X
def wp_X1_closes (l1 : Int32) (w : Wd) (Q : Wd → Prop) (X : Wd → Prop) : Prop := wp_X1_look w (fun r1 w2 => (¬ r1 = l1 → b_X1_closes_14 Q X (iz 0) w2) ∧ (r1 = l1 → b_X1_closes_14 Q X (iz 1) w2))
set_option maxRecDepth 100000 in
set_option maxHeartbeats 4000000 in
theorem s_X1_closes_14 {γ : GG} (Q : Wd → Prop) (X : Wd → Prop) (t0 : Int32) : ∀ (w : Wd), b_X1_closes_14 Q X t0 w → Rch γ 2 k_X1_closes 14 [some (.ref 1), none] [.int t0, .ref 1] w (qV Q) (xE "FrostBox$Fault" X) := by
  intro w h
  unfold b_X1_closes_14 at h
  refine Rch.callv (sd_X1_need _ _ _ _ h) dX1_closes_14 (lw_V q481 q483 qs5 q142 q484) dk_X1_need rcX (by decide) (Nat.le_of_ble_eq_true rfl) rfl rfl (Nat.le_of_ble_eq_true rfl) (kV 17 rfl fun w2 h => ?_) (kP rfl)
  refine R.aload_n 18 dX1_closes_17 rfl rfl ?_
  refine R.dupR 19 dX1_closes_18 rfl ?_
  refine gf_13 22 dX1_closes_19 rfl rfl ?_
  refine R.iconst 23 dX1_closes_22 rfl ?_
  refine R.iadd 24 dX1_closes_23 rfl ?_
  replace h := h _ rfl
  refine pf_13 _ 27 dX1_closes_24 rfl rfl ?_
  refine R.aload_n 28 dX1_closes_27 rfl rfl ?_
  refine R.dupR 29 dX1_closes_28 rfl ?_
  refine gf_14 32 dX1_closes_29 rfl rfl ?_
  refine R.iconst 33 dX1_closes_32 rfl ?_
  refine R.isub 34 dX1_closes_33 rfl ?_
  replace h := h _ rfl
  refine pf_14 _ 37 dX1_closes_34 rfl rfl ?_
  exact R.retV dX1_closes_37 rfl h
set_option maxRecDepth 100000 in
set_option maxHeartbeats 4000000 in
theorem sd_X1_closes {γ : GG} (l1 : Int32) (w : Wd) (Q : Wd → Prop) (X : Wd → Prop) : wp_X1_closes l1 w Q X → Ctr γ 2 yX1_closes (ws_ yX1_closes cX1_closes 2 none) [.ref 1, .int l1] w (qV Q) (xE "FrostBox$Fault" X) := by
  intro h
  unfold wp_X1_closes at h
  refine Ctr.of (μ := k_X1_closes) (by decide) rfl rfl rfl (Nat.le_of_ble_eq_true rfl) ⟨0, ?_⟩
  have es : lva [.ref 1, .int l1] ++ List.replicate 0 none = [some (.ref 1), some (.int l1)] := rfl
  rw [es]
  refine R.aload_n 1 dX1_closes_0 rfl rfl ?_
  refine R.aload_n 2 dX1_closes_1 rfl rfl ?_
  refine Rch.callv (sd_X1_look _ _ h) dX1_closes_2 (lw_V q390 q392 qs4 q142 q393) dk_X1_look rcX (by decide) (Nat.le_of_ble_eq_true rfl) rfl rfl (Nat.le_of_ble_eq_true rfl) (kI 5 rfl fun r1 w2 h => ?_) kN
  refine R.iload_n 6 dX1_closes_5 rfl rfl ?_
  refine R.icmp_ne 13 9 dX1_closes_6 (by decide) rfl (fun hc => ?_) (fun hc => ?_)
  · replace h := h.1 hc
    refine R.iconst 14 dX1_closes_13 rfl ?_
    exact Rch.dropk (s_X1_closes_14 Q X _ _ h) ⟨rfl, trivial⟩
  · replace h := h.2 hc
    refine R.iconst 10 dX1_closes_9 rfl ?_
    refine R.goto 14 dX1_closes_10 (by decide) ?_
    exact Rch.dropk (s_X1_closes_14 Q X _ _ h) ⟨rfl, trivial⟩

abbrev k_X1_isDigit : MK := ("FrostBox", cX1_isDigit, 1, (some .boolean), [], "isDigit")
def wp_X1_isDigit (l0 : Int32) (w : Wd) (Q : Int32 → Wd → Prop) : Prop := (l0 < (iz 48) → Q (iz 0) w) ∧ (¬ l0 < (iz 48) → ((iz 57) < l0 → Q (iz 0) w) ∧ (¬ (iz 57) < l0 → Q (iz 1) w))
set_option maxRecDepth 100000 in
set_option maxHeartbeats 4000000 in
theorem sd_X1_isDigit {γ : GG} (l0 : Int32) (w : Wd) (Q : Int32 → Wd → Prop) : wp_X1_isDigit l0 w Q → Ctr γ 1 yX1_isDigit (ws_ yX1_isDigit cX1_isDigit 1 (some .boolean)) [.int l0] w (qI Q) xN := by
  intro h
  unfold wp_X1_isDigit at h
  refine Ctr.of (μ := k_X1_isDigit) (by decide) rfl rfl rfl (Nat.le_of_ble_eq_true rfl) ⟨0, ?_⟩
  have es : lva [.int l0] ++ List.replicate 0 none = [some (.int l0)] := rfl
  rw [es]
  refine R.iload_n 1 dX1_isDigit_0 rfl rfl ?_
  refine R.bipush 3 dX1_isDigit_1 rfl (by decide +kernel) ?_
  refine R.icmp_lt 16 6 dX1_isDigit_3 (by decide) rfl (fun hc => ?_) (fun hc => ?_)
  · replace h := h.1 hc
    refine R.iconst 17 dX1_isDigit_16 rfl ?_
    exact R.retZ dX1_isDigit_17 rfl zok0 h
  · replace h := h.2 hc
    refine R.iload_n 7 dX1_isDigit_6 rfl rfl ?_
    refine R.bipush 9 dX1_isDigit_7 rfl (by decide +kernel) ?_
    refine R.icmp_gt 16 12 dX1_isDigit_9 (by decide) rfl (fun hc => ?_) (fun hc => ?_)
    · replace h := h.1 hc
      refine R.iconst 17 dX1_isDigit_16 rfl ?_
      exact R.retZ dX1_isDigit_17 rfl zok0 h
    · replace h := h.2 hc
      refine R.iconst 13 dX1_isDigit_12 rfl ?_
      refine R.goto 17 dX1_isDigit_13 (by decide) ?_
      exact R.retZ dX1_isDigit_17 rfl zok1 h

abbrev k_X1_atom : MK := ("FrostBox", cX1_atom, 4, (some (.object "FrostBox$Sum")), [], "atom")
def b_X1_atom_109 (Psum : Wd → (Nat → Wd → Prop) → (Wd → Prop) → Prop) (Q : Nat → Wd → Prop) (X : Wd → Prop) (R72 : Int32 → Int32 → Wd → Prop) (l2 : Int32) (l3 : Int32) (t0 : Int32) (w : Wd) : Prop := wp_X1_need t0 w (fun w2 => inb (gI w2 13) 240 ∧ ∀ w3, w3 = sI w2 13 ((gI w2 13) + (iz 1)) → R72 ((((iz 10) * l2) + (gA w2 11 (gI w2 13).toInt)) - (iz 48)) (l3 + iz 1) w3) X
def wl_X1_atom_72 (Psum : Wd → (Nat → Wd → Prop) → (Wd → Prop) → Prop) (Q : Nat → Wd → Prop) (X : Wd → Prop) (R72 : Int32 → Int32 → Wd → Prop) (l2 : Int32) (l3 : Int32) (w : Wd) : Prop := ((gI w 12) ≤ (gI w 13) → gZ w + 1 ≤ CM ∧ (∀ r1, 200 ≤ r1 → gF w r1 = none → ∀ w2, w2 = sZ (sF w r1 (3, [.int 0])) (gZ w + 1) → wp_X6_init r1 l2 w2 (fun w4 => Q r1 w4))) ∧ (¬ (gI w 12) ≤ (gI w 13) → inb (gI w 13) 240 ∧ wp_X1_isDigit (gA w 11 (gI w 13).toInt) w (fun r5 w6 => (r5 = iz 0 → gZ w6 + 1 ≤ CM ∧ (∀ r7, 200 ≤ r7 → gF w6 r7 = none → ∀ w8, w8 = sZ (sF w6 r7 (3, [.int 0])) (gZ w6 + 1) → wp_X6_init r7 l2 w8 (fun w10 => Q r7 w10))) ∧ (¬ r5 = iz 0 → ((iz 4) ≤ l3 → b_X1_atom_109 Psum Q X R72 l2 l3 (iz 0) w6) ∧ (¬ (iz 4) ≤ l3 → b_X1_atom_109 Psum Q X R72 l2 l3 (iz 1) w6))))
def lp_X1_atom_72 (Psum : Wd → (Nat → Wd → Prop) → (Wd → Prop) → Prop) (Q : Nat → Wd → Prop) (X : Wd → Prop) : Nat → Int32 → Int32 → Wd → Prop
  | 0, _, _, _ => False
  | n + 1, l2, l3, w => wl_X1_atom_72 Psum Q X (lp_X1_atom_72 Psum Q X n) l2 l3 w
def b_X1_atom_60 (Psum : Wd → (Nat → Wd → Prop) → (Wd → Prop) → Prop) (Q : Nat → Wd → Prop) (X : Wd → Prop) (l1 : Int32) (w : Wd) : Prop := wp_X1_isDigit l1 w (fun r1 w2 => wp_X1_need r1 w2 (fun w4 => ∃ n5, lp_X1_atom_72 Psum Q X n5 (iz 0) (iz 0) w4) X)
def wp_X1_atom (Psum : Wd → (Nat → Wd → Prop) → (Wd → Prop) → Prop) (w : Wd) (Q : Nat → Wd → Prop) (X : Wd → Prop) : Prop := wp_X1_look w (fun r1 w2 => (¬ r1 = (iz 91) → (r1 ≤ iz 0 → b_X1_atom_60 Psum Q X r1 w2) ∧ (¬ r1 ≤ iz 0 → 1 < 6 ∧ wp_J2_indexOf 1 r1 w2 (fun r3 w4 => (r3 < iz 0 → b_X1_atom_60 Psum Q X r1 w4) ∧ (¬ r3 < iz 0 → ∀ w5, w5 = sI w4 13 ((gI w4 13) + (iz 1)) → gZ w5 + 1 ≤ CM ∧ (∀ r6, 200 ≤ r6 → gF w5 r6 = none → ∀ w7, w7 = sZ (sF w5 r6 (2, [.int 0])) (gZ w5 + 1) → wp_X5_init r6 r1 w7 (fun w9 => Q r6 w9)))))) ∧ (r1 = (iz 91) → wp_X1_opens w2 (fun w11 => Psum w11 (fun r12 w13 => wp_X1_closes (iz 93) w13 (fun w15 => Q r12 w15) X) X) X))
set_option maxRecDepth 100000 in
set_option maxHeartbeats 4000000 in
theorem s_X1_atom_109 {γ : GG} {dP : Nat} (hB : 4 ≤ dP) (Psum : Wd → (Nat → Wd → Prop) → (Wd → Prop) → Prop) (hPsum : ∀ (w : Wd) (Q : Nat → Wd → Prop) (X : Wd → Prop) , Psum w Q X → Ctr γ dP yX1_sum (ws_ yX1_sum cX1_sum 4 (some (.object "FrostBox$Sum"))) [.ref 1] w (qR Q) (xE "FrostBox$Fault" X)) (Q : Nat → Wd → Prop) (X : Wd → Prop) (R72 : Int32 → Int32 → Wd → Prop) (l2 : Int32) (l3 : Int32) (t0 : Int32) (hR72 : ∀ (l2 : Int32) (l3 : Int32) (w : Wd), R72 l2 l3 w → Rch γ (dP + 1) k_X1_atom 72 [some (.ref 1), none, some (.int l2), some (.int l3)] [] w (qR Q) (xE "FrostBox$Fault" X)) : ∀ (w : Wd), b_X1_atom_109 Psum Q X R72 l2 l3 t0 w → Rch γ (dP + 1) k_X1_atom 109 [some (.ref 1), none, some (.int l2), some (.int l3)] [.int t0, .ref 1] w (qR Q) (xE "FrostBox$Fault" X) := by
  intro w h
  unfold b_X1_atom_109 at h
  refine Rch.callv (sd_X1_need _ _ _ _ h) dX1_atom_109 (lw_V q481 q483 qs5 q142 q484) dk_X1_need rcX (by omega) (Nat.le_of_ble_eq_true rfl) rfl rfl (Nat.le_of_ble_eq_true rfl) (kV 112 rfl fun w2 h => ?_) (kP rfl)
  refine R.bipush 114 dX1_atom_112 rfl (by decide +kernel) ?_
  refine R.iload_n 115 dX1_atom_114 rfl rfl ?_
  refine R.imul 116 dX1_atom_115 rfl ?_
  refine R.aload_n 117 dX1_atom_116 rfl rfl ?_
  refine gf_11 120 dX1_atom_117 rfl rfl ?_
  refine R.aload_n 121 dX1_atom_120 rfl rfl ?_
  refine gf_13 124 dX1_atom_121 rfl rfl ?_
  obtain ⟨hb, h⟩ := h
  refine R.bald ar_11 125 dX1_atom_124 rfl hb ?_
  refine R.iadd 126 dX1_atom_125 rfl ?_
  refine R.bipush 128 dX1_atom_126 rfl (by decide +kernel) ?_
  refine R.isub 129 dX1_atom_128 rfl ?_
  refine R.ist2n 130 dX1_atom_129 rfl (Nat.le_of_ble_eq_true rfl) rfl ?_
  refine R.aload_n 131 dX1_atom_130 rfl rfl ?_
  refine R.dupR 132 dX1_atom_131 rfl ?_
  refine gf_13 135 dX1_atom_132 rfl rfl ?_
  refine R.iconst 136 dX1_atom_135 rfl ?_
  refine R.iadd 137 dX1_atom_136 rfl ?_
  replace h := h _ rfl
  refine pf_13 _ 140 dX1_atom_137 rfl rfl ?_
  refine R.inc3 143 dX1_atom_140 rfl (Nat.le_of_ble_eq_true rfl) rfl ?_
  refine R.goto 72 dX1_atom_143 (by decide) ?_
  exact Rch.dropk (hR72 _ _ _ h) ⟨rfl, ⟨rfl, ⟨rfl, trivial⟩⟩⟩
set_option maxRecDepth 100000 in
set_option maxHeartbeats 4000000 in
theorem sl_X1_atom_72 {γ : GG} {dP : Nat} (hB : 4 ≤ dP) (Psum : Wd → (Nat → Wd → Prop) → (Wd → Prop) → Prop) (hPsum : ∀ (w : Wd) (Q : Nat → Wd → Prop) (X : Wd → Prop) , Psum w Q X → Ctr γ dP yX1_sum (ws_ yX1_sum cX1_sum 4 (some (.object "FrostBox$Sum"))) [.ref 1] w (qR Q) (xE "FrostBox$Fault" X)) (Q : Nat → Wd → Prop) (X : Wd → Prop) : ∀ (n : Nat) (l2 : Int32) (l3 : Int32) (w : Wd), lp_X1_atom_72 Psum Q X n l2 l3 w → Rch γ (dP + 1) k_X1_atom 72 [some (.ref 1), none, some (.int l2), some (.int l3)] [] w (qR Q) (xE "FrostBox$Fault" X) := by
  intro n
  induction n with
  | zero => intro _ _ _ h; exact h.elim
  | succ n hR72 =>
    intro l2 l3 w h
    have h : wl_X1_atom_72 Psum Q X (lp_X1_atom_72 Psum Q X n) l2 l3 w := h
    unfold wl_X1_atom_72 at h
    refine R.aload_n 73 dX1_atom_72 rfl rfl ?_
    refine gf_13 76 dX1_atom_73 rfl rfl ?_
    refine R.aload_n 77 dX1_atom_76 rfl rfl ?_
    refine gf_12 80 dX1_atom_77 rfl rfl ?_
    refine R.icmp_ge 146 83 dX1_atom_80 (by decide) rfl (fun hc => ?_) (fun hc => ?_)
    · replace h := h.1 hc
      obtain ⟨hZ, h⟩ := h
      refine R.new (ci := 3) (T := TX6) (ty0 := tyX6) (fs := [.int 0]) 149 dX1_atom_146 rfl rfl rfl in_X6 tyX6_ok q522 q523 q155 bl_X6 rfl (by decide) hZ (fun r1 hr1 hr2 => ?_)
      replace h := h r1 hr1 hr2 _ rfl
      refine R.dupR 150 dX1_atom_149 rfl ?_
      refine R.iload_n 151 dX1_atom_150 rfl rfl ?_
      refine Rch.callI (sd_X6_init _ _ _ _ h) dX1_atom_151 (lw_meth q526) q155 q524 q525 rfl dk_X6_init (by omega) (Nat.le_of_ble_eq_true rfl) rfl rfl (Nat.le_of_ble_eq_true rfl) (kV 154 rfl fun w4 h => ?_) kN
      exact R.retR dX1_atom_154 rfl h
    · replace h := h.2 hc
      refine R.aload_n 84 dX1_atom_83 rfl rfl ?_
      refine gf_11 87 dX1_atom_84 rfl rfl ?_
      refine R.aload_n 88 dX1_atom_87 rfl rfl ?_
      refine gf_13 91 dX1_atom_88 rfl rfl ?_
      obtain ⟨hb, h⟩ := h
      refine R.bald ar_11 92 dX1_atom_91 rfl hb ?_
      refine Rch.calls (sd_X1_isDigit _ _ _ h) dX1_atom_92 (lw_S q519 q520 q142 q521) dk_X1_isDigit (by omega) (Nat.le_of_ble_eq_true rfl) rfl rfl (Nat.le_of_ble_eq_true rfl) (kI 95 rfl fun r5 w6 h => ?_) kN
      refine R.if_eq 146 98 dX1_atom_95 (by decide) rfl (fun hc => ?_) (fun hc => ?_)
      · replace h := h.1 hc
        obtain ⟨hZ, h⟩ := h
        refine R.new (ci := 3) (T := TX6) (ty0 := tyX6) (fs := [.int 0]) 149 dX1_atom_146 rfl rfl rfl in_X6 tyX6_ok q522 q523 q155 bl_X6 rfl (by decide) hZ (fun r7 hr1 hr2 => ?_)
        replace h := h r7 hr1 hr2 _ rfl
        refine R.dupR 150 dX1_atom_149 rfl ?_
        refine R.iload_n 151 dX1_atom_150 rfl rfl ?_
        refine Rch.callI (sd_X6_init _ _ _ _ h) dX1_atom_151 (lw_meth q526) q155 q524 q525 rfl dk_X6_init (by omega) (Nat.le_of_ble_eq_true rfl) rfl rfl (Nat.le_of_ble_eq_true rfl) (kV 154 rfl fun w10 h => ?_) kN
        exact R.retR dX1_atom_154 rfl h
      · replace h := h.2 hc
        refine R.aload_n 99 dX1_atom_98 rfl rfl ?_
        refine R.iload_n 100 dX1_atom_99 rfl rfl ?_
        refine R.iconst 101 dX1_atom_100 rfl ?_
        refine R.icmp_ge 108 104 dX1_atom_101 (by decide) rfl (fun hc => ?_) (fun hc => ?_)
        · replace h := h.1 hc
          refine R.iconst 109 dX1_atom_108 rfl ?_
          exact Rch.dropk (s_X1_atom_109 hB Psum hPsum Q X _ _ _ _ hR72 _ h) ⟨rfl, ⟨rfl, ⟨rfl, trivial⟩⟩⟩
        · replace h := h.2 hc
          refine R.iconst 105 dX1_atom_104 rfl ?_
          refine R.goto 109 dX1_atom_105 (by decide) ?_
          exact Rch.dropk (s_X1_atom_109 hB Psum hPsum Q X _ _ _ _ hR72 _ h) ⟨rfl, ⟨rfl, ⟨rfl, trivial⟩⟩⟩
set_option maxRecDepth 100000 in
set_option maxHeartbeats 4000000 in
theorem s_X1_atom_60 {γ : GG} {dP : Nat} (hB : 4 ≤ dP) (Psum : Wd → (Nat → Wd → Prop) → (Wd → Prop) → Prop) (hPsum : ∀ (w : Wd) (Q : Nat → Wd → Prop) (X : Wd → Prop) , Psum w Q X → Ctr γ dP yX1_sum (ws_ yX1_sum cX1_sum 4 (some (.object "FrostBox$Sum"))) [.ref 1] w (qR Q) (xE "FrostBox$Fault" X)) (Q : Nat → Wd → Prop) (X : Wd → Prop) (l1 : Int32) : ∀ (w : Wd), b_X1_atom_60 Psum Q X l1 w → Rch γ (dP + 1) k_X1_atom 60 [some (.ref 1), some (.int l1), none, none] [] w (qR Q) (xE "FrostBox$Fault" X) := by
  intro w h
  unfold b_X1_atom_60 at h
  refine R.aload_n 61 dX1_atom_60 rfl rfl ?_
  refine R.iload_n 62 dX1_atom_61 rfl rfl ?_
  refine Rch.calls (sd_X1_isDigit _ _ _ h) dX1_atom_62 (lw_S q519 q520 q142 q521) dk_X1_isDigit (by omega) (Nat.le_of_ble_eq_true rfl) rfl rfl (Nat.le_of_ble_eq_true rfl) (kI 65 rfl fun r1 w2 h => ?_) kN
  refine Rch.callv (sd_X1_need _ _ _ _ h) dX1_atom_65 (lw_V q481 q483 qs5 q142 q484) dk_X1_need rcX (by omega) (Nat.le_of_ble_eq_true rfl) rfl rfl (Nat.le_of_ble_eq_true rfl) (kV 68 rfl fun w4 h => ?_) (kP rfl)
  refine R.iconst 69 dX1_atom_68 rfl ?_
  refine R.ist2n 70 dX1_atom_69 rfl (Nat.le_of_ble_eq_true rfl) rfl ?_
  refine R.iconst 71 dX1_atom_70 rfl ?_
  refine R.ist3n 72 dX1_atom_71 rfl (Nat.le_of_ble_eq_true rfl) rfl ?_
  obtain ⟨n5, h⟩ := h
  exact Rch.dropk (sl_X1_atom_72 hB Psum hPsum Q X n5 _ _ _ h) ⟨rfl, ⟨rfl, ⟨rfl, trivial⟩⟩⟩
set_option maxRecDepth 100000 in
set_option maxHeartbeats 4000000 in
theorem sd_X1_atom {γ : GG} {dP : Nat} (hB : 4 ≤ dP) (Psum : Wd → (Nat → Wd → Prop) → (Wd → Prop) → Prop) (hPsum : ∀ (w : Wd) (Q : Nat → Wd → Prop) (X : Wd → Prop) , Psum w Q X → Ctr γ dP yX1_sum (ws_ yX1_sum cX1_sum 4 (some (.object "FrostBox$Sum"))) [.ref 1] w (qR Q) (xE "FrostBox$Fault" X)) (w : Wd) (Q : Nat → Wd → Prop) (X : Wd → Prop) : wp_X1_atom Psum w Q X → Ctr γ (dP + 1) yX1_atom (ws_ yX1_atom cX1_atom 4 (some (.object "FrostBox$Sum"))) [.ref 1] w (qR Q) (xE "FrostBox$Fault" X) := by
  intro h
  unfold wp_X1_atom at h
  refine Ctr.of (μ := k_X1_atom) (by decide) rfl rfl rfl (Nat.le_of_ble_eq_true rfl) ⟨3, ?_⟩
  have es : lva [.ref 1] ++ List.replicate 3 none = [some (.ref 1), none, none, none] := rfl
  rw [es]
  refine R.aload_n 1 dX1_atom_0 rfl rfl ?_
  refine Rch.callv (sd_X1_look _ _ h) dX1_atom_1 (lw_V q390 q392 qs4 q142 q393) dk_X1_look rcX (by omega) (Nat.le_of_ble_eq_true rfl) rfl rfl (Nat.le_of_ble_eq_true rfl) (kI 4 rfl fun r1 w2 h => ?_) kN
  refine R.ist1n 5 dX1_atom_4 rfl (Nat.le_of_ble_eq_true rfl) rfl ?_
  refine R.iload_n 6 dX1_atom_5 rfl rfl ?_
  refine R.bipush 8 dX1_atom_6 rfl (by decide +kernel) ?_
  refine R.icmp_ne 28 11 dX1_atom_8 (by decide) rfl (fun hc => ?_) (fun hc => ?_)
  · replace h := h.1 hc
    refine R.iload_n 29 dX1_atom_28 rfl rfl ?_
    refine R.if_le 60 32 dX1_atom_29 (by decide) rfl (fun hc => ?_) (fun hc => ?_)
    · replace h := h.1 hc
      exact Rch.dropk (s_X1_atom_60 hB Psum hPsum Q X _ _ h) ⟨rfl, ⟨rfl, trivial⟩⟩
    · replace h := h.2 hc
      refine R.ldcS (i := 1) 34 dX1_atom_32 rfl (List.mem_of_getElem? (i := 1) rfl) ?_
      refine R.iload_n 35 dX1_atom_34 rfl rfl ?_
      obtain ⟨h6, h⟩ := h
      refine Rch.callv (sd_J2_indexOf _ _ _ _ h) dX1_atom_35 (lw_V q395 q396 q397 q147 q398) dk_J2_indexOf (rcS 1 h6) (by omega) (Nat.le_of_ble_eq_true rfl) rfl rfl (Nat.le_of_ble_eq_true rfl) (kI 38 rfl fun r3 w4 h => ?_) kN
      refine R.if_lt 60 41 dX1_atom_38 (by decide) rfl (fun hc => ?_) (fun hc => ?_)
      · replace h := h.1 hc
        exact Rch.dropk (s_X1_atom_60 hB Psum hPsum Q X _ _ h) ⟨rfl, ⟨rfl, trivial⟩⟩
      · replace h := h.2 hc
        refine R.aload_n 42 dX1_atom_41 rfl rfl ?_
        refine R.dupR 43 dX1_atom_42 rfl ?_
        refine gf_13 46 dX1_atom_43 rfl rfl ?_
        refine R.iconst 47 dX1_atom_46 rfl ?_
        refine R.iadd 48 dX1_atom_47 rfl ?_
        replace h := h _ rfl
        refine pf_13 _ 51 dX1_atom_48 rfl rfl ?_
        obtain ⟨hZ, h⟩ := h
        refine R.new (ci := 2) (T := TX5) (ty0 := tyX5) (fs := [.int 0]) 54 dX1_atom_51 rfl rfl rfl in_X5 tyX5_ok q506 q507 q154 bl_X5 rfl (by decide) hZ (fun r6 hr1 hr2 => ?_)
        replace h := h r6 hr1 hr2 _ rfl
        refine R.dupR 55 dX1_atom_54 rfl ?_
        refine R.iload_n 56 dX1_atom_55 rfl rfl ?_
        refine Rch.callI (sd_X5_init _ _ _ _ h) dX1_atom_56 (lw_meth q510) q154 q508 q509 rfl dk_X5_init (by omega) (Nat.le_of_ble_eq_true rfl) rfl rfl (Nat.le_of_ble_eq_true rfl) (kV 59 rfl fun w9 h => ?_) kN
        exact R.retR dX1_atom_59 rfl h
  · replace h := h.2 hc
    refine R.aload_n 12 dX1_atom_11 rfl rfl ?_
    refine Rch.callv (sd_X1_opens _ _ _ h) dX1_atom_12 (lw_V q497 q499 qs9 q142 q500) dk_X1_opens rcX (by omega) (Nat.le_of_ble_eq_true rfl) rfl rfl (Nat.le_of_ble_eq_true rfl) (kV 15 rfl fun w11 h => ?_) (kP rfl)
    refine R.aload_n 16 dX1_atom_15 rfl rfl ?_
    refine Rch.callv (hPsum _ _ _ h) dX1_atom_16 (lw_V q485 q487 qs6 q142 q488) dk_X1_sum rcX (by omega) (Nat.le_of_ble_eq_true rfl) rfl rfl (Nat.le_of_ble_eq_true rfl) (kR 19 rfl fun r12 w13 h => ?_) (kP rfl)
    refine R.ast2n 20 dX1_atom_19 rfl (Nat.le_of_ble_eq_true rfl) rfl ?_
    refine R.aload_n 21 dX1_atom_20 rfl rfl ?_
    refine R.bipush 23 dX1_atom_21 rfl (by decide +kernel) ?_
    refine Rch.callv (sd_X1_closes _ _ _ _ h) dX1_atom_23 (lw_V q501 q503 qs10 q142 q504) dk_X1_closes rcX (by omega) (Nat.le_of_ble_eq_true rfl) rfl rfl (Nat.le_of_ble_eq_true rfl) (kV 26 rfl fun w15 h => ?_) (kP rfl)
    refine R.aload_n 27 dX1_atom_26 rfl rfl ?_
    exact R.retR dX1_atom_27 rfl h

abbrev k_X1_term : MK := ("FrostBox", cX1_term, 4, (some (.object "FrostBox$Sum")), [], "term")
def b_X1_term_47 (Psum : Wd → (Nat → Wd → Prop) → (Wd → Prop) → Prop) (Q : Nat → Wd → Prop) (X : Wd → Prop) (R12 : Option Nat → Int32 → Wd → Prop) (l1 : Option Nat) (l2 : Option Nat) (l3 : Int32) (w : Wd) : Prop := wp_X1_atom Psum w (fun r1 w2 => ∃ i3, l2 = some i3 ∧ (∃ fs, gF w2 i3 = some (4, fs)) ∧ wp_X7_add i3 l3 (some r1) w2 (fun w5 => wp_X1_look w5 (fun r6 w7 => R12 l2 r6 w7))) X
def b_X1_term_24 (Psum : Wd → (Nat → Wd → Prop) → (Wd → Prop) → Prop) (Q : Nat → Wd → Prop) (X : Wd → Prop) (R12 : Option Nat → Int32 → Wd → Prop) (l1 : Option Nat) (l2 : Option Nat) (l3 : Int32) (w : Wd) : Prop := ∀ w1, w1 = sI w 13 ((gI w 13) + (iz 1)) → (∀ i2, l2 = some i2 → b_X1_term_47 Psum Q X R12 l1 l2 l3 w1) ∧ (l2 = none → gZ w1 + 1 ≤ CM ∧ (∀ r3, 200 ≤ r3 → gF w1 r3 = none → ∀ w4, w4 = sZ (sF w1 r3 (4, [.null, .null, .null])) (gZ w1 + 1) → wp_X7_init r3 l1 w4 (fun w6 => b_X1_term_47 Psum Q X R12 l1 (some r3) l3 w6)))
def wl_X1_term_12 (Psum : Wd → (Nat → Wd → Prop) → (Wd → Prop) → Prop) (Q : Nat → Wd → Prop) (X : Wd → Prop) (l1 : Option Nat) (R12 : Option Nat → Int32 → Wd → Prop) (l2 : Option Nat) (l3 : Int32) (w : Wd) : Prop := (l3 = (iz 42) → b_X1_term_24 Psum Q X R12 l1 l2 l3 w) ∧ (¬ l3 = (iz 42) → (¬ l3 = (iz 47) → (∀ i1, l2 = some i1 → ∃ i2, l2 = some i2 ∧ Q i2 w) ∧ (l2 = none → ∃ i3, l1 = some i3 ∧ Q i3 w)) ∧ (l3 = (iz 47) → b_X1_term_24 Psum Q X R12 l1 l2 l3 w))
def lp_X1_term_12 (Psum : Wd → (Nat → Wd → Prop) → (Wd → Prop) → Prop) (Q : Nat → Wd → Prop) (X : Wd → Prop) (l1 : Option Nat) : Nat → Option Nat → Int32 → Wd → Prop
  | 0, _, _, _ => False
  | n + 1, l2, l3, w => wl_X1_term_12 Psum Q X l1 (lp_X1_term_12 Psum Q X l1 n) l2 l3 w
def wp_X1_term (Psum : Wd → (Nat → Wd → Prop) → (Wd → Prop) → Prop) (w : Wd) (Q : Nat → Wd → Prop) (X : Wd → Prop) : Prop := wp_X1_atom Psum w (fun r1 w2 => wp_X1_look w2 (fun r3 w4 => ∃ n5, lp_X1_term_12 Psum Q X (some r1) n5 none r3 w4)) X
set_option maxRecDepth 100000 in
set_option maxHeartbeats 4000000 in
theorem s_X1_term_47 {γ : GG} {dP : Nat} (hB : 4 ≤ dP) (Psum : Wd → (Nat → Wd → Prop) → (Wd → Prop) → Prop) (hPsum : ∀ (w : Wd) (Q : Nat → Wd → Prop) (X : Wd → Prop) , Psum w Q X → Ctr γ dP yX1_sum (ws_ yX1_sum cX1_sum 4 (some (.object "FrostBox$Sum"))) [.ref 1] w (qR Q) (xE "FrostBox$Fault" X)) (Q : Nat → Wd → Prop) (X : Wd → Prop) (R12 : Option Nat → Int32 → Wd → Prop) (l1 : Option Nat) (l2 : Option Nat) (l3 : Int32) (hR12 : ∀ (l2 : Option Nat) (l3 : Int32) (w : Wd), R12 l2 l3 w → Rch γ (dP + 2) k_X1_term 12 [some (.ref 1), some (rv l1), some (rv l2), some (.int l3)] [] w (qR Q) (xE "FrostBox$Fault" X)) : ∀ (w : Wd), b_X1_term_47 Psum Q X R12 l1 l2 l3 w → Rch γ (dP + 2) k_X1_term 47 [some (.ref 1), some (rv l1), some (rv l2), some (.int l3)] [] w (qR Q) (xE "FrostBox$Fault" X) := by
  intro w h
  unfold b_X1_term_47 at h
  refine R.aload_nQ 48 dX1_term_47 rfl rfl ?_
  refine R.iload_n 49 dX1_term_48 rfl rfl ?_
  refine R.aload_n 50 dX1_term_49 rfl rfl ?_
  refine Rch.callv (sd_X1_atom (dP := dP) (by omega) Psum hPsum _ _ _ h) dX1_term_50 (lw_V q493 q495 qs8 q142 q496) dk_X1_atom rcX (by omega) (Nat.le_of_ble_eq_true rfl) rfl rfl (Nat.le_trans (rmI (rmO rmZ)) (by decide)) (kR 53 rfl fun r1 w2 h => ?_) (kP rfl)
  obtain ⟨i3, ho, h⟩ := h
  refine R.dr2 ho ?_
  obtain ⟨⟨fs, hg⟩, h⟩ := h
  refine Rch.callv (sd_X7_add _ _ _ _ _ h) dX1_term_53 (lw_V q548 q549 q550 q156 q551) dk_X7_add (rcN hg rfl) (by omega) (Nat.le_of_ble_eq_true rfl) rfl rfl (Nat.le_of_ble_eq_true rfl) (kV 56 rfl fun w5 h => ?_) kN
  refine R.aload_n 57 dX1_term_56 rfl rfl ?_
  refine Rch.callv (sd_X1_look _ _ h) dX1_term_57 (lw_V q390 q392 qs4 q142 q393) dk_X1_look rcX (by omega) (Nat.le_of_ble_eq_true rfl) rfl rfl (Nat.le_of_ble_eq_true rfl) (kI 60 rfl fun r6 w7 h => ?_) kN
  refine R.ist3n 61 dX1_term_60 rfl (Nat.le_of_ble_eq_true rfl) (c1_rv _) ?_
  refine R.goto 12 dX1_term_61 (by decide) ?_
  exact Rch.dropk (hR12 _ _ _ h) ⟨rfl, ⟨rfl, ⟨rfl, ⟨rfl, trivial⟩⟩⟩⟩
set_option maxRecDepth 100000 in
set_option maxHeartbeats 4000000 in
theorem s_X1_term_24 {γ : GG} {dP : Nat} (hB : 4 ≤ dP) (Psum : Wd → (Nat → Wd → Prop) → (Wd → Prop) → Prop) (hPsum : ∀ (w : Wd) (Q : Nat → Wd → Prop) (X : Wd → Prop) , Psum w Q X → Ctr γ dP yX1_sum (ws_ yX1_sum cX1_sum 4 (some (.object "FrostBox$Sum"))) [.ref 1] w (qR Q) (xE "FrostBox$Fault" X)) (Q : Nat → Wd → Prop) (X : Wd → Prop) (R12 : Option Nat → Int32 → Wd → Prop) (l1 : Option Nat) (l2 : Option Nat) (l3 : Int32) (hR12 : ∀ (l2 : Option Nat) (l3 : Int32) (w : Wd), R12 l2 l3 w → Rch γ (dP + 2) k_X1_term 12 [some (.ref 1), some (rv l1), some (rv l2), some (.int l3)] [] w (qR Q) (xE "FrostBox$Fault" X)) : ∀ (w : Wd), b_X1_term_24 Psum Q X R12 l1 l2 l3 w → Rch γ (dP + 2) k_X1_term 24 [some (.ref 1), some (rv l1), some (rv l2), some (.int l3)] [] w (qR Q) (xE "FrostBox$Fault" X) := by
  intro w h
  unfold b_X1_term_24 at h
  refine R.aload_n 25 dX1_term_24 rfl rfl ?_
  refine R.dupR 26 dX1_term_25 rfl ?_
  refine gf_13 29 dX1_term_26 rfl rfl ?_
  refine R.iconst 30 dX1_term_29 rfl ?_
  refine R.iadd 31 dX1_term_30 rfl ?_
  replace h := h _ rfl
  refine pf_13 _ 34 dX1_term_31 rfl rfl ?_
  refine R.aload_nQ 35 dX1_term_34 rfl rfl ?_
  refine R.ifnonnull 47 38 dX1_term_35 (by decide) rfl (fun i2 hc => ?_) (fun hc => ?_)
  · replace h := h.1 i2 hc
    exact Rch.dropk (s_X1_term_47 hB Psum hPsum Q X _ _ _ _ hR12 _ h) ⟨rfl, ⟨rfl, ⟨rfl, ⟨rfl, trivial⟩⟩⟩⟩
  · replace h := h.2 hc
    obtain ⟨hZ, h⟩ := h
    refine R.new (ci := 4) (T := TX7) (ty0 := tyX7) (fs := [.null, .null, .null]) 41 dX1_term_38 rfl rfl rfl in_X7 tyX7_ok q532 q533 q156 bl_X7 rfl (by decide) hZ (fun r3 hr1 hr2 => ?_)
    replace h := h r3 hr1 hr2 _ rfl
    refine R.dupR 42 dX1_term_41 rfl ?_
    refine R.aload_nQ 43 dX1_term_42 rfl rfl ?_
    refine Rch.callI (sd_X7_init _ _ _ _ h) dX1_term_43 (lw_meth q536) q156 q534 q535 rfl dk_X7_init (by omega) (Nat.le_of_ble_eq_true rfl) rfl rfl (Nat.le_of_ble_eq_true rfl) (kV 46 rfl fun w6 h => ?_) kN
    refine R.ast2n 47 dX1_term_46 rfl (Nat.le_of_ble_eq_true rfl) (c1_rv _) ?_
    exact Rch.dropk (s_X1_term_47 hB Psum hPsum Q X _ _ _ _ hR12 _ h) ⟨rfl, ⟨rfl, ⟨rfl, ⟨rfl, trivial⟩⟩⟩⟩
set_option maxRecDepth 100000 in
set_option maxHeartbeats 4000000 in
theorem sl_X1_term_12 {γ : GG} {dP : Nat} (hB : 4 ≤ dP) (Psum : Wd → (Nat → Wd → Prop) → (Wd → Prop) → Prop) (hPsum : ∀ (w : Wd) (Q : Nat → Wd → Prop) (X : Wd → Prop) , Psum w Q X → Ctr γ dP yX1_sum (ws_ yX1_sum cX1_sum 4 (some (.object "FrostBox$Sum"))) [.ref 1] w (qR Q) (xE "FrostBox$Fault" X)) (Q : Nat → Wd → Prop) (X : Wd → Prop) (l1 : Option Nat) : ∀ (n : Nat) (l2 : Option Nat) (l3 : Int32) (w : Wd), lp_X1_term_12 Psum Q X l1 n l2 l3 w → Rch γ (dP + 2) k_X1_term 12 [some (.ref 1), some (rv l1), some (rv l2), some (.int l3)] [] w (qR Q) (xE "FrostBox$Fault" X) := by
  intro n
  induction n with
  | zero => intro _ _ _ h; exact h.elim
  | succ n hR12 =>
    intro l2 l3 w h
    have h : wl_X1_term_12 Psum Q X l1 (lp_X1_term_12 Psum Q X l1 n) l2 l3 w := h
    unfold wl_X1_term_12 at h
    refine R.iload_n 13 dX1_term_12 rfl rfl ?_
    refine R.bipush 15 dX1_term_13 rfl (by decide +kernel) ?_
    refine R.icmp_eq 24 18 dX1_term_15 (by decide) rfl (fun hc => ?_) (fun hc => ?_)
    · replace h := h.1 hc
      exact Rch.dropk (s_X1_term_24 hB Psum hPsum Q X _ _ _ _ hR12 _ h) ⟨rfl, ⟨rfl, ⟨rfl, ⟨rfl, trivial⟩⟩⟩⟩
    · replace h := h.2 hc
      refine R.iload_n 19 dX1_term_18 rfl rfl ?_
      refine R.bipush 21 dX1_term_19 rfl (by decide +kernel) ?_
      refine R.icmp_ne 64 24 dX1_term_21 (by decide) rfl (fun hc => ?_) (fun hc => ?_)
      · replace h := h.1 hc
        refine R.aload_nQ 65 dX1_term_64 rfl rfl ?_
        refine R.ifnonnull 72 68 dX1_term_65 (by decide) rfl (fun i1 hc => ?_) (fun hc => ?_)
        · replace h := h.1 i1 hc
          refine R.aload_nQ 73 dX1_term_72 rfl rfl ?_
          obtain ⟨i2, ho, h⟩ := h
          refine R.dr0 ho ?_
          exact R.retR dX1_term_73 rfl h
        · replace h := h.2 hc
          refine R.aload_nQ 69 dX1_term_68 rfl rfl ?_
          refine R.goto 73 dX1_term_69 (by decide) ?_
          obtain ⟨i3, ho, h⟩ := h
          refine R.dr0 ho ?_
          exact R.retR dX1_term_73 rfl h
      · replace h := h.2 hc
        exact Rch.dropk (s_X1_term_24 hB Psum hPsum Q X _ _ _ _ hR12 _ h) ⟨rfl, ⟨rfl, ⟨rfl, ⟨rfl, trivial⟩⟩⟩⟩
set_option maxRecDepth 100000 in
set_option maxHeartbeats 4000000 in
theorem sd_X1_term {γ : GG} {dP : Nat} (hB : 4 ≤ dP) (Psum : Wd → (Nat → Wd → Prop) → (Wd → Prop) → Prop) (hPsum : ∀ (w : Wd) (Q : Nat → Wd → Prop) (X : Wd → Prop) , Psum w Q X → Ctr γ dP yX1_sum (ws_ yX1_sum cX1_sum 4 (some (.object "FrostBox$Sum"))) [.ref 1] w (qR Q) (xE "FrostBox$Fault" X)) (w : Wd) (Q : Nat → Wd → Prop) (X : Wd → Prop) : wp_X1_term Psum w Q X → Ctr γ (dP + 2) yX1_term (ws_ yX1_term cX1_term 4 (some (.object "FrostBox$Sum"))) [.ref 1] w (qR Q) (xE "FrostBox$Fault" X) := by
  intro h
  unfold wp_X1_term at h
  refine Ctr.of (μ := k_X1_term) (by decide) rfl rfl rfl (Nat.le_of_ble_eq_true rfl) ⟨3, ?_⟩
  have es : lva [.ref 1] ++ List.replicate 3 none = [some (.ref 1), none, none, none] := rfl
  rw [es]
  refine R.aload_n 1 dX1_term_0 rfl rfl ?_
  refine Rch.callv (sd_X1_atom (dP := dP) (by omega) Psum hPsum _ _ _ h) dX1_term_1 (lw_V q493 q495 qs8 q142 q496) dk_X1_atom rcX (by omega) (Nat.le_of_ble_eq_true rfl) rfl rfl (Nat.le_of_ble_eq_true rfl) (kR 4 rfl fun r1 w2 h => ?_) (kP rfl)
  refine R.ast1n 5 dX1_term_4 rfl (Nat.le_of_ble_eq_true rfl) rfl ?_
  refine R.null 6 dX1_term_5 rfl ?_
  refine R.qst2n (x := none) 7 dX1_term_6 rfl (Nat.le_of_ble_eq_true rfl) rfl ?_
  refine R.aload_n 8 dX1_term_7 rfl rfl ?_
  refine Rch.callv (sd_X1_look _ _ h) dX1_term_8 (lw_V q390 q392 qs4 q142 q393) dk_X1_look rcX (by omega) (Nat.le_of_ble_eq_true rfl) rfl rfl (Nat.le_of_ble_eq_true rfl) (kI 11 rfl fun r3 w4 h => ?_) kN
  refine R.ist3n 12 dX1_term_11 rfl (Nat.le_of_ble_eq_true rfl) rfl ?_
  obtain ⟨n5, h⟩ := h
  exact Rch.dropk (sl_X1_term_12 hB Psum hPsum Q X _ n5 _ _ _ h) ⟨rfl, ⟨rfl, ⟨rfl, ⟨rfl, trivial⟩⟩⟩⟩

abbrev k_X1_sum : MK := ("FrostBox", cX1_sum, 4, (some (.object "FrostBox$Sum")), [], "sum")
def b_X1_sum_47 (Psum : Wd → (Nat → Wd → Prop) → (Wd → Prop) → Prop) (Q : Nat → Wd → Prop) (X : Wd → Prop) (R12 : Option Nat → Int32 → Wd → Prop) (l1 : Option Nat) (l2 : Option Nat) (l3 : Int32) (w : Wd) : Prop := wp_X1_term Psum w (fun r1 w2 => ∃ i3, l2 = some i3 ∧ (∃ fs, gF w2 i3 = some (4, fs)) ∧ wp_X7_add i3 l3 (some r1) w2 (fun w5 => wp_X1_look w5 (fun r6 w7 => R12 l2 r6 w7))) X
def b_X1_sum_24 (Psum : Wd → (Nat → Wd → Prop) → (Wd → Prop) → Prop) (Q : Nat → Wd → Prop) (X : Wd → Prop) (R12 : Option Nat → Int32 → Wd → Prop) (l1 : Option Nat) (l2 : Option Nat) (l3 : Int32) (w : Wd) : Prop := ∀ w1, w1 = sI w 13 ((gI w 13) + (iz 1)) → (∀ i2, l2 = some i2 → b_X1_sum_47 Psum Q X R12 l1 l2 l3 w1) ∧ (l2 = none → gZ w1 + 1 ≤ CM ∧ (∀ r3, 200 ≤ r3 → gF w1 r3 = none → ∀ w4, w4 = sZ (sF w1 r3 (4, [.null, .null, .null])) (gZ w1 + 1) → wp_X7_init r3 l1 w4 (fun w6 => b_X1_sum_47 Psum Q X R12 l1 (some r3) l3 w6)))
def wl_X1_sum_12 (Psum : Wd → (Nat → Wd → Prop) → (Wd → Prop) → Prop) (Q : Nat → Wd → Prop) (X : Wd → Prop) (l1 : Option Nat) (R12 : Option Nat → Int32 → Wd → Prop) (l2 : Option Nat) (l3 : Int32) (w : Wd) : Prop := (l3 = (iz 43) → b_X1_sum_24 Psum Q X R12 l1 l2 l3 w) ∧ (¬ l3 = (iz 43) → (¬ l3 = (iz 45) → (∀ i1, l2 = some i1 → ∃ i2, l2 = some i2 ∧ Q i2 w) ∧ (l2 = none → ∃ i3, l1 = some i3 ∧ Q i3 w)) ∧ (l3 = (iz 45) → b_X1_sum_24 Psum Q X R12 l1 l2 l3 w))
def lp_X1_sum_12 (Psum : Wd → (Nat → Wd → Prop) → (Wd → Prop) → Prop) (Q : Nat → Wd → Prop) (X : Wd → Prop) (l1 : Option Nat) : Nat → Option Nat → Int32 → Wd → Prop
  | 0, _, _, _ => False
  | n + 1, l2, l3, w => wl_X1_sum_12 Psum Q X l1 (lp_X1_sum_12 Psum Q X l1 n) l2 l3 w
def wp_X1_sum (Psum : Wd → (Nat → Wd → Prop) → (Wd → Prop) → Prop) (w : Wd) (Q : Nat → Wd → Prop) (X : Wd → Prop) : Prop := wp_X1_term Psum w (fun r1 w2 => wp_X1_look w2 (fun r3 w4 => ∃ n5, lp_X1_sum_12 Psum Q X (some r1) n5 none r3 w4)) X
set_option maxRecDepth 100000 in
set_option maxHeartbeats 4000000 in
theorem s_X1_sum_47 {γ : GG} {dP : Nat} (hB : 4 ≤ dP) (Psum : Wd → (Nat → Wd → Prop) → (Wd → Prop) → Prop) (hPsum : ∀ (w : Wd) (Q : Nat → Wd → Prop) (X : Wd → Prop) , Psum w Q X → Ctr γ dP yX1_sum (ws_ yX1_sum cX1_sum 4 (some (.object "FrostBox$Sum"))) [.ref 1] w (qR Q) (xE "FrostBox$Fault" X)) (Q : Nat → Wd → Prop) (X : Wd → Prop) (R12 : Option Nat → Int32 → Wd → Prop) (l1 : Option Nat) (l2 : Option Nat) (l3 : Int32) (hR12 : ∀ (l2 : Option Nat) (l3 : Int32) (w : Wd), R12 l2 l3 w → Rch γ (dP + 3) k_X1_sum 12 [some (.ref 1), some (rv l1), some (rv l2), some (.int l3)] [] w (qR Q) (xE "FrostBox$Fault" X)) : ∀ (w : Wd), b_X1_sum_47 Psum Q X R12 l1 l2 l3 w → Rch γ (dP + 3) k_X1_sum 47 [some (.ref 1), some (rv l1), some (rv l2), some (.int l3)] [] w (qR Q) (xE "FrostBox$Fault" X) := by
  intro w h
  unfold b_X1_sum_47 at h
  refine R.aload_nQ 48 dX1_sum_47 rfl rfl ?_
  refine R.iload_n 49 dX1_sum_48 rfl rfl ?_
  refine R.aload_n 50 dX1_sum_49 rfl rfl ?_
  refine Rch.callv (sd_X1_term (dP := dP) (by omega) Psum hPsum _ _ _ h) dX1_sum_50 (lw_V q489 q491 qs7 q142 q492) dk_X1_term rcX (by omega) (Nat.le_of_ble_eq_true rfl) rfl rfl (Nat.le_trans (rmI (rmO rmZ)) (by decide)) (kR 53 rfl fun r1 w2 h => ?_) (kP rfl)
  obtain ⟨i3, ho, h⟩ := h
  refine R.dr2 ho ?_
  obtain ⟨⟨fs, hg⟩, h⟩ := h
  refine Rch.callv (sd_X7_add _ _ _ _ _ h) dX1_sum_53 (lw_V q548 q549 q550 q156 q551) dk_X7_add (rcN hg rfl) (by omega) (Nat.le_of_ble_eq_true rfl) rfl rfl (Nat.le_of_ble_eq_true rfl) (kV 56 rfl fun w5 h => ?_) kN
  refine R.aload_n 57 dX1_sum_56 rfl rfl ?_
  refine Rch.callv (sd_X1_look _ _ h) dX1_sum_57 (lw_V q390 q392 qs4 q142 q393) dk_X1_look rcX (by omega) (Nat.le_of_ble_eq_true rfl) rfl rfl (Nat.le_of_ble_eq_true rfl) (kI 60 rfl fun r6 w7 h => ?_) kN
  refine R.ist3n 61 dX1_sum_60 rfl (Nat.le_of_ble_eq_true rfl) (c1_rv _) ?_
  refine R.goto 12 dX1_sum_61 (by decide) ?_
  exact Rch.dropk (hR12 _ _ _ h) ⟨rfl, ⟨rfl, ⟨rfl, ⟨rfl, trivial⟩⟩⟩⟩
set_option maxRecDepth 100000 in
set_option maxHeartbeats 4000000 in
theorem s_X1_sum_24 {γ : GG} {dP : Nat} (hB : 4 ≤ dP) (Psum : Wd → (Nat → Wd → Prop) → (Wd → Prop) → Prop) (hPsum : ∀ (w : Wd) (Q : Nat → Wd → Prop) (X : Wd → Prop) , Psum w Q X → Ctr γ dP yX1_sum (ws_ yX1_sum cX1_sum 4 (some (.object "FrostBox$Sum"))) [.ref 1] w (qR Q) (xE "FrostBox$Fault" X)) (Q : Nat → Wd → Prop) (X : Wd → Prop) (R12 : Option Nat → Int32 → Wd → Prop) (l1 : Option Nat) (l2 : Option Nat) (l3 : Int32) (hR12 : ∀ (l2 : Option Nat) (l3 : Int32) (w : Wd), R12 l2 l3 w → Rch γ (dP + 3) k_X1_sum 12 [some (.ref 1), some (rv l1), some (rv l2), some (.int l3)] [] w (qR Q) (xE "FrostBox$Fault" X)) : ∀ (w : Wd), b_X1_sum_24 Psum Q X R12 l1 l2 l3 w → Rch γ (dP + 3) k_X1_sum 24 [some (.ref 1), some (rv l1), some (rv l2), some (.int l3)] [] w (qR Q) (xE "FrostBox$Fault" X) := by
  intro w h
  unfold b_X1_sum_24 at h
  refine R.aload_n 25 dX1_sum_24 rfl rfl ?_
  refine R.dupR 26 dX1_sum_25 rfl ?_
  refine gf_13 29 dX1_sum_26 rfl rfl ?_
  refine R.iconst 30 dX1_sum_29 rfl ?_
  refine R.iadd 31 dX1_sum_30 rfl ?_
  replace h := h _ rfl
  refine pf_13 _ 34 dX1_sum_31 rfl rfl ?_
  refine R.aload_nQ 35 dX1_sum_34 rfl rfl ?_
  refine R.ifnonnull 47 38 dX1_sum_35 (by decide) rfl (fun i2 hc => ?_) (fun hc => ?_)
  · replace h := h.1 i2 hc
    exact Rch.dropk (s_X1_sum_47 hB Psum hPsum Q X _ _ _ _ hR12 _ h) ⟨rfl, ⟨rfl, ⟨rfl, ⟨rfl, trivial⟩⟩⟩⟩
  · replace h := h.2 hc
    obtain ⟨hZ, h⟩ := h
    refine R.new (ci := 4) (T := TX7) (ty0 := tyX7) (fs := [.null, .null, .null]) 41 dX1_sum_38 rfl rfl rfl in_X7 tyX7_ok q532 q533 q156 bl_X7 rfl (by decide) hZ (fun r3 hr1 hr2 => ?_)
    replace h := h r3 hr1 hr2 _ rfl
    refine R.dupR 42 dX1_sum_41 rfl ?_
    refine R.aload_nQ 43 dX1_sum_42 rfl rfl ?_
    refine Rch.callI (sd_X7_init _ _ _ _ h) dX1_sum_43 (lw_meth q536) q156 q534 q535 rfl dk_X7_init (by omega) (Nat.le_of_ble_eq_true rfl) rfl rfl (Nat.le_of_ble_eq_true rfl) (kV 46 rfl fun w6 h => ?_) kN
    refine R.ast2n 47 dX1_sum_46 rfl (Nat.le_of_ble_eq_true rfl) (c1_rv _) ?_
    exact Rch.dropk (s_X1_sum_47 hB Psum hPsum Q X _ _ _ _ hR12 _ h) ⟨rfl, ⟨rfl, ⟨rfl, ⟨rfl, trivial⟩⟩⟩⟩
set_option maxRecDepth 100000 in
set_option maxHeartbeats 4000000 in
theorem sl_X1_sum_12 {γ : GG} {dP : Nat} (hB : 4 ≤ dP) (Psum : Wd → (Nat → Wd → Prop) → (Wd → Prop) → Prop) (hPsum : ∀ (w : Wd) (Q : Nat → Wd → Prop) (X : Wd → Prop) , Psum w Q X → Ctr γ dP yX1_sum (ws_ yX1_sum cX1_sum 4 (some (.object "FrostBox$Sum"))) [.ref 1] w (qR Q) (xE "FrostBox$Fault" X)) (Q : Nat → Wd → Prop) (X : Wd → Prop) (l1 : Option Nat) : ∀ (n : Nat) (l2 : Option Nat) (l3 : Int32) (w : Wd), lp_X1_sum_12 Psum Q X l1 n l2 l3 w → Rch γ (dP + 3) k_X1_sum 12 [some (.ref 1), some (rv l1), some (rv l2), some (.int l3)] [] w (qR Q) (xE "FrostBox$Fault" X) := by
  intro n
  induction n with
  | zero => intro _ _ _ h; exact h.elim
  | succ n hR12 =>
    intro l2 l3 w h
    have h : wl_X1_sum_12 Psum Q X l1 (lp_X1_sum_12 Psum Q X l1 n) l2 l3 w := h
    unfold wl_X1_sum_12 at h
    refine R.iload_n 13 dX1_sum_12 rfl rfl ?_
    refine R.bipush 15 dX1_sum_13 rfl (by decide +kernel) ?_
    refine R.icmp_eq 24 18 dX1_sum_15 (by decide) rfl (fun hc => ?_) (fun hc => ?_)
    · replace h := h.1 hc
      exact Rch.dropk (s_X1_sum_24 hB Psum hPsum Q X _ _ _ _ hR12 _ h) ⟨rfl, ⟨rfl, ⟨rfl, ⟨rfl, trivial⟩⟩⟩⟩
    · replace h := h.2 hc
      refine R.iload_n 19 dX1_sum_18 rfl rfl ?_
      refine R.bipush 21 dX1_sum_19 rfl (by decide +kernel) ?_
      refine R.icmp_ne 64 24 dX1_sum_21 (by decide) rfl (fun hc => ?_) (fun hc => ?_)
      · replace h := h.1 hc
        refine R.aload_nQ 65 dX1_sum_64 rfl rfl ?_
        refine R.ifnonnull 72 68 dX1_sum_65 (by decide) rfl (fun i1 hc => ?_) (fun hc => ?_)
        · replace h := h.1 i1 hc
          refine R.aload_nQ 73 dX1_sum_72 rfl rfl ?_
          obtain ⟨i2, ho, h⟩ := h
          refine R.dr0 ho ?_
          exact R.retR dX1_sum_73 rfl h
        · replace h := h.2 hc
          refine R.aload_nQ 69 dX1_sum_68 rfl rfl ?_
          refine R.goto 73 dX1_sum_69 (by decide) ?_
          obtain ⟨i3, ho, h⟩ := h
          refine R.dr0 ho ?_
          exact R.retR dX1_sum_73 rfl h
      · replace h := h.2 hc
        exact Rch.dropk (s_X1_sum_24 hB Psum hPsum Q X _ _ _ _ hR12 _ h) ⟨rfl, ⟨rfl, ⟨rfl, ⟨rfl, trivial⟩⟩⟩⟩
set_option maxRecDepth 100000 in
set_option maxHeartbeats 4000000 in
theorem sd_X1_sum {γ : GG} {dP : Nat} (hB : 4 ≤ dP) (Psum : Wd → (Nat → Wd → Prop) → (Wd → Prop) → Prop) (hPsum : ∀ (w : Wd) (Q : Nat → Wd → Prop) (X : Wd → Prop) , Psum w Q X → Ctr γ dP yX1_sum (ws_ yX1_sum cX1_sum 4 (some (.object "FrostBox$Sum"))) [.ref 1] w (qR Q) (xE "FrostBox$Fault" X)) (w : Wd) (Q : Nat → Wd → Prop) (X : Wd → Prop) : wp_X1_sum Psum w Q X → Ctr γ (dP + 3) yX1_sum (ws_ yX1_sum cX1_sum 4 (some (.object "FrostBox$Sum"))) [.ref 1] w (qR Q) (xE "FrostBox$Fault" X) := by
  intro h
  unfold wp_X1_sum at h
  refine Ctr.of (μ := k_X1_sum) (by decide) rfl rfl rfl (Nat.le_of_ble_eq_true rfl) ⟨3, ?_⟩
  have es : lva [.ref 1] ++ List.replicate 3 none = [some (.ref 1), none, none, none] := rfl
  rw [es]
  refine R.aload_n 1 dX1_sum_0 rfl rfl ?_
  refine Rch.callv (sd_X1_term (dP := dP) (by omega) Psum hPsum _ _ _ h) dX1_sum_1 (lw_V q489 q491 qs7 q142 q492) dk_X1_term rcX (by omega) (Nat.le_of_ble_eq_true rfl) rfl rfl (Nat.le_of_ble_eq_true rfl) (kR 4 rfl fun r1 w2 h => ?_) (kP rfl)
  refine R.ast1n 5 dX1_sum_4 rfl (Nat.le_of_ble_eq_true rfl) rfl ?_
  refine R.null 6 dX1_sum_5 rfl ?_
  refine R.qst2n (x := none) 7 dX1_sum_6 rfl (Nat.le_of_ble_eq_true rfl) rfl ?_
  refine R.aload_n 8 dX1_sum_7 rfl rfl ?_
  refine Rch.callv (sd_X1_look _ _ h) dX1_sum_8 (lw_V q390 q392 qs4 q142 q393) dk_X1_look rcX (by omega) (Nat.le_of_ble_eq_true rfl) rfl rfl (Nat.le_of_ble_eq_true rfl) (kI 11 rfl fun r3 w4 h => ?_) kN
  refine R.ist3n 12 dX1_sum_11 rfl (Nat.le_of_ble_eq_true rfl) rfl ?_
  obtain ⟨n5, h⟩ := h
  exact Rch.dropk (sl_X1_sum_12 hB Psum hPsum Q X _ n5 _ _ _ h) ⟨rfl, ⟨rfl, ⟨rfl, ⟨rfl, trivial⟩⟩⟩⟩

def pf_X1_sum : Nat → Wd → (Nat → Wd → Prop) → (Wd → Prop) → Prop
  | 0 => fun _ _ _ => False
  | n + 1 => wp_X1_sum (pf_X1_sum n)
theorem sfn_X1_sum {γ : GG} : ∀ (n : Nat) (w : Wd) (Q : Nat → Wd → Prop) (X : Wd → Prop) , pf_X1_sum n w Q X → Ctr γ (4 + 3 * n) yX1_sum (ws_ yX1_sum cX1_sum 4 (some (.object "FrostBox$Sum"))) [.ref 1] w (qR Q) (xE "FrostBox$Fault" X)
  | 0, _, _, _, h => h.elim
  | n + 1, _, _, _, h => sd_X1_sum (dP := 4 + 3 * n) (by omega) (pf_X1_sum n) (sfn_X1_sum n) _ _ _ h
theorem sf_X1_sum {γ : GG} (n : Nat) (w : Wd) (Q : Nat → Wd → Prop) (X : Wd → Prop) (h : pf_X1_sum n w Q X) : Ctr γ (4 + 3 * n) yX1_sum (ws_ yX1_sum cX1_sum 4 (some (.object "FrostBox$Sum"))) [.ref 1] w (qR Q) (xE "FrostBox$Fault" X) := sfn_X1_sum n w Q X h

abbrev k_X1_isSign : MK := ("FrostBox", cX1_isSign, 1, (some .boolean), [], "isSign")
def wp_X1_isSign (l0 : Int32) (w : Wd) (Q : Int32 → Wd → Prop) : Prop := (l0 = (iz 61) → Q (iz 1) w) ∧ (¬ l0 = (iz 61) → (l0 = (iz 60) → Q (iz 1) w) ∧ (¬ l0 = (iz 60) → (¬ l0 = (iz 62) → Q (iz 0) w) ∧ (l0 = (iz 62) → Q (iz 1) w)))
set_option maxRecDepth 100000 in
set_option maxHeartbeats 4000000 in
theorem sd_X1_isSign {γ : GG} (l0 : Int32) (w : Wd) (Q : Int32 → Wd → Prop) : wp_X1_isSign l0 w Q → Ctr γ 1 yX1_isSign (ws_ yX1_isSign cX1_isSign 1 (some .boolean)) [.int l0] w (qI Q) xN := by
  intro h
  unfold wp_X1_isSign at h
  refine Ctr.of (μ := k_X1_isSign) (by decide) rfl rfl rfl (Nat.le_of_ble_eq_true rfl) ⟨0, ?_⟩
  have es : lva [.int l0] ++ List.replicate 0 none = [some (.int l0)] := rfl
  rw [es]
  refine R.iload_n 1 dX1_isSign_0 rfl rfl ?_
  refine R.bipush 3 dX1_isSign_1 rfl (by decide +kernel) ?_
  refine R.icmp_eq 18 6 dX1_isSign_3 (by decide) rfl (fun hc => ?_) (fun hc => ?_)
  · replace h := h.1 hc
    refine R.iconst 19 dX1_isSign_18 rfl ?_
    refine R.goto 23 dX1_isSign_19 (by decide) ?_
    exact R.retZ dX1_isSign_23 rfl zok1 h
  · replace h := h.2 hc
    refine R.iload_n 7 dX1_isSign_6 rfl rfl ?_
    refine R.bipush 9 dX1_isSign_7 rfl (by decide +kernel) ?_
    refine R.icmp_eq 18 12 dX1_isSign_9 (by decide) rfl (fun hc => ?_) (fun hc => ?_)
    · replace h := h.1 hc
      refine R.iconst 19 dX1_isSign_18 rfl ?_
      refine R.goto 23 dX1_isSign_19 (by decide) ?_
      exact R.retZ dX1_isSign_23 rfl zok1 h
    · replace h := h.2 hc
      refine R.iload_n 13 dX1_isSign_12 rfl rfl ?_
      refine R.bipush 15 dX1_isSign_13 rfl (by decide +kernel) ?_
      refine R.icmp_ne 22 18 dX1_isSign_15 (by decide) rfl (fun hc => ?_) (fun hc => ?_)
      · replace h := h.1 hc
        refine R.iconst 23 dX1_isSign_22 rfl ?_
        exact R.retZ dX1_isSign_23 rfl zok0 h
      · replace h := h.2 hc
        refine R.iconst 19 dX1_isSign_18 rfl ?_
        refine R.goto 23 dX1_isSign_19 (by decide) ?_
        exact R.retZ dX1_isSign_23 rfl zok1 h

abbrev k_X1_compare : MK := ("FrostBox", cX1_compare, 3, (some (.object "FrostBox$Test")), [], "compare")
def wp_X1_compare (l1 : Option Nat) (w : Wd) (Q : Nat → Wd → Prop) (X : Wd → Prop) : Prop := wp_X1_look w (fun r1 w2 => wp_X1_isSign r1 w2 (fun r3 w4 => wp_X1_need r3 w4 (fun w6 => ∀ w7, w7 = sI w6 13 ((gI w6 13) + (iz 1)) → gZ w7 + 1 ≤ CM ∧ (∀ r8, 200 ≤ r8 → gF w7 r8 = none → ∀ w9, w9 = sZ (sF w7 r8 (8, [.null, .int 0, .null, .null])) (gZ w7 + 1) → pf_X1_sum 10 w9 (fun r10 w11 => wp_X12_init r8 r1 l1 (some r10) w11 (fun w13 => Q r8 w13)) X)) X))
set_option maxRecDepth 100000 in
set_option maxHeartbeats 4000000 in
theorem sd_X1_compare {γ : GG} (l1 : Option Nat) (w : Wd) (Q : Nat → Wd → Prop) (X : Wd → Prop) : wp_X1_compare l1 w Q X → Ctr γ 35 yX1_compare (ws_ yX1_compare cX1_compare 3 (some (.object "FrostBox$Test"))) [.ref 1, rv l1] w (qR Q) (xE "FrostBox$Fault" X) := by
  intro h
  unfold wp_X1_compare at h
  refine Ctr.of (μ := k_X1_compare) (by decide) rfl rfl rfl (by cases l1 <;> exact Nat.le_of_ble_eq_true rfl) ⟨1, ?_⟩
  have es : lva [.ref 1, rv l1] ++ List.replicate 1 none = [some (.ref 1), some (rv l1), none] := by cases l1 <;> rfl
  rw [es]
  refine R.aload_n 1 dX1_compare_0 rfl rfl ?_
  refine Rch.callv (sd_X1_look _ _ h) dX1_compare_1 (lw_V q390 q392 qs4 q142 q393) dk_X1_look rcX (by decide) (Nat.le_of_ble_eq_true rfl) rfl rfl (Nat.le_of_ble_eq_true rfl) (kI 4 rfl fun r1 w2 h => ?_) kN
  refine R.ist2n 5 dX1_compare_4 rfl (Nat.le_of_ble_eq_true rfl) (c1_rv _) ?_
  refine R.aload_n 6 dX1_compare_5 rfl rfl ?_
  refine R.iload_n 7 dX1_compare_6 rfl rfl ?_
  refine Rch.calls (sd_X1_isSign _ _ _ h) dX1_compare_7 (lw_S q568 q569 q142 q570) dk_X1_isSign (by decide) (Nat.le_of_ble_eq_true rfl) rfl rfl (Nat.le_of_ble_eq_true rfl) (kI 10 rfl fun r3 w4 h => ?_) kN
  refine Rch.callv (sd_X1_need _ _ _ _ h) dX1_compare_10 (lw_V q481 q483 qs5 q142 q484) dk_X1_need rcX (by decide) (Nat.le_of_ble_eq_true rfl) rfl rfl (Nat.le_of_ble_eq_true rfl) (kV 13 rfl fun w6 h => ?_) (kP rfl)
  refine R.aload_n 14 dX1_compare_13 rfl rfl ?_
  refine R.dupR 15 dX1_compare_14 rfl ?_
  refine gf_13 18 dX1_compare_15 rfl rfl ?_
  refine R.iconst 19 dX1_compare_18 rfl ?_
  refine R.iadd 20 dX1_compare_19 rfl ?_
  replace h := h _ rfl
  refine pf_13 _ 23 dX1_compare_20 rfl rfl ?_
  obtain ⟨hZ, h⟩ := h
  refine R.new (ci := 8) (T := TX12) (ty0 := tyX12) (fs := [.null, .int 0, .null, .null]) 26 dX1_compare_23 rfl rfl rfl in_X12 tyX12_ok q624 q625 q161 bl_X12 rfl (by decide) hZ (fun r8 hr1 hr2 => ?_)
  replace h := h r8 hr1 hr2 _ rfl
  refine R.dupR 27 dX1_compare_26 rfl ?_
  refine R.iload_n 28 dX1_compare_27 rfl rfl ?_
  refine R.aload_nQ 29 dX1_compare_28 rfl rfl ?_
  refine R.aload_n 30 dX1_compare_29 rfl rfl ?_
  refine Rch.callv (sf_X1_sum 10 _ _ _ h) dX1_compare_30 (lw_V q485 q487 qs6 q142 q488) dk_X1_sum rcX (by decide) (Nat.le_of_ble_eq_true rfl) rfl rfl (Nat.le_trans (rmO (rmI (rmR (rmR rmZ)))) (by decide)) (kR 33 rfl fun r10 w11 h => ?_) (kP rfl)
  refine Rch.callI (sd_X12_init _ _ _ _ _ _ h) dX1_compare_33 (lw_meth q628) q161 q626 q627 rfl dk_X12_init (by decide) (Nat.le_of_ble_eq_true rfl) rfl rfl (Nat.le_of_ble_eq_true rfl) (kV 36 rfl fun w13 h => ?_) kN
  exact R.retR dX1_compare_36 rfl h

abbrev k_X1_part : MK := ("FrostBox", cX1_part, 4, (some (.object "FrostBox$Test")), [], "part")
def b_X1_part_52 (Punit : Wd → (Nat → Wd → Prop) → (Wd → Prop) → Prop) (Q : Nat → Wd → Prop) (X : Wd → Prop) (R19 : Option Nat → Wd → Prop) (l2 : Option Nat) (l3 : Option Nat) (w : Wd) : Prop := Punit w (fun r1 w2 => ∃ i3, l3 = some i3 ∧ (∃ fs, gF w2 i3 = some (9, fs)) ∧ wp_X13_add i3 (some r1) w2 (fun w5 => R19 l3 w5)) X
def wl_X1_part_19 (Punit : Wd → (Nat → Wd → Prop) → (Wd → Prop) → Prop) (Q : Nat → Wd → Prop) (X : Wd → Prop) (l2 : Option Nat) (R19 : Option Nat → Wd → Prop) (l3 : Option Nat) (w : Wd) : Prop := wp_X1_look w (fun r1 w2 => (¬ r1 = (iz 38) → (∀ i3, l3 = some i3 → ∃ i4, l3 = some i4 ∧ Q i4 w2) ∧ (l3 = none → ∃ i5, l2 = some i5 ∧ Q i5 w2)) ∧ (r1 = (iz 38) → ∀ w6, w6 = sI w2 13 ((gI w2 13) + (iz 1)) → (∀ i7, l3 = some i7 → b_X1_part_52 Punit Q X R19 l2 l3 w6) ∧ (l3 = none → gZ w6 + 1 ≤ CM ∧ (∀ r8, 200 ≤ r8 → gF w6 r8 = none → ∀ w9, w9 = sZ (sF w6 r8 (9, [.null, .int 0, .null, .null])) (gZ w6 + 1) → wp_X13_init r8 (iz 1) l2 w9 (fun w11 => b_X1_part_52 Punit Q X R19 l2 (some r8) w11)))))
def lp_X1_part_19 (Punit : Wd → (Nat → Wd → Prop) → (Wd → Prop) → Prop) (Q : Nat → Wd → Prop) (X : Wd → Prop) (l2 : Option Nat) : Nat → Option Nat → Wd → Prop
  | 0, _, _ => False
  | n + 1, l3, w => wl_X1_part_19 Punit Q X l2 (lp_X1_part_19 Punit Q X l2 n) l3 w
def wp_X1_part (Punit : Wd → (Nat → Wd → Prop) → (Wd → Prop) → Prop) (l1 : Option Nat) (w : Wd) (Q : Nat → Wd → Prop) (X : Wd → Prop) : Prop := (∀ i1, l1 = some i1 → wp_X1_compare l1 w (fun r2 w3 => ∃ n4, lp_X1_part_19 Punit Q X (some r2) n4 none w3) X) ∧ (l1 = none → Punit w (fun r6 w7 => ∃ n8, lp_X1_part_19 Punit Q X (some r6) n8 none w7) X)
set_option maxRecDepth 100000 in
set_option maxHeartbeats 4000000 in
theorem s_X1_part_52 {γ : GG} {dP : Nat} (hB : 35 ≤ dP) (Punit : Wd → (Nat → Wd → Prop) → (Wd → Prop) → Prop) (hPunit : ∀ (w : Wd) (Q : Nat → Wd → Prop) (X : Wd → Prop) , Punit w Q X → Ctr γ dP yX1_unit (ws_ yX1_unit cX1_unit 3 (some (.object "FrostBox$Test"))) [.ref 1] w (qR Q) (xE "FrostBox$Fault" X)) (Q : Nat → Wd → Prop) (X : Wd → Prop) (R19 : Option Nat → Wd → Prop) (l2 : Option Nat) (l3 : Option Nat) (hR19 : ∀ (l3 : Option Nat) (w : Wd), R19 l3 w → Rch γ (dP + 1) k_X1_part 19 [some (.ref 1), none, some (rv l2), some (rv l3)] [] w (qR Q) (xE "FrostBox$Fault" X)) : ∀ (w : Wd), b_X1_part_52 Punit Q X R19 l2 l3 w → Rch γ (dP + 1) k_X1_part 52 [some (.ref 1), none, some (rv l2), some (rv l3)] [] w (qR Q) (xE "FrostBox$Fault" X) := by
  intro w h
  unfold b_X1_part_52 at h
  refine R.aload_nQ 53 dX1_part_52 rfl rfl ?_
  refine R.aload_n 54 dX1_part_53 rfl rfl ?_
  refine Rch.callv (hPunit _ _ _ h) dX1_part_54 (lw_V q600 q602 qs13 q142 q603) dk_X1_unit rcX (by omega) (Nat.le_of_ble_eq_true rfl) rfl rfl (Nat.le_trans (rmO rmZ) (by decide)) (kR 57 rfl fun r1 w2 h => ?_) (kP rfl)
  obtain ⟨i3, ho, h⟩ := h
  refine R.dr1 ho ?_
  obtain ⟨⟨fs, hg⟩, h⟩ := h
  refine Rch.callv (sd_X13_add _ _ _ _ h) dX1_part_57 (lw_V q658 q659 q660 q162 q661) dk_X13_add (rcN hg rfl) (by omega) (Nat.le_of_ble_eq_true rfl) rfl rfl (Nat.le_of_ble_eq_true rfl) (kV 60 rfl fun w5 h => ?_) kN
  refine R.goto 19 dX1_part_60 (by decide) ?_
  exact Rch.dropk (hR19 _ _ h) ⟨rfl, ⟨rfl, ⟨rfl, trivial⟩⟩⟩
set_option maxRecDepth 100000 in
set_option maxHeartbeats 4000000 in
theorem sl_X1_part_19 {γ : GG} {dP : Nat} (hB : 35 ≤ dP) (Punit : Wd → (Nat → Wd → Prop) → (Wd → Prop) → Prop) (hPunit : ∀ (w : Wd) (Q : Nat → Wd → Prop) (X : Wd → Prop) , Punit w Q X → Ctr γ dP yX1_unit (ws_ yX1_unit cX1_unit 3 (some (.object "FrostBox$Test"))) [.ref 1] w (qR Q) (xE "FrostBox$Fault" X)) (Q : Nat → Wd → Prop) (X : Wd → Prop) (l2 : Option Nat) : ∀ (n : Nat) (l3 : Option Nat) (w : Wd), lp_X1_part_19 Punit Q X l2 n l3 w → Rch γ (dP + 1) k_X1_part 19 [some (.ref 1), none, some (rv l2), some (rv l3)] [] w (qR Q) (xE "FrostBox$Fault" X) := by
  intro n
  induction n with
  | zero => intro _ _ h; exact h.elim
  | succ n hR19 =>
    intro l3 w h
    have h : wl_X1_part_19 Punit Q X l2 (lp_X1_part_19 Punit Q X l2 n) l3 w := h
    unfold wl_X1_part_19 at h
    refine R.aload_n 20 dX1_part_19 rfl rfl ?_
    refine Rch.callv (sd_X1_look _ _ h) dX1_part_20 (lw_V q390 q392 qs4 q142 q393) dk_X1_look rcX (by omega) (Nat.le_of_ble_eq_true rfl) rfl rfl (Nat.le_of_ble_eq_true rfl) (kI 23 rfl fun r1 w2 h => ?_) kN
    refine R.bipush 25 dX1_part_23 rfl (by decide +kernel) ?_
    refine R.icmp_ne 63 28 dX1_part_25 (by decide) rfl (fun hc => ?_) (fun hc => ?_)
    · replace h := h.1 hc
      refine R.aload_nQ 64 dX1_part_63 rfl rfl ?_
      refine R.ifnonnull 71 67 dX1_part_64 (by decide) rfl (fun i3 hc => ?_) (fun hc => ?_)
      · replace h := h.1 i3 hc
        refine R.aload_nQ 72 dX1_part_71 rfl rfl ?_
        obtain ⟨i4, ho, h⟩ := h
        refine R.dr0 ho ?_
        exact R.retR dX1_part_72 rfl h
      · replace h := h.2 hc
        refine R.aload_nQ 68 dX1_part_67 rfl rfl ?_
        refine R.goto 72 dX1_part_68 (by decide) ?_
        obtain ⟨i5, ho, h⟩ := h
        refine R.dr0 ho ?_
        exact R.retR dX1_part_72 rfl h
    · replace h := h.2 hc
      refine R.aload_n 29 dX1_part_28 rfl rfl ?_
      refine R.dupR 30 dX1_part_29 rfl ?_
      refine gf_13 33 dX1_part_30 rfl rfl ?_
      refine R.iconst 34 dX1_part_33 rfl ?_
      refine R.iadd 35 dX1_part_34 rfl ?_
      replace h := h _ rfl
      refine pf_13 _ 38 dX1_part_35 rfl rfl ?_
      refine R.aload_nQ 39 dX1_part_38 rfl rfl ?_
      refine R.ifnonnull 52 42 dX1_part_39 (by decide) rfl (fun i7 hc => ?_) (fun hc => ?_)
      · replace h := h.1 i7 hc
        exact Rch.dropk (s_X1_part_52 hB Punit hPunit Q X _ _ _ hR19 _ h) ⟨rfl, ⟨rfl, ⟨rfl, trivial⟩⟩⟩
      · replace h := h.2 hc
        obtain ⟨hZ, h⟩ := h
        refine R.new (ci := 9) (T := TX13) (ty0 := tyX13) (fs := [.null, .int 0, .null, .null]) 45 dX1_part_42 rfl rfl rfl in_X13 tyX13_ok q641 q642 q162 bl_X13 rfl (by decide) hZ (fun r8 hr1 hr2 => ?_)
        replace h := h r8 hr1 hr2 _ rfl
        refine R.dupR 46 dX1_part_45 rfl ?_
        refine R.iconst 47 dX1_part_46 rfl ?_
        refine R.aload_nQ 48 dX1_part_47 rfl rfl ?_
        refine Rch.callI (sd_X13_init _ _ _ _ _ h) dX1_part_48 (lw_meth q645) q162 q643 q644 rfl dk_X13_init (by omega) (Nat.le_of_ble_eq_true rfl) rfl rfl (Nat.le_of_ble_eq_true rfl) (kV 51 rfl fun w11 h => ?_) kN
        refine R.ast3n 52 dX1_part_51 rfl (Nat.le_of_ble_eq_true rfl) (c1_rv _) ?_
        exact Rch.dropk (s_X1_part_52 hB Punit hPunit Q X _ _ _ hR19 _ h) ⟨rfl, ⟨rfl, ⟨rfl, trivial⟩⟩⟩
set_option maxRecDepth 100000 in
set_option maxHeartbeats 4000000 in
theorem sd_X1_part {γ : GG} {dP : Nat} (hB : 35 ≤ dP) (Punit : Wd → (Nat → Wd → Prop) → (Wd → Prop) → Prop) (hPunit : ∀ (w : Wd) (Q : Nat → Wd → Prop) (X : Wd → Prop) , Punit w Q X → Ctr γ dP yX1_unit (ws_ yX1_unit cX1_unit 3 (some (.object "FrostBox$Test"))) [.ref 1] w (qR Q) (xE "FrostBox$Fault" X)) (l1 : Option Nat) (w : Wd) (Q : Nat → Wd → Prop) (X : Wd → Prop) : wp_X1_part Punit l1 w Q X → Ctr γ (dP + 1) yX1_part (ws_ yX1_part cX1_part 4 (some (.object "FrostBox$Test"))) [.ref 1, rv l1] w (qR Q) (xE "FrostBox$Fault" X) := by
  intro h
  unfold wp_X1_part at h
  refine Ctr.of (μ := k_X1_part) (by decide) rfl rfl rfl (by cases l1 <;> exact Nat.le_of_ble_eq_true rfl) ⟨2, ?_⟩
  have es : lva [.ref 1, rv l1] ++ List.replicate 2 none = [some (.ref 1), some (rv l1), none, none] := by cases l1 <;> rfl
  rw [es]
  refine R.aload_nQ 1 dX1_part_0 rfl rfl ?_
  refine R.ifnonnull 11 4 dX1_part_1 (by decide) rfl (fun i1 hc => ?_) (fun hc => ?_)
  · replace h := h.1 i1 hc
    refine R.aload_n 12 dX1_part_11 rfl rfl ?_
    refine R.aload_nQ 13 dX1_part_12 rfl rfl ?_
    refine Rch.callv (sd_X1_compare _ _ _ _ h) dX1_part_13 (lw_V q620 q622 qs14 q142 q623) dk_X1_compare rcX (by omega) (Nat.le_of_ble_eq_true rfl) rfl rfl (Nat.le_of_ble_eq_true rfl) (kR 16 rfl fun r2 w3 h => ?_) (kP rfl)
    refine R.ast2n 17 dX1_part_16 rfl (Nat.le_of_ble_eq_true rfl) (c1_rv _) ?_
    refine R.null 18 dX1_part_17 rfl ?_
    refine R.qst3n (x := none) 19 dX1_part_18 rfl (Nat.le_of_ble_eq_true rfl) rfl ?_
    obtain ⟨n4, h⟩ := h
    exact Rch.dropk (sl_X1_part_19 hB Punit hPunit Q X _ n4 _ _ h) ⟨rfl, ⟨rfl, ⟨rfl, trivial⟩⟩⟩
  · replace h := h.2 hc
    refine R.aload_n 5 dX1_part_4 rfl rfl ?_
    refine Rch.callv (hPunit _ _ _ h) dX1_part_5 (lw_V q600 q602 qs13 q142 q603) dk_X1_unit rcX (by omega) (Nat.le_of_ble_eq_true rfl) rfl rfl (Nat.le_of_ble_eq_true rfl) (kR 8 rfl fun r6 w7 h => ?_) (kP rfl)
    refine R.goto 16 dX1_part_8 (by decide) ?_
    refine R.ast2n 17 dX1_part_16 rfl (Nat.le_of_ble_eq_true rfl) (c1_rv _) ?_
    refine R.null 18 dX1_part_17 rfl ?_
    refine R.qst3n (x := none) 19 dX1_part_18 rfl (Nat.le_of_ble_eq_true rfl) rfl ?_
    obtain ⟨n8, h⟩ := h
    exact Rch.dropk (sl_X1_part_19 hB Punit hPunit Q X _ n8 _ _ h) ⟨rfl, ⟨rfl, ⟨rfl, trivial⟩⟩⟩

abbrev k_X1_condition : MK := ("FrostBox", cX1_condition, 4, (some (.object "FrostBox$Test")), [], "condition")
def b_X1_condition_41 (Punit : Wd → (Nat → Wd → Prop) → (Wd → Prop) → Prop) (Q : Nat → Wd → Prop) (X : Wd → Prop) (R8 : Option Nat → Wd → Prop) (l2 : Option Nat) (l3 : Option Nat) (w : Wd) : Prop := wp_X1_part Punit none w (fun r1 w2 => ∃ i3, l3 = some i3 ∧ (∃ fs, gF w2 i3 = some (9, fs)) ∧ wp_X13_add i3 (some r1) w2 (fun w5 => R8 l3 w5)) X
def wl_X1_condition_8 (Punit : Wd → (Nat → Wd → Prop) → (Wd → Prop) → Prop) (Q : Nat → Wd → Prop) (X : Wd → Prop) (l2 : Option Nat) (R8 : Option Nat → Wd → Prop) (l3 : Option Nat) (w : Wd) : Prop := wp_X1_look w (fun r1 w2 => (¬ r1 = (iz 124) → (∀ i3, l3 = some i3 → ∃ i4, l3 = some i4 ∧ Q i4 w2) ∧ (l3 = none → ∃ i5, l2 = some i5 ∧ Q i5 w2)) ∧ (r1 = (iz 124) → ∀ w6, w6 = sI w2 13 ((gI w2 13) + (iz 1)) → (∀ i7, l3 = some i7 → b_X1_condition_41 Punit Q X R8 l2 l3 w6) ∧ (l3 = none → gZ w6 + 1 ≤ CM ∧ (∀ r8, 200 ≤ r8 → gF w6 r8 = none → ∀ w9, w9 = sZ (sF w6 r8 (9, [.null, .int 0, .null, .null])) (gZ w6 + 1) → wp_X13_init r8 (iz 0) l2 w9 (fun w11 => b_X1_condition_41 Punit Q X R8 l2 (some r8) w11)))))
def lp_X1_condition_8 (Punit : Wd → (Nat → Wd → Prop) → (Wd → Prop) → Prop) (Q : Nat → Wd → Prop) (X : Wd → Prop) (l2 : Option Nat) : Nat → Option Nat → Wd → Prop
  | 0, _, _ => False
  | n + 1, l3, w => wl_X1_condition_8 Punit Q X l2 (lp_X1_condition_8 Punit Q X l2 n) l3 w
def wp_X1_condition (Punit : Wd → (Nat → Wd → Prop) → (Wd → Prop) → Prop) (l1 : Option Nat) (w : Wd) (Q : Nat → Wd → Prop) (X : Wd → Prop) : Prop := wp_X1_part Punit l1 w (fun r1 w2 => ∃ n3, lp_X1_condition_8 Punit Q X (some r1) n3 none w2) X
set_option maxRecDepth 100000 in
set_option maxHeartbeats 4000000 in
theorem s_X1_condition_41 {γ : GG} {dP : Nat} (hB : 35 ≤ dP) (Punit : Wd → (Nat → Wd → Prop) → (Wd → Prop) → Prop) (hPunit : ∀ (w : Wd) (Q : Nat → Wd → Prop) (X : Wd → Prop) , Punit w Q X → Ctr γ dP yX1_unit (ws_ yX1_unit cX1_unit 3 (some (.object "FrostBox$Test"))) [.ref 1] w (qR Q) (xE "FrostBox$Fault" X)) (Q : Nat → Wd → Prop) (X : Wd → Prop) (R8 : Option Nat → Wd → Prop) (l2 : Option Nat) (l3 : Option Nat) (hR8 : ∀ (l3 : Option Nat) (w : Wd), R8 l3 w → Rch γ (dP + 2) k_X1_condition 8 [some (.ref 1), none, some (rv l2), some (rv l3)] [] w (qR Q) (xE "FrostBox$Fault" X)) : ∀ (w : Wd), b_X1_condition_41 Punit Q X R8 l2 l3 w → Rch γ (dP + 2) k_X1_condition 41 [some (.ref 1), none, some (rv l2), some (rv l3)] [] w (qR Q) (xE "FrostBox$Fault" X) := by
  intro w h
  unfold b_X1_condition_41 at h
  refine R.aload_nQ 42 dX1_condition_41 rfl rfl ?_
  refine R.aload_n 43 dX1_condition_42 rfl rfl ?_
  refine R.null 44 dX1_condition_43 rfl ?_
  refine Rch.callv (sd_X1_part (dP := dP) (by omega) Punit hPunit _ _ _ _ h) dX1_condition_44 (lw_V q596 q598 qs12 q142 q599) dk_X1_part rcX (by omega) (Nat.le_of_ble_eq_true rfl) rfl rfl (Nat.le_trans (rmO rmZ) (by decide)) (kR 47 rfl fun r1 w2 h => ?_) (kP rfl)
  obtain ⟨i3, ho, h⟩ := h
  refine R.dr1 ho ?_
  obtain ⟨⟨fs, hg⟩, h⟩ := h
  refine Rch.callv (sd_X13_add _ _ _ _ h) dX1_condition_47 (lw_V q658 q659 q660 q162 q661) dk_X13_add (rcN hg rfl) (by omega) (Nat.le_of_ble_eq_true rfl) rfl rfl (Nat.le_of_ble_eq_true rfl) (kV 50 rfl fun w5 h => ?_) kN
  refine R.goto 8 dX1_condition_50 (by decide) ?_
  exact Rch.dropk (hR8 _ _ h) ⟨rfl, ⟨rfl, ⟨rfl, trivial⟩⟩⟩
set_option maxRecDepth 100000 in
set_option maxHeartbeats 4000000 in
theorem sl_X1_condition_8 {γ : GG} {dP : Nat} (hB : 35 ≤ dP) (Punit : Wd → (Nat → Wd → Prop) → (Wd → Prop) → Prop) (hPunit : ∀ (w : Wd) (Q : Nat → Wd → Prop) (X : Wd → Prop) , Punit w Q X → Ctr γ dP yX1_unit (ws_ yX1_unit cX1_unit 3 (some (.object "FrostBox$Test"))) [.ref 1] w (qR Q) (xE "FrostBox$Fault" X)) (Q : Nat → Wd → Prop) (X : Wd → Prop) (l2 : Option Nat) : ∀ (n : Nat) (l3 : Option Nat) (w : Wd), lp_X1_condition_8 Punit Q X l2 n l3 w → Rch γ (dP + 2) k_X1_condition 8 [some (.ref 1), none, some (rv l2), some (rv l3)] [] w (qR Q) (xE "FrostBox$Fault" X) := by
  intro n
  induction n with
  | zero => intro _ _ h; exact h.elim
  | succ n hR8 =>
    intro l3 w h
    have h : wl_X1_condition_8 Punit Q X l2 (lp_X1_condition_8 Punit Q X l2 n) l3 w := h
    unfold wl_X1_condition_8 at h
    refine R.aload_n 9 dX1_condition_8 rfl rfl ?_
    refine Rch.callv (sd_X1_look _ _ h) dX1_condition_9 (lw_V q390 q392 qs4 q142 q393) dk_X1_look rcX (by omega) (Nat.le_of_ble_eq_true rfl) rfl rfl (Nat.le_of_ble_eq_true rfl) (kI 12 rfl fun r1 w2 h => ?_) kN
    refine R.bipush 14 dX1_condition_12 rfl (by decide +kernel) ?_
    refine R.icmp_ne 53 17 dX1_condition_14 (by decide) rfl (fun hc => ?_) (fun hc => ?_)
    · replace h := h.1 hc
      refine R.aload_nQ 54 dX1_condition_53 rfl rfl ?_
      refine R.ifnonnull 61 57 dX1_condition_54 (by decide) rfl (fun i3 hc => ?_) (fun hc => ?_)
      · replace h := h.1 i3 hc
        refine R.aload_nQ 62 dX1_condition_61 rfl rfl ?_
        obtain ⟨i4, ho, h⟩ := h
        refine R.dr0 ho ?_
        exact R.retR dX1_condition_62 rfl h
      · replace h := h.2 hc
        refine R.aload_nQ 58 dX1_condition_57 rfl rfl ?_
        refine R.goto 62 dX1_condition_58 (by decide) ?_
        obtain ⟨i5, ho, h⟩ := h
        refine R.dr0 ho ?_
        exact R.retR dX1_condition_62 rfl h
    · replace h := h.2 hc
      refine R.aload_n 18 dX1_condition_17 rfl rfl ?_
      refine R.dupR 19 dX1_condition_18 rfl ?_
      refine gf_13 22 dX1_condition_19 rfl rfl ?_
      refine R.iconst 23 dX1_condition_22 rfl ?_
      refine R.iadd 24 dX1_condition_23 rfl ?_
      replace h := h _ rfl
      refine pf_13 _ 27 dX1_condition_24 rfl rfl ?_
      refine R.aload_nQ 28 dX1_condition_27 rfl rfl ?_
      refine R.ifnonnull 41 31 dX1_condition_28 (by decide) rfl (fun i7 hc => ?_) (fun hc => ?_)
      · replace h := h.1 i7 hc
        exact Rch.dropk (s_X1_condition_41 hB Punit hPunit Q X _ _ _ hR8 _ h) ⟨rfl, ⟨rfl, ⟨rfl, trivial⟩⟩⟩
      · replace h := h.2 hc
        obtain ⟨hZ, h⟩ := h
        refine R.new (ci := 9) (T := TX13) (ty0 := tyX13) (fs := [.null, .int 0, .null, .null]) 34 dX1_condition_31 rfl rfl rfl in_X13 tyX13_ok q641 q642 q162 bl_X13 rfl (by decide) hZ (fun r8 hr1 hr2 => ?_)
        replace h := h r8 hr1 hr2 _ rfl
        refine R.dupR 35 dX1_condition_34 rfl ?_
        refine R.iconst 36 dX1_condition_35 rfl ?_
        refine R.aload_nQ 37 dX1_condition_36 rfl rfl ?_
        refine Rch.callI (sd_X13_init _ _ _ _ _ h) dX1_condition_37 (lw_meth q645) q162 q643 q644 rfl dk_X13_init (by omega) (Nat.le_of_ble_eq_true rfl) rfl rfl (Nat.le_of_ble_eq_true rfl) (kV 40 rfl fun w11 h => ?_) kN
        refine R.ast3n 41 dX1_condition_40 rfl (Nat.le_of_ble_eq_true rfl) (c1_rv _) ?_
        exact Rch.dropk (s_X1_condition_41 hB Punit hPunit Q X _ _ _ hR8 _ h) ⟨rfl, ⟨rfl, ⟨rfl, trivial⟩⟩⟩
set_option maxRecDepth 100000 in
set_option maxHeartbeats 4000000 in
theorem sd_X1_condition {γ : GG} {dP : Nat} (hB : 35 ≤ dP) (Punit : Wd → (Nat → Wd → Prop) → (Wd → Prop) → Prop) (hPunit : ∀ (w : Wd) (Q : Nat → Wd → Prop) (X : Wd → Prop) , Punit w Q X → Ctr γ dP yX1_unit (ws_ yX1_unit cX1_unit 3 (some (.object "FrostBox$Test"))) [.ref 1] w (qR Q) (xE "FrostBox$Fault" X)) (l1 : Option Nat) (w : Wd) (Q : Nat → Wd → Prop) (X : Wd → Prop) : wp_X1_condition Punit l1 w Q X → Ctr γ (dP + 2) yX1_condition (ws_ yX1_condition cX1_condition 4 (some (.object "FrostBox$Test"))) [.ref 1, rv l1] w (qR Q) (xE "FrostBox$Fault" X) := by
  intro h
  unfold wp_X1_condition at h
  refine Ctr.of (μ := k_X1_condition) (by decide) rfl rfl rfl (by cases l1 <;> exact Nat.le_of_ble_eq_true rfl) ⟨2, ?_⟩
  have es : lva [.ref 1, rv l1] ++ List.replicate 2 none = [some (.ref 1), some (rv l1), none, none] := by cases l1 <;> rfl
  rw [es]
  refine R.aload_n 1 dX1_condition_0 rfl rfl ?_
  refine R.aload_nQ 2 dX1_condition_1 rfl rfl ?_
  refine Rch.callv (sd_X1_part (dP := dP) (by omega) Punit hPunit _ _ _ _ h) dX1_condition_2 (lw_V q596 q598 qs12 q142 q599) dk_X1_part rcX (by omega) (Nat.le_of_ble_eq_true rfl) rfl rfl (Nat.le_of_ble_eq_true rfl) (kR 5 rfl fun r1 w2 h => ?_) (kP rfl)
  refine R.ast2n 6 dX1_condition_5 rfl (Nat.le_of_ble_eq_true rfl) (c1_rv _) ?_
  refine R.null 7 dX1_condition_6 rfl ?_
  refine R.qst3n (x := none) 8 dX1_condition_7 rfl (Nat.le_of_ble_eq_true rfl) rfl ?_
  obtain ⟨n3, h⟩ := h
  exact Rch.dropk (sl_X1_condition_8 hB Punit hPunit Q X _ n3 _ _ h) ⟨rfl, ⟨rfl, ⟨rfl, trivial⟩⟩⟩

abbrev k_X1_unit : MK := ("FrostBox", cX1_unit, 3, (some (.object "FrostBox$Test")), [], "unit")
def wp_X1_unit (Punit : Wd → (Nat → Wd → Prop) → (Wd → Prop) → Prop) (w : Wd) (Q : Nat → Wd → Prop) (X : Wd → Prop) : Prop := wp_X1_look w (fun r1 w2 => (¬ r1 = (iz 33) → (¬ r1 = (iz 40) → pf_X1_sum 10 w2 (fun r3 w4 => wp_X1_compare (some r3) w4 (fun r5 w6 => Q r5 w6) X) X) ∧ (r1 = (iz 40) → wp_X1_opens w2 (fun w10 => wp_X1_condition Punit none w10 (fun r11 w12 => wp_X1_closes (iz 41) w12 (fun w14 => Q r11 w14) X) X) X)) ∧ (r1 = (iz 33) → wp_X1_opens w2 (fun w19 => Punit w19 (fun r20 w21 => ∀ w22, w22 = sI w21 14 ((gI w21 14) - (iz 1)) → gZ w22 + 1 ≤ CM ∧ (∀ r23, 200 ≤ r23 → gF w22 r23 = none → ∀ w24, w24 = sZ (sF w22 r23 (7, [.null, .null])) (gZ w22 + 1) → wp_X11_init r23 (some r20) w24 (fun w26 => Q r23 w26))) X) X))
set_option maxRecDepth 100000 in
set_option maxHeartbeats 4000000 in
theorem sd_X1_unit {γ : GG} {dP : Nat} (hB : 35 ≤ dP) (Punit : Wd → (Nat → Wd → Prop) → (Wd → Prop) → Prop) (hPunit : ∀ (w : Wd) (Q : Nat → Wd → Prop) (X : Wd → Prop) , Punit w Q X → Ctr γ dP yX1_unit (ws_ yX1_unit cX1_unit 3 (some (.object "FrostBox$Test"))) [.ref 1] w (qR Q) (xE "FrostBox$Fault" X)) (w : Wd) (Q : Nat → Wd → Prop) (X : Wd → Prop) : wp_X1_unit Punit w Q X → Ctr γ (dP + 3) yX1_unit (ws_ yX1_unit cX1_unit 3 (some (.object "FrostBox$Test"))) [.ref 1] w (qR Q) (xE "FrostBox$Fault" X) := by
  intro h
  unfold wp_X1_unit at h
  refine Ctr.of (μ := k_X1_unit) (by decide) rfl rfl rfl (Nat.le_of_ble_eq_true rfl) ⟨2, ?_⟩
  have es : lva [.ref 1] ++ List.replicate 2 none = [some (.ref 1), none, none] := rfl
  rw [es]
  refine R.aload_n 1 dX1_unit_0 rfl rfl ?_
  refine Rch.callv (sd_X1_look _ _ h) dX1_unit_1 (lw_V q390 q392 qs4 q142 q393) dk_X1_look rcX (by omega) (Nat.le_of_ble_eq_true rfl) rfl rfl (Nat.le_of_ble_eq_true rfl) (kI 4 rfl fun r1 w2 h => ?_) kN
  refine R.ist1n 5 dX1_unit_4 rfl (Nat.le_of_ble_eq_true rfl) rfl ?_
  refine R.iload_n 6 dX1_unit_5 rfl rfl ?_
  refine R.bipush 8 dX1_unit_6 rfl (by decide +kernel) ?_
  refine R.icmp_ne 39 11 dX1_unit_8 (by decide) rfl (fun hc => ?_) (fun hc => ?_)
  · replace h := h.1 hc
    refine R.iload_n 40 dX1_unit_39 rfl rfl ?_
    refine R.bipush 42 dX1_unit_40 rfl (by decide +kernel) ?_
    refine R.icmp_ne 63 45 dX1_unit_42 (by decide) rfl (fun hc => ?_) (fun hc => ?_)
    · replace h := h.1 hc
      refine R.aload_n 64 dX1_unit_63 rfl rfl ?_
      refine R.aload_n 65 dX1_unit_64 rfl rfl ?_
      refine Rch.callv (sf_X1_sum 10 _ _ _ h) dX1_unit_65 (lw_V q485 q487 qs6 q142 q488) dk_X1_sum rcX (by omega) (Nat.le_of_ble_eq_true rfl) rfl rfl (Nat.le_of_ble_eq_true rfl) (kR 68 rfl fun r3 w4 h => ?_) (kP rfl)
      refine Rch.callv (sd_X1_compare _ _ _ _ h) dX1_unit_68 (lw_V q620 q622 qs14 q142 q623) dk_X1_compare rcX (by omega) (Nat.le_of_ble_eq_true rfl) rfl rfl (Nat.le_of_ble_eq_true rfl) (kR 71 rfl fun r5 w6 h => ?_) (kP rfl)
      exact R.retR dX1_unit_71 rfl h
    · replace h := h.2 hc
      refine R.aload_n 46 dX1_unit_45 rfl rfl ?_
      refine Rch.callv (sd_X1_opens _ _ _ h) dX1_unit_46 (lw_V q497 q499 qs9 q142 q500) dk_X1_opens rcX (by omega) (Nat.le_of_ble_eq_true rfl) rfl rfl (Nat.le_of_ble_eq_true rfl) (kV 49 rfl fun w10 h => ?_) (kP rfl)
      refine R.aload_n 50 dX1_unit_49 rfl rfl ?_
      refine R.null 51 dX1_unit_50 rfl ?_
      refine Rch.callv (sd_X1_condition (dP := dP) (by omega) Punit hPunit _ _ _ _ h) dX1_unit_51 (lw_V q592 q594 qs11 q142 q595) dk_X1_condition rcX (by omega) (Nat.le_of_ble_eq_true rfl) rfl rfl (Nat.le_of_ble_eq_true rfl) (kR 54 rfl fun r11 w12 h => ?_) (kP rfl)
      refine R.ast2n 55 dX1_unit_54 rfl (Nat.le_of_ble_eq_true rfl) rfl ?_
      refine R.aload_n 56 dX1_unit_55 rfl rfl ?_
      refine R.bipush 58 dX1_unit_56 rfl (by decide +kernel) ?_
      refine Rch.callv (sd_X1_closes _ _ _ _ h) dX1_unit_58 (lw_V q501 q503 qs10 q142 q504) dk_X1_closes rcX (by omega) (Nat.le_of_ble_eq_true rfl) rfl rfl (Nat.le_of_ble_eq_true rfl) (kV 61 rfl fun w14 h => ?_) (kP rfl)
      refine R.aload_n 62 dX1_unit_61 rfl rfl ?_
      exact R.retR dX1_unit_62 rfl h
  · replace h := h.2 hc
    refine R.aload_n 12 dX1_unit_11 rfl rfl ?_
    refine Rch.callv (sd_X1_opens _ _ _ h) dX1_unit_12 (lw_V q497 q499 qs9 q142 q500) dk_X1_opens rcX (by omega) (Nat.le_of_ble_eq_true rfl) rfl rfl (Nat.le_of_ble_eq_true rfl) (kV 15 rfl fun w19 h => ?_) (kP rfl)
    refine R.aload_n 16 dX1_unit_15 rfl rfl ?_
    refine Rch.callv (hPunit _ _ _ h) dX1_unit_16 (lw_V q600 q602 qs13 q142 q603) dk_X1_unit rcX (by omega) (Nat.le_of_ble_eq_true rfl) rfl rfl (Nat.le_of_ble_eq_true rfl) (kR 19 rfl fun r20 w21 h => ?_) (kP rfl)
    refine R.ast2n 20 dX1_unit_19 rfl (Nat.le_of_ble_eq_true rfl) rfl ?_
    refine R.aload_n 21 dX1_unit_20 rfl rfl ?_
    refine R.dupR 22 dX1_unit_21 rfl ?_
    refine gf_14 25 dX1_unit_22 rfl rfl ?_
    refine R.iconst 26 dX1_unit_25 rfl ?_
    refine R.isub 27 dX1_unit_26 rfl ?_
    replace h := h _ rfl
    refine pf_14 _ 30 dX1_unit_27 rfl rfl ?_
    obtain ⟨hZ, h⟩ := h
    refine R.new (ci := 7) (T := TX11) (ty0 := tyX11) (fs := [.null, .null]) 33 dX1_unit_30 rfl rfl rfl in_X11 tyX11_ok q604 q605 q160 bl_X11 rfl (by decide) hZ (fun r23 hr1 hr2 => ?_)
    replace h := h r23 hr1 hr2 _ rfl
    refine R.dupR 34 dX1_unit_33 rfl ?_
    refine R.aload_n 35 dX1_unit_34 rfl rfl ?_
    refine Rch.callI (sd_X11_init _ _ _ _ h) dX1_unit_35 (lw_meth q608) q160 q606 q607 rfl dk_X11_init (by omega) (Nat.le_of_ble_eq_true rfl) rfl rfl (Nat.le_of_ble_eq_true rfl) (kV 38 rfl fun w26 h => ?_) kN
    exact R.retR dX1_unit_38 rfl h

def pf_X1_unit : Nat → Wd → (Nat → Wd → Prop) → (Wd → Prop) → Prop
  | 0 => fun _ _ _ => False
  | n + 1 => wp_X1_unit (pf_X1_unit n)
theorem sfn_X1_unit {γ : GG} : ∀ (n : Nat) (w : Wd) (Q : Nat → Wd → Prop) (X : Wd → Prop) , pf_X1_unit n w Q X → Ctr γ (35 + 3 * n) yX1_unit (ws_ yX1_unit cX1_unit 3 (some (.object "FrostBox$Test"))) [.ref 1] w (qR Q) (xE "FrostBox$Fault" X)
  | 0, _, _, _, h => h.elim
  | n + 1, _, _, _, h => sd_X1_unit (dP := 35 + 3 * n) (by omega) (pf_X1_unit n) (sfn_X1_unit n) _ _ _ h
theorem sf_X1_unit {γ : GG} (n : Nat) (w : Wd) (Q : Nat → Wd → Prop) (X : Wd → Prop) (h : pf_X1_unit n w Q X) : Ctr γ (35 + 3 * n) yX1_unit (ws_ yX1_unit cX1_unit 3 (some (.object "FrostBox$Test"))) [.ref 1] w (qR Q) (xE "FrostBox$Fault" X) := sfn_X1_unit n w Q X h

abbrev k_X1_clause : MK := ("FrostBox", cX1_clause, 5, (some (.object "FrostBox$Clause")), [], "clause")
def b_X1_clause_138 (Q : Nat → Wd → Prop) (X : Wd → Prop) (l1 : Int32) (l4 : Option Nat) (t0 : Int32) (w : Wd) : Prop := wp_X1_need t0 w (fun w2 => ∀ w3, w3 = sI w2 13 ((gI w2 13) + (iz 1)) → gZ w3 + 1 ≤ CM ∧ (∀ r4, 200 ≤ r4 → gF w3 r4 = none → ∀ w5, w5 = sZ (sF w3 r4 (6, [.int 0, .null, .null, .null])) (gZ w3 + 1) → pf_X1_sum 10 w5 (fun r6 w7 => wp_X9_init r4 l1 l4 (some r6) w7 (fun w9 => Q r4 w9)) X)) X
def b_X1_clause_116 (Q : Nat → Wd → Prop) (X : Wd → Prop) (l1 : Int32) (l3 : Option Nat) (w : Wd) : Prop := wp_X1_condition (pf_X1_unit 10) l3 w (fun r1 w2 => wp_X1_look w2 (fun r3 w4 => (¬ r3 = (iz 63) → b_X1_clause_138 Q X l1 (some r1) (iz 0) w4) ∧ (r3 = (iz 63) → b_X1_clause_138 Q X l1 (some r1) (iz 1) w4))) X
def b_X1_clause_90 (Q : Nat → Wd → Prop) (X : Wd → Prop) (l1 : Int32) (t0 : Option Nat) (w : Wd) : Prop := (t0 = none → b_X1_clause_116 Q X l1 t0 w) ∧ (∀ i1, t0 = some i1 → wp_X1_look w (fun r2 w3 => wp_X1_isSign r2 w3 (fun r4 w5 => (¬ r4 = iz 0 → b_X1_clause_116 Q X l1 t0 w5) ∧ (r4 = iz 0 → gZ w5 + 1 ≤ CM ∧ (∀ r6, 200 ≤ r6 → gF w5 r6 = none → ∀ w7, w7 = sZ (sF w5 r6 (6, [.int 0, .null, .null, .null])) (gZ w5 + 1) → wp_X9_init r6 l1 none t0 w7 (fun w9 => Q r6 w9))))))
def b_X1_clause_52 (Q : Nat → Wd → Prop) (X : Wd → Prop) (l1 : Int32) (t0 : Int32) (w : Wd) : Prop := wp_X1_need t0 w (fun w2 => ∀ w3, w3 = sI w2 13 ((gI w2 13) + (iz 1)) → wp_X1_look w3 (fun r4 w5 => (r4 = (iz 33) → b_X1_clause_90 Q X l1 none w5) ∧ (¬ r4 = (iz 33) → (¬ r4 = (iz 40) → pf_X1_sum 10 w5 (fun r6 w7 => b_X1_clause_90 Q X l1 (some r6) w7) X) ∧ (r4 = (iz 40) → b_X1_clause_90 Q X l1 none w5)))) X
def b_X1_clause_24 (Q : Nat → Wd → Prop) (X : Wd → Prop) (l1 : Int32) (t0 : Int32) (w : Wd) : Prop := wp_X1_need t0 w (fun w2 => ∀ w3, w3 = sI w2 13 ((gI w2 13) + (iz 1)) → wp_X1_look w3 (fun r4 w5 => (¬ r4 = (iz 58) → b_X1_clause_52 Q X l1 (iz 0) w5) ∧ (r4 = (iz 58) → b_X1_clause_52 Q X l1 (iz 1) w5))) X
def wp_X1_clause (w : Wd) (Q : Nat → Wd → Prop) (X : Wd → Prop) : Prop := wp_X1_look w (fun r1 w2 => (r1 ≤ iz 0 → b_X1_clause_24 Q X r1 (iz 0) w2) ∧ (¬ r1 ≤ iz 0 → 0 < 6 ∧ wp_J2_indexOf 0 r1 w2 (fun r3 w4 => (r3 < iz 0 → b_X1_clause_24 Q X r1 (iz 0) w4) ∧ (¬ r3 < iz 0 → b_X1_clause_24 Q X r1 (iz 1) w4))))
set_option maxRecDepth 100000 in
set_option maxHeartbeats 4000000 in
theorem s_X1_clause_138 {γ : GG} (Q : Nat → Wd → Prop) (X : Wd → Prop) (l1 : Int32) (l4 : Option Nat) (t0 : Int32) : ∀ (w : Wd), b_X1_clause_138 Q X l1 l4 t0 w → Rch γ 68 k_X1_clause 138 [some (.ref 1), some (.int l1), none, none, some (rv l4)] [.int t0, .ref 1] w (qR Q) (xE "FrostBox$Fault" X) := by
  intro w h
  unfold b_X1_clause_138 at h
  refine Rch.callv (sd_X1_need _ _ _ _ h) dX1_clause_138 (lw_V q481 q483 qs5 q142 q484) dk_X1_need rcX (by decide) (Nat.le_of_ble_eq_true rfl) rfl rfl (Nat.le_of_ble_eq_true rfl) (kV 141 rfl fun w2 h => ?_) (kP rfl)
  refine R.aload_n 142 dX1_clause_141 rfl rfl ?_
  refine R.dupR 143 dX1_clause_142 rfl ?_
  refine gf_13 146 dX1_clause_143 rfl rfl ?_
  refine R.iconst 147 dX1_clause_146 rfl ?_
  refine R.iadd 148 dX1_clause_147 rfl ?_
  replace h := h _ rfl
  refine pf_13 _ 151 dX1_clause_148 rfl rfl ?_
  obtain ⟨hZ, h⟩ := h
  refine R.new (ci := 6) (T := TX9) (ty0 := tyX9) (fs := [.int 0, .null, .null, .null]) 154 dX1_clause_151 rfl rfl rfl in_X9 tyX9_ok q231 q571 q158 bl_X9 rfl (by decide) hZ (fun r4 hr1 hr2 => ?_)
  replace h := h r4 hr1 hr2 _ rfl
  refine R.dupR 155 dX1_clause_154 rfl ?_
  refine R.iload_n 156 dX1_clause_155 rfl rfl ?_
  refine R.aloadQ 158 dX1_clause_156 rfl rfl ?_
  refine R.aload_n 159 dX1_clause_158 rfl rfl ?_
  refine Rch.callv (sf_X1_sum 10 _ _ _ h) dX1_clause_159 (lw_V q485 q487 qs6 q142 q488) dk_X1_sum rcX (by decide) (Nat.le_of_ble_eq_true rfl) rfl rfl (Nat.le_trans (rmO (rmI (rmR (rmR rmZ)))) (by decide)) (kR 162 rfl fun r6 w7 h => ?_) (kP rfl)
  refine Rch.callI (sd_X9_init _ _ _ _ _ _ h) dX1_clause_162 (lw_meth q574) q158 q572 q573 rfl dk_X9_init (by decide) (Nat.le_of_ble_eq_true rfl) rfl rfl (Nat.le_of_ble_eq_true rfl) (kV 165 rfl fun w9 h => ?_) kN
  exact R.retR dX1_clause_165 rfl h
set_option maxRecDepth 100000 in
set_option maxHeartbeats 4000000 in
theorem s_X1_clause_116 {γ : GG} (Q : Nat → Wd → Prop) (X : Wd → Prop) (l1 : Int32) (l3 : Option Nat) : ∀ (w : Wd), b_X1_clause_116 Q X l1 l3 w → Rch γ 68 k_X1_clause 116 [some (.ref 1), some (.int l1), none, some (rv l3), none] [] w (qR Q) (xE "FrostBox$Fault" X) := by
  intro w h
  unfold b_X1_clause_116 at h
  refine R.aload_n 117 dX1_clause_116 rfl rfl ?_
  refine R.aload_nQ 118 dX1_clause_117 rfl rfl ?_
  refine Rch.callv (sd_X1_condition (dP := 65) (by decide) (pf_X1_unit 10) (sf_X1_unit 10) _ _ _ _ h) dX1_clause_118 (lw_V q592 q594 qs11 q142 q595) dk_X1_condition rcX (by decide) (Nat.le_of_ble_eq_true rfl) rfl rfl (Nat.le_of_ble_eq_true rfl) (kR 121 rfl fun r1 w2 h => ?_) (kP rfl)
  refine R.ast4 123 dX1_clause_121 rfl (Nat.le_of_ble_eq_true rfl) (c1_rv _) ?_
  refine R.aload_n 124 dX1_clause_123 rfl rfl ?_
  refine R.aload_n 125 dX1_clause_124 rfl rfl ?_
  refine Rch.callv (sd_X1_look _ _ h) dX1_clause_125 (lw_V q390 q392 qs4 q142 q393) dk_X1_look rcX (by decide) (Nat.le_of_ble_eq_true rfl) rfl rfl (Nat.le_of_ble_eq_true rfl) (kI 128 rfl fun r3 w4 h => ?_) kN
  refine R.bipush 130 dX1_clause_128 rfl (by decide +kernel) ?_
  refine R.icmp_ne 137 133 dX1_clause_130 (by decide) rfl (fun hc => ?_) (fun hc => ?_)
  · replace h := h.1 hc
    refine R.iconst 138 dX1_clause_137 rfl ?_
    exact Rch.dropk (s_X1_clause_138 Q X _ _ _ _ h) ⟨rfl, ⟨rfl, ⟨rfl, trivial⟩⟩⟩
  · replace h := h.2 hc
    refine R.iconst 134 dX1_clause_133 rfl ?_
    refine R.goto 138 dX1_clause_134 (by decide) ?_
    exact Rch.dropk (s_X1_clause_138 Q X _ _ _ _ h) ⟨rfl, ⟨rfl, ⟨rfl, trivial⟩⟩⟩
set_option maxRecDepth 100000 in
set_option maxHeartbeats 4000000 in
theorem s_X1_clause_90 {γ : GG} (Q : Nat → Wd → Prop) (X : Wd → Prop) (l1 : Int32) (t0 : Option Nat) : ∀ (w : Wd), b_X1_clause_90 Q X l1 t0 w → Rch γ 68 k_X1_clause 90 [some (.ref 1), some (.int l1), none, none, none] [rv t0] w (qR Q) (xE "FrostBox$Fault" X) := by
  intro w h
  unfold b_X1_clause_90 at h
  refine R.qst3n 91 dX1_clause_90 rfl (Nat.le_of_ble_eq_true rfl) rfl ?_
  refine R.aload_nQ 92 dX1_clause_91 rfl rfl ?_
  refine R.ifnull 116 95 dX1_clause_92 (by decide) rfl (fun hc => ?_) (fun i1 hc => ?_)
  · replace h := h.1 hc
    exact Rch.dropk (s_X1_clause_116 Q X _ _ _ h) ⟨rfl, ⟨rfl, ⟨rfl, trivial⟩⟩⟩
  · replace h := h.2 i1 hc
    refine R.aload_n 96 dX1_clause_95 rfl rfl ?_
    refine Rch.callv (sd_X1_look _ _ h) dX1_clause_96 (lw_V q390 q392 qs4 q142 q393) dk_X1_look rcX (by decide) (Nat.le_of_ble_eq_true rfl) rfl rfl (Nat.le_of_ble_eq_true rfl) (kI 99 rfl fun r2 w3 h => ?_) kN
    refine Rch.calls (sd_X1_isSign _ _ _ h) dX1_clause_99 (lw_S q568 q569 q142 q570) dk_X1_isSign (by decide) (Nat.le_of_ble_eq_true rfl) rfl rfl (Nat.le_of_ble_eq_true rfl) (kI 102 rfl fun r4 w5 h => ?_) kN
    refine R.if_ne 116 105 dX1_clause_102 (by decide) rfl (fun hc => ?_) (fun hc => ?_)
    · replace h := h.1 hc
      exact Rch.dropk (s_X1_clause_116 Q X _ _ _ h) ⟨rfl, ⟨rfl, ⟨rfl, trivial⟩⟩⟩
    · replace h := h.2 hc
      obtain ⟨hZ, h⟩ := h
      refine R.new (ci := 6) (T := TX9) (ty0 := tyX9) (fs := [.int 0, .null, .null, .null]) 108 dX1_clause_105 rfl rfl rfl in_X9 tyX9_ok q231 q571 q158 bl_X9 rfl (by decide) hZ (fun r6 hr1 hr2 => ?_)
      replace h := h r6 hr1 hr2 _ rfl
      refine R.dupR 109 dX1_clause_108 rfl ?_
      refine R.iload_n 110 dX1_clause_109 rfl rfl ?_
      refine R.null 111 dX1_clause_110 rfl ?_
      refine R.aload_nQ 112 dX1_clause_111 rfl rfl ?_
      refine Rch.callI (sd_X9_init _ _ _ _ _ _ h) dX1_clause_112 (lw_meth q574) q158 q572 q573 rfl dk_X9_init (by decide) (Nat.le_of_ble_eq_true rfl) rfl rfl (Nat.le_of_ble_eq_true rfl) (kV 115 rfl fun w9 h => ?_) kN
      exact R.retR dX1_clause_115 rfl h
set_option maxRecDepth 100000 in
set_option maxHeartbeats 4000000 in
theorem s_X1_clause_52 {γ : GG} (Q : Nat → Wd → Prop) (X : Wd → Prop) (l1 : Int32) (t0 : Int32) : ∀ (w : Wd), b_X1_clause_52 Q X l1 t0 w → Rch γ 68 k_X1_clause 52 [some (.ref 1), some (.int l1), none, none, none] [.int t0, .ref 1] w (qR Q) (xE "FrostBox$Fault" X) := by
  intro w h
  unfold b_X1_clause_52 at h
  refine Rch.callv (sd_X1_need _ _ _ _ h) dX1_clause_52 (lw_V q481 q483 qs5 q142 q484) dk_X1_need rcX (by decide) (Nat.le_of_ble_eq_true rfl) rfl rfl (Nat.le_of_ble_eq_true rfl) (kV 55 rfl fun w2 h => ?_) (kP rfl)
  refine R.aload_n 56 dX1_clause_55 rfl rfl ?_
  refine R.dupR 57 dX1_clause_56 rfl ?_
  refine gf_13 60 dX1_clause_57 rfl rfl ?_
  refine R.iconst 61 dX1_clause_60 rfl ?_
  refine R.iadd 62 dX1_clause_61 rfl ?_
  replace h := h _ rfl
  refine pf_13 _ 65 dX1_clause_62 rfl rfl ?_
  refine R.aload_n 66 dX1_clause_65 rfl rfl ?_
  refine Rch.callv (sd_X1_look _ _ h) dX1_clause_66 (lw_V q390 q392 qs4 q142 q393) dk_X1_look rcX (by decide) (Nat.le_of_ble_eq_true rfl) rfl rfl (Nat.le_of_ble_eq_true rfl) (kI 69 rfl fun r4 w5 h => ?_) kN
  refine R.ist2n 70 dX1_clause_69 rfl (Nat.le_of_ble_eq_true rfl) rfl ?_
  refine R.iload_n 71 dX1_clause_70 rfl rfl ?_
  refine R.bipush 73 dX1_clause_71 rfl (by decide +kernel) ?_
  refine R.icmp_eq 82 76 dX1_clause_73 (by decide) rfl (fun hc => ?_) (fun hc => ?_)
  · replace h := h.1 hc
    refine R.null 83 dX1_clause_82 rfl ?_
    refine R.goto 90 dX1_clause_83 (by decide) ?_
    exact Rch.dropk (s_X1_clause_90 Q X _ _ _ h) ⟨rfl, ⟨rfl, trivial⟩⟩
  · replace h := h.2 hc
    refine R.iload_n 77 dX1_clause_76 rfl rfl ?_
    refine R.bipush 79 dX1_clause_77 rfl (by decide +kernel) ?_
    refine R.icmp_ne 86 82 dX1_clause_79 (by decide) rfl (fun hc => ?_) (fun hc => ?_)
    · replace h := h.1 hc
      refine R.aload_n 87 dX1_clause_86 rfl rfl ?_
      refine Rch.callv (sf_X1_sum 10 _ _ _ h) dX1_clause_87 (lw_V q485 q487 qs6 q142 q488) dk_X1_sum rcX (by decide) (Nat.le_of_ble_eq_true rfl) rfl rfl (Nat.le_of_ble_eq_true rfl) (kR 90 rfl fun r6 w7 h => ?_) (kP rfl)
      exact Rch.dropk (s_X1_clause_90 Q X _ _ _ h) ⟨rfl, ⟨rfl, trivial⟩⟩
    · replace h := h.2 hc
      refine R.null 83 dX1_clause_82 rfl ?_
      refine R.goto 90 dX1_clause_83 (by decide) ?_
      exact Rch.dropk (s_X1_clause_90 Q X _ _ _ h) ⟨rfl, ⟨rfl, trivial⟩⟩
set_option maxRecDepth 100000 in
set_option maxHeartbeats 4000000 in
theorem s_X1_clause_24 {γ : GG} (Q : Nat → Wd → Prop) (X : Wd → Prop) (l1 : Int32) (t0 : Int32) : ∀ (w : Wd), b_X1_clause_24 Q X l1 t0 w → Rch γ 68 k_X1_clause 24 [some (.ref 1), some (.int l1), none, none, none] [.int t0, .ref 1] w (qR Q) (xE "FrostBox$Fault" X) := by
  intro w h
  unfold b_X1_clause_24 at h
  refine Rch.callv (sd_X1_need _ _ _ _ h) dX1_clause_24 (lw_V q481 q483 qs5 q142 q484) dk_X1_need rcX (by decide) (Nat.le_of_ble_eq_true rfl) rfl rfl (Nat.le_of_ble_eq_true rfl) (kV 27 rfl fun w2 h => ?_) (kP rfl)
  refine R.aload_n 28 dX1_clause_27 rfl rfl ?_
  refine R.dupR 29 dX1_clause_28 rfl ?_
  refine gf_13 32 dX1_clause_29 rfl rfl ?_
  refine R.iconst 33 dX1_clause_32 rfl ?_
  refine R.iadd 34 dX1_clause_33 rfl ?_
  replace h := h _ rfl
  refine pf_13 _ 37 dX1_clause_34 rfl rfl ?_
  refine R.aload_n 38 dX1_clause_37 rfl rfl ?_
  refine R.aload_n 39 dX1_clause_38 rfl rfl ?_
  refine Rch.callv (sd_X1_look _ _ h) dX1_clause_39 (lw_V q390 q392 qs4 q142 q393) dk_X1_look rcX (by decide) (Nat.le_of_ble_eq_true rfl) rfl rfl (Nat.le_of_ble_eq_true rfl) (kI 42 rfl fun r4 w5 h => ?_) kN
  refine R.bipush 44 dX1_clause_42 rfl (by decide +kernel) ?_
  refine R.icmp_ne 51 47 dX1_clause_44 (by decide) rfl (fun hc => ?_) (fun hc => ?_)
  · replace h := h.1 hc
    refine R.iconst 52 dX1_clause_51 rfl ?_
    exact Rch.dropk (s_X1_clause_52 Q X _ _ _ h) ⟨rfl, ⟨rfl, trivial⟩⟩
  · replace h := h.2 hc
    refine R.iconst 48 dX1_clause_47 rfl ?_
    refine R.goto 52 dX1_clause_48 (by decide) ?_
    exact Rch.dropk (s_X1_clause_52 Q X _ _ _ h) ⟨rfl, ⟨rfl, trivial⟩⟩
set_option maxRecDepth 100000 in
set_option maxHeartbeats 4000000 in
theorem sd_X1_clause {γ : GG} (w : Wd) (Q : Nat → Wd → Prop) (X : Wd → Prop) : wp_X1_clause w Q X → Ctr γ 68 yX1_clause (ws_ yX1_clause cX1_clause 5 (some (.object "FrostBox$Clause"))) [.ref 1] w (qR Q) (xE "FrostBox$Fault" X) := by
  intro h
  unfold wp_X1_clause at h
  refine Ctr.of (μ := k_X1_clause) (by decide) rfl rfl rfl (Nat.le_of_ble_eq_true rfl) ⟨4, ?_⟩
  have es : lva [.ref 1] ++ List.replicate 4 none = [some (.ref 1), none, none, none, none] := rfl
  rw [es]
  refine R.aload_n 1 dX1_clause_0 rfl rfl ?_
  refine Rch.callv (sd_X1_look _ _ h) dX1_clause_1 (lw_V q390 q392 qs4 q142 q393) dk_X1_look rcX (by decide) (Nat.le_of_ble_eq_true rfl) rfl rfl (Nat.le_of_ble_eq_true rfl) (kI 4 rfl fun r1 w2 h => ?_) kN
  refine R.ist1n 5 dX1_clause_4 rfl (Nat.le_of_ble_eq_true rfl) rfl ?_
  refine R.aload_n 6 dX1_clause_5 rfl rfl ?_
  refine R.iload_n 7 dX1_clause_6 rfl rfl ?_
  refine R.if_le 23 10 dX1_clause_7 (by decide) rfl (fun hc => ?_) (fun hc => ?_)
  · replace h := h.1 hc
    refine R.iconst 24 dX1_clause_23 rfl ?_
    exact Rch.dropk (s_X1_clause_24 Q X _ _ _ h) ⟨rfl, ⟨rfl, trivial⟩⟩
  · replace h := h.2 hc
    refine R.ldcS (i := 0) 12 dX1_clause_10 rfl (List.mem_of_getElem? (i := 0) rfl) ?_
    refine R.iload_n 13 dX1_clause_12 rfl rfl ?_
    obtain ⟨h6, h⟩ := h
    refine Rch.callv (sd_J2_indexOf _ _ _ _ h) dX1_clause_13 (lw_V q395 q396 q397 q147 q398) dk_J2_indexOf (rcS 0 h6) (by decide) (Nat.le_of_ble_eq_true rfl) rfl rfl (Nat.le_of_ble_eq_true rfl) (kI 16 rfl fun r3 w4 h => ?_) kN
    refine R.if_lt 23 19 dX1_clause_16 (by decide) rfl (fun hc => ?_) (fun hc => ?_)
    · replace h := h.1 hc
      refine R.iconst 24 dX1_clause_23 rfl ?_
      exact Rch.dropk (s_X1_clause_24 Q X _ _ _ h) ⟨rfl, ⟨rfl, trivial⟩⟩
    · replace h := h.2 hc
      refine R.iconst 20 dX1_clause_19 rfl ?_
      refine R.goto 24 dX1_clause_20 (by decide) ?_
      exact Rch.dropk (s_X1_clause_24 Q X _ _ _ h) ⟨rfl, ⟨rfl, trivial⟩⟩

abbrev k_X1_wholeLaw : MK := ("FrostBox", cX1_wholeLaw, 3, (some (.object "FrostBox$Clause")), [], "wholeLaw")
def wl_X1_wholeLaw_17 (Q : Nat → Wd → Prop) (X : Wd → Prop) (l1 : Option Nat) (R17 : Option Nat → Wd → Prop) (l2 : Option Nat) (w : Wd) : Prop := wp_X1_look w (fun r1 w2 => (¬ r1 = (iz 59) → wp_X1_look w2 (fun r3 w4 => (¬ r3 = (iz (-1)) → wp_X1_need (iz 0) w4 (fun w6 => ∃ i7, l1 = some i7 ∧ Q i7 w6) X) ∧ (r3 = (iz (-1)) → wp_X1_need (iz 1) w4 (fun w10 => ∃ i11, l1 = some i11 ∧ Q i11 w10) X))) ∧ (r1 = (iz 59) → ∀ w13, w13 = sI w2 13 ((gI w2 13) + (iz 1)) → wp_X1_clause w13 (fun r14 w15 => ∃ i16, l2 = some i16 ∧ ∃ fs17, gF w15 i16 = some (6, fs17) ∧ 3 < fs17.length ∧ (∀ w18, w18 = sF w15 i16 (6, fs17.set 3 (rv (some r14))) → ∃ i19, l2 = some i19 ∧ ∃ x20, ndO w18 i19 6 3 x20 ∧ R17 x20 w18)) X))
def lp_X1_wholeLaw_17 (Q : Nat → Wd → Prop) (X : Wd → Prop) (l1 : Option Nat) : Nat → Option Nat → Wd → Prop
  | 0, _, _ => False
  | n + 1, l2, w => wl_X1_wholeLaw_17 Q X l1 (lp_X1_wholeLaw_17 Q X l1 n) l2 w
def wp_X1_wholeLaw (w : Wd) (Q : Nat → Wd → Prop) (X : Wd → Prop) : Prop := ∀ w1, w1 = sI w 13 (iz 0) → ∀ w2, w2 = sI w1 14 (iz 0) → wp_X1_clause w2 (fun r3 w4 => ∃ n5, lp_X1_wholeLaw_17 Q X (some r3) n5 (some r3) w4) X
set_option maxRecDepth 100000 in
set_option maxHeartbeats 4000000 in
theorem sl_X1_wholeLaw_17 {γ : GG} (Q : Nat → Wd → Prop) (X : Wd → Prop) (l1 : Option Nat) : ∀ (n : Nat) (l2 : Option Nat) (w : Wd), lp_X1_wholeLaw_17 Q X l1 n l2 w → Rch γ 69 k_X1_wholeLaw 17 [some (.ref 1), some (rv l1), some (rv l2)] [] w (qR Q) (xE "FrostBox$Fault" X) := by
  intro n
  induction n with
  | zero => intro _ _ h; exact h.elim
  | succ n hR17 =>
    intro l2 w h
    have h : wl_X1_wholeLaw_17 Q X l1 (lp_X1_wholeLaw_17 Q X l1 n) l2 w := h
    unfold wl_X1_wholeLaw_17 at h
    refine R.aload_n 18 dX1_wholeLaw_17 rfl rfl ?_
    refine Rch.callv (sd_X1_look _ _ h) dX1_wholeLaw_18 (lw_V q390 q392 qs4 q142 q393) dk_X1_look rcX (by decide) (Nat.le_of_ble_eq_true rfl) rfl rfl (Nat.le_of_ble_eq_true rfl) (kI 21 rfl fun r1 w2 h => ?_) kN
    refine R.bipush 23 dX1_wholeLaw_21 rfl (by decide +kernel) ?_
    refine R.icmp_ne 52 26 dX1_wholeLaw_23 (by decide) rfl (fun hc => ?_) (fun hc => ?_)
    · replace h := h.1 hc
      refine R.aload_n 53 dX1_wholeLaw_52 rfl rfl ?_
      refine R.aload_n 54 dX1_wholeLaw_53 rfl rfl ?_
      refine Rch.callv (sd_X1_look _ _ h) dX1_wholeLaw_54 (lw_V q390 q392 qs4 q142 q393) dk_X1_look rcX (by decide) (Nat.le_of_ble_eq_true rfl) rfl rfl (Nat.le_of_ble_eq_true rfl) (kI 57 rfl fun r3 w4 h => ?_) kN
      refine R.iconst 58 dX1_wholeLaw_57 rfl ?_
      refine R.icmp_ne 65 61 dX1_wholeLaw_58 (by decide) rfl (fun hc => ?_) (fun hc => ?_)
      · replace h := h.1 hc
        refine R.iconst 66 dX1_wholeLaw_65 rfl ?_
        refine Rch.callv (sd_X1_need _ _ _ _ h) dX1_wholeLaw_66 (lw_V q481 q483 qs5 q142 q484) dk_X1_need rcX (by decide) (Nat.le_of_ble_eq_true rfl) rfl rfl (Nat.le_of_ble_eq_true rfl) (kV 69 rfl fun w6 h => ?_) (kP rfl)
        refine R.aload_nQ 70 dX1_wholeLaw_69 rfl rfl ?_
        obtain ⟨i7, ho, h⟩ := h
        refine R.dr0 ho ?_
        exact R.retR dX1_wholeLaw_70 rfl h
      · replace h := h.2 hc
        refine R.iconst 62 dX1_wholeLaw_61 rfl ?_
        refine R.goto 66 dX1_wholeLaw_62 (by decide) ?_
        refine Rch.callv (sd_X1_need _ _ _ _ h) dX1_wholeLaw_66 (lw_V q481 q483 qs5 q142 q484) dk_X1_need rcX (by decide) (Nat.le_of_ble_eq_true rfl) rfl rfl (Nat.le_of_ble_eq_true rfl) (kV 69 rfl fun w10 h => ?_) (kP rfl)
        refine R.aload_nQ 70 dX1_wholeLaw_69 rfl rfl ?_
        obtain ⟨i11, ho, h⟩ := h
        refine R.dr0 ho ?_
        exact R.retR dX1_wholeLaw_70 rfl h
    · replace h := h.2 hc
      refine R.aload_n 27 dX1_wholeLaw_26 rfl rfl ?_
      refine R.dupR 28 dX1_wholeLaw_27 rfl ?_
      refine gf_13 31 dX1_wholeLaw_28 rfl rfl ?_
      refine R.iconst 32 dX1_wholeLaw_31 rfl ?_
      refine R.iadd 33 dX1_wholeLaw_32 rfl ?_
      replace h := h _ rfl
      refine pf_13 _ 36 dX1_wholeLaw_33 rfl rfl ?_
      refine R.aload_nQ 37 dX1_wholeLaw_36 rfl rfl ?_
      refine R.aload_n 38 dX1_wholeLaw_37 rfl rfl ?_
      refine Rch.callv (sd_X1_clause _ _ _ h) dX1_wholeLaw_38 (lw_V q386 q388 qs3 q142 q389) dk_X1_clause rcX (by decide) (Nat.le_of_ble_eq_true rfl) rfl rfl (Nat.le_trans (rmO rmZ) (by decide)) (kR 41 rfl fun r14 w15 h => ?_) (kP rfl)
      obtain ⟨i16, ho, h⟩ := h
      refine R.dr1 ho ?_
      obtain ⟨fs17, hg, hl, h⟩ := h
      replace h := h _ rfl
      refine R.putNN (k0 := 3) (T := TX9) (ty := (.object "FrostBox$Clause")) (v := rv (some r14)) 44 dX1_wholeLaw_41 rfl rfl rfl in_X9 tyX9_ok nmX9 (List.mem_of_getElem? (i := 5) rfl) rfl (by decide) (by decide +kernel) (nar_o γ _ _) (fit_o γ _ _) hl hg ?_
      refine R.aload_nQ 45 dX1_wholeLaw_44 rfl rfl ?_
      obtain ⟨i19, ho, h⟩ := h
      refine R.dr0 ho ?_
      obtain ⟨x20, ⟨fs, hg, hv⟩, h⟩ := h
      refine R.getNN (k0 := 3) (T := TX9) 48 dX1_wholeLaw_45 rfl rfl rfl in_X9 (List.mem_of_getElem? (i := 5) rfl) rfl (by decide) hg hv ?_
      refine R.qst2n 49 dX1_wholeLaw_48 rfl (Nat.le_of_ble_eq_true rfl) (c1_rv _) ?_
      refine R.goto 17 dX1_wholeLaw_49 (by decide) ?_
      exact Rch.dropk (hR17 _ _ h) ⟨rfl, ⟨rfl, ⟨rfl, trivial⟩⟩⟩
set_option maxRecDepth 100000 in
set_option maxHeartbeats 4000000 in
theorem sd_X1_wholeLaw {γ : GG} (w : Wd) (Q : Nat → Wd → Prop) (X : Wd → Prop) : wp_X1_wholeLaw w Q X → Ctr γ 69 yX1_wholeLaw (ws_ yX1_wholeLaw cX1_wholeLaw 3 (some (.object "FrostBox$Clause"))) [.ref 1] w (qR Q) (xE "FrostBox$Fault" X) := by
  intro h
  unfold wp_X1_wholeLaw at h
  refine Ctr.of (μ := k_X1_wholeLaw) (by decide) rfl rfl rfl (Nat.le_of_ble_eq_true rfl) ⟨2, ?_⟩
  have es : lva [.ref 1] ++ List.replicate 2 none = [some (.ref 1), none, none] := rfl
  rw [es]
  refine R.aload_n 1 dX1_wholeLaw_0 rfl rfl ?_
  refine R.iconst 2 dX1_wholeLaw_1 rfl ?_
  replace h := h _ rfl
  refine pf_13 _ 5 dX1_wholeLaw_2 rfl rfl ?_
  refine R.aload_n 6 dX1_wholeLaw_5 rfl rfl ?_
  refine R.iconst 7 dX1_wholeLaw_6 rfl ?_
  replace h := h _ rfl
  refine pf_14 _ 10 dX1_wholeLaw_7 rfl rfl ?_
  refine R.aload_n 11 dX1_wholeLaw_10 rfl rfl ?_
  refine Rch.callv (sd_X1_clause _ _ _ h) dX1_wholeLaw_11 (lw_V q386 q388 qs3 q142 q389) dk_X1_clause rcX (by decide) (Nat.le_of_ble_eq_true rfl) rfl rfl (Nat.le_of_ble_eq_true rfl) (kR 14 rfl fun r3 w4 h => ?_) (kP rfl)
  refine R.ast1n 15 dX1_wholeLaw_14 rfl (Nat.le_of_ble_eq_true rfl) rfl ?_
  refine R.aload_n 16 dX1_wholeLaw_15 rfl rfl ?_
  refine R.ast2n 17 dX1_wholeLaw_16 rfl (Nat.le_of_ble_eq_true rfl) rfl ?_
  obtain ⟨n5, h⟩ := h
  exact Rch.dropk (sl_X1_wholeLaw_17 Q X _ n5 _ _ h) ⟨rfl, ⟨rfl, ⟨rfl, trivial⟩⟩⟩

abbrev k_X1_lawFault : MK := ("FrostBox", cX1_lawFault, 2, (some .int), [(0, 6, 7, 9)], "lawFault")
def wp_X1_lawFault (w : Wd) (Q : Int32 → Wd → Prop) : Prop := wp_X1_wholeLaw w (fun r1 w2 => Q (iz (-1)) w2) (fun w3 => Q (gI w3 13) w3)
set_option maxRecDepth 100000 in
set_option maxHeartbeats 4000000 in
theorem sd_X1_lawFault {γ : GG} (w : Wd) (Q : Int32 → Wd → Prop) : wp_X1_lawFault w Q → Ctr γ 70 yX1_lawFault (wsW_ yX1_lawFault cX1_lawFault 2 (some .int) [(0, 6, 7, 9)]) [.ref 1] w (qI Q) xN := by
  intro h
  unfold wp_X1_lawFault at h
  refine Ctr.ofH (μ := k_X1_lawFault) (by decide) rfl rfl (Nat.le_of_ble_eq_true rfl) ⟨1, ?_⟩
  have es : lva [.ref 1] ++ List.replicate 1 none = [some (.ref 1), none] := rfl
  rw [es]
  refine R.aload_n 1 dX1_lawFault_0 rfl rfl ?_
  refine Rch.callv (sd_X1_wholeLaw _ _ _ h) dX1_lawFault_1 (lw_V q382 q384 qs2 q142 q385) dk_X1_wholeLaw rcX (by decide) (Nat.le_of_ble_eq_true rfl) rfl rfl (Nat.le_of_ble_eq_true rfl) (kR 4 rfl fun r1 w2 h => ?_) (kC fun w3 h => ?_)
  · refine R.popR 5 dX1_lawFault_4 rfl ?_
    refine R.iconst 6 dX1_lawFault_5 rfl ?_
    exact R.retI dX1_lawFault_6 rfl h
  · refine RchX.catch (k0 := 1) rfl (by decide) (by decide) q174 (List.mem_of_getElem? (i := 0) rfl) dX1_lawFault_7 rfl (Nat.le_of_ble_eq_true rfl) (hpS (i := 0) rfl rfl) ?_
    refine R.aload_n 9 dX1_lawFault_8 rfl rfl ?_
    refine gf_13 12 dX1_lawFault_9 rfl rfl ?_
    exact R.retI dX1_lawFault_12 rfl h

abbrev k_X1_usual : MK := ("FrostBox", cX1_usual, 2, (some .int), [], "usual")
def wp_X1_usual (l0 : Int32) (l1 : Int32) (w : Wd) (Q : Int32 → Wd → Prop) : Prop := (l0.toInt = 107 → (¬ l1 = iz 0 → (¬ l1 = (iz 2) → (¬ l1 = (iz 4) → Q (iz 3) w) ∧ (l1 = (iz 4) → Q (iz 6) w)) ∧ (l1 = (iz 2) → Q (iz 12) w)) ∧ (l1 = iz 0 → Q (iz 0) w)) ∧ (l0.toInt = 115 → (¬ l1 = iz 0 → (¬ l1 = (iz 1) → (¬ l1 = (iz 2) → Q (iz 1) w) ∧ (l1 = (iz 2) → Q (iz 6) w)) ∧ (l1 = (iz 1) → Q (iz 9) w)) ∧ (l1 = iz 0 → Q (iz 40) w)) ∧ (¬ l0.toInt = 107 ∧ ¬ l0.toInt = 115 → (¬ l1 = (iz 1) → Q (iz 0) w) ∧ (l1 = (iz 1) → Q (iz 2) w))
set_option maxRecDepth 100000 in
set_option maxHeartbeats 4000000 in
theorem sd_X1_usual {γ : GG} (l0 : Int32) (l1 : Int32) (w : Wd) (Q : Int32 → Wd → Prop) : wp_X1_usual l0 l1 w Q → Ctr γ 1 yX1_usual (ws_ yX1_usual cX1_usual 2 (some .int)) [.int l0, .int l1] w (qI Q) xN := by
  intro h
  unfold wp_X1_usual at h
  refine Ctr.of (μ := k_X1_usual) (by decide) rfl rfl rfl (Nat.le_of_ble_eq_true rfl) ⟨0, ?_⟩
  have es : lva [.int l0, .int l1] ++ List.replicate 0 none = [some (.int l0), some (.int l1)] := rfl
  rw [es]
  refine R.iload_n 1 dX1_usual_0 rfl rfl ?_
  by_cases c0 : l0.toInt = 107
  · replace h := h.1 c0
    refine R.lsw (off := 58) 59 dX1_usual_1 (by decide) (by rw [c0]; rfl) (by decide) ?_
    refine R.iload_n 60 dX1_usual_59 rfl rfl ?_
    refine R.if_ne 67 63 dX1_usual_60 (by decide) rfl (fun hc => ?_) (fun hc => ?_)
    · replace h := h.1 hc
      refine R.iload_n 68 dX1_usual_67 rfl rfl ?_
      refine R.iconst 69 dX1_usual_68 rfl ?_
      refine R.icmp_ne 77 72 dX1_usual_69 (by decide) rfl (fun hc => ?_) (fun hc => ?_)
      · replace h := h.1 hc
        refine R.iload_n 78 dX1_usual_77 rfl rfl ?_
        refine R.iconst 79 dX1_usual_78 rfl ?_
        refine R.icmp_ne 87 82 dX1_usual_79 (by decide) rfl (fun hc => ?_) (fun hc => ?_)
        · replace h := h.1 hc
          refine R.iconst 88 dX1_usual_87 rfl ?_
          exact R.retI dX1_usual_88 rfl h
        · replace h := h.2 hc
          refine R.bipush 84 dX1_usual_82 rfl (by decide +kernel) ?_
          refine R.goto 88 dX1_usual_84 (by decide) ?_
          exact R.retI dX1_usual_88 rfl h
      · replace h := h.2 hc
        refine R.bipush 74 dX1_usual_72 rfl (by decide +kernel) ?_
        refine R.goto 88 dX1_usual_74 (by decide) ?_
        exact R.retI dX1_usual_88 rfl h
    · replace h := h.2 hc
      refine R.iconst 64 dX1_usual_63 rfl ?_
      refine R.goto 88 dX1_usual_64 (by decide) ?_
      exact R.retI dX1_usual_88 rfl h
  replace h := h.2
  by_cases c1 : l0.toInt = 115
  · replace h := h.1 c1
    refine R.lsw (off := 27) 28 dX1_usual_1 (by decide) (by rw [c1]; rfl) (by decide) ?_
    refine R.iload_n 29 dX1_usual_28 rfl rfl ?_
    refine R.if_ne 37 32 dX1_usual_29 (by decide) rfl (fun hc => ?_) (fun hc => ?_)
    · replace h := h.1 hc
      refine R.iload_n 38 dX1_usual_37 rfl rfl ?_
      refine R.iconst 39 dX1_usual_38 rfl ?_
      refine R.icmp_ne 47 42 dX1_usual_39 (by decide) rfl (fun hc => ?_) (fun hc => ?_)
      · replace h := h.1 hc
        refine R.iload_n 48 dX1_usual_47 rfl rfl ?_
        refine R.iconst 49 dX1_usual_48 rfl ?_
        refine R.icmp_ne 57 52 dX1_usual_49 (by decide) rfl (fun hc => ?_) (fun hc => ?_)
        · replace h := h.1 hc
          refine R.iconst 58 dX1_usual_57 rfl ?_
          exact R.retI dX1_usual_58 rfl h
        · replace h := h.2 hc
          refine R.bipush 54 dX1_usual_52 rfl (by decide +kernel) ?_
          refine R.goto 58 dX1_usual_54 (by decide) ?_
          exact R.retI dX1_usual_58 rfl h
      · replace h := h.2 hc
        refine R.bipush 44 dX1_usual_42 rfl (by decide +kernel) ?_
        refine R.goto 58 dX1_usual_44 (by decide) ?_
        exact R.retI dX1_usual_58 rfl h
    · replace h := h.2 hc
      refine R.bipush 34 dX1_usual_32 rfl (by decide +kernel) ?_
      refine R.goto 58 dX1_usual_34 (by decide) ?_
      exact R.retI dX1_usual_58 rfl h
  replace h := h.2
  replace h := h ⟨c0, c1⟩
  refine R.lsw (off := 88) 89 dX1_usual_1 (by decide) (lsw_d2 c0 c1) (by decide) ?_
  refine R.iload_n 90 dX1_usual_89 rfl rfl ?_
  refine R.iconst 91 dX1_usual_90 rfl ?_
  refine R.icmp_ne 98 94 dX1_usual_91 (by decide) rfl (fun hc => ?_) (fun hc => ?_)
  · replace h := h.1 hc
    refine R.iconst 99 dX1_usual_98 rfl ?_
    exact R.retI dX1_usual_99 rfl h
  · replace h := h.2 hc
    refine R.iconst 95 dX1_usual_94 rfl ?_
    refine R.goto 99 dX1_usual_95 (by decide) ?_
    exact R.retI dX1_usual_99 rfl h

abbrev k_X1_there : MK := ("FrostBox", cX1_there, 1, (some .int), [], "there")
def wp_X1_there (w : Wd) (Q : Int32 → Wd → Prop) : Prop := ((gI w 12) ≤ (gI w 13) → Q (iz (-1)) w) ∧ (¬ (gI w 12) ≤ (gI w 13) → inb (gI w 13) 240 ∧ Q ((gA w 11 (gI w 13).toInt) &&& (iz 255)) w)
set_option maxRecDepth 100000 in
set_option maxHeartbeats 4000000 in
theorem sd_X1_there {γ : GG} (w : Wd) (Q : Int32 → Wd → Prop) : wp_X1_there w Q → Ctr γ 1 yX1_there (ws_ yX1_there cX1_there 1 (some .int)) [.ref 1] w (qI Q) xN := by
  intro h
  unfold wp_X1_there at h
  refine Ctr.of (μ := k_X1_there) (by decide) rfl rfl rfl (Nat.le_of_ble_eq_true rfl) ⟨0, ?_⟩
  have es : lva [.ref 1] ++ List.replicate 0 none = [some (.ref 1)] := rfl
  rw [es]
  refine R.aload_n 1 dX1_there_0 rfl rfl ?_
  refine gf_13 4 dX1_there_1 rfl rfl ?_
  refine R.aload_n 5 dX1_there_4 rfl rfl ?_
  refine gf_12 8 dX1_there_5 rfl rfl ?_
  refine R.icmp_ge 27 11 dX1_there_8 (by decide) rfl (fun hc => ?_) (fun hc => ?_)
  · replace h := h.1 hc
    refine R.iconst 28 dX1_there_27 rfl ?_
    exact R.retI dX1_there_28 rfl h
  · replace h := h.2 hc
    refine R.aload_n 12 dX1_there_11 rfl rfl ?_
    refine gf_11 15 dX1_there_12 rfl rfl ?_
    refine R.aload_n 16 dX1_there_15 rfl rfl ?_
    refine gf_13 19 dX1_there_16 rfl rfl ?_
    obtain ⟨hb, h⟩ := h
    refine R.bald ar_11 20 dX1_there_19 rfl hb ?_
    refine R.sipush 23 dX1_there_20 rfl (by decide +kernel) ?_
    refine R.iand 24 dX1_there_23 rfl ?_
    refine R.goto 28 dX1_there_24 (by decide) ?_
    exact R.retI dX1_there_28 rfl h
