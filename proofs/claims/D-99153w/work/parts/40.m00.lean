set_option maxRecDepth 100000

abbrev k_X3_thrown : MK := ("FrostBoxModel", cX3_thrown, 1, (some .int), [], "thrown")
def wp_X3_thrown (w : Wd) (Q : Int32 → Wd → Prop) : Prop := Q (gI w 60) w
set_option maxRecDepth 100000 in
set_option maxHeartbeats 4000000 in
theorem sd_X3_thrown {γ : GG} (w : Wd) (Q : Int32 → Wd → Prop) : wp_X3_thrown w Q → Ctr γ 1 yX3_thrown (ws_ yX3_thrown cX3_thrown 1 (some .int)) [.ref 2] w (qI Q) xN := by
  intro h
  unfold wp_X3_thrown at h
  refine Ctr.of (μ := k_X3_thrown) (by decide) rfl rfl rfl (Nat.le_of_ble_eq_true rfl) ⟨0, ?_⟩
  have es : lva [.ref 2] ++ List.replicate 0 none = [some (.ref 2)] := rfl
  rw [es]
  refine R.aload_n 1 dX3_thrown_0 rfl rfl ?_
  refine gf_60 4 dX3_thrown_1 rfl rfl ?_
  exact R.retI dX3_thrown_4 rfl h

abbrev k_X3_bytesIn : MK := ("FrostBoxModel", cX3_bytesIn, 3, (some .int), [], "bytesIn")
def wl_X3_bytesIn_5 (Q : Int32 → Wd → Prop) (l0 : Int32) (R5 : Int32 → Int32 → Wd → Prop) (l1 : Int32) (l2 : Int32) (w : Wd) : Prop := (l2 < iz 0 → Q l1 w) ∧ (¬ l2 < iz 0 → (((l0 >>> (l2 &&& 31)) &&& (iz 255)) = iz 0 → R5 (l1 + (iz 0)) (l2 + iz (-8)) w) ∧ (¬ ((l0 >>> (l2 &&& 31)) &&& (iz 255)) = iz 0 → R5 (l1 + (iz 1)) (l2 + iz (-8)) w))
def lp_X3_bytesIn_5 (Q : Int32 → Wd → Prop) (l0 : Int32) : Nat → Int32 → Int32 → Wd → Prop
  | 0, _, _, _ => False
  | n + 1, l1, l2, w => wl_X3_bytesIn_5 Q l0 (lp_X3_bytesIn_5 Q l0 n) l1 l2 w
def wp_X3_bytesIn (l0 : Int32) (w : Wd) (Q : Int32 → Wd → Prop) : Prop := ∃ n1, lp_X3_bytesIn_5 Q l0 n1 (iz 0) (iz 24) w
set_option maxRecDepth 100000 in
set_option maxHeartbeats 4000000 in
theorem sl_X3_bytesIn_5 {γ : GG} (Q : Int32 → Wd → Prop) (l0 : Int32) : ∀ (n : Nat) (l1 : Int32) (l2 : Int32) (w : Wd), lp_X3_bytesIn_5 Q l0 n l1 l2 w → Rch γ 1 k_X3_bytesIn 5 [some (.int l0), some (.int l1), some (.int l2)] [] w (qI Q) xN := by
  intro n
  induction n with
  | zero => intro _ _ _ h; exact h.elim
  | succ n hR5 =>
    intro l1 l2 w h
    have h : wl_X3_bytesIn_5 Q l0 (lp_X3_bytesIn_5 Q l0 n) l1 l2 w := h
    unfold wl_X3_bytesIn_5 at h
    refine R.iload_n 6 dX3_bytesIn_5 rfl rfl ?_
    refine R.if_lt 33 9 dX3_bytesIn_6 (by decide) rfl (fun hc => ?_) (fun hc => ?_)
    · replace h := h.1 hc
      refine R.iload_n 34 dX3_bytesIn_33 rfl rfl ?_
      exact R.retI dX3_bytesIn_34 rfl h
    · replace h := h.2 hc
      refine R.iload_n 10 dX3_bytesIn_9 rfl rfl ?_
      refine R.iload_n 11 dX3_bytesIn_10 rfl rfl ?_
      refine R.iload_n 12 dX3_bytesIn_11 rfl rfl ?_
      refine R.ishr 13 dX3_bytesIn_12 rfl ?_
      refine R.sipush 16 dX3_bytesIn_13 rfl (by decide +kernel) ?_
      refine R.iand 17 dX3_bytesIn_16 rfl ?_
      refine R.if_eq 24 20 dX3_bytesIn_17 (by decide) rfl (fun hc => ?_) (fun hc => ?_)
      · replace h := h.1 hc
        refine R.iconst 25 dX3_bytesIn_24 rfl ?_
        refine R.iadd 26 dX3_bytesIn_25 rfl ?_
        refine R.ist1n 27 dX3_bytesIn_26 rfl (Nat.le_of_ble_eq_true rfl) rfl ?_
        refine R.inc2 30 dX3_bytesIn_27 rfl (Nat.le_of_ble_eq_true rfl) rfl ?_
        refine R.goto 5 dX3_bytesIn_30 (by decide) ?_
        exact Rch.dropk (hR5 _ _ _ h) ⟨rfl, ⟨rfl, ⟨rfl, trivial⟩⟩⟩
      · replace h := h.2 hc
        refine R.iconst 21 dX3_bytesIn_20 rfl ?_
        refine R.goto 25 dX3_bytesIn_21 (by decide) ?_
        refine R.iadd 26 dX3_bytesIn_25 rfl ?_
        refine R.ist1n 27 dX3_bytesIn_26 rfl (Nat.le_of_ble_eq_true rfl) rfl ?_
        refine R.inc2 30 dX3_bytesIn_27 rfl (Nat.le_of_ble_eq_true rfl) rfl ?_
        refine R.goto 5 dX3_bytesIn_30 (by decide) ?_
        exact Rch.dropk (hR5 _ _ _ h) ⟨rfl, ⟨rfl, ⟨rfl, trivial⟩⟩⟩
set_option maxRecDepth 100000 in
set_option maxHeartbeats 4000000 in
theorem sd_X3_bytesIn {γ : GG} (l0 : Int32) (w : Wd) (Q : Int32 → Wd → Prop) : wp_X3_bytesIn l0 w Q → Ctr γ 1 yX3_bytesIn (ws_ yX3_bytesIn cX3_bytesIn 3 (some .int)) [.int l0] w (qI Q) xN := by
  intro h
  unfold wp_X3_bytesIn at h
  refine Ctr.of (μ := k_X3_bytesIn) (by decide) rfl rfl rfl (Nat.le_of_ble_eq_true rfl) ⟨2, ?_⟩
  have es : lva [.int l0] ++ List.replicate 2 none = [some (.int l0), none, none] := rfl
  rw [es]
  refine R.iconst 1 dX3_bytesIn_0 rfl ?_
  refine R.ist1n 2 dX3_bytesIn_1 rfl (Nat.le_of_ble_eq_true rfl) rfl ?_
  refine R.bipush 4 dX3_bytesIn_2 rfl (by decide +kernel) ?_
  refine R.ist2n 5 dX3_bytesIn_4 rfl (Nat.le_of_ble_eq_true rfl) rfl ?_
  obtain ⟨n1, h⟩ := h
  exact Rch.dropk (sl_X3_bytesIn_5 Q _ n1 _ _ _ h) ⟨rfl, ⟨rfl, ⟨rfl, trivial⟩⟩⟩

abbrev k_X3_put : MK := ("FrostBoxModel", cX3_put, 3, none, [], "put")
def wl_X3_put_3 (Q : Wd → Prop) (l1 : Int32) (R3 : Int32 → Wd → Prop) (l2 : Int32) (w : Wd) : Prop := (l2 < iz 0 → Q w) ∧ (¬ l2 < iz 0 → (¬ ((l1 >>> (l2 &&& 31)) &&& (iz 255)) = iz 0 → inb (gI w 66) 240 ∧ (∀ w1, w1 = sA w 61 (gI w 66).toInt (((l1 >>> (l2 &&& 31))).toInt8.toInt32).toInt8.toInt32 → ∀ w2, w2 = sI w1 66 ((gI w1 66) + (iz 1)) → R3 (l2 + iz (-8)) w2)) ∧ (((l1 >>> (l2 &&& 31)) &&& (iz 255)) = iz 0 → R3 (l2 + iz (-8)) w))
def lp_X3_put_3 (Q : Wd → Prop) (l1 : Int32) : Nat → Int32 → Wd → Prop
  | 0, _, _ => False
  | n + 1, l2, w => wl_X3_put_3 Q l1 (lp_X3_put_3 Q l1 n) l2 w
def wp_X3_put (l1 : Int32) (w : Wd) (Q : Wd → Prop) : Prop := ∃ n1, lp_X3_put_3 Q l1 n1 (iz 24) w
set_option maxRecDepth 100000 in
set_option maxHeartbeats 4000000 in
theorem sl_X3_put_3 {γ : GG} (Q : Wd → Prop) (l1 : Int32) : ∀ (n : Nat) (l2 : Int32) (w : Wd), lp_X3_put_3 Q l1 n l2 w → Rch γ 1 k_X3_put 3 [some (.ref 2), some (.int l1), some (.int l2)] [] w (qV Q) xN := by
  intro n
  induction n with
  | zero => intro _ _ h; exact h.elim
  | succ n hR3 =>
    intro l2 w h
    have h : wl_X3_put_3 Q l1 (lp_X3_put_3 Q l1 n) l2 w := h
    unfold wl_X3_put_3 at h
    refine R.iload_n 4 dX3_put_3 rfl rfl ?_
    refine R.if_lt 49 7 dX3_put_4 (by decide) rfl (fun hc => ?_) (fun hc => ?_)
    · replace h := h.1 hc
      exact R.retV dX3_put_49 rfl h
    · replace h := h.2 hc
      refine R.iload_n 8 dX3_put_7 rfl rfl ?_
      refine R.iload_n 9 dX3_put_8 rfl rfl ?_
      refine R.ishr 10 dX3_put_9 rfl ?_
      refine R.sipush 13 dX3_put_10 rfl (by decide +kernel) ?_
      refine R.iand 14 dX3_put_13 rfl ?_
      refine R.if_ne 20 17 dX3_put_14 (by decide) rfl (fun hc => ?_) (fun hc => ?_)
      · replace h := h.1 hc
        refine R.aload_n 21 dX3_put_20 rfl rfl ?_
        refine gf_61 24 dX3_put_21 rfl rfl ?_
        refine R.aload_n 25 dX3_put_24 rfl rfl ?_
        refine gf_66 28 dX3_put_25 rfl rfl ?_
        refine R.iload_n 29 dX3_put_28 rfl rfl ?_
        refine R.iload_n 30 dX3_put_29 rfl rfl ?_
        refine R.ishr 31 dX3_put_30 rfl ?_
        refine R.i2b 32 dX3_put_31 rfl ?_
        obtain ⟨hb, h⟩ := h
        replace h := h _ rfl
        refine R.bast ar_61 33 dX3_put_32 rfl hb ?_
        refine R.aload_n 34 dX3_put_33 rfl rfl ?_
        refine R.dupR 35 dX3_put_34 rfl ?_
        refine gf_66 38 dX3_put_35 rfl rfl ?_
        refine R.iconst 39 dX3_put_38 rfl ?_
        refine R.iadd 40 dX3_put_39 rfl ?_
        replace h := h _ rfl
        refine pf_66 _ 43 dX3_put_40 rfl rfl ?_
        refine R.inc2 46 dX3_put_43 rfl (Nat.le_of_ble_eq_true rfl) rfl ?_
        refine R.goto 3 dX3_put_46 (by decide) ?_
        exact Rch.dropk (hR3 _ _ h) ⟨rfl, ⟨rfl, ⟨rfl, trivial⟩⟩⟩
      · replace h := h.2 hc
        refine R.goto 43 dX3_put_17 (by decide) ?_
        refine R.inc2 46 dX3_put_43 rfl (Nat.le_of_ble_eq_true rfl) rfl ?_
        refine R.goto 3 dX3_put_46 (by decide) ?_
        exact Rch.dropk (hR3 _ _ h) ⟨rfl, ⟨rfl, ⟨rfl, trivial⟩⟩⟩
set_option maxRecDepth 100000 in
set_option maxHeartbeats 4000000 in
theorem sd_X3_put {γ : GG} (l1 : Int32) (w : Wd) (Q : Wd → Prop) : wp_X3_put l1 w Q → Ctr γ 1 yX3_put (ws_ yX3_put cX3_put 3 none) [.ref 2, .int l1] w (qV Q) xN := by
  intro h
  unfold wp_X3_put at h
  refine Ctr.of (μ := k_X3_put) (by decide) rfl rfl rfl (Nat.le_of_ble_eq_true rfl) ⟨1, ?_⟩
  have es : lva [.ref 2, .int l1] ++ List.replicate 1 none = [some (.ref 2), some (.int l1), none] := rfl
  rw [es]
  refine R.bipush 2 dX3_put_0 rfl (by decide +kernel) ?_
  refine R.ist2n 3 dX3_put_2 rfl (Nat.le_of_ble_eq_true rfl) rfl ?_
  obtain ⟨n1, h⟩ := h
  exact Rch.dropk (sl_X3_put_3 Q _ n1 _ _ h) ⟨rfl, ⟨rfl, ⟨rfl, trivial⟩⟩⟩

abbrev k_X3_feed : MK := ("FrostBoxModel", cX3_feed, 6, (some .int), [], "feed")
def wp_X3_feed (l1 : Int32) (l2 : Int32) (l3 : Int32) (l4 : Int32) (l5 : Int32) (w : Wd) (Q : Int32 → Wd → Prop) : Prop := ∀ w1, w1 = sI w 60 (iz 0) → wp_X3_bytesIn l1 w1 (fun r2 w3 => wp_X3_bytesIn l2 w3 (fun r4 w5 => wp_X3_bytesIn l3 w5 (fun r6 w7 => wp_X3_bytesIn l4 w7 (fun r8 w9 => wp_X3_bytesIn l5 w9 (fun r10 w11 => (((((((gI w1 66) + r2) + r4) + r6) + r8) + r10) ≤ (iz 240) → wp_X3_put l1 w11 (fun w13 => wp_X3_put l2 w13 (fun w15 => wp_X3_put l3 w15 (fun w17 => wp_X3_put l4 w17 (fun w19 => wp_X3_put l5 w19 (fun w21 => Q (gI w21 66) w21)))))) ∧ (¬ ((((((gI w1 66) + r2) + r4) + r6) + r8) + r10) ≤ (iz 240) → Q (iz (-1)) w11))))))
set_option maxRecDepth 100000 in
set_option maxHeartbeats 4000000 in
theorem sd_X3_feed {γ : GG} (l1 : Int32) (l2 : Int32) (l3 : Int32) (l4 : Int32) (l5 : Int32) (w : Wd) (Q : Int32 → Wd → Prop) : wp_X3_feed l1 l2 l3 l4 l5 w Q → Ctr γ 2 yX3_feed (ws_ yX3_feed cX3_feed 6 (some .int)) [.ref 2, .int l1, .int l2, .int l3, .int l4, .int l5] w (qI Q) xN := by
  intro h
  unfold wp_X3_feed at h
  refine Ctr.of (μ := k_X3_feed) (by decide) rfl rfl rfl (Nat.le_of_ble_eq_true rfl) ⟨0, ?_⟩
  have es : lva [.ref 2, .int l1, .int l2, .int l3, .int l4, .int l5] ++ List.replicate 0 none = [some (.ref 2), some (.int l1), some (.int l2), some (.int l3), some (.int l4), some (.int l5)] := rfl
  rw [es]
  refine R.aload_n 1 dX3_feed_0 rfl rfl ?_
  refine R.iconst 2 dX3_feed_1 rfl ?_
  replace h := h _ rfl
  refine pf_60 _ 5 dX3_feed_2 rfl rfl ?_
  refine R.aload_n 6 dX3_feed_5 rfl rfl ?_
  refine gf_66 9 dX3_feed_6 rfl rfl ?_
  refine R.iload_n 10 dX3_feed_9 rfl rfl ?_
  refine Rch.calls (sd_X3_bytesIn _ _ _ h) dX3_feed_10 (lw_S q1410 q1411 q146 q1412) dk_X3_bytesIn (by decide) (Nat.le_of_ble_eq_true rfl) rfl rfl (Nat.le_of_ble_eq_true rfl) (kI 13 rfl fun r2 w3 h => ?_) kN
  refine R.iadd 14 dX3_feed_13 rfl ?_
  refine R.iload_n 15 dX3_feed_14 rfl rfl ?_
  refine Rch.calls (sd_X3_bytesIn _ _ _ h) dX3_feed_15 (lw_S q1410 q1411 q146 q1412) dk_X3_bytesIn (by decide) (Nat.le_of_ble_eq_true rfl) rfl rfl (Nat.le_of_ble_eq_true rfl) (kI 18 rfl fun r4 w5 h => ?_) kN
  refine R.iadd 19 dX3_feed_18 rfl ?_
  refine R.iload_n 20 dX3_feed_19 rfl rfl ?_
  refine Rch.calls (sd_X3_bytesIn _ _ _ h) dX3_feed_20 (lw_S q1410 q1411 q146 q1412) dk_X3_bytesIn (by decide) (Nat.le_of_ble_eq_true rfl) rfl rfl (Nat.le_of_ble_eq_true rfl) (kI 23 rfl fun r6 w7 h => ?_) kN
  refine R.iadd 24 dX3_feed_23 rfl ?_
  refine R.iload 26 dX3_feed_24 rfl rfl ?_
  refine Rch.calls (sd_X3_bytesIn _ _ _ h) dX3_feed_26 (lw_S q1410 q1411 q146 q1412) dk_X3_bytesIn (by decide) (Nat.le_of_ble_eq_true rfl) rfl rfl (Nat.le_of_ble_eq_true rfl) (kI 29 rfl fun r8 w9 h => ?_) kN
  refine R.iadd 30 dX3_feed_29 rfl ?_
  refine R.iload 32 dX3_feed_30 rfl rfl ?_
  refine Rch.calls (sd_X3_bytesIn _ _ _ h) dX3_feed_32 (lw_S q1410 q1411 q146 q1412) dk_X3_bytesIn (by decide) (Nat.le_of_ble_eq_true rfl) rfl rfl (Nat.le_of_ble_eq_true rfl) (kI 35 rfl fun r10 w11 h => ?_) kN
  refine R.iadd 36 dX3_feed_35 rfl ?_
  refine R.sipush 39 dX3_feed_36 rfl (by decide +kernel) ?_
  refine R.icmp_le 44 42 dX3_feed_39 (by decide) rfl (fun hc => ?_) (fun hc => ?_)
  · replace h := h.1 hc
    refine R.aload_n 45 dX3_feed_44 rfl rfl ?_
    refine R.iload_n 46 dX3_feed_45 rfl rfl ?_
    refine Rch.callv (sd_X3_put _ _ _ h) dX3_feed_46 (lw_V q1413 q1415 qs79 q146 q1416) dk_X3_put rcM (by decide) (Nat.le_of_ble_eq_true rfl) rfl rfl (Nat.le_of_ble_eq_true rfl) (kV 49 rfl fun w13 h => ?_) kN
    refine R.aload_n 50 dX3_feed_49 rfl rfl ?_
    refine R.iload_n 51 dX3_feed_50 rfl rfl ?_
    refine Rch.callv (sd_X3_put _ _ _ h) dX3_feed_51 (lw_V q1413 q1415 qs79 q146 q1416) dk_X3_put rcM (by decide) (Nat.le_of_ble_eq_true rfl) rfl rfl (Nat.le_of_ble_eq_true rfl) (kV 54 rfl fun w15 h => ?_) kN
    refine R.aload_n 55 dX3_feed_54 rfl rfl ?_
    refine R.iload_n 56 dX3_feed_55 rfl rfl ?_
    refine Rch.callv (sd_X3_put _ _ _ h) dX3_feed_56 (lw_V q1413 q1415 qs79 q146 q1416) dk_X3_put rcM (by decide) (Nat.le_of_ble_eq_true rfl) rfl rfl (Nat.le_of_ble_eq_true rfl) (kV 59 rfl fun w17 h => ?_) kN
    refine R.aload_n 60 dX3_feed_59 rfl rfl ?_
    refine R.iload 62 dX3_feed_60 rfl rfl ?_
    refine Rch.callv (sd_X3_put _ _ _ h) dX3_feed_62 (lw_V q1413 q1415 qs79 q146 q1416) dk_X3_put rcM (by decide) (Nat.le_of_ble_eq_true rfl) rfl rfl (Nat.le_of_ble_eq_true rfl) (kV 65 rfl fun w19 h => ?_) kN
    refine R.aload_n 66 dX3_feed_65 rfl rfl ?_
    refine R.iload 68 dX3_feed_66 rfl rfl ?_
    refine Rch.callv (sd_X3_put _ _ _ h) dX3_feed_68 (lw_V q1413 q1415 qs79 q146 q1416) dk_X3_put rcM (by decide) (Nat.le_of_ble_eq_true rfl) rfl rfl (Nat.le_of_ble_eq_true rfl) (kV 71 rfl fun w21 h => ?_) kN
    refine R.aload_n 72 dX3_feed_71 rfl rfl ?_
    refine gf_66 75 dX3_feed_72 rfl rfl ?_
    exact R.retI dX3_feed_75 rfl h
  · replace h := h.2 hc
    refine R.iconst 43 dX3_feed_42 rfl ?_
    exact R.retI dX3_feed_43 rfl h

abbrev k_X3_end : MK := ("FrostBoxModel", cX3_end, 2, (some .boolean), [], "end")
def wp_X3_end (l1 : Int32) (w : Wd) (Q : Int32 → Wd → Prop) : Prop := ∀ w1, w1 = sI w 60 (iz 0) → (l1 < iz 0 → Q (iz 0) w1) ∧ (¬ l1 < iz 0 → (l1 ≤ (gI w1 66) → ∀ w2, w2 = sI w1 66 l1 → Q (iz 1) w2) ∧ (¬ l1 ≤ (gI w1 66) → Q (iz 0) w1))
set_option maxRecDepth 100000 in
set_option maxHeartbeats 4000000 in
theorem sd_X3_end {γ : GG} (l1 : Int32) (w : Wd) (Q : Int32 → Wd → Prop) : wp_X3_end l1 w Q → Ctr γ 1 yX3_end (ws_ yX3_end cX3_end 2 (some .boolean)) [.ref 2, .int l1] w (qI Q) xN := by
  intro h
  unfold wp_X3_end at h
  refine Ctr.of (μ := k_X3_end) (by decide) rfl rfl rfl (Nat.le_of_ble_eq_true rfl) ⟨0, ?_⟩
  have es : lva [.ref 2, .int l1] ++ List.replicate 0 none = [some (.ref 2), some (.int l1)] := rfl
  rw [es]
  refine R.aload_n 1 dX3_end_0 rfl rfl ?_
  refine R.iconst 2 dX3_end_1 rfl ?_
  replace h := h _ rfl
  refine pf_60 _ 5 dX3_end_2 rfl rfl ?_
  refine R.iload_n 6 dX3_end_5 rfl rfl ?_
  refine R.if_lt 17 9 dX3_end_6 (by decide) rfl (fun hc => ?_) (fun hc => ?_)
  · replace h := h.1 hc
    refine R.iconst 18 dX3_end_17 rfl ?_
    exact R.retZ dX3_end_18 rfl zok0 h
  · replace h := h.2 hc
    refine R.iload_n 10 dX3_end_9 rfl rfl ?_
    refine R.aload_n 11 dX3_end_10 rfl rfl ?_
    refine gf_66 14 dX3_end_11 rfl rfl ?_
    refine R.icmp_le 19 17 dX3_end_14 (by decide) rfl (fun hc => ?_) (fun hc => ?_)
    · replace h := h.1 hc
      refine R.aload_n 20 dX3_end_19 rfl rfl ?_
      refine R.iload_n 21 dX3_end_20 rfl rfl ?_
      replace h := h _ rfl
      refine pf_66 _ 24 dX3_end_21 rfl rfl ?_
      refine R.iconst 25 dX3_end_24 rfl ?_
      exact R.retZ dX3_end_25 rfl zok1 h
    · replace h := h.2 hc
      refine R.iconst 18 dX3_end_17 rfl ?_
      exact R.retZ dX3_end_18 rfl zok0 h

abbrev k_X3_isIn : MK := ("FrostBoxModel", cX3_isIn, 6, (some .boolean), [], "isIn")
def wp_X3_isIn (l0 : Int64) (l2 : Int64) (l4 : Int64) (w : Wd) (Q : Int32 → Wd → Prop) : Prop := ((lg_cmp l0 l2) < iz 0 → Q (iz 0) w) ∧ (¬ (lg_cmp l0 l2) < iz 0 → (iz 0 < (lg_cmp l0 l4) → Q (iz 0) w) ∧ (¬ iz 0 < (lg_cmp l0 l4) → Q (iz 1) w))
set_option maxRecDepth 100000 in
set_option maxHeartbeats 4000000 in
theorem sd_X3_isIn {γ : GG} (l0 : Int64) (l2 : Int64) (l4 : Int64) (w : Wd) (Q : Int32 → Wd → Prop) : wp_X3_isIn l0 l2 l4 w Q → Ctr γ 1 yX3_isIn (ws_ yX3_isIn cX3_isIn 6 (some .boolean)) [.long l0, .long l2, .long l4] w (qI Q) xN := by
  intro h
  unfold wp_X3_isIn at h
  refine Ctr.of (μ := k_X3_isIn) (by decide) rfl rfl rfl (Nat.le_of_ble_eq_true rfl) ⟨0, ?_⟩
  have es : lva [.long l0, .long l2, .long l4] ++ List.replicate 0 none = [some (.long l0), none, some (.long l2), none, some (.long l4), none] := rfl
  rw [es]
  refine R.lload_n 1 dX3_isIn_0 rfl rfl ?_
  refine R.lload_n 2 dX3_isIn_1 rfl rfl ?_
  refine R.lcmp 3 dX3_isIn_2 rfl ?_
  refine R.if_lt 17 6 dX3_isIn_3 (by decide) rfl (fun hc => ?_) (fun hc => ?_)
  · replace h := h.1 hc
    refine R.iconst 18 dX3_isIn_17 rfl ?_
    exact R.retZ dX3_isIn_18 rfl zok0 h
  · replace h := h.2 hc
    refine R.lload_n 7 dX3_isIn_6 rfl rfl ?_
    refine R.lload 9 dX3_isIn_7 rfl rfl ?_
    refine R.lcmp 10 dX3_isIn_9 rfl ?_
    refine R.if_gt 17 13 dX3_isIn_10 (by decide) rfl (fun hc => ?_) (fun hc => ?_)
    · replace h := h.1 hc
      refine R.iconst 18 dX3_isIn_17 rfl ?_
      exact R.retZ dX3_isIn_18 rfl zok0 h
    · replace h := h.2 hc
      refine R.iconst 14 dX3_isIn_13 rfl ?_
      refine R.goto 18 dX3_isIn_14 (by decide) ?_
      exact R.retZ dX3_isIn_18 rfl zok1 h

abbrev k_X3_starts : MK := ("FrostBoxModel", cX3_starts, 4, none, [], "starts")
def wp_X3_starts (l1 : Nat) (l2 : Int32) (l3 : Int32) (w : Wd) (Q : Wd → Prop) : Prop := ∀ w1, w1 = sT w l1 → ∀ w2, w2 = sI w1 68 l2 → ∀ w3, w3 = sI w2 69 l3 → ∀ w4, w4 = sI w3 70 (iz 0) → ∀ w5, w5 = sI w4 71 (iz (-1)) → Q w5
set_option maxRecDepth 100000 in
set_option maxHeartbeats 4000000 in
theorem sd_X3_starts {γ : GG} (l1 : Nat) (l2 : Int32) (l3 : Int32) (w : Wd) (Q : Wd → Prop) : wp_X3_starts l1 l2 l3 w Q → Ctr γ 1 yX3_starts (ws_ yX3_starts cX3_starts 4 none) [.ref 2, .ref l1, .int l2, .int l3] w (qV Q) xN := by
  intro h
  unfold wp_X3_starts at h
  refine Ctr.of (μ := k_X3_starts) (by decide) rfl rfl rfl (Nat.le_of_ble_eq_true rfl) ⟨0, ?_⟩
  have es : lva [.ref 2, .ref l1, .int l2, .int l3] ++ List.replicate 0 none = [some (.ref 2), some (.ref l1), some (.int l2), some (.int l3)] := rfl
  rw [es]
  refine R.aload_n 1 dX3_starts_0 rfl rfl ?_
  refine R.aload_n 2 dX3_starts_1 rfl rfl ?_
  replace h := h _ rfl
  refine pf_65 _ 5 dX3_starts_2 rfl rfl ?_
  refine R.aload_n 6 dX3_starts_5 rfl rfl ?_
  refine R.iload_n 7 dX3_starts_6 rfl rfl ?_
  replace h := h _ rfl
  refine pf_68 _ 10 dX3_starts_7 rfl rfl ?_
  refine R.aload_n 11 dX3_starts_10 rfl rfl ?_
  refine R.iload_n 12 dX3_starts_11 rfl rfl ?_
  replace h := h _ rfl
  refine pf_69 _ 15 dX3_starts_12 rfl rfl ?_
  refine R.aload_n 16 dX3_starts_15 rfl rfl ?_
  refine R.iconst 17 dX3_starts_16 rfl ?_
  replace h := h _ rfl
  refine pf_70 _ 20 dX3_starts_17 rfl rfl ?_
  refine R.aload_n 21 dX3_starts_20 rfl rfl ?_
  refine R.iconst 22 dX3_starts_21 rfl ?_
  replace h := h _ rfl
  refine pf_71 _ 25 dX3_starts_22 rfl rfl ?_
  exact R.retV dX3_starts_25 rfl h

abbrev k_X3_usual : MK := ("FrostBoxModel", cX3_usual, 2, (some .int), [], "usual")
def wp_X3_usual (l0 : Int32) (l1 : Int32) (w : Wd) (Q : Int32 → Wd → Prop) : Prop := (¬ l0 = (iz 115) → (¬ l0 = (iz 98) → (l1.toInt = 0 → Q (iz 0) w) ∧ (l1.toInt = 1 → Q (iz 3) w) ∧ (l1.toInt = 2 → Q (iz 12) w) ∧ (l1.toInt = 3 → Q (iz 3) w) ∧ (l1.toInt = 4 → Q (iz 6) w) ∧ (l1.toInt < 0 ∨ 4 < l1.toInt → Q (iz 3) w)) ∧ (l0 = (iz 98) → (¬ l1 = (iz 1) → Q (iz 0) w) ∧ (l1 = (iz 1) → Q (iz 2) w))) ∧ (l0 = (iz 115) → (¬ l1 = iz 0 → (¬ l1 = (iz 1) → (¬ l1 = (iz 2) → Q (iz 1) w) ∧ (l1 = (iz 2) → Q (iz 6) w)) ∧ (l1 = (iz 1) → Q (iz 9) w)) ∧ (l1 = iz 0 → Q (iz 40) w))
set_option maxRecDepth 100000 in
set_option maxHeartbeats 4000000 in
theorem sd_X3_usual {γ : GG} (l0 : Int32) (l1 : Int32) (w : Wd) (Q : Int32 → Wd → Prop) : wp_X3_usual l0 l1 w Q → Ctr γ 1 yX3_usual (ws_ yX3_usual cX3_usual 2 (some .int)) [.int l0, .int l1] w (qI Q) xN := by
  intro h
  unfold wp_X3_usual at h
  refine Ctr.of (μ := k_X3_usual) (by decide) rfl rfl rfl (Nat.le_of_ble_eq_true rfl) ⟨0, ?_⟩
  have es : lva [.int l0, .int l1] ++ List.replicate 0 none = [some (.int l0), some (.int l1)] := rfl
  rw [es]
  refine R.iload_n 1 dX3_usual_0 rfl rfl ?_
  refine R.bipush 3 dX3_usual_1 rfl (by decide +kernel) ?_
  refine R.icmp_ne 37 6 dX3_usual_3 (by decide) rfl (fun hc => ?_) (fun hc => ?_)
  · replace h := h.1 hc
    refine R.iload_n 38 dX3_usual_37 rfl rfl ?_
    refine R.bipush 40 dX3_usual_38 rfl (by decide +kernel) ?_
    refine R.icmp_ne 54 43 dX3_usual_40 (by decide) rfl (fun hc => ?_) (fun hc => ?_)
    · replace h := h.1 hc
      refine R.iload_n 55 dX3_usual_54 rfl rfl ?_
      by_cases c0 : l1.toInt = 0
      · replace h := h.1 c0
        refine R.tswIn 0 88 dX3_usual_55 c0 (by decide) (by decide) rfl (by decide) ?_
        refine R.iconst 89 dX3_usual_88 rfl ?_
        exact R.retI dX3_usual_89 rfl h
      replace h := h.2
      by_cases c1 : l1.toInt = 1
      · replace h := h.1 c1
        refine R.tswIn 1 96 dX3_usual_55 c1 (by decide) (by decide) rfl (by decide) ?_
        refine R.iconst 97 dX3_usual_96 rfl ?_
        exact R.retI dX3_usual_97 rfl h
      replace h := h.2
      by_cases c2 : l1.toInt = 2
      · replace h := h.1 c2
        refine R.tswIn 2 90 dX3_usual_55 c2 (by decide) (by decide) rfl (by decide) ?_
        refine R.bipush 92 dX3_usual_90 rfl (by decide +kernel) ?_
        exact R.retI dX3_usual_92 rfl h
      replace h := h.2
      by_cases c3 : l1.toInt = 3
      · replace h := h.1 c3
        refine R.tswIn 3 96 dX3_usual_55 c3 (by decide) (by decide) rfl (by decide) ?_
        refine R.iconst 97 dX3_usual_96 rfl ?_
        exact R.retI dX3_usual_97 rfl h
      replace h := h.2
      by_cases c4 : l1.toInt = 4
      · replace h := h.1 c4
        refine R.tswIn 4 93 dX3_usual_55 c4 (by decide) (by decide) rfl (by decide) ?_
        refine R.bipush 95 dX3_usual_93 rfl (by decide +kernel) ?_
        exact R.retI dX3_usual_95 rfl h
      replace h := h.2
      have cd : l1.toInt < 0 ∨ 4 < l1.toInt := by omega
      replace h := h cd
      refine R.tswOut 96 dX3_usual_55 cd (by decide) ?_
      refine R.iconst 97 dX3_usual_96 rfl ?_
      exact R.retI dX3_usual_97 rfl h
    · replace h := h.2 hc
      refine R.iload_n 44 dX3_usual_43 rfl rfl ?_
      refine R.iconst 45 dX3_usual_44 rfl ?_
      refine R.icmp_ne 52 48 dX3_usual_45 (by decide) rfl (fun hc => ?_) (fun hc => ?_)
      · replace h := h.1 hc
        refine R.iconst 53 dX3_usual_52 rfl ?_
        exact R.retI dX3_usual_53 rfl h
      · replace h := h.2 hc
        refine R.iconst 49 dX3_usual_48 rfl ?_
        refine R.goto 53 dX3_usual_49 (by decide) ?_
        exact R.retI dX3_usual_53 rfl h
  · replace h := h.2 hc
    refine R.iload_n 7 dX3_usual_6 rfl rfl ?_
    refine R.if_ne 15 10 dX3_usual_7 (by decide) rfl (fun hc => ?_) (fun hc => ?_)
    · replace h := h.1 hc
      refine R.iload_n 16 dX3_usual_15 rfl rfl ?_
      refine R.iconst 17 dX3_usual_16 rfl ?_
      refine R.icmp_ne 25 20 dX3_usual_17 (by decide) rfl (fun hc => ?_) (fun hc => ?_)
      · replace h := h.1 hc
        refine R.iload_n 26 dX3_usual_25 rfl rfl ?_
        refine R.iconst 27 dX3_usual_26 rfl ?_
        refine R.icmp_ne 35 30 dX3_usual_27 (by decide) rfl (fun hc => ?_) (fun hc => ?_)
        · replace h := h.1 hc
          refine R.iconst 36 dX3_usual_35 rfl ?_
          exact R.retI dX3_usual_36 rfl h
        · replace h := h.2 hc
          refine R.bipush 32 dX3_usual_30 rfl (by decide +kernel) ?_
          refine R.goto 36 dX3_usual_32 (by decide) ?_
          exact R.retI dX3_usual_36 rfl h
      · replace h := h.2 hc
        refine R.bipush 22 dX3_usual_20 rfl (by decide +kernel) ?_
        refine R.goto 36 dX3_usual_22 (by decide) ?_
        exact R.retI dX3_usual_36 rfl h
    · replace h := h.2 hc
      refine R.bipush 12 dX3_usual_10 rfl (by decide +kernel) ?_
      refine R.goto 36 dX3_usual_12 (by decide) ?_
      exact R.retI dX3_usual_36 rfl h

abbrev k_X3_look : MK := ("FrostBoxModel", cX3_look, 1, (some .int), [], "look")
def b_X3_look_43 (Q : Int32 → Wd → Prop) (w : Wd) : Prop := ((gI w 69) ≤ (gI w 70) → Q (iz (-1)) w) ∧ (¬ (gI w 69) ≤ (gI w 70) → inB (gT w) ((gI w 68) + (gI w 70)) ∧ Q ((gA w (gT w) ((gI w 68) + (gI w 70)).toInt) &&& (iz 255)) w)
def wl_X3_look_0 (Q : Int32 → Wd → Prop) (R0 : Wd → Prop) (w : Wd) : Prop := ((gI w 69) ≤ (gI w 70) → b_X3_look_43 Q w) ∧ (¬ (gI w 69) ≤ (gI w 70) → inB (gT w) ((gI w 68) + (gI w 70)) ∧ (¬ (gA w (gT w) ((gI w 68) + (gI w 70)).toInt) = (iz 32) → b_X3_look_43 Q w) ∧ ((gA w (gT w) ((gI w 68) + (gI w 70)).toInt) = (iz 32) → ∀ w1, w1 = sI w 70 ((gI w 70) + (iz 1)) → R0 w1))
def lp_X3_look_0 (Q : Int32 → Wd → Prop) : Nat → Wd → Prop
  | 0, _ => False
  | n + 1, w => wl_X3_look_0 Q (lp_X3_look_0 Q n) w
def wp_X3_look (w : Wd) (Q : Int32 → Wd → Prop) : Prop := ∃ n1, lp_X3_look_0 Q n1 w
set_option maxRecDepth 100000 in
set_option maxHeartbeats 4000000 in
theorem s_X3_look_43 {γ : GG} (Q : Int32 → Wd → Prop) : ∀ (w : Wd), b_X3_look_43 Q w → Rch γ 1 k_X3_look 43 [some (.ref 2)] [] w (qI Q) xN := by
  intro w h
  unfold b_X3_look_43 at h
  refine R.aload_n 44 dX3_look_43 rfl rfl ?_
  refine gf_70 47 dX3_look_44 rfl rfl ?_
  refine R.aload_n 48 dX3_look_47 rfl rfl ?_
  refine gf_69 51 dX3_look_48 rfl rfl ?_
  refine R.icmp_ge 75 54 dX3_look_51 (by decide) rfl (fun hc => ?_) (fun hc => ?_)
  · replace h := h.1 hc
    refine R.iconst 76 dX3_look_75 rfl ?_
    exact R.retI dX3_look_76 rfl h
  · replace h := h.2 hc
    refine R.aload_n 55 dX3_look_54 rfl rfl ?_
    refine gf_65 58 dX3_look_55 rfl rfl ?_
    refine R.aload_n 59 dX3_look_58 rfl rfl ?_
    refine gf_68 62 dX3_look_59 rfl rfl ?_
    refine R.aload_n 63 dX3_look_62 rfl rfl ?_
    refine gf_70 66 dX3_look_63 rfl rfl ?_
    refine R.iadd 67 dX3_look_66 rfl ?_
    obtain ⟨hb, h⟩ := h
    refine R.baB 68 dX3_look_67 rfl hb ?_
    refine R.sipush 71 dX3_look_68 rfl (by decide +kernel) ?_
    refine R.iand 72 dX3_look_71 rfl ?_
    refine R.goto 76 dX3_look_72 (by decide) ?_
    exact R.retI dX3_look_76 rfl h
set_option maxRecDepth 100000 in
set_option maxHeartbeats 4000000 in
theorem sl_X3_look_0 {γ : GG} (Q : Int32 → Wd → Prop) : ∀ (n : Nat) (w : Wd), lp_X3_look_0 Q n w → Rch γ 1 k_X3_look 0 [some (.ref 2)] [] w (qI Q) xN := by
  intro n
  induction n with
  | zero => intro  _ h; exact h.elim
  | succ n hR0 =>
    intro  w h
    have h : wl_X3_look_0 Q (lp_X3_look_0 Q n) w := h
    unfold wl_X3_look_0 at h
    refine R.aload_n 1 dX3_look_0 rfl rfl ?_
    refine gf_70 4 dX3_look_1 rfl rfl ?_
    refine R.aload_n 5 dX3_look_4 rfl rfl ?_
    refine gf_69 8 dX3_look_5 rfl rfl ?_
    refine R.icmp_ge 43 11 dX3_look_8 (by decide) rfl (fun hc => ?_) (fun hc => ?_)
    · replace h := h.1 hc
      exact Rch.dropk (s_X3_look_43 Q _ h) ⟨rfl, trivial⟩
    · replace h := h.2 hc
      refine R.aload_n 12 dX3_look_11 rfl rfl ?_
      refine gf_65 15 dX3_look_12 rfl rfl ?_
      refine R.aload_n 16 dX3_look_15 rfl rfl ?_
      refine gf_68 19 dX3_look_16 rfl rfl ?_
      refine R.aload_n 20 dX3_look_19 rfl rfl ?_
      refine gf_70 23 dX3_look_20 rfl rfl ?_
      refine R.iadd 24 dX3_look_23 rfl ?_
      obtain ⟨hb, h⟩ := h
      refine R.baB 25 dX3_look_24 rfl hb ?_
      refine R.bipush 27 dX3_look_25 rfl (by decide +kernel) ?_
      refine R.icmp_ne 43 30 dX3_look_27 (by decide) rfl (fun hc => ?_) (fun hc => ?_)
      · replace h := h.1 hc
        exact Rch.dropk (s_X3_look_43 Q _ h) ⟨rfl, trivial⟩
      · replace h := h.2 hc
        refine R.aload_n 31 dX3_look_30 rfl rfl ?_
        refine R.dupR 32 dX3_look_31 rfl ?_
        refine gf_70 35 dX3_look_32 rfl rfl ?_
        refine R.iconst 36 dX3_look_35 rfl ?_
        refine R.iadd 37 dX3_look_36 rfl ?_
        replace h := h _ rfl
        refine pf_70 _ 40 dX3_look_37 rfl rfl ?_
        refine R.goto 0 dX3_look_40 (by decide) ?_
        exact Rch.dropk (hR0 _ h) ⟨rfl, trivial⟩
set_option maxRecDepth 100000 in
set_option maxHeartbeats 4000000 in
theorem sd_X3_look {γ : GG} (w : Wd) (Q : Int32 → Wd → Prop) : wp_X3_look w Q → Ctr γ 1 yX3_look (ws_ yX3_look cX3_look 1 (some .int)) [.ref 2] w (qI Q) xN := by
  intro h
  unfold wp_X3_look at h
  refine Ctr.of (μ := k_X3_look) (by decide) rfl rfl rfl (Nat.le_of_ble_eq_true rfl) ⟨0, ?_⟩
  have es : lva [.ref 2] ++ List.replicate 0 none = [some (.ref 2)] := rfl
  rw [es]
  obtain ⟨n1, h⟩ := h
  exact Rch.dropk (sl_X3_look_0 Q n1 _ h) ⟨rfl, trivial⟩

abbrev k_X3_fails : MK := ("FrostBoxModel", cX3_fails, 1, (some .boolean), [], "fails")
def wp_X3_fails (w : Wd) (Q : Int32 → Wd → Prop) : Prop := (¬ (gI w 71) = (iz (-1)) → Q (iz 0) w) ∧ ((gI w 71) = (iz (-1)) → ∀ w1, w1 = sI w 71 (gI w 70) → Q (iz 0) w1)
set_option maxRecDepth 100000 in
set_option maxHeartbeats 4000000 in
theorem sd_X3_fails {γ : GG} (w : Wd) (Q : Int32 → Wd → Prop) : wp_X3_fails w Q → Ctr γ 1 yX3_fails (ws_ yX3_fails cX3_fails 1 (some .boolean)) [.ref 2] w (qI Q) xN := by
  intro h
  unfold wp_X3_fails at h
  refine Ctr.of (μ := k_X3_fails) (by decide) rfl rfl rfl (Nat.le_of_ble_eq_true rfl) ⟨0, ?_⟩
  have es : lva [.ref 2] ++ List.replicate 0 none = [some (.ref 2)] := rfl
  rw [es]
  refine R.aload_n 1 dX3_fails_0 rfl rfl ?_
  refine gf_71 4 dX3_fails_1 rfl rfl ?_
  refine R.iconst 5 dX3_fails_4 rfl ?_
  refine R.icmp_ne 16 8 dX3_fails_5 (by decide) rfl (fun hc => ?_) (fun hc => ?_)
  · replace h := h.1 hc
    refine R.iconst 17 dX3_fails_16 rfl ?_
    exact R.retZ dX3_fails_17 rfl zok0 h
  · replace h := h.2 hc
    refine R.aload_n 9 dX3_fails_8 rfl rfl ?_
    refine R.aload_n 10 dX3_fails_9 rfl rfl ?_
    refine gf_70 13 dX3_fails_10 rfl rfl ?_
    replace h := h _ rfl
    refine pf_71 _ 16 dX3_fails_13 rfl rfl ?_
    refine R.iconst 17 dX3_fails_16 rfl ?_
    exact R.retZ dX3_fails_17 rfl zok0 h

abbrev k_X3_spotOf : MK := ("FrostBoxModel", cX3_spotOf, 3, (some .int), [], "spotOf")
def wl_X3_spotOf_2 (Q : Int32 → Wd → Prop) (l0 : Nat) (l1 : Int32) (R2 : Int32 → Wd → Prop) (l2 : Int32) (w : Wd) : Prop := l0 < 6 ∧ wp_J2_length l0 w (fun r1 w2 => (r1 ≤ l2 → Q (iz (-1)) w2) ∧ (¬ r1 ≤ l2 → l0 < 6 ∧ wp_J2_charAt l0 l2 w2 (fun r3 w4 => (¬ r3 = l1 → R2 (l2 + iz 1) w4) ∧ (r3 = l1 → Q l2 w4))))
def lp_X3_spotOf_2 (Q : Int32 → Wd → Prop) (l0 : Nat) (l1 : Int32) : Nat → Int32 → Wd → Prop
  | 0, _, _ => False
  | n + 1, l2, w => wl_X3_spotOf_2 Q l0 l1 (lp_X3_spotOf_2 Q l0 l1 n) l2 w
def wp_X3_spotOf (l0 : Nat) (l1 : Int32) (w : Wd) (Q : Int32 → Wd → Prop) : Prop := ∃ n1, lp_X3_spotOf_2 Q l0 l1 n1 (iz 0) w
set_option maxRecDepth 100000 in
set_option maxHeartbeats 4000000 in
theorem sl_X3_spotOf_2 {γ : GG} (Q : Int32 → Wd → Prop) (l0 : Nat) (l1 : Int32) : ∀ (n : Nat) (l2 : Int32) (w : Wd), lp_X3_spotOf_2 Q l0 l1 n l2 w → Rch γ 5 k_X3_spotOf 2 [some (.ref (120 + l0)), some (.int l1), some (.int l2)] [] w (qI Q) xN := by
  intro n
  induction n with
  | zero => intro _ _ h; exact h.elim
  | succ n hR2 =>
    intro l2 w h
    have h : wl_X3_spotOf_2 Q l0 l1 (lp_X3_spotOf_2 Q l0 l1 n) l2 w := h
    unfold wl_X3_spotOf_2 at h
    refine R.iload_n 3 dX3_spotOf_2 rfl rfl ?_
    refine R.aload_n 4 dX3_spotOf_3 rfl rfl ?_
    obtain ⟨h6, h⟩ := h
    refine Rch.callv (sd_J2_length _ _ _ h) dX3_spotOf_4 (lw_V q1457 q410 q411 q147 q412) dk_J2_length (rcS l0 h6) (by decide) (Nat.le_of_ble_eq_true rfl) rfl rfl (Nat.le_of_ble_eq_true rfl) (kI 7 rfl fun r1 w2 h => ?_) kN
    refine R.icmp_ge 27 10 dX3_spotOf_7 (by decide) rfl (fun hc => ?_) (fun hc => ?_)
    · replace h := h.1 hc
      refine R.iconst 28 dX3_spotOf_27 rfl ?_
      exact R.retI dX3_spotOf_28 rfl h
    · replace h := h.2 hc
      refine R.aload_n 11 dX3_spotOf_10 rfl rfl ?_
      refine R.iload_n 12 dX3_spotOf_11 rfl rfl ?_
      obtain ⟨h6, h⟩ := h
      refine Rch.callv (sd_J2_charAt _ _ _ _ h) dX3_spotOf_12 (lw_V q1461 q837 q838 q147 q839) dk_J2_charAt (rcS l0 h6) (by decide) (Nat.le_of_ble_eq_true rfl) rfl rfl (Nat.le_of_ble_eq_true rfl) (kI 15 rfl fun r3 w4 h => ?_) kN
      refine R.iload_n 16 dX3_spotOf_15 rfl rfl ?_
      refine R.icmp_ne 21 19 dX3_spotOf_16 (by decide) rfl (fun hc => ?_) (fun hc => ?_)
      · replace h := h.1 hc
        refine R.inc2 24 dX3_spotOf_21 rfl (Nat.le_of_ble_eq_true rfl) rfl ?_
        refine R.goto 2 dX3_spotOf_24 (by decide) ?_
        exact Rch.dropk (hR2 _ _ h) ⟨rfl, ⟨rfl, ⟨rfl, trivial⟩⟩⟩
      · replace h := h.2 hc
        refine R.iload_n 20 dX3_spotOf_19 rfl rfl ?_
        exact R.retI dX3_spotOf_20 rfl h
set_option maxRecDepth 100000 in
set_option maxHeartbeats 4000000 in
theorem sd_X3_spotOf {γ : GG} (l0 : Nat) (l1 : Int32) (w : Wd) (Q : Int32 → Wd → Prop) : wp_X3_spotOf l0 l1 w Q → Ctr γ 5 yX3_spotOf (ws_ yX3_spotOf cX3_spotOf 3 (some .int)) [.ref (120 + l0), .int l1] w (qI Q) xN := by
  intro h
  unfold wp_X3_spotOf at h
  refine Ctr.of (μ := k_X3_spotOf) (by decide) rfl rfl rfl (Nat.le_of_ble_eq_true rfl) ⟨1, ?_⟩
  have es : lva [.ref (120 + l0), .int l1] ++ List.replicate 1 none = [some (.ref (120 + l0)), some (.int l1), none] := rfl
  rw [es]
  refine R.iconst 1 dX3_spotOf_0 rfl ?_
  refine R.ist2n 2 dX3_spotOf_1 rfl (Nat.le_of_ble_eq_true rfl) rfl ?_
  obtain ⟨n1, h⟩ := h
  exact Rch.dropk (sl_X3_spotOf_2 Q _ _ n1 _ _ h) ⟨rfl, ⟨rfl, ⟨rfl, trivial⟩⟩⟩

abbrev k_X3_has : MK := ("FrostBoxModel", cX3_has, 2, (some .boolean), [], "has")
def wp_X3_has (l0 : Int32) (l1 : Int32) (w : Wd) (Q : Int32 → Wd → Prop) : Prop := (¬ ((l0 >>> (l1 &&& 31)) &&& (iz 1)) = (iz 1) → Q (iz 0) w) ∧ (((l0 >>> (l1 &&& 31)) &&& (iz 1)) = (iz 1) → Q (iz 1) w)
set_option maxRecDepth 100000 in
set_option maxHeartbeats 4000000 in
theorem sd_X3_has {γ : GG} (l0 : Int32) (l1 : Int32) (w : Wd) (Q : Int32 → Wd → Prop) : wp_X3_has l0 l1 w Q → Ctr γ 1 yX3_has (ws_ yX3_has cX3_has 2 (some .boolean)) [.int l0, .int l1] w (qI Q) xN := by
  intro h
  unfold wp_X3_has at h
  refine Ctr.of (μ := k_X3_has) (by decide) rfl rfl rfl (Nat.le_of_ble_eq_true rfl) ⟨0, ?_⟩
  have es : lva [.int l0, .int l1] ++ List.replicate 0 none = [some (.int l0), some (.int l1)] := rfl
  rw [es]
  refine R.iload_n 1 dX3_has_0 rfl rfl ?_
  refine R.iload_n 2 dX3_has_1 rfl rfl ?_
  refine R.ishr 3 dX3_has_2 rfl ?_
  refine R.iconst 4 dX3_has_3 rfl ?_
  refine R.iand 5 dX3_has_4 rfl ?_
  refine R.iconst 6 dX3_has_5 rfl ?_
  refine R.icmp_ne 13 9 dX3_has_6 (by decide) rfl (fun hc => ?_) (fun hc => ?_)
  · replace h := h.1 hc
    refine R.iconst 14 dX3_has_13 rfl ?_
    exact R.retZ dX3_has_14 rfl zok0 h
  · replace h := h.2 hc
    refine R.iconst 10 dX3_has_9 rfl ?_
    refine R.goto 14 dX3_has_10 (by decide) ?_
    exact R.retZ dX3_has_14 rfl zok1 h

abbrev k_X3_leastOf : MK := ("FrostBoxModel", cX3_leastOf, 2, (some .int), [], "leastOf")
def wp_X3_leastOf (l0 : Int32) (l1 : Int32) (w : Wd) (Q : Int32 → Wd → Prop) : Prop := (¬ l0 = (iz 115) → (l1 = (iz 1) → Q (iz 1) w) ∧ (¬ l1 = (iz 1) → (¬ l0 = (iz 107) → Q (iz 0) w) ∧ (l0 = (iz 107) → (¬ l1 = (iz 2) → Q (iz 0) w) ∧ (l1 = (iz 2) → Q (iz 1) w)))) ∧ (l0 = (iz 115) → (l1 = iz 0 → Q (iz 1) w) ∧ (¬ l1 = iz 0 → (¬ l1 = (iz 2) → Q (iz 0) w) ∧ (l1 = (iz 2) → Q (iz 1) w)))
set_option maxRecDepth 100000 in
set_option maxHeartbeats 4000000 in
theorem sd_X3_leastOf {γ : GG} (l0 : Int32) (l1 : Int32) (w : Wd) (Q : Int32 → Wd → Prop) : wp_X3_leastOf l0 l1 w Q → Ctr γ 1 yX3_leastOf (ws_ yX3_leastOf cX3_leastOf 2 (some .int)) [.int l0, .int l1] w (qI Q) xN := by
  intro h
  unfold wp_X3_leastOf at h
  refine Ctr.of (μ := k_X3_leastOf) (by decide) rfl rfl rfl (Nat.le_of_ble_eq_true rfl) ⟨0, ?_⟩
  have es : lva [.int l0, .int l1] ++ List.replicate 0 none = [some (.int l0), some (.int l1)] := rfl
  rw [es]
  refine R.iload_n 1 dX3_leastOf_0 rfl rfl ?_
  refine R.bipush 3 dX3_leastOf_1 rfl (by decide +kernel) ?_
  refine R.icmp_ne 21 6 dX3_leastOf_3 (by decide) rfl (fun hc => ?_) (fun hc => ?_)
  · replace h := h.1 hc
    refine R.iload_n 22 dX3_leastOf_21 rfl rfl ?_
    refine R.iconst 23 dX3_leastOf_22 rfl ?_
    refine R.icmp_eq 37 26 dX3_leastOf_23 (by decide) rfl (fun hc => ?_) (fun hc => ?_)
    · replace h := h.1 hc
      refine R.iconst 38 dX3_leastOf_37 rfl ?_
      refine R.goto 42 dX3_leastOf_38 (by decide) ?_
      exact R.retI dX3_leastOf_42 rfl h
    · replace h := h.2 hc
      refine R.iload_n 27 dX3_leastOf_26 rfl rfl ?_
      refine R.bipush 29 dX3_leastOf_27 rfl (by decide +kernel) ?_
      refine R.icmp_ne 41 32 dX3_leastOf_29 (by decide) rfl (fun hc => ?_) (fun hc => ?_)
      · replace h := h.1 hc
        refine R.iconst 42 dX3_leastOf_41 rfl ?_
        exact R.retI dX3_leastOf_42 rfl h
      · replace h := h.2 hc
        refine R.iload_n 33 dX3_leastOf_32 rfl rfl ?_
        refine R.iconst 34 dX3_leastOf_33 rfl ?_
        refine R.icmp_ne 41 37 dX3_leastOf_34 (by decide) rfl (fun hc => ?_) (fun hc => ?_)
        · replace h := h.1 hc
          refine R.iconst 42 dX3_leastOf_41 rfl ?_
          exact R.retI dX3_leastOf_42 rfl h
        · replace h := h.2 hc
          refine R.iconst 38 dX3_leastOf_37 rfl ?_
          refine R.goto 42 dX3_leastOf_38 (by decide) ?_
          exact R.retI dX3_leastOf_42 rfl h
  · replace h := h.2 hc
    refine R.iload_n 7 dX3_leastOf_6 rfl rfl ?_
    refine R.if_eq 15 10 dX3_leastOf_7 (by decide) rfl (fun hc => ?_) (fun hc => ?_)
    · replace h := h.1 hc
      refine R.iconst 16 dX3_leastOf_15 rfl ?_
      refine R.goto 20 dX3_leastOf_16 (by decide) ?_
      exact R.retI dX3_leastOf_20 rfl h
    · replace h := h.2 hc
      refine R.iload_n 11 dX3_leastOf_10 rfl rfl ?_
      refine R.iconst 12 dX3_leastOf_11 rfl ?_
      refine R.icmp_ne 19 15 dX3_leastOf_12 (by decide) rfl (fun hc => ?_) (fun hc => ?_)
      · replace h := h.1 hc
        refine R.iconst 20 dX3_leastOf_19 rfl ?_
        exact R.retI dX3_leastOf_20 rfl h
      · replace h := h.2 hc
        refine R.iconst 16 dX3_leastOf_15 rfl ?_
        refine R.goto 20 dX3_leastOf_16 (by decide) ?_
        exact R.retI dX3_leastOf_20 rfl h

abbrev k_X3_mostOf : MK := ("FrostBoxModel", cX3_mostOf, 2, (some .int), [], "mostOf")
def wp_X3_mostOf (l0 : Int32) (l1 : Int32) (w : Wd) (Q : Int32 → Wd → Prop) : Prop := (¬ l0 = (iz 115) → (¬ l0 = (iz 98) → (¬ l1 = iz 0 → (¬ l1 = (iz 2) → (¬ l1 = (iz 4) → Q (iz 9) w) ∧ (l1 = (iz 4) → Q (iz 6) w)) ∧ (l1 = (iz 2) → Q (iz 36) w)) ∧ (l1 = iz 0 → Q (iz 5) w)) ∧ (l0 = (iz 98) → (¬ l1 = iz 0 → (¬ l1 = (iz 1) → (¬ l1 = (iz 2) → Q (iz 1) w) ∧ (l1 = (iz 2) → Q (iz 99) w)) ∧ (l1 = (iz 1) → Q (iz 9) w)) ∧ (l1 = iz 0 → Q (iz 5) w))) ∧ (l0 = (iz 115) → (¬ l1 = (iz 1) → (¬ l1 = (iz 3) → Q (iz 99) w) ∧ (l1 = (iz 3) → Q (iz 5) w)) ∧ (l1 = (iz 1) → Q (iz 24) w))
set_option maxRecDepth 100000 in
set_option maxHeartbeats 4000000 in
theorem sd_X3_mostOf {γ : GG} (l0 : Int32) (l1 : Int32) (w : Wd) (Q : Int32 → Wd → Prop) : wp_X3_mostOf l0 l1 w Q → Ctr γ 1 yX3_mostOf (ws_ yX3_mostOf cX3_mostOf 2 (some .int)) [.int l0, .int l1] w (qI Q) xN := by
  intro h
  unfold wp_X3_mostOf at h
  refine Ctr.of (μ := k_X3_mostOf) (by decide) rfl rfl rfl (Nat.le_of_ble_eq_true rfl) ⟨0, ?_⟩
  have es : lva [.int l0, .int l1] ++ List.replicate 0 none = [some (.int l0), some (.int l1)] := rfl
  rw [es]
  refine R.iload_n 1 dX3_mostOf_0 rfl rfl ?_
  refine R.bipush 3 dX3_mostOf_1 rfl (by decide +kernel) ?_
  refine R.icmp_ne 28 6 dX3_mostOf_3 (by decide) rfl (fun hc => ?_) (fun hc => ?_)
  · replace h := h.1 hc
    refine R.iload_n 29 dX3_mostOf_28 rfl rfl ?_
    refine R.bipush 31 dX3_mostOf_29 rfl (by decide +kernel) ?_
    refine R.icmp_ne 64 34 dX3_mostOf_31 (by decide) rfl (fun hc => ?_) (fun hc => ?_)
    · replace h := h.1 hc
      refine R.iload_n 65 dX3_mostOf_64 rfl rfl ?_
      refine R.if_ne 72 68 dX3_mostOf_65 (by decide) rfl (fun hc => ?_) (fun hc => ?_)
      · replace h := h.1 hc
        refine R.iload_n 73 dX3_mostOf_72 rfl rfl ?_
        refine R.iconst 74 dX3_mostOf_73 rfl ?_
        refine R.icmp_ne 82 77 dX3_mostOf_74 (by decide) rfl (fun hc => ?_) (fun hc => ?_)
        · replace h := h.1 hc
          refine R.iload_n 83 dX3_mostOf_82 rfl rfl ?_
          refine R.iconst 84 dX3_mostOf_83 rfl ?_
          refine R.icmp_ne 92 87 dX3_mostOf_84 (by decide) rfl (fun hc => ?_) (fun hc => ?_)
          · replace h := h.1 hc
            refine R.bipush 94 dX3_mostOf_92 rfl (by decide +kernel) ?_
            exact R.retI dX3_mostOf_94 rfl h
          · replace h := h.2 hc
            refine R.bipush 89 dX3_mostOf_87 rfl (by decide +kernel) ?_
            refine R.goto 94 dX3_mostOf_89 (by decide) ?_
            exact R.retI dX3_mostOf_94 rfl h
        · replace h := h.2 hc
          refine R.bipush 79 dX3_mostOf_77 rfl (by decide +kernel) ?_
          refine R.goto 94 dX3_mostOf_79 (by decide) ?_
          exact R.retI dX3_mostOf_94 rfl h
      · replace h := h.2 hc
        refine R.iconst 69 dX3_mostOf_68 rfl ?_
        refine R.goto 94 dX3_mostOf_69 (by decide) ?_
        exact R.retI dX3_mostOf_94 rfl h
    · replace h := h.2 hc
      refine R.iload_n 35 dX3_mostOf_34 rfl rfl ?_
      refine R.if_ne 42 38 dX3_mostOf_35 (by decide) rfl (fun hc => ?_) (fun hc => ?_)
      · replace h := h.1 hc
        refine R.iload_n 43 dX3_mostOf_42 rfl rfl ?_
        refine R.iconst 44 dX3_mostOf_43 rfl ?_
        refine R.icmp_ne 52 47 dX3_mostOf_44 (by decide) rfl (fun hc => ?_) (fun hc => ?_)
        · replace h := h.1 hc
          refine R.iload_n 53 dX3_mostOf_52 rfl rfl ?_
          refine R.iconst 54 dX3_mostOf_53 rfl ?_
          refine R.icmp_ne 62 57 dX3_mostOf_54 (by decide) rfl (fun hc => ?_) (fun hc => ?_)
          · replace h := h.1 hc
            refine R.iconst 63 dX3_mostOf_62 rfl ?_
            exact R.retI dX3_mostOf_63 rfl h
          · replace h := h.2 hc
            refine R.bipush 59 dX3_mostOf_57 rfl (by decide +kernel) ?_
            refine R.goto 63 dX3_mostOf_59 (by decide) ?_
            exact R.retI dX3_mostOf_63 rfl h
        · replace h := h.2 hc
          refine R.bipush 49 dX3_mostOf_47 rfl (by decide +kernel) ?_
          refine R.goto 63 dX3_mostOf_49 (by decide) ?_
          exact R.retI dX3_mostOf_63 rfl h
      · replace h := h.2 hc
        refine R.iconst 39 dX3_mostOf_38 rfl ?_
        refine R.goto 63 dX3_mostOf_39 (by decide) ?_
        exact R.retI dX3_mostOf_63 rfl h
  · replace h := h.2 hc
    refine R.iload_n 7 dX3_mostOf_6 rfl rfl ?_
    refine R.iconst 8 dX3_mostOf_7 rfl ?_
    refine R.icmp_ne 16 11 dX3_mostOf_8 (by decide) rfl (fun hc => ?_) (fun hc => ?_)
    · replace h := h.1 hc
      refine R.iload_n 17 dX3_mostOf_16 rfl rfl ?_
      refine R.iconst 18 dX3_mostOf_17 rfl ?_
      refine R.icmp_ne 25 21 dX3_mostOf_18 (by decide) rfl (fun hc => ?_) (fun hc => ?_)
      · replace h := h.1 hc
        refine R.bipush 27 dX3_mostOf_25 rfl (by decide +kernel) ?_
        exact R.retI dX3_mostOf_27 rfl h
      · replace h := h.2 hc
        refine R.iconst 22 dX3_mostOf_21 rfl ?_
        refine R.goto 27 dX3_mostOf_22 (by decide) ?_
        exact R.retI dX3_mostOf_27 rfl h
    · replace h := h.2 hc
      refine R.bipush 13 dX3_mostOf_11 rfl (by decide +kernel) ?_
      refine R.goto 27 dX3_mostOf_13 (by decide) ?_
      exact R.retI dX3_mostOf_27 rfl h

abbrev k_X3_isDigit : MK := ("FrostBoxModel", cX3_isDigit, 1, (some .boolean), [], "isDigit")
def wp_X3_isDigit (w : Wd) (Q : Int32 → Wd → Prop) : Prop := ((gI w 69) ≤ (gI w 70) → Q (iz 0) w) ∧ (¬ (gI w 69) ≤ (gI w 70) → inB (gT w) ((gI w 68) + (gI w 70)) ∧ ((gA w (gT w) ((gI w 68) + (gI w 70)).toInt) < (iz 48) → Q (iz 0) w) ∧ (¬ (gA w (gT w) ((gI w 68) + (gI w 70)).toInt) < (iz 48) → inB (gT w) ((gI w 68) + (gI w 70)) ∧ ((iz 57) < (gA w (gT w) ((gI w 68) + (gI w 70)).toInt) → Q (iz 0) w) ∧ (¬ (iz 57) < (gA w (gT w) ((gI w 68) + (gI w 70)).toInt) → Q (iz 1) w)))
set_option maxRecDepth 100000 in
set_option maxHeartbeats 4000000 in
theorem sd_X3_isDigit {γ : GG} (w : Wd) (Q : Int32 → Wd → Prop) : wp_X3_isDigit w Q → Ctr γ 1 yX3_isDigit (ws_ yX3_isDigit cX3_isDigit 1 (some .boolean)) [.ref 2] w (qI Q) xN := by
  intro h
  unfold wp_X3_isDigit at h
  refine Ctr.of (μ := k_X3_isDigit) (by decide) rfl rfl rfl (Nat.le_of_ble_eq_true rfl) ⟨0, ?_⟩
  have es : lva [.ref 2] ++ List.replicate 0 none = [some (.ref 2)] := rfl
  rw [es]
  refine R.aload_n 1 dX3_isDigit_0 rfl rfl ?_
  refine gf_70 4 dX3_isDigit_1 rfl rfl ?_
  refine R.aload_n 5 dX3_isDigit_4 rfl rfl ?_
  refine gf_69 8 dX3_isDigit_5 rfl rfl ?_
  refine R.icmp_ge 53 11 dX3_isDigit_8 (by decide) rfl (fun hc => ?_) (fun hc => ?_)
  · replace h := h.1 hc
    refine R.iconst 54 dX3_isDigit_53 rfl ?_
    exact R.retZ dX3_isDigit_54 rfl zok0 h
  · replace h := h.2 hc
    refine R.aload_n 12 dX3_isDigit_11 rfl rfl ?_
    refine gf_65 15 dX3_isDigit_12 rfl rfl ?_
    refine R.aload_n 16 dX3_isDigit_15 rfl rfl ?_
    refine gf_68 19 dX3_isDigit_16 rfl rfl ?_
    refine R.aload_n 20 dX3_isDigit_19 rfl rfl ?_
    refine gf_70 23 dX3_isDigit_20 rfl rfl ?_
    refine R.iadd 24 dX3_isDigit_23 rfl ?_
    obtain ⟨hb, h⟩ := h
    refine R.baB 25 dX3_isDigit_24 rfl hb ?_
    refine R.bipush 27 dX3_isDigit_25 rfl (by decide +kernel) ?_
    refine R.icmp_lt 53 30 dX3_isDigit_27 (by decide) rfl (fun hc => ?_) (fun hc => ?_)
    · replace h := h.1 hc
      refine R.iconst 54 dX3_isDigit_53 rfl ?_
      exact R.retZ dX3_isDigit_54 rfl zok0 h
    · replace h := h.2 hc
      refine R.aload_n 31 dX3_isDigit_30 rfl rfl ?_
      refine gf_65 34 dX3_isDigit_31 rfl rfl ?_
      refine R.aload_n 35 dX3_isDigit_34 rfl rfl ?_
      refine gf_68 38 dX3_isDigit_35 rfl rfl ?_
      refine R.aload_n 39 dX3_isDigit_38 rfl rfl ?_
      refine gf_70 42 dX3_isDigit_39 rfl rfl ?_
      refine R.iadd 43 dX3_isDigit_42 rfl ?_
      obtain ⟨hb, h⟩ := h
      refine R.baB 44 dX3_isDigit_43 rfl hb ?_
      refine R.bipush 46 dX3_isDigit_44 rfl (by decide +kernel) ?_
      refine R.icmp_gt 53 49 dX3_isDigit_46 (by decide) rfl (fun hc => ?_) (fun hc => ?_)
      · replace h := h.1 hc
        refine R.iconst 54 dX3_isDigit_53 rfl ?_
        exact R.retZ dX3_isDigit_54 rfl zok0 h
      · replace h := h.2 hc
        refine R.iconst 50 dX3_isDigit_49 rfl ?_
        refine R.goto 54 dX3_isDigit_50 (by decide) ?_
        exact R.retZ dX3_isDigit_54 rfl zok1 h

abbrev k_X3_here : MK := ("FrostBoxModel", cX3_here, 1, (some .int), [], "here")
def wp_X3_here (w : Wd) (Q : Int32 → Wd → Prop) : Prop := ((gI w 69) ≤ (gI w 70) → Q (iz (-1)) w) ∧ (¬ (gI w 69) ≤ (gI w 70) → inB (gT w) ((gI w 68) + (gI w 70)) ∧ Q ((gA w (gT w) ((gI w 68) + (gI w 70)).toInt) &&& (iz 255)) w)
set_option maxRecDepth 100000 in
set_option maxHeartbeats 4000000 in
theorem sd_X3_here {γ : GG} (w : Wd) (Q : Int32 → Wd → Prop) : wp_X3_here w Q → Ctr γ 1 yX3_here (ws_ yX3_here cX3_here 1 (some .int)) [.ref 2] w (qI Q) xN := by
  intro h
  unfold wp_X3_here at h
  refine Ctr.of (μ := k_X3_here) (by decide) rfl rfl rfl (Nat.le_of_ble_eq_true rfl) ⟨0, ?_⟩
  have es : lva [.ref 2] ++ List.replicate 0 none = [some (.ref 2)] := rfl
  rw [es]
  refine R.aload_n 1 dX3_here_0 rfl rfl ?_
  refine gf_70 4 dX3_here_1 rfl rfl ?_
  refine R.aload_n 5 dX3_here_4 rfl rfl ?_
  refine gf_69 8 dX3_here_5 rfl rfl ?_
  refine R.icmp_ge 32 11 dX3_here_8 (by decide) rfl (fun hc => ?_) (fun hc => ?_)
  · replace h := h.1 hc
    refine R.iconst 33 dX3_here_32 rfl ?_
    exact R.retI dX3_here_33 rfl h
  · replace h := h.2 hc
    refine R.aload_n 12 dX3_here_11 rfl rfl ?_
    refine gf_65 15 dX3_here_12 rfl rfl ?_
    refine R.aload_n 16 dX3_here_15 rfl rfl ?_
    refine gf_68 19 dX3_here_16 rfl rfl ?_
    refine R.aload_n 20 dX3_here_19 rfl rfl ?_
    refine gf_70 23 dX3_here_20 rfl rfl ?_
    refine R.iadd 24 dX3_here_23 rfl ?_
    obtain ⟨hb, h⟩ := h
    refine R.baB 25 dX3_here_24 rfl hb ?_
    refine R.sipush 28 dX3_here_25 rfl (by decide +kernel) ?_
    refine R.iand 29 dX3_here_28 rfl ?_
    refine R.goto 33 dX3_here_29 (by decide) ?_
    exact R.retI dX3_here_33 rfl h

abbrev k_X3_number : MK := ("FrostBoxModel", cX3_number, 5, (some .int), [], "number")
def b_X3_number_67 (Q : Int32 → Wd → Prop) (l1 : Int32) (l2 : Int32) (l4 : Int32) (w : Wd) : Prop := wp_X3_isDigit w (fun r1 w2 => (r1 = iz 0 → wp_X3_isIn ((l4).toInt64) ((l1).toInt64) ((l2).toInt64) w2 (fun r3 w4 => (¬ r3 = iz 0 → Q l4 w4) ∧ (r3 = iz 0 → ∀ w5, w5 = sI w4 70 ((gI w4 70) - (iz 1)) → wp_X3_fails w5 (fun r6 w7 => Q l4 w7)))) ∧ (¬ r1 = iz 0 → wp_X3_fails w2 (fun r8 w9 => Q (iz 0) w9)))
def wp_X3_number (l1 : Int32) (l2 : Int32) (w : Wd) (Q : Int32 → Wd → Prop) : Prop := wp_X3_look w (fun r1 w2 => wp_X3_isDigit w2 (fun r3 w4 => (¬ r3 = iz 0 → ∀ w5, w5 = sI w4 70 ((gI w4 70) + (iz 1)) → wp_X3_isDigit w5 (fun r6 w7 => (r6 = iz 0 → b_X3_number_67 Q l1 l2 (r1 - (iz 48)) w7) ∧ (¬ r6 = iz 0 → wp_X3_here w7 (fun r8 w9 => ∀ w10, w10 = sI w9 70 ((gI w9 70) + (iz 1)) → b_X3_number_67 Q l1 l2 ((((iz 10) * (r1 - (iz 48))) + r8) - (iz 48)) w10)))) ∧ (r3 = iz 0 → wp_X3_fails w4 (fun r11 w12 => Q (iz 0) w12))))
set_option maxRecDepth 100000 in
set_option maxHeartbeats 4000000 in
theorem s_X3_number_67 {γ : GG} (Q : Int32 → Wd → Prop) (l1 : Int32) (l2 : Int32) (l4 : Int32) : ∀ (w : Wd), b_X3_number_67 Q l1 l2 l4 w → Rch γ 2 k_X3_number 67 [some (.ref 2), some (.int l1), some (.int l2), none, some (.int l4)] [] w (qI Q) xN := by
  intro w h
  unfold b_X3_number_67 at h
  refine R.aload_n 68 dX3_number_67 rfl rfl ?_
  refine Rch.callv (sd_X3_isDigit _ _ h) dX3_number_68 (lw_V q1475 q1477 qs87 q146 q1478) dk_X3_isDigit rcM (by decide) (Nat.le_of_ble_eq_true rfl) rfl rfl (Nat.le_of_ble_eq_true rfl) (kI 71 rfl fun r1 w2 h => ?_) kN
  refine R.if_eq 81 74 dX3_number_71 (by decide) rfl (fun hc => ?_) (fun hc => ?_)
  · replace h := h.1 hc
    refine R.iload 83 dX3_number_81 rfl rfl ?_
    refine R.i2l 84 dX3_number_83 rfl ?_
    refine R.iload_n 85 dX3_number_84 rfl rfl ?_
    refine R.i2l 86 dX3_number_85 rfl ?_
    refine R.iload_n 87 dX3_number_86 rfl rfl ?_
    refine R.i2l 88 dX3_number_87 rfl ?_
    refine Rch.calls (sd_X3_isIn _ _ _ _ _ h) dX3_number_88 (lw_S q1426 q1427 q146 q1428) dk_X3_isIn (by decide) (Nat.le_of_ble_eq_true rfl) rfl rfl (Nat.le_of_ble_eq_true rfl) (kI 91 rfl fun r3 w4 h => ?_) kN
    refine R.if_ne 109 94 dX3_number_91 (by decide) rfl (fun hc => ?_) (fun hc => ?_)
    · replace h := h.1 hc
      refine R.iload 111 dX3_number_109 rfl rfl ?_
      exact R.retI dX3_number_111 rfl h
    · replace h := h.2 hc
      refine R.aload_n 95 dX3_number_94 rfl rfl ?_
      refine R.dupR 96 dX3_number_95 rfl ?_
      refine gf_70 99 dX3_number_96 rfl rfl ?_
      refine R.iconst 100 dX3_number_99 rfl ?_
      refine R.isub 101 dX3_number_100 rfl ?_
      replace h := h _ rfl
      refine pf_70 _ 104 dX3_number_101 rfl rfl ?_
      refine R.aload_n 105 dX3_number_104 rfl rfl ?_
      refine Rch.callv (sd_X3_fails _ _ h) dX3_number_105 (lw_V q1448 q1450 qs84 q146 q1451) dk_X3_fails rcM (by decide) (Nat.le_of_ble_eq_true rfl) rfl rfl (Nat.le_of_ble_eq_true rfl) (kI 108 rfl fun r6 w7 h => ?_) kN
      refine R.pop 109 dX3_number_108 rfl ?_
      refine R.iload 111 dX3_number_109 rfl rfl ?_
      exact R.retI dX3_number_111 rfl h
  · replace h := h.2 hc
    refine R.aload_n 75 dX3_number_74 rfl rfl ?_
    refine Rch.callv (sd_X3_fails _ _ h) dX3_number_75 (lw_V q1448 q1450 qs84 q146 q1451) dk_X3_fails rcM (by decide) (Nat.le_of_ble_eq_true rfl) rfl rfl (Nat.le_of_ble_eq_true rfl) (kI 78 rfl fun r8 w9 h => ?_) kN
    refine R.pop 79 dX3_number_78 rfl ?_
    refine R.iconst 80 dX3_number_79 rfl ?_
    exact R.retI dX3_number_80 rfl h
set_option maxRecDepth 100000 in
set_option maxHeartbeats 4000000 in
theorem sd_X3_number {γ : GG} (l1 : Int32) (l2 : Int32) (w : Wd) (Q : Int32 → Wd → Prop) : wp_X3_number l1 l2 w Q → Ctr γ 2 yX3_number (ws_ yX3_number cX3_number 5 (some .int)) [.ref 2, .int l1, .int l2] w (qI Q) xN := by
  intro h
  unfold wp_X3_number at h
  refine Ctr.of (μ := k_X3_number) (by decide) rfl rfl rfl (Nat.le_of_ble_eq_true rfl) ⟨2, ?_⟩
  have es : lva [.ref 2, .int l1, .int l2] ++ List.replicate 2 none = [some (.ref 2), some (.int l1), some (.int l2), none, none] := rfl
  rw [es]
  refine R.aload_n 1 dX3_number_0 rfl rfl ?_
  refine Rch.callv (sd_X3_look _ _ h) dX3_number_1 (lw_V q1444 q1446 qs83 q146 q1447) dk_X3_look rcM (by decide) (Nat.le_of_ble_eq_true rfl) rfl rfl (Nat.le_of_ble_eq_true rfl) (kI 4 rfl fun r1 w2 h => ?_) kN
  refine R.ist3n 5 dX3_number_4 rfl (Nat.le_of_ble_eq_true rfl) rfl ?_
  refine R.aload_n 6 dX3_number_5 rfl rfl ?_
  refine Rch.callv (sd_X3_isDigit _ _ h) dX3_number_6 (lw_V q1475 q1477 qs87 q146 q1478) dk_X3_isDigit rcM (by decide) (Nat.le_of_ble_eq_true rfl) rfl rfl (Nat.le_of_ble_eq_true rfl) (kI 9 rfl fun r3 w4 h => ?_) kN
  refine R.if_ne 19 12 dX3_number_9 (by decide) rfl (fun hc => ?_) (fun hc => ?_)
  · replace h := h.1 hc
    refine R.iload_n 20 dX3_number_19 rfl rfl ?_
    refine R.bipush 22 dX3_number_20 rfl (by decide +kernel) ?_
    refine R.isub 23 dX3_number_22 rfl ?_
    refine R.ist4 25 dX3_number_23 rfl (Nat.le_of_ble_eq_true rfl) rfl ?_
    refine R.aload_n 26 dX3_number_25 rfl rfl ?_
    refine R.dupR 27 dX3_number_26 rfl ?_
    refine gf_70 30 dX3_number_27 rfl rfl ?_
    refine R.iconst 31 dX3_number_30 rfl ?_
    refine R.iadd 32 dX3_number_31 rfl ?_
    replace h := h _ rfl
    refine pf_70 _ 35 dX3_number_32 rfl rfl ?_
    refine R.aload_n 36 dX3_number_35 rfl rfl ?_
    refine Rch.callv (sd_X3_isDigit _ _ h) dX3_number_36 (lw_V q1475 q1477 qs87 q146 q1478) dk_X3_isDigit rcM (by decide) (Nat.le_of_ble_eq_true rfl) rfl rfl (Nat.le_of_ble_eq_true rfl) (kI 39 rfl fun r6 w7 h => ?_) kN
    refine R.if_eq 67 42 dX3_number_39 (by decide) rfl (fun hc => ?_) (fun hc => ?_)
    · replace h := h.1 hc
      exact Rch.dropk (s_X3_number_67 Q _ _ _ _ h) ⟨rfl, ⟨rfl, ⟨rfl, ⟨rfl, trivial⟩⟩⟩⟩
    · replace h := h.2 hc
      refine R.bipush 44 dX3_number_42 rfl (by decide +kernel) ?_
      refine R.iload 46 dX3_number_44 rfl rfl ?_
      refine R.imul 47 dX3_number_46 rfl ?_
      refine R.aload_n 48 dX3_number_47 rfl rfl ?_
      refine Rch.callv (sd_X3_here _ _ h) dX3_number_48 (lw_V q1479 q1481 qs88 q146 q1482) dk_X3_here rcM (by decide) (Nat.le_of_ble_eq_true rfl) rfl rfl (Nat.le_of_ble_eq_true rfl) (kI 51 rfl fun r8 w9 h => ?_) kN
      refine R.iadd 52 dX3_number_51 rfl ?_
      refine R.bipush 54 dX3_number_52 rfl (by decide +kernel) ?_
      refine R.isub 55 dX3_number_54 rfl ?_
      refine R.ist4 57 dX3_number_55 rfl (Nat.le_of_ble_eq_true rfl) rfl ?_
      refine R.aload_n 58 dX3_number_57 rfl rfl ?_
      refine R.dupR 59 dX3_number_58 rfl ?_
      refine gf_70 62 dX3_number_59 rfl rfl ?_
      refine R.iconst 63 dX3_number_62 rfl ?_
      refine R.iadd 64 dX3_number_63 rfl ?_
      replace h := h _ rfl
      refine pf_70 _ 67 dX3_number_64 rfl rfl ?_
      exact Rch.dropk (s_X3_number_67 Q _ _ _ _ h) ⟨rfl, ⟨rfl, ⟨rfl, ⟨rfl, trivial⟩⟩⟩⟩
  · replace h := h.2 hc
    refine R.aload_n 13 dX3_number_12 rfl rfl ?_
    refine Rch.callv (sd_X3_fails _ _ h) dX3_number_13 (lw_V q1448 q1450 qs84 q146 q1451) dk_X3_fails rcM (by decide) (Nat.le_of_ble_eq_true rfl) rfl rfl (Nat.le_of_ble_eq_true rfl) (kI 16 rfl fun r11 w12 h => ?_) kN
    refine R.pop 17 dX3_number_16 rfl ?_
    refine R.iconst 18 dX3_number_17 rfl ?_
    exact R.retI dX3_number_18 rfl h

abbrev k_X3_readItems : MK := ("FrostBoxModel", cX3_readItems, 7, none, [], "readItems")
def wl_X3_readItems_45 (Q : Wd → Prop) (l1 : Int32) (l2 : Nat) (l3 : Int32) (l4 : Nat) (R45 : Int32 → Int32 → Wd → Prop) (l5 : Int32) (l6 : Int32) (w : Wd) : Prop := (l6 = (iz (-1)) → Q w) ∧ (¬ l6 = (iz (-1)) → (¬ (gI w 71) = (iz (-1)) → Q w) ∧ ((gI w 71) = (iz (-1)) → wp_X3_has l5 l6 w (fun r1 w2 => (r1 = iz 0 → ∀ w3, w3 = sI w2 70 ((gI w2 70) + (iz 1)) → wp_X3_leastOf l1 l6 w3 (fun r4 w5 => wp_X3_mostOf l1 l6 w5 (fun r6 w7 => wp_X3_number r4 r6 w7 (fun r8 w9 => inA l2 (l3 + l6) ∧ (∀ w10, w10 = sA w9 l2 (l3 + l6).toInt r8 → (¬ (gI w10 71) = (iz (-1)) → R45 (l5 ||| ((iz 1) <<< (l6 &&& 31))) l6 w10) ∧ ((gI w10 71) = (iz (-1)) → wp_X3_look w10 (fun r11 w12 => wp_X3_spotOf l4 r11 w12 (fun r13 w14 => R45 (l5 ||| ((iz 1) <<< (l6 &&& 31))) r13 w14)))))))) ∧ (¬ r1 = iz 0 → wp_X3_fails w2 (fun r15 w16 => Q w16)))))
def lp_X3_readItems_45 (Q : Wd → Prop) (l1 : Int32) (l2 : Nat) (l3 : Int32) (l4 : Nat) : Nat → Int32 → Int32 → Wd → Prop
  | 0, _, _, _ => False
  | n + 1, l5, l6, w => wl_X3_readItems_45 Q l1 l2 l3 l4 (lp_X3_readItems_45 Q l1 l2 l3 l4 n) l5 l6 w
def wl_X3_readItems_3 (Q : Wd → Prop) (l1 : Int32) (l2 : Nat) (l3 : Int32) (l4 : Nat) (R3 : Int32 → Wd → Prop) (l5 : Int32) (w : Wd) : Prop := l4 < 6 ∧ wp_J2_length l4 w (fun r1 w2 => (r1 ≤ l5 → wp_X3_look w2 (fun r3 w4 => wp_X3_spotOf l4 r3 w4 (fun r5 w6 => ∃ n7, lp_X3_readItems_45 Q l1 l2 l3 l4 n7 (iz 0) r5 w6))) ∧ (¬ r1 ≤ l5 → wp_X3_usual l1 l5 w2 (fun r8 w9 => inA l2 (l3 + l5) ∧ (∀ w10, w10 = sA w9 l2 (l3 + l5).toInt r8 → R3 (l5 + iz 1) w10))))
def lp_X3_readItems_3 (Q : Wd → Prop) (l1 : Int32) (l2 : Nat) (l3 : Int32) (l4 : Nat) : Nat → Int32 → Wd → Prop
  | 0, _, _ => False
  | n + 1, l5, w => wl_X3_readItems_3 Q l1 l2 l3 l4 (lp_X3_readItems_3 Q l1 l2 l3 l4 n) l5 w
def wp_X3_readItems (l1 : Int32) (l2 : Nat) (l3 : Int32) (l4 : Nat) (w : Wd) (Q : Wd → Prop) : Prop := ∃ n1, lp_X3_readItems_3 Q l1 l2 l3 l4 n1 (iz 0) w
set_option maxRecDepth 100000 in
set_option maxHeartbeats 4000000 in
theorem sl_X3_readItems_45 {γ : GG} (Q : Wd → Prop) (l1 : Int32) (l2 : Nat) (l3 : Int32) (l4 : Nat) : ∀ (n : Nat) (l5 : Int32) (l6 : Int32) (w : Wd), lp_X3_readItems_45 Q l1 l2 l3 l4 n l5 l6 w → Rch γ 6 k_X3_readItems 45 [some (.ref 2), some (.int l1), some (.ref l2), some (.int l3), some (.ref (120 + l4)), some (.int l5), some (.int l6)] [] w (qV Q) xN := by
  intro n
  induction n with
  | zero => intro _ _ _ h; exact h.elim
  | succ n hR45 =>
    intro l5 l6 w h
    have h : wl_X3_readItems_45 Q l1 l2 l3 l4 (lp_X3_readItems_45 Q l1 l2 l3 l4 n) l5 l6 w := h
    unfold wl_X3_readItems_45 at h
    refine R.iload 47 dX3_readItems_45 rfl rfl ?_
    refine R.iconst 48 dX3_readItems_47 rfl ?_
    refine R.icmp_eq 138 51 dX3_readItems_48 (by decide) rfl (fun hc => ?_) (fun hc => ?_)
    · replace h := h.1 hc
      exact R.retV dX3_readItems_138 rfl h
    · replace h := h.2 hc
      refine R.aload_n 52 dX3_readItems_51 rfl rfl ?_
      refine gf_71 55 dX3_readItems_52 rfl rfl ?_
      refine R.iconst 56 dX3_readItems_55 rfl ?_
      refine R.icmp_ne 138 59 dX3_readItems_56 (by decide) rfl (fun hc => ?_) (fun hc => ?_)
      · replace h := h.1 hc
        exact R.retV dX3_readItems_138 rfl h
      · replace h := h.2 hc
        refine R.iload 61 dX3_readItems_59 rfl rfl ?_
        refine R.iload 63 dX3_readItems_61 rfl rfl ?_
        refine Rch.calls (sd_X3_has _ _ _ _ h) dX3_readItems_63 (lw_S q1462 q1463 q146 q1464) dk_X3_has (by decide) (Nat.le_of_ble_eq_true rfl) rfl rfl (Nat.le_of_ble_eq_true rfl) (kI 66 rfl fun r1 w2 h => ?_) kN
        refine R.if_eq 75 69 dX3_readItems_66 (by decide) rfl (fun hc => ?_) (fun hc => ?_)
        · replace h := h.1 hc
          refine R.iload 77 dX3_readItems_75 rfl rfl ?_
          refine R.iconst 78 dX3_readItems_77 rfl ?_
          refine R.iload 80 dX3_readItems_78 rfl rfl ?_
          refine R.ishl 81 dX3_readItems_80 rfl ?_
          refine R.ior 82 dX3_readItems_81 rfl ?_
          refine R.ist5 84 dX3_readItems_82 rfl (Nat.le_of_ble_eq_true rfl) rfl ?_
          refine R.aload_n 85 dX3_readItems_84 rfl rfl ?_
          refine R.dupR 86 dX3_readItems_85 rfl ?_
          refine gf_70 89 dX3_readItems_86 rfl rfl ?_
          refine R.iconst 90 dX3_readItems_89 rfl ?_
          refine R.iadd 91 dX3_readItems_90 rfl ?_
          replace h := h _ rfl
          refine pf_70 _ 94 dX3_readItems_91 rfl rfl ?_
          refine R.aload_n 95 dX3_readItems_94 rfl rfl ?_
          refine R.iload_n 96 dX3_readItems_95 rfl rfl ?_
          refine R.iload 98 dX3_readItems_96 rfl rfl ?_
          refine R.iadd 99 dX3_readItems_98 rfl ?_
          refine R.aload_n 100 dX3_readItems_99 rfl rfl ?_
          refine R.iload_n 101 dX3_readItems_100 rfl rfl ?_
          refine R.iload 103 dX3_readItems_101 rfl rfl ?_
          refine Rch.calls (sd_X3_leastOf _ _ _ _ h) dX3_readItems_103 (lw_S q1465 q1466 q146 q1467) dk_X3_leastOf (by decide) (Nat.le_of_ble_eq_true rfl) rfl rfl (Nat.le_of_ble_eq_true rfl) (kI 106 rfl fun r4 w5 h => ?_) kN
          refine R.iload_n 107 dX3_readItems_106 rfl rfl ?_
          refine R.iload 109 dX3_readItems_107 rfl rfl ?_
          refine Rch.calls (sd_X3_mostOf _ _ _ _ h) dX3_readItems_109 (lw_S q1468 q1469 q146 q1470) dk_X3_mostOf (by decide) (Nat.le_of_ble_eq_true rfl) rfl rfl (Nat.le_of_ble_eq_true rfl) (kI 112 rfl fun r6 w7 h => ?_) kN
          refine Rch.callv (sd_X3_number _ _ _ _ h) dX3_readItems_112 (lw_V q1471 q1473 qs86 q146 q1474) dk_X3_number rcM (by decide) (Nat.le_of_ble_eq_true rfl) rfl rfl (Nat.le_of_ble_eq_true rfl) (kI 115 rfl fun r8 w9 h => ?_) kN
          obtain ⟨hb, h⟩ := h
          replace h := h _ rfl
          refine R.iasA 116 dX3_readItems_115 rfl hb ?_
          refine R.aload_n 117 dX3_readItems_116 rfl rfl ?_
          refine gf_71 120 dX3_readItems_117 rfl rfl ?_
          refine R.iconst 121 dX3_readItems_120 rfl ?_
          refine R.icmp_ne 45 124 dX3_readItems_121 (by decide) rfl (fun hc => ?_) (fun hc => ?_)
          · replace h := h.1 hc
            exact Rch.dropk (hR45 _ _ _ h) ⟨rfl, ⟨rfl, ⟨rfl, ⟨rfl, ⟨rfl, ⟨rfl, ⟨rfl, trivial⟩⟩⟩⟩⟩⟩⟩
          · replace h := h.2 hc
            refine R.aload 126 dX3_readItems_124 rfl rfl ?_
            refine R.aload_n 127 dX3_readItems_126 rfl rfl ?_
            refine Rch.callv (sd_X3_look _ _ h) dX3_readItems_127 (lw_V q1444 q1446 qs83 q146 q1447) dk_X3_look rcM (by decide) (Nat.le_of_ble_eq_true rfl) rfl rfl (Nat.le_of_ble_eq_true rfl) (kI 130 rfl fun r11 w12 h => ?_) kN
            refine Rch.calls (sd_X3_spotOf _ _ _ _ h) dX3_readItems_130 (lw_S q1458 q1459 q146 q1460) dk_X3_spotOf (by decide) (Nat.le_of_ble_eq_true rfl) rfl rfl (Nat.le_of_ble_eq_true rfl) (kI 133 rfl fun r13 w14 h => ?_) kN
            refine R.ist6 135 dX3_readItems_133 rfl (Nat.le_of_ble_eq_true rfl) rfl ?_
            refine R.goto 45 dX3_readItems_135 (by decide) ?_
            exact Rch.dropk (hR45 _ _ _ h) ⟨rfl, ⟨rfl, ⟨rfl, ⟨rfl, ⟨rfl, ⟨rfl, ⟨rfl, trivial⟩⟩⟩⟩⟩⟩⟩
        · replace h := h.2 hc
          refine R.aload_n 70 dX3_readItems_69 rfl rfl ?_
          refine Rch.callv (sd_X3_fails _ _ h) dX3_readItems_70 (lw_V q1448 q1450 qs84 q146 q1451) dk_X3_fails rcM (by decide) (Nat.le_of_ble_eq_true rfl) rfl rfl (Nat.le_of_ble_eq_true rfl) (kI 73 rfl fun r15 w16 h => ?_) kN
          refine R.pop 74 dX3_readItems_73 rfl ?_
          exact R.retV dX3_readItems_74 rfl h
set_option maxRecDepth 100000 in
set_option maxHeartbeats 4000000 in
theorem sl_X3_readItems_3 {γ : GG} (Q : Wd → Prop) (l1 : Int32) (l2 : Nat) (l3 : Int32) (l4 : Nat) : ∀ (n : Nat) (l5 : Int32) (w : Wd), lp_X3_readItems_3 Q l1 l2 l3 l4 n l5 w → Rch γ 6 k_X3_readItems 3 [some (.ref 2), some (.int l1), some (.ref l2), some (.int l3), some (.ref (120 + l4)), some (.int l5), none] [] w (qV Q) xN := by
  intro n
  induction n with
  | zero => intro _ _ h; exact h.elim
  | succ n hR3 =>
    intro l5 w h
    have h : wl_X3_readItems_3 Q l1 l2 l3 l4 (lp_X3_readItems_3 Q l1 l2 l3 l4 n) l5 w := h
    unfold wl_X3_readItems_3 at h
    refine R.iload 5 dX3_readItems_3 rfl rfl ?_
    refine R.aload 7 dX3_readItems_5 rfl rfl ?_
    obtain ⟨h6, h⟩ := h
    refine Rch.callv (sd_J2_length _ _ _ h) dX3_readItems_7 (lw_V q1457 q410 q411 q147 q412) dk_J2_length (rcS l4 h6) (by decide) (Nat.le_of_ble_eq_true rfl) rfl rfl (Nat.le_of_ble_eq_true rfl) (kI 10 rfl fun r1 w2 h => ?_) kN
    refine R.icmp_ge 31 13 dX3_readItems_10 (by decide) rfl (fun hc => ?_) (fun hc => ?_)
    · replace h := h.1 hc
      refine R.iconst 32 dX3_readItems_31 rfl ?_
      refine R.ist5 34 dX3_readItems_32 rfl (Nat.le_of_ble_eq_true rfl) rfl ?_
      refine R.aload 36 dX3_readItems_34 rfl rfl ?_
      refine R.aload_n 37 dX3_readItems_36 rfl rfl ?_
      refine Rch.callv (sd_X3_look _ _ h) dX3_readItems_37 (lw_V q1444 q1446 qs83 q146 q1447) dk_X3_look rcM (by decide) (Nat.le_of_ble_eq_true rfl) rfl rfl (Nat.le_of_ble_eq_true rfl) (kI 40 rfl fun r3 w4 h => ?_) kN
      refine Rch.calls (sd_X3_spotOf _ _ _ _ h) dX3_readItems_40 (lw_S q1458 q1459 q146 q1460) dk_X3_spotOf (by decide) (Nat.le_of_ble_eq_true rfl) rfl rfl (Nat.le_of_ble_eq_true rfl) (kI 43 rfl fun r5 w6 h => ?_) kN
      refine R.ist6 45 dX3_readItems_43 rfl (Nat.le_of_ble_eq_true rfl) rfl ?_
      obtain ⟨n7, h⟩ := h
      exact Rch.dropk (sl_X3_readItems_45 Q _ _ _ _ n7 _ _ _ h) ⟨rfl, ⟨rfl, ⟨rfl, ⟨rfl, ⟨rfl, ⟨rfl, ⟨rfl, trivial⟩⟩⟩⟩⟩⟩⟩
    · replace h := h.2 hc
      refine R.aload_n 14 dX3_readItems_13 rfl rfl ?_
      refine R.iload_n 15 dX3_readItems_14 rfl rfl ?_
      refine R.iload 17 dX3_readItems_15 rfl rfl ?_
      refine R.iadd 18 dX3_readItems_17 rfl ?_
      refine R.iload_n 19 dX3_readItems_18 rfl rfl ?_
      refine R.iload 21 dX3_readItems_19 rfl rfl ?_
      refine Rch.calls (sd_X3_usual _ _ _ _ h) dX3_readItems_21 (lw_S q1437 q1438 q146 q1439) dk_X3_usual (by decide) (Nat.le_of_ble_eq_true rfl) rfl rfl (Nat.le_of_ble_eq_true rfl) (kI 24 rfl fun r8 w9 h => ?_) kN
      obtain ⟨hb, h⟩ := h
      replace h := h _ rfl
      refine R.iasA 25 dX3_readItems_24 rfl hb ?_
      refine R.inc5 28 dX3_readItems_25 rfl (Nat.le_of_ble_eq_true rfl) rfl ?_
      refine R.goto 3 dX3_readItems_28 (by decide) ?_
      exact Rch.dropk (hR3 _ _ h) ⟨rfl, ⟨rfl, ⟨rfl, ⟨rfl, ⟨rfl, ⟨rfl, trivial⟩⟩⟩⟩⟩⟩
set_option maxRecDepth 100000 in
set_option maxHeartbeats 4000000 in
theorem sd_X3_readItems {γ : GG} (l1 : Int32) (l2 : Nat) (l3 : Int32) (l4 : Nat) (w : Wd) (Q : Wd → Prop) : wp_X3_readItems l1 l2 l3 l4 w Q → Ctr γ 6 yX3_readItems (ws_ yX3_readItems cX3_readItems 7 none) [.ref 2, .int l1, .ref l2, .int l3, .ref (120 + l4)] w (qV Q) xN := by
  intro h
  unfold wp_X3_readItems at h
  refine Ctr.of (μ := k_X3_readItems) (by decide) rfl rfl rfl (Nat.le_of_ble_eq_true rfl) ⟨2, ?_⟩
  have es : lva [.ref 2, .int l1, .ref l2, .int l3, .ref (120 + l4)] ++ List.replicate 2 none = [some (.ref 2), some (.int l1), some (.ref l2), some (.int l3), some (.ref (120 + l4)), none, none] := rfl
  rw [es]
  refine R.iconst 1 dX3_readItems_0 rfl ?_
  refine R.ist5 3 dX3_readItems_1 rfl (Nat.le_of_ble_eq_true rfl) rfl ?_
  obtain ⟨n1, h⟩ := h
  exact Rch.dropk (sl_X3_readItems_3 Q _ _ _ _ n1 _ _ h) ⟨rfl, ⟨rfl, ⟨rfl, ⟨rfl, ⟨rfl, ⟨rfl, trivial⟩⟩⟩⟩⟩⟩

abbrev k_X3_readClause : MK := ("FrostBoxModel", cX3_readClause, 3, none, [], "readClause")
def b_X3_readClause_53 (Q : Wd → Prop) (l1 : Int32) (t0 : Int32) (w : Wd) : Prop := (¬ t0 = iz 0 → ∀ w1, w1 = sI w 70 ((gI w 70) + (iz 1)) → (¬ l1 = (iz 115) → (¬ l1 = (iz 107) → ∀ w2, w2 = sI w1 87 ((gI w1 87) + (iz 1)) → wp_X3_readItems l1 82 ((iz 4) * ((gI w2 87) - (iz 1))) 4 w2 (fun w4 => Q w4)) ∧ (l1 = (iz 107) → ∀ w5, w5 = sI w1 86 ((gI w1 86) + (iz 1)) → wp_X3_readItems l1 81 ((iz 5) * ((gI w5 86) - (iz 1))) 3 w5 (fun w7 => Q w7))) ∧ (l1 = (iz 115) → ∀ w8, w8 = sI w1 89 (iz 1) → wp_X3_readItems l1 79 (iz 0) 2 w8 (fun w10 => Q w10))) ∧ (t0 = iz 0 → wp_X3_fails w (fun r11 w12 => Q w12))
def b_X3_readClause_33 (Q : Wd → Prop) (l1 : Int32) (w : Wd) : Prop := (¬ l1 = (iz 98) → b_X3_readClause_53 Q l1 (iz 0) w) ∧ (l1 = (iz 98) → ((iz 8) ≤ (gI w 87) → b_X3_readClause_53 Q l1 (iz 0) w) ∧ (¬ (iz 8) ≤ (gI w 87) → b_X3_readClause_53 Q l1 (iz 1) w))
def b_X3_readClause_18 (Q : Wd → Prop) (l1 : Int32) (w : Wd) : Prop := (¬ l1 = (iz 107) → b_X3_readClause_33 Q l1 w) ∧ (l1 = (iz 107) → ((gI w 86) < (iz 6) → b_X3_readClause_53 Q l1 (iz 1) w) ∧ (¬ (gI w 86) < (iz 6) → b_X3_readClause_33 Q l1 w))
def wp_X3_readClause (w : Wd) (Q : Wd → Prop) : Prop := wp_X3_look w (fun r1 w2 => (¬ r1 = (iz 115) → b_X3_readClause_18 Q r1 w2) ∧ (r1 = (iz 115) → ((gI w2 89) = iz 0 → b_X3_readClause_53 Q r1 (iz 1) w2) ∧ (¬ (gI w2 89) = iz 0 → b_X3_readClause_18 Q r1 w2)))
set_option maxRecDepth 100000 in
set_option maxHeartbeats 4000000 in
theorem s_X3_readClause_53 {γ : GG} (Q : Wd → Prop) (l1 : Int32) (t0 : Int32) : ∀ (w : Wd), b_X3_readClause_53 Q l1 t0 w → Rch γ 7 k_X3_readClause 53 [some (.ref 2), some (.int l1), none] [.int t0] w (qV Q) xN := by
  intro w h
  unfold b_X3_readClause_53 at h
  refine R.ist2n 54 dX3_readClause_53 rfl (Nat.le_of_ble_eq_true rfl) rfl ?_
  refine R.iload_n 55 dX3_readClause_54 rfl rfl ?_
  refine R.if_ne 64 58 dX3_readClause_55 (by decide) rfl (fun hc => ?_) (fun hc => ?_)
  · replace h := h.1 hc
    refine R.aload_n 65 dX3_readClause_64 rfl rfl ?_
    refine R.dupR 66 dX3_readClause_65 rfl ?_
    refine gf_70 69 dX3_readClause_66 rfl rfl ?_
    refine R.iconst 70 dX3_readClause_69 rfl ?_
    refine R.iadd 71 dX3_readClause_70 rfl ?_
    replace h := h _ rfl
    refine pf_70 _ 74 dX3_readClause_71 rfl rfl ?_
    refine R.iload_n 75 dX3_readClause_74 rfl rfl ?_
    refine R.bipush 77 dX3_readClause_75 rfl (by decide +kernel) ?_
    refine R.icmp_ne 101 80 dX3_readClause_77 (by decide) rfl (fun hc => ?_) (fun hc => ?_)
    · replace h := h.1 hc
      refine R.iload_n 102 dX3_readClause_101 rfl rfl ?_
      refine R.bipush 104 dX3_readClause_102 rfl (by decide +kernel) ?_
      refine R.icmp_ne 140 107 dX3_readClause_104 (by decide) rfl (fun hc => ?_) (fun hc => ?_)
      · replace h := h.1 hc
        refine R.aload_n 141 dX3_readClause_140 rfl rfl ?_
        refine R.dupR 142 dX3_readClause_141 rfl ?_
        refine gf_87 145 dX3_readClause_142 rfl rfl ?_
        refine R.iconst 146 dX3_readClause_145 rfl ?_
        refine R.iadd 147 dX3_readClause_146 rfl ?_
        replace h := h _ rfl
        refine pf_87 _ 150 dX3_readClause_147 rfl rfl ?_
        refine R.aload_n 151 dX3_readClause_150 rfl rfl ?_
        refine R.iload_n 152 dX3_readClause_151 rfl rfl ?_
        refine R.aload_n 153 dX3_readClause_152 rfl rfl ?_
        refine gf_82 156 dX3_readClause_153 rfl rfl ?_
        refine R.iconst 157 dX3_readClause_156 rfl ?_
        refine R.aload_n 158 dX3_readClause_157 rfl rfl ?_
        refine gf_87 161 dX3_readClause_158 rfl rfl ?_
        refine R.iconst 162 dX3_readClause_161 rfl ?_
        refine R.isub 163 dX3_readClause_162 rfl ?_
        refine R.imul 164 dX3_readClause_163 rfl ?_
        refine R.ldcSW (i := 4) 167 dX3_readClause_164 rfl (List.mem_of_getElem? (i := 10) rfl) ?_
        refine Rch.callv (sd_X3_readItems _ _ _ _ _ _ h) dX3_readClause_167 (lw_V q1453 q1455 qs85 q146 q1456) dk_X3_readItems rcM (by decide) (Nat.le_of_ble_eq_true rfl) rfl rfl (Nat.le_of_ble_eq_true rfl) (kV 170 rfl fun w4 h => ?_) kN
        exact R.retV dX3_readClause_170 rfl h
      · replace h := h.2 hc
        refine R.aload_n 108 dX3_readClause_107 rfl rfl ?_
        refine R.dupR 109 dX3_readClause_108 rfl ?_
        refine gf_86 112 dX3_readClause_109 rfl rfl ?_
        refine R.iconst 113 dX3_readClause_112 rfl ?_
        refine R.iadd 114 dX3_readClause_113 rfl ?_
        replace h := h _ rfl
        refine pf_86 _ 117 dX3_readClause_114 rfl rfl ?_
        refine R.aload_n 118 dX3_readClause_117 rfl rfl ?_
        refine R.iload_n 119 dX3_readClause_118 rfl rfl ?_
        refine R.aload_n 120 dX3_readClause_119 rfl rfl ?_
        refine gf_81 123 dX3_readClause_120 rfl rfl ?_
        refine R.iconst 124 dX3_readClause_123 rfl ?_
        refine R.aload_n 125 dX3_readClause_124 rfl rfl ?_
        refine gf_86 128 dX3_readClause_125 rfl rfl ?_
        refine R.iconst 129 dX3_readClause_128 rfl ?_
        refine R.isub 130 dX3_readClause_129 rfl ?_
        refine R.imul 131 dX3_readClause_130 rfl ?_
        refine R.ldcSW (i := 3) 134 dX3_readClause_131 rfl (List.mem_of_getElem? (i := 9) rfl) ?_
        refine Rch.callv (sd_X3_readItems _ _ _ _ _ _ h) dX3_readClause_134 (lw_V q1453 q1455 qs85 q146 q1456) dk_X3_readItems rcM (by decide) (Nat.le_of_ble_eq_true rfl) rfl rfl (Nat.le_of_ble_eq_true rfl) (kV 137 rfl fun w7 h => ?_) kN
        refine R.goto 170 dX3_readClause_137 (by decide) ?_
        exact R.retV dX3_readClause_170 rfl h
    · replace h := h.2 hc
      refine R.aload_n 81 dX3_readClause_80 rfl rfl ?_
      refine R.iconst 82 dX3_readClause_81 rfl ?_
      replace h := h _ rfl
      refine pf_89 _ 85 dX3_readClause_82 rfl rfl zok1 ?_
      refine R.aload_n 86 dX3_readClause_85 rfl rfl ?_
      refine R.iload_n 87 dX3_readClause_86 rfl rfl ?_
      refine R.aload_n 88 dX3_readClause_87 rfl rfl ?_
      refine gf_79 91 dX3_readClause_88 rfl rfl ?_
      refine R.iconst 92 dX3_readClause_91 rfl ?_
      refine R.ldcSW (i := 2) 95 dX3_readClause_92 rfl (List.mem_of_getElem? (i := 8) rfl) ?_
      refine Rch.callv (sd_X3_readItems _ _ _ _ _ _ h) dX3_readClause_95 (lw_V q1453 q1455 qs85 q146 q1456) dk_X3_readItems rcM (by decide) (Nat.le_of_ble_eq_true rfl) rfl rfl (Nat.le_of_ble_eq_true rfl) (kV 98 rfl fun w10 h => ?_) kN
      refine R.goto 170 dX3_readClause_98 (by decide) ?_
      exact R.retV dX3_readClause_170 rfl h
  · replace h := h.2 hc
    refine R.aload_n 59 dX3_readClause_58 rfl rfl ?_
    refine Rch.callv (sd_X3_fails _ _ h) dX3_readClause_59 (lw_V q1448 q1450 qs84 q146 q1451) dk_X3_fails rcM (by decide) (Nat.le_of_ble_eq_true rfl) rfl rfl (Nat.le_of_ble_eq_true rfl) (kI 62 rfl fun r11 w12 h => ?_) kN
    refine R.pop 63 dX3_readClause_62 rfl ?_
    exact R.retV dX3_readClause_63 rfl h
set_option maxRecDepth 100000 in
set_option maxHeartbeats 4000000 in
theorem s_X3_readClause_33 {γ : GG} (Q : Wd → Prop) (l1 : Int32) : ∀ (w : Wd), b_X3_readClause_33 Q l1 w → Rch γ 7 k_X3_readClause 33 [some (.ref 2), some (.int l1), none] [] w (qV Q) xN := by
  intro w h
  unfold b_X3_readClause_33 at h
  refine R.iload_n 34 dX3_readClause_33 rfl rfl ?_
  refine R.bipush 36 dX3_readClause_34 rfl (by decide +kernel) ?_
  refine R.icmp_ne 52 39 dX3_readClause_36 (by decide) rfl (fun hc => ?_) (fun hc => ?_)
  · replace h := h.1 hc
    refine R.iconst 53 dX3_readClause_52 rfl ?_
    exact Rch.dropk (s_X3_readClause_53 Q _ _ _ h) ⟨rfl, ⟨rfl, trivial⟩⟩
  · replace h := h.2 hc
    refine R.aload_n 40 dX3_readClause_39 rfl rfl ?_
    refine gf_87 43 dX3_readClause_40 rfl rfl ?_
    refine R.bipush 45 dX3_readClause_43 rfl (by decide +kernel) ?_
    refine R.icmp_ge 52 48 dX3_readClause_45 (by decide) rfl (fun hc => ?_) (fun hc => ?_)
    · replace h := h.1 hc
      refine R.iconst 53 dX3_readClause_52 rfl ?_
      exact Rch.dropk (s_X3_readClause_53 Q _ _ _ h) ⟨rfl, ⟨rfl, trivial⟩⟩
    · replace h := h.2 hc
      refine R.iconst 49 dX3_readClause_48 rfl ?_
      refine R.goto 53 dX3_readClause_49 (by decide) ?_
      exact Rch.dropk (s_X3_readClause_53 Q _ _ _ h) ⟨rfl, ⟨rfl, trivial⟩⟩
set_option maxRecDepth 100000 in
set_option maxHeartbeats 4000000 in
theorem s_X3_readClause_18 {γ : GG} (Q : Wd → Prop) (l1 : Int32) : ∀ (w : Wd), b_X3_readClause_18 Q l1 w → Rch γ 7 k_X3_readClause 18 [some (.ref 2), some (.int l1), none] [] w (qV Q) xN := by
  intro w h
  unfold b_X3_readClause_18 at h
  refine R.iload_n 19 dX3_readClause_18 rfl rfl ?_
  refine R.bipush 21 dX3_readClause_19 rfl (by decide +kernel) ?_
  refine R.icmp_ne 33 24 dX3_readClause_21 (by decide) rfl (fun hc => ?_) (fun hc => ?_)
  · replace h := h.1 hc
    exact Rch.dropk (s_X3_readClause_33 Q _ _ h) ⟨rfl, ⟨rfl, trivial⟩⟩
  · replace h := h.2 hc
    refine R.aload_n 25 dX3_readClause_24 rfl rfl ?_
    refine gf_86 28 dX3_readClause_25 rfl rfl ?_
    refine R.bipush 30 dX3_readClause_28 rfl (by decide +kernel) ?_
    refine R.icmp_lt 48 33 dX3_readClause_30 (by decide) rfl (fun hc => ?_) (fun hc => ?_)
    · replace h := h.1 hc
      refine R.iconst 49 dX3_readClause_48 rfl ?_
      refine R.goto 53 dX3_readClause_49 (by decide) ?_
      exact Rch.dropk (s_X3_readClause_53 Q _ _ _ h) ⟨rfl, ⟨rfl, trivial⟩⟩
    · replace h := h.2 hc
      exact Rch.dropk (s_X3_readClause_33 Q _ _ h) ⟨rfl, ⟨rfl, trivial⟩⟩
set_option maxRecDepth 100000 in
set_option maxHeartbeats 4000000 in
theorem sd_X3_readClause {γ : GG} (w : Wd) (Q : Wd → Prop) : wp_X3_readClause w Q → Ctr γ 7 yX3_readClause (ws_ yX3_readClause cX3_readClause 3 none) [.ref 2] w (qV Q) xN := by
  intro h
  unfold wp_X3_readClause at h
  refine Ctr.of (μ := k_X3_readClause) (by decide) rfl rfl rfl (Nat.le_of_ble_eq_true rfl) ⟨2, ?_⟩
  have es : lva [.ref 2] ++ List.replicate 2 none = [some (.ref 2), none, none] := rfl
  rw [es]
  refine R.aload_n 1 dX3_readClause_0 rfl rfl ?_
  refine Rch.callv (sd_X3_look _ _ h) dX3_readClause_1 (lw_V q1444 q1446 qs83 q146 q1447) dk_X3_look rcM (by decide) (Nat.le_of_ble_eq_true rfl) rfl rfl (Nat.le_of_ble_eq_true rfl) (kI 4 rfl fun r1 w2 h => ?_) kN
  refine R.ist1n 5 dX3_readClause_4 rfl (Nat.le_of_ble_eq_true rfl) rfl ?_
  refine R.iload_n 6 dX3_readClause_5 rfl rfl ?_
  refine R.bipush 8 dX3_readClause_6 rfl (by decide +kernel) ?_
  refine R.icmp_ne 18 11 dX3_readClause_8 (by decide) rfl (fun hc => ?_) (fun hc => ?_)
  · replace h := h.1 hc
    exact Rch.dropk (s_X3_readClause_18 Q _ _ h) ⟨rfl, ⟨rfl, trivial⟩⟩
  · replace h := h.2 hc
    refine R.aload_n 12 dX3_readClause_11 rfl rfl ?_
    refine gf_89 15 dX3_readClause_12 rfl rfl ?_
    refine R.if_eq 48 18 dX3_readClause_15 (by decide) rfl (fun hc => ?_) (fun hc => ?_)
    · replace h := h.1 hc
      refine R.iconst 49 dX3_readClause_48 rfl ?_
      refine R.goto 53 dX3_readClause_49 (by decide) ?_
      exact Rch.dropk (s_X3_readClause_53 Q _ _ _ h) ⟨rfl, ⟨rfl, trivial⟩⟩
    · replace h := h.2 hc
      exact Rch.dropk (s_X3_readClause_18 Q _ _ h) ⟨rfl, ⟨rfl, trivial⟩⟩

abbrev k_X3_isWhole : MK := ("FrostBoxModel", cX3_isWhole, 4, (some .boolean), [], "isWhole")
def b_X3_isWhole_107 (Q : Int32 → Wd → Prop) (R75 : Int32 → Int32 → Int32 → Wd → Prop) (l2 : Int32) (l3 : Int32) (t0 : Int32) (w : Wd) : Prop := inb (((iz 4) * l3) + (iz 1)) 32 ∧ R75 t0 (l2 + (gA w 82 (((iz 4) * l3) + (iz 1)).toInt)) (l3 + iz 1) w
def wl_X3_isWhole_75 (Q : Int32 → Wd → Prop) (R75 : Int32 → Int32 → Int32 → Wd → Prop) (l1 : Int32) (l2 : Int32) (l3 : Int32) (w : Wd) : Prop := ((gI w 87) ≤ l3 → (l1 = iz 0 → Q (iz 0) w) ∧ (¬ l1 = iz 0 → inb (iz 0) 4 ∧ ((gA w 79 (iz 0).toInt) < l2 → Q (iz 0) w) ∧ (¬ (gA w 79 (iz 0).toInt) < l2 → Q (iz 1) w))) ∧ (¬ (gI w 87) ≤ l3 → (l1 = iz 0 → b_X3_isWhole_107 Q R75 l2 l3 (iz 0) w) ∧ (¬ l1 = iz 0 → inb ((iz 4) * l3) 32 ∧ ((gI w 86) ≤ (gA w 82 ((iz 4) * l3).toInt) → b_X3_isWhole_107 Q R75 l2 l3 (iz 0) w) ∧ (¬ (gI w 86) ≤ (gA w 82 ((iz 4) * l3).toInt) → b_X3_isWhole_107 Q R75 l2 l3 (iz 1) w)))
def lp_X3_isWhole_75 (Q : Int32 → Wd → Prop) : Nat → Int32 → Int32 → Int32 → Wd → Prop
  | 0, _, _, _, _ => False
  | n + 1, l1, l2, l3, w => wl_X3_isWhole_75 Q (lp_X3_isWhole_75 Q n) l1 l2 l3 w
def wl_X3_isWhole_17 (Q : Int32 → Wd → Prop) (l2 : Int32) (R17 : Int32 → Int32 → Wd → Prop) (l1 : Int32) (l3 : Int32) (w : Wd) : Prop := ((gI w 86) ≤ l3 → ∃ n1, lp_X3_isWhole_75 Q n1 l1 l2 (iz 0) w) ∧ (¬ (gI w 86) ≤ l3 → (l1 = iz 0 → R17 (iz 0) (l3 + iz 1) w) ∧ (¬ l1 = iz 0 → inb (((iz 5) * l3) + (iz 4)) 30 ∧ ((gA w 81 (((iz 5) * l3) + (iz 4)).toInt) < (gI w 86) → R17 (iz 1) (l3 + iz 1) w) ∧ (¬ (gA w 81 (((iz 5) * l3) + (iz 4)).toInt) < (gI w 86) → inb (((iz 5) * l3) + (iz 4)) 30 ∧ (¬ (gA w 81 (((iz 5) * l3) + (iz 4)).toInt) = (iz 6) → R17 (iz 0) (l3 + iz 1) w) ∧ ((gA w 81 (((iz 5) * l3) + (iz 4)).toInt) = (iz 6) → R17 (iz 1) (l3 + iz 1) w))))
def lp_X3_isWhole_17 (Q : Int32 → Wd → Prop) (l2 : Int32) : Nat → Int32 → Int32 → Wd → Prop
  | 0, _, _, _ => False
  | n + 1, l1, l3, w => wl_X3_isWhole_17 Q l2 (lp_X3_isWhole_17 Q l2 n) l1 l3 w
def wp_X3_isWhole (w : Wd) (Q : Int32 → Wd → Prop) : Prop := ((gI w 86) ≤ iz 0 → ∃ n1, lp_X3_isWhole_17 Q (iz 0) n1 (iz 0) (iz 0) w) ∧ (¬ (gI w 86) ≤ iz 0 → ∃ n2, lp_X3_isWhole_17 Q (iz 0) n2 (iz 1) (iz 0) w)
set_option maxRecDepth 100000 in
set_option maxHeartbeats 4000000 in
theorem s_X3_isWhole_107 {γ : GG} (Q : Int32 → Wd → Prop) (R75 : Int32 → Int32 → Int32 → Wd → Prop) (l2 : Int32) (l3 : Int32) (t0 : Int32) (hR75 : ∀ (l1 : Int32) (l2 : Int32) (l3 : Int32) (w : Wd), R75 l1 l2 l3 w → Rch γ 1 k_X3_isWhole 75 [some (.ref 2), some (.int l1), some (.int l2), some (.int l3)] [] w (qI Q) xN) : ∀ (w : Wd), b_X3_isWhole_107 Q R75 l2 l3 t0 w → Rch γ 1 k_X3_isWhole 107 [some (.ref 2), none, some (.int l2), some (.int l3)] [.int t0] w (qI Q) xN := by
  intro w h
  unfold b_X3_isWhole_107 at h
  refine R.ist1n 108 dX3_isWhole_107 rfl (Nat.le_of_ble_eq_true rfl) rfl ?_
  refine R.iload_n 109 dX3_isWhole_108 rfl rfl ?_
  refine R.aload_n 110 dX3_isWhole_109 rfl rfl ?_
  refine gf_82 113 dX3_isWhole_110 rfl rfl ?_
  refine R.iconst 114 dX3_isWhole_113 rfl ?_
  refine R.iload_n 115 dX3_isWhole_114 rfl rfl ?_
  refine R.imul 116 dX3_isWhole_115 rfl ?_
  refine R.iconst 117 dX3_isWhole_116 rfl ?_
  refine R.iadd 118 dX3_isWhole_117 rfl ?_
  obtain ⟨hb, h⟩ := h
  refine R.iald ar_82 119 dX3_isWhole_118 rfl hb ?_
  refine R.iadd 120 dX3_isWhole_119 rfl ?_
  refine R.ist2n 121 dX3_isWhole_120 rfl (Nat.le_of_ble_eq_true rfl) rfl ?_
  refine R.inc3 124 dX3_isWhole_121 rfl (Nat.le_of_ble_eq_true rfl) rfl ?_
  refine R.goto 75 dX3_isWhole_124 (by decide) ?_
  exact Rch.dropk (hR75 _ _ _ _ h) ⟨rfl, ⟨rfl, ⟨rfl, ⟨rfl, trivial⟩⟩⟩⟩
set_option maxRecDepth 100000 in
set_option maxHeartbeats 4000000 in
theorem sl_X3_isWhole_75 {γ : GG} (Q : Int32 → Wd → Prop) : ∀ (n : Nat) (l1 : Int32) (l2 : Int32) (l3 : Int32) (w : Wd), lp_X3_isWhole_75 Q n l1 l2 l3 w → Rch γ 1 k_X3_isWhole 75 [some (.ref 2), some (.int l1), some (.int l2), some (.int l3)] [] w (qI Q) xN := by
  intro n
  induction n with
  | zero => intro _ _ _ _ h; exact h.elim
  | succ n hR75 =>
    intro l1 l2 l3 w h
    have h : wl_X3_isWhole_75 Q (lp_X3_isWhole_75 Q n) l1 l2 l3 w := h
    unfold wl_X3_isWhole_75 at h
    refine R.iload_n 76 dX3_isWhole_75 rfl rfl ?_
    refine R.aload_n 77 dX3_isWhole_76 rfl rfl ?_
    refine gf_87 80 dX3_isWhole_77 rfl rfl ?_
    refine R.icmp_ge 127 83 dX3_isWhole_80 (by decide) rfl (fun hc => ?_) (fun hc => ?_)
    · replace h := h.1 hc
      refine R.iload_n 128 dX3_isWhole_127 rfl rfl ?_
      refine R.if_eq 145 131 dX3_isWhole_128 (by decide) rfl (fun hc => ?_) (fun hc => ?_)
      · replace h := h.1 hc
        refine R.iconst 146 dX3_isWhole_145 rfl ?_
        exact R.retZ dX3_isWhole_146 rfl zok0 h
      · replace h := h.2 hc
        refine R.iload_n 132 dX3_isWhole_131 rfl rfl ?_
        refine R.aload_n 133 dX3_isWhole_132 rfl rfl ?_
        refine gf_79 136 dX3_isWhole_133 rfl rfl ?_
        refine R.iconst 137 dX3_isWhole_136 rfl ?_
        obtain ⟨hb, h⟩ := h
        refine R.iald ar_79 138 dX3_isWhole_137 rfl hb ?_
        refine R.icmp_gt 145 141 dX3_isWhole_138 (by decide) rfl (fun hc => ?_) (fun hc => ?_)
        · replace h := h.1 hc
          refine R.iconst 146 dX3_isWhole_145 rfl ?_
          exact R.retZ dX3_isWhole_146 rfl zok0 h
        · replace h := h.2 hc
          refine R.iconst 142 dX3_isWhole_141 rfl ?_
          refine R.goto 146 dX3_isWhole_142 (by decide) ?_
          exact R.retZ dX3_isWhole_146 rfl zok1 h
    · replace h := h.2 hc
      refine R.iload_n 84 dX3_isWhole_83 rfl rfl ?_
      refine R.if_eq 106 87 dX3_isWhole_84 (by decide) rfl (fun hc => ?_) (fun hc => ?_)
      · replace h := h.1 hc
        refine R.iconst 107 dX3_isWhole_106 rfl ?_
        exact Rch.dropk (s_X3_isWhole_107 Q _ _ _ _ hR75 _ h) ⟨rfl, ⟨rfl, ⟨rfl, trivial⟩⟩⟩
      · replace h := h.2 hc
        refine R.aload_n 88 dX3_isWhole_87 rfl rfl ?_
        refine gf_82 91 dX3_isWhole_88 rfl rfl ?_
        refine R.iconst 92 dX3_isWhole_91 rfl ?_
        refine R.iload_n 93 dX3_isWhole_92 rfl rfl ?_
        refine R.imul 94 dX3_isWhole_93 rfl ?_
        obtain ⟨hb, h⟩ := h
        refine R.iald ar_82 95 dX3_isWhole_94 rfl hb ?_
        refine R.aload_n 96 dX3_isWhole_95 rfl rfl ?_
        refine gf_86 99 dX3_isWhole_96 rfl rfl ?_
        refine R.icmp_ge 106 102 dX3_isWhole_99 (by decide) rfl (fun hc => ?_) (fun hc => ?_)
        · replace h := h.1 hc
          refine R.iconst 107 dX3_isWhole_106 rfl ?_
          exact Rch.dropk (s_X3_isWhole_107 Q _ _ _ _ hR75 _ h) ⟨rfl, ⟨rfl, ⟨rfl, trivial⟩⟩⟩
        · replace h := h.2 hc
          refine R.iconst 103 dX3_isWhole_102 rfl ?_
          refine R.goto 107 dX3_isWhole_103 (by decide) ?_
          exact Rch.dropk (s_X3_isWhole_107 Q _ _ _ _ hR75 _ h) ⟨rfl, ⟨rfl, ⟨rfl, trivial⟩⟩⟩
set_option maxRecDepth 100000 in
set_option maxHeartbeats 4000000 in
theorem sl_X3_isWhole_17 {γ : GG} (Q : Int32 → Wd → Prop) (l2 : Int32) : ∀ (n : Nat) (l1 : Int32) (l3 : Int32) (w : Wd), lp_X3_isWhole_17 Q l2 n l1 l3 w → Rch γ 1 k_X3_isWhole 17 [some (.ref 2), some (.int l1), some (.int l2), some (.int l3)] [] w (qI Q) xN := by
  intro n
  induction n with
  | zero => intro _ _ _ h; exact h.elim
  | succ n hR17 =>
    intro l1 l3 w h
    have h : wl_X3_isWhole_17 Q l2 (lp_X3_isWhole_17 Q l2 n) l1 l3 w := h
    unfold wl_X3_isWhole_17 at h
    refine R.iload_n 18 dX3_isWhole_17 rfl rfl ?_
    refine R.aload_n 19 dX3_isWhole_18 rfl rfl ?_
    refine gf_86 22 dX3_isWhole_19 rfl rfl ?_
    refine R.icmp_ge 73 25 dX3_isWhole_22 (by decide) rfl (fun hc => ?_) (fun hc => ?_)
    · replace h := h.1 hc
      refine R.iconst 74 dX3_isWhole_73 rfl ?_
      refine R.ist3n 75 dX3_isWhole_74 rfl (Nat.le_of_ble_eq_true rfl) rfl ?_
      obtain ⟨n1, h⟩ := h
      exact Rch.dropk (sl_X3_isWhole_75 Q n1 _ _ _ _ h) ⟨rfl, ⟨rfl, ⟨rfl, ⟨rfl, trivial⟩⟩⟩⟩
    · replace h := h.2 hc
      refine R.iload_n 26 dX3_isWhole_25 rfl rfl ?_
      refine R.if_eq 65 29 dX3_isWhole_26 (by decide) rfl (fun hc => ?_) (fun hc => ?_)
      · replace h := h.1 hc
        refine R.iconst 66 dX3_isWhole_65 rfl ?_
        refine R.ist1n 67 dX3_isWhole_66 rfl (Nat.le_of_ble_eq_true rfl) rfl ?_
        refine R.inc3 70 dX3_isWhole_67 rfl (Nat.le_of_ble_eq_true rfl) rfl ?_
        refine R.goto 17 dX3_isWhole_70 (by decide) ?_
        exact Rch.dropk (hR17 _ _ _ h) ⟨rfl, ⟨rfl, ⟨rfl, ⟨rfl, trivial⟩⟩⟩⟩
      · replace h := h.2 hc
        refine R.aload_n 30 dX3_isWhole_29 rfl rfl ?_
        refine gf_81 33 dX3_isWhole_30 rfl rfl ?_
        refine R.iconst 34 dX3_isWhole_33 rfl ?_
        refine R.iload_n 35 dX3_isWhole_34 rfl rfl ?_
        refine R.imul 36 dX3_isWhole_35 rfl ?_
        refine R.iconst 37 dX3_isWhole_36 rfl ?_
        refine R.iadd 38 dX3_isWhole_37 rfl ?_
        obtain ⟨hb, h⟩ := h
        refine R.iald ar_81 39 dX3_isWhole_38 rfl hb ?_
        refine R.aload_n 40 dX3_isWhole_39 rfl rfl ?_
        refine gf_86 43 dX3_isWhole_40 rfl rfl ?_
        refine R.icmp_lt 61 46 dX3_isWhole_43 (by decide) rfl (fun hc => ?_) (fun hc => ?_)
        · replace h := h.1 hc
          refine R.iconst 62 dX3_isWhole_61 rfl ?_
          refine R.goto 66 dX3_isWhole_62 (by decide) ?_
          refine R.ist1n 67 dX3_isWhole_66 rfl (Nat.le_of_ble_eq_true rfl) rfl ?_
          refine R.inc3 70 dX3_isWhole_67 rfl (Nat.le_of_ble_eq_true rfl) rfl ?_
          refine R.goto 17 dX3_isWhole_70 (by decide) ?_
          exact Rch.dropk (hR17 _ _ _ h) ⟨rfl, ⟨rfl, ⟨rfl, ⟨rfl, trivial⟩⟩⟩⟩
        · replace h := h.2 hc
          refine R.aload_n 47 dX3_isWhole_46 rfl rfl ?_
          refine gf_81 50 dX3_isWhole_47 rfl rfl ?_
          refine R.iconst 51 dX3_isWhole_50 rfl ?_
          refine R.iload_n 52 dX3_isWhole_51 rfl rfl ?_
          refine R.imul 53 dX3_isWhole_52 rfl ?_
          refine R.iconst 54 dX3_isWhole_53 rfl ?_
          refine R.iadd 55 dX3_isWhole_54 rfl ?_
          obtain ⟨hb, h⟩ := h
          refine R.iald ar_81 56 dX3_isWhole_55 rfl hb ?_
          refine R.bipush 58 dX3_isWhole_56 rfl (by decide +kernel) ?_
          refine R.icmp_ne 65 61 dX3_isWhole_58 (by decide) rfl (fun hc => ?_) (fun hc => ?_)
          · replace h := h.1 hc
            refine R.iconst 66 dX3_isWhole_65 rfl ?_
            refine R.ist1n 67 dX3_isWhole_66 rfl (Nat.le_of_ble_eq_true rfl) rfl ?_
            refine R.inc3 70 dX3_isWhole_67 rfl (Nat.le_of_ble_eq_true rfl) rfl ?_
            refine R.goto 17 dX3_isWhole_70 (by decide) ?_
            exact Rch.dropk (hR17 _ _ _ h) ⟨rfl, ⟨rfl, ⟨rfl, ⟨rfl, trivial⟩⟩⟩⟩
          · replace h := h.2 hc
            refine R.iconst 62 dX3_isWhole_61 rfl ?_
            refine R.goto 66 dX3_isWhole_62 (by decide) ?_
            refine R.ist1n 67 dX3_isWhole_66 rfl (Nat.le_of_ble_eq_true rfl) rfl ?_
            refine R.inc3 70 dX3_isWhole_67 rfl (Nat.le_of_ble_eq_true rfl) rfl ?_
            refine R.goto 17 dX3_isWhole_70 (by decide) ?_
            exact Rch.dropk (hR17 _ _ _ h) ⟨rfl, ⟨rfl, ⟨rfl, ⟨rfl, trivial⟩⟩⟩⟩
set_option maxRecDepth 100000 in
set_option maxHeartbeats 4000000 in
theorem sd_X3_isWhole {γ : GG} (w : Wd) (Q : Int32 → Wd → Prop) : wp_X3_isWhole w Q → Ctr γ 1 yX3_isWhole (ws_ yX3_isWhole cX3_isWhole 4 (some .boolean)) [.ref 2] w (qI Q) xN := by
  intro h
  unfold wp_X3_isWhole at h
  refine Ctr.of (μ := k_X3_isWhole) (by decide) rfl rfl rfl (Nat.le_of_ble_eq_true rfl) ⟨3, ?_⟩
  have es : lva [.ref 2] ++ List.replicate 3 none = [some (.ref 2), none, none, none] := rfl
  rw [es]
  refine R.aload_n 1 dX3_isWhole_0 rfl rfl ?_
  refine gf_86 4 dX3_isWhole_1 rfl rfl ?_
  refine R.if_le 11 7 dX3_isWhole_4 (by decide) rfl (fun hc => ?_) (fun hc => ?_)
  · replace h := h.1 hc
    refine R.iconst 12 dX3_isWhole_11 rfl ?_
    refine R.ist1n 13 dX3_isWhole_12 rfl (Nat.le_of_ble_eq_true rfl) rfl ?_
    refine R.iconst 14 dX3_isWhole_13 rfl ?_
    refine R.ist2n 15 dX3_isWhole_14 rfl (Nat.le_of_ble_eq_true rfl) rfl ?_
    refine R.iconst 16 dX3_isWhole_15 rfl ?_
    refine R.ist3n 17 dX3_isWhole_16 rfl (Nat.le_of_ble_eq_true rfl) rfl ?_
    obtain ⟨n1, h⟩ := h
    exact Rch.dropk (sl_X3_isWhole_17 Q _ n1 _ _ _ h) ⟨rfl, ⟨rfl, ⟨rfl, ⟨rfl, trivial⟩⟩⟩⟩
  · replace h := h.2 hc
    refine R.iconst 8 dX3_isWhole_7 rfl ?_
    refine R.goto 12 dX3_isWhole_8 (by decide) ?_
    refine R.ist1n 13 dX3_isWhole_12 rfl (Nat.le_of_ble_eq_true rfl) rfl ?_
    refine R.iconst 14 dX3_isWhole_13 rfl ?_
    refine R.ist2n 15 dX3_isWhole_14 rfl (Nat.le_of_ble_eq_true rfl) rfl ?_
    refine R.iconst 16 dX3_isWhole_15 rfl ?_
    refine R.ist3n 17 dX3_isWhole_16 rfl (Nat.le_of_ble_eq_true rfl) rfl ?_
    obtain ⟨n2, h⟩ := h
    exact Rch.dropk (sl_X3_isWhole_17 Q _ n2 _ _ _ h) ⟨rfl, ⟨rfl, ⟨rfl, ⟨rfl, trivial⟩⟩⟩⟩
