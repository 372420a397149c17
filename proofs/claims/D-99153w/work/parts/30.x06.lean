set_option maxRecDepth 100000

abbrev k_X1_goes : MK := ("FrostBox", cX1_goes, 4, (some .int), [], "goes")
def wl_X1_goes_14 (Q : Int32 → Wd → Prop) (l1 : Int32) (R14 : Int32 → Int32 → Wd → Prop) (l2 : Int32) (l3 : Int32) (w : Wd) : Prop := ((gI w 23) ≤ l3 → Q l2 w) ∧ (¬ (gI w 23) ≤ l3 → wp_X1_isWith l1 l3 w (fun r1 w2 => (r1 = iz 0 → R14 l2 (l3 + iz 1) w2) ∧ (¬ r1 = iz 0 → R14 (l2 ||| ((iz 1) <<< (l3 &&& 31))) (l3 + iz 1) w2)))
def lp_X1_goes_14 (Q : Int32 → Wd → Prop) (l1 : Int32) : Nat → Int32 → Int32 → Wd → Prop
  | 0, _, _, _ => False
  | n + 1, l2, l3, w => wl_X1_goes_14 Q l1 (lp_X1_goes_14 Q l1 n) l2 l3 w
def wp_X1_goes (l1 : Int32) (w : Wd) (Q : Int32 → Wd → Prop) : Prop := wp_X1_isKind l1 w (fun r1 w2 => (¬ r1 = iz 0 → ∃ n3, lp_X1_goes_14 Q l1 n3 (iz 0) (iz 0) w2) ∧ (r1 = iz 0 → Q (iz (-1)) w2))
set_option maxRecDepth 100000 in
set_option maxHeartbeats 4000000 in
theorem sl_X1_goes_14 {γ : GG} (Q : Int32 → Wd → Prop) (l1 : Int32) : ∀ (n : Nat) (l2 : Int32) (l3 : Int32) (w : Wd), lp_X1_goes_14 Q l1 n l2 l3 w → Rch γ 4 k_X1_goes 14 [some (.ref 1), some (.int l1), some (.int l2), some (.int l3)] [] w (qI Q) xN := by
  intro n
  induction n with
  | zero => intro _ _ _ h; exact h.elim
  | succ n hR14 =>
    intro l2 l3 w h
    have h : wl_X1_goes_14 Q l1 (lp_X1_goes_14 Q l1 n) l2 l3 w := h
    unfold wl_X1_goes_14 at h
    refine R.iload_n 15 dX1_goes_14 rfl rfl ?_
    refine R.aload_n 16 dX1_goes_15 rfl rfl ?_
    refine gf_23 19 dX1_goes_16 rfl rfl ?_
    refine R.icmp_ge 43 22 dX1_goes_19 (by decide) rfl (fun hc => ?_) (fun hc => ?_)
    · replace h := h.1 hc
      refine R.iload_n 44 dX1_goes_43 rfl rfl ?_
      exact R.retI dX1_goes_44 rfl h
    · replace h := h.2 hc
      refine R.aload_n 23 dX1_goes_22 rfl rfl ?_
      refine R.iload_n 24 dX1_goes_23 rfl rfl ?_
      refine R.iload_n 25 dX1_goes_24 rfl rfl ?_
      refine Rch.callv (sd_X1_isWith _ _ _ _ h) dX1_goes_25 (lw_V q1004 q1006 qs60 q142 q1007) dk_X1_isWith rcX (by decide) (Nat.le_of_ble_eq_true rfl) rfl rfl (Nat.le_of_ble_eq_true rfl) (kI 28 rfl fun r1 w2 h => ?_) kN
      refine R.if_eq 37 31 dX1_goes_28 (by decide) rfl (fun hc => ?_) (fun hc => ?_)
      · replace h := h.1 hc
        refine R.inc3 40 dX1_goes_37 rfl (Nat.le_of_ble_eq_true rfl) rfl ?_
        refine R.goto 14 dX1_goes_40 (by decide) ?_
        exact Rch.dropk (hR14 _ _ _ h) ⟨rfl, ⟨rfl, ⟨rfl, ⟨rfl, trivial⟩⟩⟩⟩
      · replace h := h.2 hc
        refine R.iload_n 32 dX1_goes_31 rfl rfl ?_
        refine R.iconst 33 dX1_goes_32 rfl ?_
        refine R.iload_n 34 dX1_goes_33 rfl rfl ?_
        refine R.ishl 35 dX1_goes_34 rfl ?_
        refine R.ior 36 dX1_goes_35 rfl ?_
        refine R.ist2n 37 dX1_goes_36 rfl (Nat.le_of_ble_eq_true rfl) rfl ?_
        refine R.inc3 40 dX1_goes_37 rfl (Nat.le_of_ble_eq_true rfl) rfl ?_
        refine R.goto 14 dX1_goes_40 (by decide) ?_
        exact Rch.dropk (hR14 _ _ _ h) ⟨rfl, ⟨rfl, ⟨rfl, ⟨rfl, trivial⟩⟩⟩⟩
set_option maxRecDepth 100000 in
set_option maxHeartbeats 4000000 in
theorem sd_X1_goes {γ : GG} (l1 : Int32) (w : Wd) (Q : Int32 → Wd → Prop) : wp_X1_goes l1 w Q → Ctr γ 4 yX1_goes (ws_ yX1_goes cX1_goes 4 (some .int)) [.ref 1, .int l1] w (qI Q) xN := by
  intro h
  unfold wp_X1_goes at h
  refine Ctr.of (μ := k_X1_goes) (by decide) rfl rfl rfl (Nat.le_of_ble_eq_true rfl) ⟨2, ?_⟩
  have es : lva [.ref 1, .int l1] ++ List.replicate 2 none = [some (.ref 1), some (.int l1), none, none] := rfl
  rw [es]
  refine R.aload_n 1 dX1_goes_0 rfl rfl ?_
  refine R.iload_n 2 dX1_goes_1 rfl rfl ?_
  refine Rch.callv (sd_X1_isKind _ _ _ h) dX1_goes_2 (lw_V q745 q747 qs27 q142 q748) dk_X1_isKind rcX (by decide) (Nat.le_of_ble_eq_true rfl) rfl rfl (Nat.le_of_ble_eq_true rfl) (kI 5 rfl fun r1 w2 h => ?_) kN
  refine R.if_ne 10 8 dX1_goes_5 (by decide) rfl (fun hc => ?_) (fun hc => ?_)
  · replace h := h.1 hc
    refine R.iconst 11 dX1_goes_10 rfl ?_
    refine R.ist2n 12 dX1_goes_11 rfl (Nat.le_of_ble_eq_true rfl) rfl ?_
    refine R.iconst 13 dX1_goes_12 rfl ?_
    refine R.ist3n 14 dX1_goes_13 rfl (Nat.le_of_ble_eq_true rfl) rfl ?_
    obtain ⟨n3, h⟩ := h
    exact Rch.dropk (sl_X1_goes_14 Q _ n3 _ _ _ h) ⟨rfl, ⟨rfl, ⟨rfl, ⟨rfl, trivial⟩⟩⟩⟩
  · replace h := h.2 hc
    refine R.iconst 9 dX1_goes_8 rfl ?_
    exact R.retI dX1_goes_9 rfl h

abbrev k_X1_soonest : MK := ("FrostBox", cX1_soonest, 3, (some .int), [], "soonest")
def wl_X1_soonest_12 (Q : Int32 → Wd → Prop) (l1 : Int32) (R12 : Int32 → Wd → Prop) (l2 : Int32) (w : Wd) : Prop := ((iz 99) < l2 → Q (iz (-1)) w) ∧ (¬ (iz 99) < l2 → wp_X1_turned l1 w (fun r1 w2 => wp_X1_valueAt l1 l2 r1 w2 (fun r3 w4 => (¬ r3 = iz 0 → R12 (l2 + iz 1) w4) ∧ (r3 = iz 0 → Q l2 w4))))
def lp_X1_soonest_12 (Q : Int32 → Wd → Prop) (l1 : Int32) : Nat → Int32 → Wd → Prop
  | 0, _, _ => False
  | n + 1, l2, w => wl_X1_soonest_12 Q l1 (lp_X1_soonest_12 Q l1 n) l2 w
def wp_X1_soonest (l1 : Int32) (w : Wd) (Q : Int32 → Wd → Prop) : Prop := wp_X1_isBox l1 w (fun r1 w2 => (¬ r1 = iz 0 → ∃ n3, lp_X1_soonest_12 Q l1 n3 (iz 0) w2) ∧ (r1 = iz 0 → Q (iz (-1)) w2))
set_option maxRecDepth 100000 in
set_option maxHeartbeats 4000000 in
theorem sl_X1_soonest_12 {γ : GG} (Q : Int32 → Wd → Prop) (l1 : Int32) : ∀ (n : Nat) (l2 : Int32) (w : Wd), lp_X1_soonest_12 Q l1 n l2 w → Rch γ 96 k_X1_soonest 12 [some (.ref 1), some (.int l1), some (.int l2)] [] w (qI Q) xN := by
  intro n
  induction n with
  | zero => intro _ _ h; exact h.elim
  | succ n hR12 =>
    intro l2 w h
    have h : wl_X1_soonest_12 Q l1 (lp_X1_soonest_12 Q l1 n) l2 w := h
    unfold wl_X1_soonest_12 at h
    refine R.iload_n 13 dX1_soonest_12 rfl rfl ?_
    refine R.bipush 15 dX1_soonest_13 rfl (by decide +kernel) ?_
    refine R.icmp_gt 40 18 dX1_soonest_15 (by decide) rfl (fun hc => ?_) (fun hc => ?_)
    · replace h := h.1 hc
      refine R.iconst 41 dX1_soonest_40 rfl ?_
      exact R.retI dX1_soonest_41 rfl h
    · replace h := h.2 hc
      refine R.aload_n 19 dX1_soonest_18 rfl rfl ?_
      refine R.iload_n 20 dX1_soonest_19 rfl rfl ?_
      refine R.iload_n 21 dX1_soonest_20 rfl rfl ?_
      refine R.aload_n 22 dX1_soonest_21 rfl rfl ?_
      refine R.iload_n 23 dX1_soonest_22 rfl rfl ?_
      refine Rch.callv (sd_X1_turned _ _ _ h) dX1_soonest_23 (lw_V q789 q791 qs35 q142 q792) dk_X1_turned rcX (by decide) (Nat.le_of_ble_eq_true rfl) rfl rfl (Nat.le_of_ble_eq_true rfl) (kI 26 rfl fun r1 w2 h => ?_) kN
      refine Rch.callv (sd_X1_valueAt _ _ _ _ _ h) dX1_soonest_26 (lw_V q817 q819 qs41 q142 q820) dk_X1_valueAt rcX (by decide) (Nat.le_of_ble_eq_true rfl) rfl rfl (Nat.le_of_ble_eq_true rfl) (kI 29 rfl fun r3 w4 h => ?_) kN
      refine R.if_ne 34 32 dX1_soonest_29 (by decide) rfl (fun hc => ?_) (fun hc => ?_)
      · replace h := h.1 hc
        refine R.inc2 37 dX1_soonest_34 rfl (Nat.le_of_ble_eq_true rfl) rfl ?_
        refine R.goto 12 dX1_soonest_37 (by decide) ?_
        exact Rch.dropk (hR12 _ _ h) ⟨rfl, ⟨rfl, ⟨rfl, trivial⟩⟩⟩
      · replace h := h.2 hc
        refine R.iload_n 33 dX1_soonest_32 rfl rfl ?_
        exact R.retI dX1_soonest_33 rfl h
set_option maxRecDepth 100000 in
set_option maxHeartbeats 4000000 in
theorem sd_X1_soonest {γ : GG} (l1 : Int32) (w : Wd) (Q : Int32 → Wd → Prop) : wp_X1_soonest l1 w Q → Ctr γ 96 yX1_soonest (ws_ yX1_soonest cX1_soonest 3 (some .int)) [.ref 1, .int l1] w (qI Q) xN := by
  intro h
  unfold wp_X1_soonest at h
  refine Ctr.of (μ := k_X1_soonest) (by decide) rfl rfl rfl (Nat.le_of_ble_eq_true rfl) ⟨1, ?_⟩
  have es : lva [.ref 1, .int l1] ++ List.replicate 1 none = [some (.ref 1), some (.int l1), none] := rfl
  rw [es]
  refine R.aload_n 1 dX1_soonest_0 rfl rfl ?_
  refine R.iload_n 2 dX1_soonest_1 rfl rfl ?_
  refine Rch.callv (sd_X1_isBox _ _ _ h) dX1_soonest_2 (lw_V q805 q807 qs38 q142 q808) dk_X1_isBox rcX (by decide) (Nat.le_of_ble_eq_true rfl) rfl rfl (Nat.le_of_ble_eq_true rfl) (kI 5 rfl fun r1 w2 h => ?_) kN
  refine R.if_ne 10 8 dX1_soonest_5 (by decide) rfl (fun hc => ?_) (fun hc => ?_)
  · replace h := h.1 hc
    refine R.iconst 11 dX1_soonest_10 rfl ?_
    refine R.ist2n 12 dX1_soonest_11 rfl (Nat.le_of_ble_eq_true rfl) rfl ?_
    obtain ⟨n3, h⟩ := h
    exact Rch.dropk (sl_X1_soonest_12 Q _ n3 _ _ h) ⟨rfl, ⟨rfl, ⟨rfl, trivial⟩⟩⟩
  · replace h := h.2 hc
    refine R.iconst 9 dX1_soonest_8 rfl ?_
    exact R.retI dX1_soonest_9 rfl h

abbrev k_X1_monthly : MK := ("FrostBox", cX1_monthly, 4, (some .int), [], "monthly")
def wl_X1_monthly_23 (Q : Int32 → Wd → Prop) (l1 : Int32) (R23 : Int32 → Int32 → Wd → Prop) (l2 : Int32) (l3 : Int32) (w : Wd) : Prop := wp_X1_boxMany w (fun r1 w2 => (r1 ≤ l3 → Q l2 w2) ∧ (¬ r1 ≤ l3 → wp_X1_turned l3 w2 (fun r3 w4 => wp_X1_valueAt l3 l1 r3 w4 (fun r5 w6 => R23 (l2 + r5) (l3 + iz 1) w6))))
def lp_X1_monthly_23 (Q : Int32 → Wd → Prop) (l1 : Int32) : Nat → Int32 → Int32 → Wd → Prop
  | 0, _, _, _ => False
  | n + 1, l2, l3, w => wl_X1_monthly_23 Q l1 (lp_X1_monthly_23 Q l1 n) l2 l3 w
def wp_X1_monthly (l1 : Int32) (w : Wd) (Q : Int32 → Wd → Prop) : Prop := wp_X1_isHouse w (fun r1 w2 => (r1 = iz 0 → Q (iz (-1)) w2) ∧ (¬ r1 = iz 0 → wp_X1_in l1 (iz 0) (iz 60) w2 (fun r3 w4 => (¬ r3 = iz 0 → ∃ n5, lp_X1_monthly_23 Q l1 n5 (iz 0) (iz 0) w4) ∧ (r3 = iz 0 → Q (iz (-1)) w4))))
set_option maxRecDepth 100000 in
set_option maxHeartbeats 4000000 in
theorem sl_X1_monthly_23 {γ : GG} (Q : Int32 → Wd → Prop) (l1 : Int32) : ∀ (n : Nat) (l2 : Int32) (l3 : Int32) (w : Wd), lp_X1_monthly_23 Q l1 n l2 l3 w → Rch γ 96 k_X1_monthly 23 [some (.ref 1), some (.int l1), some (.int l2), some (.int l3)] [] w (qI Q) xN := by
  intro n
  induction n with
  | zero => intro _ _ _ h; exact h.elim
  | succ n hR23 =>
    intro l2 l3 w h
    have h : wl_X1_monthly_23 Q l1 (lp_X1_monthly_23 Q l1 n) l2 l3 w := h
    unfold wl_X1_monthly_23 at h
    refine R.iload_n 24 dX1_monthly_23 rfl rfl ?_
    refine R.aload_n 25 dX1_monthly_24 rfl rfl ?_
    refine Rch.callv (sd_X1_boxMany _ _ h) dX1_monthly_25 (lw_V q773 q775 qs31 q142 q776) dk_X1_boxMany rcX (by decide) (Nat.le_of_ble_eq_true rfl) rfl rfl (Nat.le_of_ble_eq_true rfl) (kI 28 rfl fun r1 w2 h => ?_) kN
    refine R.icmp_ge 51 31 dX1_monthly_28 (by decide) rfl (fun hc => ?_) (fun hc => ?_)
    · replace h := h.1 hc
      refine R.iload_n 52 dX1_monthly_51 rfl rfl ?_
      exact R.retI dX1_monthly_52 rfl h
    · replace h := h.2 hc
      refine R.iload_n 32 dX1_monthly_31 rfl rfl ?_
      refine R.aload_n 33 dX1_monthly_32 rfl rfl ?_
      refine R.iload_n 34 dX1_monthly_33 rfl rfl ?_
      refine R.iload_n 35 dX1_monthly_34 rfl rfl ?_
      refine R.aload_n 36 dX1_monthly_35 rfl rfl ?_
      refine R.iload_n 37 dX1_monthly_36 rfl rfl ?_
      refine Rch.callv (sd_X1_turned _ _ _ h) dX1_monthly_37 (lw_V q789 q791 qs35 q142 q792) dk_X1_turned rcX (by decide) (Nat.le_of_ble_eq_true rfl) rfl rfl (Nat.le_of_ble_eq_true rfl) (kI 40 rfl fun r3 w4 h => ?_) kN
      refine Rch.callv (sd_X1_valueAt _ _ _ _ _ h) dX1_monthly_40 (lw_V q817 q819 qs41 q142 q820) dk_X1_valueAt rcX (by decide) (Nat.le_of_ble_eq_true rfl) rfl rfl (Nat.le_of_ble_eq_true rfl) (kI 43 rfl fun r5 w6 h => ?_) kN
      refine R.iadd 44 dX1_monthly_43 rfl ?_
      refine R.ist2n 45 dX1_monthly_44 rfl (Nat.le_of_ble_eq_true rfl) rfl ?_
      refine R.inc3 48 dX1_monthly_45 rfl (Nat.le_of_ble_eq_true rfl) rfl ?_
      refine R.goto 23 dX1_monthly_48 (by decide) ?_
      exact Rch.dropk (hR23 _ _ _ h) ⟨rfl, ⟨rfl, ⟨rfl, ⟨rfl, trivial⟩⟩⟩⟩
set_option maxRecDepth 100000 in
set_option maxHeartbeats 4000000 in
theorem sd_X1_monthly {γ : GG} (l1 : Int32) (w : Wd) (Q : Int32 → Wd → Prop) : wp_X1_monthly l1 w Q → Ctr γ 96 yX1_monthly (ws_ yX1_monthly cX1_monthly 4 (some .int)) [.ref 1, .int l1] w (qI Q) xN := by
  intro h
  unfold wp_X1_monthly at h
  refine Ctr.of (μ := k_X1_monthly) (by decide) rfl rfl rfl (Nat.le_of_ble_eq_true rfl) ⟨2, ?_⟩
  have es : lva [.ref 1, .int l1] ++ List.replicate 2 none = [some (.ref 1), some (.int l1), none, none] := rfl
  rw [es]
  refine R.aload_n 1 dX1_monthly_0 rfl rfl ?_
  refine Rch.callv (sd_X1_isHouse _ _ h) dX1_monthly_1 (lw_V q737 q739 qs26 q142 q740) dk_X1_isHouse rcX (by decide) (Nat.le_of_ble_eq_true rfl) rfl rfl (Nat.le_of_ble_eq_true rfl) (kI 4 rfl fun r1 w2 h => ?_) kN
  refine R.if_eq 17 7 dX1_monthly_4 (by decide) rfl (fun hc => ?_) (fun hc => ?_)
  · replace h := h.1 hc
    refine R.iconst 18 dX1_monthly_17 rfl ?_
    exact R.retI dX1_monthly_18 rfl h
  · replace h := h.2 hc
    refine R.iload_n 8 dX1_monthly_7 rfl rfl ?_
    refine R.iconst 9 dX1_monthly_8 rfl ?_
    refine R.bipush 11 dX1_monthly_9 rfl (by decide +kernel) ?_
    refine Rch.calls (sd_X1_in _ _ _ _ _ h) dX1_monthly_11 (lw_S q700 q701 q142 q702) dk_X1_in (by decide) (Nat.le_of_ble_eq_true rfl) rfl rfl (Nat.le_of_ble_eq_true rfl) (kI 14 rfl fun r3 w4 h => ?_) kN
    refine R.if_ne 19 17 dX1_monthly_14 (by decide) rfl (fun hc => ?_) (fun hc => ?_)
    · replace h := h.1 hc
      refine R.iconst 20 dX1_monthly_19 rfl ?_
      refine R.ist2n 21 dX1_monthly_20 rfl (Nat.le_of_ble_eq_true rfl) rfl ?_
      refine R.iconst 22 dX1_monthly_21 rfl ?_
      refine R.ist3n 23 dX1_monthly_22 rfl (Nat.le_of_ble_eq_true rfl) rfl ?_
      obtain ⟨n5, h⟩ := h
      exact Rch.dropk (sl_X1_monthly_23 Q _ n5 _ _ _ h) ⟨rfl, ⟨rfl, ⟨rfl, ⟨rfl, trivial⟩⟩⟩⟩
    · replace h := h.2 hc
      refine R.iconst 18 dX1_monthly_17 rfl ?_
      exact R.retI dX1_monthly_18 rfl h

abbrev k_X1_make : MK := ("FrostBox", cX1_make, 3, (some .int), [], "make")
def wp_X1_make (l1 : Int32) (l2 : Int32) (w : Wd) (Q : Int32 → Wd → Prop) : Prop := wp_X1_isKind l1 w (fun r1 w2 => (r1 = iz 0 → Q (iz (-1)) w2) ∧ (¬ r1 = iz 0 → wp_X1_in l2 (iz 1) (iz 81) w2 (fun r3 w4 => (r3 = iz 0 → Q (iz (-1)) w4) ∧ (¬ r3 = iz 0 → wp_X1_ofKind l1 (iz 1) w4 (fun r5 w6 => (¬ r5 = 0) ∧ (¬ (l2 - l2 / r5 * r5) = iz 0 → Q (iz (-1)) w6) ∧ ((l2 - l2 / r5 * r5) = iz 0 → wp_X1_ofKind l1 (iz 1) w6 (fun r7 w8 => (¬ r7 = 0) ∧ ((l2 / r7) ≤ (iz 9) → wp_X1_ofKind l1 (iz 1) w8 (fun r9 w10 => (¬ r9 = 0) ∧ Q (l2 / r9) w10)) ∧ (¬ (l2 / r7) ≤ (iz 9) → Q (iz (-1)) w8))))))))
set_option maxRecDepth 100000 in
set_option maxHeartbeats 4000000 in
theorem sd_X1_make {γ : GG} (l1 : Int32) (l2 : Int32) (w : Wd) (Q : Int32 → Wd → Prop) : wp_X1_make l1 l2 w Q → Ctr γ 3 yX1_make (ws_ yX1_make cX1_make 3 (some .int)) [.ref 1, .int l1, .int l2] w (qI Q) xN := by
  intro h
  unfold wp_X1_make at h
  refine Ctr.of (μ := k_X1_make) (by decide) rfl rfl rfl (Nat.le_of_ble_eq_true rfl) ⟨0, ?_⟩
  have es : lva [.ref 1, .int l1, .int l2] ++ List.replicate 0 none = [some (.ref 1), some (.int l1), some (.int l2)] := rfl
  rw [es]
  refine R.aload_n 1 dX1_make_0 rfl rfl ?_
  refine R.iload_n 2 dX1_make_1 rfl rfl ?_
  refine Rch.callv (sd_X1_isKind _ _ _ h) dX1_make_2 (lw_V q745 q747 qs27 q142 q748) dk_X1_isKind rcX (by decide) (Nat.le_of_ble_eq_true rfl) rfl rfl (Nat.le_of_ble_eq_true rfl) (kI 5 rfl fun r1 w2 h => ?_) kN
  refine R.if_eq 42 8 dX1_make_5 (by decide) rfl (fun hc => ?_) (fun hc => ?_)
  · replace h := h.1 hc
    refine R.iconst 43 dX1_make_42 rfl ?_
    exact R.retI dX1_make_43 rfl h
  · replace h := h.2 hc
    refine R.iload_n 9 dX1_make_8 rfl rfl ?_
    refine R.iconst 10 dX1_make_9 rfl ?_
    refine R.bipush 12 dX1_make_10 rfl (by decide +kernel) ?_
    refine Rch.calls (sd_X1_in _ _ _ _ _ h) dX1_make_12 (lw_S q700 q701 q142 q702) dk_X1_in (by decide) (Nat.le_of_ble_eq_true rfl) rfl rfl (Nat.le_of_ble_eq_true rfl) (kI 15 rfl fun r3 w4 h => ?_) kN
    refine R.if_eq 42 18 dX1_make_15 (by decide) rfl (fun hc => ?_) (fun hc => ?_)
    · replace h := h.1 hc
      refine R.iconst 43 dX1_make_42 rfl ?_
      exact R.retI dX1_make_43 rfl h
    · replace h := h.2 hc
      refine R.iload_n 19 dX1_make_18 rfl rfl ?_
      refine R.aload_n 20 dX1_make_19 rfl rfl ?_
      refine R.iload_n 21 dX1_make_20 rfl rfl ?_
      refine R.iconst 22 dX1_make_21 rfl ?_
      refine Rch.callv (sd_X1_ofKind _ _ _ _ h) dX1_make_22 (lw_V q753 q755 qs29 q142 q756) dk_X1_ofKind rcX (by decide) (Nat.le_of_ble_eq_true rfl) rfl rfl (Nat.le_of_ble_eq_true rfl) (kI 25 rfl fun r5 w6 h => ?_) kN
      obtain ⟨hz, h⟩ := h
      refine R.irem 26 dX1_make_25 rfl hz ?_
      refine R.if_ne 42 29 dX1_make_26 (by decide) rfl (fun hc => ?_) (fun hc => ?_)
      · replace h := h.1 hc
        refine R.iconst 43 dX1_make_42 rfl ?_
        exact R.retI dX1_make_43 rfl h
      · replace h := h.2 hc
        refine R.iload_n 30 dX1_make_29 rfl rfl ?_
        refine R.aload_n 31 dX1_make_30 rfl rfl ?_
        refine R.iload_n 32 dX1_make_31 rfl rfl ?_
        refine R.iconst 33 dX1_make_32 rfl ?_
        refine Rch.callv (sd_X1_ofKind _ _ _ _ h) dX1_make_33 (lw_V q753 q755 qs29 q142 q756) dk_X1_ofKind rcX (by decide) (Nat.le_of_ble_eq_true rfl) rfl rfl (Nat.le_of_ble_eq_true rfl) (kI 36 rfl fun r7 w8 h => ?_) kN
        obtain ⟨hz, h⟩ := h
        refine R.idiv 37 dX1_make_36 rfl hz ?_
        refine R.bipush 39 dX1_make_37 rfl (by decide +kernel) ?_
        refine R.icmp_le 44 42 dX1_make_39 (by decide) rfl (fun hc => ?_) (fun hc => ?_)
        · replace h := h.1 hc
          refine R.iload_n 45 dX1_make_44 rfl rfl ?_
          refine R.aload_n 46 dX1_make_45 rfl rfl ?_
          refine R.iload_n 47 dX1_make_46 rfl rfl ?_
          refine R.iconst 48 dX1_make_47 rfl ?_
          refine Rch.callv (sd_X1_ofKind _ _ _ _ h) dX1_make_48 (lw_V q753 q755 qs29 q142 q756) dk_X1_ofKind rcX (by decide) (Nat.le_of_ble_eq_true rfl) rfl rfl (Nat.le_of_ble_eq_true rfl) (kI 51 rfl fun r9 w10 h => ?_) kN
          obtain ⟨hz, h⟩ := h
          refine R.idiv 52 dX1_make_51 rfl hz ?_
          exact R.retI dX1_make_52 rfl h
        · replace h := h.2 hc
          refine R.iconst 43 dX1_make_42 rfl ?_
          exact R.retI dX1_make_43 rfl h

abbrev k_X1_image : MK := ("FrostBox", cX1_image, 2, (some .int), [], "image")
def wl_X1_image_11 (Q : Int32 → Wd → Prop) (R11 : Int32 → Wd → Prop) (l1 : Int32) (w : Wd) : Prop := ((iz 275) ≤ l1 → ∀ w1, w1 = sI w 51 (iz 1) → inb (iz 33) 275 ∧ Q (gA w1 31 (iz 33).toInt) w1) ∧ (¬ (iz 275) ≤ l1 → inb l1 275 ∧ inb l1 275 ∧ (∀ w2, w2 = sA w 50 l1.toInt (gA w 31 l1.toInt) → R11 (l1 + iz 1) w2))
def lp_X1_image_11 (Q : Int32 → Wd → Prop) : Nat → Int32 → Wd → Prop
  | 0, _, _ => False
  | n + 1, l1, w => wl_X1_image_11 Q (lp_X1_image_11 Q n) l1 w
def wp_X1_image (w : Wd) (Q : Int32 → Wd → Prop) : Prop := wp_X1_isHouse w (fun r1 w2 => (¬ r1 = iz 0 → ∃ n3, lp_X1_image_11 Q n3 (iz 0) w2) ∧ (r1 = iz 0 → Q (iz (-1)) w2))
set_option maxRecDepth 100000 in
set_option maxHeartbeats 4000000 in
theorem sl_X1_image_11 {γ : GG} (Q : Int32 → Wd → Prop) : ∀ (n : Nat) (l1 : Int32) (w : Wd), lp_X1_image_11 Q n l1 w → Rch γ 2 k_X1_image 11 [some (.ref 1), some (.int l1)] [] w (qI Q) xN := by
  intro n
  induction n with
  | zero => intro _ _ h; exact h.elim
  | succ n hR11 =>
    intro l1 w h
    have h : wl_X1_image_11 Q (lp_X1_image_11 Q n) l1 w := h
    unfold wl_X1_image_11 at h
    refine R.iload_n 12 dX1_image_11 rfl rfl ?_
    refine R.sipush 15 dX1_image_12 rfl (by decide +kernel) ?_
    refine R.icmp_ge 36 18 dX1_image_15 (by decide) rfl (fun hc => ?_) (fun hc => ?_)
    · replace h := h.1 hc
      refine R.aload_n 37 dX1_image_36 rfl rfl ?_
      refine R.iconst 38 dX1_image_37 rfl ?_
      replace h := h _ rfl
      refine pf_51 _ 41 dX1_image_38 rfl rfl zok1 ?_
      refine R.aload_n 42 dX1_image_41 rfl rfl ?_
      refine gf_31 45 dX1_image_42 rfl rfl ?_
      refine R.bipush 47 dX1_image_45 rfl (by decide +kernel) ?_
      obtain ⟨hb, h⟩ := h
      refine R.iald ar_31 48 dX1_image_47 rfl hb ?_
      exact R.retI dX1_image_48 rfl h
    · replace h := h.2 hc
      refine R.aload_n 19 dX1_image_18 rfl rfl ?_
      refine gf_50 22 dX1_image_19 rfl rfl ?_
      refine R.iload_n 23 dX1_image_22 rfl rfl ?_
      refine R.aload_n 24 dX1_image_23 rfl rfl ?_
      refine gf_31 27 dX1_image_24 rfl rfl ?_
      refine R.iload_n 28 dX1_image_27 rfl rfl ?_
      obtain ⟨hb, h⟩ := h
      refine R.iald ar_31 29 dX1_image_28 rfl hb ?_
      obtain ⟨hb, h⟩ := h
      replace h := h _ rfl
      refine R.iast ar_50 30 dX1_image_29 rfl hb ?_
      refine R.inc1 33 dX1_image_30 rfl (Nat.le_of_ble_eq_true rfl) rfl ?_
      refine R.goto 11 dX1_image_33 (by decide) ?_
      exact Rch.dropk (hR11 _ _ h) ⟨rfl, ⟨rfl, trivial⟩⟩
set_option maxRecDepth 100000 in
set_option maxHeartbeats 4000000 in
theorem sd_X1_image {γ : GG} (w : Wd) (Q : Int32 → Wd → Prop) : wp_X1_image w Q → Ctr γ 2 yX1_image (ws_ yX1_image cX1_image 2 (some .int)) [.ref 1] w (qI Q) xN := by
  intro h
  unfold wp_X1_image at h
  refine Ctr.of (μ := k_X1_image) (by decide) rfl rfl rfl (Nat.le_of_ble_eq_true rfl) ⟨1, ?_⟩
  have es : lva [.ref 1] ++ List.replicate 1 none = [some (.ref 1), none] := rfl
  rw [es]
  refine R.aload_n 1 dX1_image_0 rfl rfl ?_
  refine Rch.callv (sd_X1_isHouse _ _ h) dX1_image_1 (lw_V q737 q739 qs26 q142 q740) dk_X1_isHouse rcX (by decide) (Nat.le_of_ble_eq_true rfl) rfl rfl (Nat.le_of_ble_eq_true rfl) (kI 4 rfl fun r1 w2 h => ?_) kN
  refine R.if_ne 9 7 dX1_image_4 (by decide) rfl (fun hc => ?_) (fun hc => ?_)
  · replace h := h.1 hc
    refine R.iconst 10 dX1_image_9 rfl ?_
    refine R.ist1n 11 dX1_image_10 rfl (Nat.le_of_ble_eq_true rfl) rfl ?_
    obtain ⟨n3, h⟩ := h
    exact Rch.dropk (sl_X1_image_11 Q n3 _ _ h) ⟨rfl, ⟨rfl, trivial⟩⟩
  · replace h := h.2 hc
    refine R.iconst 8 dX1_image_7 rfl ?_
    exact R.retI dX1_image_8 rfl h

abbrev k_X1_back : MK := ("FrostBox", cX1_back, 2, (some .int), [], "back")
def wl_X1_back_11 (Q : Int32 → Wd → Prop) (R11 : Int32 → Wd → Prop) (l1 : Int32) (w : Wd) : Prop := ((iz 275) ≤ l1 → ∀ w1, w1 = sI w 33 (iz 0) → inb (iz 33) 275 ∧ Q (gA w1 31 (iz 33).toInt) w1) ∧ (¬ (iz 275) ≤ l1 → inb l1 275 ∧ inb l1 275 ∧ (∀ w2, w2 = sA w 31 l1.toInt (gA w 50 l1.toInt) → R11 (l1 + iz 1) w2))
def lp_X1_back_11 (Q : Int32 → Wd → Prop) : Nat → Int32 → Wd → Prop
  | 0, _, _ => False
  | n + 1, l1, w => wl_X1_back_11 Q (lp_X1_back_11 Q n) l1 w
def wp_X1_back (w : Wd) (Q : Int32 → Wd → Prop) : Prop := (¬ (gI w 51) = iz 0 → ∃ n1, lp_X1_back_11 Q n1 (iz 0) w) ∧ ((gI w 51) = iz 0 → Q (iz (-1)) w)
set_option maxRecDepth 100000 in
set_option maxHeartbeats 4000000 in
theorem sl_X1_back_11 {γ : GG} (Q : Int32 → Wd → Prop) : ∀ (n : Nat) (l1 : Int32) (w : Wd), lp_X1_back_11 Q n l1 w → Rch γ 1 k_X1_back 11 [some (.ref 1), some (.int l1)] [] w (qI Q) xN := by
  intro n
  induction n with
  | zero => intro _ _ h; exact h.elim
  | succ n hR11 =>
    intro l1 w h
    have h : wl_X1_back_11 Q (lp_X1_back_11 Q n) l1 w := h
    unfold wl_X1_back_11 at h
    refine R.iload_n 12 dX1_back_11 rfl rfl ?_
    refine R.sipush 15 dX1_back_12 rfl (by decide +kernel) ?_
    refine R.icmp_ge 36 18 dX1_back_15 (by decide) rfl (fun hc => ?_) (fun hc => ?_)
    · replace h := h.1 hc
      refine R.aload_n 37 dX1_back_36 rfl rfl ?_
      refine R.iconst 38 dX1_back_37 rfl ?_
      replace h := h _ rfl
      refine pf_33 _ 41 dX1_back_38 rfl rfl ?_
      refine R.aload_n 42 dX1_back_41 rfl rfl ?_
      refine gf_31 45 dX1_back_42 rfl rfl ?_
      refine R.bipush 47 dX1_back_45 rfl (by decide +kernel) ?_
      obtain ⟨hb, h⟩ := h
      refine R.iald ar_31 48 dX1_back_47 rfl hb ?_
      exact R.retI dX1_back_48 rfl h
    · replace h := h.2 hc
      refine R.aload_n 19 dX1_back_18 rfl rfl ?_
      refine gf_31 22 dX1_back_19 rfl rfl ?_
      refine R.iload_n 23 dX1_back_22 rfl rfl ?_
      refine R.aload_n 24 dX1_back_23 rfl rfl ?_
      refine gf_50 27 dX1_back_24 rfl rfl ?_
      refine R.iload_n 28 dX1_back_27 rfl rfl ?_
      obtain ⟨hb, h⟩ := h
      refine R.iald ar_50 29 dX1_back_28 rfl hb ?_
      obtain ⟨hb, h⟩ := h
      replace h := h _ rfl
      refine R.iast ar_31 30 dX1_back_29 rfl hb ?_
      refine R.inc1 33 dX1_back_30 rfl (Nat.le_of_ble_eq_true rfl) rfl ?_
      refine R.goto 11 dX1_back_33 (by decide) ?_
      exact Rch.dropk (hR11 _ _ h) ⟨rfl, ⟨rfl, trivial⟩⟩
set_option maxRecDepth 100000 in
set_option maxHeartbeats 4000000 in
theorem sd_X1_back {γ : GG} (w : Wd) (Q : Int32 → Wd → Prop) : wp_X1_back w Q → Ctr γ 1 yX1_back (ws_ yX1_back cX1_back 2 (some .int)) [.ref 1] w (qI Q) xN := by
  intro h
  unfold wp_X1_back at h
  refine Ctr.of (μ := k_X1_back) (by decide) rfl rfl rfl (Nat.le_of_ble_eq_true rfl) ⟨1, ?_⟩
  have es : lva [.ref 1] ++ List.replicate 1 none = [some (.ref 1), none] := rfl
  rw [es]
  refine R.aload_n 1 dX1_back_0 rfl rfl ?_
  refine gf_51 4 dX1_back_1 rfl rfl ?_
  refine R.if_ne 9 7 dX1_back_4 (by decide) rfl (fun hc => ?_) (fun hc => ?_)
  · replace h := h.1 hc
    refine R.iconst 10 dX1_back_9 rfl ?_
    refine R.ist1n 11 dX1_back_10 rfl (Nat.le_of_ble_eq_true rfl) rfl ?_
    obtain ⟨n1, h⟩ := h
    exact Rch.dropk (sl_X1_back_11 Q n1 _ _ h) ⟨rfl, ⟨rfl, trivial⟩⟩
  · replace h := h.2 hc
    refine R.iconst 8 dX1_back_7 rfl ?_
    exact R.retI dX1_back_8 rfl h

abbrev k_X1_eatenAll : MK := ("FrostBox", cX1_eatenAll, 3, (some .int), [], "eatenAll")
def wl_X1_eatenAll_4 (Q : Int32 → Wd → Prop) (R4 : Int32 → Int32 → Wd → Prop) (l1 : Int32) (l2 : Int32) (w : Wd) : Prop := inb (iz 34) 275 ∧ ((gA w 31 (iz 34).toInt) ≤ l2 → Q l1 w) ∧ (¬ (gA w 31 (iz 34).toInt) ≤ l2 → inb (((iz 35) + ((iz 4) * l2)) + (iz 3)) 275 ∧ R4 (l1 + (gA w 31 (((iz 35) + ((iz 4) * l2)) + (iz 3)).toInt)) (l2 + iz 1) w)
def lp_X1_eatenAll_4 (Q : Int32 → Wd → Prop) : Nat → Int32 → Int32 → Wd → Prop
  | 0, _, _, _ => False
  | n + 1, l1, l2, w => wl_X1_eatenAll_4 Q (lp_X1_eatenAll_4 Q n) l1 l2 w
def wp_X1_eatenAll (w : Wd) (Q : Int32 → Wd → Prop) : Prop := ∃ n1, lp_X1_eatenAll_4 Q n1 (iz 0) (iz 0) w
set_option maxRecDepth 100000 in
set_option maxHeartbeats 4000000 in
theorem sl_X1_eatenAll_4 {γ : GG} (Q : Int32 → Wd → Prop) : ∀ (n : Nat) (l1 : Int32) (l2 : Int32) (w : Wd), lp_X1_eatenAll_4 Q n l1 l2 w → Rch γ 1 k_X1_eatenAll 4 [some (.ref 1), some (.int l1), some (.int l2)] [] w (qI Q) xN := by
  intro n
  induction n with
  | zero => intro _ _ _ h; exact h.elim
  | succ n hR4 =>
    intro l1 l2 w h
    have h : wl_X1_eatenAll_4 Q (lp_X1_eatenAll_4 Q n) l1 l2 w := h
    unfold wl_X1_eatenAll_4 at h
    refine R.iload_n 5 dX1_eatenAll_4 rfl rfl ?_
    refine R.aload_n 6 dX1_eatenAll_5 rfl rfl ?_
    refine gf_31 9 dX1_eatenAll_6 rfl rfl ?_
    refine R.bipush 11 dX1_eatenAll_9 rfl (by decide +kernel) ?_
    obtain ⟨hb, h⟩ := h
    refine R.iald ar_31 12 dX1_eatenAll_11 rfl hb ?_
    refine R.icmp_ge 37 15 dX1_eatenAll_12 (by decide) rfl (fun hc => ?_) (fun hc => ?_)
    · replace h := h.1 hc
      refine R.iload_n 38 dX1_eatenAll_37 rfl rfl ?_
      exact R.retI dX1_eatenAll_38 rfl h
    · replace h := h.2 hc
      refine R.iload_n 16 dX1_eatenAll_15 rfl rfl ?_
      refine R.aload_n 17 dX1_eatenAll_16 rfl rfl ?_
      refine gf_31 20 dX1_eatenAll_17 rfl rfl ?_
      refine R.bipush 22 dX1_eatenAll_20 rfl (by decide +kernel) ?_
      refine R.iconst 23 dX1_eatenAll_22 rfl ?_
      refine R.iload_n 24 dX1_eatenAll_23 rfl rfl ?_
      refine R.imul 25 dX1_eatenAll_24 rfl ?_
      refine R.iadd 26 dX1_eatenAll_25 rfl ?_
      refine R.iconst 27 dX1_eatenAll_26 rfl ?_
      refine R.iadd 28 dX1_eatenAll_27 rfl ?_
      obtain ⟨hb, h⟩ := h
      refine R.iald ar_31 29 dX1_eatenAll_28 rfl hb ?_
      refine R.iadd 30 dX1_eatenAll_29 rfl ?_
      refine R.ist1n 31 dX1_eatenAll_30 rfl (Nat.le_of_ble_eq_true rfl) rfl ?_
      refine R.inc2 34 dX1_eatenAll_31 rfl (Nat.le_of_ble_eq_true rfl) rfl ?_
      refine R.goto 4 dX1_eatenAll_34 (by decide) ?_
      exact Rch.dropk (hR4 _ _ _ h) ⟨rfl, ⟨rfl, ⟨rfl, trivial⟩⟩⟩
set_option maxRecDepth 100000 in
set_option maxHeartbeats 4000000 in
theorem sd_X1_eatenAll {γ : GG} (w : Wd) (Q : Int32 → Wd → Prop) : wp_X1_eatenAll w Q → Ctr γ 1 yX1_eatenAll (ws_ yX1_eatenAll cX1_eatenAll 3 (some .int)) [.ref 1] w (qI Q) xN := by
  intro h
  unfold wp_X1_eatenAll at h
  refine Ctr.of (μ := k_X1_eatenAll) (by decide) rfl rfl rfl (Nat.le_of_ble_eq_true rfl) ⟨2, ?_⟩
  have es : lva [.ref 1] ++ List.replicate 2 none = [some (.ref 1), none, none] := rfl
  rw [es]
  refine R.iconst 1 dX1_eatenAll_0 rfl ?_
  refine R.ist1n 2 dX1_eatenAll_1 rfl (Nat.le_of_ble_eq_true rfl) rfl ?_
  refine R.iconst 3 dX1_eatenAll_2 rfl ?_
  refine R.ist2n 4 dX1_eatenAll_3 rfl (Nat.le_of_ble_eq_true rfl) rfl ?_
  obtain ⟨n1, h⟩ := h
  exact Rch.dropk (sl_X1_eatenAll_4 Q n1 _ _ _ h) ⟨rfl, ⟨rfl, ⟨rfl, trivial⟩⟩⟩

abbrev k_X1_count : MK := ("FrostBox", cX1_count, 2, (some .int), [], "count")
def wp_X1_count (l1 : Int32) (w : Wd) (Q : Int32 → Wd → Prop) : Prop := (l1.toInt = 0 → Q (gI w 23) w) ∧ (l1.toInt = 1 → wp_X1_boxMany w (fun r1 w2 => Q r1 w2)) ∧ (l1.toInt = 2 → Q (gI w 28) w) ∧ (l1.toInt = 3 → Q (gI w 26) w) ∧ (l1.toInt = 4 → Q (gI w 12) w) ∧ (l1.toInt = 5 → Q (gI w 29) w) ∧ (l1.toInt = 6 → inb (iz 33) 275 ∧ Q (gA w 31 (iz 33).toInt) w) ∧ (l1.toInt = 7 → wp_X1_portionsAll w (fun r3 w4 => Q r3 w4)) ∧ (l1.toInt = 8 → wp_X1_valueAll w (fun r5 w6 => Q r5 w6)) ∧ (l1.toInt = 9 → Q (gI w 30) w) ∧ (l1.toInt = 10 → Q (gI w 39) w) ∧ (l1.toInt = 11 → Q (gI w 43) w) ∧ (l1.toInt = 12 → wp_X1_eatenAll w (fun r7 w8 => Q r7 w8)) ∧ (l1.toInt = 13 → inb (iz 34) 275 ∧ Q (gA w 31 (iz 34).toInt) w) ∧ (l1.toInt = 14 → Q (gI w 33) w) ∧ (l1.toInt < 0 ∨ 14 < l1.toInt → Q (iz (-1000000)) w)
set_option maxRecDepth 100000 in
set_option maxHeartbeats 4000000 in
theorem sd_X1_count {γ : GG} (l1 : Int32) (w : Wd) (Q : Int32 → Wd → Prop) : wp_X1_count l1 w Q → Ctr γ 98 yX1_count (ws_ yX1_count cX1_count 2 (some .int)) [.ref 1, .int l1] w (qI Q) xN := by
  intro h
  unfold wp_X1_count at h
  refine Ctr.of (μ := k_X1_count) (by decide) rfl rfl rfl (Nat.le_of_ble_eq_true rfl) ⟨0, ?_⟩
  have es : lva [.ref 1, .int l1] ++ List.replicate 0 none = [some (.ref 1), some (.int l1)] := rfl
  rw [es]
  refine R.iload_n 1 dX1_count_0 rfl rfl ?_
  by_cases c0 : l1.toInt = 0
  · replace h := h.1 c0
    refine R.tswIn 0 76 dX1_count_1 c0 (by decide) (by decide) rfl (by decide) ?_
    refine R.aload_n 77 dX1_count_76 rfl rfl ?_
    refine gf_23 80 dX1_count_77 rfl rfl ?_
    exact R.retI dX1_count_80 rfl h
  replace h := h.2
  by_cases c1 : l1.toInt = 1
  · replace h := h.1 c1
    refine R.tswIn 1 81 dX1_count_1 c1 (by decide) (by decide) rfl (by decide) ?_
    refine R.aload_n 82 dX1_count_81 rfl rfl ?_
    refine Rch.callv (sd_X1_boxMany _ _ h) dX1_count_82 (lw_V q773 q775 qs31 q142 q776) dk_X1_boxMany rcX (by decide) (Nat.le_of_ble_eq_true rfl) rfl rfl (Nat.le_of_ble_eq_true rfl) (kI 85 rfl fun r1 w2 h => ?_) kN
    exact R.retI dX1_count_85 rfl h
  replace h := h.2
  by_cases c2 : l1.toInt = 2
  · replace h := h.1 c2
    refine R.tswIn 2 86 dX1_count_1 c2 (by decide) (by decide) rfl (by decide) ?_
    refine R.aload_n 87 dX1_count_86 rfl rfl ?_
    refine gf_28 90 dX1_count_87 rfl rfl ?_
    exact R.retI dX1_count_90 rfl h
  replace h := h.2
  by_cases c3 : l1.toInt = 3
  · replace h := h.1 c3
    refine R.tswIn 3 91 dX1_count_1 c3 (by decide) (by decide) rfl (by decide) ?_
    refine R.aload_n 92 dX1_count_91 rfl rfl ?_
    refine gf_26 95 dX1_count_92 rfl rfl ?_
    exact R.retI dX1_count_95 rfl h
  replace h := h.2
  by_cases c4 : l1.toInt = 4
  · replace h := h.1 c4
    refine R.tswIn 4 96 dX1_count_1 c4 (by decide) (by decide) rfl (by decide) ?_
    refine R.aload_n 97 dX1_count_96 rfl rfl ?_
    refine gf_12 100 dX1_count_97 rfl rfl ?_
    exact R.retI dX1_count_100 rfl h
  replace h := h.2
  by_cases c5 : l1.toInt = 5
  · replace h := h.1 c5
    refine R.tswIn 5 101 dX1_count_1 c5 (by decide) (by decide) rfl (by decide) ?_
    refine R.aload_n 102 dX1_count_101 rfl rfl ?_
    refine gf_29 105 dX1_count_102 rfl rfl ?_
    exact R.retI dX1_count_105 rfl h
  replace h := h.2
  by_cases c6 : l1.toInt = 6
  · replace h := h.1 c6
    refine R.tswIn 6 106 dX1_count_1 c6 (by decide) (by decide) rfl (by decide) ?_
    refine R.aload_n 107 dX1_count_106 rfl rfl ?_
    refine gf_31 110 dX1_count_107 rfl rfl ?_
    refine R.bipush 112 dX1_count_110 rfl (by decide +kernel) ?_
    obtain ⟨hb, h⟩ := h
    refine R.iald ar_31 113 dX1_count_112 rfl hb ?_
    exact R.retI dX1_count_113 rfl h
  replace h := h.2
  by_cases c7 : l1.toInt = 7
  · replace h := h.1 c7
    refine R.tswIn 7 114 dX1_count_1 c7 (by decide) (by decide) rfl (by decide) ?_
    refine R.aload_n 115 dX1_count_114 rfl rfl ?_
    refine Rch.callv (sd_X1_portionsAll _ _ h) dX1_count_115 (lw_V q777 q779 qs32 q142 q780) dk_X1_portionsAll rcX (by decide) (Nat.le_of_ble_eq_true rfl) rfl rfl (Nat.le_of_ble_eq_true rfl) (kI 118 rfl fun r3 w4 h => ?_) kN
    exact R.retI dX1_count_118 rfl h
  replace h := h.2
  by_cases c8 : l1.toInt = 8
  · replace h := h.1 c8
    refine R.tswIn 8 119 dX1_count_1 c8 (by decide) (by decide) rfl (by decide) ?_
    refine R.aload_n 120 dX1_count_119 rfl rfl ?_
    refine Rch.callv (sd_X1_valueAll _ _ h) dX1_count_120 (lw_V q1053 q1055 qs67 q142 q1056) dk_X1_valueAll rcX (by decide) (Nat.le_of_ble_eq_true rfl) rfl rfl (Nat.le_of_ble_eq_true rfl) (kI 123 rfl fun r5 w6 h => ?_) kN
    exact R.retI dX1_count_123 rfl h
  replace h := h.2
  by_cases c9 : l1.toInt = 9
  · replace h := h.1 c9
    refine R.tswIn 9 124 dX1_count_1 c9 (by decide) (by decide) rfl (by decide) ?_
    refine R.aload_n 125 dX1_count_124 rfl rfl ?_
    refine gf_30 128 dX1_count_125 rfl rfl ?_
    exact R.retI dX1_count_128 rfl h
  replace h := h.2
  by_cases c10 : l1.toInt = 10
  · replace h := h.1 c10
    refine R.tswIn 10 129 dX1_count_1 c10 (by decide) (by decide) rfl (by decide) ?_
    refine R.aload_n 130 dX1_count_129 rfl rfl ?_
    refine gf_39 133 dX1_count_130 rfl rfl ?_
    exact R.retI dX1_count_133 rfl h
  replace h := h.2
  by_cases c11 : l1.toInt = 11
  · replace h := h.1 c11
    refine R.tswIn 11 134 dX1_count_1 c11 (by decide) (by decide) rfl (by decide) ?_
    refine R.aload_n 135 dX1_count_134 rfl rfl ?_
    refine gf_43 138 dX1_count_135 rfl rfl ?_
    exact R.retI dX1_count_138 rfl h
  replace h := h.2
  by_cases c12 : l1.toInt = 12
  · replace h := h.1 c12
    refine R.tswIn 12 139 dX1_count_1 c12 (by decide) (by decide) rfl (by decide) ?_
    refine R.aload_n 140 dX1_count_139 rfl rfl ?_
    refine Rch.callv (sd_X1_eatenAll _ _ h) dX1_count_140 (lw_V q1192 q1194 qs78 q142 q1195) dk_X1_eatenAll rcX (by decide) (Nat.le_of_ble_eq_true rfl) rfl rfl (Nat.le_of_ble_eq_true rfl) (kI 143 rfl fun r7 w8 h => ?_) kN
    exact R.retI dX1_count_143 rfl h
  replace h := h.2
  by_cases c13 : l1.toInt = 13
  · replace h := h.1 c13
    refine R.tswIn 13 144 dX1_count_1 c13 (by decide) (by decide) rfl (by decide) ?_
    refine R.aload_n 145 dX1_count_144 rfl rfl ?_
    refine gf_31 148 dX1_count_145 rfl rfl ?_
    refine R.bipush 150 dX1_count_148 rfl (by decide +kernel) ?_
    obtain ⟨hb, h⟩ := h
    refine R.iald ar_31 151 dX1_count_150 rfl hb ?_
    exact R.retI dX1_count_151 rfl h
  replace h := h.2
  by_cases c14 : l1.toInt = 14
  · replace h := h.1 c14
    refine R.tswIn 14 152 dX1_count_1 c14 (by decide) (by decide) rfl (by decide) ?_
    refine R.aload_n 153 dX1_count_152 rfl rfl ?_
    refine gf_33 156 dX1_count_153 rfl rfl ?_
    exact R.retI dX1_count_156 rfl h
  replace h := h.2
  have cd : l1.toInt < 0 ∨ 14 < l1.toInt := by omega
  replace h := h cd
  refine R.tswOut 157 dX1_count_1 cd (by decide) ?_
  refine R.ldcw (n := (-1000000)) 160 dX1_count_157 rfl q970 (by decide +kernel) ?_
  exact R.retI dX1_count_160 rfl h
