set_option maxRecDepth 100000

abbrev k_X1_isMeal : MK := ("FrostBox", cX1_isMeal, 4, (some .boolean), [], "isMeal")
def wl_X1_isMeal_12 (Q : Int32 → Wd → Prop) (R2 : Int32 → Wd → Prop) (l1 : Int32) (l2 : Int32) (R12 : Int32 → Wd → Prop) (l3 : Int32) (w : Wd) : Prop := (l2 ≤ l3 → R2 (l2 + iz 1) w) ∧ (¬ l2 ≤ l3 → wp_X1_has l1 l2 w (fun r1 w2 => (r1 = iz 0 → R12 (l3 + iz 1) w2) ∧ (¬ r1 = iz 0 → wp_X1_has l1 l3 w2 (fun r3 w4 => (r3 = iz 0 → R12 (l3 + iz 1) w4) ∧ (¬ r3 = iz 0 → wp_X1_of l2 (iz 0) w4 (fun r5 w6 => wp_X1_of l3 (iz 0) w6 (fun r7 w8 => wp_X1_isWith r5 r7 w8 (fun r9 w10 => (¬ r9 = iz 0 → R12 (l3 + iz 1) w10) ∧ (r9 = iz 0 → Q (iz 0) w10)))))))))
def lp_X1_isMeal_12 (Q : Int32 → Wd → Prop) (R2 : Int32 → Wd → Prop) (l1 : Int32) (l2 : Int32) : Nat → Int32 → Wd → Prop
  | 0, _, _ => False
  | n + 1, l3, w => wl_X1_isMeal_12 Q R2 l1 l2 (lp_X1_isMeal_12 Q R2 l1 l2 n) l3 w
def wl_X1_isMeal_2 (Q : Int32 → Wd → Prop) (l1 : Int32) (R2 : Int32 → Wd → Prop) (l2 : Int32) (w : Wd) : Prop := wp_X1_boxMany w (fun r1 w2 => (r1 ≤ l2 → Q (iz 1) w2) ∧ (¬ r1 ≤ l2 → ∃ n3, lp_X1_isMeal_12 Q R2 l1 l2 n3 (iz 0) w2))
def lp_X1_isMeal_2 (Q : Int32 → Wd → Prop) (l1 : Int32) : Nat → Int32 → Wd → Prop
  | 0, _, _ => False
  | n + 1, l2, w => wl_X1_isMeal_2 Q l1 (lp_X1_isMeal_2 Q l1 n) l2 w
def wp_X1_isMeal (l1 : Int32) (w : Wd) (Q : Int32 → Wd → Prop) : Prop := ∃ n1, lp_X1_isMeal_2 Q l1 n1 (iz 0) w
set_option maxRecDepth 100000 in
set_option maxHeartbeats 4000000 in
theorem sl_X1_isMeal_12 {γ : GG} (Q : Int32 → Wd → Prop) (R2 : Int32 → Wd → Prop) (l1 : Int32) (l2 : Int32) (hR2 : ∀ (l2 : Int32) (w : Wd), R2 l2 w → Rch γ 4 k_X1_isMeal 2 [some (.ref 1), some (.int l1), some (.int l2), none] [] w (qI Q) xN) : ∀ (n : Nat) (l3 : Int32) (w : Wd), lp_X1_isMeal_12 Q R2 l1 l2 n l3 w → Rch γ 4 k_X1_isMeal 12 [some (.ref 1), some (.int l1), some (.int l2), some (.int l3)] [] w (qI Q) xN := by
  intro n
  induction n with
  | zero => intro _ _ h; exact h.elim
  | succ n hR12 =>
    intro l3 w h
    have h : wl_X1_isMeal_12 Q R2 l1 l2 (lp_X1_isMeal_12 Q R2 l1 l2 n) l3 w := h
    unfold wl_X1_isMeal_12 at h
    refine R.iload_n 13 dX1_isMeal_12 rfl rfl ?_
    refine R.iload_n 14 dX1_isMeal_13 rfl rfl ?_
    refine R.icmp_ge 60 17 dX1_isMeal_14 (by decide) rfl (fun hc => ?_) (fun hc => ?_)
    · replace h := h.1 hc
      refine R.inc2 63 dX1_isMeal_60 rfl (Nat.le_of_ble_eq_true rfl) rfl ?_
      refine R.goto 2 dX1_isMeal_63 (by decide) ?_
      exact Rch.dropk (hR2 _ _ h) ⟨rfl, ⟨rfl, ⟨rfl, trivial⟩⟩⟩
    · replace h := h.2 hc
      refine R.iload_n 18 dX1_isMeal_17 rfl rfl ?_
      refine R.iload_n 19 dX1_isMeal_18 rfl rfl ?_
      refine Rch.calls (sd_X1_has _ _ _ _ h) dX1_isMeal_19 (lw_S q687 q688 q142 q689) dk_X1_has (by decide) (Nat.le_of_ble_eq_true rfl) rfl rfl (Nat.le_of_ble_eq_true rfl) (kI 22 rfl fun r1 w2 h => ?_) kN
      refine R.if_eq 54 25 dX1_isMeal_22 (by decide) rfl (fun hc => ?_) (fun hc => ?_)
      · replace h := h.1 hc
        refine R.inc3 57 dX1_isMeal_54 rfl (Nat.le_of_ble_eq_true rfl) rfl ?_
        refine R.goto 12 dX1_isMeal_57 (by decide) ?_
        exact Rch.dropk (hR12 _ _ h) ⟨rfl, ⟨rfl, ⟨rfl, ⟨rfl, trivial⟩⟩⟩⟩
      · replace h := h.2 hc
        refine R.iload_n 26 dX1_isMeal_25 rfl rfl ?_
        refine R.iload_n 27 dX1_isMeal_26 rfl rfl ?_
        refine Rch.calls (sd_X1_has _ _ _ _ h) dX1_isMeal_27 (lw_S q687 q688 q142 q689) dk_X1_has (by decide) (Nat.le_of_ble_eq_true rfl) rfl rfl (Nat.le_of_ble_eq_true rfl) (kI 30 rfl fun r3 w4 h => ?_) kN
        refine R.if_eq 54 33 dX1_isMeal_30 (by decide) rfl (fun hc => ?_) (fun hc => ?_)
        · replace h := h.1 hc
          refine R.inc3 57 dX1_isMeal_54 rfl (Nat.le_of_ble_eq_true rfl) rfl ?_
          refine R.goto 12 dX1_isMeal_57 (by decide) ?_
          exact Rch.dropk (hR12 _ _ h) ⟨rfl, ⟨rfl, ⟨rfl, ⟨rfl, trivial⟩⟩⟩⟩
        · replace h := h.2 hc
          refine R.aload_n 34 dX1_isMeal_33 rfl rfl ?_
          refine R.aload_n 35 dX1_isMeal_34 rfl rfl ?_
          refine R.iload_n 36 dX1_isMeal_35 rfl rfl ?_
          refine R.iconst 37 dX1_isMeal_36 rfl ?_
          refine Rch.callv (sd_X1_of _ _ _ _ h) dX1_isMeal_37 (lw_V q785 q787 qs34 q142 q788) dk_X1_of rcX (by decide) (Nat.le_of_ble_eq_true rfl) rfl rfl (Nat.le_of_ble_eq_true rfl) (kI 40 rfl fun r5 w6 h => ?_) kN
          refine R.aload_n 41 dX1_isMeal_40 rfl rfl ?_
          refine R.iload_n 42 dX1_isMeal_41 rfl rfl ?_
          refine R.iconst 43 dX1_isMeal_42 rfl ?_
          refine Rch.callv (sd_X1_of _ _ _ _ h) dX1_isMeal_43 (lw_V q785 q787 qs34 q142 q788) dk_X1_of rcX (by decide) (Nat.le_of_ble_eq_true rfl) rfl rfl (Nat.le_of_ble_eq_true rfl) (kI 46 rfl fun r7 w8 h => ?_) kN
          refine Rch.callv (sd_X1_isWith _ _ _ _ h) dX1_isMeal_46 (lw_V q1004 q1006 qs60 q142 q1007) dk_X1_isWith rcX (by decide) (Nat.le_of_ble_eq_true rfl) rfl rfl (Nat.le_of_ble_eq_true rfl) (kI 49 rfl fun r9 w10 h => ?_) kN
          refine R.if_ne 54 52 dX1_isMeal_49 (by decide) rfl (fun hc => ?_) (fun hc => ?_)
          · replace h := h.1 hc
            refine R.inc3 57 dX1_isMeal_54 rfl (Nat.le_of_ble_eq_true rfl) rfl ?_
            refine R.goto 12 dX1_isMeal_57 (by decide) ?_
            exact Rch.dropk (hR12 _ _ h) ⟨rfl, ⟨rfl, ⟨rfl, ⟨rfl, trivial⟩⟩⟩⟩
          · replace h := h.2 hc
            refine R.iconst 53 dX1_isMeal_52 rfl ?_
            exact R.retZ dX1_isMeal_53 rfl zok0 h
set_option maxRecDepth 100000 in
set_option maxHeartbeats 4000000 in
theorem sl_X1_isMeal_2 {γ : GG} (Q : Int32 → Wd → Prop) (l1 : Int32) : ∀ (n : Nat) (l2 : Int32) (w : Wd), lp_X1_isMeal_2 Q l1 n l2 w → Rch γ 4 k_X1_isMeal 2 [some (.ref 1), some (.int l1), some (.int l2), none] [] w (qI Q) xN := by
  intro n
  induction n with
  | zero => intro _ _ h; exact h.elim
  | succ n hR2 =>
    intro l2 w h
    have h : wl_X1_isMeal_2 Q l1 (lp_X1_isMeal_2 Q l1 n) l2 w := h
    unfold wl_X1_isMeal_2 at h
    refine R.iload_n 3 dX1_isMeal_2 rfl rfl ?_
    refine R.aload_n 4 dX1_isMeal_3 rfl rfl ?_
    refine Rch.callv (sd_X1_boxMany _ _ h) dX1_isMeal_4 (lw_V q773 q775 qs31 q142 q776) dk_X1_boxMany rcX (by decide) (Nat.le_of_ble_eq_true rfl) rfl rfl (Nat.le_of_ble_eq_true rfl) (kI 7 rfl fun r1 w2 h => ?_) kN
    refine R.icmp_ge 66 10 dX1_isMeal_7 (by decide) rfl (fun hc => ?_) (fun hc => ?_)
    · replace h := h.1 hc
      refine R.iconst 67 dX1_isMeal_66 rfl ?_
      exact R.retZ dX1_isMeal_67 rfl zok1 h
    · replace h := h.2 hc
      refine R.iconst 11 dX1_isMeal_10 rfl ?_
      refine R.ist3n 12 dX1_isMeal_11 rfl (Nat.le_of_ble_eq_true rfl) rfl ?_
      obtain ⟨n3, h⟩ := h
      exact Rch.dropk (sl_X1_isMeal_12 Q _ _ _ hR2 n3 _ _ h) ⟨rfl, ⟨rfl, ⟨rfl, ⟨rfl, trivial⟩⟩⟩⟩
set_option maxRecDepth 100000 in
set_option maxHeartbeats 4000000 in
theorem sd_X1_isMeal {γ : GG} (l1 : Int32) (w : Wd) (Q : Int32 → Wd → Prop) : wp_X1_isMeal l1 w Q → Ctr γ 4 yX1_isMeal (ws_ yX1_isMeal cX1_isMeal 4 (some .boolean)) [.ref 1, .int l1] w (qI Q) xN := by
  intro h
  unfold wp_X1_isMeal at h
  refine Ctr.of (μ := k_X1_isMeal) (by decide) rfl rfl rfl (Nat.le_of_ble_eq_true rfl) ⟨2, ?_⟩
  have es : lva [.ref 1, .int l1] ++ List.replicate 2 none = [some (.ref 1), some (.int l1), none, none] := rfl
  rw [es]
  refine R.iconst 1 dX1_isMeal_0 rfl ?_
  refine R.ist2n 2 dX1_isMeal_1 rfl (Nat.le_of_ble_eq_true rfl) rfl ?_
  obtain ⟨n1, h⟩ := h
  exact Rch.dropk (sl_X1_isMeal_2 Q _ n1 _ _ h) ⟨rfl, ⟨rfl, ⟨rfl, trivial⟩⟩⟩

abbrev k_X1_valueOfSet : MK := ("FrostBox", cX1_valueOfSet, 4, (some .int), [], "valueOfSet")
def wl_X1_valueOfSet_4 (Q : Int32 → Wd → Prop) (l1 : Int32) (R4 : Int32 → Int32 → Wd → Prop) (l2 : Int32) (l3 : Int32) (w : Wd) : Prop := wp_X1_boxMany w (fun r1 w2 => (r1 ≤ l3 → Q l2 w2) ∧ (¬ r1 ≤ l3 → wp_X1_has l1 l3 w2 (fun r3 w4 => (r3 = iz 0 → R4 l2 (l3 + iz 1) w4) ∧ (¬ r3 = iz 0 → wp_X1_valueOf l3 w4 (fun r5 w6 => R4 (l2 + r5) (l3 + iz 1) w6)))))
def lp_X1_valueOfSet_4 (Q : Int32 → Wd → Prop) (l1 : Int32) : Nat → Int32 → Int32 → Wd → Prop
  | 0, _, _, _ => False
  | n + 1, l2, l3, w => wl_X1_valueOfSet_4 Q l1 (lp_X1_valueOfSet_4 Q l1 n) l2 l3 w
def wp_X1_valueOfSet (l1 : Int32) (w : Wd) (Q : Int32 → Wd → Prop) : Prop := ∃ n1, lp_X1_valueOfSet_4 Q l1 n1 (iz 0) (iz 0) w
set_option maxRecDepth 100000 in
set_option maxHeartbeats 4000000 in
theorem sl_X1_valueOfSet_4 {γ : GG} (Q : Int32 → Wd → Prop) (l1 : Int32) : ∀ (n : Nat) (l2 : Int32) (l3 : Int32) (w : Wd), lp_X1_valueOfSet_4 Q l1 n l2 l3 w → Rch γ 97 k_X1_valueOfSet 4 [some (.ref 1), some (.int l1), some (.int l2), some (.int l3)] [] w (qI Q) xN := by
  intro n
  induction n with
  | zero => intro _ _ _ h; exact h.elim
  | succ n hR4 =>
    intro l2 l3 w h
    have h : wl_X1_valueOfSet_4 Q l1 (lp_X1_valueOfSet_4 Q l1 n) l2 l3 w := h
    unfold wl_X1_valueOfSet_4 at h
    refine R.iload_n 5 dX1_valueOfSet_4 rfl rfl ?_
    refine R.aload_n 6 dX1_valueOfSet_5 rfl rfl ?_
    refine Rch.callv (sd_X1_boxMany _ _ h) dX1_valueOfSet_6 (lw_V q773 q775 qs31 q142 q776) dk_X1_boxMany rcX (by decide) (Nat.le_of_ble_eq_true rfl) rfl rfl (Nat.le_of_ble_eq_true rfl) (kI 9 rfl fun r1 w2 h => ?_) kN
    refine R.icmp_ge 34 12 dX1_valueOfSet_9 (by decide) rfl (fun hc => ?_) (fun hc => ?_)
    · replace h := h.1 hc
      refine R.iload_n 35 dX1_valueOfSet_34 rfl rfl ?_
      exact R.retI dX1_valueOfSet_35 rfl h
    · replace h := h.2 hc
      refine R.iload_n 13 dX1_valueOfSet_12 rfl rfl ?_
      refine R.iload_n 14 dX1_valueOfSet_13 rfl rfl ?_
      refine Rch.calls (sd_X1_has _ _ _ _ h) dX1_valueOfSet_14 (lw_S q687 q688 q142 q689) dk_X1_has (by decide) (Nat.le_of_ble_eq_true rfl) rfl rfl (Nat.le_of_ble_eq_true rfl) (kI 17 rfl fun r3 w4 h => ?_) kN
      refine R.if_eq 28 20 dX1_valueOfSet_17 (by decide) rfl (fun hc => ?_) (fun hc => ?_)
      · replace h := h.1 hc
        refine R.inc3 31 dX1_valueOfSet_28 rfl (Nat.le_of_ble_eq_true rfl) rfl ?_
        refine R.goto 4 dX1_valueOfSet_31 (by decide) ?_
        exact Rch.dropk (hR4 _ _ _ h) ⟨rfl, ⟨rfl, ⟨rfl, ⟨rfl, trivial⟩⟩⟩⟩
      · replace h := h.2 hc
        refine R.iload_n 21 dX1_valueOfSet_20 rfl rfl ?_
        refine R.aload_n 22 dX1_valueOfSet_21 rfl rfl ?_
        refine R.iload_n 23 dX1_valueOfSet_22 rfl rfl ?_
        refine Rch.callv (sd_X1_valueOf _ _ _ h) dX1_valueOfSet_23 (lw_V q813 q815 qs40 q142 q816) dk_X1_valueOf rcX (by decide) (Nat.le_of_ble_eq_true rfl) rfl rfl (Nat.le_of_ble_eq_true rfl) (kI 26 rfl fun r5 w6 h => ?_) kN
        refine R.iadd 27 dX1_valueOfSet_26 rfl ?_
        refine R.ist2n 28 dX1_valueOfSet_27 rfl (Nat.le_of_ble_eq_true rfl) rfl ?_
        refine R.inc3 31 dX1_valueOfSet_28 rfl (Nat.le_of_ble_eq_true rfl) rfl ?_
        refine R.goto 4 dX1_valueOfSet_31 (by decide) ?_
        exact Rch.dropk (hR4 _ _ _ h) ⟨rfl, ⟨rfl, ⟨rfl, ⟨rfl, trivial⟩⟩⟩⟩
set_option maxRecDepth 100000 in
set_option maxHeartbeats 4000000 in
theorem sd_X1_valueOfSet {γ : GG} (l1 : Int32) (w : Wd) (Q : Int32 → Wd → Prop) : wp_X1_valueOfSet l1 w Q → Ctr γ 97 yX1_valueOfSet (ws_ yX1_valueOfSet cX1_valueOfSet 4 (some .int)) [.ref 1, .int l1] w (qI Q) xN := by
  intro h
  unfold wp_X1_valueOfSet at h
  refine Ctr.of (μ := k_X1_valueOfSet) (by decide) rfl rfl rfl (Nat.le_of_ble_eq_true rfl) ⟨2, ?_⟩
  have es : lva [.ref 1, .int l1] ++ List.replicate 2 none = [some (.ref 1), some (.int l1), none, none] := rfl
  rw [es]
  refine R.iconst 1 dX1_valueOfSet_0 rfl ?_
  refine R.ist2n 2 dX1_valueOfSet_1 rfl (Nat.le_of_ble_eq_true rfl) rfl ?_
  refine R.iconst 3 dX1_valueOfSet_2 rfl ?_
  refine R.ist3n 4 dX1_valueOfSet_3 rfl (Nat.le_of_ble_eq_true rfl) rfl ?_
  obtain ⟨n1, h⟩ := h
  exact Rch.dropk (sl_X1_valueOfSet_4 Q _ n1 _ _ _ h) ⟨rfl, ⟨rfl, ⟨rfl, ⟨rfl, trivial⟩⟩⟩⟩

abbrev k_X1_dinner : MK := ("FrostBox", cX1_dinner, 8, (some .int), [], "dinner")
def wl_X1_dinner_36 (Q : Int32 → Wd → Prop) (l1 : Int32) (l2 : Int32) (R36 : Int32 → Int32 → Int32 → Wd → Prop) (l3 : Int32) (l4 : Int32) (l5 : Int32) (w : Wd) : Prop := wp_X1_boxMany w (fun r1 w2 => (((iz 1) <<< (r1 &&& 31)) ≤ l5 → (l3 = (iz (-1)) → Q l3 w2) ∧ (¬ l3 = (iz (-1)) → (¬ l2 = iz 0 → Q l4 w2) ∧ (l2 = iz 0 → Q l3 w2))) ∧ (¬ ((iz 1) <<< (r1 &&& 31)) ≤ l5 → wp_X1_portionsOf l5 w2 (fun r3 w4 => (r3 < l1 → R36 l3 l4 (l5 + iz 1) w4) ∧ (¬ r3 < l1 → wp_X1_isMeal l5 w4 (fun r5 w6 => (¬ r5 = iz 0 → wp_X1_valueOfSet l5 w6 (fun r7 w8 => (¬ r3 = 0) ∧ (l3 = (iz (-1)) → R36 l5 (((iz 100) * r7) / r3) (l5 + iz 1) w8) ∧ (¬ l3 = (iz (-1)) → ((((iz 100) * r7) / r3) < l4 → R36 l3 l4 (l5 + iz 1) w8) ∧ (¬ (((iz 100) * r7) / r3) < l4 → (¬ (((iz 100) * r7) / r3) = l4 → R36 l5 (((iz 100) * r7) / r3) (l5 + iz 1) w8) ∧ ((((iz 100) * r7) / r3) = l4 → wp_X1_portionsOf l3 w8 (fun r9 w10 => (r3 < r9 → R36 l5 (((iz 100) * r7) / r3) (l5 + iz 1) w10) ∧ (¬ r3 < r9 → R36 l3 l4 (l5 + iz 1) w10))))))) ∧ (r5 = iz 0 → R36 l3 l4 (l5 + iz 1) w6))))))
def lp_X1_dinner_36 (Q : Int32 → Wd → Prop) (l1 : Int32) (l2 : Int32) : Nat → Int32 → Int32 → Int32 → Wd → Prop
  | 0, _, _, _, _ => False
  | n + 1, l3, l4, l5, w => wl_X1_dinner_36 Q l1 l2 (lp_X1_dinner_36 Q l1 l2 n) l3 l4 l5 w
def wp_X1_dinner (l1 : Int32) (l2 : Int32) (w : Wd) (Q : Int32 → Wd → Prop) : Prop := wp_X1_isHouse w (fun r1 w2 => (r1 = iz 0 → Q (iz (-1)) w2) ∧ (¬ r1 = iz 0 → wp_X1_in l1 (iz 1) (iz 30) w2 (fun r3 w4 => (r3 = iz 0 → Q (iz (-1)) w4) ∧ (¬ r3 = iz 0 → wp_X1_in l2 (iz 0) (iz 1) w4 (fun r5 w6 => (¬ r5 = iz 0 → ∃ n7, lp_X1_dinner_36 Q l1 l2 n7 (iz (-1)) (iz 0) (iz 1) w6) ∧ (r5 = iz 0 → Q (iz (-1)) w6))))))
set_option maxRecDepth 100000 in
set_option maxHeartbeats 4000000 in
theorem sl_X1_dinner_36 {γ : GG} (Q : Int32 → Wd → Prop) (l1 : Int32) (l2 : Int32) : ∀ (n : Nat) (l3 : Int32) (l4 : Int32) (l5 : Int32) (w : Wd), lp_X1_dinner_36 Q l1 l2 n l3 l4 l5 w → Rch γ 98 k_X1_dinner 36 [some (.ref 1), some (.int l1), some (.int l2), some (.int l3), some (.int l4), some (.int l5), none, none] [] w (qI Q) xN := by
  intro n
  induction n with
  | zero => intro _ _ _ _ h; exact h.elim
  | succ n hR36 =>
    intro l3 l4 l5 w h
    have h : wl_X1_dinner_36 Q l1 l2 (lp_X1_dinner_36 Q l1 l2 n) l3 l4 l5 w := h
    unfold wl_X1_dinner_36 at h
    refine R.iload 38 dX1_dinner_36 rfl rfl ?_
    refine R.iconst 39 dX1_dinner_38 rfl ?_
    refine R.aload_n 40 dX1_dinner_39 rfl rfl ?_
    refine Rch.callv (sd_X1_boxMany _ _ h) dX1_dinner_40 (lw_V q773 q775 qs31 q142 q776) dk_X1_boxMany rcX (by decide) (Nat.le_of_ble_eq_true rfl) rfl rfl (Nat.le_of_ble_eq_true rfl) (kI 43 rfl fun r1 w2 h => ?_) kN
    refine R.ishl 44 dX1_dinner_43 rfl ?_
    refine R.icmp_ge 132 47 dX1_dinner_44 (by decide) rfl (fun hc => ?_) (fun hc => ?_)
    · replace h := h.1 hc
      refine R.iload_n 133 dX1_dinner_132 rfl rfl ?_
      refine R.iconst 134 dX1_dinner_133 rfl ?_
      refine R.icmp_eq 141 137 dX1_dinner_134 (by decide) rfl (fun hc => ?_) (fun hc => ?_)
      · replace h := h.1 hc
        refine R.iload_n 142 dX1_dinner_141 rfl rfl ?_
        refine R.goto 147 dX1_dinner_142 (by decide) ?_
        exact R.retI dX1_dinner_147 rfl h
      · replace h := h.2 hc
        refine R.iload_n 138 dX1_dinner_137 rfl rfl ?_
        refine R.if_ne 145 141 dX1_dinner_138 (by decide) rfl (fun hc => ?_) (fun hc => ?_)
        · replace h := h.1 hc
          refine R.iload 147 dX1_dinner_145 rfl rfl ?_
          exact R.retI dX1_dinner_147 rfl h
        · replace h := h.2 hc
          refine R.iload_n 142 dX1_dinner_141 rfl rfl ?_
          refine R.goto 147 dX1_dinner_142 (by decide) ?_
          exact R.retI dX1_dinner_147 rfl h
    · replace h := h.2 hc
      refine R.aload_n 48 dX1_dinner_47 rfl rfl ?_
      refine R.iload 50 dX1_dinner_48 rfl rfl ?_
      refine Rch.callv (sd_X1_portionsOf _ _ _ h) dX1_dinner_50 (lw_V q781 q783 qs33 q142 q784) dk_X1_portionsOf rcX (by decide) (Nat.le_of_ble_eq_true rfl) rfl rfl (Nat.le_of_ble_eq_true rfl) (kI 53 rfl fun r3 w4 h => ?_) kN
      refine R.ist6 55 dX1_dinner_53 rfl (Nat.le_of_ble_eq_true rfl) rfl ?_
      refine R.iload 57 dX1_dinner_55 rfl rfl ?_
      refine R.iload_n 58 dX1_dinner_57 rfl rfl ?_
      refine R.icmp_lt 126 61 dX1_dinner_58 (by decide) rfl (fun hc => ?_) (fun hc => ?_)
      · replace h := h.1 hc
        refine R.inc5 129 dX1_dinner_126 rfl (Nat.le_of_ble_eq_true rfl) rfl ?_
        refine R.goto 36 dX1_dinner_129 (by decide) ?_
        exact Rch.dropk (hR36 _ _ _ _ h) ⟨rfl, ⟨rfl, ⟨rfl, ⟨rfl, ⟨rfl, ⟨rfl, trivial⟩⟩⟩⟩⟩⟩
      · replace h := h.2 hc
        refine R.aload_n 62 dX1_dinner_61 rfl rfl ?_
        refine R.iload 64 dX1_dinner_62 rfl rfl ?_
        refine Rch.callv (sd_X1_isMeal _ _ _ h) dX1_dinner_64 (lw_V q1000 q1002 qs59 q142 q1003) dk_X1_isMeal rcX (by decide) (Nat.le_of_ble_eq_true rfl) rfl rfl (Nat.le_of_ble_eq_true rfl) (kI 67 rfl fun r5 w6 h => ?_) kN
        refine R.if_ne 73 70 dX1_dinner_67 (by decide) rfl (fun hc => ?_) (fun hc => ?_)
        · replace h := h.1 hc
          refine R.bipush 75 dX1_dinner_73 rfl (by decide +kernel) ?_
          refine R.aload_n 76 dX1_dinner_75 rfl rfl ?_
          refine R.iload 78 dX1_dinner_76 rfl rfl ?_
          refine Rch.callv (sd_X1_valueOfSet _ _ _ h) dX1_dinner_78 (lw_V q1008 q1010 qs61 q142 q1011) dk_X1_valueOfSet rcX (by decide) (Nat.le_of_ble_eq_true rfl) rfl rfl (Nat.le_of_ble_eq_true rfl) (kI 81 rfl fun r7 w8 h => ?_) kN
          refine R.imul 82 dX1_dinner_81 rfl ?_
          refine R.iload 84 dX1_dinner_82 rfl rfl ?_
          obtain ⟨hz, h⟩ := h
          refine R.idiv 85 dX1_dinner_84 rfl hz ?_
          refine R.ist7 87 dX1_dinner_85 rfl (Nat.le_of_ble_eq_true rfl) rfl ?_
          refine R.iload_n 88 dX1_dinner_87 rfl rfl ?_
          refine R.iconst 89 dX1_dinner_88 rfl ?_
          refine R.icmp_eq 119 92 dX1_dinner_89 (by decide) rfl (fun hc => ?_) (fun hc => ?_)
          · replace h := h.1 hc
            refine R.iload 121 dX1_dinner_119 rfl rfl ?_
            refine R.ist3n 122 dX1_dinner_121 rfl (Nat.le_of_ble_eq_true rfl) rfl ?_
            refine R.iload 124 dX1_dinner_122 rfl rfl ?_
            refine R.ist4 126 dX1_dinner_124 rfl (Nat.le_of_ble_eq_true rfl) rfl ?_
            refine R.inc5 129 dX1_dinner_126 rfl (Nat.le_of_ble_eq_true rfl) rfl ?_
            refine R.goto 36 dX1_dinner_129 (by decide) ?_
            exact Rch.dropk (hR36 _ _ _ _ h) ⟨rfl, ⟨rfl, ⟨rfl, ⟨rfl, ⟨rfl, ⟨rfl, trivial⟩⟩⟩⟩⟩⟩
          · replace h := h.2 hc
            refine R.iload 94 dX1_dinner_92 rfl rfl ?_
            refine R.iload 96 dX1_dinner_94 rfl rfl ?_
            refine R.icmp_lt 126 99 dX1_dinner_96 (by decide) rfl (fun hc => ?_) (fun hc => ?_)
            · replace h := h.1 hc
              refine R.inc5 129 dX1_dinner_126 rfl (Nat.le_of_ble_eq_true rfl) rfl ?_
              refine R.goto 36 dX1_dinner_129 (by decide) ?_
              exact Rch.dropk (hR36 _ _ _ _ h) ⟨rfl, ⟨rfl, ⟨rfl, ⟨rfl, ⟨rfl, ⟨rfl, trivial⟩⟩⟩⟩⟩⟩
            · replace h := h.2 hc
              refine R.iload 101 dX1_dinner_99 rfl rfl ?_
              refine R.iload 103 dX1_dinner_101 rfl rfl ?_
              refine R.icmp_ne 119 106 dX1_dinner_103 (by decide) rfl (fun hc => ?_) (fun hc => ?_)
              · replace h := h.1 hc
                refine R.iload 121 dX1_dinner_119 rfl rfl ?_
                refine R.ist3n 122 dX1_dinner_121 rfl (Nat.le_of_ble_eq_true rfl) rfl ?_
                refine R.iload 124 dX1_dinner_122 rfl rfl ?_
                refine R.ist4 126 dX1_dinner_124 rfl (Nat.le_of_ble_eq_true rfl) rfl ?_
                refine R.inc5 129 dX1_dinner_126 rfl (Nat.le_of_ble_eq_true rfl) rfl ?_
                refine R.goto 36 dX1_dinner_129 (by decide) ?_
                exact Rch.dropk (hR36 _ _ _ _ h) ⟨rfl, ⟨rfl, ⟨rfl, ⟨rfl, ⟨rfl, ⟨rfl, trivial⟩⟩⟩⟩⟩⟩
              · replace h := h.2 hc
                refine R.iload 108 dX1_dinner_106 rfl rfl ?_
                refine R.aload_n 109 dX1_dinner_108 rfl rfl ?_
                refine R.iload_n 110 dX1_dinner_109 rfl rfl ?_
                refine Rch.callv (sd_X1_portionsOf _ _ _ h) dX1_dinner_110 (lw_V q781 q783 qs33 q142 q784) dk_X1_portionsOf rcX (by decide) (Nat.le_of_ble_eq_true rfl) rfl rfl (Nat.le_of_ble_eq_true rfl) (kI 113 rfl fun r9 w10 h => ?_) kN
                refine R.icmp_lt 119 116 dX1_dinner_113 (by decide) rfl (fun hc => ?_) (fun hc => ?_)
                · replace h := h.1 hc
                  refine R.iload 121 dX1_dinner_119 rfl rfl ?_
                  refine R.ist3n 122 dX1_dinner_121 rfl (Nat.le_of_ble_eq_true rfl) rfl ?_
                  refine R.iload 124 dX1_dinner_122 rfl rfl ?_
                  refine R.ist4 126 dX1_dinner_124 rfl (Nat.le_of_ble_eq_true rfl) rfl ?_
                  refine R.inc5 129 dX1_dinner_126 rfl (Nat.le_of_ble_eq_true rfl) rfl ?_
                  refine R.goto 36 dX1_dinner_129 (by decide) ?_
                  exact Rch.dropk (hR36 _ _ _ _ h) ⟨rfl, ⟨rfl, ⟨rfl, ⟨rfl, ⟨rfl, ⟨rfl, trivial⟩⟩⟩⟩⟩⟩
                · replace h := h.2 hc
                  refine R.goto 126 dX1_dinner_116 (by decide) ?_
                  refine R.inc5 129 dX1_dinner_126 rfl (Nat.le_of_ble_eq_true rfl) rfl ?_
                  refine R.goto 36 dX1_dinner_129 (by decide) ?_
                  exact Rch.dropk (hR36 _ _ _ _ h) ⟨rfl, ⟨rfl, ⟨rfl, ⟨rfl, ⟨rfl, ⟨rfl, trivial⟩⟩⟩⟩⟩⟩
        · replace h := h.2 hc
          refine R.goto 126 dX1_dinner_70 (by decide) ?_
          refine R.inc5 129 dX1_dinner_126 rfl (Nat.le_of_ble_eq_true rfl) rfl ?_
          refine R.goto 36 dX1_dinner_129 (by decide) ?_
          exact Rch.dropk (hR36 _ _ _ _ h) ⟨rfl, ⟨rfl, ⟨rfl, ⟨rfl, ⟨rfl, ⟨rfl, trivial⟩⟩⟩⟩⟩⟩
set_option maxRecDepth 100000 in
set_option maxHeartbeats 4000000 in
theorem sd_X1_dinner {γ : GG} (l1 : Int32) (l2 : Int32) (w : Wd) (Q : Int32 → Wd → Prop) : wp_X1_dinner l1 l2 w Q → Ctr γ 98 yX1_dinner (ws_ yX1_dinner cX1_dinner 8 (some .int)) [.ref 1, .int l1, .int l2] w (qI Q) xN := by
  intro h
  unfold wp_X1_dinner at h
  refine Ctr.of (μ := k_X1_dinner) (by decide) rfl rfl rfl (Nat.le_of_ble_eq_true rfl) ⟨5, ?_⟩
  have es : lva [.ref 1, .int l1, .int l2] ++ List.replicate 5 none = [some (.ref 1), some (.int l1), some (.int l2), none, none, none, none, none] := rfl
  rw [es]
  refine R.aload_n 1 dX1_dinner_0 rfl rfl ?_
  refine Rch.callv (sd_X1_isHouse _ _ h) dX1_dinner_1 (lw_V q737 q739 qs26 q142 q740) dk_X1_isHouse rcX (by decide) (Nat.le_of_ble_eq_true rfl) rfl rfl (Nat.le_of_ble_eq_true rfl) (kI 4 rfl fun r1 w2 h => ?_) kN
  refine R.if_eq 26 7 dX1_dinner_4 (by decide) rfl (fun hc => ?_) (fun hc => ?_)
  · replace h := h.1 hc
    refine R.iconst 27 dX1_dinner_26 rfl ?_
    exact R.retI dX1_dinner_27 rfl h
  · replace h := h.2 hc
    refine R.iload_n 8 dX1_dinner_7 rfl rfl ?_
    refine R.iconst 9 dX1_dinner_8 rfl ?_
    refine R.bipush 11 dX1_dinner_9 rfl (by decide +kernel) ?_
    refine Rch.calls (sd_X1_in _ _ _ _ _ h) dX1_dinner_11 (lw_S q700 q701 q142 q702) dk_X1_in (by decide) (Nat.le_of_ble_eq_true rfl) rfl rfl (Nat.le_of_ble_eq_true rfl) (kI 14 rfl fun r3 w4 h => ?_) kN
    refine R.if_eq 26 17 dX1_dinner_14 (by decide) rfl (fun hc => ?_) (fun hc => ?_)
    · replace h := h.1 hc
      refine R.iconst 27 dX1_dinner_26 rfl ?_
      exact R.retI dX1_dinner_27 rfl h
    · replace h := h.2 hc
      refine R.iload_n 18 dX1_dinner_17 rfl rfl ?_
      refine R.iconst 19 dX1_dinner_18 rfl ?_
      refine R.iconst 20 dX1_dinner_19 rfl ?_
      refine Rch.calls (sd_X1_in _ _ _ _ _ h) dX1_dinner_20 (lw_S q700 q701 q142 q702) dk_X1_in (by decide) (Nat.le_of_ble_eq_true rfl) rfl rfl (Nat.le_of_ble_eq_true rfl) (kI 23 rfl fun r5 w6 h => ?_) kN
      refine R.if_ne 28 26 dX1_dinner_23 (by decide) rfl (fun hc => ?_) (fun hc => ?_)
      · replace h := h.1 hc
        refine R.iconst 29 dX1_dinner_28 rfl ?_
        refine R.ist3n 30 dX1_dinner_29 rfl (Nat.le_of_ble_eq_true rfl) rfl ?_
        refine R.iconst 31 dX1_dinner_30 rfl ?_
        refine R.ist4 33 dX1_dinner_31 rfl (Nat.le_of_ble_eq_true rfl) rfl ?_
        refine R.iconst 34 dX1_dinner_33 rfl ?_
        refine R.ist5 36 dX1_dinner_34 rfl (Nat.le_of_ble_eq_true rfl) rfl ?_
        obtain ⟨n7, h⟩ := h
        exact Rch.dropk (sl_X1_dinner_36 Q _ _ n7 _ _ _ _ h) ⟨rfl, ⟨rfl, ⟨rfl, ⟨rfl, ⟨rfl, ⟨rfl, trivial⟩⟩⟩⟩⟩⟩
      · replace h := h.2 hc
        refine R.iconst 27 dX1_dinner_26 rfl ?_
        exact R.retI dX1_dinner_27 rfl h

abbrev k_X1_belowIn : MK := ("FrostBox", cX1_belowIn, 3, (some .int), [], "belowIn")
def wp_X1_belowIn (l1 : Int32) (l2 : Int32) (w : Wd) (Q : Int32 → Wd → Prop) : Prop := wp_J10_bitCount (l2 >>> ((l1 + (iz 1)) &&& 31)) w (fun r1 w2 => Q r1 w2)
set_option maxRecDepth 100000 in
set_option maxHeartbeats 4000000 in
theorem sd_X1_belowIn {γ : GG} (l1 : Int32) (l2 : Int32) (w : Wd) (Q : Int32 → Wd → Prop) : wp_X1_belowIn l1 l2 w Q → Ctr γ 2 yX1_belowIn (ws_ yX1_belowIn cX1_belowIn 3 (some .int)) [.ref 1, .int l1, .int l2] w (qI Q) xN := by
  intro h
  unfold wp_X1_belowIn at h
  refine Ctr.of (μ := k_X1_belowIn) (by decide) rfl rfl rfl (Nat.le_of_ble_eq_true rfl) ⟨0, ?_⟩
  have es : lva [.ref 1, .int l1, .int l2] ++ List.replicate 0 none = [some (.ref 1), some (.int l1), some (.int l2)] := rfl
  rw [es]
  refine R.iload_n 1 dX1_belowIn_0 rfl rfl ?_
  refine R.iload_n 2 dX1_belowIn_1 rfl rfl ?_
  refine R.iconst 3 dX1_belowIn_2 rfl ?_
  refine R.iadd 4 dX1_belowIn_3 rfl ?_
  refine R.ishr 5 dX1_belowIn_4 rfl ?_
  refine Rch.calls (sd_J10_bitCount _ _ _ h) dX1_belowIn_5 (lw_S q1031 q1032 q165 q1033) dk_J10_bitCount (by decide) (Nat.le_of_ble_eq_true rfl) rfl rfl (Nat.le_of_ble_eq_true rfl) (kI 8 rfl fun r1 w2 h => ?_) kN
  exact R.retI dX1_belowIn_8 rfl h

abbrev k_X1_eatenNow : MK := ("FrostBox", cX1_eatenNow, 3, (some .int), [], "eatenNow")
def wp_X1_eatenNow (l1 : Int32) (l2 : Int32) (w : Wd) (Q : Int32 → Wd → Prop) : Prop := wp_X1_boxMany w (fun r1 w2 => wp_J10_bitCount l2 w2 (fun r3 w4 => wp_X1_belowIn l1 l2 w4 (fun r5 w6 => wp_X1_valueAt l1 (r1 - r3) r5 w6 (fun r7 w8 => Q r7 w8))))
set_option maxRecDepth 100000 in
set_option maxHeartbeats 4000000 in
theorem sd_X1_eatenNow {γ : GG} (l1 : Int32) (l2 : Int32) (w : Wd) (Q : Int32 → Wd → Prop) : wp_X1_eatenNow l1 l2 w Q → Ctr γ 96 yX1_eatenNow (ws_ yX1_eatenNow cX1_eatenNow 3 (some .int)) [.ref 1, .int l1, .int l2] w (qI Q) xN := by
  intro h
  unfold wp_X1_eatenNow at h
  refine Ctr.of (μ := k_X1_eatenNow) (by decide) rfl rfl rfl (Nat.le_of_ble_eq_true rfl) ⟨0, ?_⟩
  have es : lva [.ref 1, .int l1, .int l2] ++ List.replicate 0 none = [some (.ref 1), some (.int l1), some (.int l2)] := rfl
  rw [es]
  refine R.aload_n 1 dX1_eatenNow_0 rfl rfl ?_
  refine R.iload_n 2 dX1_eatenNow_1 rfl rfl ?_
  refine R.aload_n 3 dX1_eatenNow_2 rfl rfl ?_
  refine Rch.callv (sd_X1_boxMany _ _ h) dX1_eatenNow_3 (lw_V q773 q775 qs31 q142 q776) dk_X1_boxMany rcX (by decide) (Nat.le_of_ble_eq_true rfl) rfl rfl (Nat.le_of_ble_eq_true rfl) (kI 6 rfl fun r1 w2 h => ?_) kN
  refine R.iload_n 7 dX1_eatenNow_6 rfl rfl ?_
  refine Rch.calls (sd_J10_bitCount _ _ _ h) dX1_eatenNow_7 (lw_S q1031 q1032 q165 q1033) dk_J10_bitCount (by decide) (Nat.le_of_ble_eq_true rfl) rfl rfl (Nat.le_of_ble_eq_true rfl) (kI 10 rfl fun r3 w4 h => ?_) kN
  refine R.isub 11 dX1_eatenNow_10 rfl ?_
  refine R.aload_n 12 dX1_eatenNow_11 rfl rfl ?_
  refine R.iload_n 13 dX1_eatenNow_12 rfl rfl ?_
  refine R.iload_n 14 dX1_eatenNow_13 rfl rfl ?_
  refine Rch.callv (sd_X1_belowIn _ _ _ _ h) dX1_eatenNow_14 (lw_V q1037 q1039 qs64 q142 q1040) dk_X1_belowIn rcX (by decide) (Nat.le_of_ble_eq_true rfl) rfl rfl (Nat.le_of_ble_eq_true rfl) (kI 17 rfl fun r5 w6 h => ?_) kN
  refine Rch.callv (sd_X1_valueAt _ _ _ _ _ h) dX1_eatenNow_17 (lw_V q817 q819 qs41 q142 q820) dk_X1_valueAt rcX (by decide) (Nat.le_of_ble_eq_true rfl) rfl rfl (Nat.le_of_ble_eq_true rfl) (kI 20 rfl fun r7 w8 h => ?_) kN
  exact R.retI dX1_eatenNow_20 rfl h

abbrev k_X1_eatingFrom : MK := ("FrostBox", cX1_eatingFrom, 5, (some .int), [], "eatingFrom")
def b_X1_eatingFrom_33 (Q : Int32 → Wd → Prop) (R11 : Int32 → Int32 → Wd → Prop) (l1 : Int32) (l2 : Int32) (l3 : Int32) (t0 : Int32) (w : Wd) : Prop := wp_X1_eatenNow t0 l3 w (fun r1 w2 => R11 (l2 + r1) (l3 &&& (((iz 1) <<< (t0 &&& 31)) ^^^ (iz (-1)))) w2)
def wl_X1_eatingFrom_11 (Q : Int32 → Wd → Prop) (l1 : Int32) (R11 : Int32 → Int32 → Wd → Prop) (l2 : Int32) (l3 : Int32) (w : Wd) : Prop := (l3 = iz 0 → Q l2 w) ∧ (¬ l3 = iz 0 → (l1 = iz 0 → wp_J10_numberOfLeadingZeros l3 w (fun r1 w2 => b_X1_eatingFrom_33 Q R11 l1 l2 l3 ((iz 31) - r1) w2)) ∧ (¬ l1 = iz 0 → wp_J10_numberOfTrailingZeros l3 w (fun r3 w4 => b_X1_eatingFrom_33 Q R11 l1 l2 l3 r3 w4)))
def lp_X1_eatingFrom_11 (Q : Int32 → Wd → Prop) (l1 : Int32) : Nat → Int32 → Int32 → Wd → Prop
  | 0, _, _, _ => False
  | n + 1, l2, l3, w => wl_X1_eatingFrom_11 Q l1 (lp_X1_eatingFrom_11 Q l1 n) l2 l3 w
def wp_X1_eatingFrom (l1 : Int32) (w : Wd) (Q : Int32 → Wd → Prop) : Prop := wp_X1_boxMany w (fun r1 w2 => ∃ n3, lp_X1_eatingFrom_11 Q l1 n3 (iz 0) (((iz 1) <<< (r1 &&& 31)) - (iz 1)) w2)
set_option maxRecDepth 100000 in
set_option maxHeartbeats 4000000 in
theorem s_X1_eatingFrom_33 {γ : GG} (Q : Int32 → Wd → Prop) (R11 : Int32 → Int32 → Wd → Prop) (l1 : Int32) (l2 : Int32) (l3 : Int32) (t0 : Int32) (hR11 : ∀ (l2 : Int32) (l3 : Int32) (w : Wd), R11 l2 l3 w → Rch γ 97 k_X1_eatingFrom 11 [some (.ref 1), some (.int l1), some (.int l2), some (.int l3), none] [] w (qI Q) xN) : ∀ (w : Wd), b_X1_eatingFrom_33 Q R11 l1 l2 l3 t0 w → Rch γ 97 k_X1_eatingFrom 33 [some (.ref 1), some (.int l1), some (.int l2), some (.int l3), none] [.int t0] w (qI Q) xN := by
  intro w h
  unfold b_X1_eatingFrom_33 at h
  refine R.ist4 35 dX1_eatingFrom_33 rfl (Nat.le_of_ble_eq_true rfl) rfl ?_
  refine R.iload_n 36 dX1_eatingFrom_35 rfl rfl ?_
  refine R.aload_n 37 dX1_eatingFrom_36 rfl rfl ?_
  refine R.iload 39 dX1_eatingFrom_37 rfl rfl ?_
  refine R.iload_n 40 dX1_eatingFrom_39 rfl rfl ?_
  refine Rch.callv (sd_X1_eatenNow _ _ _ _ h) dX1_eatingFrom_40 (lw_V q1027 q1029 qs63 q142 q1030) dk_X1_eatenNow rcX (by decide) (Nat.le_of_ble_eq_true rfl) rfl rfl (Nat.le_of_ble_eq_true rfl) (kI 43 rfl fun r1 w2 h => ?_) kN
  refine R.iadd 44 dX1_eatingFrom_43 rfl ?_
  refine R.ist2n 45 dX1_eatingFrom_44 rfl (Nat.le_of_ble_eq_true rfl) rfl ?_
  refine R.iload_n 46 dX1_eatingFrom_45 rfl rfl ?_
  refine R.iconst 47 dX1_eatingFrom_46 rfl ?_
  refine R.iload 49 dX1_eatingFrom_47 rfl rfl ?_
  refine R.ishl 50 dX1_eatingFrom_49 rfl ?_
  refine R.iconst 51 dX1_eatingFrom_50 rfl ?_
  refine R.ixor 52 dX1_eatingFrom_51 rfl ?_
  refine R.iand 53 dX1_eatingFrom_52 rfl ?_
  refine R.ist3n 54 dX1_eatingFrom_53 rfl (Nat.le_of_ble_eq_true rfl) rfl ?_
  refine R.goto 11 dX1_eatingFrom_54 (by decide) ?_
  exact Rch.dropk (hR11 _ _ _ h) ⟨rfl, ⟨rfl, ⟨rfl, ⟨rfl, trivial⟩⟩⟩⟩
set_option maxRecDepth 100000 in
set_option maxHeartbeats 4000000 in
theorem sl_X1_eatingFrom_11 {γ : GG} (Q : Int32 → Wd → Prop) (l1 : Int32) : ∀ (n : Nat) (l2 : Int32) (l3 : Int32) (w : Wd), lp_X1_eatingFrom_11 Q l1 n l2 l3 w → Rch γ 97 k_X1_eatingFrom 11 [some (.ref 1), some (.int l1), some (.int l2), some (.int l3), none] [] w (qI Q) xN := by
  intro n
  induction n with
  | zero => intro _ _ _ h; exact h.elim
  | succ n hR11 =>
    intro l2 l3 w h
    have h : wl_X1_eatingFrom_11 Q l1 (lp_X1_eatingFrom_11 Q l1 n) l2 l3 w := h
    unfold wl_X1_eatingFrom_11 at h
    refine R.iload_n 12 dX1_eatingFrom_11 rfl rfl ?_
    refine R.if_eq 57 15 dX1_eatingFrom_12 (by decide) rfl (fun hc => ?_) (fun hc => ?_)
    · replace h := h.1 hc
      refine R.iload_n 58 dX1_eatingFrom_57 rfl rfl ?_
      exact R.retI dX1_eatingFrom_58 rfl h
    · replace h := h.2 hc
      refine R.iload_n 16 dX1_eatingFrom_15 rfl rfl ?_
      refine R.if_eq 26 19 dX1_eatingFrom_16 (by decide) rfl (fun hc => ?_) (fun hc => ?_)
      · replace h := h.1 hc
        refine R.bipush 28 dX1_eatingFrom_26 rfl (by decide +kernel) ?_
        refine R.iload_n 29 dX1_eatingFrom_28 rfl rfl ?_
        refine Rch.calls (sd_J10_numberOfLeadingZeros _ _ _ h) dX1_eatingFrom_29 (lw_S q1024 q1025 q165 q1026) dk_J10_numberOfLeadingZeros (by decide) (Nat.le_of_ble_eq_true rfl) rfl rfl (Nat.le_of_ble_eq_true rfl) (kI 32 rfl fun r1 w2 h => ?_) kN
        refine R.isub 33 dX1_eatingFrom_32 rfl ?_
        exact Rch.dropk (s_X1_eatingFrom_33 Q _ _ _ _ _ hR11 _ h) ⟨rfl, ⟨rfl, ⟨rfl, ⟨rfl, trivial⟩⟩⟩⟩
      · replace h := h.2 hc
        refine R.iload_n 20 dX1_eatingFrom_19 rfl rfl ?_
        refine Rch.calls (sd_J10_numberOfTrailingZeros _ _ _ h) dX1_eatingFrom_20 (lw_S q1020 q1021 q165 q1022) dk_J10_numberOfTrailingZeros (by decide) (Nat.le_of_ble_eq_true rfl) rfl rfl (Nat.le_of_ble_eq_true rfl) (kI 23 rfl fun r3 w4 h => ?_) kN
        refine R.goto 33 dX1_eatingFrom_23 (by decide) ?_
        exact Rch.dropk (s_X1_eatingFrom_33 Q _ _ _ _ _ hR11 _ h) ⟨rfl, ⟨rfl, ⟨rfl, ⟨rfl, trivial⟩⟩⟩⟩
set_option maxRecDepth 100000 in
set_option maxHeartbeats 4000000 in
theorem sd_X1_eatingFrom {γ : GG} (l1 : Int32) (w : Wd) (Q : Int32 → Wd → Prop) : wp_X1_eatingFrom l1 w Q → Ctr γ 97 yX1_eatingFrom (ws_ yX1_eatingFrom cX1_eatingFrom 5 (some .int)) [.ref 1, .int l1] w (qI Q) xN := by
  intro h
  unfold wp_X1_eatingFrom at h
  refine Ctr.of (μ := k_X1_eatingFrom) (by decide) rfl rfl rfl (Nat.le_of_ble_eq_true rfl) ⟨3, ?_⟩
  have es : lva [.ref 1, .int l1] ++ List.replicate 3 none = [some (.ref 1), some (.int l1), none, none, none] := rfl
  rw [es]
  refine R.iconst 1 dX1_eatingFrom_0 rfl ?_
  refine R.ist2n 2 dX1_eatingFrom_1 rfl (Nat.le_of_ble_eq_true rfl) rfl ?_
  refine R.iconst 3 dX1_eatingFrom_2 rfl ?_
  refine R.aload_n 4 dX1_eatingFrom_3 rfl rfl ?_
  refine Rch.callv (sd_X1_boxMany _ _ h) dX1_eatingFrom_4 (lw_V q773 q775 qs31 q142 q776) dk_X1_boxMany rcX (by decide) (Nat.le_of_ble_eq_true rfl) rfl rfl (Nat.le_of_ble_eq_true rfl) (kI 7 rfl fun r1 w2 h => ?_) kN
  refine R.ishl 8 dX1_eatingFrom_7 rfl ?_
  refine R.iconst 9 dX1_eatingFrom_8 rfl ?_
  refine R.isub 10 dX1_eatingFrom_9 rfl ?_
  refine R.ist3n 11 dX1_eatingFrom_10 rfl (Nat.le_of_ble_eq_true rfl) rfl ?_
  obtain ⟨n3, h⟩ := h
  exact Rch.dropk (sl_X1_eatingFrom_11 Q _ n3 _ _ _ h) ⟨rfl, ⟨rfl, ⟨rfl, ⟨rfl, trivial⟩⟩⟩⟩

abbrev k_X1_layEating : MK := ("FrostBox", cX1_layEating, 4, none, [], "layEating")
def wl_X1_layEating_23 (Q : Wd → Prop) (R9 : Int32 → Wd → Prop) (l1 : Int32) (R23 : Int32 → Int32 → Wd → Prop) (l2 : Int32) (l3 : Int32) (w : Wd) : Prop := wp_X1_boxMany w (fun r1 w2 => (r1 ≤ l3 → inb l1 256 ∧ (∀ w3, w3 = sA w2 36 l1.toInt l2 → R9 (l1 + iz 1) w3)) ∧ (¬ r1 ≤ l3 → wp_X1_has l1 l3 w2 (fun r4 w5 => (r4 = iz 0 → R23 l2 (l3 + iz 1) w5) ∧ (¬ r4 = iz 0 → wp_X1_eatenNow l3 l1 w5 (fun r6 w7 => inb (l1 &&& (((iz 1) <<< (l3 &&& 31)) ^^^ (iz (-1)))) 256 ∧ R23 (imax l2 (r6 + (gA w7 36 (l1 &&& (((iz 1) <<< (l3 &&& 31)) ^^^ (iz (-1)))).toInt))) (l3 + iz 1) w7)))))
def lp_X1_layEating_23 (Q : Wd → Prop) (R9 : Int32 → Wd → Prop) (l1 : Int32) : Nat → Int32 → Int32 → Wd → Prop
  | 0, _, _, _ => False
  | n + 1, l2, l3, w => wl_X1_layEating_23 Q R9 l1 (lp_X1_layEating_23 Q R9 l1 n) l2 l3 w
def wl_X1_layEating_9 (Q : Wd → Prop) (R9 : Int32 → Wd → Prop) (l1 : Int32) (w : Wd) : Prop := wp_X1_boxMany w (fun r1 w2 => (((iz 1) <<< (r1 &&& 31)) ≤ l1 → Q w2) ∧ (¬ ((iz 1) <<< (r1 &&& 31)) ≤ l1 → ∃ n3, lp_X1_layEating_23 Q R9 l1 n3 (iz (-1)) (iz 0) w2))
def lp_X1_layEating_9 (Q : Wd → Prop) : Nat → Int32 → Wd → Prop
  | 0, _, _ => False
  | n + 1, l1, w => wl_X1_layEating_9 Q (lp_X1_layEating_9 Q n) l1 w
def wp_X1_layEating (w : Wd) (Q : Wd → Prop) : Prop := inb (iz 0) 256 ∧ (∀ w1, w1 = sA w 36 (iz 0).toInt (iz 0) → ∃ n2, lp_X1_layEating_9 Q n2 (iz 1) w1)
set_option maxRecDepth 100000 in
set_option maxHeartbeats 4000000 in
theorem sl_X1_layEating_23 {γ : GG} (Q : Wd → Prop) (R9 : Int32 → Wd → Prop) (l1 : Int32) (hR9 : ∀ (l1 : Int32) (w : Wd), R9 l1 w → Rch γ 97 k_X1_layEating 9 [some (.ref 1), some (.int l1), none, none] [] w (qV Q) xN) : ∀ (n : Nat) (l2 : Int32) (l3 : Int32) (w : Wd), lp_X1_layEating_23 Q R9 l1 n l2 l3 w → Rch γ 97 k_X1_layEating 23 [some (.ref 1), some (.int l1), some (.int l2), some (.int l3)] [] w (qV Q) xN := by
  intro n
  induction n with
  | zero => intro _ _ _ h; exact h.elim
  | succ n hR23 =>
    intro l2 l3 w h
    have h : wl_X1_layEating_23 Q R9 l1 (lp_X1_layEating_23 Q R9 l1 n) l2 l3 w := h
    unfold wl_X1_layEating_23 at h
    refine R.iload_n 24 dX1_layEating_23 rfl rfl ?_
    refine R.aload_n 25 dX1_layEating_24 rfl rfl ?_
    refine Rch.callv (sd_X1_boxMany _ _ h) dX1_layEating_25 (lw_V q773 q775 qs31 q142 q776) dk_X1_boxMany rcX (by decide) (Nat.le_of_ble_eq_true rfl) rfl rfl (Nat.le_of_ble_eq_true rfl) (kI 28 rfl fun r1 w2 h => ?_) kN
    refine R.icmp_ge 69 31 dX1_layEating_28 (by decide) rfl (fun hc => ?_) (fun hc => ?_)
    · replace h := h.1 hc
      refine R.aload_n 70 dX1_layEating_69 rfl rfl ?_
      refine gf_36 73 dX1_layEating_70 rfl rfl ?_
      refine R.iload_n 74 dX1_layEating_73 rfl rfl ?_
      refine R.iload_n 75 dX1_layEating_74 rfl rfl ?_
      obtain ⟨hb, h⟩ := h
      replace h := h _ rfl
      refine R.iast ar_36 76 dX1_layEating_75 rfl hb ?_
      refine R.inc1 79 dX1_layEating_76 rfl (Nat.le_of_ble_eq_true rfl) rfl ?_
      refine R.goto 9 dX1_layEating_79 (by decide) ?_
      exact Rch.dropk (hR9 _ _ h) ⟨rfl, ⟨rfl, trivial⟩⟩
    · replace h := h.2 hc
      refine R.iload_n 32 dX1_layEating_31 rfl rfl ?_
      refine R.iload_n 33 dX1_layEating_32 rfl rfl ?_
      refine Rch.calls (sd_X1_has _ _ _ _ h) dX1_layEating_33 (lw_S q687 q688 q142 q689) dk_X1_has (by decide) (Nat.le_of_ble_eq_true rfl) rfl rfl (Nat.le_of_ble_eq_true rfl) (kI 36 rfl fun r4 w5 h => ?_) kN
      refine R.if_eq 63 39 dX1_layEating_36 (by decide) rfl (fun hc => ?_) (fun hc => ?_)
      · replace h := h.1 hc
        refine R.inc3 66 dX1_layEating_63 rfl (Nat.le_of_ble_eq_true rfl) rfl ?_
        refine R.goto 23 dX1_layEating_66 (by decide) ?_
        exact Rch.dropk (hR23 _ _ _ h) ⟨rfl, ⟨rfl, ⟨rfl, ⟨rfl, trivial⟩⟩⟩⟩
      · replace h := h.2 hc
        refine R.iload_n 40 dX1_layEating_39 rfl rfl ?_
        refine R.aload_n 41 dX1_layEating_40 rfl rfl ?_
        refine R.iload_n 42 dX1_layEating_41 rfl rfl ?_
        refine R.iload_n 43 dX1_layEating_42 rfl rfl ?_
        refine Rch.callv (sd_X1_eatenNow _ _ _ _ h) dX1_layEating_43 (lw_V q1027 q1029 qs63 q142 q1030) dk_X1_eatenNow rcX (by decide) (Nat.le_of_ble_eq_true rfl) rfl rfl (Nat.le_of_ble_eq_true rfl) (kI 46 rfl fun r6 w7 h => ?_) kN
        refine R.aload_n 47 dX1_layEating_46 rfl rfl ?_
        refine gf_36 50 dX1_layEating_47 rfl rfl ?_
        refine R.iload_n 51 dX1_layEating_50 rfl rfl ?_
        refine R.iconst 52 dX1_layEating_51 rfl ?_
        refine R.iload_n 53 dX1_layEating_52 rfl rfl ?_
        refine R.ishl 54 dX1_layEating_53 rfl ?_
        refine R.iconst 55 dX1_layEating_54 rfl ?_
        refine R.ixor 56 dX1_layEating_55 rfl ?_
        refine R.iand 57 dX1_layEating_56 rfl ?_
        obtain ⟨hb, h⟩ := h
        refine R.iald ar_36 58 dX1_layEating_57 rfl hb ?_
        refine R.iadd 59 dX1_layEating_58 rfl ?_
        refine R.mmax 62 dX1_layEating_59 rfl q830 q424 q149 q425 (by omega) (Nat.le_of_ble_eq_true rfl) ?_
        refine R.ist2n 63 dX1_layEating_62 rfl (Nat.le_of_ble_eq_true rfl) rfl ?_
        refine R.inc3 66 dX1_layEating_63 rfl (Nat.le_of_ble_eq_true rfl) rfl ?_
        refine R.goto 23 dX1_layEating_66 (by decide) ?_
        exact Rch.dropk (hR23 _ _ _ h) ⟨rfl, ⟨rfl, ⟨rfl, ⟨rfl, trivial⟩⟩⟩⟩
set_option maxRecDepth 100000 in
set_option maxHeartbeats 4000000 in
theorem sl_X1_layEating_9 {γ : GG} (Q : Wd → Prop) : ∀ (n : Nat) (l1 : Int32) (w : Wd), lp_X1_layEating_9 Q n l1 w → Rch γ 97 k_X1_layEating 9 [some (.ref 1), some (.int l1), none, none] [] w (qV Q) xN := by
  intro n
  induction n with
  | zero => intro _ _ h; exact h.elim
  | succ n hR9 =>
    intro l1 w h
    have h : wl_X1_layEating_9 Q (lp_X1_layEating_9 Q n) l1 w := h
    unfold wl_X1_layEating_9 at h
    refine R.iload_n 10 dX1_layEating_9 rfl rfl ?_
    refine R.iconst 11 dX1_layEating_10 rfl ?_
    refine R.aload_n 12 dX1_layEating_11 rfl rfl ?_
    refine Rch.callv (sd_X1_boxMany _ _ h) dX1_layEating_12 (lw_V q773 q775 qs31 q142 q776) dk_X1_boxMany rcX (by decide) (Nat.le_of_ble_eq_true rfl) rfl rfl (Nat.le_of_ble_eq_true rfl) (kI 15 rfl fun r1 w2 h => ?_) kN
    refine R.ishl 16 dX1_layEating_15 rfl ?_
    refine R.icmp_ge 82 19 dX1_layEating_16 (by decide) rfl (fun hc => ?_) (fun hc => ?_)
    · replace h := h.1 hc
      exact R.retV dX1_layEating_82 rfl h
    · replace h := h.2 hc
      refine R.iconst 20 dX1_layEating_19 rfl ?_
      refine R.ist2n 21 dX1_layEating_20 rfl (Nat.le_of_ble_eq_true rfl) rfl ?_
      refine R.iconst 22 dX1_layEating_21 rfl ?_
      refine R.ist3n 23 dX1_layEating_22 rfl (Nat.le_of_ble_eq_true rfl) rfl ?_
      obtain ⟨n3, h⟩ := h
      exact Rch.dropk (sl_X1_layEating_23 Q _ _ hR9 n3 _ _ _ h) ⟨rfl, ⟨rfl, ⟨rfl, ⟨rfl, trivial⟩⟩⟩⟩
set_option maxRecDepth 100000 in
set_option maxHeartbeats 4000000 in
theorem sd_X1_layEating {γ : GG} (w : Wd) (Q : Wd → Prop) : wp_X1_layEating w Q → Ctr γ 97 yX1_layEating (ws_ yX1_layEating cX1_layEating 4 none) [.ref 1] w (qV Q) xN := by
  intro h
  unfold wp_X1_layEating at h
  refine Ctr.of (μ := k_X1_layEating) (by decide) rfl rfl rfl (Nat.le_of_ble_eq_true rfl) ⟨3, ?_⟩
  have es : lva [.ref 1] ++ List.replicate 3 none = [some (.ref 1), none, none, none] := rfl
  rw [es]
  refine R.aload_n 1 dX1_layEating_0 rfl rfl ?_
  refine gf_36 4 dX1_layEating_1 rfl rfl ?_
  refine R.iconst 5 dX1_layEating_4 rfl ?_
  refine R.iconst 6 dX1_layEating_5 rfl ?_
  obtain ⟨hb, h⟩ := h
  replace h := h _ rfl
  refine R.iast ar_36 7 dX1_layEating_6 rfl hb ?_
  refine R.iconst 8 dX1_layEating_7 rfl ?_
  refine R.ist1n 9 dX1_layEating_8 rfl (Nat.le_of_ble_eq_true rfl) rfl ?_
  obtain ⟨n2, h⟩ := h
  exact Rch.dropk (sl_X1_layEating_9 Q n2 _ _ h) ⟨rfl, ⟨rfl, trivial⟩⟩

abbrev k_X1_eatingRow : MK := ("FrostBox", cX1_eatingRow, 4, (some .int), [], "eatingRow")
def wl_X1_eatingRow_17 (Q : Int32 → Wd → Prop) (R11 : Int32 → Int32 → Wd → Prop) (l1 : Int32) (l2 : Int32) (R17 : Int32 → Wd → Prop) (l3 : Int32) (w : Wd) : Prop := wp_X1_has l2 l3 w (fun r1 w2 => (r1 = iz 0 → R17 (l3 + iz 1) w2) ∧ (¬ r1 = iz 0 → wp_X1_eatenNow l3 l2 w2 (fun r3 w4 => inb (l2 &&& (((iz 1) <<< (l3 &&& 31)) ^^^ (iz (-1)))) 256 ∧ inb l2 256 ∧ ((r3 + (gA w4 36 (l2 &&& (((iz 1) <<< (l3 &&& 31)) ^^^ (iz (-1)))).toInt)) = (gA w4 36 l2.toInt) → R11 (((iz 10) * l1) + l3) (l2 &&& (((iz 1) <<< (l3 &&& 31)) ^^^ (iz (-1)))) w4) ∧ (¬ (r3 + (gA w4 36 (l2 &&& (((iz 1) <<< (l3 &&& 31)) ^^^ (iz (-1)))).toInt)) = (gA w4 36 l2.toInt) → R17 (l3 + iz 1) w4))))
def lp_X1_eatingRow_17 (Q : Int32 → Wd → Prop) (R11 : Int32 → Int32 → Wd → Prop) (l1 : Int32) (l2 : Int32) : Nat → Int32 → Wd → Prop
  | 0, _, _ => False
  | n + 1, l3, w => wl_X1_eatingRow_17 Q R11 l1 l2 (lp_X1_eatingRow_17 Q R11 l1 l2 n) l3 w
def wl_X1_eatingRow_11 (Q : Int32 → Wd → Prop) (R11 : Int32 → Int32 → Wd → Prop) (l1 : Int32) (l2 : Int32) (w : Wd) : Prop := (l2 = iz 0 → Q l1 w) ∧ (¬ l2 = iz 0 → ∃ n1, lp_X1_eatingRow_17 Q R11 l1 l2 n1 (iz 0) w)
def lp_X1_eatingRow_11 (Q : Int32 → Wd → Prop) : Nat → Int32 → Int32 → Wd → Prop
  | 0, _, _, _ => False
  | n + 1, l1, l2, w => wl_X1_eatingRow_11 Q (lp_X1_eatingRow_11 Q n) l1 l2 w
def wp_X1_eatingRow (w : Wd) (Q : Int32 → Wd → Prop) : Prop := wp_X1_boxMany w (fun r1 w2 => ∃ n3, lp_X1_eatingRow_11 Q n3 (iz 0) (((iz 1) <<< (r1 &&& 31)) - (iz 1)) w2)
set_option maxRecDepth 100000 in
set_option maxHeartbeats 4000000 in
theorem sl_X1_eatingRow_17 {γ : GG} (Q : Int32 → Wd → Prop) (R11 : Int32 → Int32 → Wd → Prop) (l1 : Int32) (l2 : Int32) (hR11 : ∀ (l1 : Int32) (l2 : Int32) (w : Wd), R11 l1 l2 w → Rch γ 97 k_X1_eatingRow 11 [some (.ref 1), some (.int l1), some (.int l2), none] [] w (qI Q) xN) : ∀ (n : Nat) (l3 : Int32) (w : Wd), lp_X1_eatingRow_17 Q R11 l1 l2 n l3 w → Rch γ 97 k_X1_eatingRow 17 [some (.ref 1), some (.int l1), some (.int l2), some (.int l3)] [] w (qI Q) xN := by
  intro n
  induction n with
  | zero => intro _ _ h; exact h.elim
  | succ n hR17 =>
    intro l3 w h
    have h : wl_X1_eatingRow_17 Q R11 l1 l2 (lp_X1_eatingRow_17 Q R11 l1 l2 n) l3 w := h
    unfold wl_X1_eatingRow_17 at h
    refine R.iload_n 18 dX1_eatingRow_17 rfl rfl ?_
    refine R.iload_n 19 dX1_eatingRow_18 rfl rfl ?_
    refine Rch.calls (sd_X1_has _ _ _ _ h) dX1_eatingRow_19 (lw_S q687 q688 q142 q689) dk_X1_has (by decide) (Nat.le_of_ble_eq_true rfl) rfl rfl (Nat.le_of_ble_eq_true rfl) (kI 22 rfl fun r1 w2 h => ?_) kN
    refine R.if_eq 53 25 dX1_eatingRow_22 (by decide) rfl (fun hc => ?_) (fun hc => ?_)
    · replace h := h.1 hc
      refine R.inc3 56 dX1_eatingRow_53 rfl (Nat.le_of_ble_eq_true rfl) rfl ?_
      refine R.goto 17 dX1_eatingRow_56 (by decide) ?_
      exact Rch.dropk (hR17 _ _ h) ⟨rfl, ⟨rfl, ⟨rfl, ⟨rfl, trivial⟩⟩⟩⟩
    · replace h := h.2 hc
      refine R.aload_n 26 dX1_eatingRow_25 rfl rfl ?_
      refine R.iload_n 27 dX1_eatingRow_26 rfl rfl ?_
      refine R.iload_n 28 dX1_eatingRow_27 rfl rfl ?_
      refine Rch.callv (sd_X1_eatenNow _ _ _ _ h) dX1_eatingRow_28 (lw_V q1027 q1029 qs63 q142 q1030) dk_X1_eatenNow rcX (by decide) (Nat.le_of_ble_eq_true rfl) rfl rfl (Nat.le_of_ble_eq_true rfl) (kI 31 rfl fun r3 w4 h => ?_) kN
      refine R.aload_n 32 dX1_eatingRow_31 rfl rfl ?_
      refine gf_36 35 dX1_eatingRow_32 rfl rfl ?_
      refine R.iload_n 36 dX1_eatingRow_35 rfl rfl ?_
      refine R.iconst 37 dX1_eatingRow_36 rfl ?_
      refine R.iload_n 38 dX1_eatingRow_37 rfl rfl ?_
      refine R.ishl 39 dX1_eatingRow_38 rfl ?_
      refine R.iconst 40 dX1_eatingRow_39 rfl ?_
      refine R.ixor 41 dX1_eatingRow_40 rfl ?_
      refine R.iand 42 dX1_eatingRow_41 rfl ?_
      obtain ⟨hb, h⟩ := h
      refine R.iald ar_36 43 dX1_eatingRow_42 rfl hb ?_
      refine R.iadd 44 dX1_eatingRow_43 rfl ?_
      refine R.aload_n 45 dX1_eatingRow_44 rfl rfl ?_
      refine gf_36 48 dX1_eatingRow_45 rfl rfl ?_
      refine R.iload_n 49 dX1_eatingRow_48 rfl rfl ?_
      obtain ⟨hb, h⟩ := h
      refine R.iald ar_36 50 dX1_eatingRow_49 rfl hb ?_
      refine R.icmp_eq 59 53 dX1_eatingRow_50 (by decide) rfl (fun hc => ?_) (fun hc => ?_)
      · replace h := h.1 hc
        refine R.bipush 61 dX1_eatingRow_59 rfl (by decide +kernel) ?_
        refine R.iload_n 62 dX1_eatingRow_61 rfl rfl ?_
        refine R.imul 63 dX1_eatingRow_62 rfl ?_
        refine R.iload_n 64 dX1_eatingRow_63 rfl rfl ?_
        refine R.iadd 65 dX1_eatingRow_64 rfl ?_
        refine R.ist1n 66 dX1_eatingRow_65 rfl (Nat.le_of_ble_eq_true rfl) rfl ?_
        refine R.iload_n 67 dX1_eatingRow_66 rfl rfl ?_
        refine R.iconst 68 dX1_eatingRow_67 rfl ?_
        refine R.iload_n 69 dX1_eatingRow_68 rfl rfl ?_
        refine R.ishl 70 dX1_eatingRow_69 rfl ?_
        refine R.iconst 71 dX1_eatingRow_70 rfl ?_
        refine R.ixor 72 dX1_eatingRow_71 rfl ?_
        refine R.iand 73 dX1_eatingRow_72 rfl ?_
        refine R.ist2n 74 dX1_eatingRow_73 rfl (Nat.le_of_ble_eq_true rfl) rfl ?_
        refine R.goto 11 dX1_eatingRow_74 (by decide) ?_
        exact Rch.dropk (hR11 _ _ _ h) ⟨rfl, ⟨rfl, ⟨rfl, trivial⟩⟩⟩
      · replace h := h.2 hc
        refine R.inc3 56 dX1_eatingRow_53 rfl (Nat.le_of_ble_eq_true rfl) rfl ?_
        refine R.goto 17 dX1_eatingRow_56 (by decide) ?_
        exact Rch.dropk (hR17 _ _ h) ⟨rfl, ⟨rfl, ⟨rfl, ⟨rfl, trivial⟩⟩⟩⟩
set_option maxRecDepth 100000 in
set_option maxHeartbeats 4000000 in
theorem sl_X1_eatingRow_11 {γ : GG} (Q : Int32 → Wd → Prop) : ∀ (n : Nat) (l1 : Int32) (l2 : Int32) (w : Wd), lp_X1_eatingRow_11 Q n l1 l2 w → Rch γ 97 k_X1_eatingRow 11 [some (.ref 1), some (.int l1), some (.int l2), none] [] w (qI Q) xN := by
  intro n
  induction n with
  | zero => intro _ _ _ h; exact h.elim
  | succ n hR11 =>
    intro l1 l2 w h
    have h : wl_X1_eatingRow_11 Q (lp_X1_eatingRow_11 Q n) l1 l2 w := h
    unfold wl_X1_eatingRow_11 at h
    refine R.iload_n 12 dX1_eatingRow_11 rfl rfl ?_
    refine R.if_eq 77 15 dX1_eatingRow_12 (by decide) rfl (fun hc => ?_) (fun hc => ?_)
    · replace h := h.1 hc
      refine R.iload_n 78 dX1_eatingRow_77 rfl rfl ?_
      exact R.retI dX1_eatingRow_78 rfl h
    · replace h := h.2 hc
      refine R.iconst 16 dX1_eatingRow_15 rfl ?_
      refine R.ist3n 17 dX1_eatingRow_16 rfl (Nat.le_of_ble_eq_true rfl) rfl ?_
      obtain ⟨n1, h⟩ := h
      exact Rch.dropk (sl_X1_eatingRow_17 Q _ _ _ hR11 n1 _ _ h) ⟨rfl, ⟨rfl, ⟨rfl, ⟨rfl, trivial⟩⟩⟩⟩
set_option maxRecDepth 100000 in
set_option maxHeartbeats 4000000 in
theorem sd_X1_eatingRow {γ : GG} (w : Wd) (Q : Int32 → Wd → Prop) : wp_X1_eatingRow w Q → Ctr γ 97 yX1_eatingRow (ws_ yX1_eatingRow cX1_eatingRow 4 (some .int)) [.ref 1] w (qI Q) xN := by
  intro h
  unfold wp_X1_eatingRow at h
  refine Ctr.of (μ := k_X1_eatingRow) (by decide) rfl rfl rfl (Nat.le_of_ble_eq_true rfl) ⟨3, ?_⟩
  have es : lva [.ref 1] ++ List.replicate 3 none = [some (.ref 1), none, none, none] := rfl
  rw [es]
  refine R.iconst 1 dX1_eatingRow_0 rfl ?_
  refine R.ist1n 2 dX1_eatingRow_1 rfl (Nat.le_of_ble_eq_true rfl) rfl ?_
  refine R.iconst 3 dX1_eatingRow_2 rfl ?_
  refine R.aload_n 4 dX1_eatingRow_3 rfl rfl ?_
  refine Rch.callv (sd_X1_boxMany _ _ h) dX1_eatingRow_4 (lw_V q773 q775 qs31 q142 q776) dk_X1_boxMany rcX (by decide) (Nat.le_of_ble_eq_true rfl) rfl rfl (Nat.le_of_ble_eq_true rfl) (kI 7 rfl fun r1 w2 h => ?_) kN
  refine R.ishl 8 dX1_eatingRow_7 rfl ?_
  refine R.iconst 9 dX1_eatingRow_8 rfl ?_
  refine R.isub 10 dX1_eatingRow_9 rfl ?_
  refine R.ist2n 11 dX1_eatingRow_10 rfl (Nat.le_of_ble_eq_true rfl) rfl ?_
  obtain ⟨n3, h⟩ := h
  exact Rch.dropk (sl_X1_eatingRow_11 Q n3 _ _ _ h) ⟨rfl, ⟨rfl, ⟨rfl, trivial⟩⟩⟩

abbrev k_X1_eat : MK := ("FrostBox", cX1_eat, 2, (some .int), [], "eat")
def wp_X1_eat (l1 : Int32) (w : Wd) (Q : Int32 → Wd → Prop) : Prop := wp_X1_isHouse w (fun r1 w2 => (r1 = iz 0 → Q (iz (-1)) w2) ∧ (¬ r1 = iz 0 → wp_X1_in l1 (iz 0) (iz 3) w2 (fun r3 w4 => (¬ r3 = iz 0 → (l1 ≤ (iz 1) → wp_X1_layEating w4 (fun w6 => (¬ l1 = iz 0 → wp_X1_boxMany w6 (fun r7 w8 => inb (((iz 1) <<< (r7 &&& 31)) - (iz 1)) 256 ∧ Q (gA w8 36 (((iz 1) <<< (r7 &&& 31)) - (iz 1)).toInt) w8)) ∧ (l1 = iz 0 → wp_X1_eatingRow w6 (fun r9 w10 => Q r9 w10)))) ∧ (¬ l1 ≤ (iz 1) → (¬ l1 = (iz 3) → wp_X1_eatingFrom (iz 0) w4 (fun r11 w12 => Q r11 w12)) ∧ (l1 = (iz 3) → wp_X1_eatingFrom (iz 1) w4 (fun r13 w14 => Q r13 w14)))) ∧ (r3 = iz 0 → Q (iz (-1)) w4))))
set_option maxRecDepth 100000 in
set_option maxHeartbeats 4000000 in
theorem sd_X1_eat {γ : GG} (l1 : Int32) (w : Wd) (Q : Int32 → Wd → Prop) : wp_X1_eat l1 w Q → Ctr γ 98 yX1_eat (ws_ yX1_eat cX1_eat 2 (some .int)) [.ref 1, .int l1] w (qI Q) xN := by
  intro h
  unfold wp_X1_eat at h
  refine Ctr.of (μ := k_X1_eat) (by decide) rfl rfl rfl (Nat.le_of_ble_eq_true rfl) ⟨0, ?_⟩
  have es : lva [.ref 1, .int l1] ++ List.replicate 0 none = [some (.ref 1), some (.int l1)] := rfl
  rw [es]
  refine R.aload_n 1 dX1_eat_0 rfl rfl ?_
  refine Rch.callv (sd_X1_isHouse _ _ h) dX1_eat_1 (lw_V q737 q739 qs26 q142 q740) dk_X1_isHouse rcX (by decide) (Nat.le_of_ble_eq_true rfl) rfl rfl (Nat.le_of_ble_eq_true rfl) (kI 4 rfl fun r1 w2 h => ?_) kN
  refine R.if_eq 16 7 dX1_eat_4 (by decide) rfl (fun hc => ?_) (fun hc => ?_)
  · replace h := h.1 hc
    refine R.iconst 17 dX1_eat_16 rfl ?_
    exact R.retI dX1_eat_17 rfl h
  · replace h := h.2 hc
    refine R.iload_n 8 dX1_eat_7 rfl rfl ?_
    refine R.iconst 9 dX1_eat_8 rfl ?_
    refine R.iconst 10 dX1_eat_9 rfl ?_
    refine Rch.calls (sd_X1_in _ _ _ _ _ h) dX1_eat_10 (lw_S q700 q701 q142 q702) dk_X1_in (by decide) (Nat.le_of_ble_eq_true rfl) rfl rfl (Nat.le_of_ble_eq_true rfl) (kI 13 rfl fun r3 w4 h => ?_) kN
    refine R.if_ne 18 16 dX1_eat_13 (by decide) rfl (fun hc => ?_) (fun hc => ?_)
    · replace h := h.1 hc
      refine R.iload_n 19 dX1_eat_18 rfl rfl ?_
      refine R.iconst 20 dX1_eat_19 rfl ?_
      refine R.icmp_le 38 23 dX1_eat_20 (by decide) rfl (fun hc => ?_) (fun hc => ?_)
      · replace h := h.1 hc
        refine R.aload_n 39 dX1_eat_38 rfl rfl ?_
        refine Rch.callv (sd_X1_layEating _ _ h) dX1_eat_39 (lw_V q1041 q1043 qs65 q142 q1044) dk_X1_layEating rcX (by decide) (Nat.le_of_ble_eq_true rfl) rfl rfl (Nat.le_of_ble_eq_true rfl) (kV 42 rfl fun w6 h => ?_) kN
        refine R.iload_n 43 dX1_eat_42 rfl rfl ?_
        refine R.if_ne 53 46 dX1_eat_43 (by decide) rfl (fun hc => ?_) (fun hc => ?_)
        · replace h := h.1 hc
          refine R.aload_n 54 dX1_eat_53 rfl rfl ?_
          refine gf_36 57 dX1_eat_54 rfl rfl ?_
          refine R.iconst 58 dX1_eat_57 rfl ?_
          refine R.aload_n 59 dX1_eat_58 rfl rfl ?_
          refine Rch.callv (sd_X1_boxMany _ _ h) dX1_eat_59 (lw_V q773 q775 qs31 q142 q776) dk_X1_boxMany rcX (by decide) (Nat.le_of_ble_eq_true rfl) rfl rfl (Nat.le_of_ble_eq_true rfl) (kI 62 rfl fun r7 w8 h => ?_) kN
          refine R.ishl 63 dX1_eat_62 rfl ?_
          refine R.iconst 64 dX1_eat_63 rfl ?_
          refine R.isub 65 dX1_eat_64 rfl ?_
          obtain ⟨hb, h⟩ := h
          refine R.iald ar_36 66 dX1_eat_65 rfl hb ?_
          exact R.retI dX1_eat_66 rfl h
        · replace h := h.2 hc
          refine R.aload_n 47 dX1_eat_46 rfl rfl ?_
          refine Rch.callv (sd_X1_eatingRow _ _ h) dX1_eat_47 (lw_V q1045 q1047 qs66 q142 q1048) dk_X1_eatingRow rcX (by decide) (Nat.le_of_ble_eq_true rfl) rfl rfl (Nat.le_of_ble_eq_true rfl) (kI 50 rfl fun r9 w10 h => ?_) kN
          refine R.goto 66 dX1_eat_50 (by decide) ?_
          exact R.retI dX1_eat_66 rfl h
      · replace h := h.2 hc
        refine R.aload_n 24 dX1_eat_23 rfl rfl ?_
        refine R.iload_n 25 dX1_eat_24 rfl rfl ?_
        refine R.iconst 26 dX1_eat_25 rfl ?_
        refine R.icmp_ne 33 29 dX1_eat_26 (by decide) rfl (fun hc => ?_) (fun hc => ?_)
        · replace h := h.1 hc
          refine R.iconst 34 dX1_eat_33 rfl ?_
          refine Rch.callv (sd_X1_eatingFrom _ _ _ h) dX1_eat_34 (lw_V q1016 q1018 qs62 q142 q1019) dk_X1_eatingFrom rcX (by decide) (Nat.le_of_ble_eq_true rfl) rfl rfl (Nat.le_of_ble_eq_true rfl) (kI 37 rfl fun r11 w12 h => ?_) kN
          exact R.retI dX1_eat_37 rfl h
        · replace h := h.2 hc
          refine R.iconst 30 dX1_eat_29 rfl ?_
          refine R.goto 34 dX1_eat_30 (by decide) ?_
          refine Rch.callv (sd_X1_eatingFrom _ _ _ h) dX1_eat_34 (lw_V q1016 q1018 qs62 q142 q1019) dk_X1_eatingFrom rcX (by decide) (Nat.le_of_ble_eq_true rfl) rfl rfl (Nat.le_of_ble_eq_true rfl) (kI 37 rfl fun r13 w14 h => ?_) kN
          exact R.retI dX1_eat_37 rfl h
    · replace h := h.2 hc
      refine R.iconst 17 dX1_eat_16 rfl ?_
      exact R.retI dX1_eat_17 rfl h

abbrev k_X1_valueAll : MK := ("FrostBox", cX1_valueAll, 3, (some .int), [], "valueAll")
def wl_X1_valueAll_4 (Q : Int32 → Wd → Prop) (R4 : Int32 → Int32 → Wd → Prop) (l1 : Int32) (l2 : Int32) (w : Wd) : Prop := wp_X1_boxMany w (fun r1 w2 => (r1 ≤ l2 → Q l1 w2) ∧ (¬ r1 ≤ l2 → wp_X1_valueOf l2 w2 (fun r3 w4 => R4 (l1 + r3) (l2 + iz 1) w4)))
def lp_X1_valueAll_4 (Q : Int32 → Wd → Prop) : Nat → Int32 → Int32 → Wd → Prop
  | 0, _, _, _ => False
  | n + 1, l1, l2, w => wl_X1_valueAll_4 Q (lp_X1_valueAll_4 Q n) l1 l2 w
def wp_X1_valueAll (w : Wd) (Q : Int32 → Wd → Prop) : Prop := ∃ n1, lp_X1_valueAll_4 Q n1 (iz 0) (iz 0) w
set_option maxRecDepth 100000 in
set_option maxHeartbeats 4000000 in
theorem sl_X1_valueAll_4 {γ : GG} (Q : Int32 → Wd → Prop) : ∀ (n : Nat) (l1 : Int32) (l2 : Int32) (w : Wd), lp_X1_valueAll_4 Q n l1 l2 w → Rch γ 97 k_X1_valueAll 4 [some (.ref 1), some (.int l1), some (.int l2)] [] w (qI Q) xN := by
  intro n
  induction n with
  | zero => intro _ _ _ h; exact h.elim
  | succ n hR4 =>
    intro l1 l2 w h
    have h : wl_X1_valueAll_4 Q (lp_X1_valueAll_4 Q n) l1 l2 w := h
    unfold wl_X1_valueAll_4 at h
    refine R.iload_n 5 dX1_valueAll_4 rfl rfl ?_
    refine R.aload_n 6 dX1_valueAll_5 rfl rfl ?_
    refine Rch.callv (sd_X1_boxMany _ _ h) dX1_valueAll_6 (lw_V q773 q775 qs31 q142 q776) dk_X1_boxMany rcX (by decide) (Nat.le_of_ble_eq_true rfl) rfl rfl (Nat.le_of_ble_eq_true rfl) (kI 9 rfl fun r1 w2 h => ?_) kN
    refine R.icmp_ge 26 12 dX1_valueAll_9 (by decide) rfl (fun hc => ?_) (fun hc => ?_)
    · replace h := h.1 hc
      refine R.iload_n 27 dX1_valueAll_26 rfl rfl ?_
      exact R.retI dX1_valueAll_27 rfl h
    · replace h := h.2 hc
      refine R.iload_n 13 dX1_valueAll_12 rfl rfl ?_
      refine R.aload_n 14 dX1_valueAll_13 rfl rfl ?_
      refine R.iload_n 15 dX1_valueAll_14 rfl rfl ?_
      refine Rch.callv (sd_X1_valueOf _ _ _ h) dX1_valueAll_15 (lw_V q813 q815 qs40 q142 q816) dk_X1_valueOf rcX (by decide) (Nat.le_of_ble_eq_true rfl) rfl rfl (Nat.le_of_ble_eq_true rfl) (kI 18 rfl fun r3 w4 h => ?_) kN
      refine R.iadd 19 dX1_valueAll_18 rfl ?_
      refine R.ist1n 20 dX1_valueAll_19 rfl (Nat.le_of_ble_eq_true rfl) rfl ?_
      refine R.inc2 23 dX1_valueAll_20 rfl (Nat.le_of_ble_eq_true rfl) rfl ?_
      refine R.goto 4 dX1_valueAll_23 (by decide) ?_
      exact Rch.dropk (hR4 _ _ _ h) ⟨rfl, ⟨rfl, ⟨rfl, trivial⟩⟩⟩
set_option maxRecDepth 100000 in
set_option maxHeartbeats 4000000 in
theorem sd_X1_valueAll {γ : GG} (w : Wd) (Q : Int32 → Wd → Prop) : wp_X1_valueAll w Q → Ctr γ 97 yX1_valueAll (ws_ yX1_valueAll cX1_valueAll 3 (some .int)) [.ref 1] w (qI Q) xN := by
  intro h
  unfold wp_X1_valueAll at h
  refine Ctr.of (μ := k_X1_valueAll) (by decide) rfl rfl rfl (Nat.le_of_ble_eq_true rfl) ⟨2, ?_⟩
  have es : lva [.ref 1] ++ List.replicate 2 none = [some (.ref 1), none, none] := rfl
  rw [es]
  refine R.iconst 1 dX1_valueAll_0 rfl ?_
  refine R.ist1n 2 dX1_valueAll_1 rfl (Nat.le_of_ble_eq_true rfl) rfl ?_
  refine R.iconst 3 dX1_valueAll_2 rfl ?_
  refine R.ist2n 4 dX1_valueAll_3 rfl (Nat.le_of_ble_eq_true rfl) rfl ?_
  obtain ⟨n1, h⟩ := h
  exact Rch.dropk (sl_X1_valueAll_4 Q n1 _ _ _ h) ⟨rfl, ⟨rfl, ⟨rfl, trivial⟩⟩⟩

abbrev k_X1_costs : MK := ("FrostBox", cX1_costs, 4, (some .int), [], "costs")
def wp_X1_costs (l1 : Int32) (w : Wd) (Q : Int32 → Wd → Prop) : Prop := wp_X1_isOff l1 w (fun r1 w2 => (¬ r1 = iz 0 → wp_X1_valueAll w2 (fun r3 w4 => wp_X1_putAside w4 (fun w6 => wp_X1_tooMany l1 w6 (fun r7 w8 => wp_X1_older r7 w8 (fun w10 => wp_X1_valueAll w10 (fun r11 w12 => wp_X1_takeBack w12 (fun w14 => Q (r3 - r11) w14))))))) ∧ (r1 = iz 0 → Q (iz (-1)) w2))
set_option maxRecDepth 100000 in
set_option maxHeartbeats 4000000 in
theorem sd_X1_costs {γ : GG} (l1 : Int32) (w : Wd) (Q : Int32 → Wd → Prop) : wp_X1_costs l1 w Q → Ctr γ 98 yX1_costs (ws_ yX1_costs cX1_costs 4 (some .int)) [.ref 1, .int l1] w (qI Q) xN := by
  intro h
  unfold wp_X1_costs at h
  refine Ctr.of (μ := k_X1_costs) (by decide) rfl rfl rfl (Nat.le_of_ble_eq_true rfl) ⟨2, ?_⟩
  have es : lva [.ref 1, .int l1] ++ List.replicate 2 none = [some (.ref 1), some (.int l1), none, none] := rfl
  rw [es]
  refine R.aload_n 1 dX1_costs_0 rfl rfl ?_
  refine R.iload_n 2 dX1_costs_1 rfl rfl ?_
  refine Rch.callv (sd_X1_isOff _ _ _ h) dX1_costs_2 (lw_V q936 q938 qs51 q142 q939) dk_X1_isOff rcX (by decide) (Nat.le_of_ble_eq_true rfl) rfl rfl (Nat.le_of_ble_eq_true rfl) (kI 5 rfl fun r1 w2 h => ?_) kN
  refine R.if_ne 10 8 dX1_costs_5 (by decide) rfl (fun hc => ?_) (fun hc => ?_)
  · replace h := h.1 hc
    refine R.aload_n 11 dX1_costs_10 rfl rfl ?_
    refine Rch.callv (sd_X1_valueAll _ _ h) dX1_costs_11 (lw_V q1053 q1055 qs67 q142 q1056) dk_X1_valueAll rcX (by decide) (Nat.le_of_ble_eq_true rfl) rfl rfl (Nat.le_of_ble_eq_true rfl) (kI 14 rfl fun r3 w4 h => ?_) kN
    refine R.ist2n 15 dX1_costs_14 rfl (Nat.le_of_ble_eq_true rfl) rfl ?_
    refine R.aload_n 16 dX1_costs_15 rfl rfl ?_
    refine Rch.callv (sd_X1_putAside _ _ h) dX1_costs_16 (lw_V q975 q977 qs55 q142 q978) dk_X1_putAside rcX (by decide) (Nat.le_of_ble_eq_true rfl) rfl rfl (Nat.le_of_ble_eq_true rfl) (kV 19 rfl fun w6 h => ?_) kN
    refine R.aload_n 20 dX1_costs_19 rfl rfl ?_
    refine R.aload_n 21 dX1_costs_20 rfl rfl ?_
    refine R.iload_n 22 dX1_costs_21 rfl rfl ?_
    refine Rch.callv (sd_X1_tooMany _ _ _ h) dX1_costs_22 (lw_V q940 q942 qs52 q142 q943) dk_X1_tooMany rcX (by decide) (Nat.le_of_ble_eq_true rfl) rfl rfl (Nat.le_of_ble_eq_true rfl) (kI 25 rfl fun r7 w8 h => ?_) kN
    refine Rch.callv (sd_X1_older _ _ _ h) dX1_costs_25 (lw_V q928 q930 qs50 q142 q931) dk_X1_older rcX (by decide) (Nat.le_of_ble_eq_true rfl) rfl rfl (Nat.le_of_ble_eq_true rfl) (kV 28 rfl fun w10 h => ?_) kN
    refine R.iload_n 29 dX1_costs_28 rfl rfl ?_
    refine R.aload_n 30 dX1_costs_29 rfl rfl ?_
    refine Rch.callv (sd_X1_valueAll _ _ h) dX1_costs_30 (lw_V q1053 q1055 qs67 q142 q1056) dk_X1_valueAll rcX (by decide) (Nat.le_of_ble_eq_true rfl) rfl rfl (Nat.le_of_ble_eq_true rfl) (kI 33 rfl fun r11 w12 h => ?_) kN
    refine R.isub 34 dX1_costs_33 rfl ?_
    refine R.ist3n 35 dX1_costs_34 rfl (Nat.le_of_ble_eq_true rfl) rfl ?_
    refine R.aload_n 36 dX1_costs_35 rfl rfl ?_
    refine Rch.callv (sd_X1_takeBack _ _ h) dX1_costs_36 (lw_V q987 q989 qs58 q142 q990) dk_X1_takeBack rcX (by decide) (Nat.le_of_ble_eq_true rfl) rfl rfl (Nat.le_of_ble_eq_true rfl) (kV 39 rfl fun w14 h => ?_) kN
    refine R.iload_n 40 dX1_costs_39 rfl rfl ?_
    exact R.retI dX1_costs_40 rfl h
  · replace h := h.2 hc
    refine R.iconst 9 dX1_costs_8 rfl ?_
    exact R.retI dX1_costs_9 rfl h

abbrev k_X1_full : MK := ("FrostBox", cX1_full, 3, (some .int), [], "full")
def wl_X1_full_12 (Q : Int32 → Wd → Prop) (l1 : Int32) (R12 : Int32 → Wd → Prop) (l2 : Int32) (w : Wd) : Prop := inb (iz 0) 4 ∧ ((gA w 19 (iz 0).toInt) < l2 → Q (iz (-1)) w) ∧ (¬ (gA w 19 (iz 0).toInt) < l2 → inb (iz 1) 4 ∧ inb (iz 0) 4 ∧ (¬ (gA w 19 (iz 0).toInt) = 0) ∧ ((((gA w 19 (iz 1).toInt) * l2) / (gA w 19 (iz 0).toInt)) < l1 → R12 (l2 + iz 1) w) ∧ (¬ (((gA w 19 (iz 1).toInt) * l2) / (gA w 19 (iz 0).toInt)) < l1 → Q l2 w))
def lp_X1_full_12 (Q : Int32 → Wd → Prop) (l1 : Int32) : Nat → Int32 → Wd → Prop
  | 0, _, _ => False
  | n + 1, l2, w => wl_X1_full_12 Q l1 (lp_X1_full_12 Q l1 n) l2 w
def wp_X1_full (l1 : Int32) (w : Wd) (Q : Int32 → Wd → Prop) : Prop := wp_X1_isOff l1 w (fun r1 w2 => (¬ r1 = iz 0 → ∃ n3, lp_X1_full_12 Q l1 n3 (iz 0) w2) ∧ (r1 = iz 0 → Q (iz (-1)) w2))
set_option maxRecDepth 100000 in
set_option maxHeartbeats 4000000 in
theorem sl_X1_full_12 {γ : GG} (Q : Int32 → Wd → Prop) (l1 : Int32) : ∀ (n : Nat) (l2 : Int32) (w : Wd), lp_X1_full_12 Q l1 n l2 w → Rch γ 3 k_X1_full 12 [some (.ref 1), some (.int l1), some (.int l2)] [] w (qI Q) xN := by
  intro n
  induction n with
  | zero => intro _ _ h; exact h.elim
  | succ n hR12 =>
    intro l2 w h
    have h : wl_X1_full_12 Q l1 (lp_X1_full_12 Q l1 n) l2 w := h
    unfold wl_X1_full_12 at h
    refine R.iload_n 13 dX1_full_12 rfl rfl ?_
    refine R.aload_n 14 dX1_full_13 rfl rfl ?_
    refine gf_19 17 dX1_full_14 rfl rfl ?_
    refine R.iconst 18 dX1_full_17 rfl ?_
    obtain ⟨hb, h⟩ := h
    refine R.iald ar_19 19 dX1_full_18 rfl hb ?_
    refine R.icmp_gt 49 22 dX1_full_19 (by decide) rfl (fun hc => ?_) (fun hc => ?_)
    · replace h := h.1 hc
      refine R.iconst 50 dX1_full_49 rfl ?_
      exact R.retI dX1_full_50 rfl h
    · replace h := h.2 hc
      refine R.aload_n 23 dX1_full_22 rfl rfl ?_
      refine gf_19 26 dX1_full_23 rfl rfl ?_
      refine R.iconst 27 dX1_full_26 rfl ?_
      obtain ⟨hb, h⟩ := h
      refine R.iald ar_19 28 dX1_full_27 rfl hb ?_
      refine R.iload_n 29 dX1_full_28 rfl rfl ?_
      refine R.imul 30 dX1_full_29 rfl ?_
      refine R.aload_n 31 dX1_full_30 rfl rfl ?_
      refine gf_19 34 dX1_full_31 rfl rfl ?_
      refine R.iconst 35 dX1_full_34 rfl ?_
      obtain ⟨hb, h⟩ := h
      refine R.iald ar_19 36 dX1_full_35 rfl hb ?_
      obtain ⟨hz, h⟩ := h
      refine R.idiv 37 dX1_full_36 rfl hz ?_
      refine R.iload_n 38 dX1_full_37 rfl rfl ?_
      refine R.icmp_lt 43 41 dX1_full_38 (by decide) rfl (fun hc => ?_) (fun hc => ?_)
      · replace h := h.1 hc
        refine R.inc2 46 dX1_full_43 rfl (Nat.le_of_ble_eq_true rfl) rfl ?_
        refine R.goto 12 dX1_full_46 (by decide) ?_
        exact Rch.dropk (hR12 _ _ h) ⟨rfl, ⟨rfl, ⟨rfl, trivial⟩⟩⟩
      · replace h := h.2 hc
        refine R.iload_n 42 dX1_full_41 rfl rfl ?_
        exact R.retI dX1_full_42 rfl h
set_option maxRecDepth 100000 in
set_option maxHeartbeats 4000000 in
theorem sd_X1_full {γ : GG} (l1 : Int32) (w : Wd) (Q : Int32 → Wd → Prop) : wp_X1_full l1 w Q → Ctr γ 3 yX1_full (ws_ yX1_full cX1_full 3 (some .int)) [.ref 1, .int l1] w (qI Q) xN := by
  intro h
  unfold wp_X1_full at h
  refine Ctr.of (μ := k_X1_full) (by decide) rfl rfl rfl (Nat.le_of_ble_eq_true rfl) ⟨1, ?_⟩
  have es : lva [.ref 1, .int l1] ++ List.replicate 1 none = [some (.ref 1), some (.int l1), none] := rfl
  rw [es]
  refine R.aload_n 1 dX1_full_0 rfl rfl ?_
  refine R.iload_n 2 dX1_full_1 rfl rfl ?_
  refine Rch.callv (sd_X1_isOff _ _ _ h) dX1_full_2 (lw_V q936 q938 qs51 q142 q939) dk_X1_isOff rcX (by decide) (Nat.le_of_ble_eq_true rfl) rfl rfl (Nat.le_of_ble_eq_true rfl) (kI 5 rfl fun r1 w2 h => ?_) kN
  refine R.if_ne 10 8 dX1_full_5 (by decide) rfl (fun hc => ?_) (fun hc => ?_)
  · replace h := h.1 hc
    refine R.iconst 11 dX1_full_10 rfl ?_
    refine R.ist2n 12 dX1_full_11 rfl (Nat.le_of_ble_eq_true rfl) rfl ?_
    obtain ⟨n3, h⟩ := h
    exact Rch.dropk (sl_X1_full_12 Q _ n3 _ _ h) ⟨rfl, ⟨rfl, ⟨rfl, trivial⟩⟩⟩
  · replace h := h.2 hc
    refine R.iconst 9 dX1_full_8 rfl ?_
    exact R.retI dX1_full_9 rfl h

abbrev k_X1_keep : MK := ("FrostBox", cX1_keep, 6, (some .int), [], "keep")
def wl_X1_keep_32 (Q : Int32 → Wd → Prop) (l2 : Int32) (l3 : Int32) (R32 : Int32 → Int32 → Wd → Prop) (l4 : Int32) (l5 : Int32) (w : Wd) : Prop := wp_X1_boxMany w (fun r1 w2 => (r1 ≤ l5 → Q l4 w2) ∧ (¬ r1 ≤ l5 → wp_X1_aged l5 l3 w2 (fun r3 w4 => wp_X1_turned l5 w4 (fun r5 w6 => inb (iz 33) 275 ∧ wp_X1_worthAt l5 r3 r5 (gA w6 31 (iz 33).toInt) w6 (fun r7 w8 => (r7 < l2 → R32 l4 (l5 + iz 1) w8) ∧ (¬ r7 < l2 → R32 (l4 ||| ((iz 1) <<< (l5 &&& 31))) (l5 + iz 1) w8))))))
def lp_X1_keep_32 (Q : Int32 → Wd → Prop) (l2 : Int32) (l3 : Int32) : Nat → Int32 → Int32 → Wd → Prop
  | 0, _, _, _ => False
  | n + 1, l4, l5, w => wl_X1_keep_32 Q l2 l3 (lp_X1_keep_32 Q l2 l3 n) l4 l5 w
def wp_X1_keep (l1 : Int32) (l2 : Int32) (w : Wd) (Q : Int32 → Wd → Prop) : Prop := wp_X1_isOff l1 w (fun r1 w2 => (r1 = iz 0 → Q (iz (-1)) w2) ∧ (¬ r1 = iz 0 → wp_X1_in l2 (iz 0) (iz 9) w2 (fun r3 w4 => (¬ r3 = iz 0 → wp_X1_tooMany l1 w4 (fun r5 w6 => ∃ n7, lp_X1_keep_32 Q l2 r5 n7 (iz 0) (iz 0) w6)) ∧ (r3 = iz 0 → Q (iz (-1)) w4))))
set_option maxRecDepth 100000 in
set_option maxHeartbeats 4000000 in
theorem sl_X1_keep_32 {γ : GG} (Q : Int32 → Wd → Prop) (l2 : Int32) (l3 : Int32) : ∀ (n : Nat) (l4 : Int32) (l5 : Int32) (w : Wd), lp_X1_keep_32 Q l2 l3 n l4 l5 w → Rch γ 95 k_X1_keep 32 [some (.ref 1), none, some (.int l2), some (.int l3), some (.int l4), some (.int l5)] [] w (qI Q) xN := by
  intro n
  induction n with
  | zero => intro _ _ _ h; exact h.elim
  | succ n hR32 =>
    intro l4 l5 w h
    have h : wl_X1_keep_32 Q l2 l3 (lp_X1_keep_32 Q l2 l3 n) l4 l5 w := h
    unfold wl_X1_keep_32 at h
    refine R.iload 34 dX1_keep_32 rfl rfl ?_
    refine R.aload_n 35 dX1_keep_34 rfl rfl ?_
    refine Rch.callv (sd_X1_boxMany _ _ h) dX1_keep_35 (lw_V q773 q775 qs31 q142 q776) dk_X1_boxMany rcX (by decide) (Nat.le_of_ble_eq_true rfl) rfl rfl (Nat.le_of_ble_eq_true rfl) (kI 38 rfl fun r1 w2 h => ?_) kN
    refine R.icmp_ge 86 41 dX1_keep_38 (by decide) rfl (fun hc => ?_) (fun hc => ?_)
    · replace h := h.1 hc
      refine R.iload 88 dX1_keep_86 rfl rfl ?_
      exact R.retI dX1_keep_88 rfl h
    · replace h := h.2 hc
      refine R.aload_n 42 dX1_keep_41 rfl rfl ?_
      refine R.iload 44 dX1_keep_42 rfl rfl ?_
      refine R.aload_n 45 dX1_keep_44 rfl rfl ?_
      refine R.iload 47 dX1_keep_45 rfl rfl ?_
      refine R.iload_n 48 dX1_keep_47 rfl rfl ?_
      refine Rch.callv (sd_X1_aged _ _ _ _ h) dX1_keep_48 (lw_V q821 q823 qs42 q142 q824) dk_X1_aged rcX (by decide) (Nat.le_of_ble_eq_true rfl) rfl rfl (Nat.le_of_ble_eq_true rfl) (kI 51 rfl fun r3 w4 h => ?_) kN
      refine R.aload_n 52 dX1_keep_51 rfl rfl ?_
      refine R.iload 54 dX1_keep_52 rfl rfl ?_
      refine Rch.callv (sd_X1_turned _ _ _ h) dX1_keep_54 (lw_V q789 q791 qs35 q142 q792) dk_X1_turned rcX (by decide) (Nat.le_of_ble_eq_true rfl) rfl rfl (Nat.le_of_ble_eq_true rfl) (kI 57 rfl fun r5 w6 h => ?_) kN
      refine R.aload_n 58 dX1_keep_57 rfl rfl ?_
      refine gf_31 61 dX1_keep_58 rfl rfl ?_
      refine R.bipush 63 dX1_keep_61 rfl (by decide +kernel) ?_
      obtain ⟨hb, h⟩ := h
      refine R.iald ar_31 64 dX1_keep_63 rfl hb ?_
      refine Rch.callv (sd_X1_worthAt _ _ _ _ _ _ h) dX1_keep_64 (lw_V q826 q828 qs43 q142 q829) dk_X1_worthAt rcX (by decide) (Nat.le_of_ble_eq_true rfl) rfl rfl (Nat.le_of_ble_eq_true rfl) (kI 67 rfl fun r7 w8 h => ?_) kN
      refine R.iload_n 68 dX1_keep_67 rfl rfl ?_
      refine R.icmp_lt 80 71 dX1_keep_68 (by decide) rfl (fun hc => ?_) (fun hc => ?_)
      · replace h := h.1 hc
        refine R.inc5 83 dX1_keep_80 rfl (Nat.le_of_ble_eq_true rfl) rfl ?_
        refine R.goto 32 dX1_keep_83 (by decide) ?_
        exact Rch.dropk (hR32 _ _ _ h) ⟨rfl, ⟨rfl, ⟨rfl, ⟨rfl, ⟨rfl, trivial⟩⟩⟩⟩⟩
      · replace h := h.2 hc
        refine R.iload 73 dX1_keep_71 rfl rfl ?_
        refine R.iconst 74 dX1_keep_73 rfl ?_
        refine R.iload 76 dX1_keep_74 rfl rfl ?_
        refine R.ishl 77 dX1_keep_76 rfl ?_
        refine R.ior 78 dX1_keep_77 rfl ?_
        refine R.ist4 80 dX1_keep_78 rfl (Nat.le_of_ble_eq_true rfl) rfl ?_
        refine R.inc5 83 dX1_keep_80 rfl (Nat.le_of_ble_eq_true rfl) rfl ?_
        refine R.goto 32 dX1_keep_83 (by decide) ?_
        exact Rch.dropk (hR32 _ _ _ h) ⟨rfl, ⟨rfl, ⟨rfl, ⟨rfl, ⟨rfl, trivial⟩⟩⟩⟩⟩
set_option maxRecDepth 100000 in
set_option maxHeartbeats 4000000 in
theorem sd_X1_keep {γ : GG} (l1 : Int32) (l2 : Int32) (w : Wd) (Q : Int32 → Wd → Prop) : wp_X1_keep l1 l2 w Q → Ctr γ 95 yX1_keep (ws_ yX1_keep cX1_keep 6 (some .int)) [.ref 1, .int l1, .int l2] w (qI Q) xN := by
  intro h
  unfold wp_X1_keep at h
  refine Ctr.of (μ := k_X1_keep) (by decide) rfl rfl rfl (Nat.le_of_ble_eq_true rfl) ⟨3, ?_⟩
  have es : lva [.ref 1, .int l1, .int l2] ++ List.replicate 3 none = [some (.ref 1), some (.int l1), some (.int l2), none, none, none] := rfl
  rw [es]
  refine R.aload_n 1 dX1_keep_0 rfl rfl ?_
  refine R.iload_n 2 dX1_keep_1 rfl rfl ?_
  refine Rch.callv (sd_X1_isOff _ _ _ h) dX1_keep_2 (lw_V q936 q938 qs51 q142 q939) dk_X1_isOff rcX (by decide) (Nat.le_of_ble_eq_true rfl) rfl rfl (Nat.le_of_ble_eq_true rfl) (kI 5 rfl fun r1 w2 h => ?_) kN
  refine R.if_eq 18 8 dX1_keep_5 (by decide) rfl (fun hc => ?_) (fun hc => ?_)
  · replace h := h.1 hc
    refine R.iconst 19 dX1_keep_18 rfl ?_
    exact R.retI dX1_keep_19 rfl h
  · replace h := h.2 hc
    refine R.iload_n 9 dX1_keep_8 rfl rfl ?_
    refine R.iconst 10 dX1_keep_9 rfl ?_
    refine R.bipush 12 dX1_keep_10 rfl (by decide +kernel) ?_
    refine Rch.calls (sd_X1_in _ _ _ _ _ h) dX1_keep_12 (lw_S q700 q701 q142 q702) dk_X1_in (by decide) (Nat.le_of_ble_eq_true rfl) rfl rfl (Nat.le_of_ble_eq_true rfl) (kI 15 rfl fun r3 w4 h => ?_) kN
    refine R.if_ne 20 18 dX1_keep_15 (by decide) rfl (fun hc => ?_) (fun hc => ?_)
    · replace h := h.1 hc
      refine R.aload_n 21 dX1_keep_20 rfl rfl ?_
      refine R.iload_n 22 dX1_keep_21 rfl rfl ?_
      refine Rch.callv (sd_X1_tooMany _ _ _ h) dX1_keep_22 (lw_V q940 q942 qs52 q142 q943) dk_X1_tooMany rcX (by decide) (Nat.le_of_ble_eq_true rfl) rfl rfl (Nat.le_of_ble_eq_true rfl) (kI 25 rfl fun r5 w6 h => ?_) kN
      refine R.ist3n 26 dX1_keep_25 rfl (Nat.le_of_ble_eq_true rfl) rfl ?_
      refine R.iconst 27 dX1_keep_26 rfl ?_
      refine R.ist4 29 dX1_keep_27 rfl (Nat.le_of_ble_eq_true rfl) rfl ?_
      refine R.iconst 30 dX1_keep_29 rfl ?_
      refine R.ist5 32 dX1_keep_30 rfl (Nat.le_of_ble_eq_true rfl) rfl ?_
      obtain ⟨n7, h⟩ := h
      exact Rch.dropk (sl_X1_keep_32 Q _ _ n7 _ _ _ h) ⟨rfl, ⟨rfl, ⟨rfl, ⟨rfl, ⟨rfl, trivial⟩⟩⟩⟩⟩
    · replace h := h.2 hc
      refine R.iconst 19 dX1_keep_18 rfl ?_
      exact R.retI dX1_keep_19 rfl h

abbrev k_X1_weighs : MK := ("FrostBox", cX1_weighs, 2, (some .int), [], "weighs")
def wp_X1_weighs (l1 : Int32) (w : Wd) (Q : Int32 → Wd → Prop) : Prop := wp_X1_of l1 (iz 1) w (fun r1 w2 => wp_X1_of l1 (iz 0) w2 (fun r3 w4 => wp_X1_ofKind r3 (iz 1) w4 (fun r5 w6 => Q (r1 * r5) w6)))
set_option maxRecDepth 100000 in
set_option maxHeartbeats 4000000 in
theorem sd_X1_weighs {γ : GG} (l1 : Int32) (w : Wd) (Q : Int32 → Wd → Prop) : wp_X1_weighs l1 w Q → Ctr γ 4 yX1_weighs (ws_ yX1_weighs cX1_weighs 2 (some .int)) [.ref 1, .int l1] w (qI Q) xN := by
  intro h
  unfold wp_X1_weighs at h
  refine Ctr.of (μ := k_X1_weighs) (by decide) rfl rfl rfl (Nat.le_of_ble_eq_true rfl) ⟨0, ?_⟩
  have es : lva [.ref 1, .int l1] ++ List.replicate 0 none = [some (.ref 1), some (.int l1)] := rfl
  rw [es]
  refine R.aload_n 1 dX1_weighs_0 rfl rfl ?_
  refine R.iload_n 2 dX1_weighs_1 rfl rfl ?_
  refine R.iconst 3 dX1_weighs_2 rfl ?_
  refine Rch.callv (sd_X1_of _ _ _ _ h) dX1_weighs_3 (lw_V q785 q787 qs34 q142 q788) dk_X1_of rcX (by decide) (Nat.le_of_ble_eq_true rfl) rfl rfl (Nat.le_of_ble_eq_true rfl) (kI 6 rfl fun r1 w2 h => ?_) kN
  refine R.aload_n 7 dX1_weighs_6 rfl rfl ?_
  refine R.aload_n 8 dX1_weighs_7 rfl rfl ?_
  refine R.iload_n 9 dX1_weighs_8 rfl rfl ?_
  refine R.iconst 10 dX1_weighs_9 rfl ?_
  refine Rch.callv (sd_X1_of _ _ _ _ h) dX1_weighs_10 (lw_V q785 q787 qs34 q142 q788) dk_X1_of rcX (by decide) (Nat.le_of_ble_eq_true rfl) rfl rfl (Nat.le_of_ble_eq_true rfl) (kI 13 rfl fun r3 w4 h => ?_) kN
  refine R.iconst 14 dX1_weighs_13 rfl ?_
  refine Rch.callv (sd_X1_ofKind _ _ _ _ h) dX1_weighs_14 (lw_V q753 q755 qs29 q142 q756) dk_X1_ofKind rcX (by decide) (Nat.le_of_ble_eq_true rfl) rfl rfl (Nat.le_of_ble_eq_true rfl) (kI 17 rfl fun r5 w6 h => ?_) kN
  refine R.imul 18 dX1_weighs_17 rfl ?_
  exact R.retI dX1_weighs_18 rfl h

abbrev k_X1_couldHold : MK := ("FrostBox", cX1_couldHold, 5, (some .int), [], "couldHold")
def b_X1_couldHold_48 (Q : Int32 → Wd → Prop) (l1 : Int32) (l2 : Int32) (t0 : Int32) (w : Wd) : Prop := wp_X1_weighs l1 w (fun r1 w2 => wp_X1_ofKind l2 (iz 1) w2 (fun r3 w4 => (¬ r3 = 0) ∧ (t0 = iz 0 → Q (iz 0) w4) ∧ (¬ t0 = iz 0 → wp_X1_in (r1 / r3) (iz 1) (iz 9) w4 (fun r5 w6 => (r5 = iz 0 → Q (iz 0) w6) ∧ (¬ r5 = iz 0 → Q (r1 / r3) w6)))))
def wp_X1_couldHold (l1 : Int32) (l2 : Int32) (w : Wd) (Q : Int32 → Wd → Prop) : Prop := wp_X1_isLabelled l1 w (fun r1 w2 => (¬ r1 = iz 0 → b_X1_couldHold_48 Q l1 l2 (iz 0) w2) ∧ (r1 = iz 0 → wp_X1_of l1 (iz 0) w2 (fun r3 w4 => wp_X1_ofKind r3 (iz 0) w4 (fun r5 w6 => wp_X1_ofKind l2 (iz 0) w6 (fun r7 w8 => (¬ r5 = r7 → b_X1_couldHold_48 Q l1 l2 (iz 0) w8) ∧ (r5 = r7 → wp_X1_weighs l1 w8 (fun r9 w10 => wp_X1_ofKind l2 (iz 1) w10 (fun r11 w12 => (¬ r11 = 0) ∧ (¬ (r9 - r9 / r11 * r11) = iz 0 → b_X1_couldHold_48 Q l1 l2 (iz 0) w12) ∧ ((r9 - r9 / r11 * r11) = iz 0 → b_X1_couldHold_48 Q l1 l2 (iz 1) w12)))))))))
set_option maxRecDepth 100000 in
set_option maxHeartbeats 4000000 in
theorem s_X1_couldHold_48 {γ : GG} (Q : Int32 → Wd → Prop) (l1 : Int32) (l2 : Int32) (t0 : Int32) : ∀ (w : Wd), b_X1_couldHold_48 Q l1 l2 t0 w → Rch γ 5 k_X1_couldHold 48 [some (.ref 1), some (.int l1), some (.int l2), none, none] [.int t0] w (qI Q) xN := by
  intro w h
  unfold b_X1_couldHold_48 at h
  refine R.ist3n 49 dX1_couldHold_48 rfl (Nat.le_of_ble_eq_true rfl) rfl ?_
  refine R.aload_n 50 dX1_couldHold_49 rfl rfl ?_
  refine R.iload_n 51 dX1_couldHold_50 rfl rfl ?_
  refine Rch.callv (sd_X1_weighs _ _ _ h) dX1_couldHold_51 (lw_V q1073 q1075 qs69 q142 q1076) dk_X1_weighs rcX (by decide) (Nat.le_of_ble_eq_true rfl) rfl rfl (Nat.le_of_ble_eq_true rfl) (kI 54 rfl fun r1 w2 h => ?_) kN
  refine R.aload_n 55 dX1_couldHold_54 rfl rfl ?_
  refine R.iload_n 56 dX1_couldHold_55 rfl rfl ?_
  refine R.iconst 57 dX1_couldHold_56 rfl ?_
  refine Rch.callv (sd_X1_ofKind _ _ _ _ h) dX1_couldHold_57 (lw_V q753 q755 qs29 q142 q756) dk_X1_ofKind rcX (by decide) (Nat.le_of_ble_eq_true rfl) rfl rfl (Nat.le_of_ble_eq_true rfl) (kI 60 rfl fun r3 w4 h => ?_) kN
  obtain ⟨hz, h⟩ := h
  refine R.idiv 61 dX1_couldHold_60 rfl hz ?_
  refine R.ist4 63 dX1_couldHold_61 rfl (Nat.le_of_ble_eq_true rfl) rfl ?_
  refine R.iload_n 64 dX1_couldHold_63 rfl rfl ?_
  refine R.if_eq 83 67 dX1_couldHold_64 (by decide) rfl (fun hc => ?_) (fun hc => ?_)
  · replace h := h.1 hc
    refine R.iconst 84 dX1_couldHold_83 rfl ?_
    exact R.retI dX1_couldHold_84 rfl h
  · replace h := h.2 hc
    refine R.iload 69 dX1_couldHold_67 rfl rfl ?_
    refine R.iconst 70 dX1_couldHold_69 rfl ?_
    refine R.bipush 72 dX1_couldHold_70 rfl (by decide +kernel) ?_
    refine Rch.calls (sd_X1_in _ _ _ _ _ h) dX1_couldHold_72 (lw_S q700 q701 q142 q702) dk_X1_in (by decide) (Nat.le_of_ble_eq_true rfl) rfl rfl (Nat.le_of_ble_eq_true rfl) (kI 75 rfl fun r5 w6 h => ?_) kN
    refine R.if_eq 83 78 dX1_couldHold_75 (by decide) rfl (fun hc => ?_) (fun hc => ?_)
    · replace h := h.1 hc
      refine R.iconst 84 dX1_couldHold_83 rfl ?_
      exact R.retI dX1_couldHold_84 rfl h
    · replace h := h.2 hc
      refine R.iload 80 dX1_couldHold_78 rfl rfl ?_
      refine R.goto 84 dX1_couldHold_80 (by decide) ?_
      exact R.retI dX1_couldHold_84 rfl h
set_option maxRecDepth 100000 in
set_option maxHeartbeats 4000000 in
theorem sd_X1_couldHold {γ : GG} (l1 : Int32) (l2 : Int32) (w : Wd) (Q : Int32 → Wd → Prop) : wp_X1_couldHold l1 l2 w Q → Ctr γ 5 yX1_couldHold (ws_ yX1_couldHold cX1_couldHold 5 (some .int)) [.ref 1, .int l1, .int l2] w (qI Q) xN := by
  intro h
  unfold wp_X1_couldHold at h
  refine Ctr.of (μ := k_X1_couldHold) (by decide) rfl rfl rfl (Nat.le_of_ble_eq_true rfl) ⟨2, ?_⟩
  have es : lva [.ref 1, .int l1, .int l2] ++ List.replicate 2 none = [some (.ref 1), some (.int l1), some (.int l2), none, none] := rfl
  rw [es]
  refine R.aload_n 1 dX1_couldHold_0 rfl rfl ?_
  refine R.iload_n 2 dX1_couldHold_1 rfl rfl ?_
  refine Rch.callv (sd_X1_isLabelled _ _ _ h) dX1_couldHold_2 (lw_V q908 q910 qs46 q142 q911) dk_X1_isLabelled rcX (by decide) (Nat.le_of_ble_eq_true rfl) rfl rfl (Nat.le_of_ble_eq_true rfl) (kI 5 rfl fun r1 w2 h => ?_) kN
  refine R.if_ne 47 8 dX1_couldHold_5 (by decide) rfl (fun hc => ?_) (fun hc => ?_)
  · replace h := h.1 hc
    refine R.iconst 48 dX1_couldHold_47 rfl ?_
    exact Rch.dropk (s_X1_couldHold_48 Q _ _ _ _ h) ⟨rfl, ⟨rfl, ⟨rfl, trivial⟩⟩⟩
  · replace h := h.2 hc
    refine R.aload_n 9 dX1_couldHold_8 rfl rfl ?_
    refine R.aload_n 10 dX1_couldHold_9 rfl rfl ?_
    refine R.iload_n 11 dX1_couldHold_10 rfl rfl ?_
    refine R.iconst 12 dX1_couldHold_11 rfl ?_
    refine Rch.callv (sd_X1_of _ _ _ _ h) dX1_couldHold_12 (lw_V q785 q787 qs34 q142 q788) dk_X1_of rcX (by decide) (Nat.le_of_ble_eq_true rfl) rfl rfl (Nat.le_of_ble_eq_true rfl) (kI 15 rfl fun r3 w4 h => ?_) kN
    refine R.iconst 16 dX1_couldHold_15 rfl ?_
    refine Rch.callv (sd_X1_ofKind _ _ _ _ h) dX1_couldHold_16 (lw_V q753 q755 qs29 q142 q756) dk_X1_ofKind rcX (by decide) (Nat.le_of_ble_eq_true rfl) rfl rfl (Nat.le_of_ble_eq_true rfl) (kI 19 rfl fun r5 w6 h => ?_) kN
    refine R.aload_n 20 dX1_couldHold_19 rfl rfl ?_
    refine R.iload_n 21 dX1_couldHold_20 rfl rfl ?_
    refine R.iconst 22 dX1_couldHold_21 rfl ?_
    refine Rch.callv (sd_X1_ofKind _ _ _ _ h) dX1_couldHold_22 (lw_V q753 q755 qs29 q142 q756) dk_X1_ofKind rcX (by decide) (Nat.le_of_ble_eq_true rfl) rfl rfl (Nat.le_of_ble_eq_true rfl) (kI 25 rfl fun r7 w8 h => ?_) kN
    refine R.icmp_ne 47 28 dX1_couldHold_25 (by decide) rfl (fun hc => ?_) (fun hc => ?_)
    · replace h := h.1 hc
      refine R.iconst 48 dX1_couldHold_47 rfl ?_
      exact Rch.dropk (s_X1_couldHold_48 Q _ _ _ _ h) ⟨rfl, ⟨rfl, ⟨rfl, trivial⟩⟩⟩
    · replace h := h.2 hc
      refine R.aload_n 29 dX1_couldHold_28 rfl rfl ?_
      refine R.iload_n 30 dX1_couldHold_29 rfl rfl ?_
      refine Rch.callv (sd_X1_weighs _ _ _ h) dX1_couldHold_30 (lw_V q1073 q1075 qs69 q142 q1076) dk_X1_weighs rcX (by decide) (Nat.le_of_ble_eq_true rfl) rfl rfl (Nat.le_of_ble_eq_true rfl) (kI 33 rfl fun r9 w10 h => ?_) kN
      refine R.aload_n 34 dX1_couldHold_33 rfl rfl ?_
      refine R.iload_n 35 dX1_couldHold_34 rfl rfl ?_
      refine R.iconst 36 dX1_couldHold_35 rfl ?_
      refine Rch.callv (sd_X1_ofKind _ _ _ _ h) dX1_couldHold_36 (lw_V q753 q755 qs29 q142 q756) dk_X1_ofKind rcX (by decide) (Nat.le_of_ble_eq_true rfl) rfl rfl (Nat.le_of_ble_eq_true rfl) (kI 39 rfl fun r11 w12 h => ?_) kN
      obtain ⟨hz, h⟩ := h
      refine R.irem 40 dX1_couldHold_39 rfl hz ?_
      refine R.if_ne 47 43 dX1_couldHold_40 (by decide) rfl (fun hc => ?_) (fun hc => ?_)
      · replace h := h.1 hc
        refine R.iconst 48 dX1_couldHold_47 rfl ?_
        exact Rch.dropk (s_X1_couldHold_48 Q _ _ _ _ h) ⟨rfl, ⟨rfl, ⟨rfl, trivial⟩⟩⟩
      · replace h := h.2 hc
        refine R.iconst 44 dX1_couldHold_43 rfl ?_
        refine R.goto 48 dX1_couldHold_44 (by decide) ?_
        exact Rch.dropk (s_X1_couldHold_48 Q _ _ _ _ h) ⟨rfl, ⟨rfl, ⟨rfl, trivial⟩⟩⟩

abbrev k_X1_spans : MK := ("FrostBox", cX1_spans, 5, (some .int), [], "spans")
def b_X1_spans_63 (Q : Int32 → Wd → Prop) (R24 : Int32 → Int32 → Wd → Prop) (l1 : Int32) (l2 : Int32) (l3 : Int32) (l4 : Int32) (w : Wd) : Prop := (¬ l2 = (iz 1) → R24 l3 (l4 + iz 1) w) ∧ (l2 = (iz 1) → wp_X1_couldHold l4 l1 w (fun r1 w2 => R24 (l3 + r1) (l4 + iz 1) w2))
def wl_X1_spans_24 (Q : Int32 → Wd → Prop) (l1 : Int32) (l2 : Int32) (R24 : Int32 → Int32 → Wd → Prop) (l3 : Int32) (l4 : Int32) (w : Wd) : Prop := wp_X1_boxMany w (fun r1 w2 => (r1 ≤ l4 → Q l3 w2) ∧ (¬ r1 ≤ l4 → wp_X1_isLabelled l4 w2 (fun r3 w4 => (r3 = iz 0 → b_X1_spans_63 Q R24 l1 l2 l3 l4 w4) ∧ (¬ r3 = iz 0 → wp_X1_of l4 (iz 0) w4 (fun r5 w6 => (¬ r5 = l1 → b_X1_spans_63 Q R24 l1 l2 l3 l4 w6) ∧ (r5 = l1 → wp_X1_of l4 (iz 1) w6 (fun r7 w8 => b_X1_spans_63 Q R24 l1 l2 (l3 + r7) l4 w8)))))))
def lp_X1_spans_24 (Q : Int32 → Wd → Prop) (l1 : Int32) (l2 : Int32) : Nat → Int32 → Int32 → Wd → Prop
  | 0, _, _, _ => False
  | n + 1, l3, l4, w => wl_X1_spans_24 Q l1 l2 (lp_X1_spans_24 Q l1 l2 n) l3 l4 w
def wp_X1_spans (l1 : Int32) (l2 : Int32) (w : Wd) (Q : Int32 → Wd → Prop) : Prop := wp_X1_isKind l1 w (fun r1 w2 => (r1 = iz 0 → Q (iz (-1)) w2) ∧ (¬ r1 = iz 0 → wp_X1_in l2 (iz 0) (iz 1) w2 (fun r3 w4 => (¬ r3 = iz 0 → ∃ n5, lp_X1_spans_24 Q l1 l2 n5 (iz 0) (iz 0) w4) ∧ (r3 = iz 0 → Q (iz (-1)) w4))))
set_option maxRecDepth 100000 in
set_option maxHeartbeats 4000000 in
theorem s_X1_spans_63 {γ : GG} (Q : Int32 → Wd → Prop) (R24 : Int32 → Int32 → Wd → Prop) (l1 : Int32) (l2 : Int32) (l3 : Int32) (l4 : Int32) (hR24 : ∀ (l3 : Int32) (l4 : Int32) (w : Wd), R24 l3 l4 w → Rch γ 6 k_X1_spans 24 [some (.ref 1), some (.int l1), some (.int l2), some (.int l3), some (.int l4)] [] w (qI Q) xN) : ∀ (w : Wd), b_X1_spans_63 Q R24 l1 l2 l3 l4 w → Rch γ 6 k_X1_spans 63 [some (.ref 1), some (.int l1), some (.int l2), some (.int l3), some (.int l4)] [] w (qI Q) xN := by
  intro w h
  unfold b_X1_spans_63 at h
  refine R.iload_n 64 dX1_spans_63 rfl rfl ?_
  refine R.iconst 65 dX1_spans_64 rfl ?_
  refine R.icmp_ne 78 68 dX1_spans_65 (by decide) rfl (fun hc => ?_) (fun hc => ?_)
  · replace h := h.1 hc
    refine R.inc4 81 dX1_spans_78 rfl (Nat.le_of_ble_eq_true rfl) rfl ?_
    refine R.goto 24 dX1_spans_81 (by decide) ?_
    exact Rch.dropk (hR24 _ _ _ h) ⟨rfl, ⟨rfl, ⟨rfl, ⟨rfl, ⟨rfl, trivial⟩⟩⟩⟩⟩
  · replace h := h.2 hc
    refine R.iload_n 69 dX1_spans_68 rfl rfl ?_
    refine R.aload_n 70 dX1_spans_69 rfl rfl ?_
    refine R.iload 72 dX1_spans_70 rfl rfl ?_
    refine R.iload_n 73 dX1_spans_72 rfl rfl ?_
    refine Rch.callv (sd_X1_couldHold _ _ _ _ h) dX1_spans_73 (lw_V q1069 q1071 qs68 q142 q1072) dk_X1_couldHold rcX (by decide) (Nat.le_of_ble_eq_true rfl) rfl rfl (Nat.le_of_ble_eq_true rfl) (kI 76 rfl fun r1 w2 h => ?_) kN
    refine R.iadd 77 dX1_spans_76 rfl ?_
    refine R.ist3n 78 dX1_spans_77 rfl (Nat.le_of_ble_eq_true rfl) rfl ?_
    refine R.inc4 81 dX1_spans_78 rfl (Nat.le_of_ble_eq_true rfl) rfl ?_
    refine R.goto 24 dX1_spans_81 (by decide) ?_
    exact Rch.dropk (hR24 _ _ _ h) ⟨rfl, ⟨rfl, ⟨rfl, ⟨rfl, ⟨rfl, trivial⟩⟩⟩⟩⟩
set_option maxRecDepth 100000 in
set_option maxHeartbeats 4000000 in
theorem sl_X1_spans_24 {γ : GG} (Q : Int32 → Wd → Prop) (l1 : Int32) (l2 : Int32) : ∀ (n : Nat) (l3 : Int32) (l4 : Int32) (w : Wd), lp_X1_spans_24 Q l1 l2 n l3 l4 w → Rch γ 6 k_X1_spans 24 [some (.ref 1), some (.int l1), some (.int l2), some (.int l3), some (.int l4)] [] w (qI Q) xN := by
  intro n
  induction n with
  | zero => intro _ _ _ h; exact h.elim
  | succ n hR24 =>
    intro l3 l4 w h
    have h : wl_X1_spans_24 Q l1 l2 (lp_X1_spans_24 Q l1 l2 n) l3 l4 w := h
    unfold wl_X1_spans_24 at h
    refine R.iload 26 dX1_spans_24 rfl rfl ?_
    refine R.aload_n 27 dX1_spans_26 rfl rfl ?_
    refine Rch.callv (sd_X1_boxMany _ _ h) dX1_spans_27 (lw_V q773 q775 qs31 q142 q776) dk_X1_boxMany rcX (by decide) (Nat.le_of_ble_eq_true rfl) rfl rfl (Nat.le_of_ble_eq_true rfl) (kI 30 rfl fun r1 w2 h => ?_) kN
    refine R.icmp_ge 84 33 dX1_spans_30 (by decide) rfl (fun hc => ?_) (fun hc => ?_)
    · replace h := h.1 hc
      refine R.iload_n 85 dX1_spans_84 rfl rfl ?_
      exact R.retI dX1_spans_85 rfl h
    · replace h := h.2 hc
      refine R.aload_n 34 dX1_spans_33 rfl rfl ?_
      refine R.iload 36 dX1_spans_34 rfl rfl ?_
      refine Rch.callv (sd_X1_isLabelled _ _ _ h) dX1_spans_36 (lw_V q908 q910 qs46 q142 q911) dk_X1_isLabelled rcX (by decide) (Nat.le_of_ble_eq_true rfl) rfl rfl (Nat.le_of_ble_eq_true rfl) (kI 39 rfl fun r3 w4 h => ?_) kN
      refine R.if_eq 63 42 dX1_spans_39 (by decide) rfl (fun hc => ?_) (fun hc => ?_)
      · replace h := h.1 hc
        exact Rch.dropk (s_X1_spans_63 Q _ _ _ _ _ hR24 _ h) ⟨rfl, ⟨rfl, ⟨rfl, ⟨rfl, ⟨rfl, trivial⟩⟩⟩⟩⟩
      · replace h := h.2 hc
        refine R.aload_n 43 dX1_spans_42 rfl rfl ?_
        refine R.iload 45 dX1_spans_43 rfl rfl ?_
        refine R.iconst 46 dX1_spans_45 rfl ?_
        refine Rch.callv (sd_X1_of _ _ _ _ h) dX1_spans_46 (lw_V q785 q787 qs34 q142 q788) dk_X1_of rcX (by decide) (Nat.le_of_ble_eq_true rfl) rfl rfl (Nat.le_of_ble_eq_true rfl) (kI 49 rfl fun r5 w6 h => ?_) kN
        refine R.iload_n 50 dX1_spans_49 rfl rfl ?_
        refine R.icmp_ne 63 53 dX1_spans_50 (by decide) rfl (fun hc => ?_) (fun hc => ?_)
        · replace h := h.1 hc
          exact Rch.dropk (s_X1_spans_63 Q _ _ _ _ _ hR24 _ h) ⟨rfl, ⟨rfl, ⟨rfl, ⟨rfl, ⟨rfl, trivial⟩⟩⟩⟩⟩
        · replace h := h.2 hc
          refine R.iload_n 54 dX1_spans_53 rfl rfl ?_
          refine R.aload_n 55 dX1_spans_54 rfl rfl ?_
          refine R.iload 57 dX1_spans_55 rfl rfl ?_
          refine R.iconst 58 dX1_spans_57 rfl ?_
          refine Rch.callv (sd_X1_of _ _ _ _ h) dX1_spans_58 (lw_V q785 q787 qs34 q142 q788) dk_X1_of rcX (by decide) (Nat.le_of_ble_eq_true rfl) rfl rfl (Nat.le_of_ble_eq_true rfl) (kI 61 rfl fun r7 w8 h => ?_) kN
          refine R.iadd 62 dX1_spans_61 rfl ?_
          refine R.ist3n 63 dX1_spans_62 rfl (Nat.le_of_ble_eq_true rfl) rfl ?_
          exact Rch.dropk (s_X1_spans_63 Q _ _ _ _ _ hR24 _ h) ⟨rfl, ⟨rfl, ⟨rfl, ⟨rfl, ⟨rfl, trivial⟩⟩⟩⟩⟩
set_option maxRecDepth 100000 in
set_option maxHeartbeats 4000000 in
theorem sd_X1_spans {γ : GG} (l1 : Int32) (l2 : Int32) (w : Wd) (Q : Int32 → Wd → Prop) : wp_X1_spans l1 l2 w Q → Ctr γ 6 yX1_spans (ws_ yX1_spans cX1_spans 5 (some .int)) [.ref 1, .int l1, .int l2] w (qI Q) xN := by
  intro h
  unfold wp_X1_spans at h
  refine Ctr.of (μ := k_X1_spans) (by decide) rfl rfl rfl (Nat.le_of_ble_eq_true rfl) ⟨2, ?_⟩
  have es : lva [.ref 1, .int l1, .int l2] ++ List.replicate 2 none = [some (.ref 1), some (.int l1), some (.int l2), none, none] := rfl
  rw [es]
  refine R.aload_n 1 dX1_spans_0 rfl rfl ?_
  refine R.iload_n 2 dX1_spans_1 rfl rfl ?_
  refine Rch.callv (sd_X1_isKind _ _ _ h) dX1_spans_2 (lw_V q745 q747 qs27 q142 q748) dk_X1_isKind rcX (by decide) (Nat.le_of_ble_eq_true rfl) rfl rfl (Nat.le_of_ble_eq_true rfl) (kI 5 rfl fun r1 w2 h => ?_) kN
  refine R.if_eq 17 8 dX1_spans_5 (by decide) rfl (fun hc => ?_) (fun hc => ?_)
  · replace h := h.1 hc
    refine R.iconst 18 dX1_spans_17 rfl ?_
    exact R.retI dX1_spans_18 rfl h
  · replace h := h.2 hc
    refine R.iload_n 9 dX1_spans_8 rfl rfl ?_
    refine R.iconst 10 dX1_spans_9 rfl ?_
    refine R.iconst 11 dX1_spans_10 rfl ?_
    refine Rch.calls (sd_X1_in _ _ _ _ _ h) dX1_spans_11 (lw_S q700 q701 q142 q702) dk_X1_in (by decide) (Nat.le_of_ble_eq_true rfl) rfl rfl (Nat.le_of_ble_eq_true rfl) (kI 14 rfl fun r3 w4 h => ?_) kN
    refine R.if_ne 19 17 dX1_spans_14 (by decide) rfl (fun hc => ?_) (fun hc => ?_)
    · replace h := h.1 hc
      refine R.iconst 20 dX1_spans_19 rfl ?_
      refine R.ist3n 21 dX1_spans_20 rfl (Nat.le_of_ble_eq_true rfl) rfl ?_
      refine R.iconst 22 dX1_spans_21 rfl ?_
      refine R.ist4 24 dX1_spans_22 rfl (Nat.le_of_ble_eq_true rfl) rfl ?_
      obtain ⟨n5, h⟩ := h
      exact Rch.dropk (sl_X1_spans_24 Q _ _ n5 _ _ _ h) ⟨rfl, ⟨rfl, ⟨rfl, ⟨rfl, ⟨rfl, trivial⟩⟩⟩⟩⟩
    · replace h := h.2 hc
      refine R.iconst 18 dX1_spans_17 rfl ?_
      exact R.retI dX1_spans_18 rfl h

abbrev k_X1_namelessNow : MK := ("FrostBox", cX1_namelessNow, 3, (some .int), [], "namelessNow")
def wl_X1_namelessNow_4 (Q : Int32 → Wd → Prop) (R4 : Int32 → Int32 → Wd → Prop) (l1 : Int32) (l2 : Int32) (w : Wd) : Prop := wp_X1_boxMany w (fun r1 w2 => (r1 ≤ l2 → Q l1 w2) ∧ (¬ r1 ≤ l2 → wp_X1_isLabelled l2 w2 (fun r3 w4 => (¬ r3 = iz 0 → R4 l1 (l2 + iz 1) w4) ∧ (r3 = iz 0 → R4 (l1 ||| ((iz 1) <<< (l2 &&& 31))) (l2 + iz 1) w4))))
def lp_X1_namelessNow_4 (Q : Int32 → Wd → Prop) : Nat → Int32 → Int32 → Wd → Prop
  | 0, _, _, _ => False
  | n + 1, l1, l2, w => wl_X1_namelessNow_4 Q (lp_X1_namelessNow_4 Q n) l1 l2 w
def wp_X1_namelessNow (w : Wd) (Q : Int32 → Wd → Prop) : Prop := ∃ n1, lp_X1_namelessNow_4 Q n1 (iz 0) (iz 0) w
set_option maxRecDepth 100000 in
set_option maxHeartbeats 4000000 in
theorem sl_X1_namelessNow_4 {γ : GG} (Q : Int32 → Wd → Prop) : ∀ (n : Nat) (l1 : Int32) (l2 : Int32) (w : Wd), lp_X1_namelessNow_4 Q n l1 l2 w → Rch γ 5 k_X1_namelessNow 4 [some (.ref 1), some (.int l1), some (.int l2)] [] w (qI Q) xN := by
  intro n
  induction n with
  | zero => intro _ _ _ h; exact h.elim
  | succ n hR4 =>
    intro l1 l2 w h
    have h : wl_X1_namelessNow_4 Q (lp_X1_namelessNow_4 Q n) l1 l2 w := h
    unfold wl_X1_namelessNow_4 at h
    refine R.iload_n 5 dX1_namelessNow_4 rfl rfl ?_
    refine R.aload_n 6 dX1_namelessNow_5 rfl rfl ?_
    refine Rch.callv (sd_X1_boxMany _ _ h) dX1_namelessNow_6 (lw_V q773 q775 qs31 q142 q776) dk_X1_boxMany rcX (by decide) (Nat.le_of_ble_eq_true rfl) rfl rfl (Nat.le_of_ble_eq_true rfl) (kI 9 rfl fun r1 w2 h => ?_) kN
    refine R.icmp_ge 32 12 dX1_namelessNow_9 (by decide) rfl (fun hc => ?_) (fun hc => ?_)
    · replace h := h.1 hc
      refine R.iload_n 33 dX1_namelessNow_32 rfl rfl ?_
      exact R.retI dX1_namelessNow_33 rfl h
    · replace h := h.2 hc
      refine R.aload_n 13 dX1_namelessNow_12 rfl rfl ?_
      refine R.iload_n 14 dX1_namelessNow_13 rfl rfl ?_
      refine Rch.callv (sd_X1_isLabelled _ _ _ h) dX1_namelessNow_14 (lw_V q908 q910 qs46 q142 q911) dk_X1_isLabelled rcX (by decide) (Nat.le_of_ble_eq_true rfl) rfl rfl (Nat.le_of_ble_eq_true rfl) (kI 17 rfl fun r3 w4 h => ?_) kN
      refine R.if_ne 26 20 dX1_namelessNow_17 (by decide) rfl (fun hc => ?_) (fun hc => ?_)
      · replace h := h.1 hc
        refine R.inc2 29 dX1_namelessNow_26 rfl (Nat.le_of_ble_eq_true rfl) rfl ?_
        refine R.goto 4 dX1_namelessNow_29 (by decide) ?_
        exact Rch.dropk (hR4 _ _ _ h) ⟨rfl, ⟨rfl, ⟨rfl, trivial⟩⟩⟩
      · replace h := h.2 hc
        refine R.iload_n 21 dX1_namelessNow_20 rfl rfl ?_
        refine R.iconst 22 dX1_namelessNow_21 rfl ?_
        refine R.iload_n 23 dX1_namelessNow_22 rfl rfl ?_
        refine R.ishl 24 dX1_namelessNow_23 rfl ?_
        refine R.ior 25 dX1_namelessNow_24 rfl ?_
        refine R.ist1n 26 dX1_namelessNow_25 rfl (Nat.le_of_ble_eq_true rfl) rfl ?_
        refine R.inc2 29 dX1_namelessNow_26 rfl (Nat.le_of_ble_eq_true rfl) rfl ?_
        refine R.goto 4 dX1_namelessNow_29 (by decide) ?_
        exact Rch.dropk (hR4 _ _ _ h) ⟨rfl, ⟨rfl, ⟨rfl, trivial⟩⟩⟩
set_option maxRecDepth 100000 in
set_option maxHeartbeats 4000000 in
theorem sd_X1_namelessNow {γ : GG} (w : Wd) (Q : Int32 → Wd → Prop) : wp_X1_namelessNow w Q → Ctr γ 5 yX1_namelessNow (ws_ yX1_namelessNow cX1_namelessNow 3 (some .int)) [.ref 1] w (qI Q) xN := by
  intro h
  unfold wp_X1_namelessNow at h
  refine Ctr.of (μ := k_X1_namelessNow) (by decide) rfl rfl rfl (Nat.le_of_ble_eq_true rfl) ⟨2, ?_⟩
  have es : lva [.ref 1] ++ List.replicate 2 none = [some (.ref 1), none, none] := rfl
  rw [es]
  refine R.iconst 1 dX1_namelessNow_0 rfl ?_
  refine R.ist1n 2 dX1_namelessNow_1 rfl (Nat.le_of_ble_eq_true rfl) rfl ?_
  refine R.iconst 3 dX1_namelessNow_2 rfl ?_
  refine R.ist2n 4 dX1_namelessNow_3 rfl (Nat.le_of_ble_eq_true rfl) rfl ?_
  obtain ⟨n1, h⟩ := h
  exact Rch.dropk (sl_X1_namelessNow_4 Q n1 _ _ _ h) ⟨rfl, ⟨rfl, ⟨rfl, trivial⟩⟩⟩

abbrev k_X1_nameless : MK := ("FrostBox", cX1_nameless, 1, (some .int), [], "nameless")
def wp_X1_nameless (w : Wd) (Q : Int32 → Wd → Prop) : Prop := wp_X1_isHouse w (fun r1 w2 => (r1 = iz 0 → Q (iz (-1)) w2) ∧ (¬ r1 = iz 0 → wp_X1_namelessNow w2 (fun r3 w4 => Q r3 w4)))
set_option maxRecDepth 100000 in
set_option maxHeartbeats 4000000 in
theorem sd_X1_nameless {γ : GG} (w : Wd) (Q : Int32 → Wd → Prop) : wp_X1_nameless w Q → Ctr γ 6 yX1_nameless (ws_ yX1_nameless cX1_nameless 1 (some .int)) [.ref 1] w (qI Q) xN := by
  intro h
  unfold wp_X1_nameless at h
  refine Ctr.of (μ := k_X1_nameless) (by decide) rfl rfl rfl (Nat.le_of_ble_eq_true rfl) ⟨0, ?_⟩
  have es : lva [.ref 1] ++ List.replicate 0 none = [some (.ref 1)] := rfl
  rw [es]
  refine R.aload_n 1 dX1_nameless_0 rfl rfl ?_
  refine Rch.callv (sd_X1_isHouse _ _ h) dX1_nameless_1 (lw_V q737 q739 qs26 q142 q740) dk_X1_isHouse rcX (by decide) (Nat.le_of_ble_eq_true rfl) rfl rfl (Nat.le_of_ble_eq_true rfl) (kI 4 rfl fun r1 w2 h => ?_) kN
  refine R.if_eq 14 7 dX1_nameless_4 (by decide) rfl (fun hc => ?_) (fun hc => ?_)
  · replace h := h.1 hc
    refine R.iconst 15 dX1_nameless_14 rfl ?_
    exact R.retI dX1_nameless_15 rfl h
  · replace h := h.2 hc
    refine R.aload_n 8 dX1_nameless_7 rfl rfl ?_
    refine Rch.callv (sd_X1_namelessNow _ _ h) dX1_nameless_8 (lw_V q1081 q1083 qs70 q142 q1084) dk_X1_namelessNow rcX (by decide) (Nat.le_of_ble_eq_true rfl) rfl rfl (Nat.le_of_ble_eq_true rfl) (kI 11 rfl fun r3 w4 h => ?_) kN
    refine R.goto 15 dX1_nameless_11 (by decide) ?_
    exact R.retI dX1_nameless_15 rfl h

abbrev k_X1_areDouble : MK := ("FrostBox", cX1_areDouble, 3, (some .boolean), [], "areDouble")
def wp_X1_areDouble (l1 : Int32) (l2 : Int32) (w : Wd) (Q : Int32 → Wd → Prop) : Prop := wp_X1_isLabelled l1 w (fun r1 w2 => (¬ r1 = iz 0 → Q (iz 0) w2) ∧ (r1 = iz 0 → wp_X1_isLabelled l2 w2 (fun r3 w4 => (¬ r3 = iz 0 → Q (iz 0) w4) ∧ (r3 = iz 0 → wp_X1_weighs l1 w4 (fun r5 w6 => wp_X1_weighs l2 w6 (fun r7 w8 => (¬ r5 = r7 → Q (iz 0) w8) ∧ (r5 = r7 → wp_X1_of l1 (iz 0) w8 (fun r9 w10 => wp_X1_ofKind r9 (iz 0) w10 (fun r11 w12 => wp_X1_of l2 (iz 0) w12 (fun r13 w14 => wp_X1_ofKind r13 (iz 0) w14 (fun r15 w16 => (¬ r11 = r15 → Q (iz 0) w16) ∧ (r11 = r15 → Q (iz 1) w16))))))))))))
set_option maxRecDepth 100000 in
set_option maxHeartbeats 4000000 in
theorem sd_X1_areDouble {γ : GG} (l1 : Int32) (l2 : Int32) (w : Wd) (Q : Int32 → Wd → Prop) : wp_X1_areDouble l1 l2 w Q → Ctr γ 5 yX1_areDouble (ws_ yX1_areDouble cX1_areDouble 3 (some .boolean)) [.ref 1, .int l1, .int l2] w (qI Q) xN := by
  intro h
  unfold wp_X1_areDouble at h
  refine Ctr.of (μ := k_X1_areDouble) (by decide) rfl rfl rfl (Nat.le_of_ble_eq_true rfl) ⟨0, ?_⟩
  have es : lva [.ref 1, .int l1, .int l2] ++ List.replicate 0 none = [some (.ref 1), some (.int l1), some (.int l2)] := rfl
  rw [es]
  refine R.aload_n 1 dX1_areDouble_0 rfl rfl ?_
  refine R.iload_n 2 dX1_areDouble_1 rfl rfl ?_
  refine Rch.callv (sd_X1_isLabelled _ _ _ h) dX1_areDouble_2 (lw_V q908 q910 qs46 q142 q911) dk_X1_isLabelled rcX (by decide) (Nat.le_of_ble_eq_true rfl) rfl rfl (Nat.le_of_ble_eq_true rfl) (kI 5 rfl fun r1 w2 h => ?_) kN
  refine R.if_ne 58 8 dX1_areDouble_5 (by decide) rfl (fun hc => ?_) (fun hc => ?_)
  · replace h := h.1 hc
    refine R.iconst 59 dX1_areDouble_58 rfl ?_
    exact R.retZ dX1_areDouble_59 rfl zok0 h
  · replace h := h.2 hc
    refine R.aload_n 9 dX1_areDouble_8 rfl rfl ?_
    refine R.iload_n 10 dX1_areDouble_9 rfl rfl ?_
    refine Rch.callv (sd_X1_isLabelled _ _ _ h) dX1_areDouble_10 (lw_V q908 q910 qs46 q142 q911) dk_X1_isLabelled rcX (by decide) (Nat.le_of_ble_eq_true rfl) rfl rfl (Nat.le_of_ble_eq_true rfl) (kI 13 rfl fun r3 w4 h => ?_) kN
    refine R.if_ne 58 16 dX1_areDouble_13 (by decide) rfl (fun hc => ?_) (fun hc => ?_)
    · replace h := h.1 hc
      refine R.iconst 59 dX1_areDouble_58 rfl ?_
      exact R.retZ dX1_areDouble_59 rfl zok0 h
    · replace h := h.2 hc
      refine R.aload_n 17 dX1_areDouble_16 rfl rfl ?_
      refine R.iload_n 18 dX1_areDouble_17 rfl rfl ?_
      refine Rch.callv (sd_X1_weighs _ _ _ h) dX1_areDouble_18 (lw_V q1073 q1075 qs69 q142 q1076) dk_X1_weighs rcX (by decide) (Nat.le_of_ble_eq_true rfl) rfl rfl (Nat.le_of_ble_eq_true rfl) (kI 21 rfl fun r5 w6 h => ?_) kN
      refine R.aload_n 22 dX1_areDouble_21 rfl rfl ?_
      refine R.iload_n 23 dX1_areDouble_22 rfl rfl ?_
      refine Rch.callv (sd_X1_weighs _ _ _ h) dX1_areDouble_23 (lw_V q1073 q1075 qs69 q142 q1076) dk_X1_weighs rcX (by decide) (Nat.le_of_ble_eq_true rfl) rfl rfl (Nat.le_of_ble_eq_true rfl) (kI 26 rfl fun r7 w8 h => ?_) kN
      refine R.icmp_ne 58 29 dX1_areDouble_26 (by decide) rfl (fun hc => ?_) (fun hc => ?_)
      · replace h := h.1 hc
        refine R.iconst 59 dX1_areDouble_58 rfl ?_
        exact R.retZ dX1_areDouble_59 rfl zok0 h
      · replace h := h.2 hc
        refine R.aload_n 30 dX1_areDouble_29 rfl rfl ?_
        refine R.aload_n 31 dX1_areDouble_30 rfl rfl ?_
        refine R.iload_n 32 dX1_areDouble_31 rfl rfl ?_
        refine R.iconst 33 dX1_areDouble_32 rfl ?_
        refine Rch.callv (sd_X1_of _ _ _ _ h) dX1_areDouble_33 (lw_V q785 q787 qs34 q142 q788) dk_X1_of rcX (by decide) (Nat.le_of_ble_eq_true rfl) rfl rfl (Nat.le_of_ble_eq_true rfl) (kI 36 rfl fun r9 w10 h => ?_) kN
        refine R.iconst 37 dX1_areDouble_36 rfl ?_
        refine Rch.callv (sd_X1_ofKind _ _ _ _ h) dX1_areDouble_37 (lw_V q753 q755 qs29 q142 q756) dk_X1_ofKind rcX (by decide) (Nat.le_of_ble_eq_true rfl) rfl rfl (Nat.le_of_ble_eq_true rfl) (kI 40 rfl fun r11 w12 h => ?_) kN
        refine R.aload_n 41 dX1_areDouble_40 rfl rfl ?_
        refine R.aload_n 42 dX1_areDouble_41 rfl rfl ?_
        refine R.iload_n 43 dX1_areDouble_42 rfl rfl ?_
        refine R.iconst 44 dX1_areDouble_43 rfl ?_
        refine Rch.callv (sd_X1_of _ _ _ _ h) dX1_areDouble_44 (lw_V q785 q787 qs34 q142 q788) dk_X1_of rcX (by decide) (Nat.le_of_ble_eq_true rfl) rfl rfl (Nat.le_of_ble_eq_true rfl) (kI 47 rfl fun r13 w14 h => ?_) kN
        refine R.iconst 48 dX1_areDouble_47 rfl ?_
        refine Rch.callv (sd_X1_ofKind _ _ _ _ h) dX1_areDouble_48 (lw_V q753 q755 qs29 q142 q756) dk_X1_ofKind rcX (by decide) (Nat.le_of_ble_eq_true rfl) rfl rfl (Nat.le_of_ble_eq_true rfl) (kI 51 rfl fun r15 w16 h => ?_) kN
        refine R.icmp_ne 58 54 dX1_areDouble_51 (by decide) rfl (fun hc => ?_) (fun hc => ?_)
        · replace h := h.1 hc
          refine R.iconst 59 dX1_areDouble_58 rfl ?_
          exact R.retZ dX1_areDouble_59 rfl zok0 h
        · replace h := h.2 hc
          refine R.iconst 55 dX1_areDouble_54 rfl ?_
          refine R.goto 59 dX1_areDouble_55 (by decide) ?_
          exact R.retZ dX1_areDouble_59 rfl zok1 h

abbrev k_X1_doubles : MK := ("FrostBox", cX1_doubles, 5, (some .int), [], "doubles")
def wl_X1_doubles_31 (Q : Int32 → Wd → Prop) (R18 : Int32 → Int32 → Wd → Prop) (l1 : Int32) (l3 : Int32) (R31 : Int32 → Int32 → Wd → Prop) (l2 : Int32) (l4 : Int32) (w : Wd) : Prop := wp_X1_boxMany w (fun r1 w2 => (r1 ≤ l4 → R18 l2 (l3 + iz 1) w2) ∧ (¬ r1 ≤ l4 → wp_X1_areDouble l3 l4 w2 (fun r3 w4 => (¬ r3 = iz 0 → (¬ l2 = l1 → R31 (l2 + iz 1) (l4 + iz 1) w4) ∧ (l2 = l1 → Q (((iz 10) * l3) + l4) w4)) ∧ (r3 = iz 0 → R31 l2 (l4 + iz 1) w4))))
def lp_X1_doubles_31 (Q : Int32 → Wd → Prop) (R18 : Int32 → Int32 → Wd → Prop) (l1 : Int32) (l3 : Int32) : Nat → Int32 → Int32 → Wd → Prop
  | 0, _, _, _ => False
  | n + 1, l2, l4, w => wl_X1_doubles_31 Q R18 l1 l3 (lp_X1_doubles_31 Q R18 l1 l3 n) l2 l4 w
def wl_X1_doubles_18 (Q : Int32 → Wd → Prop) (l1 : Int32) (R18 : Int32 → Int32 → Wd → Prop) (l2 : Int32) (l3 : Int32) (w : Wd) : Prop := wp_X1_boxMany w (fun r1 w2 => (r1 ≤ l3 → (¬ l1 = (iz (-1)) → Q (iz (-1)) w2) ∧ (l1 = (iz (-1)) → Q l2 w2)) ∧ (¬ r1 ≤ l3 → ∃ n3, lp_X1_doubles_31 Q R18 l1 l3 n3 l2 (l3 + (iz 1)) w2))
def lp_X1_doubles_18 (Q : Int32 → Wd → Prop) (l1 : Int32) : Nat → Int32 → Int32 → Wd → Prop
  | 0, _, _, _ => False
  | n + 1, l2, l3, w => wl_X1_doubles_18 Q l1 (lp_X1_doubles_18 Q l1 n) l2 l3 w
def wp_X1_doubles (l1 : Int32) (w : Wd) (Q : Int32 → Wd → Prop) : Prop := wp_X1_isHouse w (fun r1 w2 => (r1 = iz 0 → Q (iz (-1)) w2) ∧ (¬ r1 = iz 0 → ((iz (-1)) ≤ l1 → ∃ n3, lp_X1_doubles_18 Q l1 n3 (iz 0) (iz 0) w2) ∧ (¬ (iz (-1)) ≤ l1 → Q (iz (-1)) w2)))
set_option maxRecDepth 100000 in
set_option maxHeartbeats 4000000 in
theorem sl_X1_doubles_31 {γ : GG} (Q : Int32 → Wd → Prop) (R18 : Int32 → Int32 → Wd → Prop) (l1 : Int32) (l3 : Int32) (hR18 : ∀ (l2 : Int32) (l3 : Int32) (w : Wd), R18 l2 l3 w → Rch γ 6 k_X1_doubles 18 [some (.ref 1), some (.int l1), some (.int l2), some (.int l3), none] [] w (qI Q) xN) : ∀ (n : Nat) (l2 : Int32) (l4 : Int32) (w : Wd), lp_X1_doubles_31 Q R18 l1 l3 n l2 l4 w → Rch γ 6 k_X1_doubles 31 [some (.ref 1), some (.int l1), some (.int l2), some (.int l3), some (.int l4)] [] w (qI Q) xN := by
  intro n
  induction n with
  | zero => intro _ _ _ h; exact h.elim
  | succ n hR31 =>
    intro l2 l4 w h
    have h : wl_X1_doubles_31 Q R18 l1 l3 (lp_X1_doubles_31 Q R18 l1 l3 n) l2 l4 w := h
    unfold wl_X1_doubles_31 at h
    refine R.iload 33 dX1_doubles_31 rfl rfl ?_
    refine R.aload_n 34 dX1_doubles_33 rfl rfl ?_
    refine Rch.callv (sd_X1_boxMany _ _ h) dX1_doubles_34 (lw_V q773 q775 qs31 q142 q776) dk_X1_boxMany rcX (by decide) (Nat.le_of_ble_eq_true rfl) rfl rfl (Nat.le_of_ble_eq_true rfl) (kI 37 rfl fun r1 w2 h => ?_) kN
    refine R.icmp_ge 75 40 dX1_doubles_37 (by decide) rfl (fun hc => ?_) (fun hc => ?_)
    · replace h := h.1 hc
      refine R.inc3 78 dX1_doubles_75 rfl (Nat.le_of_ble_eq_true rfl) rfl ?_
      refine R.goto 18 dX1_doubles_78 (by decide) ?_
      exact Rch.dropk (hR18 _ _ _ h) ⟨rfl, ⟨rfl, ⟨rfl, ⟨rfl, trivial⟩⟩⟩⟩
    · replace h := h.2 hc
      refine R.aload_n 41 dX1_doubles_40 rfl rfl ?_
      refine R.iload_n 42 dX1_doubles_41 rfl rfl ?_
      refine R.iload 44 dX1_doubles_42 rfl rfl ?_
      refine Rch.callv (sd_X1_areDouble _ _ _ _ h) dX1_doubles_44 (lw_V q1089 q1091 qs71 q142 q1092) dk_X1_areDouble rcX (by decide) (Nat.le_of_ble_eq_true rfl) rfl rfl (Nat.le_of_ble_eq_true rfl) (kI 47 rfl fun r3 w4 h => ?_) kN
      refine R.if_ne 53 50 dX1_doubles_47 (by decide) rfl (fun hc => ?_) (fun hc => ?_)
      · replace h := h.1 hc
        refine R.iload_n 54 dX1_doubles_53 rfl rfl ?_
        refine R.iload_n 55 dX1_doubles_54 rfl rfl ?_
        refine R.icmp_ne 66 58 dX1_doubles_55 (by decide) rfl (fun hc => ?_) (fun hc => ?_)
        · replace h := h.1 hc
          refine R.inc2 69 dX1_doubles_66 rfl (Nat.le_of_ble_eq_true rfl) rfl ?_
          refine R.inc4 72 dX1_doubles_69 rfl (Nat.le_of_ble_eq_true rfl) rfl ?_
          refine R.goto 31 dX1_doubles_72 (by decide) ?_
          exact Rch.dropk (hR31 _ _ _ h) ⟨rfl, ⟨rfl, ⟨rfl, ⟨rfl, ⟨rfl, trivial⟩⟩⟩⟩⟩
        · replace h := h.2 hc
          refine R.bipush 60 dX1_doubles_58 rfl (by decide +kernel) ?_
          refine R.iload_n 61 dX1_doubles_60 rfl rfl ?_
          refine R.imul 62 dX1_doubles_61 rfl ?_
          refine R.iload 64 dX1_doubles_62 rfl rfl ?_
          refine R.iadd 65 dX1_doubles_64 rfl ?_
          exact R.retI dX1_doubles_65 rfl h
      · replace h := h.2 hc
        refine R.goto 69 dX1_doubles_50 (by decide) ?_
        refine R.inc4 72 dX1_doubles_69 rfl (Nat.le_of_ble_eq_true rfl) rfl ?_
        refine R.goto 31 dX1_doubles_72 (by decide) ?_
        exact Rch.dropk (hR31 _ _ _ h) ⟨rfl, ⟨rfl, ⟨rfl, ⟨rfl, ⟨rfl, trivial⟩⟩⟩⟩⟩
set_option maxRecDepth 100000 in
set_option maxHeartbeats 4000000 in
theorem sl_X1_doubles_18 {γ : GG} (Q : Int32 → Wd → Prop) (l1 : Int32) : ∀ (n : Nat) (l2 : Int32) (l3 : Int32) (w : Wd), lp_X1_doubles_18 Q l1 n l2 l3 w → Rch γ 6 k_X1_doubles 18 [some (.ref 1), some (.int l1), some (.int l2), some (.int l3), none] [] w (qI Q) xN := by
  intro n
  induction n with
  | zero => intro _ _ _ h; exact h.elim
  | succ n hR18 =>
    intro l2 l3 w h
    have h : wl_X1_doubles_18 Q l1 (lp_X1_doubles_18 Q l1 n) l2 l3 w := h
    unfold wl_X1_doubles_18 at h
    refine R.iload_n 19 dX1_doubles_18 rfl rfl ?_
    refine R.aload_n 20 dX1_doubles_19 rfl rfl ?_
    refine Rch.callv (sd_X1_boxMany _ _ h) dX1_doubles_20 (lw_V q773 q775 qs31 q142 q776) dk_X1_boxMany rcX (by decide) (Nat.le_of_ble_eq_true rfl) rfl rfl (Nat.le_of_ble_eq_true rfl) (kI 23 rfl fun r1 w2 h => ?_) kN
    refine R.icmp_ge 81 26 dX1_doubles_23 (by decide) rfl (fun hc => ?_) (fun hc => ?_)
    · replace h := h.1 hc
      refine R.iload_n 82 dX1_doubles_81 rfl rfl ?_
      refine R.iconst 83 dX1_doubles_82 rfl ?_
      refine R.icmp_ne 90 86 dX1_doubles_83 (by decide) rfl (fun hc => ?_) (fun hc => ?_)
      · replace h := h.1 hc
        refine R.iconst 91 dX1_doubles_90 rfl ?_
        exact R.retI dX1_doubles_91 rfl h
      · replace h := h.2 hc
        refine R.iload_n 87 dX1_doubles_86 rfl rfl ?_
        refine R.goto 91 dX1_doubles_87 (by decide) ?_
        exact R.retI dX1_doubles_91 rfl h
    · replace h := h.2 hc
      refine R.iload_n 27 dX1_doubles_26 rfl rfl ?_
      refine R.iconst 28 dX1_doubles_27 rfl ?_
      refine R.iadd 29 dX1_doubles_28 rfl ?_
      refine R.ist4 31 dX1_doubles_29 rfl (Nat.le_of_ble_eq_true rfl) rfl ?_
      obtain ⟨n3, h⟩ := h
      exact Rch.dropk (sl_X1_doubles_31 Q _ _ _ hR18 n3 _ _ _ h) ⟨rfl, ⟨rfl, ⟨rfl, ⟨rfl, ⟨rfl, trivial⟩⟩⟩⟩⟩
set_option maxRecDepth 100000 in
set_option maxHeartbeats 4000000 in
theorem sd_X1_doubles {γ : GG} (l1 : Int32) (w : Wd) (Q : Int32 → Wd → Prop) : wp_X1_doubles l1 w Q → Ctr γ 6 yX1_doubles (ws_ yX1_doubles cX1_doubles 5 (some .int)) [.ref 1, .int l1] w (qI Q) xN := by
  intro h
  unfold wp_X1_doubles at h
  refine Ctr.of (μ := k_X1_doubles) (by decide) rfl rfl rfl (Nat.le_of_ble_eq_true rfl) ⟨3, ?_⟩
  have es : lva [.ref 1, .int l1] ++ List.replicate 3 none = [some (.ref 1), some (.int l1), none, none, none] := rfl
  rw [es]
  refine R.aload_n 1 dX1_doubles_0 rfl rfl ?_
  refine Rch.callv (sd_X1_isHouse _ _ h) dX1_doubles_1 (lw_V q737 q739 qs26 q142 q740) dk_X1_isHouse rcX (by decide) (Nat.le_of_ble_eq_true rfl) rfl rfl (Nat.le_of_ble_eq_true rfl) (kI 4 rfl fun r1 w2 h => ?_) kN
  refine R.if_eq 12 7 dX1_doubles_4 (by decide) rfl (fun hc => ?_) (fun hc => ?_)
  · replace h := h.1 hc
    refine R.iconst 13 dX1_doubles_12 rfl ?_
    exact R.retI dX1_doubles_13 rfl h
  · replace h := h.2 hc
    refine R.iload_n 8 dX1_doubles_7 rfl rfl ?_
    refine R.iconst 9 dX1_doubles_8 rfl ?_
    refine R.icmp_ge 14 12 dX1_doubles_9 (by decide) rfl (fun hc => ?_) (fun hc => ?_)
    · replace h := h.1 hc
      refine R.iconst 15 dX1_doubles_14 rfl ?_
      refine R.ist2n 16 dX1_doubles_15 rfl (Nat.le_of_ble_eq_true rfl) rfl ?_
      refine R.iconst 17 dX1_doubles_16 rfl ?_
      refine R.ist3n 18 dX1_doubles_17 rfl (Nat.le_of_ble_eq_true rfl) rfl ?_
      obtain ⟨n3, h⟩ := h
      exact Rch.dropk (sl_X1_doubles_18 Q _ n3 _ _ _ h) ⟨rfl, ⟨rfl, ⟨rfl, ⟨rfl, trivial⟩⟩⟩⟩
    · replace h := h.2 hc
      refine R.iconst 13 dX1_doubles_12 rfl ?_
      exact R.retI dX1_doubles_13 rfl h

abbrev k_X1_peek : MK := ("FrostBox", cX1_peek, 3, (some .int), [], "peek")
def b_X1_peek_36 (Q : Int32 → Wd → Prop) (l1 : Int32) (l2 : Int32) (t0 : Int32) (t1 : Int32) (t2 : Int32) (w : Wd) : Prop := wp_X1_in t2 t1 t0 w (fun r1 w2 => (r1 = iz 0 → Q (iz (-1)) w2) ∧ (¬ r1 = iz 0 → (¬ (gI w2 39) = (iz 12) → inb (gI w2 39) 12 ∧ (∀ w3, w3 = sA w2 37 (gI w2 39).toInt l1 → inb (gI w3 39) 12 ∧ (∀ w4, w4 = sA w3 38 (gI w3 39).toInt l2 → ∀ w5, w5 = sI w4 39 ((gI w4 39) + (iz 1)) → Q (gI w5 39) w5))) ∧ ((gI w2 39) = (iz 12) → Q (iz (-1)) w2)))
def wp_X1_peek (l1 : Int32) (l2 : Int32) (w : Wd) (Q : Int32 → Wd → Prop) : Prop := wp_X1_isHouse w (fun r1 w2 => (r1 = iz 0 → Q (iz (-1)) w2) ∧ (¬ r1 = iz 0 → wp_X1_in l1 (iz 0) (iz 1) w2 (fun r3 w4 => (r3 = iz 0 → Q (iz (-1)) w4) ∧ (¬ r3 = iz 0 → (¬ l1 = iz 0 → (¬ l1 = iz 0 → b_X1_peek_36 Q l1 l2 (iz 9) (iz 1) l2 w4) ∧ (l1 = iz 0 → b_X1_peek_36 Q l1 l2 (iz 5) (iz 1) l2 w4)) ∧ (l1 = iz 0 → (¬ l1 = iz 0 → b_X1_peek_36 Q l1 l2 (iz 9) (iz 0) l2 w4) ∧ (l1 = iz 0 → b_X1_peek_36 Q l1 l2 (iz 5) (iz 0) l2 w4))))))
set_option maxRecDepth 100000 in
set_option maxHeartbeats 4000000 in
theorem s_X1_peek_36 {γ : GG} (Q : Int32 → Wd → Prop) (l1 : Int32) (l2 : Int32) (t0 : Int32) (t1 : Int32) (t2 : Int32) : ∀ (w : Wd), b_X1_peek_36 Q l1 l2 t0 t1 t2 w → Rch γ 2 k_X1_peek 36 [some (.ref 1), some (.int l1), some (.int l2)] [.int t0, .int t1, .int t2] w (qI Q) xN := by
  intro w h
  unfold b_X1_peek_36 at h
  refine Rch.calls (sd_X1_in _ _ _ _ _ h) dX1_peek_36 (lw_S q700 q701 q142 q702) dk_X1_in (by decide) (Nat.le_of_ble_eq_true rfl) rfl rfl (Nat.le_of_ble_eq_true rfl) (kI 39 rfl fun r1 w2 h => ?_) kN
  refine R.if_eq 51 42 dX1_peek_39 (by decide) rfl (fun hc => ?_) (fun hc => ?_)
  · replace h := h.1 hc
    refine R.iconst 52 dX1_peek_51 rfl ?_
    exact R.retI dX1_peek_52 rfl h
  · replace h := h.2 hc
    refine R.aload_n 43 dX1_peek_42 rfl rfl ?_
    refine gf_39 46 dX1_peek_43 rfl rfl ?_
    refine R.bipush 48 dX1_peek_46 rfl (by decide +kernel) ?_
    refine R.icmp_ne 53 51 dX1_peek_48 (by decide) rfl (fun hc => ?_) (fun hc => ?_)
    · replace h := h.1 hc
      refine R.aload_n 54 dX1_peek_53 rfl rfl ?_
      refine gf_37 57 dX1_peek_54 rfl rfl ?_
      refine R.aload_n 58 dX1_peek_57 rfl rfl ?_
      refine gf_39 61 dX1_peek_58 rfl rfl ?_
      refine R.iload_n 62 dX1_peek_61 rfl rfl ?_
      obtain ⟨hb, h⟩ := h
      replace h := h _ rfl
      refine R.iast ar_37 63 dX1_peek_62 rfl hb ?_
      refine R.aload_n 64 dX1_peek_63 rfl rfl ?_
      refine gf_38 67 dX1_peek_64 rfl rfl ?_
      refine R.aload_n 68 dX1_peek_67 rfl rfl ?_
      refine gf_39 71 dX1_peek_68 rfl rfl ?_
      refine R.iload_n 72 dX1_peek_71 rfl rfl ?_
      obtain ⟨hb, h⟩ := h
      replace h := h _ rfl
      refine R.iast ar_38 73 dX1_peek_72 rfl hb ?_
      refine R.aload_n 74 dX1_peek_73 rfl rfl ?_
      refine R.dupR 75 dX1_peek_74 rfl ?_
      refine gf_39 78 dX1_peek_75 rfl rfl ?_
      refine R.iconst 79 dX1_peek_78 rfl ?_
      refine R.iadd 80 dX1_peek_79 rfl ?_
      replace h := h _ rfl
      refine pf_39 _ 83 dX1_peek_80 rfl rfl ?_
      refine R.aload_n 84 dX1_peek_83 rfl rfl ?_
      refine gf_39 87 dX1_peek_84 rfl rfl ?_
      exact R.retI dX1_peek_87 rfl h
    · replace h := h.2 hc
      refine R.iconst 52 dX1_peek_51 rfl ?_
      exact R.retI dX1_peek_52 rfl h
set_option maxRecDepth 100000 in
set_option maxHeartbeats 4000000 in
theorem sd_X1_peek {γ : GG} (l1 : Int32) (l2 : Int32) (w : Wd) (Q : Int32 → Wd → Prop) : wp_X1_peek l1 l2 w Q → Ctr γ 2 yX1_peek (ws_ yX1_peek cX1_peek 3 (some .int)) [.ref 1, .int l1, .int l2] w (qI Q) xN := by
  intro h
  unfold wp_X1_peek at h
  refine Ctr.of (μ := k_X1_peek) (by decide) rfl rfl rfl (Nat.le_of_ble_eq_true rfl) ⟨0, ?_⟩
  have es : lva [.ref 1, .int l1, .int l2] ++ List.replicate 0 none = [some (.ref 1), some (.int l1), some (.int l2)] := rfl
  rw [es]
  refine R.aload_n 1 dX1_peek_0 rfl rfl ?_
  refine Rch.callv (sd_X1_isHouse _ _ h) dX1_peek_1 (lw_V q737 q739 qs26 q142 q740) dk_X1_isHouse rcX (by decide) (Nat.le_of_ble_eq_true rfl) rfl rfl (Nat.le_of_ble_eq_true rfl) (kI 4 rfl fun r1 w2 h => ?_) kN
  refine R.if_eq 51 7 dX1_peek_4 (by decide) rfl (fun hc => ?_) (fun hc => ?_)
  · replace h := h.1 hc
    refine R.iconst 52 dX1_peek_51 rfl ?_
    exact R.retI dX1_peek_52 rfl h
  · replace h := h.2 hc
    refine R.iload_n 8 dX1_peek_7 rfl rfl ?_
    refine R.iconst 9 dX1_peek_8 rfl ?_
    refine R.iconst 10 dX1_peek_9 rfl ?_
    refine Rch.calls (sd_X1_in _ _ _ _ _ h) dX1_peek_10 (lw_S q700 q701 q142 q702) dk_X1_in (by decide) (Nat.le_of_ble_eq_true rfl) rfl rfl (Nat.le_of_ble_eq_true rfl) (kI 13 rfl fun r3 w4 h => ?_) kN
    refine R.if_eq 51 16 dX1_peek_13 (by decide) rfl (fun hc => ?_) (fun hc => ?_)
    · replace h := h.1 hc
      refine R.iconst 52 dX1_peek_51 rfl ?_
      exact R.retI dX1_peek_52 rfl h
    · replace h := h.2 hc
      refine R.iload_n 17 dX1_peek_16 rfl rfl ?_
      refine R.iload_n 18 dX1_peek_17 rfl rfl ?_
      refine R.if_ne 25 21 dX1_peek_18 (by decide) rfl (fun hc => ?_) (fun hc => ?_)
      · replace h := h.1 hc
        refine R.iconst 26 dX1_peek_25 rfl ?_
        refine R.iload_n 27 dX1_peek_26 rfl rfl ?_
        refine R.if_ne 34 30 dX1_peek_27 (by decide) rfl (fun hc => ?_) (fun hc => ?_)
        · replace h := h.1 hc
          refine R.bipush 36 dX1_peek_34 rfl (by decide +kernel) ?_
          exact Rch.dropk (s_X1_peek_36 Q _ _ _ _ _ _ h) ⟨rfl, ⟨rfl, ⟨rfl, trivial⟩⟩⟩
        · replace h := h.2 hc
          refine R.iconst 31 dX1_peek_30 rfl ?_
          refine R.goto 36 dX1_peek_31 (by decide) ?_
          exact Rch.dropk (s_X1_peek_36 Q _ _ _ _ _ _ h) ⟨rfl, ⟨rfl, ⟨rfl, trivial⟩⟩⟩
      · replace h := h.2 hc
        refine R.iconst 22 dX1_peek_21 rfl ?_
        refine R.goto 26 dX1_peek_22 (by decide) ?_
        refine R.iload_n 27 dX1_peek_26 rfl rfl ?_
        refine R.if_ne 34 30 dX1_peek_27 (by decide) rfl (fun hc => ?_) (fun hc => ?_)
        · replace h := h.1 hc
          refine R.bipush 36 dX1_peek_34 rfl (by decide +kernel) ?_
          exact Rch.dropk (s_X1_peek_36 Q _ _ _ _ _ _ h) ⟨rfl, ⟨rfl, ⟨rfl, trivial⟩⟩⟩
        · replace h := h.2 hc
          refine R.iconst 31 dX1_peek_30 rfl ?_
          refine R.goto 36 dX1_peek_31 (by decide) ?_
          exact Rch.dropk (s_X1_peek_36 Q _ _ _ _ _ _ h) ⟨rfl, ⟨rfl, ⟨rfl, trivial⟩⟩⟩
