set_option maxRecDepth 100000

abbrev k_X1_heldOf : MK := ("FrostBox", cX1_heldOf, 5, (some .long), [], "heldOf")
def b_X1_heldOf_32 (Q : Int64 → Wd → Prop) (R5 : Int64 → Int32 → Wd → Prop) (l1 : Int32) (l4 : Int32) (t0 : Int32) (t1 : Int32) (t3 : Int64) (w : Wd) : Prop := wp_X1_ofKind t1 t0 w (fun r1 w2 => inb l4 12 ∧ (¬ r1 = (gA w2 38 l4.toInt) → inb (iz 3) 4 ∧ R5 (t3 * ((gA w2 19 (iz 3).toInt)).toInt64) (l4 + iz 1) w2) ∧ (r1 = (gA w2 38 l4.toInt) → inb (iz 3) 4 ∧ R5 (t3 * (((iz 10) - (gA w2 19 (iz 3).toInt))).toInt64) (l4 + iz 1) w2))
def wl_X1_heldOf_5 (Q : Int64 → Wd → Prop) (l1 : Int32) (R5 : Int64 → Int32 → Wd → Prop) (l2 : Int64) (l4 : Int32) (w : Wd) : Prop := ((gI w 39) ≤ l4 → Q l2 w) ∧ (¬ (gI w 39) ≤ l4 → inb l4 12 ∧ (¬ (gA w 37 l4.toInt) = iz 0 → b_X1_heldOf_32 Q R5 l1 l4 (iz 1) l1 l2 w) ∧ ((gA w 37 l4.toInt) = iz 0 → b_X1_heldOf_32 Q R5 l1 l4 (iz 0) l1 l2 w))
def lp_X1_heldOf_5 (Q : Int64 → Wd → Prop) (l1 : Int32) : Nat → Int64 → Int32 → Wd → Prop
  | 0, _, _, _ => False
  | n + 1, l2, l4, w => wl_X1_heldOf_5 Q l1 (lp_X1_heldOf_5 Q l1 n) l2 l4 w
def wp_X1_heldOf (l1 : Int32) (w : Wd) (Q : Int64 → Wd → Prop) : Prop := ∃ n1, lp_X1_heldOf_5 Q l1 n1 (lz 1) (iz 0) w
set_option maxRecDepth 100000 in
set_option maxHeartbeats 4000000 in
theorem s_X1_heldOf_32 {γ : GG} (Q : Int64 → Wd → Prop) (R5 : Int64 → Int32 → Wd → Prop) (l1 : Int32) (l4 : Int32) (t0 : Int32) (t1 : Int32) (t3 : Int64) (hR5 : ∀ (l2 : Int64) (l4 : Int32) (w : Wd), R5 l2 l4 w → Rch γ 2 k_X1_heldOf 5 [some (.ref 1), some (.int l1), some (.long l2), none, some (.int l4)] [] w (qJ Q) xN) : ∀ (w : Wd), b_X1_heldOf_32 Q R5 l1 l4 t0 t1 t3 w → Rch γ 2 k_X1_heldOf 32 [some (.ref 1), some (.int l1), none, none, some (.int l4)] [.int t0, .int t1, .ref 1, .long t3] w (qJ Q) xN := by
  intro w h
  unfold b_X1_heldOf_32 at h
  refine Rch.callv (sd_X1_ofKind _ _ _ _ h) dX1_heldOf_32 (lw_V q753 q755 qs29 q142 q756) dk_X1_ofKind rcX (by decide) (Nat.le_of_ble_eq_true rfl) rfl rfl (Nat.le_of_ble_eq_true rfl) (kI 35 rfl fun r1 w2 h => ?_) kN
  refine R.aload_n 36 dX1_heldOf_35 rfl rfl ?_
  refine gf_38 39 dX1_heldOf_36 rfl rfl ?_
  refine R.iload 41 dX1_heldOf_39 rfl rfl ?_
  obtain ⟨hb, h⟩ := h
  refine R.iald ar_38 42 dX1_heldOf_41 rfl hb ?_
  refine R.icmp_ne 58 45 dX1_heldOf_42 (by decide) rfl (fun hc => ?_) (fun hc => ?_)
  · replace h := h.1 hc
    refine R.aload_n 59 dX1_heldOf_58 rfl rfl ?_
    refine gf_19 62 dX1_heldOf_59 rfl rfl ?_
    refine R.iconst 63 dX1_heldOf_62 rfl ?_
    obtain ⟨hb, h⟩ := h
    refine R.iald ar_19 64 dX1_heldOf_63 rfl hb ?_
    refine R.i2l 65 dX1_heldOf_64 rfl ?_
    refine R.lmul 66 dX1_heldOf_65 rfl ?_
    refine R.lst2n 67 dX1_heldOf_66 rfl (Nat.le_of_ble_eq_true rfl) rfl ?_
    refine R.inc4 70 dX1_heldOf_67 rfl (Nat.le_of_ble_eq_true rfl) rfl ?_
    refine R.goto 5 dX1_heldOf_70 (by decide) ?_
    exact Rch.dropk (hR5 _ _ _ h) ⟨rfl, ⟨rfl, ⟨rfl, ⟨rfl, trivial⟩⟩⟩⟩
  · replace h := h.2 hc
    refine R.bipush 47 dX1_heldOf_45 rfl (by decide +kernel) ?_
    refine R.aload_n 48 dX1_heldOf_47 rfl rfl ?_
    refine gf_19 51 dX1_heldOf_48 rfl rfl ?_
    refine R.iconst 52 dX1_heldOf_51 rfl ?_
    obtain ⟨hb, h⟩ := h
    refine R.iald ar_19 53 dX1_heldOf_52 rfl hb ?_
    refine R.isub 54 dX1_heldOf_53 rfl ?_
    refine R.i2l 55 dX1_heldOf_54 rfl ?_
    refine R.goto 65 dX1_heldOf_55 (by decide) ?_
    refine R.lmul 66 dX1_heldOf_65 rfl ?_
    refine R.lst2n 67 dX1_heldOf_66 rfl (Nat.le_of_ble_eq_true rfl) rfl ?_
    refine R.inc4 70 dX1_heldOf_67 rfl (Nat.le_of_ble_eq_true rfl) rfl ?_
    refine R.goto 5 dX1_heldOf_70 (by decide) ?_
    exact Rch.dropk (hR5 _ _ _ h) ⟨rfl, ⟨rfl, ⟨rfl, ⟨rfl, trivial⟩⟩⟩⟩
set_option maxRecDepth 100000 in
set_option maxHeartbeats 4000000 in
theorem sl_X1_heldOf_5 {γ : GG} (Q : Int64 → Wd → Prop) (l1 : Int32) : ∀ (n : Nat) (l2 : Int64) (l4 : Int32) (w : Wd), lp_X1_heldOf_5 Q l1 n l2 l4 w → Rch γ 2 k_X1_heldOf 5 [some (.ref 1), some (.int l1), some (.long l2), none, some (.int l4)] [] w (qJ Q) xN := by
  intro n
  induction n with
  | zero => intro _ _ _ h; exact h.elim
  | succ n hR5 =>
    intro l2 l4 w h
    have h : wl_X1_heldOf_5 Q l1 (lp_X1_heldOf_5 Q l1 n) l2 l4 w := h
    unfold wl_X1_heldOf_5 at h
    refine R.iload 7 dX1_heldOf_5 rfl rfl ?_
    refine R.aload_n 8 dX1_heldOf_7 rfl rfl ?_
    refine gf_39 11 dX1_heldOf_8 rfl rfl ?_
    refine R.icmp_ge 73 14 dX1_heldOf_11 (by decide) rfl (fun hc => ?_) (fun hc => ?_)
    · replace h := h.1 hc
      refine R.lload_n 74 dX1_heldOf_73 rfl rfl ?_
      exact R.retJ dX1_heldOf_74 rfl h
    · replace h := h.2 hc
      refine R.lload_n 15 dX1_heldOf_14 rfl rfl ?_
      refine R.aload_n 16 dX1_heldOf_15 rfl rfl ?_
      refine R.iload_n 17 dX1_heldOf_16 rfl rfl ?_
      refine R.aload_n 18 dX1_heldOf_17 rfl rfl ?_
      refine gf_37 21 dX1_heldOf_18 rfl rfl ?_
      refine R.iload 23 dX1_heldOf_21 rfl rfl ?_
      obtain ⟨hb, h⟩ := h
      refine R.iald ar_37 24 dX1_heldOf_23 rfl hb ?_
      refine R.if_ne 31 27 dX1_heldOf_24 (by decide) rfl (fun hc => ?_) (fun hc => ?_)
      · replace h := h.1 hc
        refine R.iconst 32 dX1_heldOf_31 rfl ?_
        exact Rch.dropk (s_X1_heldOf_32 Q _ _ _ _ _ _ hR5 _ h) ⟨rfl, ⟨rfl, ⟨rfl, trivial⟩⟩⟩
      · replace h := h.2 hc
        refine R.iconst 28 dX1_heldOf_27 rfl ?_
        refine R.goto 32 dX1_heldOf_28 (by decide) ?_
        exact Rch.dropk (s_X1_heldOf_32 Q _ _ _ _ _ _ hR5 _ h) ⟨rfl, ⟨rfl, ⟨rfl, trivial⟩⟩⟩
set_option maxRecDepth 100000 in
set_option maxHeartbeats 4000000 in
theorem sd_X1_heldOf {γ : GG} (l1 : Int32) (w : Wd) (Q : Int64 → Wd → Prop) : wp_X1_heldOf l1 w Q → Ctr γ 2 yX1_heldOf (ws_ yX1_heldOf cX1_heldOf 5 (some .long)) [.ref 1, .int l1] w (qJ Q) xN := by
  intro h
  unfold wp_X1_heldOf at h
  refine Ctr.of (μ := k_X1_heldOf) (by decide) rfl rfl rfl (Nat.le_of_ble_eq_true rfl) ⟨3, ?_⟩
  have es : lva [.ref 1, .int l1] ++ List.replicate 3 none = [some (.ref 1), some (.int l1), none, none, none] := rfl
  rw [es]
  refine R.lconst (m0 := 1) 1 dX1_heldOf_0 rfl (by decide +kernel) ?_
  refine R.lst2n 2 dX1_heldOf_1 rfl (Nat.le_of_ble_eq_true rfl) rfl ?_
  refine R.iconst 3 dX1_heldOf_2 rfl ?_
  refine R.ist4 5 dX1_heldOf_3 rfl (Nat.le_of_ble_eq_true rfl) rfl ?_
  obtain ⟨n1, h⟩ := h
  exact Rch.dropk (sl_X1_heldOf_5 Q _ n1 _ _ _ h) ⟨rfl, ⟨rfl, ⟨rfl, ⟨rfl, trivial⟩⟩⟩⟩

abbrev k_X1_mostHeld : MK := ("FrostBox", cX1_mostHeld, 8, (some .long), [], "mostHeld")
def b_X1_mostHeld_39 (Q : Int64 → Wd → Prop) (R5 : Int64 → Int32 → Wd → Prop) (R18 : Int64 → Int32 → Wd → Prop) (l1 : Int32) (l2 : Int64) (l4 : Int32) (l5 : Int64) (l7 : Int32) (t0 : Int32) (t1 : Int32) (w : Wd) : Prop := wp_X1_ofKind t1 t0 w (fun r1 w2 => (¬ r1 = l4 → R18 l5 (l7 + iz 1) w2) ∧ (r1 = l4 → wp_X1_heldOf l7 w2 (fun r3 w4 => R18 (l5 + r3) (l7 + iz 1) w4)))
def wl_X1_mostHeld_18 (Q : Int64 → Wd → Prop) (R5 : Int64 → Int32 → Wd → Prop) (l1 : Int32) (l2 : Int64) (l4 : Int32) (R18 : Int64 → Int32 → Wd → Prop) (l5 : Int64) (l7 : Int32) (w : Wd) : Prop := ((gI w 23) ≤ l7 → R5 (lmax l2 l5) (l4 + iz 1) w) ∧ (¬ (gI w 23) ≤ l7 → (¬ l1 = iz 0 → b_X1_mostHeld_39 Q R5 R18 l1 l2 l4 l5 l7 (iz 1) l7 w) ∧ (l1 = iz 0 → b_X1_mostHeld_39 Q R5 R18 l1 l2 l4 l5 l7 (iz 0) l7 w))
def lp_X1_mostHeld_18 (Q : Int64 → Wd → Prop) (R5 : Int64 → Int32 → Wd → Prop) (l1 : Int32) (l2 : Int64) (l4 : Int32) : Nat → Int64 → Int32 → Wd → Prop
  | 0, _, _, _ => False
  | n + 1, l5, l7, w => wl_X1_mostHeld_18 Q R5 l1 l2 l4 (lp_X1_mostHeld_18 Q R5 l1 l2 l4 n) l5 l7 w
def wl_X1_mostHeld_5 (Q : Int64 → Wd → Prop) (l1 : Int32) (R5 : Int64 → Int32 → Wd → Prop) (l2 : Int64) (l4 : Int32) (w : Wd) : Prop := ((iz 10) ≤ l4 → Q l2 w) ∧ (¬ (iz 10) ≤ l4 → ∃ n1, lp_X1_mostHeld_18 Q R5 l1 l2 l4 n1 (lz 0) (iz 0) w)
def lp_X1_mostHeld_5 (Q : Int64 → Wd → Prop) (l1 : Int32) : Nat → Int64 → Int32 → Wd → Prop
  | 0, _, _, _ => False
  | n + 1, l2, l4, w => wl_X1_mostHeld_5 Q l1 (lp_X1_mostHeld_5 Q l1 n) l2 l4 w
def wp_X1_mostHeld (l1 : Int32) (w : Wd) (Q : Int64 → Wd → Prop) : Prop := ∃ n1, lp_X1_mostHeld_5 Q l1 n1 (lz 0) (iz 0) w
set_option maxRecDepth 100000 in
set_option maxHeartbeats 4000000 in
theorem s_X1_mostHeld_39 {γ : GG} (Q : Int64 → Wd → Prop) (R5 : Int64 → Int32 → Wd → Prop) (R18 : Int64 → Int32 → Wd → Prop) (l1 : Int32) (l2 : Int64) (l4 : Int32) (l5 : Int64) (l7 : Int32) (t0 : Int32) (t1 : Int32) (hR5 : ∀ (l2 : Int64) (l4 : Int32) (w : Wd), R5 l2 l4 w → Rch γ 3 k_X1_mostHeld 5 [some (.ref 1), some (.int l1), some (.long l2), none, some (.int l4), none, none, none] [] w (qJ Q) xN) (hR18 : ∀ (l5 : Int64) (l7 : Int32) (w : Wd), R18 l5 l7 w → Rch γ 3 k_X1_mostHeld 18 [some (.ref 1), some (.int l1), some (.long l2), none, some (.int l4), some (.long l5), none, some (.int l7)] [] w (qJ Q) xN) : ∀ (w : Wd), b_X1_mostHeld_39 Q R5 R18 l1 l2 l4 l5 l7 t0 t1 w → Rch γ 3 k_X1_mostHeld 39 [some (.ref 1), some (.int l1), some (.long l2), none, some (.int l4), some (.long l5), none, some (.int l7)] [.int t0, .int t1, .ref 1] w (qJ Q) xN := by
  intro w h
  unfold b_X1_mostHeld_39 at h
  refine Rch.callv (sd_X1_ofKind _ _ _ _ h) dX1_mostHeld_39 (lw_V q753 q755 qs29 q142 q756) dk_X1_ofKind rcX (by decide) (Nat.le_of_ble_eq_true rfl) rfl rfl (Nat.le_of_ble_eq_true rfl) (kI 42 rfl fun r1 w2 h => ?_) kN
  refine R.iload 44 dX1_mostHeld_42 rfl rfl ?_
  refine R.icmp_ne 58 47 dX1_mostHeld_44 (by decide) rfl (fun hc => ?_) (fun hc => ?_)
  · replace h := h.1 hc
    refine R.inc7 61 dX1_mostHeld_58 rfl (Nat.le_of_ble_eq_true rfl) rfl ?_
    refine R.goto 18 dX1_mostHeld_61 (by decide) ?_
    exact Rch.dropk (hR18 _ _ _ h) ⟨rfl, ⟨rfl, ⟨rfl, ⟨rfl, ⟨rfl, ⟨rfl, trivial⟩⟩⟩⟩⟩⟩
  · replace h := h.2 hc
    refine R.lload 49 dX1_mostHeld_47 rfl rfl ?_
    refine R.aload_n 50 dX1_mostHeld_49 rfl rfl ?_
    refine R.iload 52 dX1_mostHeld_50 rfl rfl ?_
    refine Rch.callv (sd_X1_heldOf _ _ _ h) dX1_mostHeld_52 (lw_V q1105 q1107 qs73 q142 q1108) dk_X1_heldOf rcX (by decide) (Nat.le_of_ble_eq_true rfl) rfl rfl (Nat.le_of_ble_eq_true rfl) (kJ 55 rfl fun r3 w4 h => ?_) kN
    refine R.ladd 56 dX1_mostHeld_55 rfl ?_
    refine R.lst5 58 dX1_mostHeld_56 rfl (Nat.le_of_ble_eq_true rfl) rfl ?_
    refine R.inc7 61 dX1_mostHeld_58 rfl (Nat.le_of_ble_eq_true rfl) rfl ?_
    refine R.goto 18 dX1_mostHeld_61 (by decide) ?_
    exact Rch.dropk (hR18 _ _ _ h) ⟨rfl, ⟨rfl, ⟨rfl, ⟨rfl, ⟨rfl, ⟨rfl, trivial⟩⟩⟩⟩⟩⟩
set_option maxRecDepth 100000 in
set_option maxHeartbeats 4000000 in
theorem sl_X1_mostHeld_18 {γ : GG} (Q : Int64 → Wd → Prop) (R5 : Int64 → Int32 → Wd → Prop) (l1 : Int32) (l2 : Int64) (l4 : Int32) (hR5 : ∀ (l2 : Int64) (l4 : Int32) (w : Wd), R5 l2 l4 w → Rch γ 3 k_X1_mostHeld 5 [some (.ref 1), some (.int l1), some (.long l2), none, some (.int l4), none, none, none] [] w (qJ Q) xN) : ∀ (n : Nat) (l5 : Int64) (l7 : Int32) (w : Wd), lp_X1_mostHeld_18 Q R5 l1 l2 l4 n l5 l7 w → Rch γ 3 k_X1_mostHeld 18 [some (.ref 1), some (.int l1), some (.long l2), none, some (.int l4), some (.long l5), none, some (.int l7)] [] w (qJ Q) xN := by
  intro n
  induction n with
  | zero => intro _ _ _ h; exact h.elim
  | succ n hR18 =>
    intro l5 l7 w h
    have h : wl_X1_mostHeld_18 Q R5 l1 l2 l4 (lp_X1_mostHeld_18 Q R5 l1 l2 l4 n) l5 l7 w := h
    unfold wl_X1_mostHeld_18 at h
    refine R.iload 20 dX1_mostHeld_18 rfl rfl ?_
    refine R.aload_n 21 dX1_mostHeld_20 rfl rfl ?_
    refine gf_23 24 dX1_mostHeld_21 rfl rfl ?_
    refine R.icmp_ge 64 27 dX1_mostHeld_24 (by decide) rfl (fun hc => ?_) (fun hc => ?_)
    · replace h := h.1 hc
      refine R.lload_n 65 dX1_mostHeld_64 rfl rfl ?_
      refine R.lload 67 dX1_mostHeld_65 rfl rfl ?_
      refine R.mmaxl 70 dX1_mostHeld_67 rfl q1109 q887 q149 q888 (by omega) (Nat.le_of_ble_eq_true rfl) ?_
      refine R.lst2n 71 dX1_mostHeld_70 rfl (Nat.le_of_ble_eq_true rfl) rfl ?_
      refine R.inc4 74 dX1_mostHeld_71 rfl (Nat.le_of_ble_eq_true rfl) rfl ?_
      refine R.goto 5 dX1_mostHeld_74 (by decide) ?_
      exact Rch.dropk (hR5 _ _ _ h) ⟨rfl, ⟨rfl, ⟨rfl, ⟨rfl, trivial⟩⟩⟩⟩
    · replace h := h.2 hc
      refine R.aload_n 28 dX1_mostHeld_27 rfl rfl ?_
      refine R.iload 30 dX1_mostHeld_28 rfl rfl ?_
      refine R.iload_n 31 dX1_mostHeld_30 rfl rfl ?_
      refine R.if_ne 38 34 dX1_mostHeld_31 (by decide) rfl (fun hc => ?_) (fun hc => ?_)
      · replace h := h.1 hc
        refine R.iconst 39 dX1_mostHeld_38 rfl ?_
        exact Rch.dropk (s_X1_mostHeld_39 Q _ _ _ _ _ _ _ _ _ hR5 hR18 _ h) ⟨rfl, ⟨rfl, ⟨rfl, ⟨rfl, ⟨rfl, ⟨rfl, trivial⟩⟩⟩⟩⟩⟩
      · replace h := h.2 hc
        refine R.iconst 35 dX1_mostHeld_34 rfl ?_
        refine R.goto 39 dX1_mostHeld_35 (by decide) ?_
        exact Rch.dropk (s_X1_mostHeld_39 Q _ _ _ _ _ _ _ _ _ hR5 hR18 _ h) ⟨rfl, ⟨rfl, ⟨rfl, ⟨rfl, ⟨rfl, ⟨rfl, trivial⟩⟩⟩⟩⟩⟩
set_option maxRecDepth 100000 in
set_option maxHeartbeats 4000000 in
theorem sl_X1_mostHeld_5 {γ : GG} (Q : Int64 → Wd → Prop) (l1 : Int32) : ∀ (n : Nat) (l2 : Int64) (l4 : Int32) (w : Wd), lp_X1_mostHeld_5 Q l1 n l2 l4 w → Rch γ 3 k_X1_mostHeld 5 [some (.ref 1), some (.int l1), some (.long l2), none, some (.int l4), none, none, none] [] w (qJ Q) xN := by
  intro n
  induction n with
  | zero => intro _ _ _ h; exact h.elim
  | succ n hR5 =>
    intro l2 l4 w h
    have h : wl_X1_mostHeld_5 Q l1 (lp_X1_mostHeld_5 Q l1 n) l2 l4 w := h
    unfold wl_X1_mostHeld_5 at h
    refine R.iload 7 dX1_mostHeld_5 rfl rfl ?_
    refine R.bipush 9 dX1_mostHeld_7 rfl (by decide +kernel) ?_
    refine R.icmp_ge 77 12 dX1_mostHeld_9 (by decide) rfl (fun hc => ?_) (fun hc => ?_)
    · replace h := h.1 hc
      refine R.lload_n 78 dX1_mostHeld_77 rfl rfl ?_
      exact R.retJ dX1_mostHeld_78 rfl h
    · replace h := h.2 hc
      refine R.lconst (m0 := 0) 13 dX1_mostHeld_12 rfl (by decide +kernel) ?_
      refine R.lst5 15 dX1_mostHeld_13 rfl (Nat.le_of_ble_eq_true rfl) rfl ?_
      refine R.iconst 16 dX1_mostHeld_15 rfl ?_
      refine R.ist7 18 dX1_mostHeld_16 rfl (Nat.le_of_ble_eq_true rfl) rfl ?_
      obtain ⟨n1, h⟩ := h
      exact Rch.dropk (sl_X1_mostHeld_18 Q _ _ _ _ hR5 n1 _ _ _ h) ⟨rfl, ⟨rfl, ⟨rfl, ⟨rfl, ⟨rfl, ⟨rfl, trivial⟩⟩⟩⟩⟩⟩
set_option maxRecDepth 100000 in
set_option maxHeartbeats 4000000 in
theorem sd_X1_mostHeld {γ : GG} (l1 : Int32) (w : Wd) (Q : Int64 → Wd → Prop) : wp_X1_mostHeld l1 w Q → Ctr γ 3 yX1_mostHeld (ws_ yX1_mostHeld cX1_mostHeld 8 (some .long)) [.ref 1, .int l1] w (qJ Q) xN := by
  intro h
  unfold wp_X1_mostHeld at h
  refine Ctr.of (μ := k_X1_mostHeld) (by decide) rfl rfl rfl (Nat.le_of_ble_eq_true rfl) ⟨6, ?_⟩
  have es : lva [.ref 1, .int l1] ++ List.replicate 6 none = [some (.ref 1), some (.int l1), none, none, none, none, none, none] := rfl
  rw [es]
  refine R.lconst (m0 := 0) 1 dX1_mostHeld_0 rfl (by decide +kernel) ?_
  refine R.lst2n 2 dX1_mostHeld_1 rfl (Nat.le_of_ble_eq_true rfl) rfl ?_
  refine R.iconst 3 dX1_mostHeld_2 rfl ?_
  refine R.ist4 5 dX1_mostHeld_3 rfl (Nat.le_of_ble_eq_true rfl) rfl ?_
  obtain ⟨n1, h⟩ := h
  exact Rch.dropk (sl_X1_mostHeld_5 Q _ n1 _ _ _ h) ⟨rfl, ⟨rfl, ⟨rfl, ⟨rfl, trivial⟩⟩⟩⟩

abbrev k_X1_what : MK := ("FrostBox", cX1_what, 6, (some .int), [], "what")
def wl_X1_what_50 (Q : Int32 → Wd → Prop) (l1 : Int32) (R50 : Int32 → Int64 → Int32 → Wd → Prop) (l2 : Int32) (l3 : Int64) (l5 : Int32) (w : Wd) : Prop := ((gI w 23) ≤ l5 → (¬ l1 = iz 0 → (¬ (lg_cmp l3 (lz 0)) = iz 0 → wp_X1_heldOf l2 w (fun r1 w2 => (¬ l3 = 0) ∧ Q (((r1 * (lz 1000)) / l3)).toInt32 w2)) ∧ ((lg_cmp l3 (lz 0)) = iz 0 → Q (iz 0) w)) ∧ (l1 = iz 0 → Q l2 w)) ∧ (¬ (gI w 23) ≤ l5 → wp_X1_heldOf l5 w (fun r3 w4 => wp_X1_heldOf l5 w4 (fun r5 w6 => wp_X1_heldOf l2 w6 (fun r7 w8 => ((lg_cmp r5 r7) ≤ iz 0 → R50 l2 (l3 + r3) (l5 + iz 1) w8) ∧ (¬ (lg_cmp r5 r7) ≤ iz 0 → R50 l5 (l3 + r3) (l5 + iz 1) w8)))))
def lp_X1_what_50 (Q : Int32 → Wd → Prop) (l1 : Int32) : Nat → Int32 → Int64 → Int32 → Wd → Prop
  | 0, _, _, _, _ => False
  | n + 1, l2, l3, l5, w => wl_X1_what_50 Q l1 (lp_X1_what_50 Q l1 n) l2 l3 l5 w
def wp_X1_what (l1 : Int32) (w : Wd) (Q : Int32 → Wd → Prop) : Prop := wp_X1_isHouse w (fun r1 w2 => (r1 = iz 0 → Q (iz (-1)) w2) ∧ (¬ r1 = iz 0 → wp_X1_in l1 (iz 0) (iz 2) w2 (fun r3 w4 => (¬ r3 = iz 0 → (¬ l1 = (iz 2) → ∃ n5, lp_X1_what_50 Q l1 n5 (iz 0) (lz 0) (iz 0) w4) ∧ (l1 = (iz 2) → wp_X1_mostHeld (iz 1) w4 (fun r6 w7 => wp_X1_mostHeld (iz 0) w7 (fun r8 w9 => (iz 0 ≤ (lg_cmp r6 r8) → Q (iz 0) w9) ∧ (¬ iz 0 ≤ (lg_cmp r6 r8) → Q (iz 1) w9))))) ∧ (r3 = iz 0 → Q (iz (-1)) w4))))
set_option maxRecDepth 100000 in
set_option maxHeartbeats 4000000 in
theorem sl_X1_what_50 {γ : GG} (Q : Int32 → Wd → Prop) (l1 : Int32) : ∀ (n : Nat) (l2 : Int32) (l3 : Int64) (l5 : Int32) (w : Wd), lp_X1_what_50 Q l1 n l2 l3 l5 w → Rch γ 4 k_X1_what 50 [some (.ref 1), some (.int l1), some (.int l2), some (.long l3), none, some (.int l5)] [] w (qI Q) xN := by
  intro n
  induction n with
  | zero => intro _ _ _ _ h; exact h.elim
  | succ n hR50 =>
    intro l2 l3 l5 w h
    have h : wl_X1_what_50 Q l1 (lp_X1_what_50 Q l1 n) l2 l3 l5 w := h
    unfold wl_X1_what_50 at h
    refine R.iload 52 dX1_what_50 rfl rfl ?_
    refine R.aload_n 53 dX1_what_52 rfl rfl ?_
    refine gf_23 56 dX1_what_53 rfl rfl ?_
    refine R.icmp_ge 92 59 dX1_what_56 (by decide) rfl (fun hc => ?_) (fun hc => ?_)
    · replace h := h.1 hc
      refine R.iload_n 93 dX1_what_92 rfl rfl ?_
      refine R.if_ne 100 96 dX1_what_93 (by decide) rfl (fun hc => ?_) (fun hc => ?_)
      · replace h := h.1 hc
        refine R.lload_n 101 dX1_what_100 rfl rfl ?_
        refine R.lconst (m0 := 0) 102 dX1_what_101 rfl (by decide +kernel) ?_
        refine R.lcmp 103 dX1_what_102 rfl ?_
        refine R.if_ne 110 106 dX1_what_103 (by decide) rfl (fun hc => ?_) (fun hc => ?_)
        · replace h := h.1 hc
          refine R.aload_n 111 dX1_what_110 rfl rfl ?_
          refine R.iload_n 112 dX1_what_111 rfl rfl ?_
          refine Rch.callv (sd_X1_heldOf _ _ _ h) dX1_what_112 (lw_V q1105 q1107 qs73 q142 q1108) dk_X1_heldOf rcX (by decide) (Nat.le_of_ble_eq_true rfl) rfl rfl (Nat.le_of_ble_eq_true rfl) (kJ 115 rfl fun r1 w2 h => ?_) kN
          refine R.ldc2 (n := 1000) 118 dX1_what_115 rfl q1110 (by decide +kernel) ?_
          refine R.lmul 119 dX1_what_118 rfl ?_
          refine R.lload_n 120 dX1_what_119 rfl rfl ?_
          obtain ⟨hz, h⟩ := h
          refine R.ldiv 121 dX1_what_120 rfl hz ?_
          refine R.l2i 122 dX1_what_121 rfl ?_
          exact R.retI dX1_what_122 rfl h
        · replace h := h.2 hc
          refine R.iconst 107 dX1_what_106 rfl ?_
          refine R.goto 122 dX1_what_107 (by decide) ?_
          exact R.retI dX1_what_122 rfl h
      · replace h := h.2 hc
        refine R.iload_n 97 dX1_what_96 rfl rfl ?_
        refine R.goto 122 dX1_what_97 (by decide) ?_
        exact R.retI dX1_what_122 rfl h
    · replace h := h.2 hc
      refine R.lload_n 60 dX1_what_59 rfl rfl ?_
      refine R.aload_n 61 dX1_what_60 rfl rfl ?_
      refine R.iload 63 dX1_what_61 rfl rfl ?_
      refine Rch.callv (sd_X1_heldOf _ _ _ h) dX1_what_63 (lw_V q1105 q1107 qs73 q142 q1108) dk_X1_heldOf rcX (by decide) (Nat.le_of_ble_eq_true rfl) rfl rfl (Nat.le_of_ble_eq_true rfl) (kJ 66 rfl fun r3 w4 h => ?_) kN
      refine R.ladd 67 dX1_what_66 rfl ?_
      refine R.lst3n 68 dX1_what_67 rfl (Nat.le_of_ble_eq_true rfl) rfl ?_
      refine R.aload_n 69 dX1_what_68 rfl rfl ?_
      refine R.iload 71 dX1_what_69 rfl rfl ?_
      refine Rch.callv (sd_X1_heldOf _ _ _ h) dX1_what_71 (lw_V q1105 q1107 qs73 q142 q1108) dk_X1_heldOf rcX (by decide) (Nat.le_of_ble_eq_true rfl) rfl rfl (Nat.le_of_ble_eq_true rfl) (kJ 74 rfl fun r5 w6 h => ?_) kN
      refine R.aload_n 75 dX1_what_74 rfl rfl ?_
      refine R.iload_n 76 dX1_what_75 rfl rfl ?_
      refine Rch.callv (sd_X1_heldOf _ _ _ h) dX1_what_76 (lw_V q1105 q1107 qs73 q142 q1108) dk_X1_heldOf rcX (by decide) (Nat.le_of_ble_eq_true rfl) rfl rfl (Nat.le_of_ble_eq_true rfl) (kJ 79 rfl fun r7 w8 h => ?_) kN
      refine R.lcmp 80 dX1_what_79 rfl ?_
      refine R.if_le 86 83 dX1_what_80 (by decide) rfl (fun hc => ?_) (fun hc => ?_)
      · replace h := h.1 hc
        refine R.inc5 89 dX1_what_86 rfl (Nat.le_of_ble_eq_true rfl) rfl ?_
        refine R.goto 50 dX1_what_89 (by decide) ?_
        exact Rch.dropk (hR50 _ _ _ _ h) ⟨rfl, ⟨rfl, ⟨rfl, ⟨rfl, ⟨rfl, trivial⟩⟩⟩⟩⟩
      · replace h := h.2 hc
        refine R.iload 85 dX1_what_83 rfl rfl ?_
        refine R.ist2n 86 dX1_what_85 rfl (Nat.le_of_ble_eq_true rfl) rfl ?_
        refine R.inc5 89 dX1_what_86 rfl (Nat.le_of_ble_eq_true rfl) rfl ?_
        refine R.goto 50 dX1_what_89 (by decide) ?_
        exact Rch.dropk (hR50 _ _ _ _ h) ⟨rfl, ⟨rfl, ⟨rfl, ⟨rfl, ⟨rfl, trivial⟩⟩⟩⟩⟩
set_option maxRecDepth 100000 in
set_option maxHeartbeats 4000000 in
theorem sd_X1_what {γ : GG} (l1 : Int32) (w : Wd) (Q : Int32 → Wd → Prop) : wp_X1_what l1 w Q → Ctr γ 4 yX1_what (ws_ yX1_what cX1_what 6 (some .int)) [.ref 1, .int l1] w (qI Q) xN := by
  intro h
  unfold wp_X1_what at h
  refine Ctr.of (μ := k_X1_what) (by decide) rfl rfl rfl (Nat.le_of_ble_eq_true rfl) ⟨4, ?_⟩
  have es : lva [.ref 1, .int l1] ++ List.replicate 4 none = [some (.ref 1), some (.int l1), none, none, none, none] := rfl
  rw [es]
  refine R.aload_n 1 dX1_what_0 rfl rfl ?_
  refine Rch.callv (sd_X1_isHouse _ _ h) dX1_what_1 (lw_V q737 q739 qs26 q142 q740) dk_X1_isHouse rcX (by decide) (Nat.le_of_ble_eq_true rfl) rfl rfl (Nat.le_of_ble_eq_true rfl) (kI 4 rfl fun r1 w2 h => ?_) kN
  refine R.if_eq 16 7 dX1_what_4 (by decide) rfl (fun hc => ?_) (fun hc => ?_)
  · replace h := h.1 hc
    refine R.iconst 17 dX1_what_16 rfl ?_
    exact R.retI dX1_what_17 rfl h
  · replace h := h.2 hc
    refine R.iload_n 8 dX1_what_7 rfl rfl ?_
    refine R.iconst 9 dX1_what_8 rfl ?_
    refine R.iconst 10 dX1_what_9 rfl ?_
    refine Rch.calls (sd_X1_in _ _ _ _ _ h) dX1_what_10 (lw_S q700 q701 q142 q702) dk_X1_in (by decide) (Nat.le_of_ble_eq_true rfl) rfl rfl (Nat.le_of_ble_eq_true rfl) (kI 13 rfl fun r3 w4 h => ?_) kN
    refine R.if_ne 18 16 dX1_what_13 (by decide) rfl (fun hc => ?_) (fun hc => ?_)
    · replace h := h.1 hc
      refine R.iload_n 19 dX1_what_18 rfl rfl ?_
      refine R.iconst 20 dX1_what_19 rfl ?_
      refine R.icmp_ne 43 23 dX1_what_20 (by decide) rfl (fun hc => ?_) (fun hc => ?_)
      · replace h := h.1 hc
        refine R.iconst 44 dX1_what_43 rfl ?_
        refine R.ist2n 45 dX1_what_44 rfl (Nat.le_of_ble_eq_true rfl) rfl ?_
        refine R.lconst (m0 := 0) 46 dX1_what_45 rfl (by decide +kernel) ?_
        refine R.lst3n 47 dX1_what_46 rfl (Nat.le_of_ble_eq_true rfl) rfl ?_
        refine R.iconst 48 dX1_what_47 rfl ?_
        refine R.ist5 50 dX1_what_48 rfl (Nat.le_of_ble_eq_true rfl) rfl ?_
        obtain ⟨n5, h⟩ := h
        exact Rch.dropk (sl_X1_what_50 Q _ n5 _ _ _ _ h) ⟨rfl, ⟨rfl, ⟨rfl, ⟨rfl, ⟨rfl, trivial⟩⟩⟩⟩⟩
      · replace h := h.2 hc
        refine R.aload_n 24 dX1_what_23 rfl rfl ?_
        refine R.iconst 25 dX1_what_24 rfl ?_
        refine Rch.callv (sd_X1_mostHeld _ _ _ h) dX1_what_25 (lw_V q1101 q1103 qs72 q142 q1104) dk_X1_mostHeld rcX (by decide) (Nat.le_of_ble_eq_true rfl) rfl rfl (Nat.le_of_ble_eq_true rfl) (kJ 28 rfl fun r6 w7 h => ?_) kN
        refine R.aload_n 29 dX1_what_28 rfl rfl ?_
        refine R.iconst 30 dX1_what_29 rfl ?_
        refine Rch.callv (sd_X1_mostHeld _ _ _ h) dX1_what_30 (lw_V q1101 q1103 qs72 q142 q1104) dk_X1_mostHeld rcX (by decide) (Nat.le_of_ble_eq_true rfl) rfl rfl (Nat.le_of_ble_eq_true rfl) (kJ 33 rfl fun r8 w9 h => ?_) kN
        refine R.lcmp 34 dX1_what_33 rfl ?_
        refine R.if_ge 41 37 dX1_what_34 (by decide) rfl (fun hc => ?_) (fun hc => ?_)
        · replace h := h.1 hc
          refine R.iconst 42 dX1_what_41 rfl ?_
          exact R.retI dX1_what_42 rfl h
        · replace h := h.2 hc
          refine R.iconst 38 dX1_what_37 rfl ?_
          refine R.goto 42 dX1_what_38 (by decide) ?_
          exact R.retI dX1_what_42 rfl h
    · replace h := h.2 hc
      refine R.iconst 17 dX1_what_16 rfl ?_
      exact R.retI dX1_what_17 rfl h

abbrev k_X1_found : MK := ("FrostBox", cX1_found, 4, (some .int), [], "found")
def wp_X1_found (l1 : Int32) (l2 : Int32) (l3 : Int32) (w : Wd) (Q : Int32 → Wd → Prop) : Prop := wp_X1_isKind l2 w (fun r1 w2 => (r1 = iz 0 → Q (iz (-1)) w2) ∧ (¬ r1 = iz 0 → wp_X1_in l1 (iz 0) (iz 5) w2 (fun r3 w4 => (r3 = iz 0 → Q (iz (-1)) w4) ∧ (¬ r3 = iz 0 → (¬ (gI w4 43) = (iz 10) → inb (gI w4 43) 10 ∧ (∀ w5, w5 = sA w4 40 (gI w4 43).toInt l1 → inb (gI w5 43) 10 ∧ (∀ w6, w6 = sA w5 41 (gI w5 43).toInt l2 → inb (gI w6 43) 10 ∧ (∀ w7, w7 = sA w6 42 (gI w6 43).toInt (znar l3) → ∀ w8, w8 = sI w7 43 ((gI w7 43) + (iz 1)) → Q (gI w8 43) w8)))) ∧ ((gI w4 43) = (iz 10) → Q (iz (-1)) w4)))))
set_option maxRecDepth 100000 in
set_option maxHeartbeats 4000000 in
theorem sd_X1_found {γ : GG} (l1 : Int32) (l2 : Int32) (l3 : Int32) (w : Wd) (Q : Int32 → Wd → Prop) : wp_X1_found l1 l2 l3 w Q → Ctr γ 3 yX1_found (ws_ yX1_found cX1_found 4 (some .int)) [.ref 1, .int l1, .int l2, .int l3] w (qI Q) xN := by
  intro h
  unfold wp_X1_found at h
  refine Ctr.of (μ := k_X1_found) (by decide) rfl rfl rfl (Nat.le_of_ble_eq_true rfl) ⟨0, ?_⟩
  have es : lva [.ref 1, .int l1, .int l2, .int l3] ++ List.replicate 0 none = [some (.ref 1), some (.int l1), some (.int l2), some (.int l3)] := rfl
  rw [es]
  refine R.aload_n 1 dX1_found_0 rfl rfl ?_
  refine R.iload_n 2 dX1_found_1 rfl rfl ?_
  refine Rch.callv (sd_X1_isKind _ _ _ h) dX1_found_2 (lw_V q745 q747 qs27 q142 q748) dk_X1_isKind rcX (by decide) (Nat.le_of_ble_eq_true rfl) rfl rfl (Nat.le_of_ble_eq_true rfl) (kI 5 rfl fun r1 w2 h => ?_) kN
  refine R.if_eq 26 8 dX1_found_5 (by decide) rfl (fun hc => ?_) (fun hc => ?_)
  · replace h := h.1 hc
    refine R.iconst 27 dX1_found_26 rfl ?_
    exact R.retI dX1_found_27 rfl h
  · replace h := h.2 hc
    refine R.iload_n 9 dX1_found_8 rfl rfl ?_
    refine R.iconst 10 dX1_found_9 rfl ?_
    refine R.iconst 11 dX1_found_10 rfl ?_
    refine Rch.calls (sd_X1_in _ _ _ _ _ h) dX1_found_11 (lw_S q700 q701 q142 q702) dk_X1_in (by decide) (Nat.le_of_ble_eq_true rfl) rfl rfl (Nat.le_of_ble_eq_true rfl) (kI 14 rfl fun r3 w4 h => ?_) kN
    refine R.if_eq 26 17 dX1_found_14 (by decide) rfl (fun hc => ?_) (fun hc => ?_)
    · replace h := h.1 hc
      refine R.iconst 27 dX1_found_26 rfl ?_
      exact R.retI dX1_found_27 rfl h
    · replace h := h.2 hc
      refine R.aload_n 18 dX1_found_17 rfl rfl ?_
      refine gf_43 21 dX1_found_18 rfl rfl ?_
      refine R.bipush 23 dX1_found_21 rfl (by decide +kernel) ?_
      refine R.icmp_ne 28 26 dX1_found_23 (by decide) rfl (fun hc => ?_) (fun hc => ?_)
      · replace h := h.1 hc
        refine R.aload_n 29 dX1_found_28 rfl rfl ?_
        refine gf_40 32 dX1_found_29 rfl rfl ?_
        refine R.aload_n 33 dX1_found_32 rfl rfl ?_
        refine gf_43 36 dX1_found_33 rfl rfl ?_
        refine R.iload_n 37 dX1_found_36 rfl rfl ?_
        obtain ⟨hb, h⟩ := h
        replace h := h _ rfl
        refine R.iast ar_40 38 dX1_found_37 rfl hb ?_
        refine R.aload_n 39 dX1_found_38 rfl rfl ?_
        refine gf_41 42 dX1_found_39 rfl rfl ?_
        refine R.aload_n 43 dX1_found_42 rfl rfl ?_
        refine gf_43 46 dX1_found_43 rfl rfl ?_
        refine R.iload_n 47 dX1_found_46 rfl rfl ?_
        obtain ⟨hb, h⟩ := h
        replace h := h _ rfl
        refine R.iast ar_41 48 dX1_found_47 rfl hb ?_
        refine R.aload_n 49 dX1_found_48 rfl rfl ?_
        refine gf_42 52 dX1_found_49 rfl rfl ?_
        refine R.aload_n 53 dX1_found_52 rfl rfl ?_
        refine gf_43 56 dX1_found_53 rfl rfl ?_
        refine R.iload_n 57 dX1_found_56 rfl rfl ?_
        obtain ⟨hb, h⟩ := h
        replace h := h _ rfl
        refine R.zast ar_42 58 dX1_found_57 rfl hb ?_
        refine R.aload_n 59 dX1_found_58 rfl rfl ?_
        refine R.dupR 60 dX1_found_59 rfl ?_
        refine gf_43 63 dX1_found_60 rfl rfl ?_
        refine R.iconst 64 dX1_found_63 rfl ?_
        refine R.iadd 65 dX1_found_64 rfl ?_
        replace h := h _ rfl
        refine pf_43 _ 68 dX1_found_65 rfl rfl ?_
        refine R.aload_n 69 dX1_found_68 rfl rfl ?_
        refine gf_43 72 dX1_found_69 rfl rfl ?_
        exact R.retI dX1_found_72 rfl h
      · replace h := h.2 hc
        refine R.iconst 27 dX1_found_26 rfl ?_
        exact R.retI dX1_found_27 rfl h

abbrev k_X1_mayBe : MK := ("FrostBox", cX1_mayBe, 4, (some .boolean), [], "mayBe")
def wl_X1_mayBe_2 (Q : Int32 → Wd → Prop) (l1 : Int32) (l2 : Int32) (R2 : Int32 → Wd → Prop) (l3 : Int32) (w : Wd) : Prop := ((gI w 43) ≤ l3 → Q (iz 1) w) ∧ (¬ (gI w 43) ≤ l3 → inb l3 10 ∧ (¬ (gA w 40 l3.toInt) = l1 → R2 (l3 + iz 1) w) ∧ ((gA w 40 l3.toInt) = l1 → inb l3 10 ∧ (¬ (gA w 41 l3.toInt) = l2 → inb l3 10 ∧ ((iz 0) = (gA w 42 l3.toInt) → R2 (l3 + iz 1) w) ∧ (¬ (iz 0) = (gA w 42 l3.toInt) → Q (iz 0) w)) ∧ ((gA w 41 l3.toInt) = l2 → inb l3 10 ∧ ((iz 1) = (gA w 42 l3.toInt) → R2 (l3 + iz 1) w) ∧ (¬ (iz 1) = (gA w 42 l3.toInt) → Q (iz 0) w))))
def lp_X1_mayBe_2 (Q : Int32 → Wd → Prop) (l1 : Int32) (l2 : Int32) : Nat → Int32 → Wd → Prop
  | 0, _, _ => False
  | n + 1, l3, w => wl_X1_mayBe_2 Q l1 l2 (lp_X1_mayBe_2 Q l1 l2 n) l3 w
def wp_X1_mayBe (l1 : Int32) (l2 : Int32) (w : Wd) (Q : Int32 → Wd → Prop) : Prop := ∃ n1, lp_X1_mayBe_2 Q l1 l2 n1 (iz 0) w
set_option maxRecDepth 100000 in
set_option maxHeartbeats 4000000 in
theorem sl_X1_mayBe_2 {γ : GG} (Q : Int32 → Wd → Prop) (l1 : Int32) (l2 : Int32) : ∀ (n : Nat) (l3 : Int32) (w : Wd), lp_X1_mayBe_2 Q l1 l2 n l3 w → Rch γ 1 k_X1_mayBe 2 [some (.ref 1), some (.int l1), some (.int l2), some (.int l3)] [] w (qI Q) xN := by
  intro n
  induction n with
  | zero => intro _ _ h; exact h.elim
  | succ n hR2 =>
    intro l3 w h
    have h : wl_X1_mayBe_2 Q l1 l2 (lp_X1_mayBe_2 Q l1 l2 n) l3 w := h
    unfold wl_X1_mayBe_2 at h
    refine R.iload_n 3 dX1_mayBe_2 rfl rfl ?_
    refine R.aload_n 4 dX1_mayBe_3 rfl rfl ?_
    refine gf_43 7 dX1_mayBe_4 rfl rfl ?_
    refine R.icmp_ge 52 10 dX1_mayBe_7 (by decide) rfl (fun hc => ?_) (fun hc => ?_)
    · replace h := h.1 hc
      refine R.iconst 53 dX1_mayBe_52 rfl ?_
      exact R.retZ dX1_mayBe_53 rfl zok1 h
    · replace h := h.2 hc
      refine R.aload_n 11 dX1_mayBe_10 rfl rfl ?_
      refine gf_40 14 dX1_mayBe_11 rfl rfl ?_
      refine R.iload_n 15 dX1_mayBe_14 rfl rfl ?_
      obtain ⟨hb, h⟩ := h
      refine R.iald ar_40 16 dX1_mayBe_15 rfl hb ?_
      refine R.iload_n 17 dX1_mayBe_16 rfl rfl ?_
      refine R.icmp_ne 46 20 dX1_mayBe_17 (by decide) rfl (fun hc => ?_) (fun hc => ?_)
      · replace h := h.1 hc
        refine R.inc3 49 dX1_mayBe_46 rfl (Nat.le_of_ble_eq_true rfl) rfl ?_
        refine R.goto 2 dX1_mayBe_49 (by decide) ?_
        exact Rch.dropk (hR2 _ _ h) ⟨rfl, ⟨rfl, ⟨rfl, ⟨rfl, trivial⟩⟩⟩⟩
      · replace h := h.2 hc
        refine R.aload_n 21 dX1_mayBe_20 rfl rfl ?_
        refine gf_41 24 dX1_mayBe_21 rfl rfl ?_
        refine R.iload_n 25 dX1_mayBe_24 rfl rfl ?_
        obtain ⟨hb, h⟩ := h
        refine R.iald ar_41 26 dX1_mayBe_25 rfl hb ?_
        refine R.iload_n 27 dX1_mayBe_26 rfl rfl ?_
        refine R.icmp_ne 34 30 dX1_mayBe_27 (by decide) rfl (fun hc => ?_) (fun hc => ?_)
        · replace h := h.1 hc
          refine R.iconst 35 dX1_mayBe_34 rfl ?_
          refine R.aload_n 36 dX1_mayBe_35 rfl rfl ?_
          refine gf_42 39 dX1_mayBe_36 rfl rfl ?_
          refine R.iload_n 40 dX1_mayBe_39 rfl rfl ?_
          obtain ⟨hb, h⟩ := h
          refine R.zald ar_42 41 dX1_mayBe_40 rfl hb ?_
          refine R.icmp_eq 46 44 dX1_mayBe_41 (by decide) rfl (fun hc => ?_) (fun hc => ?_)
          · replace h := h.1 hc
            refine R.inc3 49 dX1_mayBe_46 rfl (Nat.le_of_ble_eq_true rfl) rfl ?_
            refine R.goto 2 dX1_mayBe_49 (by decide) ?_
            exact Rch.dropk (hR2 _ _ h) ⟨rfl, ⟨rfl, ⟨rfl, ⟨rfl, trivial⟩⟩⟩⟩
          · replace h := h.2 hc
            refine R.iconst 45 dX1_mayBe_44 rfl ?_
            exact R.retZ dX1_mayBe_45 rfl zok0 h
        · replace h := h.2 hc
          refine R.iconst 31 dX1_mayBe_30 rfl ?_
          refine R.goto 35 dX1_mayBe_31 (by decide) ?_
          refine R.aload_n 36 dX1_mayBe_35 rfl rfl ?_
          refine gf_42 39 dX1_mayBe_36 rfl rfl ?_
          refine R.iload_n 40 dX1_mayBe_39 rfl rfl ?_
          obtain ⟨hb, h⟩ := h
          refine R.zald ar_42 41 dX1_mayBe_40 rfl hb ?_
          refine R.icmp_eq 46 44 dX1_mayBe_41 (by decide) rfl (fun hc => ?_) (fun hc => ?_)
          · replace h := h.1 hc
            refine R.inc3 49 dX1_mayBe_46 rfl (Nat.le_of_ble_eq_true rfl) rfl ?_
            refine R.goto 2 dX1_mayBe_49 (by decide) ?_
            exact Rch.dropk (hR2 _ _ h) ⟨rfl, ⟨rfl, ⟨rfl, ⟨rfl, trivial⟩⟩⟩⟩
          · replace h := h.2 hc
            refine R.iconst 45 dX1_mayBe_44 rfl ?_
            exact R.retZ dX1_mayBe_45 rfl zok0 h
set_option maxRecDepth 100000 in
set_option maxHeartbeats 4000000 in
theorem sd_X1_mayBe {γ : GG} (l1 : Int32) (l2 : Int32) (w : Wd) (Q : Int32 → Wd → Prop) : wp_X1_mayBe l1 l2 w Q → Ctr γ 1 yX1_mayBe (ws_ yX1_mayBe cX1_mayBe 4 (some .boolean)) [.ref 1, .int l1, .int l2] w (qI Q) xN := by
  intro h
  unfold wp_X1_mayBe at h
  refine Ctr.of (μ := k_X1_mayBe) (by decide) rfl rfl rfl (Nat.le_of_ble_eq_true rfl) ⟨1, ?_⟩
  have es : lva [.ref 1, .int l1, .int l2] ++ List.replicate 1 none = [some (.ref 1), some (.int l1), some (.int l2), none] := rfl
  rw [es]
  refine R.iconst 1 dX1_mayBe_0 rfl ?_
  refine R.ist3n 2 dX1_mayBe_1 rfl (Nat.le_of_ble_eq_true rfl) rfl ?_
  obtain ⟨n1, h⟩ := h
  exact Rch.dropk (sl_X1_mayBe_2 Q _ _ n1 _ _ h) ⟨rfl, ⟨rfl, ⟨rfl, ⟨rfl, trivial⟩⟩⟩⟩

abbrev k_X1_tryRows : MK := ("FrostBox", cX1_tryRows, 4, none, [], "tryRows")
def wl_X1_tryRows_87 (Ptry : Int32 → Int32 → Wd → (Wd → Prop) → Prop) (Q : Wd → Prop) (l1 : Int32) (l2 : Int32) (R87 : Int32 → Wd → Prop) (l3 : Int32) (w : Wd) : Prop := ((gI w 23) ≤ l3 → Q w) ∧ (¬ (gI w 23) ≤ l3 → inb l3 6 ∧ ((gA w 44 l3.toInt) = iz 0 → R87 (l3 + iz 1) w) ∧ (¬ (gA w 44 l3.toInt) = iz 0 → wp_X1_mayBe l1 l3 w (fun r1 w2 => (¬ r1 = iz 0 → inb l3 6 ∧ inb l3 6 ∧ (∀ w3, w3 = sA w2 44 l3.toInt ((gA w2 44 l3.toInt) - (iz 1)) → inb l1 6 ∧ (∀ w4, w4 = sA w3 45 l1.toInt l3 → Ptry (l1 + (iz 1)) (((iz 10) * l2) + l3) w4 (fun w6 => inb l3 6 ∧ inb l3 6 ∧ (∀ w7, w7 = sA w6 44 l3.toInt ((gA w6 44 l3.toInt) + (iz 1)) → R87 (l3 + iz 1) w7))))) ∧ (r1 = iz 0 → R87 (l3 + iz 1) w2))))
def lp_X1_tryRows_87 (Ptry : Int32 → Int32 → Wd → (Wd → Prop) → Prop) (Q : Wd → Prop) (l1 : Int32) (l2 : Int32) : Nat → Int32 → Wd → Prop
  | 0, _, _ => False
  | n + 1, l3, w => wl_X1_tryRows_87 Ptry Q l1 l2 (lp_X1_tryRows_87 Ptry Q l1 l2 n) l3 w
def wl_X1_tryRows_24 (Ptry : Int32 → Int32 → Wd → (Wd → Prop) → Prop) (Q : Wd → Prop) (R24 : Int32 → Wd → Prop) (l3 : Int32) (w : Wd) : Prop := ((iz 6) ≤ l3 → ∀ w1, w1 = sI w 47 ((gI w 47) + (iz 1)) → Q w1) ∧ (¬ (iz 6) ≤ l3 → ((gI w 47) = iz 0 → inb l3 6 ∧ inb l3 6 ∧ (∀ w2, w2 = sA w 46 l3.toInt (gA w 45 l3.toInt) → R24 (l3 + iz 1) w2)) ∧ (¬ (gI w 47) = iz 0 → inb l3 6 ∧ inb l3 6 ∧ (¬ (gA w 46 l3.toInt) = (gA w 45 l3.toInt) → inb l3 6 ∧ (∀ w3, w3 = sA w 46 l3.toInt (iz (-1)) → R24 (l3 + iz 1) w3)) ∧ ((gA w 46 l3.toInt) = (gA w 45 l3.toInt) → inb l3 6 ∧ inb l3 6 ∧ (∀ w4, w4 = sA w 46 l3.toInt (gA w 45 l3.toInt) → R24 (l3 + iz 1) w4))))
def lp_X1_tryRows_24 (Ptry : Int32 → Int32 → Wd → (Wd → Prop) → Prop) (Q : Wd → Prop) : Nat → Int32 → Wd → Prop
  | 0, _, _ => False
  | n + 1, l3, w => wl_X1_tryRows_24 Ptry Q (lp_X1_tryRows_24 Ptry Q n) l3 w
def wp_X1_tryRows (Ptry : Int32 → Int32 → Wd → (Wd → Prop) → Prop) (l1 : Int32) (l2 : Int32) (w : Wd) (Q : Wd → Prop) : Prop := (¬ l1 = (iz 6) → ∃ n1, lp_X1_tryRows_87 Ptry Q l1 l2 n1 (iz 0) w) ∧ (l1 = (iz 6) → (¬ (gI w 47) = (gI w 48) → ∃ n2, lp_X1_tryRows_24 Ptry Q n2 (iz 0) w) ∧ ((gI w 47) = (gI w 48) → ∀ w3, w3 = sI w 49 l2 → ∃ n4, lp_X1_tryRows_24 Ptry Q n4 (iz 0) w3))
set_option maxRecDepth 100000 in
set_option maxHeartbeats 4000000 in
theorem sl_X1_tryRows_87 {γ : GG} {dP : Nat} (hB : 1 ≤ dP) (Ptry : Int32 → Int32 → Wd → (Wd → Prop) → Prop) (hPtry : ∀ (l1 : Int32) (l2 : Int32) (w : Wd) (Q : Wd → Prop) , Ptry l1 l2 w Q → Ctr γ dP yX1_tryRows (ws_ yX1_tryRows cX1_tryRows 4 none) [.ref 1, .int l1, .int l2] w (qV Q) xN) (Q : Wd → Prop) (l1 : Int32) (l2 : Int32) : ∀ (n : Nat) (l3 : Int32) (w : Wd), lp_X1_tryRows_87 Ptry Q l1 l2 n l3 w → Rch γ (dP + 1) k_X1_tryRows 87 [some (.ref 1), some (.int l1), some (.int l2), some (.int l3)] [] w (qV Q) xN := by
  intro n
  induction n with
  | zero => intro _ _ h; exact h.elim
  | succ n hR87 =>
    intro l3 w h
    have h : wl_X1_tryRows_87 Ptry Q l1 l2 (lp_X1_tryRows_87 Ptry Q l1 l2 n) l3 w := h
    unfold wl_X1_tryRows_87 at h
    refine R.iload_n 88 dX1_tryRows_87 rfl rfl ?_
    refine R.aload_n 89 dX1_tryRows_88 rfl rfl ?_
    refine gf_23 92 dX1_tryRows_89 rfl rfl ?_
    refine R.icmp_ge 162 95 dX1_tryRows_92 (by decide) rfl (fun hc => ?_) (fun hc => ?_)
    · replace h := h.1 hc
      exact R.retV dX1_tryRows_162 rfl h
    · replace h := h.2 hc
      refine R.aload_n 96 dX1_tryRows_95 rfl rfl ?_
      refine gf_44 99 dX1_tryRows_96 rfl rfl ?_
      refine R.iload_n 100 dX1_tryRows_99 rfl rfl ?_
      obtain ⟨hb, h⟩ := h
      refine R.iald ar_44 101 dX1_tryRows_100 rfl hb ?_
      refine R.if_eq 156 104 dX1_tryRows_101 (by decide) rfl (fun hc => ?_) (fun hc => ?_)
      · replace h := h.1 hc
        refine R.inc3 159 dX1_tryRows_156 rfl (Nat.le_of_ble_eq_true rfl) rfl ?_
        refine R.goto 87 dX1_tryRows_159 (by decide) ?_
        exact Rch.dropk (hR87 _ _ h) ⟨rfl, ⟨rfl, ⟨rfl, ⟨rfl, trivial⟩⟩⟩⟩
      · replace h := h.2 hc
        refine R.aload_n 105 dX1_tryRows_104 rfl rfl ?_
        refine R.iload_n 106 dX1_tryRows_105 rfl rfl ?_
        refine R.iload_n 107 dX1_tryRows_106 rfl rfl ?_
        refine Rch.callv (sd_X1_mayBe _ _ _ _ h) dX1_tryRows_107 (lw_V q1128 q1130 qs76 q142 q1131) dk_X1_mayBe rcX (by omega) (Nat.le_of_ble_eq_true rfl) rfl rfl (Nat.le_of_ble_eq_true rfl) (kI 110 rfl fun r1 w2 h => ?_) kN
        refine R.if_ne 116 113 dX1_tryRows_110 (by decide) rfl (fun hc => ?_) (fun hc => ?_)
        · replace h := h.1 hc
          refine R.aload_n 117 dX1_tryRows_116 rfl rfl ?_
          refine gf_44 120 dX1_tryRows_117 rfl rfl ?_
          refine R.iload_n 121 dX1_tryRows_120 rfl rfl ?_
          refine R.dup2 122 dX1_tryRows_121 rfl ?_
          obtain ⟨hb, h⟩ := h
          refine R.iald ar_44 123 dX1_tryRows_122 rfl hb ?_
          refine R.iconst 124 dX1_tryRows_123 rfl ?_
          refine R.isub 125 dX1_tryRows_124 rfl ?_
          obtain ⟨hb, h⟩ := h
          replace h := h _ rfl
          refine R.iast ar_44 126 dX1_tryRows_125 rfl hb ?_
          refine R.aload_n 127 dX1_tryRows_126 rfl rfl ?_
          refine gf_45 130 dX1_tryRows_127 rfl rfl ?_
          refine R.iload_n 131 dX1_tryRows_130 rfl rfl ?_
          refine R.iload_n 132 dX1_tryRows_131 rfl rfl ?_
          obtain ⟨hb, h⟩ := h
          replace h := h _ rfl
          refine R.iast ar_45 133 dX1_tryRows_132 rfl hb ?_
          refine R.aload_n 134 dX1_tryRows_133 rfl rfl ?_
          refine R.iload_n 135 dX1_tryRows_134 rfl rfl ?_
          refine R.iconst 136 dX1_tryRows_135 rfl ?_
          refine R.iadd 137 dX1_tryRows_136 rfl ?_
          refine R.bipush 139 dX1_tryRows_137 rfl (by decide +kernel) ?_
          refine R.iload_n 140 dX1_tryRows_139 rfl rfl ?_
          refine R.imul 141 dX1_tryRows_140 rfl ?_
          refine R.iload_n 142 dX1_tryRows_141 rfl rfl ?_
          refine R.iadd 143 dX1_tryRows_142 rfl ?_
          refine Rch.callv (hPtry _ _ _ _ h) dX1_tryRows_143 (lw_V q1124 q1126 qs75 q142 q1127) dk_X1_tryRows rcX (by omega) (Nat.le_of_ble_eq_true rfl) rfl rfl (Nat.le_of_ble_eq_true rfl) (kV 146 rfl fun w6 h => ?_) kN
          refine R.aload_n 147 dX1_tryRows_146 rfl rfl ?_
          refine gf_44 150 dX1_tryRows_147 rfl rfl ?_
          refine R.iload_n 151 dX1_tryRows_150 rfl rfl ?_
          refine R.dup2 152 dX1_tryRows_151 rfl ?_
          obtain ⟨hb, h⟩ := h
          refine R.iald ar_44 153 dX1_tryRows_152 rfl hb ?_
          refine R.iconst 154 dX1_tryRows_153 rfl ?_
          refine R.iadd 155 dX1_tryRows_154 rfl ?_
          obtain ⟨hb, h⟩ := h
          replace h := h _ rfl
          refine R.iast ar_44 156 dX1_tryRows_155 rfl hb ?_
          refine R.inc3 159 dX1_tryRows_156 rfl (Nat.le_of_ble_eq_true rfl) rfl ?_
          refine R.goto 87 dX1_tryRows_159 (by decide) ?_
          exact Rch.dropk (hR87 _ _ h) ⟨rfl, ⟨rfl, ⟨rfl, ⟨rfl, trivial⟩⟩⟩⟩
        · replace h := h.2 hc
          refine R.goto 156 dX1_tryRows_113 (by decide) ?_
          refine R.inc3 159 dX1_tryRows_156 rfl (Nat.le_of_ble_eq_true rfl) rfl ?_
          refine R.goto 87 dX1_tryRows_159 (by decide) ?_
          exact Rch.dropk (hR87 _ _ h) ⟨rfl, ⟨rfl, ⟨rfl, ⟨rfl, trivial⟩⟩⟩⟩
set_option maxRecDepth 100000 in
set_option maxHeartbeats 4000000 in
theorem sl_X1_tryRows_24 {γ : GG} {dP : Nat} (hB : 1 ≤ dP) (Ptry : Int32 → Int32 → Wd → (Wd → Prop) → Prop) (hPtry : ∀ (l1 : Int32) (l2 : Int32) (w : Wd) (Q : Wd → Prop) , Ptry l1 l2 w Q → Ctr γ dP yX1_tryRows (ws_ yX1_tryRows cX1_tryRows 4 none) [.ref 1, .int l1, .int l2] w (qV Q) xN) (Q : Wd → Prop) : ∀ (n : Nat) (l3 : Int32) (w : Wd), lp_X1_tryRows_24 Ptry Q n l3 w → Rch γ (dP + 1) k_X1_tryRows 24 [some (.ref 1), none, none, some (.int l3)] [] w (qV Q) xN := by
  intro n
  induction n with
  | zero => intro _ _ h; exact h.elim
  | succ n hR24 =>
    intro l3 w h
    have h : wl_X1_tryRows_24 Ptry Q (lp_X1_tryRows_24 Ptry Q n) l3 w := h
    unfold wl_X1_tryRows_24 at h
    refine R.iload_n 25 dX1_tryRows_24 rfl rfl ?_
    refine R.bipush 27 dX1_tryRows_25 rfl (by decide +kernel) ?_
    refine R.icmp_ge 74 30 dX1_tryRows_27 (by decide) rfl (fun hc => ?_) (fun hc => ?_)
    · replace h := h.1 hc
      refine R.aload_n 75 dX1_tryRows_74 rfl rfl ?_
      refine R.dupR 76 dX1_tryRows_75 rfl ?_
      refine gf_47 79 dX1_tryRows_76 rfl rfl ?_
      refine R.iconst 80 dX1_tryRows_79 rfl ?_
      refine R.iadd 81 dX1_tryRows_80 rfl ?_
      replace h := h _ rfl
      refine pf_47 _ 84 dX1_tryRows_81 rfl rfl ?_
      exact R.retV dX1_tryRows_84 rfl h
    · replace h := h.2 hc
      refine R.aload_n 31 dX1_tryRows_30 rfl rfl ?_
      refine gf_46 34 dX1_tryRows_31 rfl rfl ?_
      refine R.iload_n 35 dX1_tryRows_34 rfl rfl ?_
      refine R.aload_n 36 dX1_tryRows_35 rfl rfl ?_
      refine gf_47 39 dX1_tryRows_36 rfl rfl ?_
      refine R.if_eq 57 42 dX1_tryRows_39 (by decide) rfl (fun hc => ?_) (fun hc => ?_)
      · replace h := h.1 hc
        refine R.aload_n 58 dX1_tryRows_57 rfl rfl ?_
        refine gf_45 61 dX1_tryRows_58 rfl rfl ?_
        refine R.iload_n 62 dX1_tryRows_61 rfl rfl ?_
        obtain ⟨hb, h⟩ := h
        refine R.iald ar_45 63 dX1_tryRows_62 rfl hb ?_
        refine R.goto 67 dX1_tryRows_63 (by decide) ?_
        obtain ⟨hb, h⟩ := h
        replace h := h _ rfl
        refine R.iast ar_46 68 dX1_tryRows_67 rfl hb ?_
        refine R.inc3 71 dX1_tryRows_68 rfl (Nat.le_of_ble_eq_true rfl) rfl ?_
        refine R.goto 24 dX1_tryRows_71 (by decide) ?_
        exact Rch.dropk (hR24 _ _ h) ⟨rfl, ⟨rfl, trivial⟩⟩
      · replace h := h.2 hc
        refine R.aload_n 43 dX1_tryRows_42 rfl rfl ?_
        refine gf_46 46 dX1_tryRows_43 rfl rfl ?_
        refine R.iload_n 47 dX1_tryRows_46 rfl rfl ?_
        obtain ⟨hb, h⟩ := h
        refine R.iald ar_46 48 dX1_tryRows_47 rfl hb ?_
        refine R.aload_n 49 dX1_tryRows_48 rfl rfl ?_
        refine gf_45 52 dX1_tryRows_49 rfl rfl ?_
        refine R.iload_n 53 dX1_tryRows_52 rfl rfl ?_
        obtain ⟨hb, h⟩ := h
        refine R.iald ar_45 54 dX1_tryRows_53 rfl hb ?_
        refine R.icmp_ne 66 57 dX1_tryRows_54 (by decide) rfl (fun hc => ?_) (fun hc => ?_)
        · replace h := h.1 hc
          refine R.iconst 67 dX1_tryRows_66 rfl ?_
          obtain ⟨hb, h⟩ := h
          replace h := h _ rfl
          refine R.iast ar_46 68 dX1_tryRows_67 rfl hb ?_
          refine R.inc3 71 dX1_tryRows_68 rfl (Nat.le_of_ble_eq_true rfl) rfl ?_
          refine R.goto 24 dX1_tryRows_71 (by decide) ?_
          exact Rch.dropk (hR24 _ _ h) ⟨rfl, ⟨rfl, trivial⟩⟩
        · replace h := h.2 hc
          refine R.aload_n 58 dX1_tryRows_57 rfl rfl ?_
          refine gf_45 61 dX1_tryRows_58 rfl rfl ?_
          refine R.iload_n 62 dX1_tryRows_61 rfl rfl ?_
          obtain ⟨hb, h⟩ := h
          refine R.iald ar_45 63 dX1_tryRows_62 rfl hb ?_
          refine R.goto 67 dX1_tryRows_63 (by decide) ?_
          obtain ⟨hb, h⟩ := h
          replace h := h _ rfl
          refine R.iast ar_46 68 dX1_tryRows_67 rfl hb ?_
          refine R.inc3 71 dX1_tryRows_68 rfl (Nat.le_of_ble_eq_true rfl) rfl ?_
          refine R.goto 24 dX1_tryRows_71 (by decide) ?_
          exact Rch.dropk (hR24 _ _ h) ⟨rfl, ⟨rfl, trivial⟩⟩
set_option maxRecDepth 100000 in
set_option maxHeartbeats 4000000 in
theorem sd_X1_tryRows {γ : GG} {dP : Nat} (hB : 1 ≤ dP) (Ptry : Int32 → Int32 → Wd → (Wd → Prop) → Prop) (hPtry : ∀ (l1 : Int32) (l2 : Int32) (w : Wd) (Q : Wd → Prop) , Ptry l1 l2 w Q → Ctr γ dP yX1_tryRows (ws_ yX1_tryRows cX1_tryRows 4 none) [.ref 1, .int l1, .int l2] w (qV Q) xN) (l1 : Int32) (l2 : Int32) (w : Wd) (Q : Wd → Prop) : wp_X1_tryRows Ptry l1 l2 w Q → Ctr γ (dP + 1) yX1_tryRows (ws_ yX1_tryRows cX1_tryRows 4 none) [.ref 1, .int l1, .int l2] w (qV Q) xN := by
  intro h
  unfold wp_X1_tryRows at h
  refine Ctr.of (μ := k_X1_tryRows) (by decide) rfl rfl rfl (Nat.le_of_ble_eq_true rfl) ⟨1, ?_⟩
  have es : lva [.ref 1, .int l1, .int l2] ++ List.replicate 1 none = [some (.ref 1), some (.int l1), some (.int l2), none] := rfl
  rw [es]
  refine R.iload_n 1 dX1_tryRows_0 rfl rfl ?_
  refine R.bipush 3 dX1_tryRows_1 rfl (by decide +kernel) ?_
  refine R.icmp_ne 85 6 dX1_tryRows_3 (by decide) rfl (fun hc => ?_) (fun hc => ?_)
  · replace h := h.1 hc
    refine R.iconst 86 dX1_tryRows_85 rfl ?_
    refine R.ist3n 87 dX1_tryRows_86 rfl (Nat.le_of_ble_eq_true rfl) rfl ?_
    obtain ⟨n1, h⟩ := h
    exact Rch.dropk (sl_X1_tryRows_87 hB Ptry hPtry Q _ _ n1 _ _ h) ⟨rfl, ⟨rfl, ⟨rfl, ⟨rfl, trivial⟩⟩⟩⟩
  · replace h := h.2 hc
    refine R.aload_n 7 dX1_tryRows_6 rfl rfl ?_
    refine gf_47 10 dX1_tryRows_7 rfl rfl ?_
    refine R.aload_n 11 dX1_tryRows_10 rfl rfl ?_
    refine gf_48 14 dX1_tryRows_11 rfl rfl ?_
    refine R.icmp_ne 22 17 dX1_tryRows_14 (by decide) rfl (fun hc => ?_) (fun hc => ?_)
    · replace h := h.1 hc
      refine R.iconst 23 dX1_tryRows_22 rfl ?_
      refine R.ist3n 24 dX1_tryRows_23 rfl (Nat.le_of_ble_eq_true rfl) rfl ?_
      obtain ⟨n2, h⟩ := h
      exact Rch.dropk (sl_X1_tryRows_24 hB Ptry hPtry Q n2 _ _ h) ⟨rfl, ⟨rfl, trivial⟩⟩
    · replace h := h.2 hc
      refine R.aload_n 18 dX1_tryRows_17 rfl rfl ?_
      refine R.iload_n 19 dX1_tryRows_18 rfl rfl ?_
      replace h := h _ rfl
      refine pf_49 _ 22 dX1_tryRows_19 rfl rfl ?_
      refine R.iconst 23 dX1_tryRows_22 rfl ?_
      refine R.ist3n 24 dX1_tryRows_23 rfl (Nat.le_of_ble_eq_true rfl) rfl ?_
      obtain ⟨n4, h⟩ := h
      exact Rch.dropk (sl_X1_tryRows_24 hB Ptry hPtry Q n4 _ _ h) ⟨rfl, ⟨rfl, trivial⟩⟩

def pf_X1_tryRows : Nat → Int32 → Int32 → Wd → (Wd → Prop) → Prop
  | 0 => fun _ _ _ _ => False
  | n + 1 => wp_X1_tryRows (pf_X1_tryRows n)
theorem sfn_X1_tryRows {γ : GG} : ∀ (n : Nat) (l1 : Int32) (l2 : Int32) (w : Wd) (Q : Wd → Prop) , pf_X1_tryRows n l1 l2 w Q → Ctr γ (1 + 1 * n) yX1_tryRows (ws_ yX1_tryRows cX1_tryRows 4 none) [.ref 1, .int l1, .int l2] w (qV Q) xN
  | 0, _, _, _, _, h => h.elim
  | n + 1, _, _, _, _, h => sd_X1_tryRows (dP := 1 + 1 * n) (by omega) (pf_X1_tryRows n) (sfn_X1_tryRows n) _ _ _ _ h
theorem sf_X1_tryRows {γ : GG} (n : Nat) (l1 : Int32) (l2 : Int32) (w : Wd) (Q : Wd → Prop) (h : pf_X1_tryRows n l1 l2 w Q) : Ctr γ (1 + 1 * n) yX1_tryRows (ws_ yX1_tryRows cX1_tryRows 4 none) [.ref 1, .int l1, .int l2] w (qV Q) xN := sfn_X1_tryRows n l1 l2 w Q h

abbrev k_X1_layRows : MK := ("FrostBox", cX1_layRows, 7, (some .boolean), [], "layRows")
def wl_X1_layRows_31 (Q : Int32 → Wd → Prop) (l2 : Int32) (R31 : Int32 → Int32 → Int32 → Int32 → Wd → Prop) (l3 : Int32) (l4 : Int32) (l5 : Int32) (l6 : Int32) (w : Wd) : Prop := (l6 < iz 0 → (l5 = iz 0 → Q (iz 0) w) ∧ (¬ l5 = iz 0 → (l4 = (iz 6) → ∀ w1, w1 = sI w 47 (iz 0) → ∀ w2, w2 = sI w1 48 l2 → ∀ w3, w3 = sI w2 49 (iz (-1)) → pf_X1_tryRows 8 (iz 0) (iz 0) w3 (fun w5 => Q (iz 1) w5)) ∧ (¬ l4 = (iz 6) → Q (iz 0) w))) ∧ (¬ l6 < iz 0 → inb l6 6 ∧ (∀ w6, w6 = sA w 44 l6.toInt (l3 - l3 / (iz 10) * (iz 10)) → (l5 = iz 0 → R31 (l3 / (iz 10)) (l4 + (l3 - l3 / (iz 10) * (iz 10))) (iz 0) (l6 + iz (-1)) w6) ∧ (¬ l5 = iz 0 → (l6 < (gI w6 23) → R31 (l3 / (iz 10)) (l4 + (l3 - l3 / (iz 10) * (iz 10))) (iz 1) (l6 + iz (-1)) w6) ∧ (¬ l6 < (gI w6 23) → (¬ (l3 - l3 / (iz 10) * (iz 10)) = iz 0 → R31 (l3 / (iz 10)) (l4 + (l3 - l3 / (iz 10) * (iz 10))) (iz 0) (l6 + iz (-1)) w6) ∧ ((l3 - l3 / (iz 10) * (iz 10)) = iz 0 → R31 (l3 / (iz 10)) (l4 + (l3 - l3 / (iz 10) * (iz 10))) (iz 1) (l6 + iz (-1)) w6)))))
def lp_X1_layRows_31 (Q : Int32 → Wd → Prop) (l2 : Int32) : Nat → Int32 → Int32 → Int32 → Int32 → Wd → Prop
  | 0, _, _, _, _, _ => False
  | n + 1, l3, l4, l5, l6, w => wl_X1_layRows_31 Q l2 (lp_X1_layRows_31 Q l2 n) l3 l4 l5 l6 w
def wp_X1_layRows (l1 : Int32) (l2 : Int32) (w : Wd) (Q : Int32 → Wd → Prop) : Prop := wp_X1_isHouse w (fun r1 w2 => (r1 = iz 0 → Q (iz 0) w2) ∧ (¬ r1 = iz 0 → (l1 < iz 0 → Q (iz 0) w2) ∧ (¬ l1 < iz 0 → (l1 ≤ (iz 999999) → ∃ n3, lp_X1_layRows_31 Q l2 n3 l1 (iz 0) (iz 1) (iz 5) w2) ∧ (¬ l1 ≤ (iz 999999) → Q (iz 0) w2))))
set_option maxRecDepth 100000 in
set_option maxHeartbeats 4000000 in
theorem sl_X1_layRows_31 {γ : GG} (Q : Int32 → Wd → Prop) (l2 : Int32) : ∀ (n : Nat) (l3 : Int32) (l4 : Int32) (l5 : Int32) (l6 : Int32) (w : Wd), lp_X1_layRows_31 Q l2 n l3 l4 l5 l6 w → Rch γ 10 k_X1_layRows 31 [some (.ref 1), none, some (.int l2), some (.int l3), some (.int l4), some (.int l5), some (.int l6)] [] w (qI Q) xN := by
  intro n
  induction n with
  | zero => intro _ _ _ _ _ h; exact h.elim
  | succ n hR31 =>
    intro l3 l4 l5 l6 w h
    have h : wl_X1_layRows_31 Q l2 (lp_X1_layRows_31 Q l2 n) l3 l4 l5 l6 w := h
    unfold wl_X1_layRows_31 at h
    refine R.iload 33 dX1_layRows_31 rfl rfl ?_
    refine R.if_lt 95 36 dX1_layRows_33 (by decide) rfl (fun hc => ?_) (fun hc => ?_)
    · replace h := h.1 hc
      refine R.iload 97 dX1_layRows_95 rfl rfl ?_
      refine R.if_eq 107 100 dX1_layRows_97 (by decide) rfl (fun hc => ?_) (fun hc => ?_)
      · replace h := h.1 hc
        refine R.iconst 108 dX1_layRows_107 rfl ?_
        exact R.retZ dX1_layRows_108 rfl zok0 h
      · replace h := h.2 hc
        refine R.iload 102 dX1_layRows_100 rfl rfl ?_
        refine R.bipush 104 dX1_layRows_102 rfl (by decide +kernel) ?_
        refine R.icmp_eq 109 107 dX1_layRows_104 (by decide) rfl (fun hc => ?_) (fun hc => ?_)
        · replace h := h.1 hc
          refine R.aload_n 110 dX1_layRows_109 rfl rfl ?_
          refine R.iconst 111 dX1_layRows_110 rfl ?_
          replace h := h _ rfl
          refine pf_47 _ 114 dX1_layRows_111 rfl rfl ?_
          refine R.aload_n 115 dX1_layRows_114 rfl rfl ?_
          refine R.iload_n 116 dX1_layRows_115 rfl rfl ?_
          replace h := h _ rfl
          refine pf_48 _ 119 dX1_layRows_116 rfl rfl ?_
          refine R.aload_n 120 dX1_layRows_119 rfl rfl ?_
          refine R.iconst 121 dX1_layRows_120 rfl ?_
          replace h := h _ rfl
          refine pf_49 _ 124 dX1_layRows_121 rfl rfl ?_
          refine R.aload_n 125 dX1_layRows_124 rfl rfl ?_
          refine R.iconst 126 dX1_layRows_125 rfl ?_
          refine R.iconst 127 dX1_layRows_126 rfl ?_
          refine Rch.callv (sf_X1_tryRows 8 _ _ _ _ h) dX1_layRows_127 (lw_V q1124 q1126 qs75 q142 q1127) dk_X1_tryRows rcX (by decide) (Nat.le_of_ble_eq_true rfl) rfl rfl (Nat.le_of_ble_eq_true rfl) (kV 130 rfl fun w5 h => ?_) kN
          refine R.iconst 131 dX1_layRows_130 rfl ?_
          exact R.retZ dX1_layRows_131 rfl zok1 h
        · replace h := h.2 hc
          refine R.iconst 108 dX1_layRows_107 rfl ?_
          exact R.retZ dX1_layRows_108 rfl zok0 h
    · replace h := h.2 hc
      refine R.aload_n 37 dX1_layRows_36 rfl rfl ?_
      refine gf_44 40 dX1_layRows_37 rfl rfl ?_
      refine R.iload 42 dX1_layRows_40 rfl rfl ?_
      refine R.iload_n 43 dX1_layRows_42 rfl rfl ?_
      refine R.bipush 45 dX1_layRows_43 rfl (by decide +kernel) ?_
      refine R.irem 46 dX1_layRows_45 rfl (by decide +kernel) ?_
      obtain ⟨hb, h⟩ := h
      replace h := h _ rfl
      refine R.iast ar_44 47 dX1_layRows_46 rfl hb ?_
      refine R.iload 49 dX1_layRows_47 rfl rfl ?_
      refine R.iload_n 50 dX1_layRows_49 rfl rfl ?_
      refine R.bipush 52 dX1_layRows_50 rfl (by decide +kernel) ?_
      refine R.irem 53 dX1_layRows_52 rfl (by decide +kernel) ?_
      refine R.iadd 54 dX1_layRows_53 rfl ?_
      refine R.ist4 56 dX1_layRows_54 rfl (Nat.le_of_ble_eq_true rfl) rfl ?_
      refine R.iload 58 dX1_layRows_56 rfl rfl ?_
      refine R.if_eq 81 61 dX1_layRows_58 (by decide) rfl (fun hc => ?_) (fun hc => ?_)
      · replace h := h.1 hc
        refine R.iconst 82 dX1_layRows_81 rfl ?_
        refine R.ist5 84 dX1_layRows_82 rfl (Nat.le_of_ble_eq_true rfl) rfl ?_
        refine R.iload_n 85 dX1_layRows_84 rfl rfl ?_
        refine R.bipush 87 dX1_layRows_85 rfl (by decide +kernel) ?_
        refine R.idiv 88 dX1_layRows_87 rfl (by decide +kernel) ?_
        refine R.ist3n 89 dX1_layRows_88 rfl (Nat.le_of_ble_eq_true rfl) rfl ?_
        refine R.inc6 92 dX1_layRows_89 rfl (Nat.le_of_ble_eq_true rfl) rfl ?_
        refine R.goto 31 dX1_layRows_92 (by decide) ?_
        exact Rch.dropk (hR31 _ _ _ _ _ h) ⟨rfl, ⟨rfl, ⟨rfl, ⟨rfl, ⟨rfl, ⟨rfl, trivial⟩⟩⟩⟩⟩⟩
      · replace h := h.2 hc
        refine R.iload 63 dX1_layRows_61 rfl rfl ?_
        refine R.aload_n 64 dX1_layRows_63 rfl rfl ?_
        refine gf_23 67 dX1_layRows_64 rfl rfl ?_
        refine R.icmp_lt 77 70 dX1_layRows_67 (by decide) rfl (fun hc => ?_) (fun hc => ?_)
        · replace h := h.1 hc
          refine R.iconst 78 dX1_layRows_77 rfl ?_
          refine R.goto 82 dX1_layRows_78 (by decide) ?_
          refine R.ist5 84 dX1_layRows_82 rfl (Nat.le_of_ble_eq_true rfl) rfl ?_
          refine R.iload_n 85 dX1_layRows_84 rfl rfl ?_
          refine R.bipush 87 dX1_layRows_85 rfl (by decide +kernel) ?_
          refine R.idiv 88 dX1_layRows_87 rfl (by decide +kernel) ?_
          refine R.ist3n 89 dX1_layRows_88 rfl (Nat.le_of_ble_eq_true rfl) rfl ?_
          refine R.inc6 92 dX1_layRows_89 rfl (Nat.le_of_ble_eq_true rfl) rfl ?_
          refine R.goto 31 dX1_layRows_92 (by decide) ?_
          exact Rch.dropk (hR31 _ _ _ _ _ h) ⟨rfl, ⟨rfl, ⟨rfl, ⟨rfl, ⟨rfl, ⟨rfl, trivial⟩⟩⟩⟩⟩⟩
        · replace h := h.2 hc
          refine R.iload_n 71 dX1_layRows_70 rfl rfl ?_
          refine R.bipush 73 dX1_layRows_71 rfl (by decide +kernel) ?_
          refine R.irem 74 dX1_layRows_73 rfl (by decide +kernel) ?_
          refine R.if_ne 81 77 dX1_layRows_74 (by decide) rfl (fun hc => ?_) (fun hc => ?_)
          · replace h := h.1 hc
            refine R.iconst 82 dX1_layRows_81 rfl ?_
            refine R.ist5 84 dX1_layRows_82 rfl (Nat.le_of_ble_eq_true rfl) rfl ?_
            refine R.iload_n 85 dX1_layRows_84 rfl rfl ?_
            refine R.bipush 87 dX1_layRows_85 rfl (by decide +kernel) ?_
            refine R.idiv 88 dX1_layRows_87 rfl (by decide +kernel) ?_
            refine R.ist3n 89 dX1_layRows_88 rfl (Nat.le_of_ble_eq_true rfl) rfl ?_
            refine R.inc6 92 dX1_layRows_89 rfl (Nat.le_of_ble_eq_true rfl) rfl ?_
            refine R.goto 31 dX1_layRows_92 (by decide) ?_
            exact Rch.dropk (hR31 _ _ _ _ _ h) ⟨rfl, ⟨rfl, ⟨rfl, ⟨rfl, ⟨rfl, ⟨rfl, trivial⟩⟩⟩⟩⟩⟩
          · replace h := h.2 hc
            refine R.iconst 78 dX1_layRows_77 rfl ?_
            refine R.goto 82 dX1_layRows_78 (by decide) ?_
            refine R.ist5 84 dX1_layRows_82 rfl (Nat.le_of_ble_eq_true rfl) rfl ?_
            refine R.iload_n 85 dX1_layRows_84 rfl rfl ?_
            refine R.bipush 87 dX1_layRows_85 rfl (by decide +kernel) ?_
            refine R.idiv 88 dX1_layRows_87 rfl (by decide +kernel) ?_
            refine R.ist3n 89 dX1_layRows_88 rfl (Nat.le_of_ble_eq_true rfl) rfl ?_
            refine R.inc6 92 dX1_layRows_89 rfl (Nat.le_of_ble_eq_true rfl) rfl ?_
            refine R.goto 31 dX1_layRows_92 (by decide) ?_
            exact Rch.dropk (hR31 _ _ _ _ _ h) ⟨rfl, ⟨rfl, ⟨rfl, ⟨rfl, ⟨rfl, ⟨rfl, trivial⟩⟩⟩⟩⟩⟩
set_option maxRecDepth 100000 in
set_option maxHeartbeats 4000000 in
theorem sd_X1_layRows {γ : GG} (l1 : Int32) (l2 : Int32) (w : Wd) (Q : Int32 → Wd → Prop) : wp_X1_layRows l1 l2 w Q → Ctr γ 10 yX1_layRows (ws_ yX1_layRows cX1_layRows 7 (some .boolean)) [.ref 1, .int l1, .int l2] w (qI Q) xN := by
  intro h
  unfold wp_X1_layRows at h
  refine Ctr.of (μ := k_X1_layRows) (by decide) rfl rfl rfl (Nat.le_of_ble_eq_true rfl) ⟨4, ?_⟩
  have es : lva [.ref 1, .int l1, .int l2] ++ List.replicate 4 none = [some (.ref 1), some (.int l1), some (.int l2), none, none, none, none] := rfl
  rw [es]
  refine R.aload_n 1 dX1_layRows_0 rfl rfl ?_
  refine Rch.callv (sd_X1_isHouse _ _ h) dX1_layRows_1 (lw_V q737 q739 qs26 q142 q740) dk_X1_isHouse rcX (by decide) (Nat.le_of_ble_eq_true rfl) rfl rfl (Nat.le_of_ble_eq_true rfl) (kI 4 rfl fun r1 w2 h => ?_) kN
  refine R.if_eq 18 7 dX1_layRows_4 (by decide) rfl (fun hc => ?_) (fun hc => ?_)
  · replace h := h.1 hc
    refine R.iconst 19 dX1_layRows_18 rfl ?_
    exact R.retZ dX1_layRows_19 rfl zok0 h
  · replace h := h.2 hc
    refine R.iload_n 8 dX1_layRows_7 rfl rfl ?_
    refine R.if_lt 18 11 dX1_layRows_8 (by decide) rfl (fun hc => ?_) (fun hc => ?_)
    · replace h := h.1 hc
      refine R.iconst 19 dX1_layRows_18 rfl ?_
      exact R.retZ dX1_layRows_19 rfl zok0 h
    · replace h := h.2 hc
      refine R.iload_n 12 dX1_layRows_11 rfl rfl ?_
      refine R.ldcw (n := 999999) 15 dX1_layRows_12 rfl q1123 (by decide +kernel) ?_
      refine R.icmp_le 20 18 dX1_layRows_15 (by decide) rfl (fun hc => ?_) (fun hc => ?_)
      · replace h := h.1 hc
        refine R.iload_n 21 dX1_layRows_20 rfl rfl ?_
        refine R.ist3n 22 dX1_layRows_21 rfl (Nat.le_of_ble_eq_true rfl) rfl ?_
        refine R.iconst 23 dX1_layRows_22 rfl ?_
        refine R.ist4 25 dX1_layRows_23 rfl (Nat.le_of_ble_eq_true rfl) rfl ?_
        refine R.iconst 26 dX1_layRows_25 rfl ?_
        refine R.ist5 28 dX1_layRows_26 rfl (Nat.le_of_ble_eq_true rfl) rfl ?_
        refine R.iconst 29 dX1_layRows_28 rfl ?_
        refine R.ist6 31 dX1_layRows_29 rfl (Nat.le_of_ble_eq_true rfl) rfl ?_
        obtain ⟨n3, h⟩ := h
        exact Rch.dropk (sl_X1_layRows_31 Q _ n3 _ _ _ _ _ h) ⟨rfl, ⟨rfl, ⟨rfl, ⟨rfl, ⟨rfl, ⟨rfl, trivial⟩⟩⟩⟩⟩⟩
      · replace h := h.2 hc
        refine R.iconst 19 dX1_layRows_18 rfl ?_
        exact R.retZ dX1_layRows_19 rfl zok0 h

abbrev k_X1_history : MK := ("FrostBox", cX1_history, 3, (some .int), [], "history")
def wp_X1_history (l1 : Int32) (l2 : Int32) (w : Wd) (Q : Int32 → Wd → Prop) : Prop := (l2 < (iz (-1)) → Q (iz (-1)) w) ∧ (¬ l2 < (iz (-1)) → wp_X1_layRows l1 l2 w (fun r1 w2 => (¬ r1 = iz 0 → (¬ l2 = (iz (-1)) → Q (gI w2 49) w2) ∧ (l2 = (iz (-1)) → Q (gI w2 47) w2)) ∧ (r1 = iz 0 → Q (iz (-1)) w2)))
set_option maxRecDepth 100000 in
set_option maxHeartbeats 4000000 in
theorem sd_X1_history {γ : GG} (l1 : Int32) (l2 : Int32) (w : Wd) (Q : Int32 → Wd → Prop) : wp_X1_history l1 l2 w Q → Ctr γ 11 yX1_history (ws_ yX1_history cX1_history 3 (some .int)) [.ref 1, .int l1, .int l2] w (qI Q) xN := by
  intro h
  unfold wp_X1_history at h
  refine Ctr.of (μ := k_X1_history) (by decide) rfl rfl rfl (Nat.le_of_ble_eq_true rfl) ⟨0, ?_⟩
  have es : lva [.ref 1, .int l1, .int l2] ++ List.replicate 0 none = [some (.ref 1), some (.int l1), some (.int l2)] := rfl
  rw [es]
  refine R.iload_n 1 dX1_history_0 rfl rfl ?_
  refine R.iconst 2 dX1_history_1 rfl ?_
  refine R.icmp_lt 14 5 dX1_history_2 (by decide) rfl (fun hc => ?_) (fun hc => ?_)
  · replace h := h.1 hc
    refine R.iconst 15 dX1_history_14 rfl ?_
    exact R.retI dX1_history_15 rfl h
  · replace h := h.2 hc
    refine R.aload_n 6 dX1_history_5 rfl rfl ?_
    refine R.iload_n 7 dX1_history_6 rfl rfl ?_
    refine R.iload_n 8 dX1_history_7 rfl rfl ?_
    refine Rch.callv (sd_X1_layRows _ _ _ _ h) dX1_history_8 (lw_V q1119 q1121 qs74 q142 q1122) dk_X1_layRows rcX (by decide) (Nat.le_of_ble_eq_true rfl) rfl rfl (Nat.le_of_ble_eq_true rfl) (kI 11 rfl fun r1 w2 h => ?_) kN
    refine R.if_ne 16 14 dX1_history_11 (by decide) rfl (fun hc => ?_) (fun hc => ?_)
    · replace h := h.1 hc
      refine R.iload_n 17 dX1_history_16 rfl rfl ?_
      refine R.iconst 18 dX1_history_17 rfl ?_
      refine R.icmp_ne 28 21 dX1_history_18 (by decide) rfl (fun hc => ?_) (fun hc => ?_)
      · replace h := h.1 hc
        refine R.aload_n 29 dX1_history_28 rfl rfl ?_
        refine gf_49 32 dX1_history_29 rfl rfl ?_
        exact R.retI dX1_history_32 rfl h
      · replace h := h.2 hc
        refine R.aload_n 22 dX1_history_21 rfl rfl ?_
        refine gf_47 25 dX1_history_22 rfl rfl ?_
        refine R.goto 32 dX1_history_25 (by decide) ?_
        exact R.retI dX1_history_32 rfl h
    · replace h := h.2 hc
      refine R.iconst 15 dX1_history_14 rfl ?_
      exact R.retI dX1_history_15 rfl h

abbrev k_X1_share : MK := ("FrostBox", cX1_share, 4, (some .int), [], "share")
def wl_X1_share_22 (Q : Int32 → Wd → Prop) (R22 : Int32 → Int32 → Wd → Prop) (l2 : Int32) (l3 : Int32) (w : Wd) : Prop := ((iz 6) ≤ l3 → Q l2 w) ∧ (¬ (iz 6) ≤ l3 → inb l3 6 ∧ ((gA w 46 l3.toInt) = (iz (-1)) → R22 l2 (l3 + iz 1) w) ∧ (¬ (gA w 46 l3.toInt) = (iz (-1)) → R22 (l2 ||| ((iz 1) <<< (l3 &&& 31))) (l3 + iz 1) w))
def lp_X1_share_22 (Q : Int32 → Wd → Prop) : Nat → Int32 → Int32 → Wd → Prop
  | 0, _, _, _ => False
  | n + 1, l2, l3, w => wl_X1_share_22 Q (lp_X1_share_22 Q n) l2 l3 w
def wp_X1_share (l1 : Int32) (w : Wd) (Q : Int32 → Wd → Prop) : Prop := wp_X1_layRows l1 (iz (-1)) w (fun r1 w2 => (r1 = iz 0 → Q (iz (-1)) w2) ∧ (¬ r1 = iz 0 → (¬ (gI w2 47) = iz 0 → ∃ n3, lp_X1_share_22 Q n3 (iz 0) (iz 0) w2) ∧ ((gI w2 47) = iz 0 → Q (iz (-1)) w2)))
set_option maxRecDepth 100000 in
set_option maxHeartbeats 4000000 in
theorem sl_X1_share_22 {γ : GG} (Q : Int32 → Wd → Prop) : ∀ (n : Nat) (l2 : Int32) (l3 : Int32) (w : Wd), lp_X1_share_22 Q n l2 l3 w → Rch γ 11 k_X1_share 22 [some (.ref 1), none, some (.int l2), some (.int l3)] [] w (qI Q) xN := by
  intro n
  induction n with
  | zero => intro _ _ _ h; exact h.elim
  | succ n hR22 =>
    intro l2 l3 w h
    have h : wl_X1_share_22 Q (lp_X1_share_22 Q n) l2 l3 w := h
    unfold wl_X1_share_22 at h
    refine R.iload_n 23 dX1_share_22 rfl rfl ?_
    refine R.bipush 25 dX1_share_23 rfl (by decide +kernel) ?_
    refine R.icmp_ge 50 28 dX1_share_25 (by decide) rfl (fun hc => ?_) (fun hc => ?_)
    · replace h := h.1 hc
      refine R.iload_n 51 dX1_share_50 rfl rfl ?_
      exact R.retI dX1_share_51 rfl h
    · replace h := h.2 hc
      refine R.aload_n 29 dX1_share_28 rfl rfl ?_
      refine gf_46 32 dX1_share_29 rfl rfl ?_
      refine R.iload_n 33 dX1_share_32 rfl rfl ?_
      obtain ⟨hb, h⟩ := h
      refine R.iald ar_46 34 dX1_share_33 rfl hb ?_
      refine R.iconst 35 dX1_share_34 rfl ?_
      refine R.icmp_eq 44 38 dX1_share_35 (by decide) rfl (fun hc => ?_) (fun hc => ?_)
      · replace h := h.1 hc
        refine R.inc3 47 dX1_share_44 rfl (Nat.le_of_ble_eq_true rfl) rfl ?_
        refine R.goto 22 dX1_share_47 (by decide) ?_
        exact Rch.dropk (hR22 _ _ _ h) ⟨rfl, ⟨rfl, ⟨rfl, trivial⟩⟩⟩
      · replace h := h.2 hc
        refine R.iload_n 39 dX1_share_38 rfl rfl ?_
        refine R.iconst 40 dX1_share_39 rfl ?_
        refine R.iload_n 41 dX1_share_40 rfl rfl ?_
        refine R.ishl 42 dX1_share_41 rfl ?_
        refine R.ior 43 dX1_share_42 rfl ?_
        refine R.ist2n 44 dX1_share_43 rfl (Nat.le_of_ble_eq_true rfl) rfl ?_
        refine R.inc3 47 dX1_share_44 rfl (Nat.le_of_ble_eq_true rfl) rfl ?_
        refine R.goto 22 dX1_share_47 (by decide) ?_
        exact Rch.dropk (hR22 _ _ _ h) ⟨rfl, ⟨rfl, ⟨rfl, trivial⟩⟩⟩
set_option maxRecDepth 100000 in
set_option maxHeartbeats 4000000 in
theorem sd_X1_share {γ : GG} (l1 : Int32) (w : Wd) (Q : Int32 → Wd → Prop) : wp_X1_share l1 w Q → Ctr γ 11 yX1_share (ws_ yX1_share cX1_share 4 (some .int)) [.ref 1, .int l1] w (qI Q) xN := by
  intro h
  unfold wp_X1_share at h
  refine Ctr.of (μ := k_X1_share) (by decide) rfl rfl rfl (Nat.le_of_ble_eq_true rfl) ⟨2, ?_⟩
  have es : lva [.ref 1, .int l1] ++ List.replicate 2 none = [some (.ref 1), some (.int l1), none, none] := rfl
  rw [es]
  refine R.aload_n 1 dX1_share_0 rfl rfl ?_
  refine R.iload_n 2 dX1_share_1 rfl rfl ?_
  refine R.iconst 3 dX1_share_2 rfl ?_
  refine Rch.callv (sd_X1_layRows _ _ _ _ h) dX1_share_3 (lw_V q1119 q1121 qs74 q142 q1122) dk_X1_layRows rcX (by decide) (Nat.le_of_ble_eq_true rfl) rfl rfl (Nat.le_of_ble_eq_true rfl) (kI 6 rfl fun r1 w2 h => ?_) kN
  refine R.if_eq 16 9 dX1_share_6 (by decide) rfl (fun hc => ?_) (fun hc => ?_)
  · replace h := h.1 hc
    refine R.iconst 17 dX1_share_16 rfl ?_
    exact R.retI dX1_share_17 rfl h
  · replace h := h.2 hc
    refine R.aload_n 10 dX1_share_9 rfl rfl ?_
    refine gf_47 13 dX1_share_10 rfl rfl ?_
    refine R.if_ne 18 16 dX1_share_13 (by decide) rfl (fun hc => ?_) (fun hc => ?_)
    · replace h := h.1 hc
      refine R.iconst 19 dX1_share_18 rfl ?_
      refine R.ist2n 20 dX1_share_19 rfl (Nat.le_of_ble_eq_true rfl) rfl ?_
      refine R.iconst 21 dX1_share_20 rfl ?_
      refine R.ist3n 22 dX1_share_21 rfl (Nat.le_of_ble_eq_true rfl) rfl ?_
      obtain ⟨n3, h⟩ := h
      exact Rch.dropk (sl_X1_share_22 Q n3 _ _ _ h) ⟨rfl, ⟨rfl, ⟨rfl, trivial⟩⟩⟩
    · replace h := h.2 hc
      refine R.iconst 17 dX1_share_16 rfl ?_
      exact R.retI dX1_share_17 rfl h

abbrev k_X1_lot : MK := ("FrostBox", cX1_lot, 7, (some .int), [], "lot")
def wl_X1_lot_54 (Q : Int32 → Wd → Prop) (R25 : Int32 → Int32 → Int32 → Wd → Prop) (l1 : Int32) (l2 : Int32) (l3 : Int32) (l4 : Int32) (R54 : Int32 → Int32 → Wd → Prop) (l5 : Int32) (l6 : Int32) (w : Wd) : Prop := wp_X1_boxMany w (fun r1 w2 => (r1 ≤ l6 → R25 (l2 + l5) (l3 + iz 1) (l4 + iz 1) w2) ∧ (¬ r1 ≤ l6 → wp_X1_has l4 l6 w2 (fun r3 w4 => (r3 = iz 0 → R54 l5 (l6 + iz 1) w4) ∧ (¬ r3 = iz 0 → wp_X1_valueOf l6 w4 (fun r5 w6 => R54 (imax l5 r5) (l6 + iz 1) w6)))))
def lp_X1_lot_54 (Q : Int32 → Wd → Prop) (R25 : Int32 → Int32 → Int32 → Wd → Prop) (l1 : Int32) (l2 : Int32) (l3 : Int32) (l4 : Int32) : Nat → Int32 → Int32 → Wd → Prop
  | 0, _, _, _ => False
  | n + 1, l5, l6, w => wl_X1_lot_54 Q R25 l1 l2 l3 l4 (lp_X1_lot_54 Q R25 l1 l2 l3 l4 n) l5 l6 w
def wl_X1_lot_25 (Q : Int32 → Wd → Prop) (l1 : Int32) (R25 : Int32 → Int32 → Int32 → Wd → Prop) (l2 : Int32) (l3 : Int32) (l4 : Int32) (w : Wd) : Prop := wp_X1_boxMany w (fun r1 w2 => (((iz 1) <<< (r1 &&& 31)) ≤ l4 → (¬ l1 = iz 0 → Q l3 w2) ∧ (l1 = iz 0 → Q l2 w2)) ∧ (¬ ((iz 1) <<< (r1 &&& 31)) ≤ l4 → wp_J10_bitCount l4 w2 (fun r3 w4 => (r3 = (iz 3) → ∃ n5, lp_X1_lot_54 Q R25 l1 l2 l3 l4 n5 (iz 0) (iz 0) w4) ∧ (¬ r3 = (iz 3) → R25 l2 l3 (l4 + iz 1) w4))))
def lp_X1_lot_25 (Q : Int32 → Wd → Prop) (l1 : Int32) : Nat → Int32 → Int32 → Int32 → Wd → Prop
  | 0, _, _, _, _ => False
  | n + 1, l2, l3, l4, w => wl_X1_lot_25 Q l1 (lp_X1_lot_25 Q l1 n) l2 l3 l4 w
def wp_X1_lot (l1 : Int32) (w : Wd) (Q : Int32 → Wd → Prop) : Prop := wp_X1_isHouse w (fun r1 w2 => (r1 = iz 0 → Q (iz (-1)) w2) ∧ (¬ r1 = iz 0 → wp_X1_in l1 (iz 0) (iz 1) w2 (fun r3 w4 => (¬ r3 = iz 0 → ∃ n5, lp_X1_lot_25 Q l1 n5 (iz 0) (iz 0) (iz 0) w4) ∧ (r3 = iz 0 → Q (iz (-1)) w4))))
set_option maxRecDepth 100000 in
set_option maxHeartbeats 4000000 in
theorem sl_X1_lot_54 {γ : GG} (Q : Int32 → Wd → Prop) (R25 : Int32 → Int32 → Int32 → Wd → Prop) (l1 : Int32) (l2 : Int32) (l3 : Int32) (l4 : Int32) (hR25 : ∀ (l2 : Int32) (l3 : Int32) (l4 : Int32) (w : Wd), R25 l2 l3 l4 w → Rch γ 97 k_X1_lot 25 [some (.ref 1), some (.int l1), some (.int l2), some (.int l3), some (.int l4), none, none] [] w (qI Q) xN) : ∀ (n : Nat) (l5 : Int32) (l6 : Int32) (w : Wd), lp_X1_lot_54 Q R25 l1 l2 l3 l4 n l5 l6 w → Rch γ 97 k_X1_lot 54 [some (.ref 1), some (.int l1), some (.int l2), some (.int l3), some (.int l4), some (.int l5), some (.int l6)] [] w (qI Q) xN := by
  intro n
  induction n with
  | zero => intro _ _ _ h; exact h.elim
  | succ n hR54 =>
    intro l5 l6 w h
    have h : wl_X1_lot_54 Q R25 l1 l2 l3 l4 (lp_X1_lot_54 Q R25 l1 l2 l3 l4 n) l5 l6 w := h
    unfold wl_X1_lot_54 at h
    refine R.iload 56 dX1_lot_54 rfl rfl ?_
    refine R.aload_n 57 dX1_lot_56 rfl rfl ?_
    refine Rch.callv (sd_X1_boxMany _ _ h) dX1_lot_57 (lw_V q773 q775 qs31 q142 q776) dk_X1_boxMany rcX (by decide) (Nat.le_of_ble_eq_true rfl) rfl rfl (Nat.le_of_ble_eq_true rfl) (kI 60 rfl fun r1 w2 h => ?_) kN
    refine R.icmp_ge 92 63 dX1_lot_60 (by decide) rfl (fun hc => ?_) (fun hc => ?_)
    · replace h := h.1 hc
      refine R.iload_n 93 dX1_lot_92 rfl rfl ?_
      refine R.iload 95 dX1_lot_93 rfl rfl ?_
      refine R.iadd 96 dX1_lot_95 rfl ?_
      refine R.ist2n 97 dX1_lot_96 rfl (Nat.le_of_ble_eq_true rfl) rfl ?_
      refine R.inc3 100 dX1_lot_97 rfl (Nat.le_of_ble_eq_true rfl) rfl ?_
      refine R.inc4 103 dX1_lot_100 rfl (Nat.le_of_ble_eq_true rfl) rfl ?_
      refine R.goto 25 dX1_lot_103 (by decide) ?_
      exact Rch.dropk (hR25 _ _ _ _ h) ⟨rfl, ⟨rfl, ⟨rfl, ⟨rfl, ⟨rfl, trivial⟩⟩⟩⟩⟩
    · replace h := h.2 hc
      refine R.iload 65 dX1_lot_63 rfl rfl ?_
      refine R.iload 67 dX1_lot_65 rfl rfl ?_
      refine Rch.calls (sd_X1_has _ _ _ _ h) dX1_lot_67 (lw_S q687 q688 q142 q689) dk_X1_has (by decide) (Nat.le_of_ble_eq_true rfl) rfl rfl (Nat.le_of_ble_eq_true rfl) (kI 70 rfl fun r3 w4 h => ?_) kN
      refine R.if_eq 86 73 dX1_lot_70 (by decide) rfl (fun hc => ?_) (fun hc => ?_)
      · replace h := h.1 hc
        refine R.inc6 89 dX1_lot_86 rfl (Nat.le_of_ble_eq_true rfl) rfl ?_
        refine R.goto 54 dX1_lot_89 (by decide) ?_
        exact Rch.dropk (hR54 _ _ _ h) ⟨rfl, ⟨rfl, ⟨rfl, ⟨rfl, ⟨rfl, ⟨rfl, ⟨rfl, trivial⟩⟩⟩⟩⟩⟩⟩
      · replace h := h.2 hc
        refine R.iload 75 dX1_lot_73 rfl rfl ?_
        refine R.aload_n 76 dX1_lot_75 rfl rfl ?_
        refine R.iload 78 dX1_lot_76 rfl rfl ?_
        refine Rch.callv (sd_X1_valueOf _ _ _ h) dX1_lot_78 (lw_V q813 q815 qs40 q142 q816) dk_X1_valueOf rcX (by decide) (Nat.le_of_ble_eq_true rfl) rfl rfl (Nat.le_of_ble_eq_true rfl) (kI 81 rfl fun r5 w6 h => ?_) kN
        refine R.mmax 84 dX1_lot_81 rfl q830 q424 q149 q425 (by omega) (Nat.le_of_ble_eq_true rfl) ?_
        refine R.ist5 86 dX1_lot_84 rfl (Nat.le_of_ble_eq_true rfl) rfl ?_
        refine R.inc6 89 dX1_lot_86 rfl (Nat.le_of_ble_eq_true rfl) rfl ?_
        refine R.goto 54 dX1_lot_89 (by decide) ?_
        exact Rch.dropk (hR54 _ _ _ h) ⟨rfl, ⟨rfl, ⟨rfl, ⟨rfl, ⟨rfl, ⟨rfl, ⟨rfl, trivial⟩⟩⟩⟩⟩⟩⟩
set_option maxRecDepth 100000 in
set_option maxHeartbeats 4000000 in
theorem sl_X1_lot_25 {γ : GG} (Q : Int32 → Wd → Prop) (l1 : Int32) : ∀ (n : Nat) (l2 : Int32) (l3 : Int32) (l4 : Int32) (w : Wd), lp_X1_lot_25 Q l1 n l2 l3 l4 w → Rch γ 97 k_X1_lot 25 [some (.ref 1), some (.int l1), some (.int l2), some (.int l3), some (.int l4), none, none] [] w (qI Q) xN := by
  intro n
  induction n with
  | zero => intro _ _ _ _ h; exact h.elim
  | succ n hR25 =>
    intro l2 l3 l4 w h
    have h : wl_X1_lot_25 Q l1 (lp_X1_lot_25 Q l1 n) l2 l3 l4 w := h
    unfold wl_X1_lot_25 at h
    refine R.iload 27 dX1_lot_25 rfl rfl ?_
    refine R.iconst 28 dX1_lot_27 rfl ?_
    refine R.aload_n 29 dX1_lot_28 rfl rfl ?_
    refine Rch.callv (sd_X1_boxMany _ _ h) dX1_lot_29 (lw_V q773 q775 qs31 q142 q776) dk_X1_boxMany rcX (by decide) (Nat.le_of_ble_eq_true rfl) rfl rfl (Nat.le_of_ble_eq_true rfl) (kI 32 rfl fun r1 w2 h => ?_) kN
    refine R.ishl 33 dX1_lot_32 rfl ?_
    refine R.icmp_ge 106 36 dX1_lot_33 (by decide) rfl (fun hc => ?_) (fun hc => ?_)
    · replace h := h.1 hc
      refine R.iload_n 107 dX1_lot_106 rfl rfl ?_
      refine R.if_ne 114 110 dX1_lot_107 (by decide) rfl (fun hc => ?_) (fun hc => ?_)
      · replace h := h.1 hc
        refine R.iload_n 115 dX1_lot_114 rfl rfl ?_
        exact R.retI dX1_lot_115 rfl h
      · replace h := h.2 hc
        refine R.iload_n 111 dX1_lot_110 rfl rfl ?_
        refine R.goto 115 dX1_lot_111 (by decide) ?_
        exact R.retI dX1_lot_115 rfl h
    · replace h := h.2 hc
      refine R.iload 38 dX1_lot_36 rfl rfl ?_
      refine Rch.calls (sd_J10_bitCount _ _ _ h) dX1_lot_38 (lw_S q1031 q1032 q165 q1033) dk_J10_bitCount (by decide) (Nat.le_of_ble_eq_true rfl) rfl rfl (Nat.le_of_ble_eq_true rfl) (kI 41 rfl fun r3 w4 h => ?_) kN
      refine R.iconst 42 dX1_lot_41 rfl ?_
      refine R.icmp_eq 48 45 dX1_lot_42 (by decide) rfl (fun hc => ?_) (fun hc => ?_)
      · replace h := h.1 hc
        refine R.iconst 49 dX1_lot_48 rfl ?_
        refine R.ist5 51 dX1_lot_49 rfl (Nat.le_of_ble_eq_true rfl) rfl ?_
        refine R.iconst 52 dX1_lot_51 rfl ?_
        refine R.ist6 54 dX1_lot_52 rfl (Nat.le_of_ble_eq_true rfl) rfl ?_
        obtain ⟨n5, h⟩ := h
        exact Rch.dropk (sl_X1_lot_54 Q _ _ _ _ _ hR25 n5 _ _ _ h) ⟨rfl, ⟨rfl, ⟨rfl, ⟨rfl, ⟨rfl, ⟨rfl, ⟨rfl, trivial⟩⟩⟩⟩⟩⟩⟩
      · replace h := h.2 hc
        refine R.goto 100 dX1_lot_45 (by decide) ?_
        refine R.inc4 103 dX1_lot_100 rfl (Nat.le_of_ble_eq_true rfl) rfl ?_
        refine R.goto 25 dX1_lot_103 (by decide) ?_
        exact Rch.dropk (hR25 _ _ _ _ h) ⟨rfl, ⟨rfl, ⟨rfl, ⟨rfl, ⟨rfl, trivial⟩⟩⟩⟩⟩
set_option maxRecDepth 100000 in
set_option maxHeartbeats 4000000 in
theorem sd_X1_lot {γ : GG} (l1 : Int32) (w : Wd) (Q : Int32 → Wd → Prop) : wp_X1_lot l1 w Q → Ctr γ 97 yX1_lot (ws_ yX1_lot cX1_lot 7 (some .int)) [.ref 1, .int l1] w (qI Q) xN := by
  intro h
  unfold wp_X1_lot at h
  refine Ctr.of (μ := k_X1_lot) (by decide) rfl rfl rfl (Nat.le_of_ble_eq_true rfl) ⟨5, ?_⟩
  have es : lva [.ref 1, .int l1] ++ List.replicate 5 none = [some (.ref 1), some (.int l1), none, none, none, none, none] := rfl
  rw [es]
  refine R.aload_n 1 dX1_lot_0 rfl rfl ?_
  refine Rch.callv (sd_X1_isHouse _ _ h) dX1_lot_1 (lw_V q737 q739 qs26 q142 q740) dk_X1_isHouse rcX (by decide) (Nat.le_of_ble_eq_true rfl) rfl rfl (Nat.le_of_ble_eq_true rfl) (kI 4 rfl fun r1 w2 h => ?_) kN
  refine R.if_eq 16 7 dX1_lot_4 (by decide) rfl (fun hc => ?_) (fun hc => ?_)
  · replace h := h.1 hc
    refine R.iconst 17 dX1_lot_16 rfl ?_
    exact R.retI dX1_lot_17 rfl h
  · replace h := h.2 hc
    refine R.iload_n 8 dX1_lot_7 rfl rfl ?_
    refine R.iconst 9 dX1_lot_8 rfl ?_
    refine R.iconst 10 dX1_lot_9 rfl ?_
    refine Rch.calls (sd_X1_in _ _ _ _ _ h) dX1_lot_10 (lw_S q700 q701 q142 q702) dk_X1_in (by decide) (Nat.le_of_ble_eq_true rfl) rfl rfl (Nat.le_of_ble_eq_true rfl) (kI 13 rfl fun r3 w4 h => ?_) kN
    refine R.if_ne 18 16 dX1_lot_13 (by decide) rfl (fun hc => ?_) (fun hc => ?_)
    · replace h := h.1 hc
      refine R.iconst 19 dX1_lot_18 rfl ?_
      refine R.ist2n 20 dX1_lot_19 rfl (Nat.le_of_ble_eq_true rfl) rfl ?_
      refine R.iconst 21 dX1_lot_20 rfl ?_
      refine R.ist3n 22 dX1_lot_21 rfl (Nat.le_of_ble_eq_true rfl) rfl ?_
      refine R.iconst 23 dX1_lot_22 rfl ?_
      refine R.ist4 25 dX1_lot_23 rfl (Nat.le_of_ble_eq_true rfl) rfl ?_
      obtain ⟨n5, h⟩ := h
      exact Rch.dropk (sl_X1_lot_25 Q _ n5 _ _ _ _ h) ⟨rfl, ⟨rfl, ⟨rfl, ⟨rfl, ⟨rfl, trivial⟩⟩⟩⟩⟩
    · replace h := h.2 hc
      refine R.iconst 17 dX1_lot_16 rfl ?_
      exact R.retI dX1_lot_17 rfl h

abbrev k_X1_labelsOf : MK := ("FrostBox", cX1_labelsOf, 3, (some .int), [], "labelsOf")
def b_X1_labelsOf_10 (Q : Int32 → Wd → Prop) (l1 : Int32) (w : Wd) : Prop := wp_X1_namelessNow w (fun r1 w2 => wp_J10_bitCount r1 w2 (fun r3 w4 => Q (((iz 2) * r3) - ((iz 3) * l1)) w4))
def wp_X1_labelsOf (l1 : Int32) (l2 : Int32) (w : Wd) (Q : Int32 → Wd → Prop) : Prop := (l1 = (iz 1) → b_X1_labelsOf_10 Q l1 w) ∧ (¬ l1 = (iz 1) → (¬ l2 = (iz 1) → Q ((iz 0) - ((iz 3) * l1)) w) ∧ (l2 = (iz 1) → b_X1_labelsOf_10 Q l1 w))
set_option maxRecDepth 100000 in
set_option maxHeartbeats 4000000 in
theorem s_X1_labelsOf_10 {γ : GG} (Q : Int32 → Wd → Prop) (l1 : Int32) : ∀ (w : Wd), b_X1_labelsOf_10 Q l1 w → Rch γ 6 k_X1_labelsOf 10 [some (.ref 1), some (.int l1), none] [] w (qI Q) xN := by
  intro w h
  unfold b_X1_labelsOf_10 at h
  refine R.iconst 11 dX1_labelsOf_10 rfl ?_
  refine R.aload_n 12 dX1_labelsOf_11 rfl rfl ?_
  refine Rch.callv (sd_X1_namelessNow _ _ h) dX1_labelsOf_12 (lw_V q1081 q1083 qs70 q142 q1084) dk_X1_namelessNow rcX (by decide) (Nat.le_of_ble_eq_true rfl) rfl rfl (Nat.le_of_ble_eq_true rfl) (kI 15 rfl fun r1 w2 h => ?_) kN
  refine Rch.calls (sd_J10_bitCount _ _ _ h) dX1_labelsOf_15 (lw_S q1031 q1032 q165 q1033) dk_J10_bitCount (by decide) (Nat.le_of_ble_eq_true rfl) rfl rfl (Nat.le_of_ble_eq_true rfl) (kI 18 rfl fun r3 w4 h => ?_) kN
  refine R.imul 19 dX1_labelsOf_18 rfl ?_
  refine R.goto 23 dX1_labelsOf_19 (by decide) ?_
  refine R.iconst 24 dX1_labelsOf_23 rfl ?_
  refine R.iload_n 25 dX1_labelsOf_24 rfl rfl ?_
  refine R.imul 26 dX1_labelsOf_25 rfl ?_
  refine R.isub 27 dX1_labelsOf_26 rfl ?_
  exact R.retI dX1_labelsOf_27 rfl h
set_option maxRecDepth 100000 in
set_option maxHeartbeats 4000000 in
theorem sd_X1_labelsOf {γ : GG} (l1 : Int32) (l2 : Int32) (w : Wd) (Q : Int32 → Wd → Prop) : wp_X1_labelsOf l1 l2 w Q → Ctr γ 6 yX1_labelsOf (ws_ yX1_labelsOf cX1_labelsOf 3 (some .int)) [.ref 1, .int l1, .int l2] w (qI Q) xN := by
  intro h
  unfold wp_X1_labelsOf at h
  refine Ctr.of (μ := k_X1_labelsOf) (by decide) rfl rfl rfl (Nat.le_of_ble_eq_true rfl) ⟨0, ?_⟩
  have es : lva [.ref 1, .int l1, .int l2] ++ List.replicate 0 none = [some (.ref 1), some (.int l1), some (.int l2)] := rfl
  rw [es]
  refine R.iload_n 1 dX1_labelsOf_0 rfl rfl ?_
  refine R.iconst 2 dX1_labelsOf_1 rfl ?_
  refine R.icmp_eq 10 5 dX1_labelsOf_2 (by decide) rfl (fun hc => ?_) (fun hc => ?_)
  · replace h := h.1 hc
    exact Rch.dropk (s_X1_labelsOf_10 Q _ _ h) ⟨rfl, ⟨rfl, trivial⟩⟩
  · replace h := h.2 hc
    refine R.iload_n 6 dX1_labelsOf_5 rfl rfl ?_
    refine R.iconst 7 dX1_labelsOf_6 rfl ?_
    refine R.icmp_ne 22 10 dX1_labelsOf_7 (by decide) rfl (fun hc => ?_) (fun hc => ?_)
    · replace h := h.1 hc
      refine R.iconst 23 dX1_labelsOf_22 rfl ?_
      refine R.iconst 24 dX1_labelsOf_23 rfl ?_
      refine R.iload_n 25 dX1_labelsOf_24 rfl rfl ?_
      refine R.imul 26 dX1_labelsOf_25 rfl ?_
      refine R.isub 27 dX1_labelsOf_26 rfl ?_
      exact R.retI dX1_labelsOf_27 rfl h
    · replace h := h.2 hc
      exact Rch.dropk (s_X1_labelsOf_10 Q _ _ h) ⟨rfl, ⟨rfl, trivial⟩⟩

abbrev k_X1_labels : MK := ("FrostBox", cX1_labels, 3, (some .int), [], "labels")
def wp_X1_labels (l1 : Int32) (l2 : Int32) (w : Wd) (Q : Int32 → Wd → Prop) : Prop := wp_X1_isHouse w (fun r1 w2 => (r1 = iz 0 → Q (iz (-1000000)) w2) ∧ (¬ r1 = iz 0 → wp_X1_in l1 (iz 0) (iz 1) w2 (fun r3 w4 => (r3 = iz 0 → Q (iz (-1000000)) w4) ∧ (¬ r3 = iz 0 → wp_X1_in l2 (iz 0) (iz 1) w4 (fun r5 w6 => (r5 = iz 0 → Q (iz (-1000000)) w6) ∧ (¬ r5 = iz 0 → wp_X1_labelsOf l1 l2 w6 (fun r7 w8 => Q r7 w8)))))))
set_option maxRecDepth 100000 in
set_option maxHeartbeats 4000000 in
theorem sd_X1_labels {γ : GG} (l1 : Int32) (l2 : Int32) (w : Wd) (Q : Int32 → Wd → Prop) : wp_X1_labels l1 l2 w Q → Ctr γ 7 yX1_labels (ws_ yX1_labels cX1_labels 3 (some .int)) [.ref 1, .int l1, .int l2] w (qI Q) xN := by
  intro h
  unfold wp_X1_labels at h
  refine Ctr.of (μ := k_X1_labels) (by decide) rfl rfl rfl (Nat.le_of_ble_eq_true rfl) ⟨0, ?_⟩
  have es : lva [.ref 1, .int l1, .int l2] ++ List.replicate 0 none = [some (.ref 1), some (.int l1), some (.int l2)] := rfl
  rw [es]
  refine R.aload_n 1 dX1_labels_0 rfl rfl ?_
  refine Rch.callv (sd_X1_isHouse _ _ h) dX1_labels_1 (lw_V q737 q739 qs26 q142 q740) dk_X1_isHouse rcX (by decide) (Nat.le_of_ble_eq_true rfl) rfl rfl (Nat.le_of_ble_eq_true rfl) (kI 4 rfl fun r1 w2 h => ?_) kN
  refine R.if_eq 34 7 dX1_labels_4 (by decide) rfl (fun hc => ?_) (fun hc => ?_)
  · replace h := h.1 hc
    refine R.ldcw (n := (-1000000)) 37 dX1_labels_34 rfl q970 (by decide +kernel) ?_
    exact R.retI dX1_labels_37 rfl h
  · replace h := h.2 hc
    refine R.iload_n 8 dX1_labels_7 rfl rfl ?_
    refine R.iconst 9 dX1_labels_8 rfl ?_
    refine R.iconst 10 dX1_labels_9 rfl ?_
    refine Rch.calls (sd_X1_in _ _ _ _ _ h) dX1_labels_10 (lw_S q700 q701 q142 q702) dk_X1_in (by decide) (Nat.le_of_ble_eq_true rfl) rfl rfl (Nat.le_of_ble_eq_true rfl) (kI 13 rfl fun r3 w4 h => ?_) kN
    refine R.if_eq 34 16 dX1_labels_13 (by decide) rfl (fun hc => ?_) (fun hc => ?_)
    · replace h := h.1 hc
      refine R.ldcw (n := (-1000000)) 37 dX1_labels_34 rfl q970 (by decide +kernel) ?_
      exact R.retI dX1_labels_37 rfl h
    · replace h := h.2 hc
      refine R.iload_n 17 dX1_labels_16 rfl rfl ?_
      refine R.iconst 18 dX1_labels_17 rfl ?_
      refine R.iconst 19 dX1_labels_18 rfl ?_
      refine Rch.calls (sd_X1_in _ _ _ _ _ h) dX1_labels_19 (lw_S q700 q701 q142 q702) dk_X1_in (by decide) (Nat.le_of_ble_eq_true rfl) rfl rfl (Nat.le_of_ble_eq_true rfl) (kI 22 rfl fun r5 w6 h => ?_) kN
      refine R.if_eq 34 25 dX1_labels_22 (by decide) rfl (fun hc => ?_) (fun hc => ?_)
      · replace h := h.1 hc
        refine R.ldcw (n := (-1000000)) 37 dX1_labels_34 rfl q970 (by decide +kernel) ?_
        exact R.retI dX1_labels_37 rfl h
      · replace h := h.2 hc
        refine R.aload_n 26 dX1_labels_25 rfl rfl ?_
        refine R.iload_n 27 dX1_labels_26 rfl rfl ?_
        refine R.iload_n 28 dX1_labels_27 rfl rfl ?_
        refine Rch.callv (sd_X1_labelsOf _ _ _ _ h) dX1_labels_28 (lw_V q1144 q1146 qs77 q142 q1147) dk_X1_labelsOf rcX (by decide) (Nat.le_of_ble_eq_true rfl) rfl rfl (Nat.le_of_ble_eq_true rfl) (kI 31 rfl fun r7 w8 h => ?_) kN
        refine R.goto 37 dX1_labels_31 (by decide) ?_
        exact R.retI dX1_labels_37 rfl h

abbrev k_X1_rests : MK := ("FrostBox", cX1_rests, 5, (some .int), [], "rests")
def wl_X1_rests_26 (Q : Int32 → Wd → Prop) (R18 : Int32 → Int32 → Wd → Prop) (l1 : Int32) (l3 : Int32) (R26 : Int32 → Int32 → Wd → Prop) (l2 : Int32) (l4 : Int32) (w : Wd) : Prop := ((iz 2) ≤ l4 → R18 l2 (l3 + iz 1) w) ∧ (¬ (iz 2) ≤ l4 → wp_X1_labelsOf ((iz 1) - l3) l4 w (fun r1 w2 => wp_X1_labelsOf l3 l4 w2 (fun r3 w4 => (r3 < r1 → R26 l2 (l4 + iz 1) w4) ∧ (¬ r3 < r1 → wp_X1_labelsOf ((iz 1) - l4) l3 w4 (fun r5 w6 => wp_X1_labelsOf l4 l3 w6 (fun r7 w8 => (r5 ≤ r7 → (¬ l2 = l1 → R26 (l2 + iz 1) (l4 + iz 1) w8) ∧ (l2 = l1 → Q (((iz 10) * l3) + l4) w8)) ∧ (¬ r5 ≤ r7 → R26 l2 (l4 + iz 1) w8)))))))
def lp_X1_rests_26 (Q : Int32 → Wd → Prop) (R18 : Int32 → Int32 → Wd → Prop) (l1 : Int32) (l3 : Int32) : Nat → Int32 → Int32 → Wd → Prop
  | 0, _, _, _ => False
  | n + 1, l2, l4, w => wl_X1_rests_26 Q R18 l1 l3 (lp_X1_rests_26 Q R18 l1 l3 n) l2 l4 w
def wl_X1_rests_18 (Q : Int32 → Wd → Prop) (l1 : Int32) (R18 : Int32 → Int32 → Wd → Prop) (l2 : Int32) (l3 : Int32) (w : Wd) : Prop := ((iz 2) ≤ l3 → (¬ l1 = (iz (-1)) → Q (iz (-1)) w) ∧ (l1 = (iz (-1)) → Q l2 w)) ∧ (¬ (iz 2) ≤ l3 → ∃ n1, lp_X1_rests_26 Q R18 l1 l3 n1 l2 (iz 0) w)
def lp_X1_rests_18 (Q : Int32 → Wd → Prop) (l1 : Int32) : Nat → Int32 → Int32 → Wd → Prop
  | 0, _, _, _ => False
  | n + 1, l2, l3, w => wl_X1_rests_18 Q l1 (lp_X1_rests_18 Q l1 n) l2 l3 w
def wp_X1_rests (l1 : Int32) (w : Wd) (Q : Int32 → Wd → Prop) : Prop := wp_X1_isHouse w (fun r1 w2 => (r1 = iz 0 → Q (iz (-1)) w2) ∧ (¬ r1 = iz 0 → ((iz (-1)) ≤ l1 → ∃ n3, lp_X1_rests_18 Q l1 n3 (iz 0) (iz 0) w2) ∧ (¬ (iz (-1)) ≤ l1 → Q (iz (-1)) w2)))
set_option maxRecDepth 100000 in
set_option maxHeartbeats 4000000 in
theorem sl_X1_rests_26 {γ : GG} (Q : Int32 → Wd → Prop) (R18 : Int32 → Int32 → Wd → Prop) (l1 : Int32) (l3 : Int32) (hR18 : ∀ (l2 : Int32) (l3 : Int32) (w : Wd), R18 l2 l3 w → Rch γ 7 k_X1_rests 18 [some (.ref 1), some (.int l1), some (.int l2), some (.int l3), none] [] w (qI Q) xN) : ∀ (n : Nat) (l2 : Int32) (l4 : Int32) (w : Wd), lp_X1_rests_26 Q R18 l1 l3 n l2 l4 w → Rch γ 7 k_X1_rests 26 [some (.ref 1), some (.int l1), some (.int l2), some (.int l3), some (.int l4)] [] w (qI Q) xN := by
  intro n
  induction n with
  | zero => intro _ _ _ h; exact h.elim
  | succ n hR26 =>
    intro l2 l4 w h
    have h : wl_X1_rests_26 Q R18 l1 l3 (lp_X1_rests_26 Q R18 l1 l3 n) l2 l4 w := h
    unfold wl_X1_rests_26 at h
    refine R.iload 28 dX1_rests_26 rfl rfl ?_
    refine R.iconst 29 dX1_rests_28 rfl ?_
    refine R.icmp_ge 95 32 dX1_rests_29 (by decide) rfl (fun hc => ?_) (fun hc => ?_)
    · replace h := h.1 hc
      refine R.inc3 98 dX1_rests_95 rfl (Nat.le_of_ble_eq_true rfl) rfl ?_
      refine R.goto 18 dX1_rests_98 (by decide) ?_
      exact Rch.dropk (hR18 _ _ _ h) ⟨rfl, ⟨rfl, ⟨rfl, ⟨rfl, trivial⟩⟩⟩⟩
    · replace h := h.2 hc
      refine R.aload_n 33 dX1_rests_32 rfl rfl ?_
      refine R.iconst 34 dX1_rests_33 rfl ?_
      refine R.iload_n 35 dX1_rests_34 rfl rfl ?_
      refine R.isub 36 dX1_rests_35 rfl ?_
      refine R.iload 38 dX1_rests_36 rfl rfl ?_
      refine Rch.callv (sd_X1_labelsOf _ _ _ _ h) dX1_rests_38 (lw_V q1144 q1146 qs77 q142 q1147) dk_X1_labelsOf rcX (by decide) (Nat.le_of_ble_eq_true rfl) rfl rfl (Nat.le_of_ble_eq_true rfl) (kI 41 rfl fun r1 w2 h => ?_) kN
      refine R.aload_n 42 dX1_rests_41 rfl rfl ?_
      refine R.iload_n 43 dX1_rests_42 rfl rfl ?_
      refine R.iload 45 dX1_rests_43 rfl rfl ?_
      refine Rch.callv (sd_X1_labelsOf _ _ _ _ h) dX1_rests_45 (lw_V q1144 q1146 qs77 q142 q1147) dk_X1_labelsOf rcX (by decide) (Nat.le_of_ble_eq_true rfl) rfl rfl (Nat.le_of_ble_eq_true rfl) (kI 48 rfl fun r3 w4 h => ?_) kN
      refine R.icmp_gt 89 51 dX1_rests_48 (by decide) rfl (fun hc => ?_) (fun hc => ?_)
      · replace h := h.1 hc
        refine R.inc4 92 dX1_rests_89 rfl (Nat.le_of_ble_eq_true rfl) rfl ?_
        refine R.goto 26 dX1_rests_92 (by decide) ?_
        exact Rch.dropk (hR26 _ _ _ h) ⟨rfl, ⟨rfl, ⟨rfl, ⟨rfl, ⟨rfl, trivial⟩⟩⟩⟩⟩
      · replace h := h.2 hc
        refine R.aload_n 52 dX1_rests_51 rfl rfl ?_
        refine R.iconst 53 dX1_rests_52 rfl ?_
        refine R.iload 55 dX1_rests_53 rfl rfl ?_
        refine R.isub 56 dX1_rests_55 rfl ?_
        refine R.iload_n 57 dX1_rests_56 rfl rfl ?_
        refine Rch.callv (sd_X1_labelsOf _ _ _ _ h) dX1_rests_57 (lw_V q1144 q1146 qs77 q142 q1147) dk_X1_labelsOf rcX (by decide) (Nat.le_of_ble_eq_true rfl) rfl rfl (Nat.le_of_ble_eq_true rfl) (kI 60 rfl fun r5 w6 h => ?_) kN
        refine R.aload_n 61 dX1_rests_60 rfl rfl ?_
        refine R.iload 63 dX1_rests_61 rfl rfl ?_
        refine R.iload_n 64 dX1_rests_63 rfl rfl ?_
        refine Rch.callv (sd_X1_labelsOf _ _ _ _ h) dX1_rests_64 (lw_V q1144 q1146 qs77 q142 q1147) dk_X1_labelsOf rcX (by decide) (Nat.le_of_ble_eq_true rfl) rfl rfl (Nat.le_of_ble_eq_true rfl) (kI 67 rfl fun r7 w8 h => ?_) kN
        refine R.icmp_le 73 70 dX1_rests_67 (by decide) rfl (fun hc => ?_) (fun hc => ?_)
        · replace h := h.1 hc
          refine R.iload_n 74 dX1_rests_73 rfl rfl ?_
          refine R.iload_n 75 dX1_rests_74 rfl rfl ?_
          refine R.icmp_ne 86 78 dX1_rests_75 (by decide) rfl (fun hc => ?_) (fun hc => ?_)
          · replace h := h.1 hc
            refine R.inc2 89 dX1_rests_86 rfl (Nat.le_of_ble_eq_true rfl) rfl ?_
            refine R.inc4 92 dX1_rests_89 rfl (Nat.le_of_ble_eq_true rfl) rfl ?_
            refine R.goto 26 dX1_rests_92 (by decide) ?_
            exact Rch.dropk (hR26 _ _ _ h) ⟨rfl, ⟨rfl, ⟨rfl, ⟨rfl, ⟨rfl, trivial⟩⟩⟩⟩⟩
          · replace h := h.2 hc
            refine R.bipush 80 dX1_rests_78 rfl (by decide +kernel) ?_
            refine R.iload_n 81 dX1_rests_80 rfl rfl ?_
            refine R.imul 82 dX1_rests_81 rfl ?_
            refine R.iload 84 dX1_rests_82 rfl rfl ?_
            refine R.iadd 85 dX1_rests_84 rfl ?_
            exact R.retI dX1_rests_85 rfl h
        · replace h := h.2 hc
          refine R.goto 89 dX1_rests_70 (by decide) ?_
          refine R.inc4 92 dX1_rests_89 rfl (Nat.le_of_ble_eq_true rfl) rfl ?_
          refine R.goto 26 dX1_rests_92 (by decide) ?_
          exact Rch.dropk (hR26 _ _ _ h) ⟨rfl, ⟨rfl, ⟨rfl, ⟨rfl, ⟨rfl, trivial⟩⟩⟩⟩⟩
set_option maxRecDepth 100000 in
set_option maxHeartbeats 4000000 in
theorem sl_X1_rests_18 {γ : GG} (Q : Int32 → Wd → Prop) (l1 : Int32) : ∀ (n : Nat) (l2 : Int32) (l3 : Int32) (w : Wd), lp_X1_rests_18 Q l1 n l2 l3 w → Rch γ 7 k_X1_rests 18 [some (.ref 1), some (.int l1), some (.int l2), some (.int l3), none] [] w (qI Q) xN := by
  intro n
  induction n with
  | zero => intro _ _ _ h; exact h.elim
  | succ n hR18 =>
    intro l2 l3 w h
    have h : wl_X1_rests_18 Q l1 (lp_X1_rests_18 Q l1 n) l2 l3 w := h
    unfold wl_X1_rests_18 at h
    refine R.iload_n 19 dX1_rests_18 rfl rfl ?_
    refine R.iconst 20 dX1_rests_19 rfl ?_
    refine R.icmp_ge 101 23 dX1_rests_20 (by decide) rfl (fun hc => ?_) (fun hc => ?_)
    · replace h := h.1 hc
      refine R.iload_n 102 dX1_rests_101 rfl rfl ?_
      refine R.iconst 103 dX1_rests_102 rfl ?_
      refine R.icmp_ne 110 106 dX1_rests_103 (by decide) rfl (fun hc => ?_) (fun hc => ?_)
      · replace h := h.1 hc
        refine R.iconst 111 dX1_rests_110 rfl ?_
        exact R.retI dX1_rests_111 rfl h
      · replace h := h.2 hc
        refine R.iload_n 107 dX1_rests_106 rfl rfl ?_
        refine R.goto 111 dX1_rests_107 (by decide) ?_
        exact R.retI dX1_rests_111 rfl h
    · replace h := h.2 hc
      refine R.iconst 24 dX1_rests_23 rfl ?_
      refine R.ist4 26 dX1_rests_24 rfl (Nat.le_of_ble_eq_true rfl) rfl ?_
      obtain ⟨n1, h⟩ := h
      exact Rch.dropk (sl_X1_rests_26 Q _ _ _ hR18 n1 _ _ _ h) ⟨rfl, ⟨rfl, ⟨rfl, ⟨rfl, ⟨rfl, trivial⟩⟩⟩⟩⟩
set_option maxRecDepth 100000 in
set_option maxHeartbeats 4000000 in
theorem sd_X1_rests {γ : GG} (l1 : Int32) (w : Wd) (Q : Int32 → Wd → Prop) : wp_X1_rests l1 w Q → Ctr γ 7 yX1_rests (ws_ yX1_rests cX1_rests 5 (some .int)) [.ref 1, .int l1] w (qI Q) xN := by
  intro h
  unfold wp_X1_rests at h
  refine Ctr.of (μ := k_X1_rests) (by decide) rfl rfl rfl (Nat.le_of_ble_eq_true rfl) ⟨3, ?_⟩
  have es : lva [.ref 1, .int l1] ++ List.replicate 3 none = [some (.ref 1), some (.int l1), none, none, none] := rfl
  rw [es]
  refine R.aload_n 1 dX1_rests_0 rfl rfl ?_
  refine Rch.callv (sd_X1_isHouse _ _ h) dX1_rests_1 (lw_V q737 q739 qs26 q142 q740) dk_X1_isHouse rcX (by decide) (Nat.le_of_ble_eq_true rfl) rfl rfl (Nat.le_of_ble_eq_true rfl) (kI 4 rfl fun r1 w2 h => ?_) kN
  refine R.if_eq 12 7 dX1_rests_4 (by decide) rfl (fun hc => ?_) (fun hc => ?_)
  · replace h := h.1 hc
    refine R.iconst 13 dX1_rests_12 rfl ?_
    exact R.retI dX1_rests_13 rfl h
  · replace h := h.2 hc
    refine R.iload_n 8 dX1_rests_7 rfl rfl ?_
    refine R.iconst 9 dX1_rests_8 rfl ?_
    refine R.icmp_ge 14 12 dX1_rests_9 (by decide) rfl (fun hc => ?_) (fun hc => ?_)
    · replace h := h.1 hc
      refine R.iconst 15 dX1_rests_14 rfl ?_
      refine R.ist2n 16 dX1_rests_15 rfl (Nat.le_of_ble_eq_true rfl) rfl ?_
      refine R.iconst 17 dX1_rests_16 rfl ?_
      refine R.ist3n 18 dX1_rests_17 rfl (Nat.le_of_ble_eq_true rfl) rfl ?_
      obtain ⟨n3, h⟩ := h
      exact Rch.dropk (sl_X1_rests_18 Q _ n3 _ _ _ h) ⟨rfl, ⟨rfl, ⟨rfl, ⟨rfl, trivial⟩⟩⟩⟩
    · replace h := h.2 hc
      refine R.iconst 13 dX1_rests_12 rfl ?_
      exact R.retI dX1_rests_13 rfl h

abbrev k_X1_most : MK := ("FrostBox", cX1_most, 5, (some .int), [], "most")
def b_X1_most_41 (Q : Int32 → Wd → Prop) (R15 : Int32 → Int32 → Wd → Prop) (l1 : Int32) (l2 : Int32) (l3 : Int32) (t0 : Int32) (w : Wd) : Prop := (l2 = (iz (-1)) → R15 l3 (l3 + iz 1) w) ∧ (¬ l2 = (iz (-1)) → (¬ l1 = iz 0 → wp_X1_valueOf l2 w (fun r1 w2 => (t0 ≤ r1 → R15 l2 (l3 + iz 1) w2) ∧ (¬ t0 ≤ r1 → R15 l3 (l3 + iz 1) w2))) ∧ (l1 = iz 0 → wp_X1_of l2 (iz 2) w (fun r3 w4 => (t0 ≤ r3 → R15 l2 (l3 + iz 1) w4) ∧ (¬ t0 ≤ r3 → R15 l3 (l3 + iz 1) w4))))
def wl_X1_most_15 (Q : Int32 → Wd → Prop) (l1 : Int32) (R15 : Int32 → Int32 → Wd → Prop) (l2 : Int32) (l3 : Int32) (w : Wd) : Prop := wp_X1_boxMany w (fun r1 w2 => (r1 ≤ l3 → Q l2 w2) ∧ (¬ r1 ≤ l3 → (¬ l1 = iz 0 → wp_X1_valueOf l3 w2 (fun r3 w4 => b_X1_most_41 Q R15 l1 l2 l3 r3 w4)) ∧ (l1 = iz 0 → wp_X1_of l3 (iz 2) w2 (fun r5 w6 => b_X1_most_41 Q R15 l1 l2 l3 r5 w6))))
def lp_X1_most_15 (Q : Int32 → Wd → Prop) (l1 : Int32) : Nat → Int32 → Int32 → Wd → Prop
  | 0, _, _, _ => False
  | n + 1, l2, l3, w => wl_X1_most_15 Q l1 (lp_X1_most_15 Q l1 n) l2 l3 w
def wp_X1_most (l1 : Int32) (w : Wd) (Q : Int32 → Wd → Prop) : Prop := wp_X1_in l1 (iz 0) (iz 1) w (fun r1 w2 => (¬ r1 = iz 0 → ∃ n3, lp_X1_most_15 Q l1 n3 (iz (-1)) (iz 0) w2) ∧ (r1 = iz 0 → Q (iz (-1)) w2))
set_option maxRecDepth 100000 in
set_option maxHeartbeats 4000000 in
theorem s_X1_most_41 {γ : GG} (Q : Int32 → Wd → Prop) (R15 : Int32 → Int32 → Wd → Prop) (l1 : Int32) (l2 : Int32) (l3 : Int32) (t0 : Int32) (hR15 : ∀ (l2 : Int32) (l3 : Int32) (w : Wd), R15 l2 l3 w → Rch γ 97 k_X1_most 15 [some (.ref 1), some (.int l1), some (.int l2), some (.int l3), none] [] w (qI Q) xN) : ∀ (w : Wd), b_X1_most_41 Q R15 l1 l2 l3 t0 w → Rch γ 97 k_X1_most 41 [some (.ref 1), some (.int l1), some (.int l2), some (.int l3), none] [.int t0] w (qI Q) xN := by
  intro w h
  unfold b_X1_most_41 at h
  refine R.ist4 43 dX1_most_41 rfl (Nat.le_of_ble_eq_true rfl) rfl ?_
  refine R.iload_n 44 dX1_most_43 rfl rfl ?_
  refine R.iconst 45 dX1_most_44 rfl ?_
  refine R.icmp_eq 71 48 dX1_most_45 (by decide) rfl (fun hc => ?_) (fun hc => ?_)
  · replace h := h.1 hc
    refine R.iload_n 72 dX1_most_71 rfl rfl ?_
    refine R.ist2n 73 dX1_most_72 rfl (Nat.le_of_ble_eq_true rfl) rfl ?_
    refine R.inc3 76 dX1_most_73 rfl (Nat.le_of_ble_eq_true rfl) rfl ?_
    refine R.goto 15 dX1_most_76 (by decide) ?_
    exact Rch.dropk (hR15 _ _ _ h) ⟨rfl, ⟨rfl, ⟨rfl, ⟨rfl, trivial⟩⟩⟩⟩
  · replace h := h.2 hc
    refine R.iload 50 dX1_most_48 rfl rfl ?_
    refine R.iload_n 51 dX1_most_50 rfl rfl ?_
    refine R.if_ne 63 54 dX1_most_51 (by decide) rfl (fun hc => ?_) (fun hc => ?_)
    · replace h := h.1 hc
      refine R.aload_n 64 dX1_most_63 rfl rfl ?_
      refine R.iload_n 65 dX1_most_64 rfl rfl ?_
      refine Rch.callv (sd_X1_valueOf _ _ _ h) dX1_most_65 (lw_V q813 q815 qs40 q142 q816) dk_X1_valueOf rcX (by decide) (Nat.le_of_ble_eq_true rfl) rfl rfl (Nat.le_of_ble_eq_true rfl) (kI 68 rfl fun r1 w2 h => ?_) kN
      refine R.icmp_le 73 71 dX1_most_68 (by decide) rfl (fun hc => ?_) (fun hc => ?_)
      · replace h := h.1 hc
        refine R.inc3 76 dX1_most_73 rfl (Nat.le_of_ble_eq_true rfl) rfl ?_
        refine R.goto 15 dX1_most_76 (by decide) ?_
        exact Rch.dropk (hR15 _ _ _ h) ⟨rfl, ⟨rfl, ⟨rfl, ⟨rfl, trivial⟩⟩⟩⟩
      · replace h := h.2 hc
        refine R.iload_n 72 dX1_most_71 rfl rfl ?_
        refine R.ist2n 73 dX1_most_72 rfl (Nat.le_of_ble_eq_true rfl) rfl ?_
        refine R.inc3 76 dX1_most_73 rfl (Nat.le_of_ble_eq_true rfl) rfl ?_
        refine R.goto 15 dX1_most_76 (by decide) ?_
        exact Rch.dropk (hR15 _ _ _ h) ⟨rfl, ⟨rfl, ⟨rfl, ⟨rfl, trivial⟩⟩⟩⟩
    · replace h := h.2 hc
      refine R.aload_n 55 dX1_most_54 rfl rfl ?_
      refine R.iload_n 56 dX1_most_55 rfl rfl ?_
      refine R.iconst 57 dX1_most_56 rfl ?_
      refine Rch.callv (sd_X1_of _ _ _ _ h) dX1_most_57 (lw_V q785 q787 qs34 q142 q788) dk_X1_of rcX (by decide) (Nat.le_of_ble_eq_true rfl) rfl rfl (Nat.le_of_ble_eq_true rfl) (kI 60 rfl fun r3 w4 h => ?_) kN
      refine R.goto 68 dX1_most_60 (by decide) ?_
      refine R.icmp_le 73 71 dX1_most_68 (by decide) rfl (fun hc => ?_) (fun hc => ?_)
      · replace h := h.1 hc
        refine R.inc3 76 dX1_most_73 rfl (Nat.le_of_ble_eq_true rfl) rfl ?_
        refine R.goto 15 dX1_most_76 (by decide) ?_
        exact Rch.dropk (hR15 _ _ _ h) ⟨rfl, ⟨rfl, ⟨rfl, ⟨rfl, trivial⟩⟩⟩⟩
      · replace h := h.2 hc
        refine R.iload_n 72 dX1_most_71 rfl rfl ?_
        refine R.ist2n 73 dX1_most_72 rfl (Nat.le_of_ble_eq_true rfl) rfl ?_
        refine R.inc3 76 dX1_most_73 rfl (Nat.le_of_ble_eq_true rfl) rfl ?_
        refine R.goto 15 dX1_most_76 (by decide) ?_
        exact Rch.dropk (hR15 _ _ _ h) ⟨rfl, ⟨rfl, ⟨rfl, ⟨rfl, trivial⟩⟩⟩⟩
set_option maxRecDepth 100000 in
set_option maxHeartbeats 4000000 in
theorem sl_X1_most_15 {γ : GG} (Q : Int32 → Wd → Prop) (l1 : Int32) : ∀ (n : Nat) (l2 : Int32) (l3 : Int32) (w : Wd), lp_X1_most_15 Q l1 n l2 l3 w → Rch γ 97 k_X1_most 15 [some (.ref 1), some (.int l1), some (.int l2), some (.int l3), none] [] w (qI Q) xN := by
  intro n
  induction n with
  | zero => intro _ _ _ h; exact h.elim
  | succ n hR15 =>
    intro l2 l3 w h
    have h : wl_X1_most_15 Q l1 (lp_X1_most_15 Q l1 n) l2 l3 w := h
    unfold wl_X1_most_15 at h
    refine R.iload_n 16 dX1_most_15 rfl rfl ?_
    refine R.aload_n 17 dX1_most_16 rfl rfl ?_
    refine Rch.callv (sd_X1_boxMany _ _ h) dX1_most_17 (lw_V q773 q775 qs31 q142 q776) dk_X1_boxMany rcX (by decide) (Nat.le_of_ble_eq_true rfl) rfl rfl (Nat.le_of_ble_eq_true rfl) (kI 20 rfl fun r1 w2 h => ?_) kN
    refine R.icmp_ge 79 23 dX1_most_20 (by decide) rfl (fun hc => ?_) (fun hc => ?_)
    · replace h := h.1 hc
      refine R.iload_n 80 dX1_most_79 rfl rfl ?_
      exact R.retI dX1_most_80 rfl h
    · replace h := h.2 hc
      refine R.iload_n 24 dX1_most_23 rfl rfl ?_
      refine R.if_ne 36 27 dX1_most_24 (by decide) rfl (fun hc => ?_) (fun hc => ?_)
      · replace h := h.1 hc
        refine R.aload_n 37 dX1_most_36 rfl rfl ?_
        refine R.iload_n 38 dX1_most_37 rfl rfl ?_
        refine Rch.callv (sd_X1_valueOf _ _ _ h) dX1_most_38 (lw_V q813 q815 qs40 q142 q816) dk_X1_valueOf rcX (by decide) (Nat.le_of_ble_eq_true rfl) rfl rfl (Nat.le_of_ble_eq_true rfl) (kI 41 rfl fun r3 w4 h => ?_) kN
        exact Rch.dropk (s_X1_most_41 Q _ _ _ _ _ hR15 _ h) ⟨rfl, ⟨rfl, ⟨rfl, ⟨rfl, trivial⟩⟩⟩⟩
      · replace h := h.2 hc
        refine R.aload_n 28 dX1_most_27 rfl rfl ?_
        refine R.iload_n 29 dX1_most_28 rfl rfl ?_
        refine R.iconst 30 dX1_most_29 rfl ?_
        refine Rch.callv (sd_X1_of _ _ _ _ h) dX1_most_30 (lw_V q785 q787 qs34 q142 q788) dk_X1_of rcX (by decide) (Nat.le_of_ble_eq_true rfl) rfl rfl (Nat.le_of_ble_eq_true rfl) (kI 33 rfl fun r5 w6 h => ?_) kN
        refine R.goto 41 dX1_most_33 (by decide) ?_
        exact Rch.dropk (s_X1_most_41 Q _ _ _ _ _ hR15 _ h) ⟨rfl, ⟨rfl, ⟨rfl, ⟨rfl, trivial⟩⟩⟩⟩
set_option maxRecDepth 100000 in
set_option maxHeartbeats 4000000 in
theorem sd_X1_most {γ : GG} (l1 : Int32) (w : Wd) (Q : Int32 → Wd → Prop) : wp_X1_most l1 w Q → Ctr γ 97 yX1_most (ws_ yX1_most cX1_most 5 (some .int)) [.ref 1, .int l1] w (qI Q) xN := by
  intro h
  unfold wp_X1_most at h
  refine Ctr.of (μ := k_X1_most) (by decide) rfl rfl rfl (Nat.le_of_ble_eq_true rfl) ⟨3, ?_⟩
  have es : lva [.ref 1, .int l1] ++ List.replicate 3 none = [some (.ref 1), some (.int l1), none, none, none] := rfl
  rw [es]
  refine R.iload_n 1 dX1_most_0 rfl rfl ?_
  refine R.iconst 2 dX1_most_1 rfl ?_
  refine R.iconst 3 dX1_most_2 rfl ?_
  refine Rch.calls (sd_X1_in _ _ _ _ _ h) dX1_most_3 (lw_S q700 q701 q142 q702) dk_X1_in (by decide) (Nat.le_of_ble_eq_true rfl) rfl rfl (Nat.le_of_ble_eq_true rfl) (kI 6 rfl fun r1 w2 h => ?_) kN
  refine R.if_ne 11 9 dX1_most_6 (by decide) rfl (fun hc => ?_) (fun hc => ?_)
  · replace h := h.1 hc
    refine R.iconst 12 dX1_most_11 rfl ?_
    refine R.ist2n 13 dX1_most_12 rfl (Nat.le_of_ble_eq_true rfl) rfl ?_
    refine R.iconst 14 dX1_most_13 rfl ?_
    refine R.ist3n 15 dX1_most_14 rfl (Nat.le_of_ble_eq_true rfl) rfl ?_
    obtain ⟨n3, h⟩ := h
    exact Rch.dropk (sl_X1_most_15 Q _ n3 _ _ _ h) ⟨rfl, ⟨rfl, ⟨rfl, ⟨rfl, trivial⟩⟩⟩⟩
  · replace h := h.2 hc
    refine R.iconst 10 dX1_most_9 rfl ?_
    exact R.retI dX1_most_10 rfl h

abbrev k_X1_spoilt : MK := ("FrostBox", cX1_spoilt, 3, (some .int), [], "spoilt")
def wl_X1_spoilt_13 (Q : Int32 → Wd → Prop) (R13 : Int32 → Int32 → Wd → Prop) (l1 : Int32) (l2 : Int32) (w : Wd) : Prop := wp_X1_boxMany w (fun r1 w2 => (r1 ≤ l2 → Q l1 w2) ∧ (¬ r1 ≤ l2 → wp_X1_valueOf l2 w2 (fun r3 w4 => (¬ r3 = iz 0 → R13 l1 (l2 + iz 1) w4) ∧ (r3 = iz 0 → R13 (l1 ||| ((iz 1) <<< (l2 &&& 31))) (l2 + iz 1) w4))))
def lp_X1_spoilt_13 (Q : Int32 → Wd → Prop) : Nat → Int32 → Int32 → Wd → Prop
  | 0, _, _, _ => False
  | n + 1, l1, l2, w => wl_X1_spoilt_13 Q (lp_X1_spoilt_13 Q n) l1 l2 w
def wp_X1_spoilt (w : Wd) (Q : Int32 → Wd → Prop) : Prop := wp_X1_isHouse w (fun r1 w2 => (¬ r1 = iz 0 → ∃ n3, lp_X1_spoilt_13 Q n3 (iz 0) (iz 0) w2) ∧ (r1 = iz 0 → Q (iz (-1)) w2))
set_option maxRecDepth 100000 in
set_option maxHeartbeats 4000000 in
theorem sl_X1_spoilt_13 {γ : GG} (Q : Int32 → Wd → Prop) : ∀ (n : Nat) (l1 : Int32) (l2 : Int32) (w : Wd), lp_X1_spoilt_13 Q n l1 l2 w → Rch γ 97 k_X1_spoilt 13 [some (.ref 1), some (.int l1), some (.int l2)] [] w (qI Q) xN := by
  intro n
  induction n with
  | zero => intro _ _ _ h; exact h.elim
  | succ n hR13 =>
    intro l1 l2 w h
    have h : wl_X1_spoilt_13 Q (lp_X1_spoilt_13 Q n) l1 l2 w := h
    unfold wl_X1_spoilt_13 at h
    refine R.iload_n 14 dX1_spoilt_13 rfl rfl ?_
    refine R.aload_n 15 dX1_spoilt_14 rfl rfl ?_
    refine Rch.callv (sd_X1_boxMany _ _ h) dX1_spoilt_15 (lw_V q773 q775 qs31 q142 q776) dk_X1_boxMany rcX (by decide) (Nat.le_of_ble_eq_true rfl) rfl rfl (Nat.le_of_ble_eq_true rfl) (kI 18 rfl fun r1 w2 h => ?_) kN
    refine R.icmp_ge 41 21 dX1_spoilt_18 (by decide) rfl (fun hc => ?_) (fun hc => ?_)
    · replace h := h.1 hc
      refine R.iload_n 42 dX1_spoilt_41 rfl rfl ?_
      exact R.retI dX1_spoilt_42 rfl h
    · replace h := h.2 hc
      refine R.aload_n 22 dX1_spoilt_21 rfl rfl ?_
      refine R.iload_n 23 dX1_spoilt_22 rfl rfl ?_
      refine Rch.callv (sd_X1_valueOf _ _ _ h) dX1_spoilt_23 (lw_V q813 q815 qs40 q142 q816) dk_X1_valueOf rcX (by decide) (Nat.le_of_ble_eq_true rfl) rfl rfl (Nat.le_of_ble_eq_true rfl) (kI 26 rfl fun r3 w4 h => ?_) kN
      refine R.if_ne 35 29 dX1_spoilt_26 (by decide) rfl (fun hc => ?_) (fun hc => ?_)
      · replace h := h.1 hc
        refine R.inc2 38 dX1_spoilt_35 rfl (Nat.le_of_ble_eq_true rfl) rfl ?_
        refine R.goto 13 dX1_spoilt_38 (by decide) ?_
        exact Rch.dropk (hR13 _ _ _ h) ⟨rfl, ⟨rfl, ⟨rfl, trivial⟩⟩⟩
      · replace h := h.2 hc
        refine R.iload_n 30 dX1_spoilt_29 rfl rfl ?_
        refine R.iconst 31 dX1_spoilt_30 rfl ?_
        refine R.iload_n 32 dX1_spoilt_31 rfl rfl ?_
        refine R.ishl 33 dX1_spoilt_32 rfl ?_
        refine R.ior 34 dX1_spoilt_33 rfl ?_
        refine R.ist1n 35 dX1_spoilt_34 rfl (Nat.le_of_ble_eq_true rfl) rfl ?_
        refine R.inc2 38 dX1_spoilt_35 rfl (Nat.le_of_ble_eq_true rfl) rfl ?_
        refine R.goto 13 dX1_spoilt_38 (by decide) ?_
        exact Rch.dropk (hR13 _ _ _ h) ⟨rfl, ⟨rfl, ⟨rfl, trivial⟩⟩⟩
set_option maxRecDepth 100000 in
set_option maxHeartbeats 4000000 in
theorem sd_X1_spoilt {γ : GG} (w : Wd) (Q : Int32 → Wd → Prop) : wp_X1_spoilt w Q → Ctr γ 97 yX1_spoilt (ws_ yX1_spoilt cX1_spoilt 3 (some .int)) [.ref 1] w (qI Q) xN := by
  intro h
  unfold wp_X1_spoilt at h
  refine Ctr.of (μ := k_X1_spoilt) (by decide) rfl rfl rfl (Nat.le_of_ble_eq_true rfl) ⟨2, ?_⟩
  have es : lva [.ref 1] ++ List.replicate 2 none = [some (.ref 1), none, none] := rfl
  rw [es]
  refine R.aload_n 1 dX1_spoilt_0 rfl rfl ?_
  refine Rch.callv (sd_X1_isHouse _ _ h) dX1_spoilt_1 (lw_V q737 q739 qs26 q142 q740) dk_X1_isHouse rcX (by decide) (Nat.le_of_ble_eq_true rfl) rfl rfl (Nat.le_of_ble_eq_true rfl) (kI 4 rfl fun r1 w2 h => ?_) kN
  refine R.if_ne 9 7 dX1_spoilt_4 (by decide) rfl (fun hc => ?_) (fun hc => ?_)
  · replace h := h.1 hc
    refine R.iconst 10 dX1_spoilt_9 rfl ?_
    refine R.ist1n 11 dX1_spoilt_10 rfl (Nat.le_of_ble_eq_true rfl) rfl ?_
    refine R.iconst 12 dX1_spoilt_11 rfl ?_
    refine R.ist2n 13 dX1_spoilt_12 rfl (Nat.le_of_ble_eq_true rfl) rfl ?_
    obtain ⟨n3, h⟩ := h
    exact Rch.dropk (sl_X1_spoilt_13 Q n3 _ _ _ h) ⟨rfl, ⟨rfl, ⟨rfl, trivial⟩⟩⟩
  · replace h := h.2 hc
    refine R.iconst 8 dX1_spoilt_7 rfl ?_
    exact R.retI dX1_spoilt_8 rfl h

abbrev k_X1_buried : MK := ("FrostBox", cX1_buried, 2, (some .int), [], "buried")
def wp_X1_buried (l1 : Int32) (w : Wd) (Q : Int32 → Wd → Prop) : Prop := wp_X1_isBox l1 w (fun r1 w2 => (r1 = iz 0 → Q (iz (-1)) w2) ∧ (¬ r1 = iz 0 → wp_X1_portionsOf (((iz 1) <<< (l1 &&& 31)) - (iz 1)) w2 (fun r3 w4 => Q r3 w4)))
set_option maxRecDepth 100000 in
set_option maxHeartbeats 4000000 in
theorem sd_X1_buried {γ : GG} (l1 : Int32) (w : Wd) (Q : Int32 → Wd → Prop) : wp_X1_buried l1 w Q → Ctr γ 5 yX1_buried (ws_ yX1_buried cX1_buried 2 (some .int)) [.ref 1, .int l1] w (qI Q) xN := by
  intro h
  unfold wp_X1_buried at h
  refine Ctr.of (μ := k_X1_buried) (by decide) rfl rfl rfl (Nat.le_of_ble_eq_true rfl) ⟨0, ?_⟩
  have es : lva [.ref 1, .int l1] ++ List.replicate 0 none = [some (.ref 1), some (.int l1)] := rfl
  rw [es]
  refine R.aload_n 1 dX1_buried_0 rfl rfl ?_
  refine R.iload_n 2 dX1_buried_1 rfl rfl ?_
  refine Rch.callv (sd_X1_isBox _ _ _ h) dX1_buried_2 (lw_V q805 q807 qs38 q142 q808) dk_X1_isBox rcX (by decide) (Nat.le_of_ble_eq_true rfl) rfl rfl (Nat.le_of_ble_eq_true rfl) (kI 5 rfl fun r1 w2 h => ?_) kN
  refine R.if_eq 20 8 dX1_buried_5 (by decide) rfl (fun hc => ?_) (fun hc => ?_)
  · replace h := h.1 hc
    refine R.iconst 21 dX1_buried_20 rfl ?_
    exact R.retI dX1_buried_21 rfl h
  · replace h := h.2 hc
    refine R.aload_n 9 dX1_buried_8 rfl rfl ?_
    refine R.iconst 10 dX1_buried_9 rfl ?_
    refine R.iload_n 11 dX1_buried_10 rfl rfl ?_
    refine R.ishl 12 dX1_buried_11 rfl ?_
    refine R.iconst 13 dX1_buried_12 rfl ?_
    refine R.isub 14 dX1_buried_13 rfl ?_
    refine Rch.callv (sd_X1_portionsOf _ _ _ h) dX1_buried_14 (lw_V q781 q783 qs33 q142 q784) dk_X1_portionsOf rcX (by decide) (Nat.le_of_ble_eq_true rfl) rfl rfl (Nat.le_of_ble_eq_true rfl) (kI 17 rfl fun r3 w4 h => ?_) kN
    refine R.goto 21 dX1_buried_17 (by decide) ?_
    exact R.retI dX1_buried_21 rfl h
