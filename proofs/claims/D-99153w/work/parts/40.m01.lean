set_option maxRecDepth 100000

abbrev k_X3_readHouse : MK := ("FrostBoxModel", cX3_readHouse, 2, none, [], "readHouse")
def b_X3_readHouse_111 (Q : Wd → Prop) (w : Wd) : Prop := (¬ (gI w 71) = (iz (-1)) → Q w) ∧ ((gI w 71) = (iz (-1)) → wp_X3_look w (fun r1 w2 => (¬ r1 = (iz (-1)) → wp_X3_fails w2 (fun r3 w4 => Q w4)) ∧ (r1 = (iz (-1)) → wp_X3_isWhole w2 (fun r5 w6 => (¬ r5 = iz 0 → Q w6) ∧ (r5 = iz 0 → wp_X3_fails w6 (fun r7 w8 => Q w8))))))
def b_X3_readHouse_93 (Q : Wd → Prop) (R55 : Int32 → Wd → Prop) (t0 : Int32) (w : Wd) : Prop := (t0 = iz 0 → R55 t0 w) ∧ (¬ t0 = iz 0 → ∀ w1, w1 = sI w 70 ((gI w 70) + (iz 1)) → R55 t0 w1)
def wl_X3_readHouse_55 (Q : Wd → Prop) (R55 : Int32 → Wd → Prop) (l1 : Int32) (w : Wd) : Prop := (l1 = iz 0 → b_X3_readHouse_111 Q w) ∧ (¬ l1 = iz 0 → (¬ (gI w 71) = (iz (-1)) → b_X3_readHouse_111 Q w) ∧ ((gI w 71) = (iz (-1)) → wp_X3_readClause w (fun w2 => (¬ (gI w2 71) = (iz (-1)) → b_X3_readHouse_93 Q R55 (iz 0) w2) ∧ ((gI w2 71) = (iz (-1)) → wp_X3_look w2 (fun r3 w4 => (¬ r3 = (iz 59) → b_X3_readHouse_93 Q R55 (iz 0) w4) ∧ (r3 = (iz 59) → b_X3_readHouse_93 Q R55 (iz 1) w4))))))
def lp_X3_readHouse_55 (Q : Wd → Prop) : Nat → Int32 → Wd → Prop
  | 0, _, _ => False
  | n + 1, l1, w => wl_X3_readHouse_55 Q (lp_X3_readHouse_55 Q n) l1 w
def wl_X3_readHouse_30 (Q : Wd → Prop) (R30 : Int32 → Wd → Prop) (l1 : Int32) (w : Wd) : Prop := ((iz 4) ≤ l1 → ∃ n1, lp_X3_readHouse_55 Q n1 (iz 1) w) ∧ (¬ (iz 4) ≤ l1 → wp_X3_usual (iz 115) l1 w (fun r2 w3 => inb l1 4 ∧ (∀ w4, w4 = sA w3 79 l1.toInt r2 → R30 (l1 + iz 1) w4)))
def lp_X3_readHouse_30 (Q : Wd → Prop) : Nat → Int32 → Wd → Prop
  | 0, _, _ => False
  | n + 1, l1, w => wl_X3_readHouse_30 Q (lp_X3_readHouse_30 Q n) l1 w
def wp_X3_readHouse (w : Wd) (Q : Wd → Prop) : Prop := wp_X3_starts 61 (iz 0) (gI w 66) w (fun w2 => ∀ w3, w3 = sI w2 86 (iz 0) → ∀ w4, w4 = sI w3 87 (iz 0) → ∀ w5, w5 = sI w4 89 (iz 0) → ∃ n6, lp_X3_readHouse_30 Q n6 (iz 0) w5)
set_option maxRecDepth 100000 in
set_option maxHeartbeats 4000000 in
theorem s_X3_readHouse_111 {γ : GG} (Q : Wd → Prop) : ∀ (w : Wd), b_X3_readHouse_111 Q w → Rch γ 8 k_X3_readHouse 111 [some (.ref 2), none] [] w (qV Q) xN := by
  intro w h
  unfold b_X3_readHouse_111 at h
  refine R.aload_n 112 dX3_readHouse_111 rfl rfl ?_
  refine gf_71 115 dX3_readHouse_112 rfl rfl ?_
  refine R.iconst 116 dX3_readHouse_115 rfl ?_
  refine R.icmp_ne 139 119 dX3_readHouse_116 (by decide) rfl (fun hc => ?_) (fun hc => ?_)
  · replace h := h.1 hc
    exact R.retV dX3_readHouse_139 rfl h
  · replace h := h.2 hc
    refine R.aload_n 120 dX3_readHouse_119 rfl rfl ?_
    refine Rch.callv (sd_X3_look _ _ h) dX3_readHouse_120 (lw_V q1444 q1446 qs83 q146 q1447) dk_X3_look rcM (by decide) (Nat.le_of_ble_eq_true rfl) rfl rfl (Nat.le_of_ble_eq_true rfl) (kI 123 rfl fun r1 w2 h => ?_) kN
    refine R.iconst 124 dX3_readHouse_123 rfl ?_
    refine R.icmp_ne 134 127 dX3_readHouse_124 (by decide) rfl (fun hc => ?_) (fun hc => ?_)
    · replace h := h.1 hc
      refine R.aload_n 135 dX3_readHouse_134 rfl rfl ?_
      refine Rch.callv (sd_X3_fails _ _ h) dX3_readHouse_135 (lw_V q1448 q1450 qs84 q146 q1451) dk_X3_fails rcM (by decide) (Nat.le_of_ble_eq_true rfl) rfl rfl (Nat.le_of_ble_eq_true rfl) (kI 138 rfl fun r3 w4 h => ?_) kN
      refine R.pop 139 dX3_readHouse_138 rfl ?_
      exact R.retV dX3_readHouse_139 rfl h
    · replace h := h.2 hc
      refine R.aload_n 128 dX3_readHouse_127 rfl rfl ?_
      refine Rch.callv (sd_X3_isWhole _ _ h) dX3_readHouse_128 (lw_V q1485 q1487 qs89 q146 q1488) dk_X3_isWhole rcM (by decide) (Nat.le_of_ble_eq_true rfl) rfl rfl (Nat.le_of_ble_eq_true rfl) (kI 131 rfl fun r5 w6 h => ?_) kN
      refine R.if_ne 139 134 dX3_readHouse_131 (by decide) rfl (fun hc => ?_) (fun hc => ?_)
      · replace h := h.1 hc
        exact R.retV dX3_readHouse_139 rfl h
      · replace h := h.2 hc
        refine R.aload_n 135 dX3_readHouse_134 rfl rfl ?_
        refine Rch.callv (sd_X3_fails _ _ h) dX3_readHouse_135 (lw_V q1448 q1450 qs84 q146 q1451) dk_X3_fails rcM (by decide) (Nat.le_of_ble_eq_true rfl) rfl rfl (Nat.le_of_ble_eq_true rfl) (kI 138 rfl fun r7 w8 h => ?_) kN
        refine R.pop 139 dX3_readHouse_138 rfl ?_
        exact R.retV dX3_readHouse_139 rfl h
set_option maxRecDepth 100000 in
set_option maxHeartbeats 4000000 in
theorem s_X3_readHouse_93 {γ : GG} (Q : Wd → Prop) (R55 : Int32 → Wd → Prop) (t0 : Int32) (hR55 : ∀ (l1 : Int32) (w : Wd), R55 l1 w → Rch γ 8 k_X3_readHouse 55 [some (.ref 2), some (.int l1)] [] w (qV Q) xN) : ∀ (w : Wd), b_X3_readHouse_93 Q R55 t0 w → Rch γ 8 k_X3_readHouse 93 [some (.ref 2), none] [.int t0] w (qV Q) xN := by
  intro w h
  unfold b_X3_readHouse_93 at h
  refine R.ist1n 94 dX3_readHouse_93 rfl (Nat.le_of_ble_eq_true rfl) rfl ?_
  refine R.iload_n 95 dX3_readHouse_94 rfl rfl ?_
  refine R.if_eq 55 98 dX3_readHouse_95 (by decide) rfl (fun hc => ?_) (fun hc => ?_)
  · replace h := h.1 hc
    exact Rch.dropk (hR55 _ _ h) ⟨rfl, ⟨rfl, trivial⟩⟩
  · replace h := h.2 hc
    refine R.aload_n 99 dX3_readHouse_98 rfl rfl ?_
    refine R.dupR 100 dX3_readHouse_99 rfl ?_
    refine gf_70 103 dX3_readHouse_100 rfl rfl ?_
    refine R.iconst 104 dX3_readHouse_103 rfl ?_
    refine R.iadd 105 dX3_readHouse_104 rfl ?_
    replace h := h _ rfl
    refine pf_70 _ 108 dX3_readHouse_105 rfl rfl ?_
    refine R.goto 55 dX3_readHouse_108 (by decide) ?_
    exact Rch.dropk (hR55 _ _ h) ⟨rfl, ⟨rfl, trivial⟩⟩
set_option maxRecDepth 100000 in
set_option maxHeartbeats 4000000 in
theorem sl_X3_readHouse_55 {γ : GG} (Q : Wd → Prop) : ∀ (n : Nat) (l1 : Int32) (w : Wd), lp_X3_readHouse_55 Q n l1 w → Rch γ 8 k_X3_readHouse 55 [some (.ref 2), some (.int l1)] [] w (qV Q) xN := by
  intro n
  induction n with
  | zero => intro _ _ h; exact h.elim
  | succ n hR55 =>
    intro l1 w h
    have h : wl_X3_readHouse_55 Q (lp_X3_readHouse_55 Q n) l1 w := h
    unfold wl_X3_readHouse_55 at h
    refine R.iload_n 56 dX3_readHouse_55 rfl rfl ?_
    refine R.if_eq 111 59 dX3_readHouse_56 (by decide) rfl (fun hc => ?_) (fun hc => ?_)
    · replace h := h.1 hc
      exact Rch.dropk (s_X3_readHouse_111 Q _ h) ⟨rfl, trivial⟩
    · replace h := h.2 hc
      refine R.aload_n 60 dX3_readHouse_59 rfl rfl ?_
      refine gf_71 63 dX3_readHouse_60 rfl rfl ?_
      refine R.iconst 64 dX3_readHouse_63 rfl ?_
      refine R.icmp_ne 111 67 dX3_readHouse_64 (by decide) rfl (fun hc => ?_) (fun hc => ?_)
      · replace h := h.1 hc
        exact Rch.dropk (s_X3_readHouse_111 Q _ h) ⟨rfl, trivial⟩
      · replace h := h.2 hc
        refine R.aload_n 68 dX3_readHouse_67 rfl rfl ?_
        refine Rch.callv (sd_X3_readClause _ _ h) dX3_readHouse_68 (lw_V q1440 q1442 qs82 q146 q1443) dk_X3_readClause rcM (by decide) (Nat.le_of_ble_eq_true rfl) rfl rfl (Nat.le_of_ble_eq_true rfl) (kV 71 rfl fun w2 h => ?_) kN
        refine R.aload_n 72 dX3_readHouse_71 rfl rfl ?_
        refine gf_71 75 dX3_readHouse_72 rfl rfl ?_
        refine R.iconst 76 dX3_readHouse_75 rfl ?_
        refine R.icmp_ne 92 79 dX3_readHouse_76 (by decide) rfl (fun hc => ?_) (fun hc => ?_)
        · replace h := h.1 hc
          refine R.iconst 93 dX3_readHouse_92 rfl ?_
          exact Rch.dropk (s_X3_readHouse_93 Q _ _ hR55 _ h) ⟨rfl, trivial⟩
        · replace h := h.2 hc
          refine R.aload_n 80 dX3_readHouse_79 rfl rfl ?_
          refine Rch.callv (sd_X3_look _ _ h) dX3_readHouse_80 (lw_V q1444 q1446 qs83 q146 q1447) dk_X3_look rcM (by decide) (Nat.le_of_ble_eq_true rfl) rfl rfl (Nat.le_of_ble_eq_true rfl) (kI 83 rfl fun r3 w4 h => ?_) kN
          refine R.bipush 85 dX3_readHouse_83 rfl (by decide +kernel) ?_
          refine R.icmp_ne 92 88 dX3_readHouse_85 (by decide) rfl (fun hc => ?_) (fun hc => ?_)
          · replace h := h.1 hc
            refine R.iconst 93 dX3_readHouse_92 rfl ?_
            exact Rch.dropk (s_X3_readHouse_93 Q _ _ hR55 _ h) ⟨rfl, trivial⟩
          · replace h := h.2 hc
            refine R.iconst 89 dX3_readHouse_88 rfl ?_
            refine R.goto 93 dX3_readHouse_89 (by decide) ?_
            exact Rch.dropk (s_X3_readHouse_93 Q _ _ hR55 _ h) ⟨rfl, trivial⟩
set_option maxRecDepth 100000 in
set_option maxHeartbeats 4000000 in
theorem sl_X3_readHouse_30 {γ : GG} (Q : Wd → Prop) : ∀ (n : Nat) (l1 : Int32) (w : Wd), lp_X3_readHouse_30 Q n l1 w → Rch γ 8 k_X3_readHouse 30 [some (.ref 2), some (.int l1)] [] w (qV Q) xN := by
  intro n
  induction n with
  | zero => intro _ _ h; exact h.elim
  | succ n hR30 =>
    intro l1 w h
    have h : wl_X3_readHouse_30 Q (lp_X3_readHouse_30 Q n) l1 w := h
    unfold wl_X3_readHouse_30 at h
    refine R.iload_n 31 dX3_readHouse_30 rfl rfl ?_
    refine R.iconst 32 dX3_readHouse_31 rfl ?_
    refine R.icmp_ge 53 35 dX3_readHouse_32 (by decide) rfl (fun hc => ?_) (fun hc => ?_)
    · replace h := h.1 hc
      refine R.iconst 54 dX3_readHouse_53 rfl ?_
      refine R.ist1n 55 dX3_readHouse_54 rfl (Nat.le_of_ble_eq_true rfl) rfl ?_
      obtain ⟨n1, h⟩ := h
      exact Rch.dropk (sl_X3_readHouse_55 Q n1 _ _ h) ⟨rfl, ⟨rfl, trivial⟩⟩
    · replace h := h.2 hc
      refine R.aload_n 36 dX3_readHouse_35 rfl rfl ?_
      refine gf_79 39 dX3_readHouse_36 rfl rfl ?_
      refine R.iload_n 40 dX3_readHouse_39 rfl rfl ?_
      refine R.bipush 42 dX3_readHouse_40 rfl (by decide +kernel) ?_
      refine R.iload_n 43 dX3_readHouse_42 rfl rfl ?_
      refine Rch.calls (sd_X3_usual _ _ _ _ h) dX3_readHouse_43 (lw_S q1437 q1438 q146 q1439) dk_X3_usual (by decide) (Nat.le_of_ble_eq_true rfl) rfl rfl (Nat.le_of_ble_eq_true rfl) (kI 46 rfl fun r2 w3 h => ?_) kN
      obtain ⟨hb, h⟩ := h
      replace h := h _ rfl
      refine R.iast ar_79 47 dX3_readHouse_46 rfl hb ?_
      refine R.inc1 50 dX3_readHouse_47 rfl (Nat.le_of_ble_eq_true rfl) rfl ?_
      refine R.goto 30 dX3_readHouse_50 (by decide) ?_
      exact Rch.dropk (hR30 _ _ h) ⟨rfl, ⟨rfl, trivial⟩⟩
set_option maxRecDepth 100000 in
set_option maxHeartbeats 4000000 in
theorem sd_X3_readHouse {γ : GG} (w : Wd) (Q : Wd → Prop) : wp_X3_readHouse w Q → Ctr γ 8 yX3_readHouse (ws_ yX3_readHouse cX3_readHouse 2 none) [.ref 2] w (qV Q) xN := by
  intro h
  unfold wp_X3_readHouse at h
  refine Ctr.of (μ := k_X3_readHouse) (by decide) rfl rfl rfl (Nat.le_of_ble_eq_true rfl) ⟨1, ?_⟩
  have es : lva [.ref 2] ++ List.replicate 1 none = [some (.ref 2), none] := rfl
  rw [es]
  refine R.aload_n 1 dX3_readHouse_0 rfl rfl ?_
  refine R.aload_n 2 dX3_readHouse_1 rfl rfl ?_
  refine gf_61 5 dX3_readHouse_2 rfl rfl ?_
  refine R.iconst 6 dX3_readHouse_5 rfl ?_
  refine R.aload_n 7 dX3_readHouse_6 rfl rfl ?_
  refine gf_66 10 dX3_readHouse_7 rfl rfl ?_
  refine Rch.callv (sd_X3_starts _ _ _ _ _ h) dX3_readHouse_10 (lw_V q1433 q1435 qs81 q146 q1436) dk_X3_starts rcM (by decide) (Nat.le_of_ble_eq_true rfl) rfl rfl (Nat.le_of_ble_eq_true rfl) (kV 13 rfl fun w2 h => ?_) kN
  refine R.aload_n 14 dX3_readHouse_13 rfl rfl ?_
  refine R.iconst 15 dX3_readHouse_14 rfl ?_
  replace h := h _ rfl
  refine pf_86 _ 18 dX3_readHouse_15 rfl rfl ?_
  refine R.aload_n 19 dX3_readHouse_18 rfl rfl ?_
  refine R.iconst 20 dX3_readHouse_19 rfl ?_
  replace h := h _ rfl
  refine pf_87 _ 23 dX3_readHouse_20 rfl rfl ?_
  refine R.aload_n 24 dX3_readHouse_23 rfl rfl ?_
  refine R.iconst 25 dX3_readHouse_24 rfl ?_
  replace h := h _ rfl
  refine pf_89 _ 28 dX3_readHouse_25 rfl rfl zok0 ?_
  refine R.iconst 29 dX3_readHouse_28 rfl ?_
  refine R.ist1n 30 dX3_readHouse_29 rfl (Nat.le_of_ble_eq_true rfl) rfl ?_
  obtain ⟨n6, h⟩ := h
  exact Rch.dropk (sl_X3_readHouse_30 Q n6 _ _ h) ⟨rfl, ⟨rfl, trivial⟩⟩

abbrev k_X3_isAmong : MK := ("FrostBoxModel", cX3_isAmong, 3, (some .boolean), [], "isAmong")
def wl_X3_isAmong_2 (Q : Int32 → Wd → Prop) (l0 : Nat) (l1 : Int32) (R2 : Int32 → Wd → Prop) (l2 : Int32) (w : Wd) : Prop := l0 < 6 ∧ wp_J2_length l0 w (fun r1 w2 => (r1 ≤ l2 → Q (iz 0) w2) ∧ (¬ r1 ≤ l2 → l0 < 6 ∧ wp_J2_charAt l0 l2 w2 (fun r3 w4 => (¬ r3 = l1 → R2 (l2 + iz 1) w4) ∧ (r3 = l1 → Q (iz 1) w4))))
def lp_X3_isAmong_2 (Q : Int32 → Wd → Prop) (l0 : Nat) (l1 : Int32) : Nat → Int32 → Wd → Prop
  | 0, _, _ => False
  | n + 1, l2, w => wl_X3_isAmong_2 Q l0 l1 (lp_X3_isAmong_2 Q l0 l1 n) l2 w
def wp_X3_isAmong (l0 : Nat) (l1 : Int32) (w : Wd) (Q : Int32 → Wd → Prop) : Prop := ∃ n1, lp_X3_isAmong_2 Q l0 l1 n1 (iz 0) w
set_option maxRecDepth 100000 in
set_option maxHeartbeats 4000000 in
theorem sl_X3_isAmong_2 {γ : GG} (Q : Int32 → Wd → Prop) (l0 : Nat) (l1 : Int32) : ∀ (n : Nat) (l2 : Int32) (w : Wd), lp_X3_isAmong_2 Q l0 l1 n l2 w → Rch γ 5 k_X3_isAmong 2 [some (.ref (120 + l0)), some (.int l1), some (.int l2)] [] w (qI Q) xN := by
  intro n
  induction n with
  | zero => intro _ _ h; exact h.elim
  | succ n hR2 =>
    intro l2 w h
    have h : wl_X3_isAmong_2 Q l0 l1 (lp_X3_isAmong_2 Q l0 l1 n) l2 w := h
    unfold wl_X3_isAmong_2 at h
    refine R.iload_n 3 dX3_isAmong_2 rfl rfl ?_
    refine R.aload_n 4 dX3_isAmong_3 rfl rfl ?_
    obtain ⟨h6, h⟩ := h
    refine Rch.callv (sd_J2_length _ _ _ h) dX3_isAmong_4 (lw_V q1457 q410 q411 q147 q412) dk_J2_length (rcS l0 h6) (by decide) (Nat.le_of_ble_eq_true rfl) rfl rfl (Nat.le_of_ble_eq_true rfl) (kI 7 rfl fun r1 w2 h => ?_) kN
    refine R.icmp_ge 27 10 dX3_isAmong_7 (by decide) rfl (fun hc => ?_) (fun hc => ?_)
    · replace h := h.1 hc
      refine R.iconst 28 dX3_isAmong_27 rfl ?_
      exact R.retZ dX3_isAmong_28 rfl zok0 h
    · replace h := h.2 hc
      refine R.aload_n 11 dX3_isAmong_10 rfl rfl ?_
      refine R.iload_n 12 dX3_isAmong_11 rfl rfl ?_
      obtain ⟨h6, h⟩ := h
      refine Rch.callv (sd_J2_charAt _ _ _ _ h) dX3_isAmong_12 (lw_V q1461 q837 q838 q147 q839) dk_J2_charAt (rcS l0 h6) (by decide) (Nat.le_of_ble_eq_true rfl) rfl rfl (Nat.le_of_ble_eq_true rfl) (kI 15 rfl fun r3 w4 h => ?_) kN
      refine R.iload_n 16 dX3_isAmong_15 rfl rfl ?_
      refine R.icmp_ne 21 19 dX3_isAmong_16 (by decide) rfl (fun hc => ?_) (fun hc => ?_)
      · replace h := h.1 hc
        refine R.inc2 24 dX3_isAmong_21 rfl (Nat.le_of_ble_eq_true rfl) rfl ?_
        refine R.goto 2 dX3_isAmong_24 (by decide) ?_
        exact Rch.dropk (hR2 _ _ h) ⟨rfl, ⟨rfl, ⟨rfl, trivial⟩⟩⟩
      · replace h := h.2 hc
        refine R.iconst 20 dX3_isAmong_19 rfl ?_
        exact R.retZ dX3_isAmong_20 rfl zok1 h
set_option maxRecDepth 100000 in
set_option maxHeartbeats 4000000 in
theorem sd_X3_isAmong {γ : GG} (l0 : Nat) (l1 : Int32) (w : Wd) (Q : Int32 → Wd → Prop) : wp_X3_isAmong l0 l1 w Q → Ctr γ 5 yX3_isAmong (ws_ yX3_isAmong cX3_isAmong 3 (some .boolean)) [.ref (120 + l0), .int l1] w (qI Q) xN := by
  intro h
  unfold wp_X3_isAmong at h
  refine Ctr.of (μ := k_X3_isAmong) (by decide) rfl rfl rfl (Nat.le_of_ble_eq_true rfl) ⟨1, ?_⟩
  have es : lva [.ref (120 + l0), .int l1] ++ List.replicate 1 none = [some (.ref (120 + l0)), some (.int l1), none] := rfl
  rw [es]
  refine R.iconst 1 dX3_isAmong_0 rfl ?_
  refine R.ist2n 2 dX3_isAmong_1 rfl (Nat.le_of_ble_eq_true rfl) rfl ?_
  obtain ⟨n1, h⟩ := h
  exact Rch.dropk (sl_X3_isAmong_2 Q _ _ n1 _ _ h) ⟨rfl, ⟨rfl, ⟨rfl, trivial⟩⟩⟩

abbrev k_X3_takes : MK := ("FrostBoxModel", cX3_takes, 2, (some .boolean), [], "takes")
def wp_X3_takes (l1 : Int32) (w : Wd) (Q : Int32 → Wd → Prop) : Prop := (¬ (gI w 71) = (iz (-1)) → wp_X3_fails w (fun r1 w2 => zok r1 ∧ Q r1 w2)) ∧ ((gI w 71) = (iz (-1)) → wp_X3_look w (fun r3 w4 => (r3 = l1 → ∀ w5, w5 = sI w4 70 ((gI w4 70) + (iz 1)) → Q (iz 1) w5) ∧ (¬ r3 = l1 → wp_X3_fails w4 (fun r6 w7 => zok r6 ∧ Q r6 w7))))
set_option maxRecDepth 100000 in
set_option maxHeartbeats 4000000 in
theorem sd_X3_takes {γ : GG} (l1 : Int32) (w : Wd) (Q : Int32 → Wd → Prop) : wp_X3_takes l1 w Q → Ctr γ 2 yX3_takes (ws_ yX3_takes cX3_takes 2 (some .boolean)) [.ref 2, .int l1] w (qI Q) xN := by
  intro h
  unfold wp_X3_takes at h
  refine Ctr.of (μ := k_X3_takes) (by decide) rfl rfl rfl (Nat.le_of_ble_eq_true rfl) ⟨0, ?_⟩
  have es : lva [.ref 2, .int l1] ++ List.replicate 0 none = [some (.ref 2), some (.int l1)] := rfl
  rw [es]
  refine R.aload_n 1 dX3_takes_0 rfl rfl ?_
  refine gf_71 4 dX3_takes_1 rfl rfl ?_
  refine R.iconst 5 dX3_takes_4 rfl ?_
  refine R.icmp_ne 16 8 dX3_takes_5 (by decide) rfl (fun hc => ?_) (fun hc => ?_)
  · replace h := h.1 hc
    refine R.aload_n 17 dX3_takes_16 rfl rfl ?_
    refine Rch.callv (sd_X3_fails _ _ h) dX3_takes_17 (lw_V q1448 q1450 qs84 q146 q1451) dk_X3_fails rcM (by decide) (Nat.le_of_ble_eq_true rfl) rfl rfl (Nat.le_of_ble_eq_true rfl) (kI 20 rfl fun r1 w2 h => ?_) kN
    exact R.retZ dX3_takes_20 rfl h.1 h.2
  · replace h := h.2 hc
    refine R.aload_n 9 dX3_takes_8 rfl rfl ?_
    refine Rch.callv (sd_X3_look _ _ h) dX3_takes_9 (lw_V q1444 q1446 qs83 q146 q1447) dk_X3_look rcM (by decide) (Nat.le_of_ble_eq_true rfl) rfl rfl (Nat.le_of_ble_eq_true rfl) (kI 12 rfl fun r3 w4 h => ?_) kN
    refine R.iload_n 13 dX3_takes_12 rfl rfl ?_
    refine R.icmp_eq 21 16 dX3_takes_13 (by decide) rfl (fun hc => ?_) (fun hc => ?_)
    · replace h := h.1 hc
      refine R.aload_n 22 dX3_takes_21 rfl rfl ?_
      refine R.dupR 23 dX3_takes_22 rfl ?_
      refine gf_70 26 dX3_takes_23 rfl rfl ?_
      refine R.iconst 27 dX3_takes_26 rfl ?_
      refine R.iadd 28 dX3_takes_27 rfl ?_
      replace h := h _ rfl
      refine pf_70 _ 31 dX3_takes_28 rfl rfl ?_
      refine R.iconst 32 dX3_takes_31 rfl ?_
      exact R.retZ dX3_takes_32 rfl zok1 h
    · replace h := h.2 hc
      refine R.aload_n 17 dX3_takes_16 rfl rfl ?_
      refine Rch.callv (sd_X3_fails _ _ h) dX3_takes_17 (lw_V q1448 q1450 qs84 q146 q1451) dk_X3_fails rcM (by decide) (Nat.le_of_ble_eq_true rfl) rfl rfl (Nat.le_of_ble_eq_true rfl) (kI 20 rfl fun r6 w7 h => ?_) kN
      exact R.retZ dX3_takes_20 rfl h.1 h.2

abbrev k_X3_goesIn : MK := ("FrostBoxModel", cX3_goesIn, 1, (some .boolean), [], "goesIn")
def wp_X3_goesIn (w : Wd) (Q : Int32 → Wd → Prop) : Prop := (¬ (gI w 72) = (iz 6) → ∀ w1, w1 = sI w 72 ((gI w 72) + (iz 1)) → ∀ w2, w2 = sI w1 70 ((gI w1 70) + (iz 1)) → Q (iz 1) w2) ∧ ((gI w 72) = (iz 6) → wp_X3_fails w (fun r3 w4 => zok r3 ∧ Q r3 w4))
set_option maxRecDepth 100000 in
set_option maxHeartbeats 4000000 in
theorem sd_X3_goesIn {γ : GG} (w : Wd) (Q : Int32 → Wd → Prop) : wp_X3_goesIn w Q → Ctr γ 2 yX3_goesIn (ws_ yX3_goesIn cX3_goesIn 1 (some .boolean)) [.ref 2] w (qI Q) xN := by
  intro h
  unfold wp_X3_goesIn at h
  refine Ctr.of (μ := k_X3_goesIn) (by decide) rfl rfl rfl (Nat.le_of_ble_eq_true rfl) ⟨0, ?_⟩
  have es : lva [.ref 2] ++ List.replicate 0 none = [some (.ref 2)] := rfl
  rw [es]
  refine R.aload_n 1 dX3_goesIn_0 rfl rfl ?_
  refine gf_72 4 dX3_goesIn_1 rfl rfl ?_
  refine R.bipush 6 dX3_goesIn_4 rfl (by decide +kernel) ?_
  refine R.icmp_ne 14 9 dX3_goesIn_6 (by decide) rfl (fun hc => ?_) (fun hc => ?_)
  · replace h := h.1 hc
    refine R.aload_n 15 dX3_goesIn_14 rfl rfl ?_
    refine R.dupR 16 dX3_goesIn_15 rfl ?_
    refine gf_72 19 dX3_goesIn_16 rfl rfl ?_
    refine R.iconst 20 dX3_goesIn_19 rfl ?_
    refine R.iadd 21 dX3_goesIn_20 rfl ?_
    replace h := h _ rfl
    refine pf_72 _ 24 dX3_goesIn_21 rfl rfl ?_
    refine R.aload_n 25 dX3_goesIn_24 rfl rfl ?_
    refine R.dupR 26 dX3_goesIn_25 rfl ?_
    refine gf_70 29 dX3_goesIn_26 rfl rfl ?_
    refine R.iconst 30 dX3_goesIn_29 rfl ?_
    refine R.iadd 31 dX3_goesIn_30 rfl ?_
    replace h := h _ rfl
    refine pf_70 _ 34 dX3_goesIn_31 rfl rfl ?_
    refine R.iconst 35 dX3_goesIn_34 rfl ?_
    exact R.retZ dX3_goesIn_35 rfl zok1 h
  · replace h := h.2 hc
    refine R.aload_n 10 dX3_goesIn_9 rfl rfl ?_
    refine Rch.callv (sd_X3_fails _ _ h) dX3_goesIn_10 (lw_V q1448 q1450 qs84 q146 q1451) dk_X3_fails rcM (by decide) (Nat.le_of_ble_eq_true rfl) rfl rfl (Nat.le_of_ble_eq_true rfl) (kI 13 rfl fun r3 w4 h => ?_) kN
    exact R.retZ dX3_goesIn_13 rfl h.1 h.2

abbrev k_X3_atom : MK := ("FrostBoxModel", cX3_atom, 4, (some .int), [], "atom")
def wl_X3_atom_90 (Psum : Wd → (Int32 → Wd → Prop) → Prop) (Q : Int32 → Wd → Prop) (R90 : Int32 → Int32 → Wd → Prop) (l2 : Int32) (l3 : Int32) (w : Wd) : Prop := wp_X3_isDigit w (fun r1 w2 => (r1 = iz 0 → Q l2 w2) ∧ (¬ r1 = iz 0 → (¬ (gI w2 71) = (iz (-1)) → Q l2 w2) ∧ ((gI w2 71) = (iz (-1)) → (¬ l3 = (iz 4) → inB (gT w2) ((gI w2 68) + (gI w2 70)) ∧ ∀ w3, w3 = sI w2 70 ((gI w2 70) + (iz 1)) → R90 ((((iz 10) * l2) + (gA w2 (gT w2) ((gI w2 68) + (gI w2 70)).toInt)) - (iz 48)) (l3 + iz 1) w3) ∧ (l3 = (iz 4) → wp_X3_fails w2 (fun r4 w5 => Q (iz 0) w5)))))
def lp_X3_atom_90 (Psum : Wd → (Int32 → Wd → Prop) → Prop) (Q : Int32 → Wd → Prop) : Nat → Int32 → Int32 → Wd → Prop
  | 0, _, _, _ => False
  | n + 1, l2, l3, w => wl_X3_atom_90 Psum Q (lp_X3_atom_90 Psum Q n) l2 l3 w
def wp_X3_atom (Psum : Wd → (Int32 → Wd → Prop) → Prop) (w : Wd) (Q : Int32 → Wd → Prop) : Prop := wp_X3_look w (fun r1 w2 => wp_X3_isAmong 1 r1 w2 (fun r3 w4 => (r3 = iz 0 → (¬ r1 = (iz 91) → wp_X3_isDigit w4 (fun r5 w6 => (¬ r5 = iz 0 → ∃ n7, lp_X3_atom_90 Psum Q n7 (iz 0) (iz 0) w6) ∧ (r5 = iz 0 → wp_X3_fails w6 (fun r8 w9 => ∃ n10, lp_X3_atom_90 Psum Q n10 (iz 0) (iz 0) w9)))) ∧ (r1 = (iz 91) → wp_X3_goesIn w4 (fun r11 w12 => (¬ r11 = iz 0 → Psum w12 (fun r13 w14 => wp_X3_takes (iz 93) w14 (fun r15 w16 => (¬ r15 = iz 0 → ∀ w17, w17 = sI w16 72 ((gI w16 72) - (iz 1)) → Q r13 w17) ∧ (r15 = iz 0 → Q (iz 0) w16)))) ∧ (r11 = iz 0 → Q (iz 0) w12)))) ∧ (¬ r3 = iz 0 → ∀ w18, w18 = sI w4 70 ((gI w4 70) + (iz 1)) → inb r1 128 ∧ Q (gA w18 64 r1.toInt) w18)))
set_option maxRecDepth 100000 in
set_option maxHeartbeats 4000000 in
theorem sl_X3_atom_90 {γ : GG} {dP : Nat} (hB : 5 ≤ dP) (Psum : Wd → (Int32 → Wd → Prop) → Prop) (hPsum : ∀ (w : Wd) (Q : Int32 → Wd → Prop) , Psum w Q → Ctr γ dP yX3_sum (ws_ yX3_sum cX3_sum 5 (some .int)) [.ref 2] w (qI Q) xN) (Q : Int32 → Wd → Prop) : ∀ (n : Nat) (l2 : Int32) (l3 : Int32) (w : Wd), lp_X3_atom_90 Psum Q n l2 l3 w → Rch γ (dP + 1) k_X3_atom 90 [some (.ref 2), none, some (.int l2), some (.int l3)] [] w (qI Q) xN := by
  intro n
  induction n with
  | zero => intro _ _ _ h; exact h.elim
  | succ n hR90 =>
    intro l2 l3 w h
    have h : wl_X3_atom_90 Psum Q (lp_X3_atom_90 Psum Q n) l2 l3 w := h
    unfold wl_X3_atom_90 at h
    refine R.aload_n 91 dX3_atom_90 rfl rfl ?_
    refine Rch.callv (sd_X3_isDigit _ _ h) dX3_atom_91 (lw_V q1475 q1477 qs87 q146 q1478) dk_X3_isDigit rcM (by omega) (Nat.le_of_ble_eq_true rfl) rfl rfl (Nat.le_of_ble_eq_true rfl) (kI 94 rfl fun r1 w2 h => ?_) kN
    refine R.if_eq 156 97 dX3_atom_94 (by decide) rfl (fun hc => ?_) (fun hc => ?_)
    · replace h := h.1 hc
      refine R.iload_n 157 dX3_atom_156 rfl rfl ?_
      exact R.retI dX3_atom_157 rfl h
    · replace h := h.2 hc
      refine R.aload_n 98 dX3_atom_97 rfl rfl ?_
      refine gf_71 101 dX3_atom_98 rfl rfl ?_
      refine R.iconst 102 dX3_atom_101 rfl ?_
      refine R.icmp_ne 156 105 dX3_atom_102 (by decide) rfl (fun hc => ?_) (fun hc => ?_)
      · replace h := h.1 hc
        refine R.iload_n 157 dX3_atom_156 rfl rfl ?_
        exact R.retI dX3_atom_157 rfl h
      · replace h := h.2 hc
        refine R.iload_n 106 dX3_atom_105 rfl rfl ?_
        refine R.iconst 107 dX3_atom_106 rfl ?_
        refine R.icmp_ne 117 110 dX3_atom_107 (by decide) rfl (fun hc => ?_) (fun hc => ?_)
        · replace h := h.1 hc
          refine R.bipush 119 dX3_atom_117 rfl (by decide +kernel) ?_
          refine R.iload_n 120 dX3_atom_119 rfl rfl ?_
          refine R.imul 121 dX3_atom_120 rfl ?_
          refine R.aload_n 122 dX3_atom_121 rfl rfl ?_
          refine gf_65 125 dX3_atom_122 rfl rfl ?_
          refine R.aload_n 126 dX3_atom_125 rfl rfl ?_
          refine gf_68 129 dX3_atom_126 rfl rfl ?_
          refine R.aload_n 130 dX3_atom_129 rfl rfl ?_
          refine gf_70 133 dX3_atom_130 rfl rfl ?_
          refine R.iadd 134 dX3_atom_133 rfl ?_
          obtain ⟨hb, h⟩ := h
          refine R.baB 135 dX3_atom_134 rfl hb ?_
          refine R.iadd 136 dX3_atom_135 rfl ?_
          refine R.bipush 138 dX3_atom_136 rfl (by decide +kernel) ?_
          refine R.isub 139 dX3_atom_138 rfl ?_
          refine R.ist2n 140 dX3_atom_139 rfl (Nat.le_of_ble_eq_true rfl) rfl ?_
          refine R.aload_n 141 dX3_atom_140 rfl rfl ?_
          refine R.dupR 142 dX3_atom_141 rfl ?_
          refine gf_70 145 dX3_atom_142 rfl rfl ?_
          refine R.iconst 146 dX3_atom_145 rfl ?_
          refine R.iadd 147 dX3_atom_146 rfl ?_
          replace h := h _ rfl
          refine pf_70 _ 150 dX3_atom_147 rfl rfl ?_
          refine R.inc3 153 dX3_atom_150 rfl (Nat.le_of_ble_eq_true rfl) rfl ?_
          refine R.goto 90 dX3_atom_153 (by decide) ?_
          exact Rch.dropk (hR90 _ _ _ h) ⟨rfl, ⟨rfl, ⟨rfl, trivial⟩⟩⟩
        · replace h := h.2 hc
          refine R.aload_n 111 dX3_atom_110 rfl rfl ?_
          refine Rch.callv (sd_X3_fails _ _ h) dX3_atom_111 (lw_V q1448 q1450 qs84 q146 q1451) dk_X3_fails rcM (by omega) (Nat.le_of_ble_eq_true rfl) rfl rfl (Nat.le_of_ble_eq_true rfl) (kI 114 rfl fun r4 w5 h => ?_) kN
          refine R.pop 115 dX3_atom_114 rfl ?_
          refine R.iconst 116 dX3_atom_115 rfl ?_
          exact R.retI dX3_atom_116 rfl h
set_option maxRecDepth 100000 in
set_option maxHeartbeats 4000000 in
theorem sd_X3_atom {γ : GG} {dP : Nat} (hB : 5 ≤ dP) (Psum : Wd → (Int32 → Wd → Prop) → Prop) (hPsum : ∀ (w : Wd) (Q : Int32 → Wd → Prop) , Psum w Q → Ctr γ dP yX3_sum (ws_ yX3_sum cX3_sum 5 (some .int)) [.ref 2] w (qI Q) xN) (w : Wd) (Q : Int32 → Wd → Prop) : wp_X3_atom Psum w Q → Ctr γ (dP + 1) yX3_atom (ws_ yX3_atom cX3_atom 4 (some .int)) [.ref 2] w (qI Q) xN := by
  intro h
  unfold wp_X3_atom at h
  refine Ctr.of (μ := k_X3_atom) (by decide) rfl rfl rfl (Nat.le_of_ble_eq_true rfl) ⟨3, ?_⟩
  have es : lva [.ref 2] ++ List.replicate 3 none = [some (.ref 2), none, none, none] := rfl
  rw [es]
  refine R.aload_n 1 dX3_atom_0 rfl rfl ?_
  refine Rch.callv (sd_X3_look _ _ h) dX3_atom_1 (lw_V q1444 q1446 qs83 q146 q1447) dk_X3_look rcM (by omega) (Nat.le_of_ble_eq_true rfl) rfl rfl (Nat.le_of_ble_eq_true rfl) (kI 4 rfl fun r1 w2 h => ?_) kN
  refine R.ist1n 5 dX3_atom_4 rfl (Nat.le_of_ble_eq_true rfl) rfl ?_
  refine R.ldcS (i := 1) 7 dX3_atom_5 rfl (List.mem_of_getElem? (i := 7) rfl) ?_
  refine R.iload_n 8 dX3_atom_7 rfl rfl ?_
  refine Rch.calls (sd_X3_isAmong _ _ _ _ h) dX3_atom_8 (lw_S q1497 q1498 q146 q1499) dk_X3_isAmong (by omega) (Nat.le_of_ble_eq_true rfl) rfl rfl (Nat.le_of_ble_eq_true rfl) (kI 11 rfl fun r3 w4 h => ?_) kN
  refine R.if_eq 31 14 dX3_atom_11 (by decide) rfl (fun hc => ?_) (fun hc => ?_)
  · replace h := h.1 hc
    refine R.iload_n 32 dX3_atom_31 rfl rfl ?_
    refine R.bipush 34 dX3_atom_32 rfl (by decide +kernel) ?_
    refine R.icmp_ne 74 37 dX3_atom_34 (by decide) rfl (fun hc => ?_) (fun hc => ?_)
    · replace h := h.1 hc
      refine R.aload_n 75 dX3_atom_74 rfl rfl ?_
      refine Rch.callv (sd_X3_isDigit _ _ h) dX3_atom_75 (lw_V q1475 q1477 qs87 q146 q1478) dk_X3_isDigit rcM (by omega) (Nat.le_of_ble_eq_true rfl) rfl rfl (Nat.le_of_ble_eq_true rfl) (kI 78 rfl fun r5 w6 h => ?_) kN
      refine R.if_ne 86 81 dX3_atom_78 (by decide) rfl (fun hc => ?_) (fun hc => ?_)
      · replace h := h.1 hc
        refine R.iconst 87 dX3_atom_86 rfl ?_
        refine R.ist2n 88 dX3_atom_87 rfl (Nat.le_of_ble_eq_true rfl) rfl ?_
        refine R.iconst 89 dX3_atom_88 rfl ?_
        refine R.ist3n 90 dX3_atom_89 rfl (Nat.le_of_ble_eq_true rfl) rfl ?_
        obtain ⟨n7, h⟩ := h
        exact Rch.dropk (sl_X3_atom_90 hB Psum hPsum Q n7 _ _ _ h) ⟨rfl, ⟨rfl, ⟨rfl, trivial⟩⟩⟩
      · replace h := h.2 hc
        refine R.aload_n 82 dX3_atom_81 rfl rfl ?_
        refine Rch.callv (sd_X3_fails _ _ h) dX3_atom_82 (lw_V q1448 q1450 qs84 q146 q1451) dk_X3_fails rcM (by omega) (Nat.le_of_ble_eq_true rfl) rfl rfl (Nat.le_of_ble_eq_true rfl) (kI 85 rfl fun r8 w9 h => ?_) kN
        refine R.pop 86 dX3_atom_85 rfl ?_
        refine R.iconst 87 dX3_atom_86 rfl ?_
        refine R.ist2n 88 dX3_atom_87 rfl (Nat.le_of_ble_eq_true rfl) rfl ?_
        refine R.iconst 89 dX3_atom_88 rfl ?_
        refine R.ist3n 90 dX3_atom_89 rfl (Nat.le_of_ble_eq_true rfl) rfl ?_
        obtain ⟨n10, h⟩ := h
        exact Rch.dropk (sl_X3_atom_90 hB Psum hPsum Q n10 _ _ _ h) ⟨rfl, ⟨rfl, ⟨rfl, trivial⟩⟩⟩
    · replace h := h.2 hc
      refine R.aload_n 38 dX3_atom_37 rfl rfl ?_
      refine Rch.callv (sd_X3_goesIn _ _ h) dX3_atom_38 (lw_V q1528 q1530 qs99 q146 q1531) dk_X3_goesIn rcM (by omega) (Nat.le_of_ble_eq_true rfl) rfl rfl (Nat.le_of_ble_eq_true rfl) (kI 41 rfl fun r11 w12 h => ?_) kN
      refine R.if_ne 46 44 dX3_atom_41 (by decide) rfl (fun hc => ?_) (fun hc => ?_)
      · replace h := h.1 hc
        refine R.aload_n 47 dX3_atom_46 rfl rfl ?_
        refine Rch.callv (hPsum _ _ h) dX3_atom_47 (lw_V q1516 q1518 qs96 q146 q1519) dk_X3_sum rcM (by omega) (Nat.le_of_ble_eq_true rfl) rfl rfl (Nat.le_of_ble_eq_true rfl) (kI 50 rfl fun r13 w14 h => ?_) kN
        refine R.ist2n 51 dX3_atom_50 rfl (Nat.le_of_ble_eq_true rfl) rfl ?_
        refine R.aload_n 52 dX3_atom_51 rfl rfl ?_
        refine R.bipush 54 dX3_atom_52 rfl (by decide +kernel) ?_
        refine Rch.callv (sd_X3_takes _ _ _ h) dX3_atom_54 (lw_V q1500 q1502 qs92 q146 q1503) dk_X3_takes rcM (by omega) (Nat.le_of_ble_eq_true rfl) rfl rfl (Nat.le_of_ble_eq_true rfl) (kI 57 rfl fun r15 w16 h => ?_) kN
        refine R.if_ne 62 60 dX3_atom_57 (by decide) rfl (fun hc => ?_) (fun hc => ?_)
        · replace h := h.1 hc
          refine R.aload_n 63 dX3_atom_62 rfl rfl ?_
          refine R.dupR 64 dX3_atom_63 rfl ?_
          refine gf_72 67 dX3_atom_64 rfl rfl ?_
          refine R.iconst 68 dX3_atom_67 rfl ?_
          refine R.isub 69 dX3_atom_68 rfl ?_
          replace h := h _ rfl
          refine pf_72 _ 72 dX3_atom_69 rfl rfl ?_
          refine R.iload_n 73 dX3_atom_72 rfl rfl ?_
          exact R.retI dX3_atom_73 rfl h
        · replace h := h.2 hc
          refine R.iconst 61 dX3_atom_60 rfl ?_
          exact R.retI dX3_atom_61 rfl h
      · replace h := h.2 hc
        refine R.iconst 45 dX3_atom_44 rfl ?_
        exact R.retI dX3_atom_45 rfl h
  · replace h := h.2 hc
    refine R.aload_n 15 dX3_atom_14 rfl rfl ?_
    refine R.dupR 16 dX3_atom_15 rfl ?_
    refine gf_70 19 dX3_atom_16 rfl rfl ?_
    refine R.iconst 20 dX3_atom_19 rfl ?_
    refine R.iadd 21 dX3_atom_20 rfl ?_
    replace h := h _ rfl
    refine pf_70 _ 24 dX3_atom_21 rfl rfl ?_
    refine R.aload_n 25 dX3_atom_24 rfl rfl ?_
    refine gf_64 28 dX3_atom_25 rfl rfl ?_
    refine R.iload_n 29 dX3_atom_28 rfl rfl ?_
    obtain ⟨hb, h⟩ := h
    refine R.iald ar_64 30 dX3_atom_29 rfl hb ?_
    exact R.retI dX3_atom_30 rfl h

abbrev k_X3_within : MK := ("FrostBoxModel", cX3_within, 2, (some .int), [], "within")
def wp_X3_within (l0 : Int64) (w : Wd) (Q : Int32 → Wd → Prop) : Prop := Q ((lmax (lz (-1000000)) (lmin (lz 1000000) l0))).toInt32 w
set_option maxRecDepth 100000 in
set_option maxHeartbeats 4000000 in
theorem sd_X3_within {γ : GG} (l0 : Int64) (w : Wd) (Q : Int32 → Wd → Prop) : wp_X3_within l0 w Q → Ctr γ 1 yX3_within (ws_ yX3_within cX3_within 2 (some .int)) [.long l0] w (qI Q) xN := by
  intro h
  unfold wp_X3_within at h
  refine Ctr.of (μ := k_X3_within) (by decide) rfl rfl rfl (Nat.le_of_ble_eq_true rfl) ⟨0, ?_⟩
  have es : lva [.long l0] ++ List.replicate 0 none = [some (.long l0), none] := rfl
  rw [es]
  refine R.ldc2 (n := (-1000000)) 3 dX3_within_0 rfl q1535 (by decide +kernel) ?_
  refine R.ldc2 (n := 1000000) 6 dX3_within_3 rfl q1536 (by decide +kernel) ?_
  refine R.lload_n 7 dX3_within_6 rfl rfl ?_
  refine R.mminl 10 dX3_within_7 rfl q1537 q884 q149 q885 (by omega) (Nat.le_of_ble_eq_true rfl) ?_
  refine R.mmaxl 13 dX3_within_10 rfl q1538 q887 q149 q888 (by omega) (Nat.le_of_ble_eq_true rfl) ?_
  refine R.l2i 14 dX3_within_13 rfl ?_
  exact R.retI dX3_within_14 rfl h

abbrev k_X3_term : MK := ("FrostBoxModel", cX3_term, 5, (some .int), [], "term")
def b_X3_term_45 (Psum : Wd → (Int32 → Wd → Prop) → Prop) (Q : Int32 → Wd → Prop) (R5 : Int32 → Wd → Prop) (l1 : Int32) (t0 : Int32) (w : Wd) : Prop := ∀ w1, w1 = sI w 70 ((gI w 70) + (iz 1)) → wp_X3_atom Psum w1 (fun r2 w3 => (t0 = iz 0 → (¬ (lg_cmp (r2).toInt64 (lz 0)) = iz 0 → (¬ (r2).toInt64 = 0) ∧ wp_X3_within ((l1).toInt64 / (r2).toInt64) w3 (fun r4 w5 => R5 r4 w5)) ∧ ((lg_cmp (r2).toInt64 (lz 0)) = iz 0 → wp_X3_within (lz 0) w3 (fun r6 w7 => R5 r6 w7))) ∧ (¬ t0 = iz 0 → wp_X3_within ((l1).toInt64 * (r2).toInt64) w3 (fun r8 w9 => R5 r8 w9)))
def b_X3_term_31 (Psum : Wd → (Int32 → Wd → Prop) → Prop) (Q : Int32 → Wd → Prop) (R5 : Int32 → Wd → Prop) (l1 : Int32) (w : Wd) : Prop := wp_X3_look w (fun r1 w2 => (¬ r1 = (iz 42) → b_X3_term_45 Psum Q R5 l1 (iz 0) w2) ∧ (r1 = (iz 42) → b_X3_term_45 Psum Q R5 l1 (iz 1) w2))
def wl_X3_term_5 (Psum : Wd → (Int32 → Wd → Prop) → Prop) (Q : Int32 → Wd → Prop) (R5 : Int32 → Wd → Prop) (l1 : Int32) (w : Wd) : Prop := (¬ (gI w 71) = (iz (-1)) → Q l1 w) ∧ ((gI w 71) = (iz (-1)) → wp_X3_look w (fun r1 w2 => (r1 = (iz 42) → b_X3_term_31 Psum Q R5 l1 w2) ∧ (¬ r1 = (iz 42) → wp_X3_look w2 (fun r3 w4 => (¬ r3 = (iz 47) → Q l1 w4) ∧ (r3 = (iz 47) → b_X3_term_31 Psum Q R5 l1 w4)))))
def lp_X3_term_5 (Psum : Wd → (Int32 → Wd → Prop) → Prop) (Q : Int32 → Wd → Prop) : Nat → Int32 → Wd → Prop
  | 0, _, _ => False
  | n + 1, l1, w => wl_X3_term_5 Psum Q (lp_X3_term_5 Psum Q n) l1 w
def wp_X3_term (Psum : Wd → (Int32 → Wd → Prop) → Prop) (w : Wd) (Q : Int32 → Wd → Prop) : Prop := wp_X3_atom Psum w (fun r1 w2 => ∃ n3, lp_X3_term_5 Psum Q n3 r1 w2)
set_option maxRecDepth 100000 in
set_option maxHeartbeats 4000000 in
theorem s_X3_term_45 {γ : GG} {dP : Nat} (hB : 5 ≤ dP) (Psum : Wd → (Int32 → Wd → Prop) → Prop) (hPsum : ∀ (w : Wd) (Q : Int32 → Wd → Prop) , Psum w Q → Ctr γ dP yX3_sum (ws_ yX3_sum cX3_sum 5 (some .int)) [.ref 2] w (qI Q) xN) (Q : Int32 → Wd → Prop) (R5 : Int32 → Wd → Prop) (l1 : Int32) (t0 : Int32) (hR5 : ∀ (l1 : Int32) (w : Wd), R5 l1 w → Rch γ (dP + 2) k_X3_term 5 [some (.ref 2), some (.int l1), none, none, none] [] w (qI Q) xN) : ∀ (w : Wd), b_X3_term_45 Psum Q R5 l1 t0 w → Rch γ (dP + 2) k_X3_term 45 [some (.ref 2), some (.int l1), none, none, none] [.int t0] w (qI Q) xN := by
  intro w h
  unfold b_X3_term_45 at h
  refine R.ist2n 46 dX3_term_45 rfl (Nat.le_of_ble_eq_true rfl) rfl ?_
  refine R.aload_n 47 dX3_term_46 rfl rfl ?_
  refine R.dupR 48 dX3_term_47 rfl ?_
  refine gf_70 51 dX3_term_48 rfl rfl ?_
  refine R.iconst 52 dX3_term_51 rfl ?_
  refine R.iadd 53 dX3_term_52 rfl ?_
  replace h := h _ rfl
  refine pf_70 _ 56 dX3_term_53 rfl rfl ?_
  refine R.aload_n 57 dX3_term_56 rfl rfl ?_
  refine Rch.callv (sd_X3_atom (dP := dP) (by omega) Psum hPsum _ _ h) dX3_term_57 (lw_V q1524 q1526 qs98 q146 q1527) dk_X3_atom rcM (by omega) (Nat.le_of_ble_eq_true rfl) rfl rfl (Nat.le_of_ble_eq_true rfl) (kI 60 rfl fun r2 w3 h => ?_) kN
  refine R.i2l 61 dX3_term_60 rfl ?_
  refine R.lst3n 62 dX3_term_61 rfl (Nat.le_of_ble_eq_true rfl) rfl ?_
  refine R.iload_n 63 dX3_term_62 rfl rfl ?_
  refine R.if_eq 73 66 dX3_term_63 (by decide) rfl (fun hc => ?_) (fun hc => ?_)
  · replace h := h.1 hc
    refine R.lload_n 74 dX3_term_73 rfl rfl ?_
    refine R.lconst (m0 := 0) 75 dX3_term_74 rfl (by decide +kernel) ?_
    refine R.lcmp 76 dX3_term_75 rfl ?_
    refine R.if_ne 83 79 dX3_term_76 (by decide) rfl (fun hc => ?_) (fun hc => ?_)
    · replace h := h.1 hc
      refine R.iload_n 84 dX3_term_83 rfl rfl ?_
      refine R.i2l 85 dX3_term_84 rfl ?_
      refine R.lload_n 86 dX3_term_85 rfl rfl ?_
      obtain ⟨hz, h⟩ := h
      refine R.ldiv 87 dX3_term_86 rfl hz ?_
      refine Rch.calls (sd_X3_within _ _ _ h) dX3_term_87 (lw_S q1532 q1533 q146 q1534) dk_X3_within (by omega) (Nat.le_of_ble_eq_true rfl) rfl rfl (Nat.le_of_ble_eq_true rfl) (kI 90 rfl fun r4 w5 h => ?_) kN
      refine R.ist1n 91 dX3_term_90 rfl (Nat.le_of_ble_eq_true rfl) rfl ?_
      refine R.goto 5 dX3_term_91 (by decide) ?_
      exact Rch.dropk (hR5 _ _ h) ⟨rfl, ⟨rfl, trivial⟩⟩
    · replace h := h.2 hc
      refine R.lconst (m0 := 0) 80 dX3_term_79 rfl (by decide +kernel) ?_
      refine R.goto 87 dX3_term_80 (by decide) ?_
      refine Rch.calls (sd_X3_within _ _ _ h) dX3_term_87 (lw_S q1532 q1533 q146 q1534) dk_X3_within (by omega) (Nat.le_of_ble_eq_true rfl) rfl rfl (Nat.le_of_ble_eq_true rfl) (kI 90 rfl fun r6 w7 h => ?_) kN
      refine R.ist1n 91 dX3_term_90 rfl (Nat.le_of_ble_eq_true rfl) rfl ?_
      refine R.goto 5 dX3_term_91 (by decide) ?_
      exact Rch.dropk (hR5 _ _ h) ⟨rfl, ⟨rfl, trivial⟩⟩
  · replace h := h.2 hc
    refine R.iload_n 67 dX3_term_66 rfl rfl ?_
    refine R.i2l 68 dX3_term_67 rfl ?_
    refine R.lload_n 69 dX3_term_68 rfl rfl ?_
    refine R.lmul 70 dX3_term_69 rfl ?_
    refine R.goto 87 dX3_term_70 (by decide) ?_
    refine Rch.calls (sd_X3_within _ _ _ h) dX3_term_87 (lw_S q1532 q1533 q146 q1534) dk_X3_within (by omega) (Nat.le_of_ble_eq_true rfl) rfl rfl (Nat.le_of_ble_eq_true rfl) (kI 90 rfl fun r8 w9 h => ?_) kN
    refine R.ist1n 91 dX3_term_90 rfl (Nat.le_of_ble_eq_true rfl) rfl ?_
    refine R.goto 5 dX3_term_91 (by decide) ?_
    exact Rch.dropk (hR5 _ _ h) ⟨rfl, ⟨rfl, trivial⟩⟩
set_option maxRecDepth 100000 in
set_option maxHeartbeats 4000000 in
theorem s_X3_term_31 {γ : GG} {dP : Nat} (hB : 5 ≤ dP) (Psum : Wd → (Int32 → Wd → Prop) → Prop) (hPsum : ∀ (w : Wd) (Q : Int32 → Wd → Prop) , Psum w Q → Ctr γ dP yX3_sum (ws_ yX3_sum cX3_sum 5 (some .int)) [.ref 2] w (qI Q) xN) (Q : Int32 → Wd → Prop) (R5 : Int32 → Wd → Prop) (l1 : Int32) (hR5 : ∀ (l1 : Int32) (w : Wd), R5 l1 w → Rch γ (dP + 2) k_X3_term 5 [some (.ref 2), some (.int l1), none, none, none] [] w (qI Q) xN) : ∀ (w : Wd), b_X3_term_31 Psum Q R5 l1 w → Rch γ (dP + 2) k_X3_term 31 [some (.ref 2), some (.int l1), none, none, none] [] w (qI Q) xN := by
  intro w h
  unfold b_X3_term_31 at h
  refine R.aload_n 32 dX3_term_31 rfl rfl ?_
  refine Rch.callv (sd_X3_look _ _ h) dX3_term_32 (lw_V q1444 q1446 qs83 q146 q1447) dk_X3_look rcM (by omega) (Nat.le_of_ble_eq_true rfl) rfl rfl (Nat.le_of_ble_eq_true rfl) (kI 35 rfl fun r1 w2 h => ?_) kN
  refine R.bipush 37 dX3_term_35 rfl (by decide +kernel) ?_
  refine R.icmp_ne 44 40 dX3_term_37 (by decide) rfl (fun hc => ?_) (fun hc => ?_)
  · replace h := h.1 hc
    refine R.iconst 45 dX3_term_44 rfl ?_
    exact Rch.dropk (s_X3_term_45 hB Psum hPsum Q _ _ _ hR5 _ h) ⟨rfl, ⟨rfl, trivial⟩⟩
  · replace h := h.2 hc
    refine R.iconst 41 dX3_term_40 rfl ?_
    refine R.goto 45 dX3_term_41 (by decide) ?_
    exact Rch.dropk (s_X3_term_45 hB Psum hPsum Q _ _ _ hR5 _ h) ⟨rfl, ⟨rfl, trivial⟩⟩
set_option maxRecDepth 100000 in
set_option maxHeartbeats 4000000 in
theorem sl_X3_term_5 {γ : GG} {dP : Nat} (hB : 5 ≤ dP) (Psum : Wd → (Int32 → Wd → Prop) → Prop) (hPsum : ∀ (w : Wd) (Q : Int32 → Wd → Prop) , Psum w Q → Ctr γ dP yX3_sum (ws_ yX3_sum cX3_sum 5 (some .int)) [.ref 2] w (qI Q) xN) (Q : Int32 → Wd → Prop) : ∀ (n : Nat) (l1 : Int32) (w : Wd), lp_X3_term_5 Psum Q n l1 w → Rch γ (dP + 2) k_X3_term 5 [some (.ref 2), some (.int l1), none, none, none] [] w (qI Q) xN := by
  intro n
  induction n with
  | zero => intro _ _ h; exact h.elim
  | succ n hR5 =>
    intro l1 w h
    have h : wl_X3_term_5 Psum Q (lp_X3_term_5 Psum Q n) l1 w := h
    unfold wl_X3_term_5 at h
    refine R.aload_n 6 dX3_term_5 rfl rfl ?_
    refine gf_71 9 dX3_term_6 rfl rfl ?_
    refine R.iconst 10 dX3_term_9 rfl ?_
    refine R.icmp_ne 94 13 dX3_term_10 (by decide) rfl (fun hc => ?_) (fun hc => ?_)
    · replace h := h.1 hc
      refine R.iload_n 95 dX3_term_94 rfl rfl ?_
      exact R.retI dX3_term_95 rfl h
    · replace h := h.2 hc
      refine R.aload_n 14 dX3_term_13 rfl rfl ?_
      refine Rch.callv (sd_X3_look _ _ h) dX3_term_14 (lw_V q1444 q1446 qs83 q146 q1447) dk_X3_look rcM (by omega) (Nat.le_of_ble_eq_true rfl) rfl rfl (Nat.le_of_ble_eq_true rfl) (kI 17 rfl fun r1 w2 h => ?_) kN
      refine R.bipush 19 dX3_term_17 rfl (by decide +kernel) ?_
      refine R.icmp_eq 31 22 dX3_term_19 (by decide) rfl (fun hc => ?_) (fun hc => ?_)
      · replace h := h.1 hc
        exact Rch.dropk (s_X3_term_31 hB Psum hPsum Q _ _ hR5 _ h) ⟨rfl, ⟨rfl, trivial⟩⟩
      · replace h := h.2 hc
        refine R.aload_n 23 dX3_term_22 rfl rfl ?_
        refine Rch.callv (sd_X3_look _ _ h) dX3_term_23 (lw_V q1444 q1446 qs83 q146 q1447) dk_X3_look rcM (by omega) (Nat.le_of_ble_eq_true rfl) rfl rfl (Nat.le_of_ble_eq_true rfl) (kI 26 rfl fun r3 w4 h => ?_) kN
        refine R.bipush 28 dX3_term_26 rfl (by decide +kernel) ?_
        refine R.icmp_ne 94 31 dX3_term_28 (by decide) rfl (fun hc => ?_) (fun hc => ?_)
        · replace h := h.1 hc
          refine R.iload_n 95 dX3_term_94 rfl rfl ?_
          exact R.retI dX3_term_95 rfl h
        · replace h := h.2 hc
          exact Rch.dropk (s_X3_term_31 hB Psum hPsum Q _ _ hR5 _ h) ⟨rfl, ⟨rfl, trivial⟩⟩
set_option maxRecDepth 100000 in
set_option maxHeartbeats 4000000 in
theorem sd_X3_term {γ : GG} {dP : Nat} (hB : 5 ≤ dP) (Psum : Wd → (Int32 → Wd → Prop) → Prop) (hPsum : ∀ (w : Wd) (Q : Int32 → Wd → Prop) , Psum w Q → Ctr γ dP yX3_sum (ws_ yX3_sum cX3_sum 5 (some .int)) [.ref 2] w (qI Q) xN) (w : Wd) (Q : Int32 → Wd → Prop) : wp_X3_term Psum w Q → Ctr γ (dP + 2) yX3_term (ws_ yX3_term cX3_term 5 (some .int)) [.ref 2] w (qI Q) xN := by
  intro h
  unfold wp_X3_term at h
  refine Ctr.of (μ := k_X3_term) (by decide) rfl rfl rfl (Nat.le_of_ble_eq_true rfl) ⟨4, ?_⟩
  have es : lva [.ref 2] ++ List.replicate 4 none = [some (.ref 2), none, none, none, none] := rfl
  rw [es]
  refine R.aload_n 1 dX3_term_0 rfl rfl ?_
  refine Rch.callv (sd_X3_atom (dP := dP) (by omega) Psum hPsum _ _ h) dX3_term_1 (lw_V q1524 q1526 qs98 q146 q1527) dk_X3_atom rcM (by omega) (Nat.le_of_ble_eq_true rfl) rfl rfl (Nat.le_of_ble_eq_true rfl) (kI 4 rfl fun r1 w2 h => ?_) kN
  refine R.ist1n 5 dX3_term_4 rfl (Nat.le_of_ble_eq_true rfl) rfl ?_
  obtain ⟨n3, h⟩ := h
  exact Rch.dropk (sl_X3_term_5 hB Psum hPsum Q n3 _ _ h) ⟨rfl, ⟨rfl, trivial⟩⟩

abbrev k_X3_sum : MK := ("FrostBoxModel", cX3_sum, 5, (some .int), [], "sum")
def b_X3_sum_45 (Psum : Wd → (Int32 → Wd → Prop) → Prop) (Q : Int32 → Wd → Prop) (R5 : Int32 → Wd → Prop) (l1 : Int32) (t0 : Int32) (w : Wd) : Prop := ∀ w1, w1 = sI w 70 ((gI w 70) + (iz 1)) → wp_X3_term Psum w1 (fun r2 w3 => (t0 = iz 0 → wp_X3_within ((l1).toInt64 - (r2).toInt64) w3 (fun r4 w5 => R5 r4 w5)) ∧ (¬ t0 = iz 0 → wp_X3_within ((l1).toInt64 + (r2).toInt64) w3 (fun r6 w7 => R5 r6 w7)))
def b_X3_sum_31 (Psum : Wd → (Int32 → Wd → Prop) → Prop) (Q : Int32 → Wd → Prop) (R5 : Int32 → Wd → Prop) (l1 : Int32) (w : Wd) : Prop := wp_X3_look w (fun r1 w2 => (¬ r1 = (iz 43) → b_X3_sum_45 Psum Q R5 l1 (iz 0) w2) ∧ (r1 = (iz 43) → b_X3_sum_45 Psum Q R5 l1 (iz 1) w2))
def wl_X3_sum_5 (Psum : Wd → (Int32 → Wd → Prop) → Prop) (Q : Int32 → Wd → Prop) (R5 : Int32 → Wd → Prop) (l1 : Int32) (w : Wd) : Prop := (¬ (gI w 71) = (iz (-1)) → Q l1 w) ∧ ((gI w 71) = (iz (-1)) → wp_X3_look w (fun r1 w2 => (r1 = (iz 43) → b_X3_sum_31 Psum Q R5 l1 w2) ∧ (¬ r1 = (iz 43) → wp_X3_look w2 (fun r3 w4 => (¬ r3 = (iz 45) → Q l1 w4) ∧ (r3 = (iz 45) → b_X3_sum_31 Psum Q R5 l1 w4)))))
def lp_X3_sum_5 (Psum : Wd → (Int32 → Wd → Prop) → Prop) (Q : Int32 → Wd → Prop) : Nat → Int32 → Wd → Prop
  | 0, _, _ => False
  | n + 1, l1, w => wl_X3_sum_5 Psum Q (lp_X3_sum_5 Psum Q n) l1 w
def wp_X3_sum (Psum : Wd → (Int32 → Wd → Prop) → Prop) (w : Wd) (Q : Int32 → Wd → Prop) : Prop := wp_X3_term Psum w (fun r1 w2 => ∃ n3, lp_X3_sum_5 Psum Q n3 r1 w2)
set_option maxRecDepth 100000 in
set_option maxHeartbeats 4000000 in
theorem s_X3_sum_45 {γ : GG} {dP : Nat} (hB : 5 ≤ dP) (Psum : Wd → (Int32 → Wd → Prop) → Prop) (hPsum : ∀ (w : Wd) (Q : Int32 → Wd → Prop) , Psum w Q → Ctr γ dP yX3_sum (ws_ yX3_sum cX3_sum 5 (some .int)) [.ref 2] w (qI Q) xN) (Q : Int32 → Wd → Prop) (R5 : Int32 → Wd → Prop) (l1 : Int32) (t0 : Int32) (hR5 : ∀ (l1 : Int32) (w : Wd), R5 l1 w → Rch γ (dP + 3) k_X3_sum 5 [some (.ref 2), some (.int l1), none, none, none] [] w (qI Q) xN) : ∀ (w : Wd), b_X3_sum_45 Psum Q R5 l1 t0 w → Rch γ (dP + 3) k_X3_sum 45 [some (.ref 2), some (.int l1), none, none, none] [.int t0] w (qI Q) xN := by
  intro w h
  unfold b_X3_sum_45 at h
  refine R.ist2n 46 dX3_sum_45 rfl (Nat.le_of_ble_eq_true rfl) rfl ?_
  refine R.aload_n 47 dX3_sum_46 rfl rfl ?_
  refine R.dupR 48 dX3_sum_47 rfl ?_
  refine gf_70 51 dX3_sum_48 rfl rfl ?_
  refine R.iconst 52 dX3_sum_51 rfl ?_
  refine R.iadd 53 dX3_sum_52 rfl ?_
  replace h := h _ rfl
  refine pf_70 _ 56 dX3_sum_53 rfl rfl ?_
  refine R.aload_n 57 dX3_sum_56 rfl rfl ?_
  refine Rch.callv (sd_X3_term (dP := dP) (by omega) Psum hPsum _ _ h) dX3_sum_57 (lw_V q1520 q1522 qs97 q146 q1523) dk_X3_term rcM (by omega) (Nat.le_of_ble_eq_true rfl) rfl rfl (Nat.le_of_ble_eq_true rfl) (kI 60 rfl fun r2 w3 h => ?_) kN
  refine R.i2l 61 dX3_sum_60 rfl ?_
  refine R.lst3n 62 dX3_sum_61 rfl (Nat.le_of_ble_eq_true rfl) rfl ?_
  refine R.iload_n 63 dX3_sum_62 rfl rfl ?_
  refine R.if_eq 73 66 dX3_sum_63 (by decide) rfl (fun hc => ?_) (fun hc => ?_)
  · replace h := h.1 hc
    refine R.iload_n 74 dX3_sum_73 rfl rfl ?_
    refine R.i2l 75 dX3_sum_74 rfl ?_
    refine R.lload_n 76 dX3_sum_75 rfl rfl ?_
    refine R.lsub 77 dX3_sum_76 rfl ?_
    refine Rch.calls (sd_X3_within _ _ _ h) dX3_sum_77 (lw_S q1532 q1533 q146 q1534) dk_X3_within (by omega) (Nat.le_of_ble_eq_true rfl) rfl rfl (Nat.le_of_ble_eq_true rfl) (kI 80 rfl fun r4 w5 h => ?_) kN
    refine R.ist1n 81 dX3_sum_80 rfl (Nat.le_of_ble_eq_true rfl) rfl ?_
    refine R.goto 5 dX3_sum_81 (by decide) ?_
    exact Rch.dropk (hR5 _ _ h) ⟨rfl, ⟨rfl, trivial⟩⟩
  · replace h := h.2 hc
    refine R.iload_n 67 dX3_sum_66 rfl rfl ?_
    refine R.i2l 68 dX3_sum_67 rfl ?_
    refine R.lload_n 69 dX3_sum_68 rfl rfl ?_
    refine R.ladd 70 dX3_sum_69 rfl ?_
    refine R.goto 77 dX3_sum_70 (by decide) ?_
    refine Rch.calls (sd_X3_within _ _ _ h) dX3_sum_77 (lw_S q1532 q1533 q146 q1534) dk_X3_within (by omega) (Nat.le_of_ble_eq_true rfl) rfl rfl (Nat.le_of_ble_eq_true rfl) (kI 80 rfl fun r6 w7 h => ?_) kN
    refine R.ist1n 81 dX3_sum_80 rfl (Nat.le_of_ble_eq_true rfl) rfl ?_
    refine R.goto 5 dX3_sum_81 (by decide) ?_
    exact Rch.dropk (hR5 _ _ h) ⟨rfl, ⟨rfl, trivial⟩⟩
set_option maxRecDepth 100000 in
set_option maxHeartbeats 4000000 in
theorem s_X3_sum_31 {γ : GG} {dP : Nat} (hB : 5 ≤ dP) (Psum : Wd → (Int32 → Wd → Prop) → Prop) (hPsum : ∀ (w : Wd) (Q : Int32 → Wd → Prop) , Psum w Q → Ctr γ dP yX3_sum (ws_ yX3_sum cX3_sum 5 (some .int)) [.ref 2] w (qI Q) xN) (Q : Int32 → Wd → Prop) (R5 : Int32 → Wd → Prop) (l1 : Int32) (hR5 : ∀ (l1 : Int32) (w : Wd), R5 l1 w → Rch γ (dP + 3) k_X3_sum 5 [some (.ref 2), some (.int l1), none, none, none] [] w (qI Q) xN) : ∀ (w : Wd), b_X3_sum_31 Psum Q R5 l1 w → Rch γ (dP + 3) k_X3_sum 31 [some (.ref 2), some (.int l1), none, none, none] [] w (qI Q) xN := by
  intro w h
  unfold b_X3_sum_31 at h
  refine R.aload_n 32 dX3_sum_31 rfl rfl ?_
  refine Rch.callv (sd_X3_look _ _ h) dX3_sum_32 (lw_V q1444 q1446 qs83 q146 q1447) dk_X3_look rcM (by omega) (Nat.le_of_ble_eq_true rfl) rfl rfl (Nat.le_of_ble_eq_true rfl) (kI 35 rfl fun r1 w2 h => ?_) kN
  refine R.bipush 37 dX3_sum_35 rfl (by decide +kernel) ?_
  refine R.icmp_ne 44 40 dX3_sum_37 (by decide) rfl (fun hc => ?_) (fun hc => ?_)
  · replace h := h.1 hc
    refine R.iconst 45 dX3_sum_44 rfl ?_
    exact Rch.dropk (s_X3_sum_45 hB Psum hPsum Q _ _ _ hR5 _ h) ⟨rfl, ⟨rfl, trivial⟩⟩
  · replace h := h.2 hc
    refine R.iconst 41 dX3_sum_40 rfl ?_
    refine R.goto 45 dX3_sum_41 (by decide) ?_
    exact Rch.dropk (s_X3_sum_45 hB Psum hPsum Q _ _ _ hR5 _ h) ⟨rfl, ⟨rfl, trivial⟩⟩
set_option maxRecDepth 100000 in
set_option maxHeartbeats 4000000 in
theorem sl_X3_sum_5 {γ : GG} {dP : Nat} (hB : 5 ≤ dP) (Psum : Wd → (Int32 → Wd → Prop) → Prop) (hPsum : ∀ (w : Wd) (Q : Int32 → Wd → Prop) , Psum w Q → Ctr γ dP yX3_sum (ws_ yX3_sum cX3_sum 5 (some .int)) [.ref 2] w (qI Q) xN) (Q : Int32 → Wd → Prop) : ∀ (n : Nat) (l1 : Int32) (w : Wd), lp_X3_sum_5 Psum Q n l1 w → Rch γ (dP + 3) k_X3_sum 5 [some (.ref 2), some (.int l1), none, none, none] [] w (qI Q) xN := by
  intro n
  induction n with
  | zero => intro _ _ h; exact h.elim
  | succ n hR5 =>
    intro l1 w h
    have h : wl_X3_sum_5 Psum Q (lp_X3_sum_5 Psum Q n) l1 w := h
    unfold wl_X3_sum_5 at h
    refine R.aload_n 6 dX3_sum_5 rfl rfl ?_
    refine gf_71 9 dX3_sum_6 rfl rfl ?_
    refine R.iconst 10 dX3_sum_9 rfl ?_
    refine R.icmp_ne 84 13 dX3_sum_10 (by decide) rfl (fun hc => ?_) (fun hc => ?_)
    · replace h := h.1 hc
      refine R.iload_n 85 dX3_sum_84 rfl rfl ?_
      exact R.retI dX3_sum_85 rfl h
    · replace h := h.2 hc
      refine R.aload_n 14 dX3_sum_13 rfl rfl ?_
      refine Rch.callv (sd_X3_look _ _ h) dX3_sum_14 (lw_V q1444 q1446 qs83 q146 q1447) dk_X3_look rcM (by omega) (Nat.le_of_ble_eq_true rfl) rfl rfl (Nat.le_of_ble_eq_true rfl) (kI 17 rfl fun r1 w2 h => ?_) kN
      refine R.bipush 19 dX3_sum_17 rfl (by decide +kernel) ?_
      refine R.icmp_eq 31 22 dX3_sum_19 (by decide) rfl (fun hc => ?_) (fun hc => ?_)
      · replace h := h.1 hc
        exact Rch.dropk (s_X3_sum_31 hB Psum hPsum Q _ _ hR5 _ h) ⟨rfl, ⟨rfl, trivial⟩⟩
      · replace h := h.2 hc
        refine R.aload_n 23 dX3_sum_22 rfl rfl ?_
        refine Rch.callv (sd_X3_look _ _ h) dX3_sum_23 (lw_V q1444 q1446 qs83 q146 q1447) dk_X3_look rcM (by omega) (Nat.le_of_ble_eq_true rfl) rfl rfl (Nat.le_of_ble_eq_true rfl) (kI 26 rfl fun r3 w4 h => ?_) kN
        refine R.bipush 28 dX3_sum_26 rfl (by decide +kernel) ?_
        refine R.icmp_ne 84 31 dX3_sum_28 (by decide) rfl (fun hc => ?_) (fun hc => ?_)
        · replace h := h.1 hc
          refine R.iload_n 85 dX3_sum_84 rfl rfl ?_
          exact R.retI dX3_sum_85 rfl h
        · replace h := h.2 hc
          exact Rch.dropk (s_X3_sum_31 hB Psum hPsum Q _ _ hR5 _ h) ⟨rfl, ⟨rfl, trivial⟩⟩
set_option maxRecDepth 100000 in
set_option maxHeartbeats 4000000 in
theorem sd_X3_sum {γ : GG} {dP : Nat} (hB : 5 ≤ dP) (Psum : Wd → (Int32 → Wd → Prop) → Prop) (hPsum : ∀ (w : Wd) (Q : Int32 → Wd → Prop) , Psum w Q → Ctr γ dP yX3_sum (ws_ yX3_sum cX3_sum 5 (some .int)) [.ref 2] w (qI Q) xN) (w : Wd) (Q : Int32 → Wd → Prop) : wp_X3_sum Psum w Q → Ctr γ (dP + 3) yX3_sum (ws_ yX3_sum cX3_sum 5 (some .int)) [.ref 2] w (qI Q) xN := by
  intro h
  unfold wp_X3_sum at h
  refine Ctr.of (μ := k_X3_sum) (by decide) rfl rfl rfl (Nat.le_of_ble_eq_true rfl) ⟨4, ?_⟩
  have es : lva [.ref 2] ++ List.replicate 4 none = [some (.ref 2), none, none, none, none] := rfl
  rw [es]
  refine R.aload_n 1 dX3_sum_0 rfl rfl ?_
  refine Rch.callv (sd_X3_term (dP := dP) (by omega) Psum hPsum _ _ h) dX3_sum_1 (lw_V q1520 q1522 qs97 q146 q1523) dk_X3_term rcM (by omega) (Nat.le_of_ble_eq_true rfl) rfl rfl (Nat.le_of_ble_eq_true rfl) (kI 4 rfl fun r1 w2 h => ?_) kN
  refine R.ist1n 5 dX3_sum_4 rfl (Nat.le_of_ble_eq_true rfl) rfl ?_
  obtain ⟨n3, h⟩ := h
  exact Rch.dropk (sl_X3_sum_5 hB Psum hPsum Q n3 _ _ h) ⟨rfl, ⟨rfl, trivial⟩⟩

def pf_X3_sum : Nat → Wd → (Int32 → Wd → Prop) → Prop
  | 0 => fun _ _ => False
  | n + 1 => wp_X3_sum (pf_X3_sum n)
theorem sfn_X3_sum {γ : GG} : ∀ (n : Nat) (w : Wd) (Q : Int32 → Wd → Prop) , pf_X3_sum n w Q → Ctr γ (5 + 3 * n) yX3_sum (ws_ yX3_sum cX3_sum 5 (some .int)) [.ref 2] w (qI Q) xN
  | 0, _, _, h => h.elim
  | n + 1, _, _, h => sd_X3_sum (dP := 5 + 3 * n) (by omega) (pf_X3_sum n) (sfn_X3_sum n) _ _ h
theorem sf_X3_sum {γ : GG} (n : Nat) (w : Wd) (Q : Int32 → Wd → Prop) (h : pf_X3_sum n w Q) : Ctr γ (5 + 3 * n) yX3_sum (ws_ yX3_sum cX3_sum 5 (some .int)) [.ref 2] w (qI Q) xN := sfn_X3_sum n w Q h

abbrev k_X3_isSign : MK := ("FrostBoxModel", cX3_isSign, 1, (some .boolean), [], "isSign")
def wp_X3_isSign (l0 : Int32) (w : Wd) (Q : Int32 → Wd → Prop) : Prop := (l0 = (iz 61) → Q (iz 1) w) ∧ (¬ l0 = (iz 61) → (l0 = (iz 60) → Q (iz 1) w) ∧ (¬ l0 = (iz 60) → (¬ l0 = (iz 62) → Q (iz 0) w) ∧ (l0 = (iz 62) → Q (iz 1) w)))
set_option maxRecDepth 100000 in
set_option maxHeartbeats 4000000 in
theorem sd_X3_isSign {γ : GG} (l0 : Int32) (w : Wd) (Q : Int32 → Wd → Prop) : wp_X3_isSign l0 w Q → Ctr γ 1 yX3_isSign (ws_ yX3_isSign cX3_isSign 1 (some .boolean)) [.int l0] w (qI Q) xN := by
  intro h
  unfold wp_X3_isSign at h
  refine Ctr.of (μ := k_X3_isSign) (by decide) rfl rfl rfl (Nat.le_of_ble_eq_true rfl) ⟨0, ?_⟩
  have es : lva [.int l0] ++ List.replicate 0 none = [some (.int l0)] := rfl
  rw [es]
  refine R.iload_n 1 dX3_isSign_0 rfl rfl ?_
  refine R.bipush 3 dX3_isSign_1 rfl (by decide +kernel) ?_
  refine R.icmp_eq 18 6 dX3_isSign_3 (by decide) rfl (fun hc => ?_) (fun hc => ?_)
  · replace h := h.1 hc
    refine R.iconst 19 dX3_isSign_18 rfl ?_
    refine R.goto 23 dX3_isSign_19 (by decide) ?_
    exact R.retZ dX3_isSign_23 rfl zok1 h
  · replace h := h.2 hc
    refine R.iload_n 7 dX3_isSign_6 rfl rfl ?_
    refine R.bipush 9 dX3_isSign_7 rfl (by decide +kernel) ?_
    refine R.icmp_eq 18 12 dX3_isSign_9 (by decide) rfl (fun hc => ?_) (fun hc => ?_)
    · replace h := h.1 hc
      refine R.iconst 19 dX3_isSign_18 rfl ?_
      refine R.goto 23 dX3_isSign_19 (by decide) ?_
      exact R.retZ dX3_isSign_23 rfl zok1 h
    · replace h := h.2 hc
      refine R.iload_n 13 dX3_isSign_12 rfl rfl ?_
      refine R.bipush 15 dX3_isSign_13 rfl (by decide +kernel) ?_
      refine R.icmp_ne 22 18 dX3_isSign_15 (by decide) rfl (fun hc => ?_) (fun hc => ?_)
      · replace h := h.1 hc
        refine R.iconst 23 dX3_isSign_22 rfl ?_
        exact R.retZ dX3_isSign_23 rfl zok0 h
      · replace h := h.2 hc
        refine R.iconst 19 dX3_isSign_18 rfl ?_
        refine R.goto 23 dX3_isSign_19 (by decide) ?_
        exact R.retZ dX3_isSign_23 rfl zok1 h

abbrev k_X3_compares : MK := ("FrostBoxModel", cX3_compares, 6, (some .boolean), [], "compares")
def b_X3_compares_12 (Q : Int32 → Wd → Prop) (t0 : Int32) (w : Wd) : Prop := ((gI w 71) = (iz (-1)) → wp_X3_look w (fun r1 w2 => wp_X3_isSign r1 w2 (fun r3 w4 => (¬ r3 = iz 0 → ∀ w5, w5 = sI w4 70 ((gI w4 70) + (iz 1)) → pf_X3_sum 10 w5 (fun r6 w7 => (¬ r1 = (iz 61) → (¬ r1 = (iz 60) → (t0 ≤ r6 → Q (iz 0) w7) ∧ (¬ t0 ≤ r6 → Q (iz 1) w7)) ∧ (r1 = (iz 60) → (r6 ≤ t0 → Q (iz 0) w7) ∧ (¬ r6 ≤ t0 → Q (iz 1) w7))) ∧ (r1 = (iz 61) → (¬ t0 = r6 → Q (iz 0) w7) ∧ (t0 = r6 → Q (iz 1) w7)))) ∧ (r3 = iz 0 → wp_X3_fails w4 (fun r8 w9 => zok r8 ∧ Q r8 w9))))) ∧ (¬ (gI w 71) = (iz (-1)) → Q (iz 0) w)
def wp_X3_compares (l1 : Int32) (l2 : Int32) (w : Wd) (Q : Int32 → Wd → Prop) : Prop := (l1 = iz 0 → pf_X3_sum 10 w (fun r1 w2 => b_X3_compares_12 Q r1 w2)) ∧ (¬ l1 = iz 0 → b_X3_compares_12 Q l2 w)
set_option maxRecDepth 100000 in
set_option maxHeartbeats 4000000 in
theorem s_X3_compares_12 {γ : GG} (Q : Int32 → Wd → Prop) (t0 : Int32) : ∀ (w : Wd), b_X3_compares_12 Q t0 w → Rch γ 36 k_X3_compares 12 [some (.ref 2), none, none, none, none, none] [.int t0] w (qI Q) xN := by
  intro w h
  unfold b_X3_compares_12 at h
  refine R.ist3n 13 dX3_compares_12 rfl (Nat.le_of_ble_eq_true rfl) rfl ?_
  refine R.aload_n 14 dX3_compares_13 rfl rfl ?_
  refine gf_71 17 dX3_compares_14 rfl rfl ?_
  refine R.iconst 18 dX3_compares_17 rfl ?_
  refine R.icmp_eq 23 21 dX3_compares_18 (by decide) rfl (fun hc => ?_) (fun hc => ?_)
  · replace h := h.1 hc
    refine R.aload_n 24 dX3_compares_23 rfl rfl ?_
    refine Rch.callv (sd_X3_look _ _ h) dX3_compares_24 (lw_V q1444 q1446 qs83 q146 q1447) dk_X3_look rcM (by decide) (Nat.le_of_ble_eq_true rfl) rfl rfl (Nat.le_of_ble_eq_true rfl) (kI 27 rfl fun r1 w2 h => ?_) kN
    refine R.ist4 29 dX3_compares_27 rfl (Nat.le_of_ble_eq_true rfl) rfl ?_
    refine R.iload 31 dX3_compares_29 rfl rfl ?_
    refine Rch.calls (sd_X3_isSign _ _ _ h) dX3_compares_31 (lw_S q1539 q1540 q146 q1541) dk_X3_isSign (by decide) (Nat.le_of_ble_eq_true rfl) rfl rfl (Nat.le_of_ble_eq_true rfl) (kI 34 rfl fun r3 w4 h => ?_) kN
    refine R.if_ne 42 37 dX3_compares_34 (by decide) rfl (fun hc => ?_) (fun hc => ?_)
    · replace h := h.1 hc
      refine R.aload_n 43 dX3_compares_42 rfl rfl ?_
      refine R.dupR 44 dX3_compares_43 rfl ?_
      refine gf_70 47 dX3_compares_44 rfl rfl ?_
      refine R.iconst 48 dX3_compares_47 rfl ?_
      refine R.iadd 49 dX3_compares_48 rfl ?_
      replace h := h _ rfl
      refine pf_70 _ 52 dX3_compares_49 rfl rfl ?_
      refine R.aload_n 53 dX3_compares_52 rfl rfl ?_
      refine Rch.callv (sf_X3_sum 10 _ _ h) dX3_compares_53 (lw_V q1516 q1518 qs96 q146 q1519) dk_X3_sum rcM (by decide) (Nat.le_of_ble_eq_true rfl) rfl rfl (Nat.le_of_ble_eq_true rfl) (kI 56 rfl fun r6 w7 h => ?_) kN
      refine R.ist5 58 dX3_compares_56 rfl (Nat.le_of_ble_eq_true rfl) rfl ?_
      refine R.iload 60 dX3_compares_58 rfl rfl ?_
      refine R.bipush 62 dX3_compares_60 rfl (by decide +kernel) ?_
      refine R.icmp_ne 79 65 dX3_compares_62 (by decide) rfl (fun hc => ?_) (fun hc => ?_)
      · replace h := h.1 hc
        refine R.iload 81 dX3_compares_79 rfl rfl ?_
        refine R.bipush 83 dX3_compares_81 rfl (by decide +kernel) ?_
        refine R.icmp_ne 100 86 dX3_compares_83 (by decide) rfl (fun hc => ?_) (fun hc => ?_)
        · replace h := h.1 hc
          refine R.iload_n 101 dX3_compares_100 rfl rfl ?_
          refine R.iload 103 dX3_compares_101 rfl rfl ?_
          refine R.icmp_le 110 106 dX3_compares_103 (by decide) rfl (fun hc => ?_) (fun hc => ?_)
          · replace h := h.1 hc
            refine R.iconst 111 dX3_compares_110 rfl ?_
            exact R.retZ dX3_compares_111 rfl zok0 h
          · replace h := h.2 hc
            refine R.iconst 107 dX3_compares_106 rfl ?_
            refine R.goto 111 dX3_compares_107 (by decide) ?_
            exact R.retZ dX3_compares_111 rfl zok1 h
        · replace h := h.2 hc
          refine R.iload_n 87 dX3_compares_86 rfl rfl ?_
          refine R.iload 89 dX3_compares_87 rfl rfl ?_
          refine R.icmp_ge 96 92 dX3_compares_89 (by decide) rfl (fun hc => ?_) (fun hc => ?_)
          · replace h := h.1 hc
            refine R.iconst 97 dX3_compares_96 rfl ?_
            refine R.goto 111 dX3_compares_97 (by decide) ?_
            exact R.retZ dX3_compares_111 rfl zok0 h
          · replace h := h.2 hc
            refine R.iconst 93 dX3_compares_92 rfl ?_
            refine R.goto 111 dX3_compares_93 (by decide) ?_
            exact R.retZ dX3_compares_111 rfl zok1 h
      · replace h := h.2 hc
        refine R.iload_n 66 dX3_compares_65 rfl rfl ?_
        refine R.iload 68 dX3_compares_66 rfl rfl ?_
        refine R.icmp_ne 75 71 dX3_compares_68 (by decide) rfl (fun hc => ?_) (fun hc => ?_)
        · replace h := h.1 hc
          refine R.iconst 76 dX3_compares_75 rfl ?_
          refine R.goto 111 dX3_compares_76 (by decide) ?_
          exact R.retZ dX3_compares_111 rfl zok0 h
        · replace h := h.2 hc
          refine R.iconst 72 dX3_compares_71 rfl ?_
          refine R.goto 111 dX3_compares_72 (by decide) ?_
          exact R.retZ dX3_compares_111 rfl zok1 h
    · replace h := h.2 hc
      refine R.aload_n 38 dX3_compares_37 rfl rfl ?_
      refine Rch.callv (sd_X3_fails _ _ h) dX3_compares_38 (lw_V q1448 q1450 qs84 q146 q1451) dk_X3_fails rcM (by decide) (Nat.le_of_ble_eq_true rfl) rfl rfl (Nat.le_of_ble_eq_true rfl) (kI 41 rfl fun r8 w9 h => ?_) kN
      exact R.retZ dX3_compares_41 rfl h.1 h.2
  · replace h := h.2 hc
    refine R.iconst 22 dX3_compares_21 rfl ?_
    exact R.retZ dX3_compares_22 rfl zok0 h
set_option maxRecDepth 100000 in
set_option maxHeartbeats 4000000 in
theorem sd_X3_compares {γ : GG} (l1 : Int32) (l2 : Int32) (w : Wd) (Q : Int32 → Wd → Prop) : wp_X3_compares l1 l2 w Q → Ctr γ 36 yX3_compares (ws_ yX3_compares cX3_compares 6 (some .boolean)) [.ref 2, .int l1, .int l2] w (qI Q) xN := by
  intro h
  unfold wp_X3_compares at h
  refine Ctr.of (μ := k_X3_compares) (by decide) rfl rfl rfl (Nat.le_of_ble_eq_true rfl) ⟨3, ?_⟩
  have es : lva [.ref 2, .int l1, .int l2] ++ List.replicate 3 none = [some (.ref 2), some (.int l1), some (.int l2), none, none, none] := rfl
  rw [es]
  refine R.iload_n 1 dX3_compares_0 rfl rfl ?_
  refine R.if_eq 8 4 dX3_compares_1 (by decide) rfl (fun hc => ?_) (fun hc => ?_)
  · replace h := h.1 hc
    refine R.aload_n 9 dX3_compares_8 rfl rfl ?_
    refine Rch.callv (sf_X3_sum 10 _ _ h) dX3_compares_9 (lw_V q1516 q1518 qs96 q146 q1519) dk_X3_sum rcM (by decide) (Nat.le_of_ble_eq_true rfl) rfl rfl (Nat.le_of_ble_eq_true rfl) (kI 12 rfl fun r1 w2 h => ?_) kN
    exact Rch.dropk (s_X3_compares_12 Q _ _ h) ⟨rfl, trivial⟩
  · replace h := h.2 hc
    refine R.iload_n 5 dX3_compares_4 rfl rfl ?_
    refine R.goto 12 dX3_compares_5 (by decide) ?_
    exact Rch.dropk (s_X3_compares_12 Q _ _ h) ⟨rfl, trivial⟩

abbrev k_X3_part : MK := ("FrostBoxModel", cX3_part, 5, (some .boolean), [], "part")
def wl_X3_part_18 (Punit : Wd → (Int32 → Wd → Prop) → Prop) (Q : Int32 → Wd → Prop) (R18 : Int32 → Wd → Prop) (l3 : Int32) (w : Wd) : Prop := (¬ (gI w 71) = (iz (-1)) → zok l3 ∧ Q l3 w) ∧ ((gI w 71) = (iz (-1)) → wp_X3_look w (fun r1 w2 => (¬ r1 = (iz 38) → zok l3 ∧ Q l3 w2) ∧ (r1 = (iz 38) → ∀ w3, w3 = sI w2 70 ((gI w2 70) + (iz 1)) → Punit w3 (fun r4 w5 => (l3 = iz 0 → R18 (iz 0) w5) ∧ (¬ l3 = iz 0 → (r4 = iz 0 → R18 (iz 0) w5) ∧ (¬ r4 = iz 0 → R18 (iz 1) w5))))))
def lp_X3_part_18 (Punit : Wd → (Int32 → Wd → Prop) → Prop) (Q : Int32 → Wd → Prop) : Nat → Int32 → Wd → Prop
  | 0, _, _ => False
  | n + 1, l3, w => wl_X3_part_18 Punit Q (lp_X3_part_18 Punit Q n) l3 w
def wp_X3_part (Punit : Wd → (Int32 → Wd → Prop) → Prop) (l1 : Int32) (l2 : Int32) (w : Wd) (Q : Int32 → Wd → Prop) : Prop := (l1 = iz 0 → Punit w (fun r1 w2 => ∃ n3, lp_X3_part_18 Punit Q n3 r1 w2)) ∧ (¬ l1 = iz 0 → wp_X3_compares (iz 1) l2 w (fun r4 w5 => ∃ n6, lp_X3_part_18 Punit Q n6 r4 w5))
set_option maxRecDepth 100000 in
set_option maxHeartbeats 4000000 in
theorem sl_X3_part_18 {γ : GG} {dP : Nat} (hB : 36 ≤ dP) (Punit : Wd → (Int32 → Wd → Prop) → Prop) (hPunit : ∀ (w : Wd) (Q : Int32 → Wd → Prop) , Punit w Q → Ctr γ dP yX3_unit (ws_ yX3_unit cX3_unit 3 (some .boolean)) [.ref 2] w (qI Q) xN) (Q : Int32 → Wd → Prop) : ∀ (n : Nat) (l3 : Int32) (w : Wd), lp_X3_part_18 Punit Q n l3 w → Rch γ (dP + 1) k_X3_part 18 [some (.ref 2), none, none, some (.int l3), none] [] w (qI Q) xN := by
  intro n
  induction n with
  | zero => intro _ _ h; exact h.elim
  | succ n hR18 =>
    intro l3 w h
    have h : wl_X3_part_18 Punit Q (lp_X3_part_18 Punit Q n) l3 w := h
    unfold wl_X3_part_18 at h
    refine R.aload_n 19 dX3_part_18 rfl rfl ?_
    refine gf_71 22 dX3_part_19 rfl rfl ?_
    refine R.iconst 23 dX3_part_22 rfl ?_
    refine R.icmp_ne 69 26 dX3_part_23 (by decide) rfl (fun hc => ?_) (fun hc => ?_)
    · replace h := h.1 hc
      refine R.iload_n 70 dX3_part_69 rfl rfl ?_
      exact R.retZ dX3_part_70 rfl h.1 h.2
    · replace h := h.2 hc
      refine R.aload_n 27 dX3_part_26 rfl rfl ?_
      refine Rch.callv (sd_X3_look _ _ h) dX3_part_27 (lw_V q1444 q1446 qs83 q146 q1447) dk_X3_look rcM (by omega) (Nat.le_of_ble_eq_true rfl) rfl rfl (Nat.le_of_ble_eq_true rfl) (kI 30 rfl fun r1 w2 h => ?_) kN
      refine R.bipush 32 dX3_part_30 rfl (by decide +kernel) ?_
      refine R.icmp_ne 69 35 dX3_part_32 (by decide) rfl (fun hc => ?_) (fun hc => ?_)
      · replace h := h.1 hc
        refine R.iload_n 70 dX3_part_69 rfl rfl ?_
        exact R.retZ dX3_part_70 rfl h.1 h.2
      · replace h := h.2 hc
        refine R.aload_n 36 dX3_part_35 rfl rfl ?_
        refine R.dupR 37 dX3_part_36 rfl ?_
        refine gf_70 40 dX3_part_37 rfl rfl ?_
        refine R.iconst 41 dX3_part_40 rfl ?_
        refine R.iadd 42 dX3_part_41 rfl ?_
        replace h := h _ rfl
        refine pf_70 _ 45 dX3_part_42 rfl rfl ?_
        refine R.aload_n 46 dX3_part_45 rfl rfl ?_
        refine Rch.callv (hPunit _ _ h) dX3_part_46 (lw_V q1542 q1544 qs100 q146 q1545) dk_X3_unit rcM (by omega) (Nat.le_of_ble_eq_true rfl) rfl rfl (Nat.le_of_ble_eq_true rfl) (kI 49 rfl fun r4 w5 h => ?_) kN
        refine R.ist4 51 dX3_part_49 rfl (Nat.le_of_ble_eq_true rfl) rfl ?_
        refine R.iload_n 52 dX3_part_51 rfl rfl ?_
        refine R.if_eq 64 55 dX3_part_52 (by decide) rfl (fun hc => ?_) (fun hc => ?_)
        · replace h := h.1 hc
          refine R.iconst 65 dX3_part_64 rfl ?_
          refine R.ist3n 66 dX3_part_65 rfl (Nat.le_of_ble_eq_true rfl) rfl ?_
          refine R.goto 18 dX3_part_66 (by decide) ?_
          exact Rch.dropk (hR18 _ _ h) ⟨rfl, ⟨rfl, trivial⟩⟩
        · replace h := h.2 hc
          refine R.iload 57 dX3_part_55 rfl rfl ?_
          refine R.if_eq 64 60 dX3_part_57 (by decide) rfl (fun hc => ?_) (fun hc => ?_)
          · replace h := h.1 hc
            refine R.iconst 65 dX3_part_64 rfl ?_
            refine R.ist3n 66 dX3_part_65 rfl (Nat.le_of_ble_eq_true rfl) rfl ?_
            refine R.goto 18 dX3_part_66 (by decide) ?_
            exact Rch.dropk (hR18 _ _ h) ⟨rfl, ⟨rfl, trivial⟩⟩
          · replace h := h.2 hc
            refine R.iconst 61 dX3_part_60 rfl ?_
            refine R.goto 65 dX3_part_61 (by decide) ?_
            refine R.ist3n 66 dX3_part_65 rfl (Nat.le_of_ble_eq_true rfl) rfl ?_
            refine R.goto 18 dX3_part_66 (by decide) ?_
            exact Rch.dropk (hR18 _ _ h) ⟨rfl, ⟨rfl, trivial⟩⟩
set_option maxRecDepth 100000 in
set_option maxHeartbeats 4000000 in
theorem sd_X3_part {γ : GG} {dP : Nat} (hB : 36 ≤ dP) (Punit : Wd → (Int32 → Wd → Prop) → Prop) (hPunit : ∀ (w : Wd) (Q : Int32 → Wd → Prop) , Punit w Q → Ctr γ dP yX3_unit (ws_ yX3_unit cX3_unit 3 (some .boolean)) [.ref 2] w (qI Q) xN) (l1 : Int32) (l2 : Int32) (w : Wd) (Q : Int32 → Wd → Prop) : wp_X3_part Punit l1 l2 w Q → Ctr γ (dP + 1) yX3_part (ws_ yX3_part cX3_part 5 (some .boolean)) [.ref 2, .int l1, .int l2] w (qI Q) xN := by
  intro h
  unfold wp_X3_part at h
  refine Ctr.of (μ := k_X3_part) (by decide) rfl rfl rfl (Nat.le_of_ble_eq_true rfl) ⟨2, ?_⟩
  have es : lva [.ref 2, .int l1, .int l2] ++ List.replicate 2 none = [some (.ref 2), some (.int l1), some (.int l2), none, none] := rfl
  rw [es]
  refine R.iload_n 1 dX3_part_0 rfl rfl ?_
  refine R.if_eq 13 4 dX3_part_1 (by decide) rfl (fun hc => ?_) (fun hc => ?_)
  · replace h := h.1 hc
    refine R.aload_n 14 dX3_part_13 rfl rfl ?_
    refine Rch.callv (hPunit _ _ h) dX3_part_14 (lw_V q1542 q1544 qs100 q146 q1545) dk_X3_unit rcM (by omega) (Nat.le_of_ble_eq_true rfl) rfl rfl (Nat.le_of_ble_eq_true rfl) (kI 17 rfl fun r1 w2 h => ?_) kN
    refine R.ist3n 18 dX3_part_17 rfl (Nat.le_of_ble_eq_true rfl) rfl ?_
    obtain ⟨n3, h⟩ := h
    exact Rch.dropk (sl_X3_part_18 hB Punit hPunit Q n3 _ _ h) ⟨rfl, ⟨rfl, trivial⟩⟩
  · replace h := h.2 hc
    refine R.aload_n 5 dX3_part_4 rfl rfl ?_
    refine R.iconst 6 dX3_part_5 rfl ?_
    refine R.iload_n 7 dX3_part_6 rfl rfl ?_
    refine Rch.callv (sd_X3_compares _ _ _ _ h) dX3_part_7 (lw_V q1512 q1514 qs95 q146 q1515) dk_X3_compares rcM (by omega) (Nat.le_of_ble_eq_true rfl) rfl rfl (Nat.le_of_ble_eq_true rfl) (kI 10 rfl fun r4 w5 h => ?_) kN
    refine R.goto 17 dX3_part_10 (by decide) ?_
    refine R.ist3n 18 dX3_part_17 rfl (Nat.le_of_ble_eq_true rfl) rfl ?_
    obtain ⟨n6, h⟩ := h
    exact Rch.dropk (sl_X3_part_18 hB Punit hPunit Q n6 _ _ h) ⟨rfl, ⟨rfl, trivial⟩⟩

abbrev k_X3_condition : MK := ("FrostBoxModel", cX3_condition, 5, (some .boolean), [], "condition")
def wl_X3_condition_7 (Punit : Wd → (Int32 → Wd → Prop) → Prop) (Q : Int32 → Wd → Prop) (R7 : Int32 → Wd → Prop) (l3 : Int32) (w : Wd) : Prop := (¬ (gI w 71) = (iz (-1)) → zok l3 ∧ Q l3 w) ∧ ((gI w 71) = (iz (-1)) → wp_X3_look w (fun r1 w2 => (¬ r1 = (iz 124) → zok l3 ∧ Q l3 w2) ∧ (r1 = (iz 124) → ∀ w3, w3 = sI w2 70 ((gI w2 70) + (iz 1)) → wp_X3_part Punit (iz 0) (iz 0) w3 (fun r4 w5 => (¬ l3 = iz 0 → R7 (iz 1) w5) ∧ (l3 = iz 0 → (r4 = iz 0 → R7 (iz 0) w5) ∧ (¬ r4 = iz 0 → R7 (iz 1) w5))))))
def lp_X3_condition_7 (Punit : Wd → (Int32 → Wd → Prop) → Prop) (Q : Int32 → Wd → Prop) : Nat → Int32 → Wd → Prop
  | 0, _, _ => False
  | n + 1, l3, w => wl_X3_condition_7 Punit Q (lp_X3_condition_7 Punit Q n) l3 w
def wp_X3_condition (Punit : Wd → (Int32 → Wd → Prop) → Prop) (l1 : Int32) (l2 : Int32) (w : Wd) (Q : Int32 → Wd → Prop) : Prop := wp_X3_part Punit l1 l2 w (fun r1 w2 => ∃ n3, lp_X3_condition_7 Punit Q n3 r1 w2)
set_option maxRecDepth 100000 in
set_option maxHeartbeats 4000000 in
theorem sl_X3_condition_7 {γ : GG} {dP : Nat} (hB : 36 ≤ dP) (Punit : Wd → (Int32 → Wd → Prop) → Prop) (hPunit : ∀ (w : Wd) (Q : Int32 → Wd → Prop) , Punit w Q → Ctr γ dP yX3_unit (ws_ yX3_unit cX3_unit 3 (some .boolean)) [.ref 2] w (qI Q) xN) (Q : Int32 → Wd → Prop) : ∀ (n : Nat) (l3 : Int32) (w : Wd), lp_X3_condition_7 Punit Q n l3 w → Rch γ (dP + 2) k_X3_condition 7 [some (.ref 2), none, none, some (.int l3), none] [] w (qI Q) xN := by
  intro n
  induction n with
  | zero => intro _ _ h; exact h.elim
  | succ n hR7 =>
    intro l3 w h
    have h : wl_X3_condition_7 Punit Q (lp_X3_condition_7 Punit Q n) l3 w := h
    unfold wl_X3_condition_7 at h
    refine R.aload_n 8 dX3_condition_7 rfl rfl ?_
    refine gf_71 11 dX3_condition_8 rfl rfl ?_
    refine R.iconst 12 dX3_condition_11 rfl ?_
    refine R.icmp_ne 60 15 dX3_condition_12 (by decide) rfl (fun hc => ?_) (fun hc => ?_)
    · replace h := h.1 hc
      refine R.iload_n 61 dX3_condition_60 rfl rfl ?_
      exact R.retZ dX3_condition_61 rfl h.1 h.2
    · replace h := h.2 hc
      refine R.aload_n 16 dX3_condition_15 rfl rfl ?_
      refine Rch.callv (sd_X3_look _ _ h) dX3_condition_16 (lw_V q1444 q1446 qs83 q146 q1447) dk_X3_look rcM (by omega) (Nat.le_of_ble_eq_true rfl) rfl rfl (Nat.le_of_ble_eq_true rfl) (kI 19 rfl fun r1 w2 h => ?_) kN
      refine R.bipush 21 dX3_condition_19 rfl (by decide +kernel) ?_
      refine R.icmp_ne 60 24 dX3_condition_21 (by decide) rfl (fun hc => ?_) (fun hc => ?_)
      · replace h := h.1 hc
        refine R.iload_n 61 dX3_condition_60 rfl rfl ?_
        exact R.retZ dX3_condition_61 rfl h.1 h.2
      · replace h := h.2 hc
        refine R.aload_n 25 dX3_condition_24 rfl rfl ?_
        refine R.dupR 26 dX3_condition_25 rfl ?_
        refine gf_70 29 dX3_condition_26 rfl rfl ?_
        refine R.iconst 30 dX3_condition_29 rfl ?_
        refine R.iadd 31 dX3_condition_30 rfl ?_
        replace h := h _ rfl
        refine pf_70 _ 34 dX3_condition_31 rfl rfl ?_
        refine R.aload_n 35 dX3_condition_34 rfl rfl ?_
        refine R.iconst 36 dX3_condition_35 rfl ?_
        refine R.iconst 37 dX3_condition_36 rfl ?_
        refine Rch.callv (sd_X3_part (dP := dP) (by omega) Punit hPunit _ _ _ _ h) dX3_condition_37 (lw_V q1508 q1510 qs94 q146 q1511) dk_X3_part rcM (by omega) (Nat.le_of_ble_eq_true rfl) rfl rfl (Nat.le_of_ble_eq_true rfl) (kI 40 rfl fun r4 w5 h => ?_) kN
        refine R.ist4 42 dX3_condition_40 rfl (Nat.le_of_ble_eq_true rfl) rfl ?_
        refine R.iload_n 43 dX3_condition_42 rfl rfl ?_
        refine R.if_ne 51 46 dX3_condition_43 (by decide) rfl (fun hc => ?_) (fun hc => ?_)
        · replace h := h.1 hc
          refine R.iconst 52 dX3_condition_51 rfl ?_
          refine R.goto 56 dX3_condition_52 (by decide) ?_
          refine R.ist3n 57 dX3_condition_56 rfl (Nat.le_of_ble_eq_true rfl) rfl ?_
          refine R.goto 7 dX3_condition_57 (by decide) ?_
          exact Rch.dropk (hR7 _ _ h) ⟨rfl, ⟨rfl, trivial⟩⟩
        · replace h := h.2 hc
          refine R.iload 48 dX3_condition_46 rfl rfl ?_
          refine R.if_eq 55 51 dX3_condition_48 (by decide) rfl (fun hc => ?_) (fun hc => ?_)
          · replace h := h.1 hc
            refine R.iconst 56 dX3_condition_55 rfl ?_
            refine R.ist3n 57 dX3_condition_56 rfl (Nat.le_of_ble_eq_true rfl) rfl ?_
            refine R.goto 7 dX3_condition_57 (by decide) ?_
            exact Rch.dropk (hR7 _ _ h) ⟨rfl, ⟨rfl, trivial⟩⟩
          · replace h := h.2 hc
            refine R.iconst 52 dX3_condition_51 rfl ?_
            refine R.goto 56 dX3_condition_52 (by decide) ?_
            refine R.ist3n 57 dX3_condition_56 rfl (Nat.le_of_ble_eq_true rfl) rfl ?_
            refine R.goto 7 dX3_condition_57 (by decide) ?_
            exact Rch.dropk (hR7 _ _ h) ⟨rfl, ⟨rfl, trivial⟩⟩
set_option maxRecDepth 100000 in
set_option maxHeartbeats 4000000 in
theorem sd_X3_condition {γ : GG} {dP : Nat} (hB : 36 ≤ dP) (Punit : Wd → (Int32 → Wd → Prop) → Prop) (hPunit : ∀ (w : Wd) (Q : Int32 → Wd → Prop) , Punit w Q → Ctr γ dP yX3_unit (ws_ yX3_unit cX3_unit 3 (some .boolean)) [.ref 2] w (qI Q) xN) (l1 : Int32) (l2 : Int32) (w : Wd) (Q : Int32 → Wd → Prop) : wp_X3_condition Punit l1 l2 w Q → Ctr γ (dP + 2) yX3_condition (ws_ yX3_condition cX3_condition 5 (some .boolean)) [.ref 2, .int l1, .int l2] w (qI Q) xN := by
  intro h
  unfold wp_X3_condition at h
  refine Ctr.of (μ := k_X3_condition) (by decide) rfl rfl rfl (Nat.le_of_ble_eq_true rfl) ⟨2, ?_⟩
  have es : lva [.ref 2, .int l1, .int l2] ++ List.replicate 2 none = [some (.ref 2), some (.int l1), some (.int l2), none, none] := rfl
  rw [es]
  refine R.aload_n 1 dX3_condition_0 rfl rfl ?_
  refine R.iload_n 2 dX3_condition_1 rfl rfl ?_
  refine R.iload_n 3 dX3_condition_2 rfl rfl ?_
  refine Rch.callv (sd_X3_part (dP := dP) (by omega) Punit hPunit _ _ _ _ h) dX3_condition_3 (lw_V q1508 q1510 qs94 q146 q1511) dk_X3_part rcM (by omega) (Nat.le_of_ble_eq_true rfl) rfl rfl (Nat.le_of_ble_eq_true rfl) (kI 6 rfl fun r1 w2 h => ?_) kN
  refine R.ist3n 7 dX3_condition_6 rfl (Nat.le_of_ble_eq_true rfl) rfl ?_
  obtain ⟨n3, h⟩ := h
  exact Rch.dropk (sl_X3_condition_7 hB Punit hPunit Q n3 _ _ h) ⟨rfl, ⟨rfl, trivial⟩⟩

abbrev k_X3_unit : MK := ("FrostBoxModel", cX3_unit, 3, (some .boolean), [], "unit")
def wp_X3_unit (Punit : Wd → (Int32 → Wd → Prop) → Prop) (w : Wd) (Q : Int32 → Wd → Prop) : Prop := wp_X3_look w (fun r1 w2 => (¬ r1 = (iz 33) → (¬ r1 = (iz 40) → wp_X3_compares (iz 0) (iz 0) w2 (fun r3 w4 => zok r3 ∧ Q r3 w4)) ∧ (r1 = (iz 40) → wp_X3_goesIn w2 (fun r5 w6 => (¬ r5 = iz 0 → wp_X3_condition Punit (iz 0) (iz 0) w6 (fun r7 w8 => wp_X3_takes (iz 41) w8 (fun r9 w10 => (¬ r9 = iz 0 → ∀ w11, w11 = sI w10 72 ((gI w10 72) - (iz 1)) → zok r7 ∧ Q r7 w11) ∧ (r9 = iz 0 → Q (iz 0) w10)))) ∧ (r5 = iz 0 → Q (iz 0) w6)))) ∧ (r1 = (iz 33) → wp_X3_goesIn w2 (fun r12 w13 => (¬ r12 = iz 0 → Punit w13 (fun r14 w15 => ∀ w16, w16 = sI w15 72 ((gI w15 72) - (iz 1)) → (¬ r14 = iz 0 → Q (iz 0) w16) ∧ (r14 = iz 0 → Q (iz 1) w16))) ∧ (r12 = iz 0 → Q (iz 0) w13))))
set_option maxRecDepth 100000 in
set_option maxHeartbeats 4000000 in
theorem sd_X3_unit {γ : GG} {dP : Nat} (hB : 36 ≤ dP) (Punit : Wd → (Int32 → Wd → Prop) → Prop) (hPunit : ∀ (w : Wd) (Q : Int32 → Wd → Prop) , Punit w Q → Ctr γ dP yX3_unit (ws_ yX3_unit cX3_unit 3 (some .boolean)) [.ref 2] w (qI Q) xN) (w : Wd) (Q : Int32 → Wd → Prop) : wp_X3_unit Punit w Q → Ctr γ (dP + 3) yX3_unit (ws_ yX3_unit cX3_unit 3 (some .boolean)) [.ref 2] w (qI Q) xN := by
  intro h
  unfold wp_X3_unit at h
  refine Ctr.of (μ := k_X3_unit) (by decide) rfl rfl rfl (Nat.le_of_ble_eq_true rfl) ⟨2, ?_⟩
  have es : lva [.ref 2] ++ List.replicate 2 none = [some (.ref 2), none, none] := rfl
  rw [es]
  refine R.aload_n 1 dX3_unit_0 rfl rfl ?_
  refine Rch.callv (sd_X3_look _ _ h) dX3_unit_1 (lw_V q1444 q1446 qs83 q146 q1447) dk_X3_look rcM (by omega) (Nat.le_of_ble_eq_true rfl) rfl rfl (Nat.le_of_ble_eq_true rfl) (kI 4 rfl fun r1 w2 h => ?_) kN
  refine R.ist1n 5 dX3_unit_4 rfl (Nat.le_of_ble_eq_true rfl) rfl ?_
  refine R.iload_n 6 dX3_unit_5 rfl rfl ?_
  refine R.bipush 8 dX3_unit_6 rfl (by decide +kernel) ?_
  refine R.icmp_ne 45 11 dX3_unit_8 (by decide) rfl (fun hc => ?_) (fun hc => ?_)
  · replace h := h.1 hc
    refine R.iload_n 46 dX3_unit_45 rfl rfl ?_
    refine R.bipush 48 dX3_unit_46 rfl (by decide +kernel) ?_
    refine R.icmp_ne 90 51 dX3_unit_48 (by decide) rfl (fun hc => ?_) (fun hc => ?_)
    · replace h := h.1 hc
      refine R.aload_n 91 dX3_unit_90 rfl rfl ?_
      refine R.iconst 92 dX3_unit_91 rfl ?_
      refine R.iconst 93 dX3_unit_92 rfl ?_
      refine Rch.callv (sd_X3_compares _ _ _ _ h) dX3_unit_93 (lw_V q1512 q1514 qs95 q146 q1515) dk_X3_compares rcM (by omega) (Nat.le_of_ble_eq_true rfl) rfl rfl (Nat.le_of_ble_eq_true rfl) (kI 96 rfl fun r3 w4 h => ?_) kN
      exact R.retZ dX3_unit_96 rfl h.1 h.2
    · replace h := h.2 hc
      refine R.aload_n 52 dX3_unit_51 rfl rfl ?_
      refine Rch.callv (sd_X3_goesIn _ _ h) dX3_unit_52 (lw_V q1528 q1530 qs99 q146 q1531) dk_X3_goesIn rcM (by omega) (Nat.le_of_ble_eq_true rfl) rfl rfl (Nat.le_of_ble_eq_true rfl) (kI 55 rfl fun r5 w6 h => ?_) kN
      refine R.if_ne 60 58 dX3_unit_55 (by decide) rfl (fun hc => ?_) (fun hc => ?_)
      · replace h := h.1 hc
        refine R.aload_n 61 dX3_unit_60 rfl rfl ?_
        refine R.iconst 62 dX3_unit_61 rfl ?_
        refine R.iconst 63 dX3_unit_62 rfl ?_
        refine Rch.callv (sd_X3_condition (dP := dP) (by omega) Punit hPunit _ _ _ _ h) dX3_unit_63 (lw_V q1504 q1506 qs93 q146 q1507) dk_X3_condition rcM (by omega) (Nat.le_of_ble_eq_true rfl) rfl rfl (Nat.le_of_ble_eq_true rfl) (kI 66 rfl fun r7 w8 h => ?_) kN
        refine R.ist2n 67 dX3_unit_66 rfl (Nat.le_of_ble_eq_true rfl) rfl ?_
        refine R.aload_n 68 dX3_unit_67 rfl rfl ?_
        refine R.bipush 70 dX3_unit_68 rfl (by decide +kernel) ?_
        refine Rch.callv (sd_X3_takes _ _ _ h) dX3_unit_70 (lw_V q1500 q1502 qs92 q146 q1503) dk_X3_takes rcM (by omega) (Nat.le_of_ble_eq_true rfl) rfl rfl (Nat.le_of_ble_eq_true rfl) (kI 73 rfl fun r9 w10 h => ?_) kN
        refine R.if_ne 78 76 dX3_unit_73 (by decide) rfl (fun hc => ?_) (fun hc => ?_)
        · replace h := h.1 hc
          refine R.aload_n 79 dX3_unit_78 rfl rfl ?_
          refine R.dupR 80 dX3_unit_79 rfl ?_
          refine gf_72 83 dX3_unit_80 rfl rfl ?_
          refine R.iconst 84 dX3_unit_83 rfl ?_
          refine R.isub 85 dX3_unit_84 rfl ?_
          replace h := h _ rfl
          refine pf_72 _ 88 dX3_unit_85 rfl rfl ?_
          refine R.iload_n 89 dX3_unit_88 rfl rfl ?_
          exact R.retZ dX3_unit_89 rfl h.1 h.2
        · replace h := h.2 hc
          refine R.iconst 77 dX3_unit_76 rfl ?_
          exact R.retZ dX3_unit_77 rfl zok0 h
      · replace h := h.2 hc
        refine R.iconst 59 dX3_unit_58 rfl ?_
        exact R.retZ dX3_unit_59 rfl zok0 h
  · replace h := h.2 hc
    refine R.aload_n 12 dX3_unit_11 rfl rfl ?_
    refine Rch.callv (sd_X3_goesIn _ _ h) dX3_unit_12 (lw_V q1528 q1530 qs99 q146 q1531) dk_X3_goesIn rcM (by omega) (Nat.le_of_ble_eq_true rfl) rfl rfl (Nat.le_of_ble_eq_true rfl) (kI 15 rfl fun r12 w13 h => ?_) kN
    refine R.if_ne 20 18 dX3_unit_15 (by decide) rfl (fun hc => ?_) (fun hc => ?_)
    · replace h := h.1 hc
      refine R.aload_n 21 dX3_unit_20 rfl rfl ?_
      refine Rch.callv (hPunit _ _ h) dX3_unit_21 (lw_V q1542 q1544 qs100 q146 q1545) dk_X3_unit rcM (by omega) (Nat.le_of_ble_eq_true rfl) rfl rfl (Nat.le_of_ble_eq_true rfl) (kI 24 rfl fun r14 w15 h => ?_) kN
      refine R.ist2n 25 dX3_unit_24 rfl (Nat.le_of_ble_eq_true rfl) rfl ?_
      refine R.aload_n 26 dX3_unit_25 rfl rfl ?_
      refine R.dupR 27 dX3_unit_26 rfl ?_
      refine gf_72 30 dX3_unit_27 rfl rfl ?_
      refine R.iconst 31 dX3_unit_30 rfl ?_
      refine R.isub 32 dX3_unit_31 rfl ?_
      replace h := h _ rfl
      refine pf_72 _ 35 dX3_unit_32 rfl rfl ?_
      refine R.iload_n 36 dX3_unit_35 rfl rfl ?_
      refine R.if_ne 43 39 dX3_unit_36 (by decide) rfl (fun hc => ?_) (fun hc => ?_)
      · replace h := h.1 hc
        refine R.iconst 44 dX3_unit_43 rfl ?_
        exact R.retZ dX3_unit_44 rfl zok0 h
      · replace h := h.2 hc
        refine R.iconst 40 dX3_unit_39 rfl ?_
        refine R.goto 44 dX3_unit_40 (by decide) ?_
        exact R.retZ dX3_unit_44 rfl zok1 h
    · replace h := h.2 hc
      refine R.iconst 19 dX3_unit_18 rfl ?_
      exact R.retZ dX3_unit_19 rfl zok0 h

def pf_X3_unit : Nat → Wd → (Int32 → Wd → Prop) → Prop
  | 0 => fun _ _ => False
  | n + 1 => wp_X3_unit (pf_X3_unit n)
theorem sfn_X3_unit {γ : GG} : ∀ (n : Nat) (w : Wd) (Q : Int32 → Wd → Prop) , pf_X3_unit n w Q → Ctr γ (36 + 3 * n) yX3_unit (ws_ yX3_unit cX3_unit 3 (some .boolean)) [.ref 2] w (qI Q) xN
  | 0, _, _, h => h.elim
  | n + 1, _, _, h => sd_X3_unit (dP := 36 + 3 * n) (by omega) (pf_X3_unit n) (sfn_X3_unit n) _ _ h
theorem sf_X3_unit {γ : GG} (n : Nat) (w : Wd) (Q : Int32 → Wd → Prop) (h : pf_X3_unit n w Q) : Ctr γ (36 + 3 * n) yX3_unit (ws_ yX3_unit cX3_unit 3 (some .boolean)) [.ref 2] w (qI Q) xN := sfn_X3_unit n w Q h

abbrev k_X3_clause : MK := ("FrostBoxModel", cX3_clause, 5, none, [], "clause")
def b_X3_clause_134 (Q : Wd → Prop) (l1 : Int32) (l2 : Int32) (l3 : Int32) (w : Wd) : Prop := (¬ (gI w 71) = (iz (-1)) → Q w) ∧ ((gI w 71) = (iz (-1)) → (¬ (gI w 77) = iz 0 → Q w) ∧ ((gI w 77) = iz 0 → (¬ l1 = (gI w 73) → Q w) ∧ (l1 = (gI w 73) → (¬ l2 = iz 0 → ∀ w1, w1 = sI w 77 (iz 1) → ∀ w2, w2 = sI w1 74 l3 → Q w2) ∧ (l2 = iz 0 → Q w))))
def b_X3_clause_64 (Q : Wd → Prop) (l1 : Int32) (w : Wd) : Prop := wp_X3_condition (pf_X3_unit 10) (iz 0) (iz 0) w (fun r1 w2 => wp_X3_takes (iz 63) w2 (fun r3 w4 => (¬ r3 = iz 0 → pf_X3_sum 10 w4 (fun r5 w6 => b_X3_clause_134 Q l1 r1 r5 w6)) ∧ (r3 = iz 0 → Q w4)))
def wp_X3_clause (w : Wd) (Q : Wd → Prop) : Prop := wp_X3_look w (fun r1 w2 => wp_X3_isAmong 0 r1 w2 (fun r3 w4 => (¬ r3 = iz 0 → ∀ w5, w5 = sI w4 70 ((gI w4 70) + (iz 1)) → wp_X3_takes (iz 58) w5 (fun r6 w7 => (¬ r6 = iz 0 → wp_X3_look w7 (fun r8 w9 => (r8 = (iz 33) → b_X3_clause_64 Q r1 w9) ∧ (¬ r8 = (iz 33) → (¬ r8 = (iz 40) → pf_X3_sum 10 w9 (fun r10 w11 => (¬ (gI w11 71) = (iz (-1)) → b_X3_clause_134 Q r1 (iz 1) r10 w11) ∧ ((gI w11 71) = (iz (-1)) → wp_X3_look w11 (fun r12 w13 => wp_X3_isSign r12 w13 (fun r14 w15 => (r14 = iz 0 → b_X3_clause_134 Q r1 (iz 1) r10 w15) ∧ (¬ r14 = iz 0 → wp_X3_condition (pf_X3_unit 10) (iz 1) r10 w15 (fun r16 w17 => wp_X3_takes (iz 63) w17 (fun r18 w19 => (¬ r18 = iz 0 → pf_X3_sum 10 w19 (fun r20 w21 => b_X3_clause_134 Q r1 r16 r20 w21)) ∧ (r18 = iz 0 → Q w19))))))))) ∧ (r8 = (iz 40) → b_X3_clause_64 Q r1 w9)))) ∧ (r6 = iz 0 → Q w7))) ∧ (r3 = iz 0 → wp_X3_fails w4 (fun r22 w23 => Q w23))))
set_option maxRecDepth 100000 in
set_option maxHeartbeats 4000000 in
theorem s_X3_clause_134 {γ : GG} (Q : Wd → Prop) (l1 : Int32) (l2 : Int32) (l3 : Int32) : ∀ (w : Wd), b_X3_clause_134 Q l1 l2 l3 w → Rch γ 69 k_X3_clause 134 [some (.ref 2), some (.int l1), some (.int l2), some (.int l3), none] [] w (qV Q) xN := by
  intro w h
  unfold b_X3_clause_134 at h
  refine R.aload_n 135 dX3_clause_134 rfl rfl ?_
  refine gf_71 138 dX3_clause_135 rfl rfl ?_
  refine R.iconst 139 dX3_clause_138 rfl ?_
  refine R.icmp_ne 161 142 dX3_clause_139 (by decide) rfl (fun hc => ?_) (fun hc => ?_)
  · replace h := h.1 hc
    exact R.retV dX3_clause_161 rfl h
  · replace h := h.2 hc
    refine R.aload_n 143 dX3_clause_142 rfl rfl ?_
    refine gf_77 146 dX3_clause_143 rfl rfl ?_
    refine R.if_ne 161 149 dX3_clause_146 (by decide) rfl (fun hc => ?_) (fun hc => ?_)
    · replace h := h.1 hc
      exact R.retV dX3_clause_161 rfl h
    · replace h := h.2 hc
      refine R.iload_n 150 dX3_clause_149 rfl rfl ?_
      refine R.aload_n 151 dX3_clause_150 rfl rfl ?_
      refine gf_73 154 dX3_clause_151 rfl rfl ?_
      refine R.icmp_ne 161 157 dX3_clause_154 (by decide) rfl (fun hc => ?_) (fun hc => ?_)
      · replace h := h.1 hc
        exact R.retV dX3_clause_161 rfl h
      · replace h := h.2 hc
        refine R.iload_n 158 dX3_clause_157 rfl rfl ?_
        refine R.if_ne 162 161 dX3_clause_158 (by decide) rfl (fun hc => ?_) (fun hc => ?_)
        · replace h := h.1 hc
          refine R.aload_n 163 dX3_clause_162 rfl rfl ?_
          refine R.iconst 164 dX3_clause_163 rfl ?_
          replace h := h _ rfl
          refine pf_77 _ 167 dX3_clause_164 rfl rfl zok1 ?_
          refine R.aload_n 168 dX3_clause_167 rfl rfl ?_
          refine R.iload_n 169 dX3_clause_168 rfl rfl ?_
          replace h := h _ rfl
          refine pf_74 _ 172 dX3_clause_169 rfl rfl ?_
          exact R.retV dX3_clause_172 rfl h
        · replace h := h.2 hc
          exact R.retV dX3_clause_161 rfl h
set_option maxRecDepth 100000 in
set_option maxHeartbeats 4000000 in
theorem s_X3_clause_64 {γ : GG} (Q : Wd → Prop) (l1 : Int32) : ∀ (w : Wd), b_X3_clause_64 Q l1 w → Rch γ 69 k_X3_clause 64 [some (.ref 2), some (.int l1), none, none, none] [] w (qV Q) xN := by
  intro w h
  unfold b_X3_clause_64 at h
  refine R.aload_n 65 dX3_clause_64 rfl rfl ?_
  refine R.iconst 66 dX3_clause_65 rfl ?_
  refine R.iconst 67 dX3_clause_66 rfl ?_
  refine Rch.callv (sd_X3_condition (dP := 66) (by decide) (pf_X3_unit 10) (sf_X3_unit 10) _ _ _ _ h) dX3_clause_67 (lw_V q1504 q1506 qs93 q146 q1507) dk_X3_condition rcM (by decide) (Nat.le_of_ble_eq_true rfl) rfl rfl (Nat.le_of_ble_eq_true rfl) (kI 70 rfl fun r1 w2 h => ?_) kN
  refine R.ist2n 71 dX3_clause_70 rfl (Nat.le_of_ble_eq_true rfl) rfl ?_
  refine R.aload_n 72 dX3_clause_71 rfl rfl ?_
  refine R.bipush 74 dX3_clause_72 rfl (by decide +kernel) ?_
  refine Rch.callv (sd_X3_takes _ _ _ h) dX3_clause_74 (lw_V q1500 q1502 qs92 q146 q1503) dk_X3_takes rcM (by decide) (Nat.le_of_ble_eq_true rfl) rfl rfl (Nat.le_of_ble_eq_true rfl) (kI 77 rfl fun r3 w4 h => ?_) kN
  refine R.if_ne 81 80 dX3_clause_77 (by decide) rfl (fun hc => ?_) (fun hc => ?_)
  · replace h := h.1 hc
    refine R.aload_n 82 dX3_clause_81 rfl rfl ?_
    refine Rch.callv (sf_X3_sum 10 _ _ h) dX3_clause_82 (lw_V q1516 q1518 qs96 q146 q1519) dk_X3_sum rcM (by decide) (Nat.le_of_ble_eq_true rfl) rfl rfl (Nat.le_of_ble_eq_true rfl) (kI 85 rfl fun r5 w6 h => ?_) kN
    refine R.ist3n 86 dX3_clause_85 rfl (Nat.le_of_ble_eq_true rfl) rfl ?_
    refine R.goto 134 dX3_clause_86 (by decide) ?_
    exact Rch.dropk (s_X3_clause_134 Q _ _ _ _ h) ⟨rfl, ⟨rfl, ⟨rfl, ⟨rfl, trivial⟩⟩⟩⟩
  · replace h := h.2 hc
    exact R.retV dX3_clause_80 rfl h
set_option maxRecDepth 100000 in
set_option maxHeartbeats 4000000 in
theorem sd_X3_clause {γ : GG} (w : Wd) (Q : Wd → Prop) : wp_X3_clause w Q → Ctr γ 69 yX3_clause (ws_ yX3_clause cX3_clause 5 none) [.ref 2] w (qV Q) xN := by
  intro h
  unfold wp_X3_clause at h
  refine Ctr.of (μ := k_X3_clause) (by decide) rfl rfl rfl (Nat.le_of_ble_eq_true rfl) ⟨4, ?_⟩
  have es : lva [.ref 2] ++ List.replicate 4 none = [some (.ref 2), none, none, none, none] := rfl
  rw [es]
  refine R.aload_n 1 dX3_clause_0 rfl rfl ?_
  refine Rch.callv (sd_X3_look _ _ h) dX3_clause_1 (lw_V q1444 q1446 qs83 q146 q1447) dk_X3_look rcM (by decide) (Nat.le_of_ble_eq_true rfl) rfl rfl (Nat.le_of_ble_eq_true rfl) (kI 4 rfl fun r1 w2 h => ?_) kN
  refine R.ist1n 5 dX3_clause_4 rfl (Nat.le_of_ble_eq_true rfl) rfl ?_
  refine R.ldcS (i := 0) 7 dX3_clause_5 rfl (List.mem_of_getElem? (i := 6) rfl) ?_
  refine R.iload_n 8 dX3_clause_7 rfl rfl ?_
  refine Rch.calls (sd_X3_isAmong _ _ _ _ h) dX3_clause_8 (lw_S q1497 q1498 q146 q1499) dk_X3_isAmong (by decide) (Nat.le_of_ble_eq_true rfl) rfl rfl (Nat.le_of_ble_eq_true rfl) (kI 11 rfl fun r3 w4 h => ?_) kN
  refine R.if_ne 20 14 dX3_clause_11 (by decide) rfl (fun hc => ?_) (fun hc => ?_)
  · replace h := h.1 hc
    refine R.aload_n 21 dX3_clause_20 rfl rfl ?_
    refine R.dupR 22 dX3_clause_21 rfl ?_
    refine gf_70 25 dX3_clause_22 rfl rfl ?_
    refine R.iconst 26 dX3_clause_25 rfl ?_
    refine R.iadd 27 dX3_clause_26 rfl ?_
    replace h := h _ rfl
    refine pf_70 _ 30 dX3_clause_27 rfl rfl ?_
    refine R.aload_n 31 dX3_clause_30 rfl rfl ?_
    refine R.bipush 33 dX3_clause_31 rfl (by decide +kernel) ?_
    refine Rch.callv (sd_X3_takes _ _ _ h) dX3_clause_33 (lw_V q1500 q1502 qs92 q146 q1503) dk_X3_takes rcM (by decide) (Nat.le_of_ble_eq_true rfl) rfl rfl (Nat.le_of_ble_eq_true rfl) (kI 36 rfl fun r6 w7 h => ?_) kN
    refine R.if_ne 40 39 dX3_clause_36 (by decide) rfl (fun hc => ?_) (fun hc => ?_)
    · replace h := h.1 hc
      refine R.iconst 41 dX3_clause_40 rfl ?_
      refine R.ist2n 42 dX3_clause_41 rfl (Nat.le_of_ble_eq_true rfl) rfl ?_
      refine R.iconst 43 dX3_clause_42 rfl ?_
      refine R.ist3n 44 dX3_clause_43 rfl (Nat.le_of_ble_eq_true rfl) rfl ?_
      refine R.aload_n 45 dX3_clause_44 rfl rfl ?_
      refine Rch.callv (sd_X3_look _ _ h) dX3_clause_45 (lw_V q1444 q1446 qs83 q146 q1447) dk_X3_look rcM (by decide) (Nat.le_of_ble_eq_true rfl) rfl rfl (Nat.le_of_ble_eq_true rfl) (kI 48 rfl fun r8 w9 h => ?_) kN
      refine R.ist4 50 dX3_clause_48 rfl (Nat.le_of_ble_eq_true rfl) rfl ?_
      refine R.iload 52 dX3_clause_50 rfl rfl ?_
      refine R.bipush 54 dX3_clause_52 rfl (by decide +kernel) ?_
      refine R.icmp_eq 64 57 dX3_clause_54 (by decide) rfl (fun hc => ?_) (fun hc => ?_)
      · replace h := h.1 hc
        exact Rch.dropk (s_X3_clause_64 Q _ _ h) ⟨rfl, ⟨rfl, trivial⟩⟩
      · replace h := h.2 hc
        refine R.iload 59 dX3_clause_57 rfl rfl ?_
        refine R.bipush 61 dX3_clause_59 rfl (by decide +kernel) ?_
        refine R.icmp_ne 89 64 dX3_clause_61 (by decide) rfl (fun hc => ?_) (fun hc => ?_)
        · replace h := h.1 hc
          refine R.aload_n 90 dX3_clause_89 rfl rfl ?_
          refine Rch.callv (sf_X3_sum 10 _ _ h) dX3_clause_90 (lw_V q1516 q1518 qs96 q146 q1519) dk_X3_sum rcM (by decide) (Nat.le_of_ble_eq_true rfl) rfl rfl (Nat.le_of_ble_eq_true rfl) (kI 93 rfl fun r10 w11 h => ?_) kN
          refine R.ist3n 94 dX3_clause_93 rfl (Nat.le_of_ble_eq_true rfl) rfl ?_
          refine R.aload_n 95 dX3_clause_94 rfl rfl ?_
          refine gf_71 98 dX3_clause_95 rfl rfl ?_
          refine R.iconst 99 dX3_clause_98 rfl ?_
          refine R.icmp_ne 134 102 dX3_clause_99 (by decide) rfl (fun hc => ?_) (fun hc => ?_)
          · replace h := h.1 hc
            exact Rch.dropk (s_X3_clause_134 Q _ _ _ _ h) ⟨rfl, ⟨rfl, ⟨rfl, ⟨rfl, trivial⟩⟩⟩⟩
          · replace h := h.2 hc
            refine R.aload_n 103 dX3_clause_102 rfl rfl ?_
            refine Rch.callv (sd_X3_look _ _ h) dX3_clause_103 (lw_V q1444 q1446 qs83 q146 q1447) dk_X3_look rcM (by decide) (Nat.le_of_ble_eq_true rfl) rfl rfl (Nat.le_of_ble_eq_true rfl) (kI 106 rfl fun r12 w13 h => ?_) kN
            refine Rch.calls (sd_X3_isSign _ _ _ h) dX3_clause_106 (lw_S q1539 q1540 q146 q1541) dk_X3_isSign (by decide) (Nat.le_of_ble_eq_true rfl) rfl rfl (Nat.le_of_ble_eq_true rfl) (kI 109 rfl fun r14 w15 h => ?_) kN
            refine R.if_eq 134 112 dX3_clause_109 (by decide) rfl (fun hc => ?_) (fun hc => ?_)
            · replace h := h.1 hc
              exact Rch.dropk (s_X3_clause_134 Q _ _ _ _ h) ⟨rfl, ⟨rfl, ⟨rfl, ⟨rfl, trivial⟩⟩⟩⟩
            · replace h := h.2 hc
              refine R.aload_n 113 dX3_clause_112 rfl rfl ?_
              refine R.iconst 114 dX3_clause_113 rfl ?_
              refine R.iload_n 115 dX3_clause_114 rfl rfl ?_
              refine Rch.callv (sd_X3_condition (dP := 66) (by decide) (pf_X3_unit 10) (sf_X3_unit 10) _ _ _ _ h) dX3_clause_115 (lw_V q1504 q1506 qs93 q146 q1507) dk_X3_condition rcM (by decide) (Nat.le_of_ble_eq_true rfl) rfl rfl (Nat.le_of_ble_eq_true rfl) (kI 118 rfl fun r16 w17 h => ?_) kN
              refine R.ist2n 119 dX3_clause_118 rfl (Nat.le_of_ble_eq_true rfl) rfl ?_
              refine R.aload_n 120 dX3_clause_119 rfl rfl ?_
              refine R.bipush 122 dX3_clause_120 rfl (by decide +kernel) ?_
              refine Rch.callv (sd_X3_takes _ _ _ h) dX3_clause_122 (lw_V q1500 q1502 qs92 q146 q1503) dk_X3_takes rcM (by decide) (Nat.le_of_ble_eq_true rfl) rfl rfl (Nat.le_of_ble_eq_true rfl) (kI 125 rfl fun r18 w19 h => ?_) kN
              refine R.if_ne 129 128 dX3_clause_125 (by decide) rfl (fun hc => ?_) (fun hc => ?_)
              · replace h := h.1 hc
                refine R.aload_n 130 dX3_clause_129 rfl rfl ?_
                refine Rch.callv (sf_X3_sum 10 _ _ h) dX3_clause_130 (lw_V q1516 q1518 qs96 q146 q1519) dk_X3_sum rcM (by decide) (Nat.le_of_ble_eq_true rfl) rfl rfl (Nat.le_of_ble_eq_true rfl) (kI 133 rfl fun r20 w21 h => ?_) kN
                refine R.ist3n 134 dX3_clause_133 rfl (Nat.le_of_ble_eq_true rfl) rfl ?_
                exact Rch.dropk (s_X3_clause_134 Q _ _ _ _ h) ⟨rfl, ⟨rfl, ⟨rfl, ⟨rfl, trivial⟩⟩⟩⟩
              · replace h := h.2 hc
                exact R.retV dX3_clause_128 rfl h
        · replace h := h.2 hc
          exact Rch.dropk (s_X3_clause_64 Q _ _ h) ⟨rfl, ⟨rfl, trivial⟩⟩
    · replace h := h.2 hc
      exact R.retV dX3_clause_39 rfl h
  · replace h := h.2 hc
    refine R.aload_n 15 dX3_clause_14 rfl rfl ?_
    refine Rch.callv (sd_X3_fails _ _ h) dX3_clause_15 (lw_V q1448 q1450 qs84 q146 q1451) dk_X3_fails rcM (by decide) (Nat.le_of_ble_eq_true rfl) rfl rfl (Nat.le_of_ble_eq_true rfl) (kI 18 rfl fun r22 w23 h => ?_) kN
    refine R.pop 19 dX3_clause_18 rfl ?_
    exact R.retV dX3_clause_19 rfl h

abbrev k_X3_goThrough : MK := ("FrostBoxModel", cX3_goThrough, 4, none, [], "goThrough")
def b_X3_goThrough_66 (Q : Wd → Prop) (w : Wd) : Prop := (¬ (gI w 71) = (iz (-1)) → Q w) ∧ ((gI w 71) = (iz (-1)) → wp_X3_look w (fun r1 w2 => (r1 = (iz (-1)) → Q w2) ∧ (¬ r1 = (iz (-1)) → wp_X3_fails w2 (fun r3 w4 => Q w4))))
def wl_X3_goThrough_32 (Q : Wd → Prop) (R32 : Wd → Prop) (w : Wd) : Prop := (¬ (gI w 71) = (iz (-1)) → b_X3_goThrough_66 Q w) ∧ ((gI w 71) = (iz (-1)) → wp_X3_look w (fun r1 w2 => (¬ r1 = (iz 59) → b_X3_goThrough_66 Q w2) ∧ (r1 = (iz 59) → ∀ w3, w3 = sI w2 70 ((gI w2 70) + (iz 1)) → wp_X3_clause w3 (fun w5 => R32 w5))))
def lp_X3_goThrough_32 (Q : Wd → Prop) : Nat → Wd → Prop
  | 0, _ => False
  | n + 1, w => wl_X3_goThrough_32 Q (lp_X3_goThrough_32 Q n) w
def wp_X3_goThrough (l1 : Nat) (l2 : Int32) (l3 : Int32) (w : Wd) (Q : Wd → Prop) : Prop := wp_X3_starts l1 l2 l3 w (fun w2 => ∀ w3, w3 = sI w2 73 (iz 121) → ∀ w4, w4 = sI w3 72 (iz 0) → ∀ w5, w5 = sI w4 77 (iz 0) → ∀ w6, w6 = sI w5 74 (iz 0) → wp_X3_clause w6 (fun w8 => ∃ n9, lp_X3_goThrough_32 Q n9 w8))
set_option maxRecDepth 100000 in
set_option maxHeartbeats 4000000 in
theorem s_X3_goThrough_66 {γ : GG} (Q : Wd → Prop) : ∀ (w : Wd), b_X3_goThrough_66 Q w → Rch γ 70 k_X3_goThrough 66 [some (.ref 2), none, none, none] [] w (qV Q) xN := by
  intro w h
  unfold b_X3_goThrough_66 at h
  refine R.aload_n 67 dX3_goThrough_66 rfl rfl ?_
  refine gf_71 70 dX3_goThrough_67 rfl rfl ?_
  refine R.iconst 71 dX3_goThrough_70 rfl ?_
  refine R.icmp_ne 87 74 dX3_goThrough_71 (by decide) rfl (fun hc => ?_) (fun hc => ?_)
  · replace h := h.1 hc
    exact R.retV dX3_goThrough_87 rfl h
  · replace h := h.2 hc
    refine R.aload_n 75 dX3_goThrough_74 rfl rfl ?_
    refine Rch.callv (sd_X3_look _ _ h) dX3_goThrough_75 (lw_V q1444 q1446 qs83 q146 q1447) dk_X3_look rcM (by decide) (Nat.le_of_ble_eq_true rfl) rfl rfl (Nat.le_of_ble_eq_true rfl) (kI 78 rfl fun r1 w2 h => ?_) kN
    refine R.iconst 79 dX3_goThrough_78 rfl ?_
    refine R.icmp_eq 87 82 dX3_goThrough_79 (by decide) rfl (fun hc => ?_) (fun hc => ?_)
    · replace h := h.1 hc
      exact R.retV dX3_goThrough_87 rfl h
    · replace h := h.2 hc
      refine R.aload_n 83 dX3_goThrough_82 rfl rfl ?_
      refine Rch.callv (sd_X3_fails _ _ h) dX3_goThrough_83 (lw_V q1448 q1450 qs84 q146 q1451) dk_X3_fails rcM (by decide) (Nat.le_of_ble_eq_true rfl) rfl rfl (Nat.le_of_ble_eq_true rfl) (kI 86 rfl fun r3 w4 h => ?_) kN
      refine R.pop 87 dX3_goThrough_86 rfl ?_
      exact R.retV dX3_goThrough_87 rfl h
set_option maxRecDepth 100000 in
set_option maxHeartbeats 4000000 in
theorem sl_X3_goThrough_32 {γ : GG} (Q : Wd → Prop) : ∀ (n : Nat) (w : Wd), lp_X3_goThrough_32 Q n w → Rch γ 70 k_X3_goThrough 32 [some (.ref 2), none, none, none] [] w (qV Q) xN := by
  intro n
  induction n with
  | zero => intro  _ h; exact h.elim
  | succ n hR32 =>
    intro  w h
    have h : wl_X3_goThrough_32 Q (lp_X3_goThrough_32 Q n) w := h
    unfold wl_X3_goThrough_32 at h
    refine R.aload_n 33 dX3_goThrough_32 rfl rfl ?_
    refine gf_71 36 dX3_goThrough_33 rfl rfl ?_
    refine R.iconst 37 dX3_goThrough_36 rfl ?_
    refine R.icmp_ne 66 40 dX3_goThrough_37 (by decide) rfl (fun hc => ?_) (fun hc => ?_)
    · replace h := h.1 hc
      exact Rch.dropk (s_X3_goThrough_66 Q _ h) ⟨rfl, trivial⟩
    · replace h := h.2 hc
      refine R.aload_n 41 dX3_goThrough_40 rfl rfl ?_
      refine Rch.callv (sd_X3_look _ _ h) dX3_goThrough_41 (lw_V q1444 q1446 qs83 q146 q1447) dk_X3_look rcM (by decide) (Nat.le_of_ble_eq_true rfl) rfl rfl (Nat.le_of_ble_eq_true rfl) (kI 44 rfl fun r1 w2 h => ?_) kN
      refine R.bipush 46 dX3_goThrough_44 rfl (by decide +kernel) ?_
      refine R.icmp_ne 66 49 dX3_goThrough_46 (by decide) rfl (fun hc => ?_) (fun hc => ?_)
      · replace h := h.1 hc
        exact Rch.dropk (s_X3_goThrough_66 Q _ h) ⟨rfl, trivial⟩
      · replace h := h.2 hc
        refine R.aload_n 50 dX3_goThrough_49 rfl rfl ?_
        refine R.dupR 51 dX3_goThrough_50 rfl ?_
        refine gf_70 54 dX3_goThrough_51 rfl rfl ?_
        refine R.iconst 55 dX3_goThrough_54 rfl ?_
        refine R.iadd 56 dX3_goThrough_55 rfl ?_
        replace h := h _ rfl
        refine pf_70 _ 59 dX3_goThrough_56 rfl rfl ?_
        refine R.aload_n 60 dX3_goThrough_59 rfl rfl ?_
        refine Rch.callv (sd_X3_clause _ _ h) dX3_goThrough_60 (lw_V q1493 q1495 qs91 q146 q1496) dk_X3_clause rcM (by decide) (Nat.le_of_ble_eq_true rfl) rfl rfl (Nat.le_of_ble_eq_true rfl) (kV 63 rfl fun w5 h => ?_) kN
        refine R.goto 32 dX3_goThrough_63 (by decide) ?_
        exact Rch.dropk (hR32 _ h) ⟨rfl, trivial⟩
set_option maxRecDepth 100000 in
set_option maxHeartbeats 4000000 in
theorem sd_X3_goThrough {γ : GG} (l1 : Nat) (l2 : Int32) (l3 : Int32) (w : Wd) (Q : Wd → Prop) : wp_X3_goThrough l1 l2 l3 w Q → Ctr γ 70 yX3_goThrough (ws_ yX3_goThrough cX3_goThrough 4 none) [.ref 2, .ref l1, .int l2, .int l3] w (qV Q) xN := by
  intro h
  unfold wp_X3_goThrough at h
  refine Ctr.of (μ := k_X3_goThrough) (by decide) rfl rfl rfl (Nat.le_of_ble_eq_true rfl) ⟨0, ?_⟩
  have es : lva [.ref 2, .ref l1, .int l2, .int l3] ++ List.replicate 0 none = [some (.ref 2), some (.ref l1), some (.int l2), some (.int l3)] := rfl
  rw [es]
  refine R.aload_n 1 dX3_goThrough_0 rfl rfl ?_
  refine R.aload_n 2 dX3_goThrough_1 rfl rfl ?_
  refine R.iload_n 3 dX3_goThrough_2 rfl rfl ?_
  refine R.iload_n 4 dX3_goThrough_3 rfl rfl ?_
  refine Rch.callv (sd_X3_starts _ _ _ _ _ h) dX3_goThrough_4 (lw_V q1433 q1435 qs81 q146 q1436) dk_X3_starts rcM (by decide) (Nat.le_of_ble_eq_true rfl) rfl rfl (Nat.le_of_ble_eq_true rfl) (kV 7 rfl fun w2 h => ?_) kN
  refine R.aload_n 8 dX3_goThrough_7 rfl rfl ?_
  refine R.bipush 10 dX3_goThrough_8 rfl (by decide +kernel) ?_
  replace h := h _ rfl
  refine pf_73 _ 13 dX3_goThrough_10 rfl rfl ?_
  refine R.aload_n 14 dX3_goThrough_13 rfl rfl ?_
  refine R.iconst 15 dX3_goThrough_14 rfl ?_
  replace h := h _ rfl
  refine pf_72 _ 18 dX3_goThrough_15 rfl rfl ?_
  refine R.aload_n 19 dX3_goThrough_18 rfl rfl ?_
  refine R.iconst 20 dX3_goThrough_19 rfl ?_
  replace h := h _ rfl
  refine pf_77 _ 23 dX3_goThrough_20 rfl rfl zok0 ?_
  refine R.aload_n 24 dX3_goThrough_23 rfl rfl ?_
  refine R.iconst 25 dX3_goThrough_24 rfl ?_
  replace h := h _ rfl
  refine pf_74 _ 28 dX3_goThrough_25 rfl rfl ?_
  refine R.aload_n 29 dX3_goThrough_28 rfl rfl ?_
  refine Rch.callv (sd_X3_clause _ _ h) dX3_goThrough_29 (lw_V q1493 q1495 qs91 q146 q1496) dk_X3_clause rcM (by decide) (Nat.le_of_ble_eq_true rfl) rfl rfl (Nat.le_of_ble_eq_true rfl) (kV 32 rfl fun w8 h => ?_) kN
  obtain ⟨n9, h⟩ := h
  exact Rch.dropk (sl_X3_goThrough_32 Q n9 _ h) ⟨rfl, trivial⟩

abbrev k_X3_digit : MK := ("FrostBoxModel", cX3_digit, 3, (some .int), [], "digit")
def wp_X3_digit (l1 : Int32) (w : Wd) (Q : Int32 → Wd → Prop) : Prop := wp_X3_look w (fun r1 w2 => wp_X3_isDigit w2 (fun r3 w4 => (r3 = iz 0 → wp_X3_fails w4 (fun r5 w6 => Q (iz 0) w6)) ∧ (¬ r3 = iz 0 → ((r1 - (iz 48)) ≤ l1 → ∀ w7, w7 = sI w4 70 ((gI w4 70) + (iz 1)) → Q (r1 - (iz 48)) w7) ∧ (¬ (r1 - (iz 48)) ≤ l1 → wp_X3_fails w4 (fun r8 w9 => Q (iz 0) w9)))))
set_option maxRecDepth 100000 in
set_option maxHeartbeats 4000000 in
theorem sd_X3_digit {γ : GG} (l1 : Int32) (w : Wd) (Q : Int32 → Wd → Prop) : wp_X3_digit l1 w Q → Ctr γ 2 yX3_digit (ws_ yX3_digit cX3_digit 3 (some .int)) [.ref 2, .int l1] w (qI Q) xN := by
  intro h
  unfold wp_X3_digit at h
  refine Ctr.of (μ := k_X3_digit) (by decide) rfl rfl rfl (Nat.le_of_ble_eq_true rfl) ⟨1, ?_⟩
  have es : lva [.ref 2, .int l1] ++ List.replicate 1 none = [some (.ref 2), some (.int l1), none] := rfl
  rw [es]
  refine R.aload_n 1 dX3_digit_0 rfl rfl ?_
  refine Rch.callv (sd_X3_look _ _ h) dX3_digit_1 (lw_V q1444 q1446 qs83 q146 q1447) dk_X3_look rcM (by decide) (Nat.le_of_ble_eq_true rfl) rfl rfl (Nat.le_of_ble_eq_true rfl) (kI 4 rfl fun r1 w2 h => ?_) kN
  refine R.ist2n 5 dX3_digit_4 rfl (Nat.le_of_ble_eq_true rfl) rfl ?_
  refine R.aload_n 6 dX3_digit_5 rfl rfl ?_
  refine Rch.callv (sd_X3_isDigit _ _ h) dX3_digit_6 (lw_V q1475 q1477 qs87 q146 q1478) dk_X3_isDigit rcM (by decide) (Nat.le_of_ble_eq_true rfl) rfl rfl (Nat.le_of_ble_eq_true rfl) (kI 9 rfl fun r3 w4 h => ?_) kN
  refine R.if_eq 20 12 dX3_digit_9 (by decide) rfl (fun hc => ?_) (fun hc => ?_)
  · replace h := h.1 hc
    refine R.aload_n 21 dX3_digit_20 rfl rfl ?_
    refine Rch.callv (sd_X3_fails _ _ h) dX3_digit_21 (lw_V q1448 q1450 qs84 q146 q1451) dk_X3_fails rcM (by decide) (Nat.le_of_ble_eq_true rfl) rfl rfl (Nat.le_of_ble_eq_true rfl) (kI 24 rfl fun r5 w6 h => ?_) kN
    refine R.pop 25 dX3_digit_24 rfl ?_
    refine R.iconst 26 dX3_digit_25 rfl ?_
    exact R.retI dX3_digit_26 rfl h
  · replace h := h.2 hc
    refine R.iload_n 13 dX3_digit_12 rfl rfl ?_
    refine R.bipush 15 dX3_digit_13 rfl (by decide +kernel) ?_
    refine R.isub 16 dX3_digit_15 rfl ?_
    refine R.iload_n 17 dX3_digit_16 rfl rfl ?_
    refine R.icmp_le 27 20 dX3_digit_17 (by decide) rfl (fun hc => ?_) (fun hc => ?_)
    · replace h := h.1 hc
      refine R.aload_n 28 dX3_digit_27 rfl rfl ?_
      refine R.dupR 29 dX3_digit_28 rfl ?_
      refine gf_70 32 dX3_digit_29 rfl rfl ?_
      refine R.iconst 33 dX3_digit_32 rfl ?_
      refine R.iadd 34 dX3_digit_33 rfl ?_
      replace h := h _ rfl
      refine pf_70 _ 37 dX3_digit_34 rfl rfl ?_
      refine R.iload_n 38 dX3_digit_37 rfl rfl ?_
      refine R.bipush 40 dX3_digit_38 rfl (by decide +kernel) ?_
      refine R.isub 41 dX3_digit_40 rfl ?_
      exact R.retI dX3_digit_41 rfl h
    · replace h := h.2 hc
      refine R.aload_n 21 dX3_digit_20 rfl rfl ?_
      refine Rch.callv (sd_X3_fails _ _ h) dX3_digit_21 (lw_V q1448 q1450 qs84 q146 q1451) dk_X3_fails rcM (by decide) (Nat.le_of_ble_eq_true rfl) rfl rfl (Nat.le_of_ble_eq_true rfl) (kI 24 rfl fun r8 w9 h => ?_) kN
      refine R.pop 25 dX3_digit_24 rfl ?_
      refine R.iconst 26 dX3_digit_25 rfl ?_
      exact R.retI dX3_digit_26 rfl h
