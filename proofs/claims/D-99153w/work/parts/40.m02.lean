set_option maxRecDepth 100000

abbrev k_X3_readStep : MK := ("FrostBoxModel", cX3_readStep, 3, none, [], "readStep")
def b_X3_readStep_111 (Q : Wd → Prop) (l1 : Int32) (l2 : Int32) (w : Wd) : Prop := (l2 = iz 0 → wp_X3_digit (iz 9) w (fun r1 w2 => inb (l1 + (iz 2)) 320 ∧ (∀ w3, w3 = sA w2 83 (l1 + (iz 2)).toInt r1 → (¬ (gI w3 71) = (iz (-1)) → Q w3) ∧ ((gI w3 71) = (iz (-1)) → wp_X3_digit (iz 1) w3 (fun r4 w5 => inb (l1 + (iz 3)) 320 ∧ (∀ w6, w6 = sA w5 83 (l1 + (iz 3)).toInt r4 → Q w6)))))) ∧ (¬ l2 = iz 0 → Q w)
def wp_X3_readStep (l1 : Int32) (w : Wd) (Q : Wd → Prop) : Prop := wp_X3_look w (fun r1 w2 => wp_X3_spotOf 5 r1 w2 (fun r3 w4 => (¬ r3 = (iz (-1)) → ∀ w5, w5 = sI w4 70 ((gI w4 70) + (iz 1)) → inb l1 320 ∧ (∀ w6, w6 = sA w5 83 l1.toInt r3 → wp_X3_digit (iz 9) w6 (fun r7 w8 => inb (l1 + (iz 1)) 320 ∧ (∀ w9, w9 = sA w8 83 (l1 + (iz 1)).toInt r7 → inb (l1 + (iz 2)) 320 ∧ (∀ w10, w10 = sA w9 83 (l1 + (iz 2)).toInt (iz (-1)) → inb (l1 + (iz 3)) 320 ∧ (∀ w11, w11 = sA w10 83 (l1 + (iz 3)).toInt (iz (-1)) → ((gI w11 71) = (iz (-1)) → (¬ r3 = (iz 4) → b_X3_readStep_111 Q l1 r3 w11) ∧ (r3 = (iz 4) → inb (l1 + (iz 1)) 320 ∧ wp_X3_digit (iz 9) w11 (fun r12 w13 => inb (l1 + (iz 1)) 320 ∧ (∀ w14, w14 = sA w13 83 (l1 + (iz 1)).toInt (((iz 10) * (gA w11 83 (l1 + (iz 1)).toInt)) + r12) → b_X3_readStep_111 Q l1 r3 w14)))) ∧ (¬ (gI w11 71) = (iz (-1)) → Q w11))))))) ∧ (r3 = (iz (-1)) → wp_X3_fails w4 (fun r15 w16 => Q w16))))
set_option maxRecDepth 100000 in
set_option maxHeartbeats 4000000 in
theorem s_X3_readStep_111 {γ : GG} (Q : Wd → Prop) (l1 : Int32) (l2 : Int32) : ∀ (w : Wd), b_X3_readStep_111 Q l1 l2 w → Rch γ 6 k_X3_readStep 111 [some (.ref 2), some (.int l1), some (.int l2)] [] w (qV Q) xN := by
  intro w h
  unfold b_X3_readStep_111 at h
  refine R.iload_n 112 dX3_readStep_111 rfl rfl ?_
  refine R.if_eq 116 115 dX3_readStep_112 (by decide) rfl (fun hc => ?_) (fun hc => ?_)
  · replace h := h.1 hc
    refine R.aload_n 117 dX3_readStep_116 rfl rfl ?_
    refine gf_83 120 dX3_readStep_117 rfl rfl ?_
    refine R.iload_n 121 dX3_readStep_120 rfl rfl ?_
    refine R.iconst 122 dX3_readStep_121 rfl ?_
    refine R.iadd 123 dX3_readStep_122 rfl ?_
    refine R.aload_n 124 dX3_readStep_123 rfl rfl ?_
    refine R.bipush 126 dX3_readStep_124 rfl (by decide +kernel) ?_
    refine Rch.callv (sd_X3_digit _ _ _ h) dX3_readStep_126 (lw_V q1555 q1557 qs103 q146 q1558) dk_X3_digit rcM (by decide) (Nat.le_of_ble_eq_true rfl) rfl rfl (Nat.le_of_ble_eq_true rfl) (kI 129 rfl fun r1 w2 h => ?_) kN
    obtain ⟨hb, h⟩ := h
    replace h := h _ rfl
    refine R.iast ar_83 130 dX3_readStep_129 rfl hb ?_
    refine R.aload_n 131 dX3_readStep_130 rfl rfl ?_
    refine gf_71 134 dX3_readStep_131 rfl rfl ?_
    refine R.iconst 135 dX3_readStep_134 rfl ?_
    refine R.icmp_ne 151 138 dX3_readStep_135 (by decide) rfl (fun hc => ?_) (fun hc => ?_)
    · replace h := h.1 hc
      exact R.retV dX3_readStep_151 rfl h
    · replace h := h.2 hc
      refine R.aload_n 139 dX3_readStep_138 rfl rfl ?_
      refine gf_83 142 dX3_readStep_139 rfl rfl ?_
      refine R.iload_n 143 dX3_readStep_142 rfl rfl ?_
      refine R.iconst 144 dX3_readStep_143 rfl ?_
      refine R.iadd 145 dX3_readStep_144 rfl ?_
      refine R.aload_n 146 dX3_readStep_145 rfl rfl ?_
      refine R.iconst 147 dX3_readStep_146 rfl ?_
      refine Rch.callv (sd_X3_digit _ _ _ h) dX3_readStep_147 (lw_V q1555 q1557 qs103 q146 q1558) dk_X3_digit rcM (by decide) (Nat.le_of_ble_eq_true rfl) rfl rfl (Nat.le_of_ble_eq_true rfl) (kI 150 rfl fun r4 w5 h => ?_) kN
      obtain ⟨hb, h⟩ := h
      replace h := h _ rfl
      refine R.iast ar_83 151 dX3_readStep_150 rfl hb ?_
      exact R.retV dX3_readStep_151 rfl h
  · replace h := h.2 hc
    exact R.retV dX3_readStep_115 rfl h
set_option maxRecDepth 100000 in
set_option maxHeartbeats 4000000 in
theorem sd_X3_readStep {γ : GG} (l1 : Int32) (w : Wd) (Q : Wd → Prop) : wp_X3_readStep l1 w Q → Ctr γ 6 yX3_readStep (ws_ yX3_readStep cX3_readStep 3 none) [.ref 2, .int l1] w (qV Q) xN := by
  intro h
  unfold wp_X3_readStep at h
  refine Ctr.of (μ := k_X3_readStep) (by decide) rfl rfl rfl (Nat.le_of_ble_eq_true rfl) ⟨1, ?_⟩
  have es : lva [.ref 2, .int l1] ++ List.replicate 1 none = [some (.ref 2), some (.int l1), none] := rfl
  rw [es]
  refine R.ldcSW (i := 5) 3 dX3_readStep_0 rfl (List.mem_of_getElem? (i := 11) rfl) ?_
  refine R.aload_n 4 dX3_readStep_3 rfl rfl ?_
  refine Rch.callv (sd_X3_look _ _ h) dX3_readStep_4 (lw_V q1444 q1446 qs83 q146 q1447) dk_X3_look rcM (by decide) (Nat.le_of_ble_eq_true rfl) rfl rfl (Nat.le_of_ble_eq_true rfl) (kI 7 rfl fun r1 w2 h => ?_) kN
  refine Rch.calls (sd_X3_spotOf _ _ _ _ h) dX3_readStep_7 (lw_S q1458 q1459 q146 q1460) dk_X3_spotOf (by decide) (Nat.le_of_ble_eq_true rfl) rfl rfl (Nat.le_of_ble_eq_true rfl) (kI 10 rfl fun r3 w4 h => ?_) kN
  refine R.ist2n 11 dX3_readStep_10 rfl (Nat.le_of_ble_eq_true rfl) rfl ?_
  refine R.iload_n 12 dX3_readStep_11 rfl rfl ?_
  refine R.iconst 13 dX3_readStep_12 rfl ?_
  refine R.icmp_ne 22 16 dX3_readStep_13 (by decide) rfl (fun hc => ?_) (fun hc => ?_)
  · replace h := h.1 hc
    refine R.aload_n 23 dX3_readStep_22 rfl rfl ?_
    refine R.dupR 24 dX3_readStep_23 rfl ?_
    refine gf_70 27 dX3_readStep_24 rfl rfl ?_
    refine R.iconst 28 dX3_readStep_27 rfl ?_
    refine R.iadd 29 dX3_readStep_28 rfl ?_
    replace h := h _ rfl
    refine pf_70 _ 32 dX3_readStep_29 rfl rfl ?_
    refine R.aload_n 33 dX3_readStep_32 rfl rfl ?_
    refine gf_83 36 dX3_readStep_33 rfl rfl ?_
    refine R.iload_n 37 dX3_readStep_36 rfl rfl ?_
    refine R.iload_n 38 dX3_readStep_37 rfl rfl ?_
    obtain ⟨hb, h⟩ := h
    replace h := h _ rfl
    refine R.iast ar_83 39 dX3_readStep_38 rfl hb ?_
    refine R.aload_n 40 dX3_readStep_39 rfl rfl ?_
    refine gf_83 43 dX3_readStep_40 rfl rfl ?_
    refine R.iload_n 44 dX3_readStep_43 rfl rfl ?_
    refine R.iconst 45 dX3_readStep_44 rfl ?_
    refine R.iadd 46 dX3_readStep_45 rfl ?_
    refine R.aload_n 47 dX3_readStep_46 rfl rfl ?_
    refine R.bipush 49 dX3_readStep_47 rfl (by decide +kernel) ?_
    refine Rch.callv (sd_X3_digit _ _ _ h) dX3_readStep_49 (lw_V q1555 q1557 qs103 q146 q1558) dk_X3_digit rcM (by decide) (Nat.le_of_ble_eq_true rfl) rfl rfl (Nat.le_of_ble_eq_true rfl) (kI 52 rfl fun r7 w8 h => ?_) kN
    obtain ⟨hb, h⟩ := h
    replace h := h _ rfl
    refine R.iast ar_83 53 dX3_readStep_52 rfl hb ?_
    refine R.aload_n 54 dX3_readStep_53 rfl rfl ?_
    refine gf_83 57 dX3_readStep_54 rfl rfl ?_
    refine R.iload_n 58 dX3_readStep_57 rfl rfl ?_
    refine R.iconst 59 dX3_readStep_58 rfl ?_
    refine R.iadd 60 dX3_readStep_59 rfl ?_
    refine R.iconst 61 dX3_readStep_60 rfl ?_
    obtain ⟨hb, h⟩ := h
    replace h := h _ rfl
    refine R.iast ar_83 62 dX3_readStep_61 rfl hb ?_
    refine R.aload_n 63 dX3_readStep_62 rfl rfl ?_
    refine gf_83 66 dX3_readStep_63 rfl rfl ?_
    refine R.iload_n 67 dX3_readStep_66 rfl rfl ?_
    refine R.iconst 68 dX3_readStep_67 rfl ?_
    refine R.iadd 69 dX3_readStep_68 rfl ?_
    refine R.iconst 70 dX3_readStep_69 rfl ?_
    obtain ⟨hb, h⟩ := h
    replace h := h _ rfl
    refine R.iast ar_83 71 dX3_readStep_70 rfl hb ?_
    refine R.aload_n 72 dX3_readStep_71 rfl rfl ?_
    refine gf_71 75 dX3_readStep_72 rfl rfl ?_
    refine R.iconst 76 dX3_readStep_75 rfl ?_
    refine R.icmp_eq 80 79 dX3_readStep_76 (by decide) rfl (fun hc => ?_) (fun hc => ?_)
    · replace h := h.1 hc
      refine R.iload_n 81 dX3_readStep_80 rfl rfl ?_
      refine R.iconst 82 dX3_readStep_81 rfl ?_
      refine R.icmp_ne 111 85 dX3_readStep_82 (by decide) rfl (fun hc => ?_) (fun hc => ?_)
      · replace h := h.1 hc
        exact Rch.dropk (s_X3_readStep_111 Q _ _ _ h) ⟨rfl, ⟨rfl, ⟨rfl, trivial⟩⟩⟩
      · replace h := h.2 hc
        refine R.aload_n 86 dX3_readStep_85 rfl rfl ?_
        refine gf_83 89 dX3_readStep_86 rfl rfl ?_
        refine R.iload_n 90 dX3_readStep_89 rfl rfl ?_
        refine R.iconst 91 dX3_readStep_90 rfl ?_
        refine R.iadd 92 dX3_readStep_91 rfl ?_
        refine R.bipush 94 dX3_readStep_92 rfl (by decide +kernel) ?_
        refine R.aload_n 95 dX3_readStep_94 rfl rfl ?_
        refine gf_83 98 dX3_readStep_95 rfl rfl ?_
        refine R.iload_n 99 dX3_readStep_98 rfl rfl ?_
        refine R.iconst 100 dX3_readStep_99 rfl ?_
        refine R.iadd 101 dX3_readStep_100 rfl ?_
        obtain ⟨hb, h⟩ := h
        refine R.iald ar_83 102 dX3_readStep_101 rfl hb ?_
        refine R.imul 103 dX3_readStep_102 rfl ?_
        refine R.aload_n 104 dX3_readStep_103 rfl rfl ?_
        refine R.bipush 106 dX3_readStep_104 rfl (by decide +kernel) ?_
        refine Rch.callv (sd_X3_digit _ _ _ h) dX3_readStep_106 (lw_V q1555 q1557 qs103 q146 q1558) dk_X3_digit rcM (by decide) (Nat.le_of_ble_eq_true rfl) rfl rfl (Nat.le_of_ble_eq_true rfl) (kI 109 rfl fun r12 w13 h => ?_) kN
        refine R.iadd 110 dX3_readStep_109 rfl ?_
        obtain ⟨hb, h⟩ := h
        replace h := h _ rfl
        refine R.iast ar_83 111 dX3_readStep_110 rfl hb ?_
        exact Rch.dropk (s_X3_readStep_111 Q _ _ _ h) ⟨rfl, ⟨rfl, ⟨rfl, trivial⟩⟩⟩
    · replace h := h.2 hc
      exact R.retV dX3_readStep_79 rfl h
  · replace h := h.2 hc
    refine R.aload_n 17 dX3_readStep_16 rfl rfl ?_
    refine Rch.callv (sd_X3_fails _ _ h) dX3_readStep_17 (lw_V q1448 q1450 qs84 q146 q1451) dk_X3_fails rcM (by decide) (Nat.le_of_ble_eq_true rfl) rfl rfl (Nat.le_of_ble_eq_true rfl) (kI 20 rfl fun r15 w16 h => ?_) kN
    refine R.pop 21 dX3_readStep_20 rfl ?_
    exact R.retV dX3_readStep_21 rfl h

abbrev k_X3_readPlan : MK := ("FrostBoxModel", cX3_readPlan, 3, none, [], "readPlan")
def b_X3_readPlan_57 (Q : Wd → Prop) (R17 : Int32 → Int32 → Wd → Prop) (l1 : Int32) (t0 : Int32) (w : Wd) : Prop := (t0 = iz 0 → (t0 = iz 0 → R17 l1 t0 w) ∧ (¬ t0 = iz 0 → ∀ w1, w1 = sI w 70 ((gI w 70) + (iz 1)) → R17 l1 t0 w1)) ∧ (¬ t0 = iz 0 → (¬ l1 = (iz 16) → (t0 = iz 0 → R17 l1 t0 w) ∧ (¬ t0 = iz 0 → ∀ w2, w2 = sI w 70 ((gI w 70) + (iz 1)) → R17 l1 t0 w2)) ∧ (l1 = (iz 16) → wp_X3_fails w (fun r3 w4 => Q w4)))
def wl_X3_readPlan_17 (Q : Wd → Prop) (R17 : Int32 → Int32 → Wd → Prop) (l1 : Int32) (l2 : Int32) (w : Wd) : Prop := (l2 = iz 0 → inb (iz 4) 5 ∧ (∀ w1, w1 = sA w 84 (iz 4).toInt l1 → wp_X3_look w1 (fun r2 w3 => (r2 = (iz (-1)) → Q w3) ∧ (¬ r2 = (iz (-1)) → wp_X3_fails w3 (fun r4 w5 => Q w5))))) ∧ (¬ l2 = iz 0 → wp_X3_readStep ((iz 4) * ((iz 64) + l1)) w (fun w7 => ((gI w7 71) = (iz (-1)) → wp_X3_look w7 (fun r8 w9 => (¬ r8 = (iz 59) → b_X3_readPlan_57 Q R17 (l1 + iz 1) (iz 0) w9) ∧ (r8 = (iz 59) → b_X3_readPlan_57 Q R17 (l1 + iz 1) (iz 1) w9))) ∧ (¬ (gI w7 71) = (iz (-1)) → Q w7)))
def lp_X3_readPlan_17 (Q : Wd → Prop) : Nat → Int32 → Int32 → Wd → Prop
  | 0, _, _, _ => False
  | n + 1, l1, l2, w => wl_X3_readPlan_17 Q (lp_X3_readPlan_17 Q n) l1 l2 w
def wp_X3_readPlan (w : Wd) (Q : Wd → Prop) : Prop := wp_X3_starts 61 (iz 0) (gI w 66) w (fun w2 => ∃ n3, lp_X3_readPlan_17 Q n3 (iz 0) (iz 1) w2)
set_option maxRecDepth 100000 in
set_option maxHeartbeats 4000000 in
theorem s_X3_readPlan_57 {γ : GG} (Q : Wd → Prop) (R17 : Int32 → Int32 → Wd → Prop) (l1 : Int32) (t0 : Int32) (hR17 : ∀ (l1 : Int32) (l2 : Int32) (w : Wd), R17 l1 l2 w → Rch γ 7 k_X3_readPlan 17 [some (.ref 2), some (.int l1), some (.int l2)] [] w (qV Q) xN) : ∀ (w : Wd), b_X3_readPlan_57 Q R17 l1 t0 w → Rch γ 7 k_X3_readPlan 57 [some (.ref 2), some (.int l1), none] [.int t0] w (qV Q) xN := by
  intro w h
  unfold b_X3_readPlan_57 at h
  refine R.ist2n 58 dX3_readPlan_57 rfl (Nat.le_of_ble_eq_true rfl) rfl ?_
  refine R.iload_n 59 dX3_readPlan_58 rfl rfl ?_
  refine R.if_eq 74 62 dX3_readPlan_59 (by decide) rfl (fun hc => ?_) (fun hc => ?_)
  · replace h := h.1 hc
    refine R.iload_n 75 dX3_readPlan_74 rfl rfl ?_
    refine R.if_eq 17 78 dX3_readPlan_75 (by decide) rfl (fun hc => ?_) (fun hc => ?_)
    · replace h := h.1 hc
      exact Rch.dropk (hR17 _ _ _ h) ⟨rfl, ⟨rfl, ⟨rfl, trivial⟩⟩⟩
    · replace h := h.2 hc
      refine R.aload_n 79 dX3_readPlan_78 rfl rfl ?_
      refine R.dupR 80 dX3_readPlan_79 rfl ?_
      refine gf_70 83 dX3_readPlan_80 rfl rfl ?_
      refine R.iconst 84 dX3_readPlan_83 rfl ?_
      refine R.iadd 85 dX3_readPlan_84 rfl ?_
      replace h := h _ rfl
      refine pf_70 _ 88 dX3_readPlan_85 rfl rfl ?_
      refine R.goto 17 dX3_readPlan_88 (by decide) ?_
      exact Rch.dropk (hR17 _ _ _ h) ⟨rfl, ⟨rfl, ⟨rfl, trivial⟩⟩⟩
  · replace h := h.2 hc
    refine R.iload_n 63 dX3_readPlan_62 rfl rfl ?_
    refine R.bipush 65 dX3_readPlan_63 rfl (by decide +kernel) ?_
    refine R.icmp_ne 74 68 dX3_readPlan_65 (by decide) rfl (fun hc => ?_) (fun hc => ?_)
    · replace h := h.1 hc
      refine R.iload_n 75 dX3_readPlan_74 rfl rfl ?_
      refine R.if_eq 17 78 dX3_readPlan_75 (by decide) rfl (fun hc => ?_) (fun hc => ?_)
      · replace h := h.1 hc
        exact Rch.dropk (hR17 _ _ _ h) ⟨rfl, ⟨rfl, ⟨rfl, trivial⟩⟩⟩
      · replace h := h.2 hc
        refine R.aload_n 79 dX3_readPlan_78 rfl rfl ?_
        refine R.dupR 80 dX3_readPlan_79 rfl ?_
        refine gf_70 83 dX3_readPlan_80 rfl rfl ?_
        refine R.iconst 84 dX3_readPlan_83 rfl ?_
        refine R.iadd 85 dX3_readPlan_84 rfl ?_
        replace h := h _ rfl
        refine pf_70 _ 88 dX3_readPlan_85 rfl rfl ?_
        refine R.goto 17 dX3_readPlan_88 (by decide) ?_
        exact Rch.dropk (hR17 _ _ _ h) ⟨rfl, ⟨rfl, ⟨rfl, trivial⟩⟩⟩
    · replace h := h.2 hc
      refine R.aload_n 69 dX3_readPlan_68 rfl rfl ?_
      refine Rch.callv (sd_X3_fails _ _ h) dX3_readPlan_69 (lw_V q1448 q1450 qs84 q146 q1451) dk_X3_fails rcM (by decide) (Nat.le_of_ble_eq_true rfl) rfl rfl (Nat.le_of_ble_eq_true rfl) (kI 72 rfl fun r3 w4 h => ?_) kN
      refine R.pop 73 dX3_readPlan_72 rfl ?_
      exact R.retV dX3_readPlan_73 rfl h
set_option maxRecDepth 100000 in
set_option maxHeartbeats 4000000 in
theorem sl_X3_readPlan_17 {γ : GG} (Q : Wd → Prop) : ∀ (n : Nat) (l1 : Int32) (l2 : Int32) (w : Wd), lp_X3_readPlan_17 Q n l1 l2 w → Rch γ 7 k_X3_readPlan 17 [some (.ref 2), some (.int l1), some (.int l2)] [] w (qV Q) xN := by
  intro n
  induction n with
  | zero => intro _ _ _ h; exact h.elim
  | succ n hR17 =>
    intro l1 l2 w h
    have h : wl_X3_readPlan_17 Q (lp_X3_readPlan_17 Q n) l1 l2 w := h
    unfold wl_X3_readPlan_17 at h
    refine R.iload_n 18 dX3_readPlan_17 rfl rfl ?_
    refine R.if_eq 91 21 dX3_readPlan_18 (by decide) rfl (fun hc => ?_) (fun hc => ?_)
    · replace h := h.1 hc
      refine R.aload_n 92 dX3_readPlan_91 rfl rfl ?_
      refine gf_84 95 dX3_readPlan_92 rfl rfl ?_
      refine R.iconst 96 dX3_readPlan_95 rfl ?_
      refine R.iload_n 97 dX3_readPlan_96 rfl rfl ?_
      obtain ⟨hb, h⟩ := h
      replace h := h _ rfl
      refine R.iast ar_84 98 dX3_readPlan_97 rfl hb ?_
      refine R.aload_n 99 dX3_readPlan_98 rfl rfl ?_
      refine Rch.callv (sd_X3_look _ _ h) dX3_readPlan_99 (lw_V q1444 q1446 qs83 q146 q1447) dk_X3_look rcM (by decide) (Nat.le_of_ble_eq_true rfl) rfl rfl (Nat.le_of_ble_eq_true rfl) (kI 102 rfl fun r2 w3 h => ?_) kN
      refine R.iconst 103 dX3_readPlan_102 rfl ?_
      refine R.icmp_eq 111 106 dX3_readPlan_103 (by decide) rfl (fun hc => ?_) (fun hc => ?_)
      · replace h := h.1 hc
        exact R.retV dX3_readPlan_111 rfl h
      · replace h := h.2 hc
        refine R.aload_n 107 dX3_readPlan_106 rfl rfl ?_
        refine Rch.callv (sd_X3_fails _ _ h) dX3_readPlan_107 (lw_V q1448 q1450 qs84 q146 q1451) dk_X3_fails rcM (by decide) (Nat.le_of_ble_eq_true rfl) rfl rfl (Nat.le_of_ble_eq_true rfl) (kI 110 rfl fun r4 w5 h => ?_) kN
        refine R.pop 111 dX3_readPlan_110 rfl ?_
        exact R.retV dX3_readPlan_111 rfl h
    · replace h := h.2 hc
      refine R.aload_n 22 dX3_readPlan_21 rfl rfl ?_
      refine R.iconst 23 dX3_readPlan_22 rfl ?_
      refine R.bipush 25 dX3_readPlan_23 rfl (by decide +kernel) ?_
      refine R.iload_n 26 dX3_readPlan_25 rfl rfl ?_
      refine R.iadd 27 dX3_readPlan_26 rfl ?_
      refine R.imul 28 dX3_readPlan_27 rfl ?_
      refine Rch.callv (sd_X3_readStep _ _ _ h) dX3_readPlan_28 (lw_V q1550 q1552 qs102 q146 q1553) dk_X3_readStep rcM (by decide) (Nat.le_of_ble_eq_true rfl) rfl rfl (Nat.le_of_ble_eq_true rfl) (kV 31 rfl fun w7 h => ?_) kN
      refine R.aload_n 32 dX3_readPlan_31 rfl rfl ?_
      refine gf_71 35 dX3_readPlan_32 rfl rfl ?_
      refine R.iconst 36 dX3_readPlan_35 rfl ?_
      refine R.icmp_eq 40 39 dX3_readPlan_36 (by decide) rfl (fun hc => ?_) (fun hc => ?_)
      · replace h := h.1 hc
        refine R.inc1 43 dX3_readPlan_40 rfl (Nat.le_of_ble_eq_true rfl) rfl ?_
        refine R.aload_n 44 dX3_readPlan_43 rfl rfl ?_
        refine Rch.callv (sd_X3_look _ _ h) dX3_readPlan_44 (lw_V q1444 q1446 qs83 q146 q1447) dk_X3_look rcM (by decide) (Nat.le_of_ble_eq_true rfl) rfl rfl (Nat.le_of_ble_eq_true rfl) (kI 47 rfl fun r8 w9 h => ?_) kN
        refine R.bipush 49 dX3_readPlan_47 rfl (by decide +kernel) ?_
        refine R.icmp_ne 56 52 dX3_readPlan_49 (by decide) rfl (fun hc => ?_) (fun hc => ?_)
        · replace h := h.1 hc
          refine R.iconst 57 dX3_readPlan_56 rfl ?_
          exact Rch.dropk (s_X3_readPlan_57 Q _ _ _ hR17 _ h) ⟨rfl, ⟨rfl, trivial⟩⟩
        · replace h := h.2 hc
          refine R.iconst 53 dX3_readPlan_52 rfl ?_
          refine R.goto 57 dX3_readPlan_53 (by decide) ?_
          exact Rch.dropk (s_X3_readPlan_57 Q _ _ _ hR17 _ h) ⟨rfl, ⟨rfl, trivial⟩⟩
      · replace h := h.2 hc
        exact R.retV dX3_readPlan_39 rfl h
set_option maxRecDepth 100000 in
set_option maxHeartbeats 4000000 in
theorem sd_X3_readPlan {γ : GG} (w : Wd) (Q : Wd → Prop) : wp_X3_readPlan w Q → Ctr γ 7 yX3_readPlan (ws_ yX3_readPlan cX3_readPlan 3 none) [.ref 2] w (qV Q) xN := by
  intro h
  unfold wp_X3_readPlan at h
  refine Ctr.of (μ := k_X3_readPlan) (by decide) rfl rfl rfl (Nat.le_of_ble_eq_true rfl) ⟨2, ?_⟩
  have es : lva [.ref 2] ++ List.replicate 2 none = [some (.ref 2), none, none] := rfl
  rw [es]
  refine R.aload_n 1 dX3_readPlan_0 rfl rfl ?_
  refine R.aload_n 2 dX3_readPlan_1 rfl rfl ?_
  refine gf_61 5 dX3_readPlan_2 rfl rfl ?_
  refine R.iconst 6 dX3_readPlan_5 rfl ?_
  refine R.aload_n 7 dX3_readPlan_6 rfl rfl ?_
  refine gf_66 10 dX3_readPlan_7 rfl rfl ?_
  refine Rch.callv (sd_X3_starts _ _ _ _ _ h) dX3_readPlan_10 (lw_V q1433 q1435 qs81 q146 q1436) dk_X3_starts rcM (by decide) (Nat.le_of_ble_eq_true rfl) rfl rfl (Nat.le_of_ble_eq_true rfl) (kV 13 rfl fun w2 h => ?_) kN
  refine R.iconst 14 dX3_readPlan_13 rfl ?_
  refine R.ist1n 15 dX3_readPlan_14 rfl (Nat.le_of_ble_eq_true rfl) rfl ?_
  refine R.iconst 16 dX3_readPlan_15 rfl ?_
  refine R.ist2n 17 dX3_readPlan_16 rfl (Nat.le_of_ble_eq_true rfl) rfl ?_
  obtain ⟨n3, h⟩ := h
  exact Rch.dropk (sl_X3_readPlan_17 Q n3 _ _ _ h) ⟨rfl, ⟨rfl, ⟨rfl, trivial⟩⟩⟩

abbrev k_X3_fault : MK := ("FrostBoxModel", cX3_fault, 2, (some .int), [], "fault")
def b_X3_fault_46 (Q : Int32 → Wd → Prop) (l1 : Int32) (w : Wd) : Prop := (¬ l1 = (iz 2) → Q (gI w 71) w) ∧ (l1 = (iz 2) → wp_X3_readPlan w (fun w2 => Q (gI w2 71) w2))
def b_X3_fault_28 (Q : Int32 → Wd → Prop) (l1 : Int32) (w : Wd) : Prop := (¬ l1 = (iz 1) → b_X3_fault_46 Q l1 w) ∧ (l1 = (iz 1) → wp_X3_goThrough 61 (iz 0) (gI w 66) w (fun w2 => b_X3_fault_46 Q l1 w2))
def wp_X3_fault (l1 : Int32) (w : Wd) (Q : Int32 → Wd → Prop) : Prop := ∀ w1, w1 = sI w 60 (iz 0) → wp_X3_isIn ((l1).toInt64) (lz 0) (lz 2) w1 (fun r2 w3 => (¬ r2 = iz 0 → (¬ l1 = iz 0 → b_X3_fault_28 Q l1 w3) ∧ (l1 = iz 0 → wp_X3_readHouse w3 (fun w5 => b_X3_fault_28 Q l1 w5))) ∧ (r2 = iz 0 → Q (iz (-2)) w3))
set_option maxRecDepth 100000 in
set_option maxHeartbeats 4000000 in
theorem s_X3_fault_46 {γ : GG} (Q : Int32 → Wd → Prop) (l1 : Int32) : ∀ (w : Wd), b_X3_fault_46 Q l1 w → Rch γ 71 k_X3_fault 46 [some (.ref 2), some (.int l1)] [] w (qI Q) xN := by
  intro w h
  unfold b_X3_fault_46 at h
  refine R.iload_n 47 dX3_fault_46 rfl rfl ?_
  refine R.iconst 48 dX3_fault_47 rfl ?_
  refine R.icmp_ne 55 51 dX3_fault_48 (by decide) rfl (fun hc => ?_) (fun hc => ?_)
  · replace h := h.1 hc
    refine R.aload_n 56 dX3_fault_55 rfl rfl ?_
    refine gf_71 59 dX3_fault_56 rfl rfl ?_
    exact R.retI dX3_fault_59 rfl h
  · replace h := h.2 hc
    refine R.aload_n 52 dX3_fault_51 rfl rfl ?_
    refine Rch.callv (sd_X3_readPlan _ _ h) dX3_fault_52 (lw_V q1546 q1548 qs101 q146 q1549) dk_X3_readPlan rcM (by decide) (Nat.le_of_ble_eq_true rfl) rfl rfl (Nat.le_of_ble_eq_true rfl) (kV 55 rfl fun w2 h => ?_) kN
    refine R.aload_n 56 dX3_fault_55 rfl rfl ?_
    refine gf_71 59 dX3_fault_56 rfl rfl ?_
    exact R.retI dX3_fault_59 rfl h
set_option maxRecDepth 100000 in
set_option maxHeartbeats 4000000 in
theorem s_X3_fault_28 {γ : GG} (Q : Int32 → Wd → Prop) (l1 : Int32) : ∀ (w : Wd), b_X3_fault_28 Q l1 w → Rch γ 71 k_X3_fault 28 [some (.ref 2), some (.int l1)] [] w (qI Q) xN := by
  intro w h
  unfold b_X3_fault_28 at h
  refine R.iload_n 29 dX3_fault_28 rfl rfl ?_
  refine R.iconst 30 dX3_fault_29 rfl ?_
  refine R.icmp_ne 46 33 dX3_fault_30 (by decide) rfl (fun hc => ?_) (fun hc => ?_)
  · replace h := h.1 hc
    exact Rch.dropk (s_X3_fault_46 Q _ _ h) ⟨rfl, ⟨rfl, trivial⟩⟩
  · replace h := h.2 hc
    refine R.aload_n 34 dX3_fault_33 rfl rfl ?_
    refine R.aload_n 35 dX3_fault_34 rfl rfl ?_
    refine gf_61 38 dX3_fault_35 rfl rfl ?_
    refine R.iconst 39 dX3_fault_38 rfl ?_
    refine R.aload_n 40 dX3_fault_39 rfl rfl ?_
    refine gf_66 43 dX3_fault_40 rfl rfl ?_
    refine Rch.callv (sd_X3_goThrough _ _ _ _ _ h) dX3_fault_43 (lw_V q1489 q1491 qs90 q146 q1492) dk_X3_goThrough rcM (by decide) (Nat.le_of_ble_eq_true rfl) rfl rfl (Nat.le_of_ble_eq_true rfl) (kV 46 rfl fun w2 h => ?_) kN
    exact Rch.dropk (s_X3_fault_46 Q _ _ h) ⟨rfl, ⟨rfl, trivial⟩⟩
set_option maxRecDepth 100000 in
set_option maxHeartbeats 4000000 in
theorem sd_X3_fault {γ : GG} (l1 : Int32) (w : Wd) (Q : Int32 → Wd → Prop) : wp_X3_fault l1 w Q → Ctr γ 71 yX3_fault (ws_ yX3_fault cX3_fault 2 (some .int)) [.ref 2, .int l1] w (qI Q) xN := by
  intro h
  unfold wp_X3_fault at h
  refine Ctr.of (μ := k_X3_fault) (by decide) rfl rfl rfl (Nat.le_of_ble_eq_true rfl) ⟨0, ?_⟩
  have es : lva [.ref 2, .int l1] ++ List.replicate 0 none = [some (.ref 2), some (.int l1)] := rfl
  rw [es]
  refine R.aload_n 1 dX3_fault_0 rfl rfl ?_
  refine R.iconst 2 dX3_fault_1 rfl ?_
  replace h := h _ rfl
  refine pf_60 _ 5 dX3_fault_2 rfl rfl ?_
  refine R.iload_n 6 dX3_fault_5 rfl rfl ?_
  refine R.i2l 7 dX3_fault_6 rfl ?_
  refine R.lconst (m0 := 0) 8 dX3_fault_7 rfl (by decide +kernel) ?_
  refine R.ldc2 (n := 2) 11 dX3_fault_8 rfl q1425 (by decide +kernel) ?_
  refine Rch.calls (sd_X3_isIn _ _ _ _ _ h) dX3_fault_11 (lw_S q1426 q1427 q146 q1428) dk_X3_isIn (by decide) (Nat.le_of_ble_eq_true rfl) rfl rfl (Nat.le_of_ble_eq_true rfl) (kI 14 rfl fun r2 w3 h => ?_) kN
  refine R.if_ne 20 17 dX3_fault_14 (by decide) rfl (fun hc => ?_) (fun hc => ?_)
  · replace h := h.1 hc
    refine R.iload_n 21 dX3_fault_20 rfl rfl ?_
    refine R.if_ne 28 24 dX3_fault_21 (by decide) rfl (fun hc => ?_) (fun hc => ?_)
    · replace h := h.1 hc
      exact Rch.dropk (s_X3_fault_28 Q _ _ h) ⟨rfl, ⟨rfl, trivial⟩⟩
    · replace h := h.2 hc
      refine R.aload_n 25 dX3_fault_24 rfl rfl ?_
      refine Rch.callv (sd_X3_readHouse _ _ h) dX3_fault_25 (lw_V q1429 q1431 qs80 q146 q1432) dk_X3_readHouse rcM (by decide) (Nat.le_of_ble_eq_true rfl) rfl rfl (Nat.le_of_ble_eq_true rfl) (kV 28 rfl fun w5 h => ?_) kN
      exact Rch.dropk (s_X3_fault_28 Q _ _ h) ⟨rfl, ⟨rfl, trivial⟩⟩
  · replace h := h.2 hc
    refine R.bipush 19 dX3_fault_17 rfl (by decide +kernel) ?_
    exact R.retI dX3_fault_19 rfl h

abbrev k_X3_text : MK := ("FrostBoxModel", cX3_text, 5, (some .int), [], "text")
def wl_X3_text_310 (Q : Int32 → Wd → Prop) (R299 : Int32 → Wd → Prop) (l3 : Int32) (R310 : Int32 → Wd → Prop) (l4 : Int32) (w : Wd) : Prop := ((iz 4) ≤ l4 → R299 (l3 + iz 1) w) ∧ (¬ (iz 4) ≤ l4 → inb (((iz 4) * l3) + l4) 32 ∧ inb (((iz 5) * (((gI w 87) - (iz 1)) - l3)) + l4) 283 ∧ (∀ w1, w1 = sA w 90 (((iz 5) * (((gI w 87) - (iz 1)) - l3)) + l4).toInt (gA w 82 (((iz 4) * l3) + l4).toInt) → R310 (l4 + iz 1) w1))
def lp_X3_text_310 (Q : Int32 → Wd → Prop) (R299 : Int32 → Wd → Prop) (l3 : Int32) : Nat → Int32 → Wd → Prop
  | 0, _, _ => False
  | n + 1, l4, w => wl_X3_text_310 Q R299 l3 (lp_X3_text_310 Q R299 l3 n) l4 w
def wl_X3_text_299 (Q : Int32 → Wd → Prop) (R299 : Int32 → Wd → Prop) (l3 : Int32) (w : Wd) : Prop := ((gI w 87) ≤ l3 → ∀ w1, w1 = sI w 103 (iz 0) → ∀ w2, w2 = sI w1 110 (iz 0) → ∀ w3, w3 = sI w2 97 (iz 0) → ∀ w4, w4 = sI w3 115 (iz 0) → Q (gI w4 85) w4) ∧ (¬ (gI w 87) ≤ l3 → ∃ n5, lp_X3_text_310 Q R299 l3 n5 (iz 0) w)
def lp_X3_text_299 (Q : Int32 → Wd → Prop) : Nat → Int32 → Wd → Prop
  | 0, _, _ => False
  | n + 1, l3, w => wl_X3_text_299 Q (lp_X3_text_299 Q n) l3 w
def wl_X3_text_266 (Q : Int32 → Wd → Prop) (R266 : Int32 → Wd → Prop) (l3 : Int32) (w : Wd) : Prop := ((iz 283) ≤ l3 → inb (iz 40) 283 ∧ (∀ w1, w1 = sA w 90 (iz 40).toInt (gI w 87) → ∃ n2, lp_X3_text_299 Q n2 (iz 0) w1)) ∧ (¬ (iz 283) ≤ l3 → inb l3 283 ∧ (∀ w3, w3 = sA w 90 l3.toInt (iz 0) → R266 (l3 + iz 1) w3))
def lp_X3_text_266 (Q : Int32 → Wd → Prop) : Nat → Int32 → Wd → Prop
  | 0, _, _ => False
  | n + 1, l3, w => wl_X3_text_266 Q (lp_X3_text_266 Q n) l3 w
def wl_X3_text_240 (Q : Int32 → Wd → Prop) (R240 : Int32 → Wd → Prop) (l3 : Int32) (w : Wd) : Prop := ((iz 30) ≤ l3 → ∃ n1, lp_X3_text_266 Q n1 (iz 0) w) ∧ (¬ (iz 30) ≤ l3 → inb l3 30 ∧ inb l3 30 ∧ (∀ w2, w2 = sA w 80 l3.toInt (gA w 81 l3.toInt) → R240 (l3 + iz 1) w2))
def lp_X3_text_240 (Q : Int32 → Wd → Prop) : Nat → Int32 → Wd → Prop
  | 0, _, _ => False
  | n + 1, l3, w => wl_X3_text_240 Q (lp_X3_text_240 Q n) l3 w
def wl_X3_text_215 (Q : Int32 → Wd → Prop) (R215 : Int32 → Wd → Prop) (l3 : Int32) (w : Wd) : Prop := ((iz 4) ≤ l3 → ∃ n1, lp_X3_text_240 Q n1 (iz 0) w) ∧ (¬ (iz 4) ≤ l3 → inb l3 4 ∧ inb l3 4 ∧ (∀ w2, w2 = sA w 78 l3.toInt (gA w 79 l3.toInt) → R215 (l3 + iz 1) w2))
def lp_X3_text_215 (Q : Int32 → Wd → Prop) : Nat → Int32 → Wd → Prop
  | 0, _, _ => False
  | n + 1, l3, w => wl_X3_text_215 Q (lp_X3_text_215 Q n) l3 w
def wl_X3_text_137 (Q : Int32 → Wd → Prop) (R137 : Int32 → Wd → Prop) (l3 : Int32) (w : Wd) : Prop := ((iz 64) ≤ l3 → inb (iz 4) 5 ∧ inb (gI w 88) 5 ∧ (∀ w1, w1 = sA w 84 (gI w 88).toInt (gA w 84 (iz 4).toInt) → ∀ w2, w2 = sI w1 88 ((gI w1 88) + (iz 1)) → Q ((gI w2 88) - (iz 1)) w2)) ∧ (¬ (iz 64) ≤ l3 → inb ((iz 256) + l3) 320 ∧ inb (((iz 64) * (gI w 88)) + l3) 320 ∧ (∀ w3, w3 = sA w 83 (((iz 64) * (gI w 88)) + l3).toInt (gA w 83 ((iz 256) + l3).toInt) → R137 (l3 + iz 1) w3))
def lp_X3_text_137 (Q : Int32 → Wd → Prop) : Nat → Int32 → Wd → Prop
  | 0, _, _ => False
  | n + 1, l3, w => wl_X3_text_137 Q (lp_X3_text_137 Q n) l3 w
def wl_X3_text_71 (Q : Int32 → Wd → Prop) (l2 : Int32) (R71 : Int32 → Wd → Prop) (l3 : Int32) (w : Wd) : Prop := (l2 ≤ l3 → inb (gI w 67) 4 ∧ (∀ w1, w1 = sA w 63 (gI w 67).toInt l2 → ∀ w2, w2 = sI w1 67 ((gI w1 67) + (iz 1)) → Q ((gI w2 67) - (iz 1)) w2)) ∧ (¬ l2 ≤ l3 → inb l3 240 ∧ inb (((iz 240) * (gI w 67)) + l3) 960 ∧ (∀ w3, w3 = sA w 62 (((iz 240) * (gI w 67)) + l3).toInt ((gA w 61 l3.toInt)).toInt8.toInt32 → R71 (l3 + iz 1) w3))
def lp_X3_text_71 (Q : Int32 → Wd → Prop) (l2 : Int32) : Nat → Int32 → Wd → Prop
  | 0, _, _ => False
  | n + 1, l3, w => wl_X3_text_71 Q l2 (lp_X3_text_71 Q l2 n) l3 w
def b_X3_text_43 (Q : Int32 → Wd → Prop) (l1 : Int32) (w : Wd) : Prop := wp_X3_fault l1 w (fun r1 w2 => (r1 = (iz (-1)) → ∀ w3, w3 = sI w2 66 (iz 0) → (¬ l1 = (iz 1) → (¬ l1 = (iz 2) → ∀ w4, w4 = sI w3 85 (gI w3 86) → ∃ n5, lp_X3_text_215 Q n5 (iz 0) w4) ∧ (l1 = (iz 2) → ∃ n6, lp_X3_text_137 Q n6 (iz 0) w3)) ∧ (l1 = (iz 1) → ∃ n7, lp_X3_text_71 Q (gI w2 66) n7 (iz 0) w3)) ∧ (¬ r1 = (iz (-1)) → Q (iz (-1)) w2))
def b_X3_text_30 (Q : Int32 → Wd → Prop) (l1 : Int32) (w : Wd) : Prop := (¬ l1 = (iz 2) → b_X3_text_43 Q l1 w) ∧ (l1 = (iz 2) → ((gI w 88) = (iz 4) → Q (iz (-1)) w) ∧ (¬ (gI w 88) = (iz 4) → b_X3_text_43 Q l1 w))
def wp_X3_text (l1 : Int32) (w : Wd) (Q : Int32 → Wd → Prop) : Prop := ∀ w1, w1 = sI w 60 (iz 0) → wp_X3_isIn ((l1).toInt64) (lz 0) (lz 2) w1 (fun r2 w3 => (r2 = iz 0 → Q (iz (-1)) w3) ∧ (¬ r2 = iz 0 → (¬ l1 = (iz 1) → b_X3_text_30 Q l1 w3) ∧ (l1 = (iz 1) → ((gI w3 67) = (iz 4) → Q (iz (-1)) w3) ∧ (¬ (gI w3 67) = (iz 4) → b_X3_text_30 Q l1 w3))))
set_option maxRecDepth 100000 in
set_option maxHeartbeats 4000000 in
theorem sl_X3_text_310 {γ : GG} (Q : Int32 → Wd → Prop) (R299 : Int32 → Wd → Prop) (l3 : Int32) (hR299 : ∀ (l3 : Int32) (w : Wd), R299 l3 w → Rch γ 72 k_X3_text 299 [some (.ref 2), none, none, some (.int l3), none] [] w (qI Q) xN) : ∀ (n : Nat) (l4 : Int32) (w : Wd), lp_X3_text_310 Q R299 l3 n l4 w → Rch γ 72 k_X3_text 310 [some (.ref 2), none, none, some (.int l3), some (.int l4)] [] w (qI Q) xN := by
  intro n
  induction n with
  | zero => intro _ _ h; exact h.elim
  | succ n hR310 =>
    intro l4 w h
    have h : wl_X3_text_310 Q R299 l3 (lp_X3_text_310 Q R299 l3 n) l4 w := h
    unfold wl_X3_text_310 at h
    refine R.iload 312 dX3_text_310 rfl rfl ?_
    refine R.iconst 313 dX3_text_312 rfl ?_
    refine R.icmp_ge 351 316 dX3_text_313 (by decide) rfl (fun hc => ?_) (fun hc => ?_)
    · replace h := h.1 hc
      refine R.inc3 354 dX3_text_351 rfl (Nat.le_of_ble_eq_true rfl) rfl ?_
      refine R.goto 299 dX3_text_354 (by decide) ?_
      exact Rch.dropk (hR299 _ _ h) ⟨rfl, ⟨rfl, trivial⟩⟩
    · replace h := h.2 hc
      refine R.aload_n 317 dX3_text_316 rfl rfl ?_
      refine gf_90 320 dX3_text_317 rfl rfl ?_
      refine R.iconst 321 dX3_text_320 rfl ?_
      refine R.aload_n 322 dX3_text_321 rfl rfl ?_
      refine gf_87 325 dX3_text_322 rfl rfl ?_
      refine R.iconst 326 dX3_text_325 rfl ?_
      refine R.isub 327 dX3_text_326 rfl ?_
      refine R.iload_n 328 dX3_text_327 rfl rfl ?_
      refine R.isub 329 dX3_text_328 rfl ?_
      refine R.imul 330 dX3_text_329 rfl ?_
      refine R.iload 332 dX3_text_330 rfl rfl ?_
      refine R.iadd 333 dX3_text_332 rfl ?_
      refine R.aload_n 334 dX3_text_333 rfl rfl ?_
      refine gf_82 337 dX3_text_334 rfl rfl ?_
      refine R.iconst 338 dX3_text_337 rfl ?_
      refine R.iload_n 339 dX3_text_338 rfl rfl ?_
      refine R.imul 340 dX3_text_339 rfl ?_
      refine R.iload 342 dX3_text_340 rfl rfl ?_
      refine R.iadd 343 dX3_text_342 rfl ?_
      obtain ⟨hb, h⟩ := h
      refine R.iald ar_82 344 dX3_text_343 rfl hb ?_
      obtain ⟨hb, h⟩ := h
      replace h := h _ rfl
      refine R.iast ar_90 345 dX3_text_344 rfl hb ?_
      refine R.inc4 348 dX3_text_345 rfl (Nat.le_of_ble_eq_true rfl) rfl ?_
      refine R.goto 310 dX3_text_348 (by decide) ?_
      exact Rch.dropk (hR310 _ _ h) ⟨rfl, ⟨rfl, ⟨rfl, trivial⟩⟩⟩
set_option maxRecDepth 100000 in
set_option maxHeartbeats 4000000 in
theorem sl_X3_text_299 {γ : GG} (Q : Int32 → Wd → Prop) : ∀ (n : Nat) (l3 : Int32) (w : Wd), lp_X3_text_299 Q n l3 w → Rch γ 72 k_X3_text 299 [some (.ref 2), none, none, some (.int l3), none] [] w (qI Q) xN := by
  intro n
  induction n with
  | zero => intro _ _ h; exact h.elim
  | succ n hR299 =>
    intro l3 w h
    have h : wl_X3_text_299 Q (lp_X3_text_299 Q n) l3 w := h
    unfold wl_X3_text_299 at h
    refine R.iload_n 300 dX3_text_299 rfl rfl ?_
    refine R.aload_n 301 dX3_text_300 rfl rfl ?_
    refine gf_87 304 dX3_text_301 rfl rfl ?_
    refine R.icmp_ge 357 307 dX3_text_304 (by decide) rfl (fun hc => ?_) (fun hc => ?_)
    · replace h := h.1 hc
      refine R.aload_n 358 dX3_text_357 rfl rfl ?_
      refine R.iconst 359 dX3_text_358 rfl ?_
      replace h := h _ rfl
      refine pf_103 _ 362 dX3_text_359 rfl rfl ?_
      refine R.aload_n 363 dX3_text_362 rfl rfl ?_
      refine R.iconst 364 dX3_text_363 rfl ?_
      replace h := h _ rfl
      refine pf_110 _ 367 dX3_text_364 rfl rfl ?_
      refine R.aload_n 368 dX3_text_367 rfl rfl ?_
      refine R.iconst 369 dX3_text_368 rfl ?_
      replace h := h _ rfl
      refine pf_97 _ 372 dX3_text_369 rfl rfl ?_
      refine R.aload_n 373 dX3_text_372 rfl rfl ?_
      refine R.iconst 374 dX3_text_373 rfl ?_
      replace h := h _ rfl
      refine pf_115 _ 377 dX3_text_374 rfl rfl zok0 ?_
      refine R.aload_n 378 dX3_text_377 rfl rfl ?_
      refine gf_85 381 dX3_text_378 rfl rfl ?_
      exact R.retI dX3_text_381 rfl h
    · replace h := h.2 hc
      refine R.iconst 308 dX3_text_307 rfl ?_
      refine R.ist4 310 dX3_text_308 rfl (Nat.le_of_ble_eq_true rfl) rfl ?_
      obtain ⟨n5, h⟩ := h
      exact Rch.dropk (sl_X3_text_310 Q _ _ hR299 n5 _ _ h) ⟨rfl, ⟨rfl, ⟨rfl, trivial⟩⟩⟩
set_option maxRecDepth 100000 in
set_option maxHeartbeats 4000000 in
theorem sl_X3_text_266 {γ : GG} (Q : Int32 → Wd → Prop) : ∀ (n : Nat) (l3 : Int32) (w : Wd), lp_X3_text_266 Q n l3 w → Rch γ 72 k_X3_text 266 [some (.ref 2), none, none, some (.int l3), none] [] w (qI Q) xN := by
  intro n
  induction n with
  | zero => intro _ _ h; exact h.elim
  | succ n hR266 =>
    intro l3 w h
    have h : wl_X3_text_266 Q (lp_X3_text_266 Q n) l3 w := h
    unfold wl_X3_text_266 at h
    refine R.iload_n 267 dX3_text_266 rfl rfl ?_
    refine R.sipush 270 dX3_text_267 rfl (by decide +kernel) ?_
    refine R.icmp_ge 286 273 dX3_text_270 (by decide) rfl (fun hc => ?_) (fun hc => ?_)
    · replace h := h.1 hc
      refine R.aload_n 287 dX3_text_286 rfl rfl ?_
      refine gf_90 290 dX3_text_287 rfl rfl ?_
      refine R.bipush 292 dX3_text_290 rfl (by decide +kernel) ?_
      refine R.aload_n 293 dX3_text_292 rfl rfl ?_
      refine gf_87 296 dX3_text_293 rfl rfl ?_
      obtain ⟨hb, h⟩ := h
      replace h := h _ rfl
      refine R.iast ar_90 297 dX3_text_296 rfl hb ?_
      refine R.iconst 298 dX3_text_297 rfl ?_
      refine R.ist3n 299 dX3_text_298 rfl (Nat.le_of_ble_eq_true rfl) rfl ?_
      obtain ⟨n2, h⟩ := h
      exact Rch.dropk (sl_X3_text_299 Q n2 _ _ h) ⟨rfl, ⟨rfl, trivial⟩⟩
    · replace h := h.2 hc
      refine R.aload_n 274 dX3_text_273 rfl rfl ?_
      refine gf_90 277 dX3_text_274 rfl rfl ?_
      refine R.iload_n 278 dX3_text_277 rfl rfl ?_
      refine R.iconst 279 dX3_text_278 rfl ?_
      obtain ⟨hb, h⟩ := h
      replace h := h _ rfl
      refine R.iast ar_90 280 dX3_text_279 rfl hb ?_
      refine R.inc3 283 dX3_text_280 rfl (Nat.le_of_ble_eq_true rfl) rfl ?_
      refine R.goto 266 dX3_text_283 (by decide) ?_
      exact Rch.dropk (hR266 _ _ h) ⟨rfl, ⟨rfl, trivial⟩⟩
set_option maxRecDepth 100000 in
set_option maxHeartbeats 4000000 in
theorem sl_X3_text_240 {γ : GG} (Q : Int32 → Wd → Prop) : ∀ (n : Nat) (l3 : Int32) (w : Wd), lp_X3_text_240 Q n l3 w → Rch γ 72 k_X3_text 240 [some (.ref 2), none, none, some (.int l3), none] [] w (qI Q) xN := by
  intro n
  induction n with
  | zero => intro _ _ h; exact h.elim
  | succ n hR240 =>
    intro l3 w h
    have h : wl_X3_text_240 Q (lp_X3_text_240 Q n) l3 w := h
    unfold wl_X3_text_240 at h
    refine R.iload_n 241 dX3_text_240 rfl rfl ?_
    refine R.bipush 243 dX3_text_241 rfl (by decide +kernel) ?_
    refine R.icmp_ge 264 246 dX3_text_243 (by decide) rfl (fun hc => ?_) (fun hc => ?_)
    · replace h := h.1 hc
      refine R.iconst 265 dX3_text_264 rfl ?_
      refine R.ist3n 266 dX3_text_265 rfl (Nat.le_of_ble_eq_true rfl) rfl ?_
      obtain ⟨n1, h⟩ := h
      exact Rch.dropk (sl_X3_text_266 Q n1 _ _ h) ⟨rfl, ⟨rfl, trivial⟩⟩
    · replace h := h.2 hc
      refine R.aload_n 247 dX3_text_246 rfl rfl ?_
      refine gf_80 250 dX3_text_247 rfl rfl ?_
      refine R.iload_n 251 dX3_text_250 rfl rfl ?_
      refine R.aload_n 252 dX3_text_251 rfl rfl ?_
      refine gf_81 255 dX3_text_252 rfl rfl ?_
      refine R.iload_n 256 dX3_text_255 rfl rfl ?_
      obtain ⟨hb, h⟩ := h
      refine R.iald ar_81 257 dX3_text_256 rfl hb ?_
      obtain ⟨hb, h⟩ := h
      replace h := h _ rfl
      refine R.iast ar_80 258 dX3_text_257 rfl hb ?_
      refine R.inc3 261 dX3_text_258 rfl (Nat.le_of_ble_eq_true rfl) rfl ?_
      refine R.goto 240 dX3_text_261 (by decide) ?_
      exact Rch.dropk (hR240 _ _ h) ⟨rfl, ⟨rfl, trivial⟩⟩
set_option maxRecDepth 100000 in
set_option maxHeartbeats 4000000 in
theorem sl_X3_text_215 {γ : GG} (Q : Int32 → Wd → Prop) : ∀ (n : Nat) (l3 : Int32) (w : Wd), lp_X3_text_215 Q n l3 w → Rch γ 72 k_X3_text 215 [some (.ref 2), none, none, some (.int l3), none] [] w (qI Q) xN := by
  intro n
  induction n with
  | zero => intro _ _ h; exact h.elim
  | succ n hR215 =>
    intro l3 w h
    have h : wl_X3_text_215 Q (lp_X3_text_215 Q n) l3 w := h
    unfold wl_X3_text_215 at h
    refine R.iload_n 216 dX3_text_215 rfl rfl ?_
    refine R.iconst 217 dX3_text_216 rfl ?_
    refine R.icmp_ge 238 220 dX3_text_217 (by decide) rfl (fun hc => ?_) (fun hc => ?_)
    · replace h := h.1 hc
      refine R.iconst 239 dX3_text_238 rfl ?_
      refine R.ist3n 240 dX3_text_239 rfl (Nat.le_of_ble_eq_true rfl) rfl ?_
      obtain ⟨n1, h⟩ := h
      exact Rch.dropk (sl_X3_text_240 Q n1 _ _ h) ⟨rfl, ⟨rfl, trivial⟩⟩
    · replace h := h.2 hc
      refine R.aload_n 221 dX3_text_220 rfl rfl ?_
      refine gf_78 224 dX3_text_221 rfl rfl ?_
      refine R.iload_n 225 dX3_text_224 rfl rfl ?_
      refine R.aload_n 226 dX3_text_225 rfl rfl ?_
      refine gf_79 229 dX3_text_226 rfl rfl ?_
      refine R.iload_n 230 dX3_text_229 rfl rfl ?_
      obtain ⟨hb, h⟩ := h
      refine R.iald ar_79 231 dX3_text_230 rfl hb ?_
      obtain ⟨hb, h⟩ := h
      replace h := h _ rfl
      refine R.iast ar_78 232 dX3_text_231 rfl hb ?_
      refine R.inc3 235 dX3_text_232 rfl (Nat.le_of_ble_eq_true rfl) rfl ?_
      refine R.goto 215 dX3_text_235 (by decide) ?_
      exact Rch.dropk (hR215 _ _ h) ⟨rfl, ⟨rfl, trivial⟩⟩
set_option maxRecDepth 100000 in
set_option maxHeartbeats 4000000 in
theorem sl_X3_text_137 {γ : GG} (Q : Int32 → Wd → Prop) : ∀ (n : Nat) (l3 : Int32) (w : Wd), lp_X3_text_137 Q n l3 w → Rch γ 72 k_X3_text 137 [some (.ref 2), none, none, some (.int l3), none] [] w (qI Q) xN := by
  intro n
  induction n with
  | zero => intro _ _ h; exact h.elim
  | succ n hR137 =>
    intro l3 w h
    have h : wl_X3_text_137 Q (lp_X3_text_137 Q n) l3 w := h
    unfold wl_X3_text_137 at h
    refine R.iload_n 138 dX3_text_137 rfl rfl ?_
    refine R.bipush 140 dX3_text_138 rfl (by decide +kernel) ?_
    refine R.icmp_ge 173 143 dX3_text_140 (by decide) rfl (fun hc => ?_) (fun hc => ?_)
    · replace h := h.1 hc
      refine R.aload_n 174 dX3_text_173 rfl rfl ?_
      refine gf_84 177 dX3_text_174 rfl rfl ?_
      refine R.aload_n 178 dX3_text_177 rfl rfl ?_
      refine gf_88 181 dX3_text_178 rfl rfl ?_
      refine R.aload_n 182 dX3_text_181 rfl rfl ?_
      refine gf_84 185 dX3_text_182 rfl rfl ?_
      refine R.iconst 186 dX3_text_185 rfl ?_
      obtain ⟨hb, h⟩ := h
      refine R.iald ar_84 187 dX3_text_186 rfl hb ?_
      obtain ⟨hb, h⟩ := h
      replace h := h _ rfl
      refine R.iast ar_84 188 dX3_text_187 rfl hb ?_
      refine R.aload_n 189 dX3_text_188 rfl rfl ?_
      refine R.dupR 190 dX3_text_189 rfl ?_
      refine gf_88 193 dX3_text_190 rfl rfl ?_
      refine R.iconst 194 dX3_text_193 rfl ?_
      refine R.iadd 195 dX3_text_194 rfl ?_
      replace h := h _ rfl
      refine pf_88 _ 198 dX3_text_195 rfl rfl ?_
      refine R.aload_n 199 dX3_text_198 rfl rfl ?_
      refine gf_88 202 dX3_text_199 rfl rfl ?_
      refine R.iconst 203 dX3_text_202 rfl ?_
      refine R.isub 204 dX3_text_203 rfl ?_
      exact R.retI dX3_text_204 rfl h
    · replace h := h.2 hc
      refine R.aload_n 144 dX3_text_143 rfl rfl ?_
      refine gf_83 147 dX3_text_144 rfl rfl ?_
      refine R.bipush 149 dX3_text_147 rfl (by decide +kernel) ?_
      refine R.aload_n 150 dX3_text_149 rfl rfl ?_
      refine gf_88 153 dX3_text_150 rfl rfl ?_
      refine R.imul 154 dX3_text_153 rfl ?_
      refine R.iload_n 155 dX3_text_154 rfl rfl ?_
      refine R.iadd 156 dX3_text_155 rfl ?_
      refine R.aload_n 157 dX3_text_156 rfl rfl ?_
      refine gf_83 160 dX3_text_157 rfl rfl ?_
      refine R.sipush 163 dX3_text_160 rfl (by decide +kernel) ?_
      refine R.iload_n 164 dX3_text_163 rfl rfl ?_
      refine R.iadd 165 dX3_text_164 rfl ?_
      obtain ⟨hb, h⟩ := h
      refine R.iald ar_83 166 dX3_text_165 rfl hb ?_
      obtain ⟨hb, h⟩ := h
      replace h := h _ rfl
      refine R.iast ar_83 167 dX3_text_166 rfl hb ?_
      refine R.inc3 170 dX3_text_167 rfl (Nat.le_of_ble_eq_true rfl) rfl ?_
      refine R.goto 137 dX3_text_170 (by decide) ?_
      exact Rch.dropk (hR137 _ _ h) ⟨rfl, ⟨rfl, trivial⟩⟩
set_option maxRecDepth 100000 in
set_option maxHeartbeats 4000000 in
theorem sl_X3_text_71 {γ : GG} (Q : Int32 → Wd → Prop) (l2 : Int32) : ∀ (n : Nat) (l3 : Int32) (w : Wd), lp_X3_text_71 Q l2 n l3 w → Rch γ 72 k_X3_text 71 [some (.ref 2), none, some (.int l2), some (.int l3), none] [] w (qI Q) xN := by
  intro n
  induction n with
  | zero => intro _ _ h; exact h.elim
  | succ n hR71 =>
    intro l3 w h
    have h : wl_X3_text_71 Q l2 (lp_X3_text_71 Q l2 n) l3 w := h
    unfold wl_X3_text_71 at h
    refine R.iload_n 72 dX3_text_71 rfl rfl ?_
    refine R.iload_n 73 dX3_text_72 rfl rfl ?_
    refine R.icmp_ge 103 76 dX3_text_73 (by decide) rfl (fun hc => ?_) (fun hc => ?_)
    · replace h := h.1 hc
      refine R.aload_n 104 dX3_text_103 rfl rfl ?_
      refine gf_63 107 dX3_text_104 rfl rfl ?_
      refine R.aload_n 108 dX3_text_107 rfl rfl ?_
      refine gf_67 111 dX3_text_108 rfl rfl ?_
      refine R.iload_n 112 dX3_text_111 rfl rfl ?_
      obtain ⟨hb, h⟩ := h
      replace h := h _ rfl
      refine R.iast ar_63 113 dX3_text_112 rfl hb ?_
      refine R.aload_n 114 dX3_text_113 rfl rfl ?_
      refine R.dupR 115 dX3_text_114 rfl ?_
      refine gf_67 118 dX3_text_115 rfl rfl ?_
      refine R.iconst 119 dX3_text_118 rfl ?_
      refine R.iadd 120 dX3_text_119 rfl ?_
      replace h := h _ rfl
      refine pf_67 _ 123 dX3_text_120 rfl rfl ?_
      refine R.aload_n 124 dX3_text_123 rfl rfl ?_
      refine gf_67 127 dX3_text_124 rfl rfl ?_
      refine R.iconst 128 dX3_text_127 rfl ?_
      refine R.isub 129 dX3_text_128 rfl ?_
      exact R.retI dX3_text_129 rfl h
    · replace h := h.2 hc
      refine R.aload_n 77 dX3_text_76 rfl rfl ?_
      refine gf_62 80 dX3_text_77 rfl rfl ?_
      refine R.sipush 83 dX3_text_80 rfl (by decide +kernel) ?_
      refine R.aload_n 84 dX3_text_83 rfl rfl ?_
      refine gf_67 87 dX3_text_84 rfl rfl ?_
      refine R.imul 88 dX3_text_87 rfl ?_
      refine R.iload_n 89 dX3_text_88 rfl rfl ?_
      refine R.iadd 90 dX3_text_89 rfl ?_
      refine R.aload_n 91 dX3_text_90 rfl rfl ?_
      refine gf_61 94 dX3_text_91 rfl rfl ?_
      refine R.iload_n 95 dX3_text_94 rfl rfl ?_
      obtain ⟨hb, h⟩ := h
      refine R.bald ar_61 96 dX3_text_95 rfl hb ?_
      obtain ⟨hb, h⟩ := h
      replace h := h _ rfl
      refine R.bast ar_62 97 dX3_text_96 rfl hb ?_
      refine R.inc3 100 dX3_text_97 rfl (Nat.le_of_ble_eq_true rfl) rfl ?_
      refine R.goto 71 dX3_text_100 (by decide) ?_
      exact Rch.dropk (hR71 _ _ h) ⟨rfl, ⟨rfl, ⟨rfl, trivial⟩⟩⟩
set_option maxRecDepth 100000 in
set_option maxHeartbeats 4000000 in
theorem s_X3_text_43 {γ : GG} (Q : Int32 → Wd → Prop) (l1 : Int32) : ∀ (w : Wd), b_X3_text_43 Q l1 w → Rch γ 72 k_X3_text 43 [some (.ref 2), some (.int l1), none, none, none] [] w (qI Q) xN := by
  intro w h
  unfold b_X3_text_43 at h
  refine R.aload_n 44 dX3_text_43 rfl rfl ?_
  refine R.iload_n 45 dX3_text_44 rfl rfl ?_
  refine Rch.callv (sd_X3_fault _ _ _ h) dX3_text_45 (lw_V q1563 q1422 q1423 q146 q1424) dk_X3_fault rcM (by decide) (Nat.le_of_ble_eq_true rfl) rfl rfl (Nat.le_of_ble_eq_true rfl) (kI 48 rfl fun r1 w2 h => ?_) kN
  refine R.iconst 49 dX3_text_48 rfl ?_
  refine R.icmp_eq 54 52 dX3_text_49 (by decide) rfl (fun hc => ?_) (fun hc => ?_)
  · replace h := h.1 hc
    refine R.aload_n 55 dX3_text_54 rfl rfl ?_
    refine gf_66 58 dX3_text_55 rfl rfl ?_
    refine R.ist2n 59 dX3_text_58 rfl (Nat.le_of_ble_eq_true rfl) rfl ?_
    refine R.aload_n 60 dX3_text_59 rfl rfl ?_
    refine R.iconst 61 dX3_text_60 rfl ?_
    replace h := h _ rfl
    refine pf_66 _ 64 dX3_text_61 rfl rfl ?_
    refine R.iload_n 65 dX3_text_64 rfl rfl ?_
    refine R.iconst 66 dX3_text_65 rfl ?_
    refine R.icmp_ne 130 69 dX3_text_66 (by decide) rfl (fun hc => ?_) (fun hc => ?_)
    · replace h := h.1 hc
      refine R.iload_n 131 dX3_text_130 rfl rfl ?_
      refine R.iconst 132 dX3_text_131 rfl ?_
      refine R.icmp_ne 205 135 dX3_text_132 (by decide) rfl (fun hc => ?_) (fun hc => ?_)
      · replace h := h.1 hc
        refine R.aload_n 206 dX3_text_205 rfl rfl ?_
        refine R.aload_n 207 dX3_text_206 rfl rfl ?_
        refine gf_86 210 dX3_text_207 rfl rfl ?_
        replace h := h _ rfl
        refine pf_85 _ 213 dX3_text_210 rfl rfl ?_
        refine R.iconst 214 dX3_text_213 rfl ?_
        refine R.ist3n 215 dX3_text_214 rfl (Nat.le_of_ble_eq_true rfl) rfl ?_
        obtain ⟨n5, h⟩ := h
        exact Rch.dropk (sl_X3_text_215 Q n5 _ _ h) ⟨rfl, ⟨rfl, trivial⟩⟩
      · replace h := h.2 hc
        refine R.iconst 136 dX3_text_135 rfl ?_
        refine R.ist3n 137 dX3_text_136 rfl (Nat.le_of_ble_eq_true rfl) rfl ?_
        obtain ⟨n6, h⟩ := h
        exact Rch.dropk (sl_X3_text_137 Q n6 _ _ h) ⟨rfl, ⟨rfl, trivial⟩⟩
    · replace h := h.2 hc
      refine R.iconst 70 dX3_text_69 rfl ?_
      refine R.ist3n 71 dX3_text_70 rfl (Nat.le_of_ble_eq_true rfl) rfl ?_
      obtain ⟨n7, h⟩ := h
      exact Rch.dropk (sl_X3_text_71 Q _ n7 _ _ h) ⟨rfl, ⟨rfl, ⟨rfl, trivial⟩⟩⟩
  · replace h := h.2 hc
    refine R.iconst 53 dX3_text_52 rfl ?_
    exact R.retI dX3_text_53 rfl h
set_option maxRecDepth 100000 in
set_option maxHeartbeats 4000000 in
theorem s_X3_text_30 {γ : GG} (Q : Int32 → Wd → Prop) (l1 : Int32) : ∀ (w : Wd), b_X3_text_30 Q l1 w → Rch γ 72 k_X3_text 30 [some (.ref 2), some (.int l1), none, none, none] [] w (qI Q) xN := by
  intro w h
  unfold b_X3_text_30 at h
  refine R.iload_n 31 dX3_text_30 rfl rfl ?_
  refine R.iconst 32 dX3_text_31 rfl ?_
  refine R.icmp_ne 43 35 dX3_text_32 (by decide) rfl (fun hc => ?_) (fun hc => ?_)
  · replace h := h.1 hc
    exact Rch.dropk (s_X3_text_43 Q _ _ h) ⟨rfl, ⟨rfl, trivial⟩⟩
  · replace h := h.2 hc
    refine R.aload_n 36 dX3_text_35 rfl rfl ?_
    refine gf_88 39 dX3_text_36 rfl rfl ?_
    refine R.iconst 40 dX3_text_39 rfl ?_
    refine R.icmp_eq 52 43 dX3_text_40 (by decide) rfl (fun hc => ?_) (fun hc => ?_)
    · replace h := h.1 hc
      refine R.iconst 53 dX3_text_52 rfl ?_
      exact R.retI dX3_text_53 rfl h
    · replace h := h.2 hc
      exact Rch.dropk (s_X3_text_43 Q _ _ h) ⟨rfl, ⟨rfl, trivial⟩⟩
set_option maxRecDepth 100000 in
set_option maxHeartbeats 4000000 in
theorem sd_X3_text {γ : GG} (l1 : Int32) (w : Wd) (Q : Int32 → Wd → Prop) : wp_X3_text l1 w Q → Ctr γ 72 yX3_text (ws_ yX3_text cX3_text 5 (some .int)) [.ref 2, .int l1] w (qI Q) xN := by
  intro h
  unfold wp_X3_text at h
  refine Ctr.of (μ := k_X3_text) (by decide) rfl rfl rfl (Nat.le_of_ble_eq_true rfl) ⟨3, ?_⟩
  have es : lva [.ref 2, .int l1] ++ List.replicate 3 none = [some (.ref 2), some (.int l1), none, none, none] := rfl
  rw [es]
  refine R.aload_n 1 dX3_text_0 rfl rfl ?_
  refine R.iconst 2 dX3_text_1 rfl ?_
  replace h := h _ rfl
  refine pf_60 _ 5 dX3_text_2 rfl rfl ?_
  refine R.iload_n 6 dX3_text_5 rfl rfl ?_
  refine R.i2l 7 dX3_text_6 rfl ?_
  refine R.lconst (m0 := 0) 8 dX3_text_7 rfl (by decide +kernel) ?_
  refine R.ldc2 (n := 2) 11 dX3_text_8 rfl q1425 (by decide +kernel) ?_
  refine Rch.calls (sd_X3_isIn _ _ _ _ _ h) dX3_text_11 (lw_S q1426 q1427 q146 q1428) dk_X3_isIn (by decide) (Nat.le_of_ble_eq_true rfl) rfl rfl (Nat.le_of_ble_eq_true rfl) (kI 14 rfl fun r2 w3 h => ?_) kN
  refine R.if_eq 52 17 dX3_text_14 (by decide) rfl (fun hc => ?_) (fun hc => ?_)
  · replace h := h.1 hc
    refine R.iconst 53 dX3_text_52 rfl ?_
    exact R.retI dX3_text_53 rfl h
  · replace h := h.2 hc
    refine R.iload_n 18 dX3_text_17 rfl rfl ?_
    refine R.iconst 19 dX3_text_18 rfl ?_
    refine R.icmp_ne 30 22 dX3_text_19 (by decide) rfl (fun hc => ?_) (fun hc => ?_)
    · replace h := h.1 hc
      exact Rch.dropk (s_X3_text_30 Q _ _ h) ⟨rfl, ⟨rfl, trivial⟩⟩
    · replace h := h.2 hc
      refine R.aload_n 23 dX3_text_22 rfl rfl ?_
      refine gf_67 26 dX3_text_23 rfl rfl ?_
      refine R.iconst 27 dX3_text_26 rfl ?_
      refine R.icmp_eq 52 30 dX3_text_27 (by decide) rfl (fun hc => ?_) (fun hc => ?_)
      · replace h := h.1 hc
        refine R.iconst 53 dX3_text_52 rfl ?_
        exact R.retI dX3_text_53 rfl h
      · replace h := h.2 hc
        exact Rch.dropk (s_X3_text_30 Q _ _ h) ⟨rfl, ⟨rfl, trivial⟩⟩

abbrev k_X3_rule : MK := ("FrostBoxModel", cX3_rule, 2, (some .int), [], "rule")
def wp_X3_rule (l1 : Int32) (w : Wd) (Q : Int32 → Wd → Prop) : Prop := ∀ w1, w1 = sI w 60 (iz 0) → ((gI w1 85) ≤ iz 0 → Q (iz (-1)) w1) ∧ (¬ (gI w1 85) ≤ iz 0 → wp_X3_isIn ((l1).toInt64) (lz 0) (lz 3) w1 (fun r2 w3 => (r2 = iz 0 → Q (iz (-1)) w3) ∧ (¬ r2 = iz 0 → inb l1 4 ∧ Q (gA w3 78 l1.toInt) w3)))
set_option maxRecDepth 100000 in
set_option maxHeartbeats 4000000 in
theorem sd_X3_rule {γ : GG} (l1 : Int32) (w : Wd) (Q : Int32 → Wd → Prop) : wp_X3_rule l1 w Q → Ctr γ 2 yX3_rule (ws_ yX3_rule cX3_rule 2 (some .int)) [.ref 2, .int l1] w (qI Q) xN := by
  intro h
  unfold wp_X3_rule at h
  refine Ctr.of (μ := k_X3_rule) (by decide) rfl rfl rfl (Nat.le_of_ble_eq_true rfl) ⟨0, ?_⟩
  have es : lva [.ref 2, .int l1] ++ List.replicate 0 none = [some (.ref 2), some (.int l1)] := rfl
  rw [es]
  refine R.aload_n 1 dX3_rule_0 rfl rfl ?_
  refine R.iconst 2 dX3_rule_1 rfl ?_
  replace h := h _ rfl
  refine pf_60 _ 5 dX3_rule_2 rfl rfl ?_
  refine R.aload_n 6 dX3_rule_5 rfl rfl ?_
  refine gf_85 9 dX3_rule_6 rfl rfl ?_
  refine R.if_le 33 12 dX3_rule_9 (by decide) rfl (fun hc => ?_) (fun hc => ?_)
  · replace h := h.1 hc
    refine R.iconst 34 dX3_rule_33 rfl ?_
    exact R.retI dX3_rule_34 rfl h
  · replace h := h.2 hc
    refine R.iload_n 13 dX3_rule_12 rfl rfl ?_
    refine R.i2l 14 dX3_rule_13 rfl ?_
    refine R.lconst (m0 := 0) 15 dX3_rule_14 rfl (by decide +kernel) ?_
    refine R.ldc2 (n := 3) 18 dX3_rule_15 rfl q1568 (by decide +kernel) ?_
    refine Rch.calls (sd_X3_isIn _ _ _ _ _ h) dX3_rule_18 (lw_S q1426 q1427 q146 q1428) dk_X3_isIn (by decide) (Nat.le_of_ble_eq_true rfl) rfl rfl (Nat.le_of_ble_eq_true rfl) (kI 21 rfl fun r2 w3 h => ?_) kN
    refine R.if_eq 33 24 dX3_rule_21 (by decide) rfl (fun hc => ?_) (fun hc => ?_)
    · replace h := h.1 hc
      refine R.iconst 34 dX3_rule_33 rfl ?_
      exact R.retI dX3_rule_34 rfl h
    · replace h := h.2 hc
      refine R.aload_n 25 dX3_rule_24 rfl rfl ?_
      refine gf_78 28 dX3_rule_25 rfl rfl ?_
      refine R.iload_n 29 dX3_rule_28 rfl rfl ?_
      obtain ⟨hb, h⟩ := h
      refine R.iald ar_78 30 dX3_rule_29 rfl hb ?_
      refine R.goto 34 dX3_rule_30 (by decide) ?_
      exact R.retI dX3_rule_34 rfl h

abbrev k_X3_isKind : MK := ("FrostBoxModel", cX3_isKind, 2, (some .boolean), [], "isKind")
def wp_X3_isKind (l1 : Int32) (w : Wd) (Q : Int32 → Wd → Prop) : Prop := (l1 < iz 0 → Q (iz 0) w) ∧ (¬ l1 < iz 0 → ((gI w 85) ≤ l1 → Q (iz 0) w) ∧ (¬ (gI w 85) ≤ l1 → Q (iz 1) w))
set_option maxRecDepth 100000 in
set_option maxHeartbeats 4000000 in
theorem sd_X3_isKind {γ : GG} (l1 : Int32) (w : Wd) (Q : Int32 → Wd → Prop) : wp_X3_isKind l1 w Q → Ctr γ 1 yX3_isKind (ws_ yX3_isKind cX3_isKind 2 (some .boolean)) [.ref 2, .int l1] w (qI Q) xN := by
  intro h
  unfold wp_X3_isKind at h
  refine Ctr.of (μ := k_X3_isKind) (by decide) rfl rfl rfl (Nat.le_of_ble_eq_true rfl) ⟨0, ?_⟩
  have es : lva [.ref 2, .int l1] ++ List.replicate 0 none = [some (.ref 2), some (.int l1)] := rfl
  rw [es]
  refine R.iload_n 1 dX3_isKind_0 rfl rfl ?_
  refine R.if_lt 16 4 dX3_isKind_1 (by decide) rfl (fun hc => ?_) (fun hc => ?_)
  · replace h := h.1 hc
    refine R.iconst 17 dX3_isKind_16 rfl ?_
    exact R.retZ dX3_isKind_17 rfl zok0 h
  · replace h := h.2 hc
    refine R.iload_n 5 dX3_isKind_4 rfl rfl ?_
    refine R.aload_n 6 dX3_isKind_5 rfl rfl ?_
    refine gf_85 9 dX3_isKind_6 rfl rfl ?_
    refine R.icmp_ge 16 12 dX3_isKind_9 (by decide) rfl (fun hc => ?_) (fun hc => ?_)
    · replace h := h.1 hc
      refine R.iconst 17 dX3_isKind_16 rfl ?_
      exact R.retZ dX3_isKind_17 rfl zok0 h
    · replace h := h.2 hc
      refine R.iconst 13 dX3_isKind_12 rfl ?_
      refine R.goto 17 dX3_isKind_13 (by decide) ?_
      exact R.retZ dX3_isKind_17 rfl zok1 h

abbrev k_X3_told : MK := ("FrostBoxModel", cX3_told, 3, (some .int), [], "told")
def wp_X3_told (l1 : Int32) (l2 : Int32) (w : Wd) (Q : Int32 → Wd → Prop) : Prop := inb (((iz 5) * l1) + l2) 30 ∧ Q (gA w 80 (((iz 5) * l1) + l2).toInt) w
set_option maxRecDepth 100000 in
set_option maxHeartbeats 4000000 in
theorem sd_X3_told {γ : GG} (l1 : Int32) (l2 : Int32) (w : Wd) (Q : Int32 → Wd → Prop) : wp_X3_told l1 l2 w Q → Ctr γ 1 yX3_told (ws_ yX3_told cX3_told 3 (some .int)) [.ref 2, .int l1, .int l2] w (qI Q) xN := by
  intro h
  unfold wp_X3_told at h
  refine Ctr.of (μ := k_X3_told) (by decide) rfl rfl rfl (Nat.le_of_ble_eq_true rfl) ⟨0, ?_⟩
  have es : lva [.ref 2, .int l1, .int l2] ++ List.replicate 0 none = [some (.ref 2), some (.int l1), some (.int l2)] := rfl
  rw [es]
  refine R.aload_n 1 dX3_told_0 rfl rfl ?_
  refine gf_80 4 dX3_told_1 rfl rfl ?_
  refine R.iconst 5 dX3_told_4 rfl ?_
  refine R.iload_n 6 dX3_told_5 rfl rfl ?_
  refine R.imul 7 dX3_told_6 rfl ?_
  refine R.iload_n 8 dX3_told_7 rfl rfl ?_
  refine R.iadd 9 dX3_told_8 rfl ?_
  obtain ⟨hb, h⟩ := h
  refine R.iald ar_80 10 dX3_told_9 rfl hb ?_
  exact R.retI dX3_told_10 rfl h

abbrev k_X3_kind : MK := ("FrostBoxModel", cX3_kind, 3, (some .int), [], "kind")
def wp_X3_kind (l1 : Int32) (l2 : Int32) (w : Wd) (Q : Int32 → Wd → Prop) : Prop := ∀ w1, w1 = sI w 60 (iz 0) → wp_X3_isKind l1 w1 (fun r2 w3 => (r2 = iz 0 → Q (iz (-1)) w3) ∧ (¬ r2 = iz 0 → wp_X3_isIn ((l2).toInt64) (lz 0) (lz 4) w3 (fun r4 w5 => (¬ r4 = iz 0 → (¬ l2 = (iz 4) → wp_X3_told l1 l2 w5 (fun r6 w7 => Q r6 w7)) ∧ (l2 = (iz 4) → wp_X3_told l1 (iz 4) w5 (fun r8 w9 => (¬ r8 = (iz 6) → wp_X3_told l1 l2 w9 (fun r10 w11 => Q r10 w11)) ∧ (r8 = (iz 6) → Q (iz (-1)) w9)))) ∧ (r4 = iz 0 → Q (iz (-1)) w5))))
set_option maxRecDepth 100000 in
set_option maxHeartbeats 4000000 in
theorem sd_X3_kind {γ : GG} (l1 : Int32) (l2 : Int32) (w : Wd) (Q : Int32 → Wd → Prop) : wp_X3_kind l1 l2 w Q → Ctr γ 2 yX3_kind (ws_ yX3_kind cX3_kind 3 (some .int)) [.ref 2, .int l1, .int l2] w (qI Q) xN := by
  intro h
  unfold wp_X3_kind at h
  refine Ctr.of (μ := k_X3_kind) (by decide) rfl rfl rfl (Nat.le_of_ble_eq_true rfl) ⟨0, ?_⟩
  have es : lva [.ref 2, .int l1, .int l2] ++ List.replicate 0 none = [some (.ref 2), some (.int l1), some (.int l2)] := rfl
  rw [es]
  refine R.aload_n 1 dX3_kind_0 rfl rfl ?_
  refine R.iconst 2 dX3_kind_1 rfl ?_
  replace h := h _ rfl
  refine pf_60 _ 5 dX3_kind_2 rfl rfl ?_
  refine R.aload_n 6 dX3_kind_5 rfl rfl ?_
  refine R.iload_n 7 dX3_kind_6 rfl rfl ?_
  refine Rch.callv (sd_X3_isKind _ _ _ h) dX3_kind_7 (lw_V q1573 q1575 qs104 q146 q1576) dk_X3_isKind rcM (by decide) (Nat.le_of_ble_eq_true rfl) rfl rfl (Nat.le_of_ble_eq_true rfl) (kI 10 rfl fun r2 w3 h => ?_) kN
  refine R.if_eq 25 13 dX3_kind_10 (by decide) rfl (fun hc => ?_) (fun hc => ?_)
  · replace h := h.1 hc
    refine R.iconst 26 dX3_kind_25 rfl ?_
    exact R.retI dX3_kind_26 rfl h
  · replace h := h.2 hc
    refine R.iload_n 14 dX3_kind_13 rfl rfl ?_
    refine R.i2l 15 dX3_kind_14 rfl ?_
    refine R.lconst (m0 := 0) 16 dX3_kind_15 rfl (by decide +kernel) ?_
    refine R.ldc2 (n := 4) 19 dX3_kind_16 rfl q1577 (by decide +kernel) ?_
    refine Rch.calls (sd_X3_isIn _ _ _ _ _ h) dX3_kind_19 (lw_S q1426 q1427 q146 q1428) dk_X3_isIn (by decide) (Nat.le_of_ble_eq_true rfl) rfl rfl (Nat.le_of_ble_eq_true rfl) (kI 22 rfl fun r4 w5 h => ?_) kN
    refine R.if_ne 27 25 dX3_kind_22 (by decide) rfl (fun hc => ?_) (fun hc => ?_)
    · replace h := h.1 hc
      refine R.iload_n 28 dX3_kind_27 rfl rfl ?_
      refine R.iconst 29 dX3_kind_28 rfl ?_
      refine R.icmp_ne 47 32 dX3_kind_29 (by decide) rfl (fun hc => ?_) (fun hc => ?_)
      · replace h := h.1 hc
        refine R.aload_n 48 dX3_kind_47 rfl rfl ?_
        refine R.iload_n 49 dX3_kind_48 rfl rfl ?_
        refine R.iload_n 50 dX3_kind_49 rfl rfl ?_
        refine Rch.callv (sd_X3_told _ _ _ _ h) dX3_kind_50 (lw_V q1578 q1580 qs105 q146 q1581) dk_X3_told rcM (by decide) (Nat.le_of_ble_eq_true rfl) rfl rfl (Nat.le_of_ble_eq_true rfl) (kI 53 rfl fun r6 w7 h => ?_) kN
        exact R.retI dX3_kind_53 rfl h
      · replace h := h.2 hc
        refine R.aload_n 33 dX3_kind_32 rfl rfl ?_
        refine R.iload_n 34 dX3_kind_33 rfl rfl ?_
        refine R.iconst 35 dX3_kind_34 rfl ?_
        refine Rch.callv (sd_X3_told _ _ _ _ h) dX3_kind_35 (lw_V q1578 q1580 qs105 q146 q1581) dk_X3_told rcM (by decide) (Nat.le_of_ble_eq_true rfl) rfl rfl (Nat.le_of_ble_eq_true rfl) (kI 38 rfl fun r8 w9 h => ?_) kN
        refine R.bipush 40 dX3_kind_38 rfl (by decide +kernel) ?_
        refine R.icmp_ne 47 43 dX3_kind_40 (by decide) rfl (fun hc => ?_) (fun hc => ?_)
        · replace h := h.1 hc
          refine R.aload_n 48 dX3_kind_47 rfl rfl ?_
          refine R.iload_n 49 dX3_kind_48 rfl rfl ?_
          refine R.iload_n 50 dX3_kind_49 rfl rfl ?_
          refine Rch.callv (sd_X3_told _ _ _ _ h) dX3_kind_50 (lw_V q1578 q1580 qs105 q146 q1581) dk_X3_told rcM (by decide) (Nat.le_of_ble_eq_true rfl) rfl rfl (Nat.le_of_ble_eq_true rfl) (kI 53 rfl fun r10 w11 h => ?_) kN
          exact R.retI dX3_kind_53 rfl h
        · replace h := h.2 hc
          refine R.iconst 44 dX3_kind_43 rfl ?_
          refine R.goto 53 dX3_kind_44 (by decide) ?_
          exact R.retI dX3_kind_53 rfl h
    · replace h := h.2 hc
      refine R.iconst 26 dX3_kind_25 rfl ?_
      exact R.retI dX3_kind_26 rfl h

abbrev k_X3_isBox : MK := ("FrostBoxModel", cX3_isBox, 3, (some .boolean), [], "isBox")
def wp_X3_isBox (l1 : Nat) (l2 : Int32) (w : Wd) (Q : Int32 → Wd → Prop) : Prop := ((gI w 85) ≤ iz 0 → Q (iz 0) w) ∧ (¬ (gI w 85) ≤ iz 0 → (l2 < iz 0 → Q (iz 0) w) ∧ (¬ l2 < iz 0 → inA l1 (iz 40) ∧ ((gA w l1 (iz 40).toInt) ≤ l2 → Q (iz 0) w) ∧ (¬ (gA w l1 (iz 40).toInt) ≤ l2 → Q (iz 1) w)))
set_option maxRecDepth 100000 in
set_option maxHeartbeats 4000000 in
theorem sd_X3_isBox {γ : GG} (l1 : Nat) (l2 : Int32) (w : Wd) (Q : Int32 → Wd → Prop) : wp_X3_isBox l1 l2 w Q → Ctr γ 1 yX3_isBox (ws_ yX3_isBox cX3_isBox 3 (some .boolean)) [.ref 2, .ref l1, .int l2] w (qI Q) xN := by
  intro h
  unfold wp_X3_isBox at h
  refine Ctr.of (μ := k_X3_isBox) (by decide) rfl rfl rfl (Nat.le_of_ble_eq_true rfl) ⟨0, ?_⟩
  have es : lva [.ref 2, .ref l1, .int l2] ++ List.replicate 0 none = [some (.ref 2), some (.ref l1), some (.int l2)] := rfl
  rw [es]
  refine R.aload_n 1 dX3_isBox_0 rfl rfl ?_
  refine gf_85 4 dX3_isBox_1 rfl rfl ?_
  refine R.if_le 23 7 dX3_isBox_4 (by decide) rfl (fun hc => ?_) (fun hc => ?_)
  · replace h := h.1 hc
    refine R.iconst 24 dX3_isBox_23 rfl ?_
    exact R.retZ dX3_isBox_24 rfl zok0 h
  · replace h := h.2 hc
    refine R.iload_n 8 dX3_isBox_7 rfl rfl ?_
    refine R.if_lt 23 11 dX3_isBox_8 (by decide) rfl (fun hc => ?_) (fun hc => ?_)
    · replace h := h.1 hc
      refine R.iconst 24 dX3_isBox_23 rfl ?_
      exact R.retZ dX3_isBox_24 rfl zok0 h
    · replace h := h.2 hc
      refine R.iload_n 12 dX3_isBox_11 rfl rfl ?_
      refine R.aload_n 13 dX3_isBox_12 rfl rfl ?_
      refine R.bipush 15 dX3_isBox_13 rfl (by decide +kernel) ?_
      obtain ⟨hb, h⟩ := h
      refine R.iaA 16 dX3_isBox_15 rfl hb ?_
      refine R.icmp_ge 23 19 dX3_isBox_16 (by decide) rfl (fun hc => ?_) (fun hc => ?_)
      · replace h := h.1 hc
        refine R.iconst 24 dX3_isBox_23 rfl ?_
        exact R.retZ dX3_isBox_24 rfl zok0 h
      · replace h := h.2 hc
        refine R.iconst 20 dX3_isBox_19 rfl ?_
        refine R.goto 24 dX3_isBox_20 (by decide) ?_
        exact R.retZ dX3_isBox_24 rfl zok1 h

abbrev k_X3_worthNow : MK := ("FrostBoxModel", cX3_worthNow, 4, (some .int), [], "worthNow")
def wp_X3_worthNow (w : Wd) (Q : Int32 → Wd → Prop) : Prop := inb (iz 109) 128 ∧ inb (iz 97) 128 ∧ inb (iz 111) 128 ∧ inb (iz 110) 128 ∧ inb (iz 121) 128 ∧ inb (iz 107) 128 ∧ inb ((((((lz 5) * (((lz 10) * (((lz 10) * (((lz 10) * (((lz 40) * (((lz 100) * ((gA w 64 (iz 109).toInt)).toInt64) + ((gA w 64 (iz 97).toInt)).toInt64)) + ((gA w 64 (iz 111).toInt)).toInt64)) + ((gA w 64 (iz 110).toInt)).toInt64)) + ((gA w 64 (iz 121).toInt)).toInt64)) + ((gA w 64 (iz 107).toInt)).toInt64)) + ((gI w 92)).toInt64) + (lz 1)) - ((((lz 5) * (((lz 10) * (((lz 10) * (((lz 10) * (((lz 40) * (((lz 100) * ((gA w 64 (iz 109).toInt)).toInt64) + ((gA w 64 (iz 97).toInt)).toInt64)) + ((gA w 64 (iz 111).toInt)).toInt64)) + ((gA w 64 (iz 110).toInt)).toInt64)) + ((gA w 64 (iz 121).toInt)).toInt64)) + ((gA w 64 (iz 107).toInt)).toInt64)) + ((gI w 92)).toInt64) + (lz 1)) / (lz 8191) * (lz 8191))).toInt32 8191 ∧ (¬ (lg_cmp (gL w 94 ((((((lz 5) * (((lz 10) * (((lz 10) * (((lz 10) * (((lz 40) * (((lz 100) * ((gA w 64 (iz 109).toInt)).toInt64) + ((gA w 64 (iz 97).toInt)).toInt64)) + ((gA w 64 (iz 111).toInt)).toInt64)) + ((gA w 64 (iz 110).toInt)).toInt64)) + ((gA w 64 (iz 121).toInt)).toInt64)) + ((gA w 64 (iz 107).toInt)).toInt64)) + ((gI w 92)).toInt64) + (lz 1)) - ((((lz 5) * (((lz 10) * (((lz 10) * (((lz 10) * (((lz 40) * (((lz 100) * ((gA w 64 (iz 109).toInt)).toInt64) + ((gA w 64 (iz 97).toInt)).toInt64)) + ((gA w 64 (iz 111).toInt)).toInt64)) + ((gA w 64 (iz 110).toInt)).toInt64)) + ((gA w 64 (iz 121).toInt)).toInt64)) + ((gA w 64 (iz 107).toInt)).toInt64)) + ((gI w 92)).toInt64) + (lz 1)) / (lz 8191) * (lz 8191))).toInt32.toInt) ((((lz 5) * (((lz 10) * (((lz 10) * (((lz 10) * (((lz 40) * (((lz 100) * ((gA w 64 (iz 109).toInt)).toInt64) + ((gA w 64 (iz 97).toInt)).toInt64)) + ((gA w 64 (iz 111).toInt)).toInt64)) + ((gA w 64 (iz 110).toInt)).toInt64)) + ((gA w 64 (iz 121).toInt)).toInt64)) + ((gA w 64 (iz 107).toInt)).toInt64)) + ((gI w 92)).toInt64) + (lz 1))) = iz 0 → inb (gI w 92) 4 ∧ wp_X3_goThrough 62 ((iz 240) * (gI w 92)) (gA w 63 (gI w 92).toInt) w (fun w2 => inb ((((((lz 5) * (((lz 10) * (((lz 10) * (((lz 10) * (((lz 40) * (((lz 100) * ((gA w 64 (iz 109).toInt)).toInt64) + ((gA w 64 (iz 97).toInt)).toInt64)) + ((gA w 64 (iz 111).toInt)).toInt64)) + ((gA w 64 (iz 110).toInt)).toInt64)) + ((gA w 64 (iz 121).toInt)).toInt64)) + ((gA w 64 (iz 107).toInt)).toInt64)) + ((gI w 92)).toInt64) + (lz 1)) - ((((lz 5) * (((lz 10) * (((lz 10) * (((lz 10) * (((lz 40) * (((lz 100) * ((gA w 64 (iz 109).toInt)).toInt64) + ((gA w 64 (iz 97).toInt)).toInt64)) + ((gA w 64 (iz 111).toInt)).toInt64)) + ((gA w 64 (iz 110).toInt)).toInt64)) + ((gA w 64 (iz 121).toInt)).toInt64)) + ((gA w 64 (iz 107).toInt)).toInt64)) + ((gI w 92)).toInt64) + (lz 1)) / (lz 8191) * (lz 8191))).toInt32 8191 ∧ (∀ w3, w3 = sL w2 94 ((((((lz 5) * (((lz 10) * (((lz 10) * (((lz 10) * (((lz 40) * (((lz 100) * ((gA w 64 (iz 109).toInt)).toInt64) + ((gA w 64 (iz 97).toInt)).toInt64)) + ((gA w 64 (iz 111).toInt)).toInt64)) + ((gA w 64 (iz 110).toInt)).toInt64)) + ((gA w 64 (iz 121).toInt)).toInt64)) + ((gA w 64 (iz 107).toInt)).toInt64)) + ((gI w 92)).toInt64) + (lz 1)) - ((((lz 5) * (((lz 10) * (((lz 10) * (((lz 10) * (((lz 40) * (((lz 100) * ((gA w 64 (iz 109).toInt)).toInt64) + ((gA w 64 (iz 97).toInt)).toInt64)) + ((gA w 64 (iz 111).toInt)).toInt64)) + ((gA w 64 (iz 110).toInt)).toInt64)) + ((gA w 64 (iz 121).toInt)).toInt64)) + ((gA w 64 (iz 107).toInt)).toInt64)) + ((gI w 92)).toInt64) + (lz 1)) / (lz 8191) * (lz 8191))).toInt32.toInt ((((lz 5) * (((lz 10) * (((lz 10) * (((lz 10) * (((lz 40) * (((lz 100) * ((gA w 64 (iz 109).toInt)).toInt64) + ((gA w 64 (iz 97).toInt)).toInt64)) + ((gA w 64 (iz 111).toInt)).toInt64)) + ((gA w 64 (iz 110).toInt)).toInt64)) + ((gA w 64 (iz 121).toInt)).toInt64)) + ((gA w 64 (iz 107).toInt)).toInt64)) + ((gI w 92)).toInt64) + (lz 1)) → inb ((((((lz 5) * (((lz 10) * (((lz 10) * (((lz 10) * (((lz 40) * (((lz 100) * ((gA w 64 (iz 109).toInt)).toInt64) + ((gA w 64 (iz 97).toInt)).toInt64)) + ((gA w 64 (iz 111).toInt)).toInt64)) + ((gA w 64 (iz 110).toInt)).toInt64)) + ((gA w 64 (iz 121).toInt)).toInt64)) + ((gA w 64 (iz 107).toInt)).toInt64)) + ((gI w 92)).toInt64) + (lz 1)) - ((((lz 5) * (((lz 10) * (((lz 10) * (((lz 10) * (((lz 40) * (((lz 100) * ((gA w 64 (iz 109).toInt)).toInt64) + ((gA w 64 (iz 97).toInt)).toInt64)) + ((gA w 64 (iz 111).toInt)).toInt64)) + ((gA w 64 (iz 110).toInt)).toInt64)) + ((gA w 64 (iz 121).toInt)).toInt64)) + ((gA w 64 (iz 107).toInt)).toInt64)) + ((gI w 92)).toInt64) + (lz 1)) / (lz 8191) * (lz 8191))).toInt32 8191 ∧ (∀ w4, w4 = sA w3 95 ((((((lz 5) * (((lz 10) * (((lz 10) * (((lz 10) * (((lz 40) * (((lz 100) * ((gA w 64 (iz 109).toInt)).toInt64) + ((gA w 64 (iz 97).toInt)).toInt64)) + ((gA w 64 (iz 111).toInt)).toInt64)) + ((gA w 64 (iz 110).toInt)).toInt64)) + ((gA w 64 (iz 121).toInt)).toInt64)) + ((gA w 64 (iz 107).toInt)).toInt64)) + ((gI w 92)).toInt64) + (lz 1)) - ((((lz 5) * (((lz 10) * (((lz 10) * (((lz 10) * (((lz 40) * (((lz 100) * ((gA w 64 (iz 109).toInt)).toInt64) + ((gA w 64 (iz 97).toInt)).toInt64)) + ((gA w 64 (iz 111).toInt)).toInt64)) + ((gA w 64 (iz 110).toInt)).toInt64)) + ((gA w 64 (iz 121).toInt)).toInt64)) + ((gA w 64 (iz 107).toInt)).toInt64)) + ((gI w 92)).toInt64) + (lz 1)) / (lz 8191) * (lz 8191))).toInt32.toInt (gI w3 74) → Q (gI w4 74) w4)))) ∧ ((lg_cmp (gL w 94 ((((((lz 5) * (((lz 10) * (((lz 10) * (((lz 10) * (((lz 40) * (((lz 100) * ((gA w 64 (iz 109).toInt)).toInt64) + ((gA w 64 (iz 97).toInt)).toInt64)) + ((gA w 64 (iz 111).toInt)).toInt64)) + ((gA w 64 (iz 110).toInt)).toInt64)) + ((gA w 64 (iz 121).toInt)).toInt64)) + ((gA w 64 (iz 107).toInt)).toInt64)) + ((gI w 92)).toInt64) + (lz 1)) - ((((lz 5) * (((lz 10) * (((lz 10) * (((lz 10) * (((lz 40) * (((lz 100) * ((gA w 64 (iz 109).toInt)).toInt64) + ((gA w 64 (iz 97).toInt)).toInt64)) + ((gA w 64 (iz 111).toInt)).toInt64)) + ((gA w 64 (iz 110).toInt)).toInt64)) + ((gA w 64 (iz 121).toInt)).toInt64)) + ((gA w 64 (iz 107).toInt)).toInt64)) + ((gI w 92)).toInt64) + (lz 1)) / (lz 8191) * (lz 8191))).toInt32.toInt) ((((lz 5) * (((lz 10) * (((lz 10) * (((lz 10) * (((lz 40) * (((lz 100) * ((gA w 64 (iz 109).toInt)).toInt64) + ((gA w 64 (iz 97).toInt)).toInt64)) + ((gA w 64 (iz 111).toInt)).toInt64)) + ((gA w 64 (iz 110).toInt)).toInt64)) + ((gA w 64 (iz 121).toInt)).toInt64)) + ((gA w 64 (iz 107).toInt)).toInt64)) + ((gI w 92)).toInt64) + (lz 1))) = iz 0 → inb ((((((lz 5) * (((lz 10) * (((lz 10) * (((lz 10) * (((lz 40) * (((lz 100) * ((gA w 64 (iz 109).toInt)).toInt64) + ((gA w 64 (iz 97).toInt)).toInt64)) + ((gA w 64 (iz 111).toInt)).toInt64)) + ((gA w 64 (iz 110).toInt)).toInt64)) + ((gA w 64 (iz 121).toInt)).toInt64)) + ((gA w 64 (iz 107).toInt)).toInt64)) + ((gI w 92)).toInt64) + (lz 1)) - ((((lz 5) * (((lz 10) * (((lz 10) * (((lz 10) * (((lz 40) * (((lz 100) * ((gA w 64 (iz 109).toInt)).toInt64) + ((gA w 64 (iz 97).toInt)).toInt64)) + ((gA w 64 (iz 111).toInt)).toInt64)) + ((gA w 64 (iz 110).toInt)).toInt64)) + ((gA w 64 (iz 121).toInt)).toInt64)) + ((gA w 64 (iz 107).toInt)).toInt64)) + ((gI w 92)).toInt64) + (lz 1)) / (lz 8191) * (lz 8191))).toInt32 8191 ∧ Q (gA w 95 ((((((lz 5) * (((lz 10) * (((lz 10) * (((lz 10) * (((lz 40) * (((lz 100) * ((gA w 64 (iz 109).toInt)).toInt64) + ((gA w 64 (iz 97).toInt)).toInt64)) + ((gA w 64 (iz 111).toInt)).toInt64)) + ((gA w 64 (iz 110).toInt)).toInt64)) + ((gA w 64 (iz 121).toInt)).toInt64)) + ((gA w 64 (iz 107).toInt)).toInt64)) + ((gI w 92)).toInt64) + (lz 1)) - ((((lz 5) * (((lz 10) * (((lz 10) * (((lz 10) * (((lz 40) * (((lz 100) * ((gA w 64 (iz 109).toInt)).toInt64) + ((gA w 64 (iz 97).toInt)).toInt64)) + ((gA w 64 (iz 111).toInt)).toInt64)) + ((gA w 64 (iz 110).toInt)).toInt64)) + ((gA w 64 (iz 121).toInt)).toInt64)) + ((gA w 64 (iz 107).toInt)).toInt64)) + ((gI w 92)).toInt64) + (lz 1)) / (lz 8191) * (lz 8191))).toInt32.toInt) w)
set_option maxRecDepth 100000 in
set_option maxHeartbeats 4000000 in
theorem sd_X3_worthNow {γ : GG} (w : Wd) (Q : Int32 → Wd → Prop) : wp_X3_worthNow w Q → Ctr γ 71 yX3_worthNow (ws_ yX3_worthNow cX3_worthNow 4 (some .int)) [.ref 2] w (qI Q) xN := by
  intro h
  unfold wp_X3_worthNow at h
  refine Ctr.of (μ := k_X3_worthNow) (by decide) rfl rfl rfl (Nat.le_of_ble_eq_true rfl) ⟨3, ?_⟩
  have es : lva [.ref 2] ++ List.replicate 3 none = [some (.ref 2), none, none, none] := rfl
  rw [es]
  refine R.aload_n 1 dX3_worthNow_0 rfl rfl ?_
  refine gf_64 4 dX3_worthNow_1 rfl rfl ?_
  refine R.bipush 6 dX3_worthNow_4 rfl (by decide +kernel) ?_
  obtain ⟨hb, h⟩ := h
  refine R.iald ar_64 7 dX3_worthNow_6 rfl hb ?_
  refine R.i2l 8 dX3_worthNow_7 rfl ?_
  refine R.lst1n 9 dX3_worthNow_8 rfl (Nat.le_of_ble_eq_true rfl) rfl ?_
  refine R.ldc2 (n := 100) 12 dX3_worthNow_9 rfl q1609 (by decide +kernel) ?_
  refine R.lload_n 13 dX3_worthNow_12 rfl rfl ?_
  refine R.lmul 14 dX3_worthNow_13 rfl ?_
  refine R.aload_n 15 dX3_worthNow_14 rfl rfl ?_
  refine gf_64 18 dX3_worthNow_15 rfl rfl ?_
  refine R.bipush 20 dX3_worthNow_18 rfl (by decide +kernel) ?_
  obtain ⟨hb, h⟩ := h
  refine R.iald ar_64 21 dX3_worthNow_20 rfl hb ?_
  refine R.i2l 22 dX3_worthNow_21 rfl ?_
  refine R.ladd 23 dX3_worthNow_22 rfl ?_
  refine R.lst1n 24 dX3_worthNow_23 rfl (Nat.le_of_ble_eq_true rfl) rfl ?_
  refine R.ldc2 (n := 40) 27 dX3_worthNow_24 rfl q1610 (by decide +kernel) ?_
  refine R.lload_n 28 dX3_worthNow_27 rfl rfl ?_
  refine R.lmul 29 dX3_worthNow_28 rfl ?_
  refine R.aload_n 30 dX3_worthNow_29 rfl rfl ?_
  refine gf_64 33 dX3_worthNow_30 rfl rfl ?_
  refine R.bipush 35 dX3_worthNow_33 rfl (by decide +kernel) ?_
  obtain ⟨hb, h⟩ := h
  refine R.iald ar_64 36 dX3_worthNow_35 rfl hb ?_
  refine R.i2l 37 dX3_worthNow_36 rfl ?_
  refine R.ladd 38 dX3_worthNow_37 rfl ?_
  refine R.lst1n 39 dX3_worthNow_38 rfl (Nat.le_of_ble_eq_true rfl) rfl ?_
  refine R.ldc2 (n := 10) 42 dX3_worthNow_39 rfl q1611 (by decide +kernel) ?_
  refine R.lload_n 43 dX3_worthNow_42 rfl rfl ?_
  refine R.lmul 44 dX3_worthNow_43 rfl ?_
  refine R.aload_n 45 dX3_worthNow_44 rfl rfl ?_
  refine gf_64 48 dX3_worthNow_45 rfl rfl ?_
  refine R.bipush 50 dX3_worthNow_48 rfl (by decide +kernel) ?_
  obtain ⟨hb, h⟩ := h
  refine R.iald ar_64 51 dX3_worthNow_50 rfl hb ?_
  refine R.i2l 52 dX3_worthNow_51 rfl ?_
  refine R.ladd 53 dX3_worthNow_52 rfl ?_
  refine R.lst1n 54 dX3_worthNow_53 rfl (Nat.le_of_ble_eq_true rfl) rfl ?_
  refine R.ldc2 (n := 10) 57 dX3_worthNow_54 rfl q1611 (by decide +kernel) ?_
  refine R.lload_n 58 dX3_worthNow_57 rfl rfl ?_
  refine R.lmul 59 dX3_worthNow_58 rfl ?_
  refine R.aload_n 60 dX3_worthNow_59 rfl rfl ?_
  refine gf_64 63 dX3_worthNow_60 rfl rfl ?_
  refine R.bipush 65 dX3_worthNow_63 rfl (by decide +kernel) ?_
  obtain ⟨hb, h⟩ := h
  refine R.iald ar_64 66 dX3_worthNow_65 rfl hb ?_
  refine R.i2l 67 dX3_worthNow_66 rfl ?_
  refine R.ladd 68 dX3_worthNow_67 rfl ?_
  refine R.lst1n 69 dX3_worthNow_68 rfl (Nat.le_of_ble_eq_true rfl) rfl ?_
  refine R.ldc2 (n := 10) 72 dX3_worthNow_69 rfl q1611 (by decide +kernel) ?_
  refine R.lload_n 73 dX3_worthNow_72 rfl rfl ?_
  refine R.lmul 74 dX3_worthNow_73 rfl ?_
  refine R.aload_n 75 dX3_worthNow_74 rfl rfl ?_
  refine gf_64 78 dX3_worthNow_75 rfl rfl ?_
  refine R.bipush 80 dX3_worthNow_78 rfl (by decide +kernel) ?_
  obtain ⟨hb, h⟩ := h
  refine R.iald ar_64 81 dX3_worthNow_80 rfl hb ?_
  refine R.i2l 82 dX3_worthNow_81 rfl ?_
  refine R.ladd 83 dX3_worthNow_82 rfl ?_
  refine R.lst1n 84 dX3_worthNow_83 rfl (Nat.le_of_ble_eq_true rfl) rfl ?_
  refine R.ldc2 (n := 5) 87 dX3_worthNow_84 rfl q1612 (by decide +kernel) ?_
  refine R.lload_n 88 dX3_worthNow_87 rfl rfl ?_
  refine R.lmul 89 dX3_worthNow_88 rfl ?_
  refine R.aload_n 90 dX3_worthNow_89 rfl rfl ?_
  refine gf_92 93 dX3_worthNow_90 rfl rfl ?_
  refine R.i2l 94 dX3_worthNow_93 rfl ?_
  refine R.ladd 95 dX3_worthNow_94 rfl ?_
  refine R.lconst (m0 := 1) 96 dX3_worthNow_95 rfl (by decide +kernel) ?_
  refine R.ladd 97 dX3_worthNow_96 rfl ?_
  refine R.lst1n 98 dX3_worthNow_97 rfl (Nat.le_of_ble_eq_true rfl) rfl ?_
  refine R.lload_n 99 dX3_worthNow_98 rfl rfl ?_
  refine R.ldc2 (n := 8191) 102 dX3_worthNow_99 rfl q1613 (by decide +kernel) ?_
  refine R.lrem 103 dX3_worthNow_102 rfl (by decide +kernel) ?_
  refine R.l2i 104 dX3_worthNow_103 rfl ?_
  refine R.ist3n 105 dX3_worthNow_104 rfl (Nat.le_of_ble_eq_true rfl) rfl ?_
  refine R.aload_n 106 dX3_worthNow_105 rfl rfl ?_
  refine gf_94 109 dX3_worthNow_106 rfl rfl ?_
  refine R.iload_n 110 dX3_worthNow_109 rfl rfl ?_
  obtain ⟨hb, h⟩ := h
  refine R.lald ar_94 111 dX3_worthNow_110 rfl hb ?_
  refine R.lload_n 112 dX3_worthNow_111 rfl rfl ?_
  refine R.lcmp 113 dX3_worthNow_112 rfl ?_
  refine R.if_ne 123 116 dX3_worthNow_113 (by decide) rfl (fun hc => ?_) (fun hc => ?_)
  · replace h := h.1 hc
    refine R.aload_n 124 dX3_worthNow_123 rfl rfl ?_
    refine R.aload_n 125 dX3_worthNow_124 rfl rfl ?_
    refine gf_62 128 dX3_worthNow_125 rfl rfl ?_
    refine R.sipush 131 dX3_worthNow_128 rfl (by decide +kernel) ?_
    refine R.aload_n 132 dX3_worthNow_131 rfl rfl ?_
    refine gf_92 135 dX3_worthNow_132 rfl rfl ?_
    refine R.imul 136 dX3_worthNow_135 rfl ?_
    refine R.aload_n 137 dX3_worthNow_136 rfl rfl ?_
    refine gf_63 140 dX3_worthNow_137 rfl rfl ?_
    refine R.aload_n 141 dX3_worthNow_140 rfl rfl ?_
    refine gf_92 144 dX3_worthNow_141 rfl rfl ?_
    obtain ⟨hb, h⟩ := h
    refine R.iald ar_63 145 dX3_worthNow_144 rfl hb ?_
    refine Rch.callv (sd_X3_goThrough _ _ _ _ _ h) dX3_worthNow_145 (lw_V q1489 q1491 qs90 q146 q1492) dk_X3_goThrough rcM (by decide) (Nat.le_of_ble_eq_true rfl) rfl rfl (Nat.le_of_ble_eq_true rfl) (kV 148 rfl fun w2 h => ?_) kN
    refine R.aload_n 149 dX3_worthNow_148 rfl rfl ?_
    refine gf_94 152 dX3_worthNow_149 rfl rfl ?_
    refine R.iload_n 153 dX3_worthNow_152 rfl rfl ?_
    refine R.lload_n 154 dX3_worthNow_153 rfl rfl ?_
    obtain ⟨hb, h⟩ := h
    replace h := h _ rfl
    refine R.last ar_94 155 dX3_worthNow_154 rfl hb ?_
    refine R.aload_n 156 dX3_worthNow_155 rfl rfl ?_
    refine gf_95 159 dX3_worthNow_156 rfl rfl ?_
    refine R.iload_n 160 dX3_worthNow_159 rfl rfl ?_
    refine R.aload_n 161 dX3_worthNow_160 rfl rfl ?_
    refine gf_74 164 dX3_worthNow_161 rfl rfl ?_
    obtain ⟨hb, h⟩ := h
    replace h := h _ rfl
    refine R.iast ar_95 165 dX3_worthNow_164 rfl hb ?_
    refine R.aload_n 166 dX3_worthNow_165 rfl rfl ?_
    refine gf_74 169 dX3_worthNow_166 rfl rfl ?_
    exact R.retI dX3_worthNow_169 rfl h
  · replace h := h.2 hc
    refine R.aload_n 117 dX3_worthNow_116 rfl rfl ?_
    refine gf_95 120 dX3_worthNow_117 rfl rfl ?_
    refine R.iload_n 121 dX3_worthNow_120 rfl rfl ?_
    obtain ⟨hb, h⟩ := h
    refine R.iald ar_95 122 dX3_worthNow_121 rfl hb ?_
    exact R.retI dX3_worthNow_122 rfl h

abbrev k_X3_portionOf : MK := ("FrostBoxModel", cX3_portionOf, 7, (some .int), [], "portionOf")
def b_X3_portionOf_83 (Q : Int32 → Wd → Prop) (l1 : Int32) (l6 : Int32) (w : Wd) : Prop := wp_X3_told l1 (iz 3) w (fun r1 w2 => Q (imax (iz 0) (r1 - (imax (iz 0) (imin (iz 9) l6)))) w2)
def wp_X3_portionOf (l1 : Int32) (l2 : Int32) (l3 : Int32) (l4 : Int32) (l5 : Int32) (w : Wd) (Q : Int32 → Wd → Prop) : Prop := wp_X3_told l1 (iz 2) w (fun r1 w2 => ((gI w2 92) = (iz (-1)) → b_X3_portionOf_83 Q l1 (imax (iz 0) (l3 - r1)) w2) ∧ (¬ (gI w2 92) = (iz (-1)) → inb (iz 97) 128 ∧ (∀ w3, w3 = sA w2 64 (iz 97).toInt l3 → wp_X3_told l1 (iz 2) w3 (fun r4 w5 => inb (iz 111) 128 ∧ (∀ w6, w6 = sA w5 64 (iz 111).toInt r4 → inb (iz 110) 128 ∧ (∀ w7, w7 = sA w6 64 (iz 110).toInt l2 → inb (iz 121) 128 ∧ (∀ w8, w8 = sA w7 64 (iz 121).toInt l4 → inb (iz 107) 128 ∧ (∀ w9, w9 = sA w8 64 (iz 107).toInt l1 → inb (iz 109) 128 ∧ (∀ w10, w10 = sA w9 64 (iz 109).toInt l5 → wp_X3_worthNow w10 (fun r11 w12 => b_X3_portionOf_83 Q l1 r11 w12))))))))))
set_option maxRecDepth 100000 in
set_option maxHeartbeats 4000000 in
theorem s_X3_portionOf_83 {γ : GG} (Q : Int32 → Wd → Prop) (l1 : Int32) (l6 : Int32) : ∀ (w : Wd), b_X3_portionOf_83 Q l1 l6 w → Rch γ 72 k_X3_portionOf 83 [some (.ref 2), some (.int l1), none, none, none, none, some (.int l6)] [] w (qI Q) xN := by
  intro w h
  unfold b_X3_portionOf_83 at h
  refine R.iconst 84 dX3_portionOf_83 rfl ?_
  refine R.aload_n 85 dX3_portionOf_84 rfl rfl ?_
  refine R.iload_n 86 dX3_portionOf_85 rfl rfl ?_
  refine R.iconst 87 dX3_portionOf_86 rfl ?_
  refine Rch.callv (sd_X3_told _ _ _ _ h) dX3_portionOf_87 (lw_V q1578 q1580 qs105 q146 q1581) dk_X3_told rcM (by decide) (Nat.le_of_ble_eq_true rfl) rfl rfl (Nat.le_of_ble_eq_true rfl) (kI 90 rfl fun r1 w2 h => ?_) kN
  refine R.iconst 91 dX3_portionOf_90 rfl ?_
  refine R.bipush 93 dX3_portionOf_91 rfl (by decide +kernel) ?_
  refine R.iload 95 dX3_portionOf_93 rfl rfl ?_
  refine R.mmin 98 dX3_portionOf_95 rfl q1599 q427 q149 q428 (by omega) (Nat.le_of_ble_eq_true rfl) ?_
  refine R.mmax 101 dX3_portionOf_98 rfl q1604 q424 q149 q425 (by omega) (Nat.le_of_ble_eq_true rfl) ?_
  refine R.isub 102 dX3_portionOf_101 rfl ?_
  refine R.mmax 105 dX3_portionOf_102 rfl q1604 q424 q149 q425 (by omega) (Nat.le_of_ble_eq_true rfl) ?_
  exact R.retI dX3_portionOf_105 rfl h
set_option maxRecDepth 100000 in
set_option maxHeartbeats 4000000 in
theorem sd_X3_portionOf {γ : GG} (l1 : Int32) (l2 : Int32) (l3 : Int32) (l4 : Int32) (l5 : Int32) (w : Wd) (Q : Int32 → Wd → Prop) : wp_X3_portionOf l1 l2 l3 l4 l5 w Q → Ctr γ 72 yX3_portionOf (ws_ yX3_portionOf cX3_portionOf 7 (some .int)) [.ref 2, .int l1, .int l2, .int l3, .int l4, .int l5] w (qI Q) xN := by
  intro h
  unfold wp_X3_portionOf at h
  refine Ctr.of (μ := k_X3_portionOf) (by decide) rfl rfl rfl (Nat.le_of_ble_eq_true rfl) ⟨1, ?_⟩
  have es : lva [.ref 2, .int l1, .int l2, .int l3, .int l4, .int l5] ++ List.replicate 1 none = [some (.ref 2), some (.int l1), some (.int l2), some (.int l3), some (.int l4), some (.int l5), none] := rfl
  rw [es]
  refine R.iconst 1 dX3_portionOf_0 rfl ?_
  refine R.iload_n 2 dX3_portionOf_1 rfl rfl ?_
  refine R.aload_n 3 dX3_portionOf_2 rfl rfl ?_
  refine R.iload_n 4 dX3_portionOf_3 rfl rfl ?_
  refine R.iconst 5 dX3_portionOf_4 rfl ?_
  refine Rch.callv (sd_X3_told _ _ _ _ h) dX3_portionOf_5 (lw_V q1578 q1580 qs105 q146 q1581) dk_X3_told rcM (by decide) (Nat.le_of_ble_eq_true rfl) rfl rfl (Nat.le_of_ble_eq_true rfl) (kI 8 rfl fun r1 w2 h => ?_) kN
  refine R.isub 9 dX3_portionOf_8 rfl ?_
  refine R.mmax 12 dX3_portionOf_9 rfl q1604 q424 q149 q425 (by omega) (Nat.le_of_ble_eq_true rfl) ?_
  refine R.ist6 14 dX3_portionOf_12 rfl (Nat.le_of_ble_eq_true rfl) rfl ?_
  refine R.aload_n 15 dX3_portionOf_14 rfl rfl ?_
  refine gf_92 18 dX3_portionOf_15 rfl rfl ?_
  refine R.iconst 19 dX3_portionOf_18 rfl ?_
  refine R.icmp_eq 83 22 dX3_portionOf_19 (by decide) rfl (fun hc => ?_) (fun hc => ?_)
  · replace h := h.1 hc
    exact Rch.dropk (s_X3_portionOf_83 Q _ _ _ h) ⟨rfl, ⟨rfl, ⟨rfl, trivial⟩⟩⟩
  · replace h := h.2 hc
    refine R.aload_n 23 dX3_portionOf_22 rfl rfl ?_
    refine gf_64 26 dX3_portionOf_23 rfl rfl ?_
    refine R.bipush 28 dX3_portionOf_26 rfl (by decide +kernel) ?_
    refine R.iload_n 29 dX3_portionOf_28 rfl rfl ?_
    obtain ⟨hb, h⟩ := h
    replace h := h _ rfl
    refine R.iast ar_64 30 dX3_portionOf_29 rfl hb ?_
    refine R.aload_n 31 dX3_portionOf_30 rfl rfl ?_
    refine gf_64 34 dX3_portionOf_31 rfl rfl ?_
    refine R.bipush 36 dX3_portionOf_34 rfl (by decide +kernel) ?_
    refine R.aload_n 37 dX3_portionOf_36 rfl rfl ?_
    refine R.iload_n 38 dX3_portionOf_37 rfl rfl ?_
    refine R.iconst 39 dX3_portionOf_38 rfl ?_
    refine Rch.callv (sd_X3_told _ _ _ _ h) dX3_portionOf_39 (lw_V q1578 q1580 qs105 q146 q1581) dk_X3_told rcM (by decide) (Nat.le_of_ble_eq_true rfl) rfl rfl (Nat.le_of_ble_eq_true rfl) (kI 42 rfl fun r4 w5 h => ?_) kN
    obtain ⟨hb, h⟩ := h
    replace h := h _ rfl
    refine R.iast ar_64 43 dX3_portionOf_42 rfl hb ?_
    refine R.aload_n 44 dX3_portionOf_43 rfl rfl ?_
    refine gf_64 47 dX3_portionOf_44 rfl rfl ?_
    refine R.bipush 49 dX3_portionOf_47 rfl (by decide +kernel) ?_
    refine R.iload_n 50 dX3_portionOf_49 rfl rfl ?_
    obtain ⟨hb, h⟩ := h
    replace h := h _ rfl
    refine R.iast ar_64 51 dX3_portionOf_50 rfl hb ?_
    refine R.aload_n 52 dX3_portionOf_51 rfl rfl ?_
    refine gf_64 55 dX3_portionOf_52 rfl rfl ?_
    refine R.bipush 57 dX3_portionOf_55 rfl (by decide +kernel) ?_
    refine R.iload 59 dX3_portionOf_57 rfl rfl ?_
    obtain ⟨hb, h⟩ := h
    replace h := h _ rfl
    refine R.iast ar_64 60 dX3_portionOf_59 rfl hb ?_
    refine R.aload_n 61 dX3_portionOf_60 rfl rfl ?_
    refine gf_64 64 dX3_portionOf_61 rfl rfl ?_
    refine R.bipush 66 dX3_portionOf_64 rfl (by decide +kernel) ?_
    refine R.iload_n 67 dX3_portionOf_66 rfl rfl ?_
    obtain ⟨hb, h⟩ := h
    replace h := h _ rfl
    refine R.iast ar_64 68 dX3_portionOf_67 rfl hb ?_
    refine R.aload_n 69 dX3_portionOf_68 rfl rfl ?_
    refine gf_64 72 dX3_portionOf_69 rfl rfl ?_
    refine R.bipush 74 dX3_portionOf_72 rfl (by decide +kernel) ?_
    refine R.iload 76 dX3_portionOf_74 rfl rfl ?_
    obtain ⟨hb, h⟩ := h
    replace h := h _ rfl
    refine R.iast ar_64 77 dX3_portionOf_76 rfl hb ?_
    refine R.aload_n 78 dX3_portionOf_77 rfl rfl ?_
    refine Rch.callv (sd_X3_worthNow _ _ h) dX3_portionOf_78 (lw_V q1605 q1607 qs110 q146 q1608) dk_X3_worthNow rcM (by decide) (Nat.le_of_ble_eq_true rfl) rfl rfl (Nat.le_of_ble_eq_true rfl) (kI 81 rfl fun r11 w12 h => ?_) kN
    refine R.ist6 83 dX3_portionOf_81 rfl (Nat.le_of_ble_eq_true rfl) rfl ?_
    exact Rch.dropk (s_X3_portionOf_83 Q _ _ _ h) ⟨rfl, ⟨rfl, ⟨rfl, trivial⟩⟩⟩

abbrev k_X3_valueOn : MK := ("FrostBoxModel", cX3_valueOn, 6, (some .int), [], "valueOn")
def wp_X3_valueOn (l1 : Nat) (l2 : Int32) (l3 : Int32) (l4 : Int32) (w : Wd) (Q : Int32 → Wd → Prop) : Prop := inA l1 (((iz 5) * l2) + (iz 1)) ∧ inA l1 (((iz 5) * l2) + (iz 0)) ∧ inA l1 (((iz 5) * l2) + (iz 1)) ∧ inA l1 (((iz 5) * l2) + (iz 2)) ∧ inA l1 (iz 41) ∧ wp_X3_portionOf (gA w l1 (((iz 5) * l2) + (iz 0)).toInt) (gA w l1 (((iz 5) * l2) + (iz 1)).toInt) (imin (iz 99) ((gA w l1 (((iz 5) * l2) + (iz 2)).toInt) + l4)) l3 ((gA w l1 (iz 41).toInt) + l4) w (fun r1 w2 => Q ((gA w l1 (((iz 5) * l2) + (iz 1)).toInt) * r1) w2)
set_option maxRecDepth 100000 in
set_option maxHeartbeats 4000000 in
theorem sd_X3_valueOn {γ : GG} (l1 : Nat) (l2 : Int32) (l3 : Int32) (l4 : Int32) (w : Wd) (Q : Int32 → Wd → Prop) : wp_X3_valueOn l1 l2 l3 l4 w Q → Ctr γ 73 yX3_valueOn (ws_ yX3_valueOn cX3_valueOn 6 (some .int)) [.ref 2, .ref l1, .int l2, .int l3, .int l4] w (qI Q) xN := by
  intro h
  unfold wp_X3_valueOn at h
  refine Ctr.of (μ := k_X3_valueOn) (by decide) rfl rfl rfl (Nat.le_of_ble_eq_true rfl) ⟨1, ?_⟩
  have es : lva [.ref 2, .ref l1, .int l2, .int l3, .int l4] ++ List.replicate 1 none = [some (.ref 2), some (.ref l1), some (.int l2), some (.int l3), some (.int l4), none] := rfl
  rw [es]
  refine R.iconst 1 dX3_valueOn_0 rfl ?_
  refine R.iload_n 2 dX3_valueOn_1 rfl rfl ?_
  refine R.imul 3 dX3_valueOn_2 rfl ?_
  refine R.ist5 5 dX3_valueOn_3 rfl (Nat.le_of_ble_eq_true rfl) rfl ?_
  refine R.aload_n 6 dX3_valueOn_5 rfl rfl ?_
  refine R.iload 8 dX3_valueOn_6 rfl rfl ?_
  refine R.iconst 9 dX3_valueOn_8 rfl ?_
  refine R.iadd 10 dX3_valueOn_9 rfl ?_
  obtain ⟨hb, h⟩ := h
  refine R.iaA 11 dX3_valueOn_10 rfl hb ?_
  refine R.aload_n 12 dX3_valueOn_11 rfl rfl ?_
  refine R.aload_n 13 dX3_valueOn_12 rfl rfl ?_
  refine R.iload 15 dX3_valueOn_13 rfl rfl ?_
  refine R.iconst 16 dX3_valueOn_15 rfl ?_
  refine R.iadd 17 dX3_valueOn_16 rfl ?_
  obtain ⟨hb, h⟩ := h
  refine R.iaA 18 dX3_valueOn_17 rfl hb ?_
  refine R.aload_n 19 dX3_valueOn_18 rfl rfl ?_
  refine R.iload 21 dX3_valueOn_19 rfl rfl ?_
  refine R.iconst 22 dX3_valueOn_21 rfl ?_
  refine R.iadd 23 dX3_valueOn_22 rfl ?_
  obtain ⟨hb, h⟩ := h
  refine R.iaA 24 dX3_valueOn_23 rfl hb ?_
  refine R.bipush 26 dX3_valueOn_24 rfl (by decide +kernel) ?_
  refine R.aload_n 27 dX3_valueOn_26 rfl rfl ?_
  refine R.iload 29 dX3_valueOn_27 rfl rfl ?_
  refine R.iconst 30 dX3_valueOn_29 rfl ?_
  refine R.iadd 31 dX3_valueOn_30 rfl ?_
  obtain ⟨hb, h⟩ := h
  refine R.iaA 32 dX3_valueOn_31 rfl hb ?_
  refine R.iload 34 dX3_valueOn_32 rfl rfl ?_
  refine R.iadd 35 dX3_valueOn_34 rfl ?_
  refine R.mmin 38 dX3_valueOn_35 rfl q1599 q427 q149 q428 (by omega) (Nat.le_of_ble_eq_true rfl) ?_
  refine R.iload_n 39 dX3_valueOn_38 rfl rfl ?_
  refine R.aload_n 40 dX3_valueOn_39 rfl rfl ?_
  refine R.bipush 42 dX3_valueOn_40 rfl (by decide +kernel) ?_
  obtain ⟨hb, h⟩ := h
  refine R.iaA 43 dX3_valueOn_42 rfl hb ?_
  refine R.iload 45 dX3_valueOn_43 rfl rfl ?_
  refine R.iadd 46 dX3_valueOn_45 rfl ?_
  refine Rch.callv (sd_X3_portionOf _ _ _ _ _ _ _ h) dX3_valueOn_46 (lw_V q1600 q1602 qs109 q146 q1603) dk_X3_portionOf rcM (by decide) (Nat.le_of_ble_eq_true rfl) rfl rfl (Nat.le_of_ble_eq_true rfl) (kI 49 rfl fun r1 w2 h => ?_) kN
  refine R.imul 50 dX3_valueOn_49 rfl ?_
  exact R.retI dX3_valueOn_50 rfl h
