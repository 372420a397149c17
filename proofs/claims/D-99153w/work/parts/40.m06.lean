set_option maxRecDepth 100000

abbrev k_X3_found : MK := ("FrostBoxModel", cX3_found, 4, (some .int), [], "found")
def wp_X3_found (l1 : Int32) (l2 : Int32) (l3 : Int32) (w : Wd) (Q : Int32 → Wd → Prop) : Prop := ∀ w1, w1 = sI w 60 (iz 0) → ((gI w1 85) = iz 0 → Q (iz (-1)) w1) ∧ (¬ (gI w1 85) = iz 0 → wp_X3_isIn ((l1).toInt64) (lz 0) (lz 5) w1 (fun r2 w3 => (r2 = iz 0 → Q (iz (-1)) w3) ∧ (¬ r2 = iz 0 → wp_X3_isKind l2 w3 (fun r4 w5 => (r4 = iz 0 → Q (iz (-1)) w5) ∧ (¬ r4 = iz 0 → (¬ (gI w5 110) = (iz 10) → inb (gI w5 110) 10 ∧ (∀ w6, w6 = sA w5 104 (gI w5 110).toInt l1 → inb (gI w6 110) 10 ∧ (∀ w7, w7 = sA w6 105 (gI w6 110).toInt l2 → inb (gI w7 110) 10 ∧ (∀ w8, w8 = sA w7 109 (gI w7 110).toInt (znar l3) → ∀ w9, w9 = sI w8 110 ((gI w8 110) + (iz 1)) → Q (gI w9 110) w9)))) ∧ ((gI w5 110) = (iz 10) → Q (iz (-1)) w5))))))
set_option maxRecDepth 100000 in
set_option maxHeartbeats 4000000 in
theorem sd_X3_found {γ : GG} (l1 : Int32) (l2 : Int32) (l3 : Int32) (w : Wd) (Q : Int32 → Wd → Prop) : wp_X3_found l1 l2 l3 w Q → Ctr γ 2 yX3_found (ws_ yX3_found cX3_found 4 (some .int)) [.ref 2, .int l1, .int l2, .int l3] w (qI Q) xN := by
  intro h
  unfold wp_X3_found at h
  refine Ctr.of (μ := k_X3_found) (by decide) rfl rfl rfl (Nat.le_of_ble_eq_true rfl) ⟨0, ?_⟩
  have es : lva [.ref 2, .int l1, .int l2, .int l3] ++ List.replicate 0 none = [some (.ref 2), some (.int l1), some (.int l2), some (.int l3)] := rfl
  rw [es]
  refine R.aload_n 1 dX3_found_0 rfl rfl ?_
  refine R.iconst 2 dX3_found_1 rfl ?_
  replace h := h _ rfl
  refine pf_60 _ 5 dX3_found_2 rfl rfl ?_
  refine R.aload_n 6 dX3_found_5 rfl rfl ?_
  refine gf_85 9 dX3_found_6 rfl rfl ?_
  refine R.if_eq 41 12 dX3_found_9 (by decide) rfl (fun hc => ?_) (fun hc => ?_)
  · replace h := h.1 hc
    refine R.iconst 42 dX3_found_41 rfl ?_
    exact R.retI dX3_found_42 rfl h
  · replace h := h.2 hc
    refine R.iload_n 13 dX3_found_12 rfl rfl ?_
    refine R.i2l 14 dX3_found_13 rfl ?_
    refine R.lconst (m0 := 0) 15 dX3_found_14 rfl (by decide +kernel) ?_
    refine R.ldc2 (n := 5) 18 dX3_found_15 rfl q1612 (by decide +kernel) ?_
    refine Rch.calls (sd_X3_isIn _ _ _ _ _ h) dX3_found_18 (lw_S q1426 q1427 q146 q1428) dk_X3_isIn (by decide) (Nat.le_of_ble_eq_true rfl) rfl rfl (Nat.le_of_ble_eq_true rfl) (kI 21 rfl fun r2 w3 h => ?_) kN
    refine R.if_eq 41 24 dX3_found_21 (by decide) rfl (fun hc => ?_) (fun hc => ?_)
    · replace h := h.1 hc
      refine R.iconst 42 dX3_found_41 rfl ?_
      exact R.retI dX3_found_42 rfl h
    · replace h := h.2 hc
      refine R.aload_n 25 dX3_found_24 rfl rfl ?_
      refine R.iload_n 26 dX3_found_25 rfl rfl ?_
      refine Rch.callv (sd_X3_isKind _ _ _ h) dX3_found_26 (lw_V q1573 q1575 qs104 q146 q1576) dk_X3_isKind rcM (by decide) (Nat.le_of_ble_eq_true rfl) rfl rfl (Nat.le_of_ble_eq_true rfl) (kI 29 rfl fun r4 w5 h => ?_) kN
      refine R.if_eq 41 32 dX3_found_29 (by decide) rfl (fun hc => ?_) (fun hc => ?_)
      · replace h := h.1 hc
        refine R.iconst 42 dX3_found_41 rfl ?_
        exact R.retI dX3_found_42 rfl h
      · replace h := h.2 hc
        refine R.aload_n 33 dX3_found_32 rfl rfl ?_
        refine gf_110 36 dX3_found_33 rfl rfl ?_
        refine R.bipush 38 dX3_found_36 rfl (by decide +kernel) ?_
        refine R.icmp_ne 43 41 dX3_found_38 (by decide) rfl (fun hc => ?_) (fun hc => ?_)
        · replace h := h.1 hc
          refine R.aload_n 44 dX3_found_43 rfl rfl ?_
          refine gf_104 47 dX3_found_44 rfl rfl ?_
          refine R.aload_n 48 dX3_found_47 rfl rfl ?_
          refine gf_110 51 dX3_found_48 rfl rfl ?_
          refine R.iload_n 52 dX3_found_51 rfl rfl ?_
          obtain ⟨hb, h⟩ := h
          replace h := h _ rfl
          refine R.iast ar_104 53 dX3_found_52 rfl hb ?_
          refine R.aload_n 54 dX3_found_53 rfl rfl ?_
          refine gf_105 57 dX3_found_54 rfl rfl ?_
          refine R.aload_n 58 dX3_found_57 rfl rfl ?_
          refine gf_110 61 dX3_found_58 rfl rfl ?_
          refine R.iload_n 62 dX3_found_61 rfl rfl ?_
          obtain ⟨hb, h⟩ := h
          replace h := h _ rfl
          refine R.iast ar_105 63 dX3_found_62 rfl hb ?_
          refine R.aload_n 64 dX3_found_63 rfl rfl ?_
          refine gf_109 67 dX3_found_64 rfl rfl ?_
          refine R.aload_n 68 dX3_found_67 rfl rfl ?_
          refine gf_110 71 dX3_found_68 rfl rfl ?_
          refine R.iload_n 72 dX3_found_71 rfl rfl ?_
          obtain ⟨hb, h⟩ := h
          replace h := h _ rfl
          refine R.zast ar_109 73 dX3_found_72 rfl hb ?_
          refine R.aload_n 74 dX3_found_73 rfl rfl ?_
          refine R.dupR 75 dX3_found_74 rfl ?_
          refine gf_110 78 dX3_found_75 rfl rfl ?_
          refine R.iconst 79 dX3_found_78 rfl ?_
          refine R.iadd 80 dX3_found_79 rfl ?_
          replace h := h _ rfl
          refine pf_110 _ 83 dX3_found_80 rfl rfl ?_
          refine R.aload_n 84 dX3_found_83 rfl rfl ?_
          refine gf_110 87 dX3_found_84 rfl rfl ?_
          exact R.retI dX3_found_87 rfl h
        · replace h := h.2 hc
          refine R.iconst 42 dX3_found_41 rfl ?_
          exact R.retI dX3_found_42 rfl h

abbrev k_X3_mayBe : MK := ("FrostBoxModel", cX3_mayBe, 4, (some .boolean), [], "mayBe")
def wl_X3_mayBe_2 (Q : Int32 → Wd → Prop) (l1 : Int32) (l2 : Int32) (R2 : Int32 → Wd → Prop) (l3 : Int32) (w : Wd) : Prop := ((gI w 110) ≤ l3 → Q (iz 1) w) ∧ (¬ (gI w 110) ≤ l3 → inb l3 10 ∧ (¬ (gA w 104 l3.toInt) = l1 → R2 (l3 + iz 1) w) ∧ ((gA w 104 l3.toInt) = l1 → inb l3 10 ∧ (¬ (gA w 105 l3.toInt) = l2 → inb l3 10 ∧ ((iz 0) = (gA w 109 l3.toInt) → R2 (l3 + iz 1) w) ∧ (¬ (iz 0) = (gA w 109 l3.toInt) → Q (iz 0) w)) ∧ ((gA w 105 l3.toInt) = l2 → inb l3 10 ∧ ((iz 1) = (gA w 109 l3.toInt) → R2 (l3 + iz 1) w) ∧ (¬ (iz 1) = (gA w 109 l3.toInt) → Q (iz 0) w))))
def lp_X3_mayBe_2 (Q : Int32 → Wd → Prop) (l1 : Int32) (l2 : Int32) : Nat → Int32 → Wd → Prop
  | 0, _, _ => False
  | n + 1, l3, w => wl_X3_mayBe_2 Q l1 l2 (lp_X3_mayBe_2 Q l1 l2 n) l3 w
def wp_X3_mayBe (l1 : Int32) (l2 : Int32) (w : Wd) (Q : Int32 → Wd → Prop) : Prop := ∃ n1, lp_X3_mayBe_2 Q l1 l2 n1 (iz 0) w
set_option maxRecDepth 100000 in
set_option maxHeartbeats 4000000 in
theorem sl_X3_mayBe_2 {γ : GG} (Q : Int32 → Wd → Prop) (l1 : Int32) (l2 : Int32) : ∀ (n : Nat) (l3 : Int32) (w : Wd), lp_X3_mayBe_2 Q l1 l2 n l3 w → Rch γ 1 k_X3_mayBe 2 [some (.ref 2), some (.int l1), some (.int l2), some (.int l3)] [] w (qI Q) xN := by
  intro n
  induction n with
  | zero => intro _ _ h; exact h.elim
  | succ n hR2 =>
    intro l3 w h
    have h : wl_X3_mayBe_2 Q l1 l2 (lp_X3_mayBe_2 Q l1 l2 n) l3 w := h
    unfold wl_X3_mayBe_2 at h
    refine R.iload_n 3 dX3_mayBe_2 rfl rfl ?_
    refine R.aload_n 4 dX3_mayBe_3 rfl rfl ?_
    refine gf_110 7 dX3_mayBe_4 rfl rfl ?_
    refine R.icmp_ge 52 10 dX3_mayBe_7 (by decide) rfl (fun hc => ?_) (fun hc => ?_)
    · replace h := h.1 hc
      refine R.iconst 53 dX3_mayBe_52 rfl ?_
      exact R.retZ dX3_mayBe_53 rfl zok1 h
    · replace h := h.2 hc
      refine R.aload_n 11 dX3_mayBe_10 rfl rfl ?_
      refine gf_104 14 dX3_mayBe_11 rfl rfl ?_
      refine R.iload_n 15 dX3_mayBe_14 rfl rfl ?_
      obtain ⟨hb, h⟩ := h
      refine R.iald ar_104 16 dX3_mayBe_15 rfl hb ?_
      refine R.iload_n 17 dX3_mayBe_16 rfl rfl ?_
      refine R.icmp_ne 46 20 dX3_mayBe_17 (by decide) rfl (fun hc => ?_) (fun hc => ?_)
      · replace h := h.1 hc
        refine R.inc3 49 dX3_mayBe_46 rfl (Nat.le_of_ble_eq_true rfl) rfl ?_
        refine R.goto 2 dX3_mayBe_49 (by decide) ?_
        exact Rch.dropk (hR2 _ _ h) ⟨rfl, ⟨rfl, ⟨rfl, ⟨rfl, trivial⟩⟩⟩⟩
      · replace h := h.2 hc
        refine R.aload_n 21 dX3_mayBe_20 rfl rfl ?_
        refine gf_105 24 dX3_mayBe_21 rfl rfl ?_
        refine R.iload_n 25 dX3_mayBe_24 rfl rfl ?_
        obtain ⟨hb, h⟩ := h
        refine R.iald ar_105 26 dX3_mayBe_25 rfl hb ?_
        refine R.iload_n 27 dX3_mayBe_26 rfl rfl ?_
        refine R.icmp_ne 34 30 dX3_mayBe_27 (by decide) rfl (fun hc => ?_) (fun hc => ?_)
        · replace h := h.1 hc
          refine R.iconst 35 dX3_mayBe_34 rfl ?_
          refine R.aload_n 36 dX3_mayBe_35 rfl rfl ?_
          refine gf_109 39 dX3_mayBe_36 rfl rfl ?_
          refine R.iload_n 40 dX3_mayBe_39 rfl rfl ?_
          obtain ⟨hb, h⟩ := h
          refine R.zald ar_109 41 dX3_mayBe_40 rfl hb ?_
          refine R.icmp_eq 46 44 dX3_mayBe_41 (by decide) rfl (fun hc => ?_) (fun hc => ?_)
          · replace h := h.1 hc
            refine R.inc3 49 dX3_mayBe_46 rfl (Nat.le_of_ble_eq_true rfl) rfl ?_
            refine R.goto 2 dX3_mayBe_49 (by decide) ?_
            exact Rch.dropk (hR2 _ _ h) ⟨rfl, ⟨rfl, ⟨rfl, ⟨rfl, trivial⟩⟩⟩⟩
          · replace h := h.2 hc
            refine R.iconst 45 dX3_mayBe_44 rfl ?_
            exact R.retZ dX3_mayBe_45 rfl zok0 h
        · replace h := h.2 hc
          refine R.iconst 31 dX3_mayBe_30 rfl ?_
          refine R.goto 35 dX3_mayBe_31 (by decide) ?_
          refine R.aload_n 36 dX3_mayBe_35 rfl rfl ?_
          refine gf_109 39 dX3_mayBe_36 rfl rfl ?_
          refine R.iload_n 40 dX3_mayBe_39 rfl rfl ?_
          obtain ⟨hb, h⟩ := h
          refine R.zald ar_109 41 dX3_mayBe_40 rfl hb ?_
          refine R.icmp_eq 46 44 dX3_mayBe_41 (by decide) rfl (fun hc => ?_) (fun hc => ?_)
          · replace h := h.1 hc
            refine R.inc3 49 dX3_mayBe_46 rfl (Nat.le_of_ble_eq_true rfl) rfl ?_
            refine R.goto 2 dX3_mayBe_49 (by decide) ?_
            exact Rch.dropk (hR2 _ _ h) ⟨rfl, ⟨rfl, ⟨rfl, ⟨rfl, trivial⟩⟩⟩⟩
          · replace h := h.2 hc
            refine R.iconst 45 dX3_mayBe_44 rfl ?_
            exact R.retZ dX3_mayBe_45 rfl zok0 h
set_option maxRecDepth 100000 in
set_option maxHeartbeats 4000000 in
theorem sd_X3_mayBe {γ : GG} (l1 : Int32) (l2 : Int32) (w : Wd) (Q : Int32 → Wd → Prop) : wp_X3_mayBe l1 l2 w Q → Ctr γ 1 yX3_mayBe (ws_ yX3_mayBe cX3_mayBe 4 (some .boolean)) [.ref 2, .int l1, .int l2] w (qI Q) xN := by
  intro h
  unfold wp_X3_mayBe at h
  refine Ctr.of (μ := k_X3_mayBe) (by decide) rfl rfl rfl (Nat.le_of_ble_eq_true rfl) ⟨1, ?_⟩
  have es : lva [.ref 2, .int l1, .int l2] ++ List.replicate 1 none = [some (.ref 2), some (.int l1), some (.int l2), none] := rfl
  rw [es]
  refine R.iconst 1 dX3_mayBe_0 rfl ?_
  refine R.ist3n 2 dX3_mayBe_1 rfl (Nat.le_of_ble_eq_true rfl) rfl ?_
  obtain ⟨n1, h⟩ := h
  exact Rch.dropk (sl_X3_mayBe_2 Q _ _ n1 _ _ h) ⟨rfl, ⟨rfl, ⟨rfl, ⟨rfl, trivial⟩⟩⟩⟩

abbrev k_X3_goHistory : MK := ("FrostBoxModel", cX3_goHistory, 5, none, [], "goHistory")
def wl_X3_goHistory_105 (Phis : Int32 → Int32 → Int32 → Wd → (Wd → Prop) → Prop) (Q : Wd → Prop) (l1 : Int32) (l2 : Int32) (l3 : Int32) (R105 : Int32 → Wd → Prop) (l4 : Int32) (w : Wd) : Prop := ((gI w 85) ≤ l4 → Q w) ∧ (¬ (gI w 85) ≤ l4 → inb l4 6 ∧ ((gA w 106 l4.toInt) = iz 0 → R105 (l4 + iz 1) w) ∧ (¬ (gA w 106 l4.toInt) = iz 0 → wp_X3_mayBe l1 l4 w (fun r1 w2 => (¬ r1 = iz 0 → inb l4 6 ∧ inb l4 6 ∧ (∀ w3, w3 = sA w2 106 l4.toInt ((gA w2 106 l4.toInt) - (iz 1)) → inb l1 6 ∧ (∀ w4, w4 = sA w3 107 l1.toInt l4 → Phis (l1 + (iz 1)) (((iz 10) * l2) + l4) l3 w4 (fun w6 => inb l4 6 ∧ inb l4 6 ∧ (∀ w7, w7 = sA w6 106 l4.toInt ((gA w6 106 l4.toInt) + (iz 1)) → R105 (l4 + iz 1) w7))))) ∧ (r1 = iz 0 → R105 (l4 + iz 1) w2))))
def lp_X3_goHistory_105 (Phis : Int32 → Int32 → Int32 → Wd → (Wd → Prop) → Prop) (Q : Wd → Prop) (l1 : Int32) (l2 : Int32) (l3 : Int32) : Nat → Int32 → Wd → Prop
  | 0, _, _ => False
  | n + 1, l4, w => wl_X3_goHistory_105 Phis Q l1 l2 l3 (lp_X3_goHistory_105 Phis Q l1 l2 l3 n) l4 w
def wl_X3_goHistory_22 (Phis : Int32 → Int32 → Int32 → Wd → (Wd → Prop) → Prop) (Q : Wd → Prop) (R22 : Int32 → Wd → Prop) (l4 : Int32) (w : Wd) : Prop := ((iz 6) ≤ l4 → ∀ w1, w1 = sI w 111 ((gI w 111) + (iz 1)) → Q w1) ∧ (¬ (iz 6) ≤ l4 → (¬ (gI w 111) = iz 0 → inb l4 6 ∧ inb l4 6 ∧ ((gA w 108 l4.toInt) = (gA w 107 l4.toInt) → R22 (l4 + iz 1) w) ∧ (¬ (gA w 108 l4.toInt) = (gA w 107 l4.toInt) → ∀ w2, w2 = sI w 113 ((gI w 113) &&& (((iz 1) <<< (l4 &&& 31)) ^^^ (iz (-1)))) → R22 (l4 + iz 1) w2)) ∧ ((gI w 111) = iz 0 → inb l4 6 ∧ inb l4 6 ∧ (∀ w3, w3 = sA w 108 l4.toInt (gA w 107 l4.toInt) → R22 (l4 + iz 1) w3)))
def lp_X3_goHistory_22 (Phis : Int32 → Int32 → Int32 → Wd → (Wd → Prop) → Prop) (Q : Wd → Prop) : Nat → Int32 → Wd → Prop
  | 0, _, _ => False
  | n + 1, l4, w => wl_X3_goHistory_22 Phis Q (lp_X3_goHistory_22 Phis Q n) l4 w
def wp_X3_goHistory (Phis : Int32 → Int32 → Int32 → Wd → (Wd → Prop) → Prop) (l1 : Int32) (l2 : Int32) (l3 : Int32) (w : Wd) (Q : Wd → Prop) : Prop := (¬ l1 = (iz 6) → ∃ n1, lp_X3_goHistory_105 Phis Q l1 l2 l3 n1 (iz 0) w) ∧ (l1 = (iz 6) → (¬ (gI w 111) = l3 → ∃ n2, lp_X3_goHistory_22 Phis Q n2 (iz 0) w) ∧ ((gI w 111) = l3 → ∀ w3, w3 = sI w 112 l2 → ∃ n4, lp_X3_goHistory_22 Phis Q n4 (iz 0) w3))
set_option maxRecDepth 100000 in
set_option maxHeartbeats 4000000 in
theorem sl_X3_goHistory_105 {γ : GG} {dP : Nat} (hB : 1 ≤ dP) (Phis : Int32 → Int32 → Int32 → Wd → (Wd → Prop) → Prop) (hPhis : ∀ (l1 : Int32) (l2 : Int32) (l3 : Int32) (w : Wd) (Q : Wd → Prop) , Phis l1 l2 l3 w Q → Ctr γ dP yX3_goHistory (ws_ yX3_goHistory cX3_goHistory 5 none) [.ref 2, .int l1, .int l2, .int l3] w (qV Q) xN) (Q : Wd → Prop) (l1 : Int32) (l2 : Int32) (l3 : Int32) : ∀ (n : Nat) (l4 : Int32) (w : Wd), lp_X3_goHistory_105 Phis Q l1 l2 l3 n l4 w → Rch γ (dP + 1) k_X3_goHistory 105 [some (.ref 2), some (.int l1), some (.int l2), some (.int l3), some (.int l4)] [] w (qV Q) xN := by
  intro n
  induction n with
  | zero => intro _ _ h; exact h.elim
  | succ n hR105 =>
    intro l4 w h
    have h : wl_X3_goHistory_105 Phis Q l1 l2 l3 (lp_X3_goHistory_105 Phis Q l1 l2 l3 n) l4 w := h
    unfold wl_X3_goHistory_105 at h
    refine R.iload 107 dX3_goHistory_105 rfl rfl ?_
    refine R.aload_n 108 dX3_goHistory_107 rfl rfl ?_
    refine gf_85 111 dX3_goHistory_108 rfl rfl ?_
    refine R.icmp_ge 188 114 dX3_goHistory_111 (by decide) rfl (fun hc => ?_) (fun hc => ?_)
    · replace h := h.1 hc
      exact R.retV dX3_goHistory_188 rfl h
    · replace h := h.2 hc
      refine R.aload_n 115 dX3_goHistory_114 rfl rfl ?_
      refine gf_106 118 dX3_goHistory_115 rfl rfl ?_
      refine R.iload 120 dX3_goHistory_118 rfl rfl ?_
      obtain ⟨hb, h⟩ := h
      refine R.iald ar_106 121 dX3_goHistory_120 rfl hb ?_
      refine R.if_eq 182 124 dX3_goHistory_121 (by decide) rfl (fun hc => ?_) (fun hc => ?_)
      · replace h := h.1 hc
        refine R.inc4 185 dX3_goHistory_182 rfl (Nat.le_of_ble_eq_true rfl) rfl ?_
        refine R.goto 105 dX3_goHistory_185 (by decide) ?_
        exact Rch.dropk (hR105 _ _ h) ⟨rfl, ⟨rfl, ⟨rfl, ⟨rfl, ⟨rfl, trivial⟩⟩⟩⟩⟩
      · replace h := h.2 hc
        refine R.aload_n 125 dX3_goHistory_124 rfl rfl ?_
        refine R.iload_n 126 dX3_goHistory_125 rfl rfl ?_
        refine R.iload 128 dX3_goHistory_126 rfl rfl ?_
        refine Rch.callv (sd_X3_mayBe _ _ _ _ h) dX3_goHistory_128 (lw_V q1847 q1849 qs139 q146 q1850) dk_X3_mayBe rcM (by omega) (Nat.le_of_ble_eq_true rfl) rfl rfl (Nat.le_of_ble_eq_true rfl) (kI 131 rfl fun r1 w2 h => ?_) kN
        refine R.if_ne 137 134 dX3_goHistory_131 (by decide) rfl (fun hc => ?_) (fun hc => ?_)
        · replace h := h.1 hc
          refine R.aload_n 138 dX3_goHistory_137 rfl rfl ?_
          refine gf_106 141 dX3_goHistory_138 rfl rfl ?_
          refine R.iload 143 dX3_goHistory_141 rfl rfl ?_
          refine R.dup2 144 dX3_goHistory_143 rfl ?_
          obtain ⟨hb, h⟩ := h
          refine R.iald ar_106 145 dX3_goHistory_144 rfl hb ?_
          refine R.iconst 146 dX3_goHistory_145 rfl ?_
          refine R.isub 147 dX3_goHistory_146 rfl ?_
          obtain ⟨hb, h⟩ := h
          replace h := h _ rfl
          refine R.iast ar_106 148 dX3_goHistory_147 rfl hb ?_
          refine R.aload_n 149 dX3_goHistory_148 rfl rfl ?_
          refine gf_107 152 dX3_goHistory_149 rfl rfl ?_
          refine R.iload_n 153 dX3_goHistory_152 rfl rfl ?_
          refine R.iload 155 dX3_goHistory_153 rfl rfl ?_
          obtain ⟨hb, h⟩ := h
          replace h := h _ rfl
          refine R.iast ar_107 156 dX3_goHistory_155 rfl hb ?_
          refine R.aload_n 157 dX3_goHistory_156 rfl rfl ?_
          refine R.iload_n 158 dX3_goHistory_157 rfl rfl ?_
          refine R.iconst 159 dX3_goHistory_158 rfl ?_
          refine R.iadd 160 dX3_goHistory_159 rfl ?_
          refine R.bipush 162 dX3_goHistory_160 rfl (by decide +kernel) ?_
          refine R.iload_n 163 dX3_goHistory_162 rfl rfl ?_
          refine R.imul 164 dX3_goHistory_163 rfl ?_
          refine R.iload 166 dX3_goHistory_164 rfl rfl ?_
          refine R.iadd 167 dX3_goHistory_166 rfl ?_
          refine R.iload_n 168 dX3_goHistory_167 rfl rfl ?_
          refine Rch.callv (hPhis _ _ _ _ _ h) dX3_goHistory_168 (lw_V q1843 q1845 qs138 q146 q1846) dk_X3_goHistory rcM (by omega) (Nat.le_of_ble_eq_true rfl) rfl rfl (Nat.le_of_ble_eq_true rfl) (kV 171 rfl fun w6 h => ?_) kN
          refine R.aload_n 172 dX3_goHistory_171 rfl rfl ?_
          refine gf_106 175 dX3_goHistory_172 rfl rfl ?_
          refine R.iload 177 dX3_goHistory_175 rfl rfl ?_
          refine R.dup2 178 dX3_goHistory_177 rfl ?_
          obtain ⟨hb, h⟩ := h
          refine R.iald ar_106 179 dX3_goHistory_178 rfl hb ?_
          refine R.iconst 180 dX3_goHistory_179 rfl ?_
          refine R.iadd 181 dX3_goHistory_180 rfl ?_
          obtain ⟨hb, h⟩ := h
          replace h := h _ rfl
          refine R.iast ar_106 182 dX3_goHistory_181 rfl hb ?_
          refine R.inc4 185 dX3_goHistory_182 rfl (Nat.le_of_ble_eq_true rfl) rfl ?_
          refine R.goto 105 dX3_goHistory_185 (by decide) ?_
          exact Rch.dropk (hR105 _ _ h) ⟨rfl, ⟨rfl, ⟨rfl, ⟨rfl, ⟨rfl, trivial⟩⟩⟩⟩⟩
        · replace h := h.2 hc
          refine R.goto 182 dX3_goHistory_134 (by decide) ?_
          refine R.inc4 185 dX3_goHistory_182 rfl (Nat.le_of_ble_eq_true rfl) rfl ?_
          refine R.goto 105 dX3_goHistory_185 (by decide) ?_
          exact Rch.dropk (hR105 _ _ h) ⟨rfl, ⟨rfl, ⟨rfl, ⟨rfl, ⟨rfl, trivial⟩⟩⟩⟩⟩
set_option maxRecDepth 100000 in
set_option maxHeartbeats 4000000 in
theorem sl_X3_goHistory_22 {γ : GG} {dP : Nat} (hB : 1 ≤ dP) (Phis : Int32 → Int32 → Int32 → Wd → (Wd → Prop) → Prop) (hPhis : ∀ (l1 : Int32) (l2 : Int32) (l3 : Int32) (w : Wd) (Q : Wd → Prop) , Phis l1 l2 l3 w Q → Ctr γ dP yX3_goHistory (ws_ yX3_goHistory cX3_goHistory 5 none) [.ref 2, .int l1, .int l2, .int l3] w (qV Q) xN) (Q : Wd → Prop) : ∀ (n : Nat) (l4 : Int32) (w : Wd), lp_X3_goHistory_22 Phis Q n l4 w → Rch γ (dP + 1) k_X3_goHistory 22 [some (.ref 2), none, none, none, some (.int l4)] [] w (qV Q) xN := by
  intro n
  induction n with
  | zero => intro _ _ h; exact h.elim
  | succ n hR22 =>
    intro l4 w h
    have h : wl_X3_goHistory_22 Phis Q (lp_X3_goHistory_22 Phis Q n) l4 w := h
    unfold wl_X3_goHistory_22 at h
    refine R.iload 24 dX3_goHistory_22 rfl rfl ?_
    refine R.bipush 26 dX3_goHistory_24 rfl (by decide +kernel) ?_
    refine R.icmp_ge 91 29 dX3_goHistory_26 (by decide) rfl (fun hc => ?_) (fun hc => ?_)
    · replace h := h.1 hc
      refine R.aload_n 92 dX3_goHistory_91 rfl rfl ?_
      refine R.dupR 93 dX3_goHistory_92 rfl ?_
      refine gf_111 96 dX3_goHistory_93 rfl rfl ?_
      refine R.iconst 97 dX3_goHistory_96 rfl ?_
      refine R.iadd 98 dX3_goHistory_97 rfl ?_
      replace h := h _ rfl
      refine pf_111 _ 101 dX3_goHistory_98 rfl rfl ?_
      exact R.retV dX3_goHistory_101 rfl h
    · replace h := h.2 hc
      refine R.aload_n 30 dX3_goHistory_29 rfl rfl ?_
      refine gf_111 33 dX3_goHistory_30 rfl rfl ?_
      refine R.if_ne 53 36 dX3_goHistory_33 (by decide) rfl (fun hc => ?_) (fun hc => ?_)
      · replace h := h.1 hc
        refine R.aload_n 54 dX3_goHistory_53 rfl rfl ?_
        refine gf_108 57 dX3_goHistory_54 rfl rfl ?_
        refine R.iload 59 dX3_goHistory_57 rfl rfl ?_
        obtain ⟨hb, h⟩ := h
        refine R.iald ar_108 60 dX3_goHistory_59 rfl hb ?_
        refine R.aload_n 61 dX3_goHistory_60 rfl rfl ?_
        refine gf_107 64 dX3_goHistory_61 rfl rfl ?_
        refine R.iload 66 dX3_goHistory_64 rfl rfl ?_
        obtain ⟨hb, h⟩ := h
        refine R.iald ar_107 67 dX3_goHistory_66 rfl hb ?_
        refine R.icmp_eq 85 70 dX3_goHistory_67 (by decide) rfl (fun hc => ?_) (fun hc => ?_)
        · replace h := h.1 hc
          refine R.inc4 88 dX3_goHistory_85 rfl (Nat.le_of_ble_eq_true rfl) rfl ?_
          refine R.goto 22 dX3_goHistory_88 (by decide) ?_
          exact Rch.dropk (hR22 _ _ h) ⟨rfl, ⟨rfl, trivial⟩⟩
        · replace h := h.2 hc
          refine R.aload_n 71 dX3_goHistory_70 rfl rfl ?_
          refine R.dupR 72 dX3_goHistory_71 rfl ?_
          refine gf_113 75 dX3_goHistory_72 rfl rfl ?_
          refine R.iconst 76 dX3_goHistory_75 rfl ?_
          refine R.iload 78 dX3_goHistory_76 rfl rfl ?_
          refine R.ishl 79 dX3_goHistory_78 rfl ?_
          refine R.iconst 80 dX3_goHistory_79 rfl ?_
          refine R.ixor 81 dX3_goHistory_80 rfl ?_
          refine R.iand 82 dX3_goHistory_81 rfl ?_
          replace h := h _ rfl
          refine pf_113 _ 85 dX3_goHistory_82 rfl rfl ?_
          refine R.inc4 88 dX3_goHistory_85 rfl (Nat.le_of_ble_eq_true rfl) rfl ?_
          refine R.goto 22 dX3_goHistory_88 (by decide) ?_
          exact Rch.dropk (hR22 _ _ h) ⟨rfl, ⟨rfl, trivial⟩⟩
      · replace h := h.2 hc
        refine R.aload_n 37 dX3_goHistory_36 rfl rfl ?_
        refine gf_108 40 dX3_goHistory_37 rfl rfl ?_
        refine R.iload 42 dX3_goHistory_40 rfl rfl ?_
        refine R.aload_n 43 dX3_goHistory_42 rfl rfl ?_
        refine gf_107 46 dX3_goHistory_43 rfl rfl ?_
        refine R.iload 48 dX3_goHistory_46 rfl rfl ?_
        obtain ⟨hb, h⟩ := h
        refine R.iald ar_107 49 dX3_goHistory_48 rfl hb ?_
        obtain ⟨hb, h⟩ := h
        replace h := h _ rfl
        refine R.iast ar_108 50 dX3_goHistory_49 rfl hb ?_
        refine R.goto 85 dX3_goHistory_50 (by decide) ?_
        refine R.inc4 88 dX3_goHistory_85 rfl (Nat.le_of_ble_eq_true rfl) rfl ?_
        refine R.goto 22 dX3_goHistory_88 (by decide) ?_
        exact Rch.dropk (hR22 _ _ h) ⟨rfl, ⟨rfl, trivial⟩⟩
set_option maxRecDepth 100000 in
set_option maxHeartbeats 4000000 in
theorem sd_X3_goHistory {γ : GG} {dP : Nat} (hB : 1 ≤ dP) (Phis : Int32 → Int32 → Int32 → Wd → (Wd → Prop) → Prop) (hPhis : ∀ (l1 : Int32) (l2 : Int32) (l3 : Int32) (w : Wd) (Q : Wd → Prop) , Phis l1 l2 l3 w Q → Ctr γ dP yX3_goHistory (ws_ yX3_goHistory cX3_goHistory 5 none) [.ref 2, .int l1, .int l2, .int l3] w (qV Q) xN) (l1 : Int32) (l2 : Int32) (l3 : Int32) (w : Wd) (Q : Wd → Prop) : wp_X3_goHistory Phis l1 l2 l3 w Q → Ctr γ (dP + 1) yX3_goHistory (ws_ yX3_goHistory cX3_goHistory 5 none) [.ref 2, .int l1, .int l2, .int l3] w (qV Q) xN := by
  intro h
  unfold wp_X3_goHistory at h
  refine Ctr.of (μ := k_X3_goHistory) (by decide) rfl rfl rfl (Nat.le_of_ble_eq_true rfl) ⟨1, ?_⟩
  have es : lva [.ref 2, .int l1, .int l2, .int l3] ++ List.replicate 1 none = [some (.ref 2), some (.int l1), some (.int l2), some (.int l3), none] := rfl
  rw [es]
  refine R.iload_n 1 dX3_goHistory_0 rfl rfl ?_
  refine R.bipush 3 dX3_goHistory_1 rfl (by decide +kernel) ?_
  refine R.icmp_ne 102 6 dX3_goHistory_3 (by decide) rfl (fun hc => ?_) (fun hc => ?_)
  · replace h := h.1 hc
    refine R.iconst 103 dX3_goHistory_102 rfl ?_
    refine R.ist4 105 dX3_goHistory_103 rfl (Nat.le_of_ble_eq_true rfl) rfl ?_
    obtain ⟨n1, h⟩ := h
    exact Rch.dropk (sl_X3_goHistory_105 hB Phis hPhis Q _ _ _ n1 _ _ h) ⟨rfl, ⟨rfl, ⟨rfl, ⟨rfl, ⟨rfl, trivial⟩⟩⟩⟩⟩
  · replace h := h.2 hc
    refine R.aload_n 7 dX3_goHistory_6 rfl rfl ?_
    refine gf_111 10 dX3_goHistory_7 rfl rfl ?_
    refine R.iload_n 11 dX3_goHistory_10 rfl rfl ?_
    refine R.icmp_ne 19 14 dX3_goHistory_11 (by decide) rfl (fun hc => ?_) (fun hc => ?_)
    · replace h := h.1 hc
      refine R.iconst 20 dX3_goHistory_19 rfl ?_
      refine R.ist4 22 dX3_goHistory_20 rfl (Nat.le_of_ble_eq_true rfl) rfl ?_
      obtain ⟨n2, h⟩ := h
      exact Rch.dropk (sl_X3_goHistory_22 hB Phis hPhis Q n2 _ _ h) ⟨rfl, ⟨rfl, trivial⟩⟩
    · replace h := h.2 hc
      refine R.aload_n 15 dX3_goHistory_14 rfl rfl ?_
      refine R.iload_n 16 dX3_goHistory_15 rfl rfl ?_
      replace h := h _ rfl
      refine pf_112 _ 19 dX3_goHistory_16 rfl rfl ?_
      refine R.iconst 20 dX3_goHistory_19 rfl ?_
      refine R.ist4 22 dX3_goHistory_20 rfl (Nat.le_of_ble_eq_true rfl) rfl ?_
      obtain ⟨n4, h⟩ := h
      exact Rch.dropk (sl_X3_goHistory_22 hB Phis hPhis Q n4 _ _ h) ⟨rfl, ⟨rfl, trivial⟩⟩

def pf_X3_goHistory : Nat → Int32 → Int32 → Int32 → Wd → (Wd → Prop) → Prop
  | 0 => fun _ _ _ _ _ => False
  | n + 1 => wp_X3_goHistory (pf_X3_goHistory n)
theorem sfn_X3_goHistory {γ : GG} : ∀ (n : Nat) (l1 : Int32) (l2 : Int32) (l3 : Int32) (w : Wd) (Q : Wd → Prop) , pf_X3_goHistory n l1 l2 l3 w Q → Ctr γ (1 + 1 * n) yX3_goHistory (ws_ yX3_goHistory cX3_goHistory 5 none) [.ref 2, .int l1, .int l2, .int l3] w (qV Q) xN
  | 0, _, _, _, _, _, h => h.elim
  | n + 1, _, _, _, _, _, h => sd_X3_goHistory (dP := 1 + 1 * n) (by omega) (pf_X3_goHistory n) (sfn_X3_goHistory n) _ _ _ _ _ h
theorem sf_X3_goHistory {γ : GG} (n : Nat) (l1 : Int32) (l2 : Int32) (l3 : Int32) (w : Wd) (Q : Wd → Prop) (h : pf_X3_goHistory n l1 l2 l3 w Q) : Ctr γ (1 + 1 * n) yX3_goHistory (ws_ yX3_goHistory cX3_goHistory 5 none) [.ref 2, .int l1, .int l2, .int l3] w (qV Q) xN := sfn_X3_goHistory n l1 l2 l3 w Q h

abbrev k_X3_layHistory : MK := ("FrostBoxModel", cX3_layHistory, 6, (some .boolean), [], "layHistory")
def wl_X3_layHistory_29 (Q : Int32 → Wd → Prop) (l2 : Int32) (R29 : Int32 → Int32 → Int32 → Wd → Prop) (l3 : Int32) (l4 : Int32) (l5 : Int32) (w : Wd) : Prop := (l5 < iz 0 → (l4 = (iz 6) → ∀ w1, w1 = sI w 111 (iz 0) → ∀ w2, w2 = sI w1 112 (iz (-1)) → ∀ w3, w3 = sI w2 113 (iz 63) → pf_X3_goHistory 8 (iz 0) (iz 0) l2 w3 (fun w5 => Q (iz 1) w5)) ∧ (¬ l4 = (iz 6) → Q (iz 0) w)) ∧ (¬ l5 < iz 0 → inb l5 6 ∧ (∀ w6, w6 = sA w 106 l5.toInt (l3 - l3 / (iz 10) * (iz 10)) → inb l5 6 ∧ (l5 < (gI w6 85) → R29 (l3 / (iz 10)) (l4 + (gA w6 106 l5.toInt)) (l5 + iz (-1)) w6) ∧ (¬ l5 < (gI w6 85) → inb l5 6 ∧ ((gA w6 106 l5.toInt) ≤ iz 0 → R29 (l3 / (iz 10)) (l4 + (gA w6 106 l5.toInt)) (l5 + iz (-1)) w6) ∧ (¬ (gA w6 106 l5.toInt) ≤ iz 0 → Q (iz 0) w6))))
def lp_X3_layHistory_29 (Q : Int32 → Wd → Prop) (l2 : Int32) : Nat → Int32 → Int32 → Int32 → Wd → Prop
  | 0, _, _, _, _ => False
  | n + 1, l3, l4, l5, w => wl_X3_layHistory_29 Q l2 (lp_X3_layHistory_29 Q l2 n) l3 l4 l5 w
def wp_X3_layHistory (l1 : Int32) (l2 : Int32) (w : Wd) (Q : Int32 → Wd → Prop) : Prop := ((gI w 85) = iz 0 → Q (iz 0) w) ∧ (¬ (gI w 85) = iz 0 → wp_X3_isIn ((l1).toInt64) (lz 0) (lz 999999) w (fun r1 w2 => (¬ r1 = iz 0 → ∃ n3, lp_X3_layHistory_29 Q l2 n3 l1 (iz 0) (iz 5) w2) ∧ (r1 = iz 0 → Q (iz 0) w2)))
set_option maxRecDepth 100000 in
set_option maxHeartbeats 4000000 in
theorem sl_X3_layHistory_29 {γ : GG} (Q : Int32 → Wd → Prop) (l2 : Int32) : ∀ (n : Nat) (l3 : Int32) (l4 : Int32) (l5 : Int32) (w : Wd), lp_X3_layHistory_29 Q l2 n l3 l4 l5 w → Rch γ 10 k_X3_layHistory 29 [some (.ref 2), none, some (.int l2), some (.int l3), some (.int l4), some (.int l5)] [] w (qI Q) xN := by
  intro n
  induction n with
  | zero => intro _ _ _ _ h; exact h.elim
  | succ n hR29 =>
    intro l3 l4 l5 w h
    have h : wl_X3_layHistory_29 Q l2 (lp_X3_layHistory_29 Q l2 n) l3 l4 l5 w := h
    unfold wl_X3_layHistory_29 at h
    refine R.iload 31 dX3_layHistory_29 rfl rfl ?_
    refine R.if_lt 89 34 dX3_layHistory_31 (by decide) rfl (fun hc => ?_) (fun hc => ?_)
    · replace h := h.1 hc
      refine R.iload 91 dX3_layHistory_89 rfl rfl ?_
      refine R.bipush 93 dX3_layHistory_91 rfl (by decide +kernel) ?_
      refine R.icmp_eq 98 96 dX3_layHistory_93 (by decide) rfl (fun hc => ?_) (fun hc => ?_)
      · replace h := h.1 hc
        refine R.aload_n 99 dX3_layHistory_98 rfl rfl ?_
        refine R.iconst 100 dX3_layHistory_99 rfl ?_
        replace h := h _ rfl
        refine pf_111 _ 103 dX3_layHistory_100 rfl rfl ?_
        refine R.aload_n 104 dX3_layHistory_103 rfl rfl ?_
        refine R.iconst 105 dX3_layHistory_104 rfl ?_
        replace h := h _ rfl
        refine pf_112 _ 108 dX3_layHistory_105 rfl rfl ?_
        refine R.aload_n 109 dX3_layHistory_108 rfl rfl ?_
        refine R.bipush 111 dX3_layHistory_109 rfl (by decide +kernel) ?_
        replace h := h _ rfl
        refine pf_113 _ 114 dX3_layHistory_111 rfl rfl ?_
        refine R.aload_n 115 dX3_layHistory_114 rfl rfl ?_
        refine R.iconst 116 dX3_layHistory_115 rfl ?_
        refine R.iconst 117 dX3_layHistory_116 rfl ?_
        refine R.iload_n 118 dX3_layHistory_117 rfl rfl ?_
        refine Rch.callv (sf_X3_goHistory 8 _ _ _ _ _ h) dX3_layHistory_118 (lw_V q1843 q1845 qs138 q146 q1846) dk_X3_goHistory rcM (by decide) (Nat.le_of_ble_eq_true rfl) rfl rfl (Nat.le_of_ble_eq_true rfl) (kV 121 rfl fun w5 h => ?_) kN
        refine R.iconst 122 dX3_layHistory_121 rfl ?_
        exact R.retZ dX3_layHistory_122 rfl zok1 h
      · replace h := h.2 hc
        refine R.iconst 97 dX3_layHistory_96 rfl ?_
        exact R.retZ dX3_layHistory_97 rfl zok0 h
    · replace h := h.2 hc
      refine R.aload_n 35 dX3_layHistory_34 rfl rfl ?_
      refine gf_106 38 dX3_layHistory_35 rfl rfl ?_
      refine R.iload 40 dX3_layHistory_38 rfl rfl ?_
      refine R.iload_n 41 dX3_layHistory_40 rfl rfl ?_
      refine R.bipush 43 dX3_layHistory_41 rfl (by decide +kernel) ?_
      refine R.irem 44 dX3_layHistory_43 rfl (by decide +kernel) ?_
      obtain ⟨hb, h⟩ := h
      replace h := h _ rfl
      refine R.iast ar_106 45 dX3_layHistory_44 rfl hb ?_
      refine R.iload_n 46 dX3_layHistory_45 rfl rfl ?_
      refine R.bipush 48 dX3_layHistory_46 rfl (by decide +kernel) ?_
      refine R.idiv 49 dX3_layHistory_48 rfl (by decide +kernel) ?_
      refine R.ist3n 50 dX3_layHistory_49 rfl (Nat.le_of_ble_eq_true rfl) rfl ?_
      refine R.iload 52 dX3_layHistory_50 rfl rfl ?_
      refine R.aload_n 53 dX3_layHistory_52 rfl rfl ?_
      refine gf_106 56 dX3_layHistory_53 rfl rfl ?_
      refine R.iload 58 dX3_layHistory_56 rfl rfl ?_
      obtain ⟨hb, h⟩ := h
      refine R.iald ar_106 59 dX3_layHistory_58 rfl hb ?_
      refine R.iadd 60 dX3_layHistory_59 rfl ?_
      refine R.ist4 62 dX3_layHistory_60 rfl (Nat.le_of_ble_eq_true rfl) rfl ?_
      refine R.iload 64 dX3_layHistory_62 rfl rfl ?_
      refine R.aload_n 65 dX3_layHistory_64 rfl rfl ?_
      refine gf_85 68 dX3_layHistory_65 rfl rfl ?_
      refine R.icmp_lt 83 71 dX3_layHistory_68 (by decide) rfl (fun hc => ?_) (fun hc => ?_)
      · replace h := h.1 hc
        refine R.inc5 86 dX3_layHistory_83 rfl (Nat.le_of_ble_eq_true rfl) rfl ?_
        refine R.goto 29 dX3_layHistory_86 (by decide) ?_
        exact Rch.dropk (hR29 _ _ _ _ h) ⟨rfl, ⟨rfl, ⟨rfl, ⟨rfl, ⟨rfl, trivial⟩⟩⟩⟩⟩
      · replace h := h.2 hc
        refine R.aload_n 72 dX3_layHistory_71 rfl rfl ?_
        refine gf_106 75 dX3_layHistory_72 rfl rfl ?_
        refine R.iload 77 dX3_layHistory_75 rfl rfl ?_
        obtain ⟨hb, h⟩ := h
        refine R.iald ar_106 78 dX3_layHistory_77 rfl hb ?_
        refine R.if_le 83 81 dX3_layHistory_78 (by decide) rfl (fun hc => ?_) (fun hc => ?_)
        · replace h := h.1 hc
          refine R.inc5 86 dX3_layHistory_83 rfl (Nat.le_of_ble_eq_true rfl) rfl ?_
          refine R.goto 29 dX3_layHistory_86 (by decide) ?_
          exact Rch.dropk (hR29 _ _ _ _ h) ⟨rfl, ⟨rfl, ⟨rfl, ⟨rfl, ⟨rfl, trivial⟩⟩⟩⟩⟩
        · replace h := h.2 hc
          refine R.iconst 82 dX3_layHistory_81 rfl ?_
          exact R.retZ dX3_layHistory_82 rfl zok0 h
set_option maxRecDepth 100000 in
set_option maxHeartbeats 4000000 in
theorem sd_X3_layHistory {γ : GG} (l1 : Int32) (l2 : Int32) (w : Wd) (Q : Int32 → Wd → Prop) : wp_X3_layHistory l1 l2 w Q → Ctr γ 10 yX3_layHistory (ws_ yX3_layHistory cX3_layHistory 6 (some .boolean)) [.ref 2, .int l1, .int l2] w (qI Q) xN := by
  intro h
  unfold wp_X3_layHistory at h
  refine Ctr.of (μ := k_X3_layHistory) (by decide) rfl rfl rfl (Nat.le_of_ble_eq_true rfl) ⟨3, ?_⟩
  have es : lva [.ref 2, .int l1, .int l2] ++ List.replicate 3 none = [some (.ref 2), some (.int l1), some (.int l2), none, none, none] := rfl
  rw [es]
  refine R.aload_n 1 dX3_layHistory_0 rfl rfl ?_
  refine gf_85 4 dX3_layHistory_1 rfl rfl ?_
  refine R.if_eq 19 7 dX3_layHistory_4 (by decide) rfl (fun hc => ?_) (fun hc => ?_)
  · replace h := h.1 hc
    refine R.iconst 20 dX3_layHistory_19 rfl ?_
    exact R.retZ dX3_layHistory_20 rfl zok0 h
  · replace h := h.2 hc
    refine R.iload_n 8 dX3_layHistory_7 rfl rfl ?_
    refine R.i2l 9 dX3_layHistory_8 rfl ?_
    refine R.lconst (m0 := 0) 10 dX3_layHistory_9 rfl (by decide +kernel) ?_
    refine R.ldc2 (n := 999999) 13 dX3_layHistory_10 rfl q1842 (by decide +kernel) ?_
    refine Rch.calls (sd_X3_isIn _ _ _ _ _ h) dX3_layHistory_13 (lw_S q1426 q1427 q146 q1428) dk_X3_isIn (by decide) (Nat.le_of_ble_eq_true rfl) rfl rfl (Nat.le_of_ble_eq_true rfl) (kI 16 rfl fun r1 w2 h => ?_) kN
    refine R.if_ne 21 19 dX3_layHistory_16 (by decide) rfl (fun hc => ?_) (fun hc => ?_)
    · replace h := h.1 hc
      refine R.iload_n 22 dX3_layHistory_21 rfl rfl ?_
      refine R.ist3n 23 dX3_layHistory_22 rfl (Nat.le_of_ble_eq_true rfl) rfl ?_
      refine R.iconst 24 dX3_layHistory_23 rfl ?_
      refine R.ist4 26 dX3_layHistory_24 rfl (Nat.le_of_ble_eq_true rfl) rfl ?_
      refine R.iconst 27 dX3_layHistory_26 rfl ?_
      refine R.ist5 29 dX3_layHistory_27 rfl (Nat.le_of_ble_eq_true rfl) rfl ?_
      obtain ⟨n3, h⟩ := h
      exact Rch.dropk (sl_X3_layHistory_29 Q _ n3 _ _ _ _ h) ⟨rfl, ⟨rfl, ⟨rfl, ⟨rfl, ⟨rfl, trivial⟩⟩⟩⟩⟩
    · replace h := h.2 hc
      refine R.iconst 20 dX3_layHistory_19 rfl ?_
      exact R.retZ dX3_layHistory_20 rfl zok0 h

abbrev k_X3_history : MK := ("FrostBoxModel", cX3_history, 3, (some .int), [], "history")
def wp_X3_history (l1 : Int32) (l2 : Int32) (w : Wd) (Q : Int32 → Wd → Prop) : Prop := ∀ w1, w1 = sI w 60 (iz 0) → (l2 < (iz (-1)) → Q (iz (-1)) w1) ∧ (¬ l2 < (iz (-1)) → wp_X3_layHistory l1 l2 w1 (fun r2 w3 => (¬ r2 = iz 0 → (¬ l2 = (iz (-1)) → Q (gI w3 112) w3) ∧ (l2 = (iz (-1)) → Q (gI w3 111) w3)) ∧ (r2 = iz 0 → Q (iz (-1)) w3)))
set_option maxRecDepth 100000 in
set_option maxHeartbeats 4000000 in
theorem sd_X3_history {γ : GG} (l1 : Int32) (l2 : Int32) (w : Wd) (Q : Int32 → Wd → Prop) : wp_X3_history l1 l2 w Q → Ctr γ 11 yX3_history (ws_ yX3_history cX3_history 3 (some .int)) [.ref 2, .int l1, .int l2] w (qI Q) xN := by
  intro h
  unfold wp_X3_history at h
  refine Ctr.of (μ := k_X3_history) (by decide) rfl rfl rfl (Nat.le_of_ble_eq_true rfl) ⟨0, ?_⟩
  have es : lva [.ref 2, .int l1, .int l2] ++ List.replicate 0 none = [some (.ref 2), some (.int l1), some (.int l2)] := rfl
  rw [es]
  refine R.aload_n 1 dX3_history_0 rfl rfl ?_
  refine R.iconst 2 dX3_history_1 rfl ?_
  replace h := h _ rfl
  refine pf_60 _ 5 dX3_history_2 rfl rfl ?_
  refine R.iload_n 6 dX3_history_5 rfl rfl ?_
  refine R.iconst 7 dX3_history_6 rfl ?_
  refine R.icmp_lt 19 10 dX3_history_7 (by decide) rfl (fun hc => ?_) (fun hc => ?_)
  · replace h := h.1 hc
    refine R.iconst 20 dX3_history_19 rfl ?_
    exact R.retI dX3_history_20 rfl h
  · replace h := h.2 hc
    refine R.aload_n 11 dX3_history_10 rfl rfl ?_
    refine R.iload_n 12 dX3_history_11 rfl rfl ?_
    refine R.iload_n 13 dX3_history_12 rfl rfl ?_
    refine Rch.callv (sd_X3_layHistory _ _ _ _ h) dX3_history_13 (lw_V q1838 q1840 qs137 q146 q1841) dk_X3_layHistory rcM (by decide) (Nat.le_of_ble_eq_true rfl) rfl rfl (Nat.le_of_ble_eq_true rfl) (kI 16 rfl fun r2 w3 h => ?_) kN
    refine R.if_ne 21 19 dX3_history_16 (by decide) rfl (fun hc => ?_) (fun hc => ?_)
    · replace h := h.1 hc
      refine R.iload_n 22 dX3_history_21 rfl rfl ?_
      refine R.iconst 23 dX3_history_22 rfl ?_
      refine R.icmp_ne 33 26 dX3_history_23 (by decide) rfl (fun hc => ?_) (fun hc => ?_)
      · replace h := h.1 hc
        refine R.aload_n 34 dX3_history_33 rfl rfl ?_
        refine gf_112 37 dX3_history_34 rfl rfl ?_
        exact R.retI dX3_history_37 rfl h
      · replace h := h.2 hc
        refine R.aload_n 27 dX3_history_26 rfl rfl ?_
        refine gf_111 30 dX3_history_27 rfl rfl ?_
        refine R.goto 37 dX3_history_30 (by decide) ?_
        exact R.retI dX3_history_37 rfl h
    · replace h := h.2 hc
      refine R.iconst 20 dX3_history_19 rfl ?_
      exact R.retI dX3_history_20 rfl h

abbrev k_X3_share : MK := ("FrostBoxModel", cX3_share, 2, (some .int), [], "share")
def wp_X3_share (l1 : Int32) (w : Wd) (Q : Int32 → Wd → Prop) : Prop := ∀ w1, w1 = sI w 60 (iz 0) → wp_X3_layHistory l1 (iz (-1)) w1 (fun r2 w3 => (r2 = iz 0 → Q (iz (-1)) w3) ∧ (¬ r2 = iz 0 → ((gI w3 111) ≤ iz 0 → Q (iz (-1)) w3) ∧ (¬ (gI w3 111) ≤ iz 0 → Q (gI w3 113) w3)))
set_option maxRecDepth 100000 in
set_option maxHeartbeats 4000000 in
theorem sd_X3_share {γ : GG} (l1 : Int32) (w : Wd) (Q : Int32 → Wd → Prop) : wp_X3_share l1 w Q → Ctr γ 11 yX3_share (ws_ yX3_share cX3_share 2 (some .int)) [.ref 2, .int l1] w (qI Q) xN := by
  intro h
  unfold wp_X3_share at h
  refine Ctr.of (μ := k_X3_share) (by decide) rfl rfl rfl (Nat.le_of_ble_eq_true rfl) ⟨0, ?_⟩
  have es : lva [.ref 2, .int l1] ++ List.replicate 0 none = [some (.ref 2), some (.int l1)] := rfl
  rw [es]
  refine R.aload_n 1 dX3_share_0 rfl rfl ?_
  refine R.iconst 2 dX3_share_1 rfl ?_
  replace h := h _ rfl
  refine pf_60 _ 5 dX3_share_2 rfl rfl ?_
  refine R.aload_n 6 dX3_share_5 rfl rfl ?_
  refine R.iload_n 7 dX3_share_6 rfl rfl ?_
  refine R.iconst 8 dX3_share_7 rfl ?_
  refine Rch.callv (sd_X3_layHistory _ _ _ _ h) dX3_share_8 (lw_V q1838 q1840 qs137 q146 q1841) dk_X3_layHistory rcM (by decide) (Nat.le_of_ble_eq_true rfl) rfl rfl (Nat.le_of_ble_eq_true rfl) (kI 11 rfl fun r2 w3 h => ?_) kN
  refine R.if_eq 28 14 dX3_share_11 (by decide) rfl (fun hc => ?_) (fun hc => ?_)
  · replace h := h.1 hc
    refine R.iconst 29 dX3_share_28 rfl ?_
    exact R.retI dX3_share_29 rfl h
  · replace h := h.2 hc
    refine R.aload_n 15 dX3_share_14 rfl rfl ?_
    refine gf_111 18 dX3_share_15 rfl rfl ?_
    refine R.if_le 28 21 dX3_share_18 (by decide) rfl (fun hc => ?_) (fun hc => ?_)
    · replace h := h.1 hc
      refine R.iconst 29 dX3_share_28 rfl ?_
      exact R.retI dX3_share_29 rfl h
    · replace h := h.2 hc
      refine R.aload_n 22 dX3_share_21 rfl rfl ?_
      refine gf_113 25 dX3_share_22 rfl rfl ?_
      refine R.goto 29 dX3_share_25 (by decide) ?_
      exact R.retI dX3_share_29 rfl h

abbrev k_X3_lot : MK := ("FrostBoxModel", cX3_lot, 7, (some .int), [], "lot")
def wl_X3_lot_56 (Q : Int32 → Wd → Prop) (R31 : Int32 → Int32 → Int32 → Wd → Prop) (R46 : Int32 → Int32 → Int32 → Wd → Prop) (l1 : Int32) (l4 : Int32) (l5 : Int32) (R56 : Int32 → Int32 → Int32 → Wd → Prop) (l2 : Int32) (l3 : Int32) (l6 : Int32) (w : Wd) : Prop := (l5 ≤ l6 → R46 l2 l3 (l5 + iz 1) w) ∧ (¬ l5 ≤ l6 → wp_X3_valueOf 90 l4 w (fun r1 w2 => wp_X3_valueOf 90 l5 w2 (fun r3 w4 => wp_X3_valueOf 90 l6 w4 (fun r5 w6 => R56 (l2 + (imax r1 (imax r3 r5))) (l3 + iz 1) (l6 + iz 1) w6))))
def lp_X3_lot_56 (Q : Int32 → Wd → Prop) (R31 : Int32 → Int32 → Int32 → Wd → Prop) (R46 : Int32 → Int32 → Int32 → Wd → Prop) (l1 : Int32) (l4 : Int32) (l5 : Int32) : Nat → Int32 → Int32 → Int32 → Wd → Prop
  | 0, _, _, _, _ => False
  | n + 1, l2, l3, l6, w => wl_X3_lot_56 Q R31 R46 l1 l4 l5 (lp_X3_lot_56 Q R31 R46 l1 l4 l5 n) l2 l3 l6 w
def wl_X3_lot_46 (Q : Int32 → Wd → Prop) (R31 : Int32 → Int32 → Int32 → Wd → Prop) (l1 : Int32) (l4 : Int32) (R46 : Int32 → Int32 → Int32 → Wd → Prop) (l2 : Int32) (l3 : Int32) (l5 : Int32) (w : Wd) : Prop := (l4 ≤ l5 → R31 l2 l3 (l4 + iz 1) w) ∧ (¬ l4 ≤ l5 → ∃ n1, lp_X3_lot_56 Q R31 R46 l1 l4 l5 n1 l2 l3 (iz 0) w)
def lp_X3_lot_46 (Q : Int32 → Wd → Prop) (R31 : Int32 → Int32 → Int32 → Wd → Prop) (l1 : Int32) (l4 : Int32) : Nat → Int32 → Int32 → Int32 → Wd → Prop
  | 0, _, _, _, _ => False
  | n + 1, l2, l3, l5, w => wl_X3_lot_46 Q R31 l1 l4 (lp_X3_lot_46 Q R31 l1 l4 n) l2 l3 l5 w
def wl_X3_lot_31 (Q : Int32 → Wd → Prop) (l1 : Int32) (R31 : Int32 → Int32 → Int32 → Wd → Prop) (l2 : Int32) (l3 : Int32) (l4 : Int32) (w : Wd) : Prop := inb (iz 40) 283 ∧ ((gA w 90 (iz 40).toInt) ≤ l4 → (¬ l1 = iz 0 → Q l3 w) ∧ (l1 = iz 0 → Q l2 w)) ∧ (¬ (gA w 90 (iz 40).toInt) ≤ l4 → ∃ n1, lp_X3_lot_46 Q R31 l1 l4 n1 l2 l3 (iz 0) w)
def lp_X3_lot_31 (Q : Int32 → Wd → Prop) (l1 : Int32) : Nat → Int32 → Int32 → Int32 → Wd → Prop
  | 0, _, _, _, _ => False
  | n + 1, l2, l3, l4, w => wl_X3_lot_31 Q l1 (lp_X3_lot_31 Q l1 n) l2 l3 l4 w
def wp_X3_lot (l1 : Int32) (w : Wd) (Q : Int32 → Wd → Prop) : Prop := ∀ w1, w1 = sI w 60 (iz 0) → ((gI w1 85) = iz 0 → Q (iz (-1)) w1) ∧ (¬ (gI w1 85) = iz 0 → wp_X3_isIn ((l1).toInt64) (lz 0) (lz 1) w1 (fun r2 w3 => (¬ r2 = iz 0 → ∃ n4, lp_X3_lot_31 Q l1 n4 (iz 0) (iz 0) (iz 0) w3) ∧ (r2 = iz 0 → Q (iz (-1)) w3)))
set_option maxRecDepth 100000 in
set_option maxHeartbeats 4000000 in
theorem sl_X3_lot_56 {γ : GG} (Q : Int32 → Wd → Prop) (R31 : Int32 → Int32 → Int32 → Wd → Prop) (R46 : Int32 → Int32 → Int32 → Wd → Prop) (l1 : Int32) (l4 : Int32) (l5 : Int32) (hR31 : ∀ (l2 : Int32) (l3 : Int32) (l4 : Int32) (w : Wd), R31 l2 l3 l4 w → Rch γ 75 k_X3_lot 31 [some (.ref 2), some (.int l1), some (.int l2), some (.int l3), some (.int l4), none, none] [] w (qI Q) xN) (hR46 : ∀ (l2 : Int32) (l3 : Int32) (l5 : Int32) (w : Wd), R46 l2 l3 l5 w → Rch γ 75 k_X3_lot 46 [some (.ref 2), some (.int l1), some (.int l2), some (.int l3), some (.int l4), some (.int l5), none] [] w (qI Q) xN) : ∀ (n : Nat) (l2 : Int32) (l3 : Int32) (l6 : Int32) (w : Wd), lp_X3_lot_56 Q R31 R46 l1 l4 l5 n l2 l3 l6 w → Rch γ 75 k_X3_lot 56 [some (.ref 2), some (.int l1), some (.int l2), some (.int l3), some (.int l4), some (.int l5), some (.int l6)] [] w (qI Q) xN := by
  intro n
  induction n with
  | zero => intro _ _ _ _ h; exact h.elim
  | succ n hR56 =>
    intro l2 l3 l6 w h
    have h : wl_X3_lot_56 Q R31 R46 l1 l4 l5 (lp_X3_lot_56 Q R31 R46 l1 l4 l5 n) l2 l3 l6 w := h
    unfold wl_X3_lot_56 at h
    refine R.iload 58 dX3_lot_56 rfl rfl ?_
    refine R.iload 60 dX3_lot_58 rfl rfl ?_
    refine R.icmp_ge 111 63 dX3_lot_60 (by decide) rfl (fun hc => ?_) (fun hc => ?_)
    · replace h := h.1 hc
      refine R.inc5 114 dX3_lot_111 rfl (Nat.le_of_ble_eq_true rfl) rfl ?_
      refine R.goto 46 dX3_lot_114 (by decide) ?_
      exact Rch.dropk (hR46 _ _ _ _ h) ⟨rfl, ⟨rfl, ⟨rfl, ⟨rfl, ⟨rfl, ⟨rfl, trivial⟩⟩⟩⟩⟩⟩
    · replace h := h.2 hc
      refine R.inc3 66 dX3_lot_63 rfl (Nat.le_of_ble_eq_true rfl) rfl ?_
      refine R.iload_n 67 dX3_lot_66 rfl rfl ?_
      refine R.aload_n 68 dX3_lot_67 rfl rfl ?_
      refine R.aload_n 69 dX3_lot_68 rfl rfl ?_
      refine gf_90 72 dX3_lot_69 rfl rfl ?_
      refine R.iload 74 dX3_lot_72 rfl rfl ?_
      refine Rch.callv (sd_X3_valueOf _ _ _ _ h) dX3_lot_74 (lw_V q1591 q1593 qs107 q146 q1594) dk_X3_valueOf rcM (by decide) (Nat.le_of_ble_eq_true rfl) rfl rfl (Nat.le_of_ble_eq_true rfl) (kI 77 rfl fun r1 w2 h => ?_) kN
      refine R.aload_n 78 dX3_lot_77 rfl rfl ?_
      refine R.aload_n 79 dX3_lot_78 rfl rfl ?_
      refine gf_90 82 dX3_lot_79 rfl rfl ?_
      refine R.iload 84 dX3_lot_82 rfl rfl ?_
      refine Rch.callv (sd_X3_valueOf _ _ _ _ h) dX3_lot_84 (lw_V q1591 q1593 qs107 q146 q1594) dk_X3_valueOf rcM (by decide) (Nat.le_of_ble_eq_true rfl) rfl rfl (Nat.le_of_ble_eq_true rfl) (kI 87 rfl fun r3 w4 h => ?_) kN
      refine R.aload_n 88 dX3_lot_87 rfl rfl ?_
      refine R.aload_n 89 dX3_lot_88 rfl rfl ?_
      refine gf_90 92 dX3_lot_89 rfl rfl ?_
      refine R.iload 94 dX3_lot_92 rfl rfl ?_
      refine Rch.callv (sd_X3_valueOf _ _ _ _ h) dX3_lot_94 (lw_V q1591 q1593 qs107 q146 q1594) dk_X3_valueOf rcM (by decide) (Nat.le_of_ble_eq_true rfl) rfl rfl (Nat.le_of_ble_eq_true rfl) (kI 97 rfl fun r5 w6 h => ?_) kN
      refine R.mmax 100 dX3_lot_97 rfl q1604 q424 q149 q425 (by omega) (Nat.le_of_ble_eq_true rfl) ?_
      refine R.mmax 103 dX3_lot_100 rfl q1604 q424 q149 q425 (by omega) (Nat.le_of_ble_eq_true rfl) ?_
      refine R.iadd 104 dX3_lot_103 rfl ?_
      refine R.ist2n 105 dX3_lot_104 rfl (Nat.le_of_ble_eq_true rfl) rfl ?_
      refine R.inc6 108 dX3_lot_105 rfl (Nat.le_of_ble_eq_true rfl) rfl ?_
      refine R.goto 56 dX3_lot_108 (by decide) ?_
      exact Rch.dropk (hR56 _ _ _ _ h) ⟨rfl, ⟨rfl, ⟨rfl, ⟨rfl, ⟨rfl, ⟨rfl, ⟨rfl, trivial⟩⟩⟩⟩⟩⟩⟩
set_option maxRecDepth 100000 in
set_option maxHeartbeats 4000000 in
theorem sl_X3_lot_46 {γ : GG} (Q : Int32 → Wd → Prop) (R31 : Int32 → Int32 → Int32 → Wd → Prop) (l1 : Int32) (l4 : Int32) (hR31 : ∀ (l2 : Int32) (l3 : Int32) (l4 : Int32) (w : Wd), R31 l2 l3 l4 w → Rch γ 75 k_X3_lot 31 [some (.ref 2), some (.int l1), some (.int l2), some (.int l3), some (.int l4), none, none] [] w (qI Q) xN) : ∀ (n : Nat) (l2 : Int32) (l3 : Int32) (l5 : Int32) (w : Wd), lp_X3_lot_46 Q R31 l1 l4 n l2 l3 l5 w → Rch γ 75 k_X3_lot 46 [some (.ref 2), some (.int l1), some (.int l2), some (.int l3), some (.int l4), some (.int l5), none] [] w (qI Q) xN := by
  intro n
  induction n with
  | zero => intro _ _ _ _ h; exact h.elim
  | succ n hR46 =>
    intro l2 l3 l5 w h
    have h : wl_X3_lot_46 Q R31 l1 l4 (lp_X3_lot_46 Q R31 l1 l4 n) l2 l3 l5 w := h
    unfold wl_X3_lot_46 at h
    refine R.iload 48 dX3_lot_46 rfl rfl ?_
    refine R.iload 50 dX3_lot_48 rfl rfl ?_
    refine R.icmp_ge 117 53 dX3_lot_50 (by decide) rfl (fun hc => ?_) (fun hc => ?_)
    · replace h := h.1 hc
      refine R.inc4 120 dX3_lot_117 rfl (Nat.le_of_ble_eq_true rfl) rfl ?_
      refine R.goto 31 dX3_lot_120 (by decide) ?_
      exact Rch.dropk (hR31 _ _ _ _ h) ⟨rfl, ⟨rfl, ⟨rfl, ⟨rfl, ⟨rfl, trivial⟩⟩⟩⟩⟩
    · replace h := h.2 hc
      refine R.iconst 54 dX3_lot_53 rfl ?_
      refine R.ist6 56 dX3_lot_54 rfl (Nat.le_of_ble_eq_true rfl) rfl ?_
      obtain ⟨n1, h⟩ := h
      exact Rch.dropk (sl_X3_lot_56 Q _ _ _ _ _ hR31 hR46 n1 _ _ _ _ h) ⟨rfl, ⟨rfl, ⟨rfl, ⟨rfl, ⟨rfl, ⟨rfl, ⟨rfl, trivial⟩⟩⟩⟩⟩⟩⟩
set_option maxRecDepth 100000 in
set_option maxHeartbeats 4000000 in
theorem sl_X3_lot_31 {γ : GG} (Q : Int32 → Wd → Prop) (l1 : Int32) : ∀ (n : Nat) (l2 : Int32) (l3 : Int32) (l4 : Int32) (w : Wd), lp_X3_lot_31 Q l1 n l2 l3 l4 w → Rch γ 75 k_X3_lot 31 [some (.ref 2), some (.int l1), some (.int l2), some (.int l3), some (.int l4), none, none] [] w (qI Q) xN := by
  intro n
  induction n with
  | zero => intro _ _ _ _ h; exact h.elim
  | succ n hR31 =>
    intro l2 l3 l4 w h
    have h : wl_X3_lot_31 Q l1 (lp_X3_lot_31 Q l1 n) l2 l3 l4 w := h
    unfold wl_X3_lot_31 at h
    refine R.iload 33 dX3_lot_31 rfl rfl ?_
    refine R.aload_n 34 dX3_lot_33 rfl rfl ?_
    refine gf_90 37 dX3_lot_34 rfl rfl ?_
    refine R.bipush 39 dX3_lot_37 rfl (by decide +kernel) ?_
    obtain ⟨hb, h⟩ := h
    refine R.iald ar_90 40 dX3_lot_39 rfl hb ?_
    refine R.icmp_ge 123 43 dX3_lot_40 (by decide) rfl (fun hc => ?_) (fun hc => ?_)
    · replace h := h.1 hc
      refine R.iload_n 124 dX3_lot_123 rfl rfl ?_
      refine R.if_ne 131 127 dX3_lot_124 (by decide) rfl (fun hc => ?_) (fun hc => ?_)
      · replace h := h.1 hc
        refine R.iload_n 132 dX3_lot_131 rfl rfl ?_
        exact R.retI dX3_lot_132 rfl h
      · replace h := h.2 hc
        refine R.iload_n 128 dX3_lot_127 rfl rfl ?_
        refine R.goto 132 dX3_lot_128 (by decide) ?_
        exact R.retI dX3_lot_132 rfl h
    · replace h := h.2 hc
      refine R.iconst 44 dX3_lot_43 rfl ?_
      refine R.ist5 46 dX3_lot_44 rfl (Nat.le_of_ble_eq_true rfl) rfl ?_
      obtain ⟨n1, h⟩ := h
      exact Rch.dropk (sl_X3_lot_46 Q _ _ _ hR31 n1 _ _ _ _ h) ⟨rfl, ⟨rfl, ⟨rfl, ⟨rfl, ⟨rfl, ⟨rfl, trivial⟩⟩⟩⟩⟩⟩
set_option maxRecDepth 100000 in
set_option maxHeartbeats 4000000 in
theorem sd_X3_lot {γ : GG} (l1 : Int32) (w : Wd) (Q : Int32 → Wd → Prop) : wp_X3_lot l1 w Q → Ctr γ 75 yX3_lot (ws_ yX3_lot cX3_lot 7 (some .int)) [.ref 2, .int l1] w (qI Q) xN := by
  intro h
  unfold wp_X3_lot at h
  refine Ctr.of (μ := k_X3_lot) (by decide) rfl rfl rfl (Nat.le_of_ble_eq_true rfl) ⟨5, ?_⟩
  have es : lva [.ref 2, .int l1] ++ List.replicate 5 none = [some (.ref 2), some (.int l1), none, none, none, none, none] := rfl
  rw [es]
  refine R.aload_n 1 dX3_lot_0 rfl rfl ?_
  refine R.iconst 2 dX3_lot_1 rfl ?_
  replace h := h _ rfl
  refine pf_60 _ 5 dX3_lot_2 rfl rfl ?_
  refine R.aload_n 6 dX3_lot_5 rfl rfl ?_
  refine gf_85 9 dX3_lot_6 rfl rfl ?_
  refine R.if_eq 22 12 dX3_lot_9 (by decide) rfl (fun hc => ?_) (fun hc => ?_)
  · replace h := h.1 hc
    refine R.iconst 23 dX3_lot_22 rfl ?_
    exact R.retI dX3_lot_23 rfl h
  · replace h := h.2 hc
    refine R.iload_n 13 dX3_lot_12 rfl rfl ?_
    refine R.i2l 14 dX3_lot_13 rfl ?_
    refine R.lconst (m0 := 0) 15 dX3_lot_14 rfl (by decide +kernel) ?_
    refine R.lconst (m0 := 1) 16 dX3_lot_15 rfl (by decide +kernel) ?_
    refine Rch.calls (sd_X3_isIn _ _ _ _ _ h) dX3_lot_16 (lw_S q1426 q1427 q146 q1428) dk_X3_isIn (by decide) (Nat.le_of_ble_eq_true rfl) rfl rfl (Nat.le_of_ble_eq_true rfl) (kI 19 rfl fun r2 w3 h => ?_) kN
    refine R.if_ne 24 22 dX3_lot_19 (by decide) rfl (fun hc => ?_) (fun hc => ?_)
    · replace h := h.1 hc
      refine R.iconst 25 dX3_lot_24 rfl ?_
      refine R.ist2n 26 dX3_lot_25 rfl (Nat.le_of_ble_eq_true rfl) rfl ?_
      refine R.iconst 27 dX3_lot_26 rfl ?_
      refine R.ist3n 28 dX3_lot_27 rfl (Nat.le_of_ble_eq_true rfl) rfl ?_
      refine R.iconst 29 dX3_lot_28 rfl ?_
      refine R.ist4 31 dX3_lot_29 rfl (Nat.le_of_ble_eq_true rfl) rfl ?_
      obtain ⟨n4, h⟩ := h
      exact Rch.dropk (sl_X3_lot_31 Q _ n4 _ _ _ _ h) ⟨rfl, ⟨rfl, ⟨rfl, ⟨rfl, ⟨rfl, trivial⟩⟩⟩⟩⟩
    · replace h := h.2 hc
      refine R.iconst 23 dX3_lot_22 rfl ?_
      exact R.retI dX3_lot_23 rfl h

abbrev k_X3_labelsOf : MK := ("FrostBoxModel", cX3_labelsOf, 3, (some .int), [], "labelsOf")
def wp_X3_labelsOf (l1 : Int32) (l2 : Int32) (w : Wd) (Q : Int32 → Wd → Prop) : Prop := ((l1 + l2) ≤ iz 0 → Q ((iz 0) - ((iz 3) * l1)) w) ∧ (¬ (l1 + l2) ≤ iz 0 → wp_X3_nameless w (fun r1 w2 => wp_J10_bitCount r1 w2 (fun r3 w4 => Q (((iz 2) * r3) - ((iz 3) * l1)) w4)))
set_option maxRecDepth 100000 in
set_option maxHeartbeats 4000000 in
theorem sd_X3_labelsOf {γ : GG} (l1 : Int32) (l2 : Int32) (w : Wd) (Q : Int32 → Wd → Prop) : wp_X3_labelsOf l1 l2 w Q → Ctr γ 3 yX3_labelsOf (ws_ yX3_labelsOf cX3_labelsOf 3 (some .int)) [.ref 2, .int l1, .int l2] w (qI Q) xN := by
  intro h
  unfold wp_X3_labelsOf at h
  refine Ctr.of (μ := k_X3_labelsOf) (by decide) rfl rfl rfl (Nat.le_of_ble_eq_true rfl) ⟨0, ?_⟩
  have es : lva [.ref 2, .int l1, .int l2] ++ List.replicate 0 none = [some (.ref 2), some (.int l1), some (.int l2)] := rfl
  rw [es]
  refine R.iload_n 1 dX3_labelsOf_0 rfl rfl ?_
  refine R.iload_n 2 dX3_labelsOf_1 rfl rfl ?_
  refine R.iadd 3 dX3_labelsOf_2 rfl ?_
  refine R.if_le 18 6 dX3_labelsOf_3 (by decide) rfl (fun hc => ?_) (fun hc => ?_)
  · replace h := h.1 hc
    refine R.iconst 19 dX3_labelsOf_18 rfl ?_
    refine R.iconst 20 dX3_labelsOf_19 rfl ?_
    refine R.iload_n 21 dX3_labelsOf_20 rfl rfl ?_
    refine R.imul 22 dX3_labelsOf_21 rfl ?_
    refine R.isub 23 dX3_labelsOf_22 rfl ?_
    exact R.retI dX3_labelsOf_23 rfl h
  · replace h := h.2 hc
    refine R.iconst 7 dX3_labelsOf_6 rfl ?_
    refine R.aload_n 8 dX3_labelsOf_7 rfl rfl ?_
    refine Rch.callv (sd_X3_nameless _ _ h) dX3_labelsOf_8 (lw_V q1867 q1806 q1807 q146 q1808) dk_X3_nameless rcM (by decide) (Nat.le_of_ble_eq_true rfl) rfl rfl (Nat.le_of_ble_eq_true rfl) (kI 11 rfl fun r1 w2 h => ?_) kN
    refine Rch.calls (sd_J10_bitCount _ _ _ h) dX3_labelsOf_11 (lw_S q1776 q1032 q165 q1033) dk_J10_bitCount (by decide) (Nat.le_of_ble_eq_true rfl) rfl rfl (Nat.le_of_ble_eq_true rfl) (kI 14 rfl fun r3 w4 h => ?_) kN
    refine R.imul 15 dX3_labelsOf_14 rfl ?_
    refine R.goto 19 dX3_labelsOf_15 (by decide) ?_
    refine R.iconst 20 dX3_labelsOf_19 rfl ?_
    refine R.iload_n 21 dX3_labelsOf_20 rfl rfl ?_
    refine R.imul 22 dX3_labelsOf_21 rfl ?_
    refine R.isub 23 dX3_labelsOf_22 rfl ?_
    exact R.retI dX3_labelsOf_23 rfl h

abbrev k_X3_labels : MK := ("FrostBoxModel", cX3_labels, 3, (some .int), [], "labels")
def wp_X3_labels (l1 : Int32) (l2 : Int32) (w : Wd) (Q : Int32 → Wd → Prop) : Prop := ∀ w1, w1 = sI w 60 (iz 0) → ((gI w1 85) ≤ iz 0 → Q (iz (-1000000)) w1) ∧ (¬ (gI w1 85) ≤ iz 0 → wp_X3_isIn ((l1).toInt64) (lz 0) (lz 1) w1 (fun r2 w3 => (r2 = iz 0 → Q (iz (-1000000)) w3) ∧ (¬ r2 = iz 0 → wp_X3_isIn ((l2).toInt64) (lz 0) (lz 1) w3 (fun r4 w5 => (r4 = iz 0 → Q (iz (-1000000)) w5) ∧ (¬ r4 = iz 0 → wp_X3_labelsOf l1 l2 w5 (fun r6 w7 => Q r6 w7))))))
set_option maxRecDepth 100000 in
set_option maxHeartbeats 4000000 in
theorem sd_X3_labels {γ : GG} (l1 : Int32) (l2 : Int32) (w : Wd) (Q : Int32 → Wd → Prop) : wp_X3_labels l1 l2 w Q → Ctr γ 4 yX3_labels (ws_ yX3_labels cX3_labels 3 (some .int)) [.ref 2, .int l1, .int l2] w (qI Q) xN := by
  intro h
  unfold wp_X3_labels at h
  refine Ctr.of (μ := k_X3_labels) (by decide) rfl rfl rfl (Nat.le_of_ble_eq_true rfl) ⟨0, ?_⟩
  have es : lva [.ref 2, .int l1, .int l2] ++ List.replicate 0 none = [some (.ref 2), some (.int l1), some (.int l2)] := rfl
  rw [es]
  refine R.aload_n 1 dX3_labels_0 rfl rfl ?_
  refine R.iconst 2 dX3_labels_1 rfl ?_
  replace h := h _ rfl
  refine pf_60 _ 5 dX3_labels_2 rfl rfl ?_
  refine R.aload_n 6 dX3_labels_5 rfl rfl ?_
  refine gf_85 9 dX3_labels_6 rfl rfl ?_
  refine R.if_le 41 12 dX3_labels_9 (by decide) rfl (fun hc => ?_) (fun hc => ?_)
  · replace h := h.1 hc
    refine R.ldcw (n := (-1000000)) 44 dX3_labels_41 rfl q1723 (by decide +kernel) ?_
    exact R.retI dX3_labels_44 rfl h
  · replace h := h.2 hc
    refine R.iload_n 13 dX3_labels_12 rfl rfl ?_
    refine R.i2l 14 dX3_labels_13 rfl ?_
    refine R.lconst (m0 := 0) 15 dX3_labels_14 rfl (by decide +kernel) ?_
    refine R.lconst (m0 := 1) 16 dX3_labels_15 rfl (by decide +kernel) ?_
    refine Rch.calls (sd_X3_isIn _ _ _ _ _ h) dX3_labels_16 (lw_S q1426 q1427 q146 q1428) dk_X3_isIn (by decide) (Nat.le_of_ble_eq_true rfl) rfl rfl (Nat.le_of_ble_eq_true rfl) (kI 19 rfl fun r2 w3 h => ?_) kN
    refine R.if_eq 41 22 dX3_labels_19 (by decide) rfl (fun hc => ?_) (fun hc => ?_)
    · replace h := h.1 hc
      refine R.ldcw (n := (-1000000)) 44 dX3_labels_41 rfl q1723 (by decide +kernel) ?_
      exact R.retI dX3_labels_44 rfl h
    · replace h := h.2 hc
      refine R.iload_n 23 dX3_labels_22 rfl rfl ?_
      refine R.i2l 24 dX3_labels_23 rfl ?_
      refine R.lconst (m0 := 0) 25 dX3_labels_24 rfl (by decide +kernel) ?_
      refine R.lconst (m0 := 1) 26 dX3_labels_25 rfl (by decide +kernel) ?_
      refine Rch.calls (sd_X3_isIn _ _ _ _ _ h) dX3_labels_26 (lw_S q1426 q1427 q146 q1428) dk_X3_isIn (by decide) (Nat.le_of_ble_eq_true rfl) rfl rfl (Nat.le_of_ble_eq_true rfl) (kI 29 rfl fun r4 w5 h => ?_) kN
      refine R.if_eq 41 32 dX3_labels_29 (by decide) rfl (fun hc => ?_) (fun hc => ?_)
      · replace h := h.1 hc
        refine R.ldcw (n := (-1000000)) 44 dX3_labels_41 rfl q1723 (by decide +kernel) ?_
        exact R.retI dX3_labels_44 rfl h
      · replace h := h.2 hc
        refine R.aload_n 33 dX3_labels_32 rfl rfl ?_
        refine R.iload_n 34 dX3_labels_33 rfl rfl ?_
        refine R.iload_n 35 dX3_labels_34 rfl rfl ?_
        refine Rch.callv (sd_X3_labelsOf _ _ _ _ h) dX3_labels_35 (lw_V q1863 q1865 qs140 q146 q1866) dk_X3_labelsOf rcM (by decide) (Nat.le_of_ble_eq_true rfl) rfl rfl (Nat.le_of_ble_eq_true rfl) (kI 38 rfl fun r6 w7 h => ?_) kN
        refine R.goto 44 dX3_labels_38 (by decide) ?_
        exact R.retI dX3_labels_44 rfl h

abbrev k_X3_rests : MK := ("FrostBoxModel", cX3_rests, 6, (some .int), [], "rests")
def wl_X3_rests_23 (Q : Int32 → Wd → Prop) (l1 : Int32) (R23 : Int32 → Int32 → Wd → Prop) (l2 : Int32) (l3 : Int32) (w : Wd) : Prop := ((iz 4) ≤ l3 → (¬ l1 = (iz (-1)) → Q (iz (-1)) w) ∧ (l1 = (iz (-1)) → Q l2 w)) ∧ (¬ (iz 4) ≤ l3 → wp_X3_labelsOf ((iz 1) - (l3 / (iz 2))) (l3 - l3 / (iz 2) * (iz 2)) w (fun r1 w2 => wp_X3_labelsOf (l3 / (iz 2)) (l3 - l3 / (iz 2) * (iz 2)) w2 (fun r3 w4 => (r3 < r1 → R23 l2 (l3 + iz 1) w4) ∧ (¬ r3 < r1 → wp_X3_labelsOf ((iz 1) - (l3 - l3 / (iz 2) * (iz 2))) (l3 / (iz 2)) w4 (fun r5 w6 => wp_X3_labelsOf (l3 - l3 / (iz 2) * (iz 2)) (l3 / (iz 2)) w6 (fun r7 w8 => (r5 ≤ r7 → (¬ l2 = l1 → R23 (l2 + iz 1) (l3 + iz 1) w8) ∧ (l2 = l1 → Q (((iz 10) * (l3 / (iz 2))) + (l3 - l3 / (iz 2) * (iz 2))) w8)) ∧ (¬ r5 ≤ r7 → R23 l2 (l3 + iz 1) w8)))))))
def lp_X3_rests_23 (Q : Int32 → Wd → Prop) (l1 : Int32) : Nat → Int32 → Int32 → Wd → Prop
  | 0, _, _, _ => False
  | n + 1, l2, l3, w => wl_X3_rests_23 Q l1 (lp_X3_rests_23 Q l1 n) l2 l3 w
def wp_X3_rests (l1 : Int32) (w : Wd) (Q : Int32 → Wd → Prop) : Prop := ∀ w1, w1 = sI w 60 (iz 0) → ((gI w1 85) = iz 0 → Q (iz (-1)) w1) ∧ (¬ (gI w1 85) = iz 0 → ((iz (-1)) ≤ l1 → ∃ n2, lp_X3_rests_23 Q l1 n2 (iz 0) (iz 0) w1) ∧ (¬ (iz (-1)) ≤ l1 → Q (iz (-1)) w1))
set_option maxRecDepth 100000 in
set_option maxHeartbeats 4000000 in
theorem sl_X3_rests_23 {γ : GG} (Q : Int32 → Wd → Prop) (l1 : Int32) : ∀ (n : Nat) (l2 : Int32) (l3 : Int32) (w : Wd), lp_X3_rests_23 Q l1 n l2 l3 w → Rch γ 4 k_X3_rests 23 [some (.ref 2), some (.int l1), some (.int l2), some (.int l3), none, none] [] w (qI Q) xN := by
  intro n
  induction n with
  | zero => intro _ _ _ h; exact h.elim
  | succ n hR23 =>
    intro l2 l3 w h
    have h : wl_X3_rests_23 Q l1 (lp_X3_rests_23 Q l1 n) l2 l3 w := h
    unfold wl_X3_rests_23 at h
    refine R.iload_n 24 dX3_rests_23 rfl rfl ?_
    refine R.iconst 25 dX3_rests_24 rfl ?_
    refine R.icmp_ge 106 28 dX3_rests_25 (by decide) rfl (fun hc => ?_) (fun hc => ?_)
    · replace h := h.1 hc
      refine R.iload_n 107 dX3_rests_106 rfl rfl ?_
      refine R.iconst 108 dX3_rests_107 rfl ?_
      refine R.icmp_ne 115 111 dX3_rests_108 (by decide) rfl (fun hc => ?_) (fun hc => ?_)
      · replace h := h.1 hc
        refine R.iconst 116 dX3_rests_115 rfl ?_
        exact R.retI dX3_rests_116 rfl h
      · replace h := h.2 hc
        refine R.iload_n 112 dX3_rests_111 rfl rfl ?_
        refine R.goto 116 dX3_rests_112 (by decide) ?_
        exact R.retI dX3_rests_116 rfl h
    · replace h := h.2 hc
      refine R.iload_n 29 dX3_rests_28 rfl rfl ?_
      refine R.iconst 30 dX3_rests_29 rfl ?_
      refine R.idiv 31 dX3_rests_30 rfl (by decide +kernel) ?_
      refine R.ist4 33 dX3_rests_31 rfl (Nat.le_of_ble_eq_true rfl) rfl ?_
      refine R.iload_n 34 dX3_rests_33 rfl rfl ?_
      refine R.iconst 35 dX3_rests_34 rfl ?_
      refine R.irem 36 dX3_rests_35 rfl (by decide +kernel) ?_
      refine R.ist5 38 dX3_rests_36 rfl (Nat.le_of_ble_eq_true rfl) rfl ?_
      refine R.aload_n 39 dX3_rests_38 rfl rfl ?_
      refine R.iconst 40 dX3_rests_39 rfl ?_
      refine R.iload 42 dX3_rests_40 rfl rfl ?_
      refine R.isub 43 dX3_rests_42 rfl ?_
      refine R.iload 45 dX3_rests_43 rfl rfl ?_
      refine Rch.callv (sd_X3_labelsOf _ _ _ _ h) dX3_rests_45 (lw_V q1863 q1865 qs140 q146 q1866) dk_X3_labelsOf rcM (by decide) (Nat.le_of_ble_eq_true rfl) rfl rfl (Nat.le_of_ble_eq_true rfl) (kI 48 rfl fun r1 w2 h => ?_) kN
      refine R.aload_n 49 dX3_rests_48 rfl rfl ?_
      refine R.iload 51 dX3_rests_49 rfl rfl ?_
      refine R.iload 53 dX3_rests_51 rfl rfl ?_
      refine Rch.callv (sd_X3_labelsOf _ _ _ _ h) dX3_rests_53 (lw_V q1863 q1865 qs140 q146 q1866) dk_X3_labelsOf rcM (by decide) (Nat.le_of_ble_eq_true rfl) rfl rfl (Nat.le_of_ble_eq_true rfl) (kI 56 rfl fun r3 w4 h => ?_) kN
      refine R.icmp_gt 100 59 dX3_rests_56 (by decide) rfl (fun hc => ?_) (fun hc => ?_)
      · replace h := h.1 hc
        refine R.inc3 103 dX3_rests_100 rfl (Nat.le_of_ble_eq_true rfl) rfl ?_
        refine R.goto 23 dX3_rests_103 (by decide) ?_
        exact Rch.dropk (hR23 _ _ _ h) ⟨rfl, ⟨rfl, ⟨rfl, ⟨rfl, trivial⟩⟩⟩⟩
      · replace h := h.2 hc
        refine R.aload_n 60 dX3_rests_59 rfl rfl ?_
        refine R.iconst 61 dX3_rests_60 rfl ?_
        refine R.iload 63 dX3_rests_61 rfl rfl ?_
        refine R.isub 64 dX3_rests_63 rfl ?_
        refine R.iload 66 dX3_rests_64 rfl rfl ?_
        refine Rch.callv (sd_X3_labelsOf _ _ _ _ h) dX3_rests_66 (lw_V q1863 q1865 qs140 q146 q1866) dk_X3_labelsOf rcM (by decide) (Nat.le_of_ble_eq_true rfl) rfl rfl (Nat.le_of_ble_eq_true rfl) (kI 69 rfl fun r5 w6 h => ?_) kN
        refine R.aload_n 70 dX3_rests_69 rfl rfl ?_
        refine R.iload 72 dX3_rests_70 rfl rfl ?_
        refine R.iload 74 dX3_rests_72 rfl rfl ?_
        refine Rch.callv (sd_X3_labelsOf _ _ _ _ h) dX3_rests_74 (lw_V q1863 q1865 qs140 q146 q1866) dk_X3_labelsOf rcM (by decide) (Nat.le_of_ble_eq_true rfl) rfl rfl (Nat.le_of_ble_eq_true rfl) (kI 77 rfl fun r7 w8 h => ?_) kN
        refine R.icmp_le 83 80 dX3_rests_77 (by decide) rfl (fun hc => ?_) (fun hc => ?_)
        · replace h := h.1 hc
          refine R.iload_n 84 dX3_rests_83 rfl rfl ?_
          refine R.iload_n 85 dX3_rests_84 rfl rfl ?_
          refine R.icmp_ne 97 88 dX3_rests_85 (by decide) rfl (fun hc => ?_) (fun hc => ?_)
          · replace h := h.1 hc
            refine R.inc2 100 dX3_rests_97 rfl (Nat.le_of_ble_eq_true rfl) rfl ?_
            refine R.inc3 103 dX3_rests_100 rfl (Nat.le_of_ble_eq_true rfl) rfl ?_
            refine R.goto 23 dX3_rests_103 (by decide) ?_
            exact Rch.dropk (hR23 _ _ _ h) ⟨rfl, ⟨rfl, ⟨rfl, ⟨rfl, trivial⟩⟩⟩⟩
          · replace h := h.2 hc
            refine R.bipush 90 dX3_rests_88 rfl (by decide +kernel) ?_
            refine R.iload 92 dX3_rests_90 rfl rfl ?_
            refine R.imul 93 dX3_rests_92 rfl ?_
            refine R.iload 95 dX3_rests_93 rfl rfl ?_
            refine R.iadd 96 dX3_rests_95 rfl ?_
            exact R.retI dX3_rests_96 rfl h
        · replace h := h.2 hc
          refine R.goto 100 dX3_rests_80 (by decide) ?_
          refine R.inc3 103 dX3_rests_100 rfl (Nat.le_of_ble_eq_true rfl) rfl ?_
          refine R.goto 23 dX3_rests_103 (by decide) ?_
          exact Rch.dropk (hR23 _ _ _ h) ⟨rfl, ⟨rfl, ⟨rfl, ⟨rfl, trivial⟩⟩⟩⟩
set_option maxRecDepth 100000 in
set_option maxHeartbeats 4000000 in
theorem sd_X3_rests {γ : GG} (l1 : Int32) (w : Wd) (Q : Int32 → Wd → Prop) : wp_X3_rests l1 w Q → Ctr γ 4 yX3_rests (ws_ yX3_rests cX3_rests 6 (some .int)) [.ref 2, .int l1] w (qI Q) xN := by
  intro h
  unfold wp_X3_rests at h
  refine Ctr.of (μ := k_X3_rests) (by decide) rfl rfl rfl (Nat.le_of_ble_eq_true rfl) ⟨4, ?_⟩
  have es : lva [.ref 2, .int l1] ++ List.replicate 4 none = [some (.ref 2), some (.int l1), none, none, none, none] := rfl
  rw [es]
  refine R.aload_n 1 dX3_rests_0 rfl rfl ?_
  refine R.iconst 2 dX3_rests_1 rfl ?_
  replace h := h _ rfl
  refine pf_60 _ 5 dX3_rests_2 rfl rfl ?_
  refine R.aload_n 6 dX3_rests_5 rfl rfl ?_
  refine gf_85 9 dX3_rests_6 rfl rfl ?_
  refine R.if_eq 17 12 dX3_rests_9 (by decide) rfl (fun hc => ?_) (fun hc => ?_)
  · replace h := h.1 hc
    refine R.iconst 18 dX3_rests_17 rfl ?_
    exact R.retI dX3_rests_18 rfl h
  · replace h := h.2 hc
    refine R.iload_n 13 dX3_rests_12 rfl rfl ?_
    refine R.iconst 14 dX3_rests_13 rfl ?_
    refine R.icmp_ge 19 17 dX3_rests_14 (by decide) rfl (fun hc => ?_) (fun hc => ?_)
    · replace h := h.1 hc
      refine R.iconst 20 dX3_rests_19 rfl ?_
      refine R.ist2n 21 dX3_rests_20 rfl (Nat.le_of_ble_eq_true rfl) rfl ?_
      refine R.iconst 22 dX3_rests_21 rfl ?_
      refine R.ist3n 23 dX3_rests_22 rfl (Nat.le_of_ble_eq_true rfl) rfl ?_
      obtain ⟨n2, h⟩ := h
      exact Rch.dropk (sl_X3_rests_23 Q _ n2 _ _ _ h) ⟨rfl, ⟨rfl, ⟨rfl, ⟨rfl, trivial⟩⟩⟩⟩
    · replace h := h.2 hc
      refine R.iconst 18 dX3_rests_17 rfl ?_
      exact R.retI dX3_rests_18 rfl h

abbrev k_X3_most : MK := ("FrostBoxModel", cX3_most, 5, (some .int), [], "most")
def wl_X3_most_38 (Q : Int32 → Wd → Prop) (l1 : Int32) (R38 : Int32 → Int32 → Wd → Prop) (l2 : Int32) (l3 : Int32) (w : Wd) : Prop := inb (iz 40) 283 ∧ ((gA w 90 (iz 40).toInt) ≤ l3 → Q l2 w) ∧ (¬ (gA w 90 (iz 40).toInt) ≤ l3 → (¬ l1 = iz 0 → wp_X3_valueOf 90 l3 w (fun r1 w2 => wp_X3_valueOf 90 l2 w2 (fun r3 w4 => (r1 ≤ r3 → ((iz 0) = iz 0 → R38 l2 (l3 + iz 1) w4) ∧ (¬ (iz 0) = iz 0 → R38 l3 (l3 + iz 1) w4)) ∧ (¬ r1 ≤ r3 → ((iz 1) = iz 0 → R38 l2 (l3 + iz 1) w4) ∧ (¬ (iz 1) = iz 0 → R38 l3 (l3 + iz 1) w4))))) ∧ (l1 = iz 0 → inb (((iz 5) * l3) + (iz 2)) 283 ∧ inb (((iz 5) * l2) + (iz 2)) 283 ∧ ((gA w 90 (((iz 5) * l3) + (iz 2)).toInt) ≤ (gA w 90 (((iz 5) * l2) + (iz 2)).toInt) → ((iz 0) = iz 0 → R38 l2 (l3 + iz 1) w) ∧ (¬ (iz 0) = iz 0 → R38 l3 (l3 + iz 1) w)) ∧ (¬ (gA w 90 (((iz 5) * l3) + (iz 2)).toInt) ≤ (gA w 90 (((iz 5) * l2) + (iz 2)).toInt) → ((iz 1) = iz 0 → R38 l2 (l3 + iz 1) w) ∧ (¬ (iz 1) = iz 0 → R38 l3 (l3 + iz 1) w))))
def lp_X3_most_38 (Q : Int32 → Wd → Prop) (l1 : Int32) : Nat → Int32 → Int32 → Wd → Prop
  | 0, _, _, _ => False
  | n + 1, l2, l3, w => wl_X3_most_38 Q l1 (lp_X3_most_38 Q l1 n) l2 l3 w
def wp_X3_most (l1 : Int32) (w : Wd) (Q : Int32 → Wd → Prop) : Prop := ∀ w1, w1 = sI w 60 (iz 0) → ((gI w1 85) = iz 0 → Q (iz (-1)) w1) ∧ (¬ (gI w1 85) = iz 0 → wp_X3_isIn ((l1).toInt64) (lz 0) (lz 1) w1 (fun r2 w3 => (r2 = iz 0 → Q (iz (-1)) w3) ∧ (¬ r2 = iz 0 → inb (iz 40) 283 ∧ (¬ (gA w3 90 (iz 40).toInt) = iz 0 → ∃ n4, lp_X3_most_38 Q l1 n4 (iz 0) (iz 1) w3) ∧ ((gA w3 90 (iz 40).toInt) = iz 0 → Q (iz (-1)) w3))))
set_option maxRecDepth 100000 in
set_option maxHeartbeats 4000000 in
theorem sl_X3_most_38 {γ : GG} (Q : Int32 → Wd → Prop) (l1 : Int32) : ∀ (n : Nat) (l2 : Int32) (l3 : Int32) (w : Wd), lp_X3_most_38 Q l1 n l2 l3 w → Rch γ 75 k_X3_most 38 [some (.ref 2), some (.int l1), some (.int l2), some (.int l3), none] [] w (qI Q) xN := by
  intro n
  induction n with
  | zero => intro _ _ _ h; exact h.elim
  | succ n hR38 =>
    intro l2 l3 w h
    have h : wl_X3_most_38 Q l1 (lp_X3_most_38 Q l1 n) l2 l3 w := h
    unfold wl_X3_most_38 at h
    refine R.iload_n 39 dX3_most_38 rfl rfl ?_
    refine R.aload_n 40 dX3_most_39 rfl rfl ?_
    refine gf_90 43 dX3_most_40 rfl rfl ?_
    refine R.bipush 45 dX3_most_43 rfl (by decide +kernel) ?_
    obtain ⟨hb, h⟩ := h
    refine R.iald ar_90 46 dX3_most_45 rfl hb ?_
    refine R.icmp_ge 125 49 dX3_most_46 (by decide) rfl (fun hc => ?_) (fun hc => ?_)
    · replace h := h.1 hc
      refine R.iload_n 126 dX3_most_125 rfl rfl ?_
      exact R.retI dX3_most_126 rfl h
    · replace h := h.2 hc
      refine R.iload_n 50 dX3_most_49 rfl rfl ?_
      refine R.if_ne 84 53 dX3_most_50 (by decide) rfl (fun hc => ?_) (fun hc => ?_)
      · replace h := h.1 hc
        refine R.aload_n 85 dX3_most_84 rfl rfl ?_
        refine R.aload_n 86 dX3_most_85 rfl rfl ?_
        refine gf_90 89 dX3_most_86 rfl rfl ?_
        refine R.iload_n 90 dX3_most_89 rfl rfl ?_
        refine Rch.callv (sd_X3_valueOf _ _ _ _ h) dX3_most_90 (lw_V q1591 q1593 qs107 q146 q1594) dk_X3_valueOf rcM (by decide) (Nat.le_of_ble_eq_true rfl) rfl rfl (Nat.le_of_ble_eq_true rfl) (kI 93 rfl fun r1 w2 h => ?_) kN
        refine R.aload_n 94 dX3_most_93 rfl rfl ?_
        refine R.aload_n 95 dX3_most_94 rfl rfl ?_
        refine gf_90 98 dX3_most_95 rfl rfl ?_
        refine R.iload_n 99 dX3_most_98 rfl rfl ?_
        refine Rch.callv (sd_X3_valueOf _ _ _ _ h) dX3_most_99 (lw_V q1591 q1593 qs107 q146 q1594) dk_X3_valueOf rcM (by decide) (Nat.le_of_ble_eq_true rfl) rfl rfl (Nat.le_of_ble_eq_true rfl) (kI 102 rfl fun r3 w4 h => ?_) kN
        refine R.icmp_le 109 105 dX3_most_102 (by decide) rfl (fun hc => ?_) (fun hc => ?_)
        · replace h := h.1 hc
          refine R.iconst 110 dX3_most_109 rfl ?_
          refine R.ist4 112 dX3_most_110 rfl (Nat.le_of_ble_eq_true rfl) rfl ?_
          refine R.iload 114 dX3_most_112 rfl rfl ?_
          refine R.if_eq 119 117 dX3_most_114 (by decide) rfl (fun hc => ?_) (fun hc => ?_)
          · replace h := h.1 hc
            refine R.inc3 122 dX3_most_119 rfl (Nat.le_of_ble_eq_true rfl) rfl ?_
            refine R.goto 38 dX3_most_122 (by decide) ?_
            exact Rch.dropk (hR38 _ _ _ h) ⟨rfl, ⟨rfl, ⟨rfl, ⟨rfl, trivial⟩⟩⟩⟩
          · replace h := h.2 hc
            refine R.iload_n 118 dX3_most_117 rfl rfl ?_
            refine R.ist2n 119 dX3_most_118 rfl (Nat.le_of_ble_eq_true rfl) rfl ?_
            refine R.inc3 122 dX3_most_119 rfl (Nat.le_of_ble_eq_true rfl) rfl ?_
            refine R.goto 38 dX3_most_122 (by decide) ?_
            exact Rch.dropk (hR38 _ _ _ h) ⟨rfl, ⟨rfl, ⟨rfl, ⟨rfl, trivial⟩⟩⟩⟩
        · replace h := h.2 hc
          refine R.iconst 106 dX3_most_105 rfl ?_
          refine R.goto 110 dX3_most_106 (by decide) ?_
          refine R.ist4 112 dX3_most_110 rfl (Nat.le_of_ble_eq_true rfl) rfl ?_
          refine R.iload 114 dX3_most_112 rfl rfl ?_
          refine R.if_eq 119 117 dX3_most_114 (by decide) rfl (fun hc => ?_) (fun hc => ?_)
          · replace h := h.1 hc
            refine R.inc3 122 dX3_most_119 rfl (Nat.le_of_ble_eq_true rfl) rfl ?_
            refine R.goto 38 dX3_most_122 (by decide) ?_
            exact Rch.dropk (hR38 _ _ _ h) ⟨rfl, ⟨rfl, ⟨rfl, ⟨rfl, trivial⟩⟩⟩⟩
          · replace h := h.2 hc
            refine R.iload_n 118 dX3_most_117 rfl rfl ?_
            refine R.ist2n 119 dX3_most_118 rfl (Nat.le_of_ble_eq_true rfl) rfl ?_
            refine R.inc3 122 dX3_most_119 rfl (Nat.le_of_ble_eq_true rfl) rfl ?_
            refine R.goto 38 dX3_most_122 (by decide) ?_
            exact Rch.dropk (hR38 _ _ _ h) ⟨rfl, ⟨rfl, ⟨rfl, ⟨rfl, trivial⟩⟩⟩⟩
      · replace h := h.2 hc
        refine R.aload_n 54 dX3_most_53 rfl rfl ?_
        refine gf_90 57 dX3_most_54 rfl rfl ?_
        refine R.iconst 58 dX3_most_57 rfl ?_
        refine R.iload_n 59 dX3_most_58 rfl rfl ?_
        refine R.imul 60 dX3_most_59 rfl ?_
        refine R.iconst 61 dX3_most_60 rfl ?_
        refine R.iadd 62 dX3_most_61 rfl ?_
        obtain ⟨hb, h⟩ := h
        refine R.iald ar_90 63 dX3_most_62 rfl hb ?_
        refine R.aload_n 64 dX3_most_63 rfl rfl ?_
        refine gf_90 67 dX3_most_64 rfl rfl ?_
        refine R.iconst 68 dX3_most_67 rfl ?_
        refine R.iload_n 69 dX3_most_68 rfl rfl ?_
        refine R.imul 70 dX3_most_69 rfl ?_
        refine R.iconst 71 dX3_most_70 rfl ?_
        refine R.iadd 72 dX3_most_71 rfl ?_
        obtain ⟨hb, h⟩ := h
        refine R.iald ar_90 73 dX3_most_72 rfl hb ?_
        refine R.icmp_le 80 76 dX3_most_73 (by decide) rfl (fun hc => ?_) (fun hc => ?_)
        · replace h := h.1 hc
          refine R.iconst 81 dX3_most_80 rfl ?_
          refine R.goto 110 dX3_most_81 (by decide) ?_
          refine R.ist4 112 dX3_most_110 rfl (Nat.le_of_ble_eq_true rfl) rfl ?_
          refine R.iload 114 dX3_most_112 rfl rfl ?_
          refine R.if_eq 119 117 dX3_most_114 (by decide) rfl (fun hc => ?_) (fun hc => ?_)
          · replace h := h.1 hc
            refine R.inc3 122 dX3_most_119 rfl (Nat.le_of_ble_eq_true rfl) rfl ?_
            refine R.goto 38 dX3_most_122 (by decide) ?_
            exact Rch.dropk (hR38 _ _ _ h) ⟨rfl, ⟨rfl, ⟨rfl, ⟨rfl, trivial⟩⟩⟩⟩
          · replace h := h.2 hc
            refine R.iload_n 118 dX3_most_117 rfl rfl ?_
            refine R.ist2n 119 dX3_most_118 rfl (Nat.le_of_ble_eq_true rfl) rfl ?_
            refine R.inc3 122 dX3_most_119 rfl (Nat.le_of_ble_eq_true rfl) rfl ?_
            refine R.goto 38 dX3_most_122 (by decide) ?_
            exact Rch.dropk (hR38 _ _ _ h) ⟨rfl, ⟨rfl, ⟨rfl, ⟨rfl, trivial⟩⟩⟩⟩
        · replace h := h.2 hc
          refine R.iconst 77 dX3_most_76 rfl ?_
          refine R.goto 110 dX3_most_77 (by decide) ?_
          refine R.ist4 112 dX3_most_110 rfl (Nat.le_of_ble_eq_true rfl) rfl ?_
          refine R.iload 114 dX3_most_112 rfl rfl ?_
          refine R.if_eq 119 117 dX3_most_114 (by decide) rfl (fun hc => ?_) (fun hc => ?_)
          · replace h := h.1 hc
            refine R.inc3 122 dX3_most_119 rfl (Nat.le_of_ble_eq_true rfl) rfl ?_
            refine R.goto 38 dX3_most_122 (by decide) ?_
            exact Rch.dropk (hR38 _ _ _ h) ⟨rfl, ⟨rfl, ⟨rfl, ⟨rfl, trivial⟩⟩⟩⟩
          · replace h := h.2 hc
            refine R.iload_n 118 dX3_most_117 rfl rfl ?_
            refine R.ist2n 119 dX3_most_118 rfl (Nat.le_of_ble_eq_true rfl) rfl ?_
            refine R.inc3 122 dX3_most_119 rfl (Nat.le_of_ble_eq_true rfl) rfl ?_
            refine R.goto 38 dX3_most_122 (by decide) ?_
            exact Rch.dropk (hR38 _ _ _ h) ⟨rfl, ⟨rfl, ⟨rfl, ⟨rfl, trivial⟩⟩⟩⟩
set_option maxRecDepth 100000 in
set_option maxHeartbeats 4000000 in
theorem sd_X3_most {γ : GG} (l1 : Int32) (w : Wd) (Q : Int32 → Wd → Prop) : wp_X3_most l1 w Q → Ctr γ 75 yX3_most (ws_ yX3_most cX3_most 5 (some .int)) [.ref 2, .int l1] w (qI Q) xN := by
  intro h
  unfold wp_X3_most at h
  refine Ctr.of (μ := k_X3_most) (by decide) rfl rfl rfl (Nat.le_of_ble_eq_true rfl) ⟨3, ?_⟩
  have es : lva [.ref 2, .int l1] ++ List.replicate 3 none = [some (.ref 2), some (.int l1), none, none, none] := rfl
  rw [es]
  refine R.aload_n 1 dX3_most_0 rfl rfl ?_
  refine R.iconst 2 dX3_most_1 rfl ?_
  replace h := h _ rfl
  refine pf_60 _ 5 dX3_most_2 rfl rfl ?_
  refine R.aload_n 6 dX3_most_5 rfl rfl ?_
  refine gf_85 9 dX3_most_6 rfl rfl ?_
  refine R.if_eq 32 12 dX3_most_9 (by decide) rfl (fun hc => ?_) (fun hc => ?_)
  · replace h := h.1 hc
    refine R.iconst 33 dX3_most_32 rfl ?_
    exact R.retI dX3_most_33 rfl h
  · replace h := h.2 hc
    refine R.iload_n 13 dX3_most_12 rfl rfl ?_
    refine R.i2l 14 dX3_most_13 rfl ?_
    refine R.lconst (m0 := 0) 15 dX3_most_14 rfl (by decide +kernel) ?_
    refine R.lconst (m0 := 1) 16 dX3_most_15 rfl (by decide +kernel) ?_
    refine Rch.calls (sd_X3_isIn _ _ _ _ _ h) dX3_most_16 (lw_S q1426 q1427 q146 q1428) dk_X3_isIn (by decide) (Nat.le_of_ble_eq_true rfl) rfl rfl (Nat.le_of_ble_eq_true rfl) (kI 19 rfl fun r2 w3 h => ?_) kN
    refine R.if_eq 32 22 dX3_most_19 (by decide) rfl (fun hc => ?_) (fun hc => ?_)
    · replace h := h.1 hc
      refine R.iconst 33 dX3_most_32 rfl ?_
      exact R.retI dX3_most_33 rfl h
    · replace h := h.2 hc
      refine R.aload_n 23 dX3_most_22 rfl rfl ?_
      refine gf_90 26 dX3_most_23 rfl rfl ?_
      refine R.bipush 28 dX3_most_26 rfl (by decide +kernel) ?_
      obtain ⟨hb, h⟩ := h
      refine R.iald ar_90 29 dX3_most_28 rfl hb ?_
      refine R.if_ne 34 32 dX3_most_29 (by decide) rfl (fun hc => ?_) (fun hc => ?_)
      · replace h := h.1 hc
        refine R.iconst 35 dX3_most_34 rfl ?_
        refine R.ist2n 36 dX3_most_35 rfl (Nat.le_of_ble_eq_true rfl) rfl ?_
        refine R.iconst 37 dX3_most_36 rfl ?_
        refine R.ist3n 38 dX3_most_37 rfl (Nat.le_of_ble_eq_true rfl) rfl ?_
        obtain ⟨n4, h⟩ := h
        exact Rch.dropk (sl_X3_most_38 Q _ n4 _ _ _ h) ⟨rfl, ⟨rfl, ⟨rfl, ⟨rfl, trivial⟩⟩⟩⟩
      · replace h := h.2 hc
        refine R.iconst 33 dX3_most_32 rfl ?_
        exact R.retI dX3_most_33 rfl h

abbrev k_X3_spoilt : MK := ("FrostBoxModel", cX3_spoilt, 3, (some .int), [], "spoilt")
def wl_X3_spoilt_18 (Q : Int32 → Wd → Prop) (R18 : Int32 → Int32 → Wd → Prop) (l1 : Int32) (l2 : Int32) (w : Wd) : Prop := inb (iz 40) 283 ∧ ((gA w 90 (iz 40).toInt) ≤ l2 → Q l1 w) ∧ (¬ (gA w 90 (iz 40).toInt) ≤ l2 → wp_X3_valueOf 90 l2 w (fun r1 w2 => (¬ r1 = iz 0 → R18 (l1 ||| (iz 0)) (l2 + iz 1) w2) ∧ (r1 = iz 0 → R18 (l1 ||| ((iz 1) <<< (l2 &&& 31))) (l2 + iz 1) w2)))
def lp_X3_spoilt_18 (Q : Int32 → Wd → Prop) : Nat → Int32 → Int32 → Wd → Prop
  | 0, _, _, _ => False
  | n + 1, l1, l2, w => wl_X3_spoilt_18 Q (lp_X3_spoilt_18 Q n) l1 l2 w
def wp_X3_spoilt (w : Wd) (Q : Int32 → Wd → Prop) : Prop := ∀ w1, w1 = sI w 60 (iz 0) → (¬ (gI w1 85) = iz 0 → ∃ n2, lp_X3_spoilt_18 Q n2 (iz 0) (iz 0) w1) ∧ ((gI w1 85) = iz 0 → Q (iz (-1)) w1)
set_option maxRecDepth 100000 in
set_option maxHeartbeats 4000000 in
theorem sl_X3_spoilt_18 {γ : GG} (Q : Int32 → Wd → Prop) : ∀ (n : Nat) (l1 : Int32) (l2 : Int32) (w : Wd), lp_X3_spoilt_18 Q n l1 l2 w → Rch γ 75 k_X3_spoilt 18 [some (.ref 2), some (.int l1), some (.int l2)] [] w (qI Q) xN := by
  intro n
  induction n with
  | zero => intro _ _ _ h; exact h.elim
  | succ n hR18 =>
    intro l1 l2 w h
    have h : wl_X3_spoilt_18 Q (lp_X3_spoilt_18 Q n) l1 l2 w := h
    unfold wl_X3_spoilt_18 at h
    refine R.iload_n 19 dX3_spoilt_18 rfl rfl ?_
    refine R.aload_n 20 dX3_spoilt_19 rfl rfl ?_
    refine gf_90 23 dX3_spoilt_20 rfl rfl ?_
    refine R.bipush 25 dX3_spoilt_23 rfl (by decide +kernel) ?_
    obtain ⟨hb, h⟩ := h
    refine R.iald ar_90 26 dX3_spoilt_25 rfl hb ?_
    refine R.icmp_ge 57 29 dX3_spoilt_26 (by decide) rfl (fun hc => ?_) (fun hc => ?_)
    · replace h := h.1 hc
      refine R.iload_n 58 dX3_spoilt_57 rfl rfl ?_
      exact R.retI dX3_spoilt_58 rfl h
    · replace h := h.2 hc
      refine R.iload_n 30 dX3_spoilt_29 rfl rfl ?_
      refine R.aload_n 31 dX3_spoilt_30 rfl rfl ?_
      refine R.aload_n 32 dX3_spoilt_31 rfl rfl ?_
      refine gf_90 35 dX3_spoilt_32 rfl rfl ?_
      refine R.iload_n 36 dX3_spoilt_35 rfl rfl ?_
      refine Rch.callv (sd_X3_valueOf _ _ _ _ h) dX3_spoilt_36 (lw_V q1591 q1593 qs107 q146 q1594) dk_X3_valueOf rcM (by decide) (Nat.le_of_ble_eq_true rfl) rfl rfl (Nat.le_of_ble_eq_true rfl) (kI 39 rfl fun r1 w2 h => ?_) kN
      refine R.if_ne 48 42 dX3_spoilt_39 (by decide) rfl (fun hc => ?_) (fun hc => ?_)
      · replace h := h.1 hc
        refine R.iconst 49 dX3_spoilt_48 rfl ?_
        refine R.ior 50 dX3_spoilt_49 rfl ?_
        refine R.ist1n 51 dX3_spoilt_50 rfl (Nat.le_of_ble_eq_true rfl) rfl ?_
        refine R.inc2 54 dX3_spoilt_51 rfl (Nat.le_of_ble_eq_true rfl) rfl ?_
        refine R.goto 18 dX3_spoilt_54 (by decide) ?_
        exact Rch.dropk (hR18 _ _ _ h) ⟨rfl, ⟨rfl, ⟨rfl, trivial⟩⟩⟩
      · replace h := h.2 hc
        refine R.iconst 43 dX3_spoilt_42 rfl ?_
        refine R.iload_n 44 dX3_spoilt_43 rfl rfl ?_
        refine R.ishl 45 dX3_spoilt_44 rfl ?_
        refine R.goto 49 dX3_spoilt_45 (by decide) ?_
        refine R.ior 50 dX3_spoilt_49 rfl ?_
        refine R.ist1n 51 dX3_spoilt_50 rfl (Nat.le_of_ble_eq_true rfl) rfl ?_
        refine R.inc2 54 dX3_spoilt_51 rfl (Nat.le_of_ble_eq_true rfl) rfl ?_
        refine R.goto 18 dX3_spoilt_54 (by decide) ?_
        exact Rch.dropk (hR18 _ _ _ h) ⟨rfl, ⟨rfl, ⟨rfl, trivial⟩⟩⟩
set_option maxRecDepth 100000 in
set_option maxHeartbeats 4000000 in
theorem sd_X3_spoilt {γ : GG} (w : Wd) (Q : Int32 → Wd → Prop) : wp_X3_spoilt w Q → Ctr γ 75 yX3_spoilt (ws_ yX3_spoilt cX3_spoilt 3 (some .int)) [.ref 2] w (qI Q) xN := by
  intro h
  unfold wp_X3_spoilt at h
  refine Ctr.of (μ := k_X3_spoilt) (by decide) rfl rfl rfl (Nat.le_of_ble_eq_true rfl) ⟨2, ?_⟩
  have es : lva [.ref 2] ++ List.replicate 2 none = [some (.ref 2), none, none] := rfl
  rw [es]
  refine R.aload_n 1 dX3_spoilt_0 rfl rfl ?_
  refine R.iconst 2 dX3_spoilt_1 rfl ?_
  replace h := h _ rfl
  refine pf_60 _ 5 dX3_spoilt_2 rfl rfl ?_
  refine R.aload_n 6 dX3_spoilt_5 rfl rfl ?_
  refine gf_85 9 dX3_spoilt_6 rfl rfl ?_
  refine R.if_ne 14 12 dX3_spoilt_9 (by decide) rfl (fun hc => ?_) (fun hc => ?_)
  · replace h := h.1 hc
    refine R.iconst 15 dX3_spoilt_14 rfl ?_
    refine R.ist1n 16 dX3_spoilt_15 rfl (Nat.le_of_ble_eq_true rfl) rfl ?_
    refine R.iconst 17 dX3_spoilt_16 rfl ?_
    refine R.ist2n 18 dX3_spoilt_17 rfl (Nat.le_of_ble_eq_true rfl) rfl ?_
    obtain ⟨n2, h⟩ := h
    exact Rch.dropk (sl_X3_spoilt_18 Q n2 _ _ _ h) ⟨rfl, ⟨rfl, ⟨rfl, trivial⟩⟩⟩
  · replace h := h.2 hc
    refine R.iconst 13 dX3_spoilt_12 rfl ?_
    exact R.retI dX3_spoilt_13 rfl h

abbrev k_X3_buried : MK := ("FrostBoxModel", cX3_buried, 4, (some .int), [], "buried")
def wl_X3_buried_23 (Q : Int32 → Wd → Prop) (l1 : Int32) (R23 : Int32 → Int32 → Wd → Prop) (l2 : Int32) (l3 : Int32) (w : Wd) : Prop := (l1 ≤ l3 → Q l2 w) ∧ (¬ l1 ≤ l3 → inb (((iz 5) * l3) + (iz 1)) 283 ∧ R23 (l2 + (gA w 90 (((iz 5) * l3) + (iz 1)).toInt)) (l3 + iz 1) w)
def lp_X3_buried_23 (Q : Int32 → Wd → Prop) (l1 : Int32) : Nat → Int32 → Int32 → Wd → Prop
  | 0, _, _, _ => False
  | n + 1, l2, l3, w => wl_X3_buried_23 Q l1 (lp_X3_buried_23 Q l1 n) l2 l3 w
def wp_X3_buried (l1 : Int32) (w : Wd) (Q : Int32 → Wd → Prop) : Prop := ∀ w1, w1 = sI w 60 (iz 0) → wp_X3_isBox 90 l1 w1 (fun r2 w3 => (¬ r2 = iz 0 → ∃ n4, lp_X3_buried_23 Q l1 n4 (iz 0) (iz 0) w3) ∧ (r2 = iz 0 → Q (iz (-1)) w3))
set_option maxRecDepth 100000 in
set_option maxHeartbeats 4000000 in
theorem sl_X3_buried_23 {γ : GG} (Q : Int32 → Wd → Prop) (l1 : Int32) : ∀ (n : Nat) (l2 : Int32) (l3 : Int32) (w : Wd), lp_X3_buried_23 Q l1 n l2 l3 w → Rch γ 2 k_X3_buried 23 [some (.ref 2), some (.int l1), some (.int l2), some (.int l3)] [] w (qI Q) xN := by
  intro n
  induction n with
  | zero => intro _ _ _ h; exact h.elim
  | succ n hR23 =>
    intro l2 l3 w h
    have h : wl_X3_buried_23 Q l1 (lp_X3_buried_23 Q l1 n) l2 l3 w := h
    unfold wl_X3_buried_23 at h
    refine R.iload_n 24 dX3_buried_23 rfl rfl ?_
    refine R.iload_n 25 dX3_buried_24 rfl rfl ?_
    refine R.icmp_ge 47 28 dX3_buried_25 (by decide) rfl (fun hc => ?_) (fun hc => ?_)
    · replace h := h.1 hc
      refine R.iload_n 48 dX3_buried_47 rfl rfl ?_
      exact R.retI dX3_buried_48 rfl h
    · replace h := h.2 hc
      refine R.iload_n 29 dX3_buried_28 rfl rfl ?_
      refine R.aload_n 30 dX3_buried_29 rfl rfl ?_
      refine gf_90 33 dX3_buried_30 rfl rfl ?_
      refine R.iconst 34 dX3_buried_33 rfl ?_
      refine R.iload_n 35 dX3_buried_34 rfl rfl ?_
      refine R.imul 36 dX3_buried_35 rfl ?_
      refine R.iconst 37 dX3_buried_36 rfl ?_
      refine R.iadd 38 dX3_buried_37 rfl ?_
      obtain ⟨hb, h⟩ := h
      refine R.iald ar_90 39 dX3_buried_38 rfl hb ?_
      refine R.iadd 40 dX3_buried_39 rfl ?_
      refine R.ist2n 41 dX3_buried_40 rfl (Nat.le_of_ble_eq_true rfl) rfl ?_
      refine R.inc3 44 dX3_buried_41 rfl (Nat.le_of_ble_eq_true rfl) rfl ?_
      refine R.goto 23 dX3_buried_44 (by decide) ?_
      exact Rch.dropk (hR23 _ _ _ h) ⟨rfl, ⟨rfl, ⟨rfl, ⟨rfl, trivial⟩⟩⟩⟩
set_option maxRecDepth 100000 in
set_option maxHeartbeats 4000000 in
theorem sd_X3_buried {γ : GG} (l1 : Int32) (w : Wd) (Q : Int32 → Wd → Prop) : wp_X3_buried l1 w Q → Ctr γ 2 yX3_buried (ws_ yX3_buried cX3_buried 4 (some .int)) [.ref 2, .int l1] w (qI Q) xN := by
  intro h
  unfold wp_X3_buried at h
  refine Ctr.of (μ := k_X3_buried) (by decide) rfl rfl rfl (Nat.le_of_ble_eq_true rfl) ⟨2, ?_⟩
  have es : lva [.ref 2, .int l1] ++ List.replicate 2 none = [some (.ref 2), some (.int l1), none, none] := rfl
  rw [es]
  refine R.aload_n 1 dX3_buried_0 rfl rfl ?_
  refine R.iconst 2 dX3_buried_1 rfl ?_
  replace h := h _ rfl
  refine pf_60 _ 5 dX3_buried_2 rfl rfl ?_
  refine R.aload_n 6 dX3_buried_5 rfl rfl ?_
  refine R.aload_n 7 dX3_buried_6 rfl rfl ?_
  refine gf_90 10 dX3_buried_7 rfl rfl ?_
  refine R.iload_n 11 dX3_buried_10 rfl rfl ?_
  refine Rch.callv (sd_X3_isBox _ _ _ _ h) dX3_buried_11 (lw_V q1586 q1588 qs106 q146 q1589) dk_X3_isBox rcM (by decide) (Nat.le_of_ble_eq_true rfl) rfl rfl (Nat.le_of_ble_eq_true rfl) (kI 14 rfl fun r2 w3 h => ?_) kN
  refine R.if_ne 19 17 dX3_buried_14 (by decide) rfl (fun hc => ?_) (fun hc => ?_)
  · replace h := h.1 hc
    refine R.iconst 20 dX3_buried_19 rfl ?_
    refine R.ist2n 21 dX3_buried_20 rfl (Nat.le_of_ble_eq_true rfl) rfl ?_
    refine R.iconst 22 dX3_buried_21 rfl ?_
    refine R.ist3n 23 dX3_buried_22 rfl (Nat.le_of_ble_eq_true rfl) rfl ?_
    obtain ⟨n4, h⟩ := h
    exact Rch.dropk (sl_X3_buried_23 Q _ n4 _ _ _ h) ⟨rfl, ⟨rfl, ⟨rfl, ⟨rfl, trivial⟩⟩⟩⟩
  · replace h := h.2 hc
    refine R.iconst 18 dX3_buried_17 rfl ?_
    exact R.retI dX3_buried_18 rfl h

abbrev k_X3_goes : MK := ("FrostBoxModel", cX3_goes, 4, (some .int), [], "goes")
def wl_X3_goes_19 (Q : Int32 → Wd → Prop) (l1 : Int32) (R19 : Int32 → Int32 → Wd → Prop) (l2 : Int32) (l3 : Int32) (w : Wd) : Prop := ((gI w 85) ≤ l3 → Q l2 w) ∧ (¬ (gI w 85) ≤ l3 → wp_X3_fit l3 l1 w (fun r1 w2 => (r1 = iz 0 → R19 (l2 ||| (iz 0)) (l3 + iz 1) w2) ∧ (¬ r1 = iz 0 → R19 (l2 ||| ((iz 1) <<< (l3 &&& 31))) (l3 + iz 1) w2)))
def lp_X3_goes_19 (Q : Int32 → Wd → Prop) (l1 : Int32) : Nat → Int32 → Int32 → Wd → Prop
  | 0, _, _, _ => False
  | n + 1, l2, l3, w => wl_X3_goes_19 Q l1 (lp_X3_goes_19 Q l1 n) l2 l3 w
def wp_X3_goes (l1 : Int32) (w : Wd) (Q : Int32 → Wd → Prop) : Prop := ∀ w1, w1 = sI w 60 (iz 0) → wp_X3_isKind l1 w1 (fun r2 w3 => (¬ r2 = iz 0 → ∃ n4, lp_X3_goes_19 Q l1 n4 (iz 0) (iz 0) w3) ∧ (r2 = iz 0 → Q (iz (-1)) w3))
set_option maxRecDepth 100000 in
set_option maxHeartbeats 4000000 in
theorem sl_X3_goes_19 {γ : GG} (Q : Int32 → Wd → Prop) (l1 : Int32) : ∀ (n : Nat) (l2 : Int32) (l3 : Int32) (w : Wd), lp_X3_goes_19 Q l1 n l2 l3 w → Rch γ 3 k_X3_goes 19 [some (.ref 2), some (.int l1), some (.int l2), some (.int l3)] [] w (qI Q) xN := by
  intro n
  induction n with
  | zero => intro _ _ _ h; exact h.elim
  | succ n hR19 =>
    intro l2 l3 w h
    have h : wl_X3_goes_19 Q l1 (lp_X3_goes_19 Q l1 n) l2 l3 w := h
    unfold wl_X3_goes_19 at h
    refine R.iload_n 20 dX3_goes_19 rfl rfl ?_
    refine R.aload_n 21 dX3_goes_20 rfl rfl ?_
    refine gf_85 24 dX3_goes_21 rfl rfl ?_
    refine R.icmp_ge 52 27 dX3_goes_24 (by decide) rfl (fun hc => ?_) (fun hc => ?_)
    · replace h := h.1 hc
      refine R.iload_n 53 dX3_goes_52 rfl rfl ?_
      exact R.retI dX3_goes_53 rfl h
    · replace h := h.2 hc
      refine R.iload_n 28 dX3_goes_27 rfl rfl ?_
      refine R.aload_n 29 dX3_goes_28 rfl rfl ?_
      refine R.iload_n 30 dX3_goes_29 rfl rfl ?_
      refine R.iload_n 31 dX3_goes_30 rfl rfl ?_
      refine Rch.callv (sd_X3_fit _ _ _ _ h) dX3_goes_31 (lw_V q1760 q1762 qs129 q146 q1763) dk_X3_fit rcM (by decide) (Nat.le_of_ble_eq_true rfl) rfl rfl (Nat.le_of_ble_eq_true rfl) (kI 34 rfl fun r1 w2 h => ?_) kN
      refine R.if_eq 43 37 dX3_goes_34 (by decide) rfl (fun hc => ?_) (fun hc => ?_)
      · replace h := h.1 hc
        refine R.iconst 44 dX3_goes_43 rfl ?_
        refine R.ior 45 dX3_goes_44 rfl ?_
        refine R.ist2n 46 dX3_goes_45 rfl (Nat.le_of_ble_eq_true rfl) rfl ?_
        refine R.inc3 49 dX3_goes_46 rfl (Nat.le_of_ble_eq_true rfl) rfl ?_
        refine R.goto 19 dX3_goes_49 (by decide) ?_
        exact Rch.dropk (hR19 _ _ _ h) ⟨rfl, ⟨rfl, ⟨rfl, ⟨rfl, trivial⟩⟩⟩⟩
      · replace h := h.2 hc
        refine R.iconst 38 dX3_goes_37 rfl ?_
        refine R.iload_n 39 dX3_goes_38 rfl rfl ?_
        refine R.ishl 40 dX3_goes_39 rfl ?_
        refine R.goto 44 dX3_goes_40 (by decide) ?_
        refine R.ior 45 dX3_goes_44 rfl ?_
        refine R.ist2n 46 dX3_goes_45 rfl (Nat.le_of_ble_eq_true rfl) rfl ?_
        refine R.inc3 49 dX3_goes_46 rfl (Nat.le_of_ble_eq_true rfl) rfl ?_
        refine R.goto 19 dX3_goes_49 (by decide) ?_
        exact Rch.dropk (hR19 _ _ _ h) ⟨rfl, ⟨rfl, ⟨rfl, ⟨rfl, trivial⟩⟩⟩⟩
set_option maxRecDepth 100000 in
set_option maxHeartbeats 4000000 in
theorem sd_X3_goes {γ : GG} (l1 : Int32) (w : Wd) (Q : Int32 → Wd → Prop) : wp_X3_goes l1 w Q → Ctr γ 3 yX3_goes (ws_ yX3_goes cX3_goes 4 (some .int)) [.ref 2, .int l1] w (qI Q) xN := by
  intro h
  unfold wp_X3_goes at h
  refine Ctr.of (μ := k_X3_goes) (by decide) rfl rfl rfl (Nat.le_of_ble_eq_true rfl) ⟨2, ?_⟩
  have es : lva [.ref 2, .int l1] ++ List.replicate 2 none = [some (.ref 2), some (.int l1), none, none] := rfl
  rw [es]
  refine R.aload_n 1 dX3_goes_0 rfl rfl ?_
  refine R.iconst 2 dX3_goes_1 rfl ?_
  replace h := h _ rfl
  refine pf_60 _ 5 dX3_goes_2 rfl rfl ?_
  refine R.aload_n 6 dX3_goes_5 rfl rfl ?_
  refine R.iload_n 7 dX3_goes_6 rfl rfl ?_
  refine Rch.callv (sd_X3_isKind _ _ _ h) dX3_goes_7 (lw_V q1573 q1575 qs104 q146 q1576) dk_X3_isKind rcM (by decide) (Nat.le_of_ble_eq_true rfl) rfl rfl (Nat.le_of_ble_eq_true rfl) (kI 10 rfl fun r2 w3 h => ?_) kN
  refine R.if_ne 15 13 dX3_goes_10 (by decide) rfl (fun hc => ?_) (fun hc => ?_)
  · replace h := h.1 hc
    refine R.iconst 16 dX3_goes_15 rfl ?_
    refine R.ist2n 17 dX3_goes_16 rfl (Nat.le_of_ble_eq_true rfl) rfl ?_
    refine R.iconst 18 dX3_goes_17 rfl ?_
    refine R.ist3n 19 dX3_goes_18 rfl (Nat.le_of_ble_eq_true rfl) rfl ?_
    obtain ⟨n4, h⟩ := h
    exact Rch.dropk (sl_X3_goes_19 Q _ n4 _ _ _ h) ⟨rfl, ⟨rfl, ⟨rfl, ⟨rfl, trivial⟩⟩⟩⟩
  · replace h := h.2 hc
    refine R.iconst 14 dX3_goes_13 rfl ?_
    exact R.retI dX3_goes_14 rfl h

abbrev k_X3_soonest : MK := ("FrostBoxModel", cX3_soonest, 3, (some .int), [], "soonest")
def wl_X3_soonest_21 (Q : Int32 → Wd → Prop) (l1 : Int32) (R21 : Int32 → Wd → Prop) (l2 : Int32) (w : Wd) : Prop := ((iz 99) < l2 → Q (iz (-1)) w) ∧ (¬ (iz 99) < l2 → inb (iz 40) 283 ∧ wp_X3_valueOn 90 l1 (((gA w 90 (iz 40).toInt) - (iz 1)) - l1) l2 w (fun r1 w2 => (¬ r1 = iz 0 → R21 (l2 + iz 1) w2) ∧ (r1 = iz 0 → Q l2 w2)))
def lp_X3_soonest_21 (Q : Int32 → Wd → Prop) (l1 : Int32) : Nat → Int32 → Wd → Prop
  | 0, _, _ => False
  | n + 1, l2, w => wl_X3_soonest_21 Q l1 (lp_X3_soonest_21 Q l1 n) l2 w
def wp_X3_soonest (l1 : Int32) (w : Wd) (Q : Int32 → Wd → Prop) : Prop := ∀ w1, w1 = sI w 60 (iz 0) → wp_X3_isBox 90 l1 w1 (fun r2 w3 => (¬ r2 = iz 0 → ∃ n4, lp_X3_soonest_21 Q l1 n4 (iz 0) w3) ∧ (r2 = iz 0 → Q (iz (-1)) w3))
set_option maxRecDepth 100000 in
set_option maxHeartbeats 4000000 in
theorem sl_X3_soonest_21 {γ : GG} (Q : Int32 → Wd → Prop) (l1 : Int32) : ∀ (n : Nat) (l2 : Int32) (w : Wd), lp_X3_soonest_21 Q l1 n l2 w → Rch γ 74 k_X3_soonest 21 [some (.ref 2), some (.int l1), some (.int l2)] [] w (qI Q) xN := by
  intro n
  induction n with
  | zero => intro _ _ h; exact h.elim
  | succ n hR21 =>
    intro l2 w h
    have h : wl_X3_soonest_21 Q l1 (lp_X3_soonest_21 Q l1 n) l2 w := h
    unfold wl_X3_soonest_21 at h
    refine R.iload_n 22 dX3_soonest_21 rfl rfl ?_
    refine R.bipush 24 dX3_soonest_22 rfl (by decide +kernel) ?_
    refine R.icmp_gt 59 27 dX3_soonest_24 (by decide) rfl (fun hc => ?_) (fun hc => ?_)
    · replace h := h.1 hc
      refine R.iconst 60 dX3_soonest_59 rfl ?_
      exact R.retI dX3_soonest_60 rfl h
    · replace h := h.2 hc
      refine R.aload_n 28 dX3_soonest_27 rfl rfl ?_
      refine R.aload_n 29 dX3_soonest_28 rfl rfl ?_
      refine gf_90 32 dX3_soonest_29 rfl rfl ?_
      refine R.iload_n 33 dX3_soonest_32 rfl rfl ?_
      refine R.aload_n 34 dX3_soonest_33 rfl rfl ?_
      refine gf_90 37 dX3_soonest_34 rfl rfl ?_
      refine R.bipush 39 dX3_soonest_37 rfl (by decide +kernel) ?_
      obtain ⟨hb, h⟩ := h
      refine R.iald ar_90 40 dX3_soonest_39 rfl hb ?_
      refine R.iconst 41 dX3_soonest_40 rfl ?_
      refine R.isub 42 dX3_soonest_41 rfl ?_
      refine R.iload_n 43 dX3_soonest_42 rfl rfl ?_
      refine R.isub 44 dX3_soonest_43 rfl ?_
      refine R.iload_n 45 dX3_soonest_44 rfl rfl ?_
      refine Rch.callv (sd_X3_valueOn _ _ _ _ _ _ h) dX3_soonest_45 (lw_V q1595 q1597 qs108 q146 q1598) dk_X3_valueOn rcM (by decide) (Nat.le_of_ble_eq_true rfl) rfl rfl (Nat.le_of_ble_eq_true rfl) (kI 48 rfl fun r1 w2 h => ?_) kN
      refine R.if_ne 53 51 dX3_soonest_48 (by decide) rfl (fun hc => ?_) (fun hc => ?_)
      · replace h := h.1 hc
        refine R.inc2 56 dX3_soonest_53 rfl (Nat.le_of_ble_eq_true rfl) rfl ?_
        refine R.goto 21 dX3_soonest_56 (by decide) ?_
        exact Rch.dropk (hR21 _ _ h) ⟨rfl, ⟨rfl, ⟨rfl, trivial⟩⟩⟩
      · replace h := h.2 hc
        refine R.iload_n 52 dX3_soonest_51 rfl rfl ?_
        exact R.retI dX3_soonest_52 rfl h
set_option maxRecDepth 100000 in
set_option maxHeartbeats 4000000 in
theorem sd_X3_soonest {γ : GG} (l1 : Int32) (w : Wd) (Q : Int32 → Wd → Prop) : wp_X3_soonest l1 w Q → Ctr γ 74 yX3_soonest (ws_ yX3_soonest cX3_soonest 3 (some .int)) [.ref 2, .int l1] w (qI Q) xN := by
  intro h
  unfold wp_X3_soonest at h
  refine Ctr.of (μ := k_X3_soonest) (by decide) rfl rfl rfl (Nat.le_of_ble_eq_true rfl) ⟨1, ?_⟩
  have es : lva [.ref 2, .int l1] ++ List.replicate 1 none = [some (.ref 2), some (.int l1), none] := rfl
  rw [es]
  refine R.aload_n 1 dX3_soonest_0 rfl rfl ?_
  refine R.iconst 2 dX3_soonest_1 rfl ?_
  replace h := h _ rfl
  refine pf_60 _ 5 dX3_soonest_2 rfl rfl ?_
  refine R.aload_n 6 dX3_soonest_5 rfl rfl ?_
  refine R.aload_n 7 dX3_soonest_6 rfl rfl ?_
  refine gf_90 10 dX3_soonest_7 rfl rfl ?_
  refine R.iload_n 11 dX3_soonest_10 rfl rfl ?_
  refine Rch.callv (sd_X3_isBox _ _ _ _ h) dX3_soonest_11 (lw_V q1586 q1588 qs106 q146 q1589) dk_X3_isBox rcM (by decide) (Nat.le_of_ble_eq_true rfl) rfl rfl (Nat.le_of_ble_eq_true rfl) (kI 14 rfl fun r2 w3 h => ?_) kN
  refine R.if_ne 19 17 dX3_soonest_14 (by decide) rfl (fun hc => ?_) (fun hc => ?_)
  · replace h := h.1 hc
    refine R.iconst 20 dX3_soonest_19 rfl ?_
    refine R.ist2n 21 dX3_soonest_20 rfl (Nat.le_of_ble_eq_true rfl) rfl ?_
    obtain ⟨n4, h⟩ := h
    exact Rch.dropk (sl_X3_soonest_21 Q _ n4 _ _ h) ⟨rfl, ⟨rfl, ⟨rfl, trivial⟩⟩⟩
  · replace h := h.2 hc
    refine R.iconst 18 dX3_soonest_17 rfl ?_
    exact R.retI dX3_soonest_18 rfl h

abbrev k_X3_monthly : MK := ("FrostBoxModel", cX3_monthly, 4, (some .int), [], "monthly")
def wl_X3_monthly_30 (Q : Int32 → Wd → Prop) (l1 : Int32) (R30 : Int32 → Int32 → Wd → Prop) (l2 : Int32) (l3 : Int32) (w : Wd) : Prop := inb (iz 40) 283 ∧ ((gA w 90 (iz 40).toInt) ≤ l3 → Q l2 w) ∧ (¬ (gA w 90 (iz 40).toInt) ≤ l3 → inb (iz 40) 283 ∧ wp_X3_valueOn 90 l3 (((gA w 90 (iz 40).toInt) - (iz 1)) - l3) l1 w (fun r1 w2 => R30 (l2 + r1) (l3 + iz 1) w2))
def lp_X3_monthly_30 (Q : Int32 → Wd → Prop) (l1 : Int32) : Nat → Int32 → Int32 → Wd → Prop
  | 0, _, _, _ => False
  | n + 1, l2, l3, w => wl_X3_monthly_30 Q l1 (lp_X3_monthly_30 Q l1 n) l2 l3 w
def wp_X3_monthly (l1 : Int32) (w : Wd) (Q : Int32 → Wd → Prop) : Prop := ∀ w1, w1 = sI w 60 (iz 0) → ((gI w1 85) = iz 0 → Q (iz (-1)) w1) ∧ (¬ (gI w1 85) = iz 0 → wp_X3_isIn ((l1).toInt64) (lz 0) (lz 60) w1 (fun r2 w3 => (¬ r2 = iz 0 → ∃ n4, lp_X3_monthly_30 Q l1 n4 (iz 0) (iz 0) w3) ∧ (r2 = iz 0 → Q (iz (-1)) w3)))
set_option maxRecDepth 100000 in
set_option maxHeartbeats 4000000 in
theorem sl_X3_monthly_30 {γ : GG} (Q : Int32 → Wd → Prop) (l1 : Int32) : ∀ (n : Nat) (l2 : Int32) (l3 : Int32) (w : Wd), lp_X3_monthly_30 Q l1 n l2 l3 w → Rch γ 74 k_X3_monthly 30 [some (.ref 2), some (.int l1), some (.int l2), some (.int l3)] [] w (qI Q) xN := by
  intro n
  induction n with
  | zero => intro _ _ _ h; exact h.elim
  | succ n hR30 =>
    intro l2 l3 w h
    have h : wl_X3_monthly_30 Q l1 (lp_X3_monthly_30 Q l1 n) l2 l3 w := h
    unfold wl_X3_monthly_30 at h
    refine R.iload_n 31 dX3_monthly_30 rfl rfl ?_
    refine R.aload_n 32 dX3_monthly_31 rfl rfl ?_
    refine gf_90 35 dX3_monthly_32 rfl rfl ?_
    refine R.bipush 37 dX3_monthly_35 rfl (by decide +kernel) ?_
    obtain ⟨hb, h⟩ := h
    refine R.iald ar_90 38 dX3_monthly_37 rfl hb ?_
    refine R.icmp_ge 71 41 dX3_monthly_38 (by decide) rfl (fun hc => ?_) (fun hc => ?_)
    · replace h := h.1 hc
      refine R.iload_n 72 dX3_monthly_71 rfl rfl ?_
      exact R.retI dX3_monthly_72 rfl h
    · replace h := h.2 hc
      refine R.iload_n 42 dX3_monthly_41 rfl rfl ?_
      refine R.aload_n 43 dX3_monthly_42 rfl rfl ?_
      refine R.aload_n 44 dX3_monthly_43 rfl rfl ?_
      refine gf_90 47 dX3_monthly_44 rfl rfl ?_
      refine R.iload_n 48 dX3_monthly_47 rfl rfl ?_
      refine R.aload_n 49 dX3_monthly_48 rfl rfl ?_
      refine gf_90 52 dX3_monthly_49 rfl rfl ?_
      refine R.bipush 54 dX3_monthly_52 rfl (by decide +kernel) ?_
      obtain ⟨hb, h⟩ := h
      refine R.iald ar_90 55 dX3_monthly_54 rfl hb ?_
      refine R.iconst 56 dX3_monthly_55 rfl ?_
      refine R.isub 57 dX3_monthly_56 rfl ?_
      refine R.iload_n 58 dX3_monthly_57 rfl rfl ?_
      refine R.isub 59 dX3_monthly_58 rfl ?_
      refine R.iload_n 60 dX3_monthly_59 rfl rfl ?_
      refine Rch.callv (sd_X3_valueOn _ _ _ _ _ _ h) dX3_monthly_60 (lw_V q1595 q1597 qs108 q146 q1598) dk_X3_valueOn rcM (by decide) (Nat.le_of_ble_eq_true rfl) rfl rfl (Nat.le_of_ble_eq_true rfl) (kI 63 rfl fun r1 w2 h => ?_) kN
      refine R.iadd 64 dX3_monthly_63 rfl ?_
      refine R.ist2n 65 dX3_monthly_64 rfl (Nat.le_of_ble_eq_true rfl) rfl ?_
      refine R.inc3 68 dX3_monthly_65 rfl (Nat.le_of_ble_eq_true rfl) rfl ?_
      refine R.goto 30 dX3_monthly_68 (by decide) ?_
      exact Rch.dropk (hR30 _ _ _ h) ⟨rfl, ⟨rfl, ⟨rfl, ⟨rfl, trivial⟩⟩⟩⟩
set_option maxRecDepth 100000 in
set_option maxHeartbeats 4000000 in
theorem sd_X3_monthly {γ : GG} (l1 : Int32) (w : Wd) (Q : Int32 → Wd → Prop) : wp_X3_monthly l1 w Q → Ctr γ 74 yX3_monthly (ws_ yX3_monthly cX3_monthly 4 (some .int)) [.ref 2, .int l1] w (qI Q) xN := by
  intro h
  unfold wp_X3_monthly at h
  refine Ctr.of (μ := k_X3_monthly) (by decide) rfl rfl rfl (Nat.le_of_ble_eq_true rfl) ⟨2, ?_⟩
  have es : lva [.ref 2, .int l1] ++ List.replicate 2 none = [some (.ref 2), some (.int l1), none, none] := rfl
  rw [es]
  refine R.aload_n 1 dX3_monthly_0 rfl rfl ?_
  refine R.iconst 2 dX3_monthly_1 rfl ?_
  replace h := h _ rfl
  refine pf_60 _ 5 dX3_monthly_2 rfl rfl ?_
  refine R.aload_n 6 dX3_monthly_5 rfl rfl ?_
  refine gf_85 9 dX3_monthly_6 rfl rfl ?_
  refine R.if_eq 24 12 dX3_monthly_9 (by decide) rfl (fun hc => ?_) (fun hc => ?_)
  · replace h := h.1 hc
    refine R.iconst 25 dX3_monthly_24 rfl ?_
    exact R.retI dX3_monthly_25 rfl h
  · replace h := h.2 hc
    refine R.iload_n 13 dX3_monthly_12 rfl rfl ?_
    refine R.i2l 14 dX3_monthly_13 rfl ?_
    refine R.lconst (m0 := 0) 15 dX3_monthly_14 rfl (by decide +kernel) ?_
    refine R.ldc2 (n := 60) 18 dX3_monthly_15 rfl q1896 (by decide +kernel) ?_
    refine Rch.calls (sd_X3_isIn _ _ _ _ _ h) dX3_monthly_18 (lw_S q1426 q1427 q146 q1428) dk_X3_isIn (by decide) (Nat.le_of_ble_eq_true rfl) rfl rfl (Nat.le_of_ble_eq_true rfl) (kI 21 rfl fun r2 w3 h => ?_) kN
    refine R.if_ne 26 24 dX3_monthly_21 (by decide) rfl (fun hc => ?_) (fun hc => ?_)
    · replace h := h.1 hc
      refine R.iconst 27 dX3_monthly_26 rfl ?_
      refine R.ist2n 28 dX3_monthly_27 rfl (Nat.le_of_ble_eq_true rfl) rfl ?_
      refine R.iconst 29 dX3_monthly_28 rfl ?_
      refine R.ist3n 30 dX3_monthly_29 rfl (Nat.le_of_ble_eq_true rfl) rfl ?_
      obtain ⟨n4, h⟩ := h
      exact Rch.dropk (sl_X3_monthly_30 Q _ n4 _ _ _ h) ⟨rfl, ⟨rfl, ⟨rfl, ⟨rfl, trivial⟩⟩⟩⟩
    · replace h := h.2 hc
      refine R.iconst 25 dX3_monthly_24 rfl ?_
      exact R.retI dX3_monthly_25 rfl h
