set_option maxRecDepth 100000

abbrev k_X3_belowOf : MK := ("FrostBoxModel", cX3_belowOf, 3, (some .int), [], "belowOf")
def wp_X3_belowOf (l1 : Int32) (l2 : Int32) (w : Wd) (Q : Int32 → Wd → Prop) : Prop := wp_J10_bitCount (l1 >>> ((l2 + (iz 1)) &&& 31)) w (fun r1 w2 => Q r1 w2)
set_option maxRecDepth 100000 in
set_option maxHeartbeats 4000000 in
theorem sd_X3_belowOf {γ : GG} (l1 : Int32) (l2 : Int32) (w : Wd) (Q : Int32 → Wd → Prop) : wp_X3_belowOf l1 l2 w Q → Ctr γ 2 yX3_belowOf (ws_ yX3_belowOf cX3_belowOf 3 (some .int)) [.ref 2, .int l1, .int l2] w (qI Q) xN := by
  intro h
  unfold wp_X3_belowOf at h
  refine Ctr.of (μ := k_X3_belowOf) (by decide) rfl rfl rfl (Nat.le_of_ble_eq_true rfl) ⟨0, ?_⟩
  have es : lva [.ref 2, .int l1, .int l2] ++ List.replicate 0 none = [some (.ref 2), some (.int l1), some (.int l2)] := rfl
  rw [es]
  refine R.iload_n 1 dX3_belowOf_0 rfl rfl ?_
  refine R.iload_n 2 dX3_belowOf_1 rfl rfl ?_
  refine R.iconst 3 dX3_belowOf_2 rfl ?_
  refine R.iadd 4 dX3_belowOf_3 rfl ?_
  refine R.ishr 5 dX3_belowOf_4 rfl ?_
  refine Rch.calls (sd_J10_bitCount _ _ _ h) dX3_belowOf_5 (lw_S q1776 q1032 q165 q1033) dk_J10_bitCount (by decide) (Nat.le_of_ble_eq_true rfl) rfl rfl (Nat.le_of_ble_eq_true rfl) (kI 8 rfl fun r1 w2 h => ?_) kN
  exact R.retI dX3_belowOf_8 rfl h

abbrev k_X3_goEat : MK := ("FrostBoxModel", cX3_goEat, 6, none, [], "goEat")
def wl_X3_goEat_36 (Peat : Int32 → Int32 → Int32 → Int32 → Wd → (Wd → Prop) → Prop) (Q : Wd → Prop) (l1 : Int32) (l2 : Int32) (l3 : Int32) (l4 : Int32) (R36 : Int32 → Wd → Prop) (l5 : Int32) (w : Wd) : Prop := inb (iz 40) 283 ∧ ((gA w 90 (iz 40).toInt) ≤ l5 → Q w) ∧ (¬ (gA w 90 (iz 40).toInt) ≤ l5 → wp_X3_has l1 l5 w (fun r1 w2 => (r1 = iz 0 → R36 (l5 + iz 1) w2) ∧ (¬ r1 = iz 0 → wp_X3_belowOf l1 l5 w2 (fun r3 w4 => wp_X3_valueOn 90 l5 r3 l2 w4 (fun r5 w6 => Peat (l1 &&& (((iz 1) <<< (l5 &&& 31)) ^^^ (iz (-1)))) (l2 + (iz 1)) (l3 + r5) (((iz 10) * l4) + l5) w6 (fun w8 => R36 (l5 + iz 1) w8))))))
def lp_X3_goEat_36 (Peat : Int32 → Int32 → Int32 → Int32 → Wd → (Wd → Prop) → Prop) (Q : Wd → Prop) (l1 : Int32) (l2 : Int32) (l3 : Int32) (l4 : Int32) : Nat → Int32 → Wd → Prop
  | 0, _, _ => False
  | n + 1, l5, w => wl_X3_goEat_36 Peat Q l1 l2 l3 l4 (lp_X3_goEat_36 Peat Q l1 l2 l3 l4 n) l5 w
def wp_X3_goEat (Peat : Int32 → Int32 → Int32 → Int32 → Wd → (Wd → Prop) → Prop) (l1 : Int32) (l2 : Int32) (l3 : Int32) (l4 : Int32) (w : Wd) (Q : Wd → Prop) : Prop := (¬ l1 = iz 0 → ∃ n1, lp_X3_goEat_36 Peat Q l1 l2 l3 l4 n1 (iz 0) w) ∧ (l1 = iz 0 → ((gI w 99) = (iz (-1)) → ∀ w2, w2 = sI w 99 l3 → ∀ w3, w3 = sI w2 100 l4 → Q w3) ∧ (¬ (gI w 99) = (iz (-1)) → ((gI w 99) < l3 → ∀ w4, w4 = sI w 99 l3 → ∀ w5, w5 = sI w4 100 l4 → Q w5) ∧ (¬ (gI w 99) < l3 → Q w)))
set_option maxRecDepth 100000 in
set_option maxHeartbeats 4000000 in
theorem sl_X3_goEat_36 {γ : GG} {dP : Nat} (hB : 73 ≤ dP) (Peat : Int32 → Int32 → Int32 → Int32 → Wd → (Wd → Prop) → Prop) (hPeat : ∀ (l1 : Int32) (l2 : Int32) (l3 : Int32) (l4 : Int32) (w : Wd) (Q : Wd → Prop) , Peat l1 l2 l3 l4 w Q → Ctr γ dP yX3_goEat (ws_ yX3_goEat cX3_goEat 6 none) [.ref 2, .int l1, .int l2, .int l3, .int l4] w (qV Q) xN) (Q : Wd → Prop) (l1 : Int32) (l2 : Int32) (l3 : Int32) (l4 : Int32) : ∀ (n : Nat) (l5 : Int32) (w : Wd), lp_X3_goEat_36 Peat Q l1 l2 l3 l4 n l5 w → Rch γ (dP + 1) k_X3_goEat 36 [some (.ref 2), some (.int l1), some (.int l2), some (.int l3), some (.int l4), some (.int l5)] [] w (qV Q) xN := by
  intro n
  induction n with
  | zero => intro _ _ h; exact h.elim
  | succ n hR36 =>
    intro l5 w h
    have h : wl_X3_goEat_36 Peat Q l1 l2 l3 l4 (lp_X3_goEat_36 Peat Q l1 l2 l3 l4 n) l5 w := h
    unfold wl_X3_goEat_36 at h
    refine R.iload 38 dX3_goEat_36 rfl rfl ?_
    refine R.aload_n 39 dX3_goEat_38 rfl rfl ?_
    refine gf_90 42 dX3_goEat_39 rfl rfl ?_
    refine R.bipush 44 dX3_goEat_42 rfl (by decide +kernel) ?_
    obtain ⟨hb, h⟩ := h
    refine R.iald ar_90 45 dX3_goEat_44 rfl hb ?_
    refine R.icmp_ge 106 48 dX3_goEat_45 (by decide) rfl (fun hc => ?_) (fun hc => ?_)
    · replace h := h.1 hc
      exact R.retV dX3_goEat_106 rfl h
    · replace h := h.2 hc
      refine R.iload_n 49 dX3_goEat_48 rfl rfl ?_
      refine R.iload 51 dX3_goEat_49 rfl rfl ?_
      refine Rch.calls (sd_X3_has _ _ _ _ h) dX3_goEat_51 (lw_S q1462 q1463 q146 q1464) dk_X3_has (by omega) (Nat.le_of_ble_eq_true rfl) rfl rfl (Nat.le_of_ble_eq_true rfl) (kI 54 rfl fun r1 w2 h => ?_) kN
      refine R.if_eq 100 57 dX3_goEat_54 (by decide) rfl (fun hc => ?_) (fun hc => ?_)
      · replace h := h.1 hc
        refine R.inc5 103 dX3_goEat_100 rfl (Nat.le_of_ble_eq_true rfl) rfl ?_
        refine R.goto 36 dX3_goEat_103 (by decide) ?_
        exact Rch.dropk (hR36 _ _ h) ⟨rfl, ⟨rfl, ⟨rfl, ⟨rfl, ⟨rfl, ⟨rfl, trivial⟩⟩⟩⟩⟩⟩
      · replace h := h.2 hc
        refine R.aload_n 58 dX3_goEat_57 rfl rfl ?_
        refine R.iload_n 59 dX3_goEat_58 rfl rfl ?_
        refine R.iconst 60 dX3_goEat_59 rfl ?_
        refine R.iload 62 dX3_goEat_60 rfl rfl ?_
        refine R.ishl 63 dX3_goEat_62 rfl ?_
        refine R.iconst 64 dX3_goEat_63 rfl ?_
        refine R.ixor 65 dX3_goEat_64 rfl ?_
        refine R.iand 66 dX3_goEat_65 rfl ?_
        refine R.iload_n 67 dX3_goEat_66 rfl rfl ?_
        refine R.iconst 68 dX3_goEat_67 rfl ?_
        refine R.iadd 69 dX3_goEat_68 rfl ?_
        refine R.iload_n 70 dX3_goEat_69 rfl rfl ?_
        refine R.aload_n 71 dX3_goEat_70 rfl rfl ?_
        refine R.aload_n 72 dX3_goEat_71 rfl rfl ?_
        refine gf_90 75 dX3_goEat_72 rfl rfl ?_
        refine R.iload 77 dX3_goEat_75 rfl rfl ?_
        refine R.aload_n 78 dX3_goEat_77 rfl rfl ?_
        refine R.iload_n 79 dX3_goEat_78 rfl rfl ?_
        refine R.iload 81 dX3_goEat_79 rfl rfl ?_
        refine Rch.callv (sd_X3_belowOf _ _ _ _ h) dX3_goEat_81 (lw_V q1772 q1774 qs131 q146 q1775) dk_X3_belowOf rcM (by omega) (Nat.le_of_ble_eq_true rfl) rfl rfl (Nat.le_of_ble_eq_true rfl) (kI 84 rfl fun r3 w4 h => ?_) kN
        refine R.iload_n 85 dX3_goEat_84 rfl rfl ?_
        refine Rch.callv (sd_X3_valueOn _ _ _ _ _ _ h) dX3_goEat_85 (lw_V q1595 q1597 qs108 q146 q1598) dk_X3_valueOn rcM (by omega) (Nat.le_of_ble_eq_true rfl) rfl rfl (Nat.le_of_ble_eq_true rfl) (kI 88 rfl fun r5 w6 h => ?_) kN
        refine R.iadd 89 dX3_goEat_88 rfl ?_
        refine R.bipush 91 dX3_goEat_89 rfl (by decide +kernel) ?_
        refine R.iload 93 dX3_goEat_91 rfl rfl ?_
        refine R.imul 94 dX3_goEat_93 rfl ?_
        refine R.iload 96 dX3_goEat_94 rfl rfl ?_
        refine R.iadd 97 dX3_goEat_96 rfl ?_
        refine Rch.callv (hPeat _ _ _ _ _ _ h) dX3_goEat_97 (lw_V q1768 q1770 qs130 q146 q1771) dk_X3_goEat rcM (by omega) (Nat.le_of_ble_eq_true rfl) rfl rfl (Nat.le_of_ble_eq_true rfl) (kV 100 rfl fun w8 h => ?_) kN
        refine R.inc5 103 dX3_goEat_100 rfl (Nat.le_of_ble_eq_true rfl) rfl ?_
        refine R.goto 36 dX3_goEat_103 (by decide) ?_
        exact Rch.dropk (hR36 _ _ h) ⟨rfl, ⟨rfl, ⟨rfl, ⟨rfl, ⟨rfl, ⟨rfl, trivial⟩⟩⟩⟩⟩⟩
set_option maxRecDepth 100000 in
set_option maxHeartbeats 4000000 in
theorem sd_X3_goEat {γ : GG} {dP : Nat} (hB : 73 ≤ dP) (Peat : Int32 → Int32 → Int32 → Int32 → Wd → (Wd → Prop) → Prop) (hPeat : ∀ (l1 : Int32) (l2 : Int32) (l3 : Int32) (l4 : Int32) (w : Wd) (Q : Wd → Prop) , Peat l1 l2 l3 l4 w Q → Ctr γ dP yX3_goEat (ws_ yX3_goEat cX3_goEat 6 none) [.ref 2, .int l1, .int l2, .int l3, .int l4] w (qV Q) xN) (l1 : Int32) (l2 : Int32) (l3 : Int32) (l4 : Int32) (w : Wd) (Q : Wd → Prop) : wp_X3_goEat Peat l1 l2 l3 l4 w Q → Ctr γ (dP + 1) yX3_goEat (ws_ yX3_goEat cX3_goEat 6 none) [.ref 2, .int l1, .int l2, .int l3, .int l4] w (qV Q) xN := by
  intro h
  unfold wp_X3_goEat at h
  refine Ctr.of (μ := k_X3_goEat) (by decide) rfl rfl rfl (Nat.le_of_ble_eq_true rfl) ⟨1, ?_⟩
  have es : lva [.ref 2, .int l1, .int l2, .int l3, .int l4] ++ List.replicate 1 none = [some (.ref 2), some (.int l1), some (.int l2), some (.int l3), some (.int l4), none] := rfl
  rw [es]
  refine R.iload_n 1 dX3_goEat_0 rfl rfl ?_
  refine R.if_ne 33 4 dX3_goEat_1 (by decide) rfl (fun hc => ?_) (fun hc => ?_)
  · replace h := h.1 hc
    refine R.iconst 34 dX3_goEat_33 rfl ?_
    refine R.ist5 36 dX3_goEat_34 rfl (Nat.le_of_ble_eq_true rfl) rfl ?_
    obtain ⟨n1, h⟩ := h
    exact Rch.dropk (sl_X3_goEat_36 hB Peat hPeat Q _ _ _ _ n1 _ _ h) ⟨rfl, ⟨rfl, ⟨rfl, ⟨rfl, ⟨rfl, ⟨rfl, trivial⟩⟩⟩⟩⟩⟩
  · replace h := h.2 hc
    refine R.aload_n 5 dX3_goEat_4 rfl rfl ?_
    refine gf_99 8 dX3_goEat_5 rfl rfl ?_
    refine R.iconst 9 dX3_goEat_8 rfl ?_
    refine R.icmp_eq 21 12 dX3_goEat_9 (by decide) rfl (fun hc => ?_) (fun hc => ?_)
    · replace h := h.1 hc
      refine R.aload_n 22 dX3_goEat_21 rfl rfl ?_
      refine R.iload_n 23 dX3_goEat_22 rfl rfl ?_
      replace h := h _ rfl
      refine pf_99 _ 26 dX3_goEat_23 rfl rfl ?_
      refine R.aload_n 27 dX3_goEat_26 rfl rfl ?_
      refine R.iload 29 dX3_goEat_27 rfl rfl ?_
      replace h := h _ rfl
      refine pf_100 _ 32 dX3_goEat_29 rfl rfl ?_
      exact R.retV dX3_goEat_32 rfl h
    · replace h := h.2 hc
      refine R.iload_n 13 dX3_goEat_12 rfl rfl ?_
      refine R.aload_n 14 dX3_goEat_13 rfl rfl ?_
      refine gf_99 17 dX3_goEat_14 rfl rfl ?_
      refine R.icmp_gt 21 20 dX3_goEat_17 (by decide) rfl (fun hc => ?_) (fun hc => ?_)
      · replace h := h.1 hc
        refine R.aload_n 22 dX3_goEat_21 rfl rfl ?_
        refine R.iload_n 23 dX3_goEat_22 rfl rfl ?_
        replace h := h _ rfl
        refine pf_99 _ 26 dX3_goEat_23 rfl rfl ?_
        refine R.aload_n 27 dX3_goEat_26 rfl rfl ?_
        refine R.iload 29 dX3_goEat_27 rfl rfl ?_
        replace h := h _ rfl
        refine pf_100 _ 32 dX3_goEat_29 rfl rfl ?_
        exact R.retV dX3_goEat_32 rfl h
      · replace h := h.2 hc
        exact R.retV dX3_goEat_20 rfl h

def pf_X3_goEat : Nat → Int32 → Int32 → Int32 → Int32 → Wd → (Wd → Prop) → Prop
  | 0 => fun _ _ _ _ _ _ => False
  | n + 1 => wp_X3_goEat (pf_X3_goEat n)
theorem sfn_X3_goEat {γ : GG} : ∀ (n : Nat) (l1 : Int32) (l2 : Int32) (l3 : Int32) (l4 : Int32) (w : Wd) (Q : Wd → Prop) , pf_X3_goEat n l1 l2 l3 l4 w Q → Ctr γ (73 + 1 * n) yX3_goEat (ws_ yX3_goEat cX3_goEat 6 none) [.ref 2, .int l1, .int l2, .int l3, .int l4] w (qV Q) xN
  | 0, _, _, _, _, _, _, h => h.elim
  | n + 1, _, _, _, _, _, _, h => sd_X3_goEat (dP := 73 + 1 * n) (by omega) (pf_X3_goEat n) (sfn_X3_goEat n) _ _ _ _ _ _ h
theorem sf_X3_goEat {γ : GG} (n : Nat) (l1 : Int32) (l2 : Int32) (l3 : Int32) (l4 : Int32) (w : Wd) (Q : Wd → Prop) (h : pf_X3_goEat n l1 l2 l3 l4 w Q) : Ctr γ (73 + 1 * n) yX3_goEat (ws_ yX3_goEat cX3_goEat 6 none) [.ref 2, .int l1, .int l2, .int l3, .int l4] w (qV Q) xN := sfn_X3_goEat n l1 l2 l3 l4 w Q h

abbrev k_X3_eat : MK := ("FrostBoxModel", cX3_eat, 6, (some .int), [], "eat")
def b_X3_eat_66 (Q : Int32 → Wd → Prop) (R44 : Int32 → Int32 → Wd → Prop) (l1 : Int32) (l2 : Int32) (l3 : Int32) (l4 : Int32) (t0 : Int32) (w : Wd) : Prop := (¬ l1 = (iz 2) → wp_X3_valueOn 90 t0 ((l2 - (iz 1)) - l4) l4 w (fun r1 w2 => R44 (l3 + r1) (l4 + iz 1) w2)) ∧ (l1 = (iz 2) → wp_X3_valueOn 90 t0 (iz 0) l4 w (fun r3 w4 => R44 (l3 + r3) (l4 + iz 1) w4))
def wl_X3_eat_44 (Q : Int32 → Wd → Prop) (l1 : Int32) (l2 : Int32) (R44 : Int32 → Int32 → Wd → Prop) (l3 : Int32) (l4 : Int32) (w : Wd) : Prop := (l2 ≤ l4 → Q l3 w) ∧ (¬ l2 ≤ l4 → (¬ l1 = (iz 2) → b_X3_eat_66 Q R44 l1 l2 l3 l4 l4 w) ∧ (l1 = (iz 2) → b_X3_eat_66 Q R44 l1 l2 l3 l4 ((l2 - (iz 1)) - l4) w))
def lp_X3_eat_44 (Q : Int32 → Wd → Prop) (l1 : Int32) (l2 : Int32) : Nat → Int32 → Int32 → Wd → Prop
  | 0, _, _, _ => False
  | n + 1, l3, l4, w => wl_X3_eat_44 Q l1 l2 (lp_X3_eat_44 Q l1 l2 n) l3 l4 w
def wp_X3_eat (l1 : Int32) (w : Wd) (Q : Int32 → Wd → Prop) : Prop := ∀ w1, w1 = sI w 60 (iz 0) → ((gI w1 85) = iz 0 → Q (iz (-1)) w1) ∧ (¬ (gI w1 85) = iz 0 → wp_X3_isIn ((l1).toInt64) (lz 0) (lz 3) w1 (fun r2 w3 => (¬ r2 = iz 0 → inb (iz 40) 283 ∧ (l1 ≤ (iz 1) → ∀ w4, w4 = sI w3 99 (iz (-1)) → ∀ w5, w5 = sI w4 100 (iz 0) → pf_X3_goEat 10 (((iz 1) <<< ((gA w3 90 (iz 40).toInt) &&& 31)) - (iz 1)) (iz 0) (iz 0) (iz 0) w5 (fun w7 => (¬ l1 = iz 0 → Q (gI w7 99) w7) ∧ (l1 = iz 0 → Q (gI w7 100) w7))) ∧ (¬ l1 ≤ (iz 1) → ∃ n8, lp_X3_eat_44 Q l1 (gA w3 90 (iz 40).toInt) n8 (iz 0) (iz 0) w3)) ∧ (r2 = iz 0 → Q (iz (-1)) w3)))
set_option maxRecDepth 100000 in
set_option maxHeartbeats 4000000 in
theorem s_X3_eat_66 {γ : GG} (Q : Int32 → Wd → Prop) (R44 : Int32 → Int32 → Wd → Prop) (l1 : Int32) (l2 : Int32) (l3 : Int32) (l4 : Int32) (t0 : Int32) (hR44 : ∀ (l3 : Int32) (l4 : Int32) (w : Wd), R44 l3 l4 w → Rch γ 84 k_X3_eat 44 [some (.ref 2), some (.int l1), some (.int l2), some (.int l3), some (.int l4), none] [] w (qI Q) xN) : ∀ (w : Wd), b_X3_eat_66 Q R44 l1 l2 l3 l4 t0 w → Rch γ 84 k_X3_eat 66 [some (.ref 2), some (.int l1), some (.int l2), some (.int l3), some (.int l4), none] [.int t0] w (qI Q) xN := by
  intro w h
  unfold b_X3_eat_66 at h
  refine R.ist5 68 dX3_eat_66 rfl (Nat.le_of_ble_eq_true rfl) rfl ?_
  refine R.iload_n 69 dX3_eat_68 rfl rfl ?_
  refine R.aload_n 70 dX3_eat_69 rfl rfl ?_
  refine R.aload_n 71 dX3_eat_70 rfl rfl ?_
  refine gf_90 74 dX3_eat_71 rfl rfl ?_
  refine R.iload 76 dX3_eat_74 rfl rfl ?_
  refine R.iload_n 77 dX3_eat_76 rfl rfl ?_
  refine R.iconst 78 dX3_eat_77 rfl ?_
  refine R.icmp_ne 85 81 dX3_eat_78 (by decide) rfl (fun hc => ?_) (fun hc => ?_)
  · replace h := h.1 hc
    refine R.iload_n 86 dX3_eat_85 rfl rfl ?_
    refine R.iconst 87 dX3_eat_86 rfl ?_
    refine R.isub 88 dX3_eat_87 rfl ?_
    refine R.iload 90 dX3_eat_88 rfl rfl ?_
    refine R.isub 91 dX3_eat_90 rfl ?_
    refine R.iload 93 dX3_eat_91 rfl rfl ?_
    refine Rch.callv (sd_X3_valueOn _ _ _ _ _ _ h) dX3_eat_93 (lw_V q1595 q1597 qs108 q146 q1598) dk_X3_valueOn rcM (by decide) (Nat.le_of_ble_eq_true rfl) rfl rfl (Nat.le_of_ble_eq_true rfl) (kI 96 rfl fun r1 w2 h => ?_) kN
    refine R.iadd 97 dX3_eat_96 rfl ?_
    refine R.ist3n 98 dX3_eat_97 rfl (Nat.le_of_ble_eq_true rfl) rfl ?_
    refine R.inc4 101 dX3_eat_98 rfl (Nat.le_of_ble_eq_true rfl) rfl ?_
    refine R.goto 44 dX3_eat_101 (by decide) ?_
    exact Rch.dropk (hR44 _ _ _ h) ⟨rfl, ⟨rfl, ⟨rfl, ⟨rfl, ⟨rfl, trivial⟩⟩⟩⟩⟩
  · replace h := h.2 hc
    refine R.iconst 82 dX3_eat_81 rfl ?_
    refine R.goto 91 dX3_eat_82 (by decide) ?_
    refine R.iload 93 dX3_eat_91 rfl rfl ?_
    refine Rch.callv (sd_X3_valueOn _ _ _ _ _ _ h) dX3_eat_93 (lw_V q1595 q1597 qs108 q146 q1598) dk_X3_valueOn rcM (by decide) (Nat.le_of_ble_eq_true rfl) rfl rfl (Nat.le_of_ble_eq_true rfl) (kI 96 rfl fun r3 w4 h => ?_) kN
    refine R.iadd 97 dX3_eat_96 rfl ?_
    refine R.ist3n 98 dX3_eat_97 rfl (Nat.le_of_ble_eq_true rfl) rfl ?_
    refine R.inc4 101 dX3_eat_98 rfl (Nat.le_of_ble_eq_true rfl) rfl ?_
    refine R.goto 44 dX3_eat_101 (by decide) ?_
    exact Rch.dropk (hR44 _ _ _ h) ⟨rfl, ⟨rfl, ⟨rfl, ⟨rfl, ⟨rfl, trivial⟩⟩⟩⟩⟩
set_option maxRecDepth 100000 in
set_option maxHeartbeats 4000000 in
theorem sl_X3_eat_44 {γ : GG} (Q : Int32 → Wd → Prop) (l1 : Int32) (l2 : Int32) : ∀ (n : Nat) (l3 : Int32) (l4 : Int32) (w : Wd), lp_X3_eat_44 Q l1 l2 n l3 l4 w → Rch γ 84 k_X3_eat 44 [some (.ref 2), some (.int l1), some (.int l2), some (.int l3), some (.int l4), none] [] w (qI Q) xN := by
  intro n
  induction n with
  | zero => intro _ _ _ h; exact h.elim
  | succ n hR44 =>
    intro l3 l4 w h
    have h : wl_X3_eat_44 Q l1 l2 (lp_X3_eat_44 Q l1 l2 n) l3 l4 w := h
    unfold wl_X3_eat_44 at h
    refine R.iload 46 dX3_eat_44 rfl rfl ?_
    refine R.iload_n 47 dX3_eat_46 rfl rfl ?_
    refine R.icmp_ge 104 50 dX3_eat_47 (by decide) rfl (fun hc => ?_) (fun hc => ?_)
    · replace h := h.1 hc
      refine R.iload_n 105 dX3_eat_104 rfl rfl ?_
      exact R.retI dX3_eat_105 rfl h
    · replace h := h.2 hc
      refine R.iload_n 51 dX3_eat_50 rfl rfl ?_
      refine R.iconst 52 dX3_eat_51 rfl ?_
      refine R.icmp_ne 64 55 dX3_eat_52 (by decide) rfl (fun hc => ?_) (fun hc => ?_)
      · replace h := h.1 hc
        refine R.iload 66 dX3_eat_64 rfl rfl ?_
        exact Rch.dropk (s_X3_eat_66 Q _ _ _ _ _ _ hR44 _ h) ⟨rfl, ⟨rfl, ⟨rfl, ⟨rfl, ⟨rfl, trivial⟩⟩⟩⟩⟩
      · replace h := h.2 hc
        refine R.iload_n 56 dX3_eat_55 rfl rfl ?_
        refine R.iconst 57 dX3_eat_56 rfl ?_
        refine R.isub 58 dX3_eat_57 rfl ?_
        refine R.iload 60 dX3_eat_58 rfl rfl ?_
        refine R.isub 61 dX3_eat_60 rfl ?_
        refine R.goto 66 dX3_eat_61 (by decide) ?_
        exact Rch.dropk (s_X3_eat_66 Q _ _ _ _ _ _ hR44 _ h) ⟨rfl, ⟨rfl, ⟨rfl, ⟨rfl, ⟨rfl, trivial⟩⟩⟩⟩⟩
set_option maxRecDepth 100000 in
set_option maxHeartbeats 4000000 in
theorem sd_X3_eat {γ : GG} (l1 : Int32) (w : Wd) (Q : Int32 → Wd → Prop) : wp_X3_eat l1 w Q → Ctr γ 84 yX3_eat (ws_ yX3_eat cX3_eat 6 (some .int)) [.ref 2, .int l1] w (qI Q) xN := by
  intro h
  unfold wp_X3_eat at h
  refine Ctr.of (μ := k_X3_eat) (by decide) rfl rfl rfl (Nat.le_of_ble_eq_true rfl) ⟨4, ?_⟩
  have es : lva [.ref 2, .int l1] ++ List.replicate 4 none = [some (.ref 2), some (.int l1), none, none, none, none] := rfl
  rw [es]
  refine R.aload_n 1 dX3_eat_0 rfl rfl ?_
  refine R.iconst 2 dX3_eat_1 rfl ?_
  replace h := h _ rfl
  refine pf_60 _ 5 dX3_eat_2 rfl rfl ?_
  refine R.aload_n 6 dX3_eat_5 rfl rfl ?_
  refine gf_85 9 dX3_eat_6 rfl rfl ?_
  refine R.if_eq 24 12 dX3_eat_9 (by decide) rfl (fun hc => ?_) (fun hc => ?_)
  · replace h := h.1 hc
    refine R.iconst 25 dX3_eat_24 rfl ?_
    exact R.retI dX3_eat_25 rfl h
  · replace h := h.2 hc
    refine R.iload_n 13 dX3_eat_12 rfl rfl ?_
    refine R.i2l 14 dX3_eat_13 rfl ?_
    refine R.lconst (m0 := 0) 15 dX3_eat_14 rfl (by decide +kernel) ?_
    refine R.ldc2 (n := 3) 18 dX3_eat_15 rfl q1568 (by decide +kernel) ?_
    refine Rch.calls (sd_X3_isIn _ _ _ _ _ h) dX3_eat_18 (lw_S q1426 q1427 q146 q1428) dk_X3_isIn (by decide) (Nat.le_of_ble_eq_true rfl) rfl rfl (Nat.le_of_ble_eq_true rfl) (kI 21 rfl fun r2 w3 h => ?_) kN
    refine R.if_ne 26 24 dX3_eat_21 (by decide) rfl (fun hc => ?_) (fun hc => ?_)
    · replace h := h.1 hc
      refine R.aload_n 27 dX3_eat_26 rfl rfl ?_
      refine gf_90 30 dX3_eat_27 rfl rfl ?_
      refine R.bipush 32 dX3_eat_30 rfl (by decide +kernel) ?_
      obtain ⟨hb, h⟩ := h
      refine R.iald ar_90 33 dX3_eat_32 rfl hb ?_
      refine R.ist2n 34 dX3_eat_33 rfl (Nat.le_of_ble_eq_true rfl) rfl ?_
      refine R.iconst 35 dX3_eat_34 rfl ?_
      refine R.ist3n 36 dX3_eat_35 rfl (Nat.le_of_ble_eq_true rfl) rfl ?_
      refine R.iload_n 37 dX3_eat_36 rfl rfl ?_
      refine R.iconst 38 dX3_eat_37 rfl ?_
      refine R.icmp_le 106 41 dX3_eat_38 (by decide) rfl (fun hc => ?_) (fun hc => ?_)
      · replace h := h.1 hc
        refine R.aload_n 107 dX3_eat_106 rfl rfl ?_
        refine R.iconst 108 dX3_eat_107 rfl ?_
        replace h := h _ rfl
        refine pf_99 _ 111 dX3_eat_108 rfl rfl ?_
        refine R.aload_n 112 dX3_eat_111 rfl rfl ?_
        refine R.iconst 113 dX3_eat_112 rfl ?_
        replace h := h _ rfl
        refine pf_100 _ 116 dX3_eat_113 rfl rfl ?_
        refine R.aload_n 117 dX3_eat_116 rfl rfl ?_
        refine R.iconst 118 dX3_eat_117 rfl ?_
        refine R.iload_n 119 dX3_eat_118 rfl rfl ?_
        refine R.ishl 120 dX3_eat_119 rfl ?_
        refine R.iconst 121 dX3_eat_120 rfl ?_
        refine R.isub 122 dX3_eat_121 rfl ?_
        refine R.iconst 123 dX3_eat_122 rfl ?_
        refine R.iconst 124 dX3_eat_123 rfl ?_
        refine R.iconst 125 dX3_eat_124 rfl ?_
        refine Rch.callv (sf_X3_goEat 10 _ _ _ _ _ _ h) dX3_eat_125 (lw_V q1768 q1770 qs130 q146 q1771) dk_X3_goEat rcM (by decide) (Nat.le_of_ble_eq_true rfl) rfl rfl (Nat.le_of_ble_eq_true rfl) (kV 128 rfl fun w7 h => ?_) kN
        refine R.iload_n 129 dX3_eat_128 rfl rfl ?_
        refine R.if_ne 139 132 dX3_eat_129 (by decide) rfl (fun hc => ?_) (fun hc => ?_)
        · replace h := h.1 hc
          refine R.aload_n 140 dX3_eat_139 rfl rfl ?_
          refine gf_99 143 dX3_eat_140 rfl rfl ?_
          exact R.retI dX3_eat_143 rfl h
        · replace h := h.2 hc
          refine R.aload_n 133 dX3_eat_132 rfl rfl ?_
          refine gf_100 136 dX3_eat_133 rfl rfl ?_
          refine R.goto 143 dX3_eat_136 (by decide) ?_
          exact R.retI dX3_eat_143 rfl h
      · replace h := h.2 hc
        refine R.iconst 42 dX3_eat_41 rfl ?_
        refine R.ist4 44 dX3_eat_42 rfl (Nat.le_of_ble_eq_true rfl) rfl ?_
        obtain ⟨n8, h⟩ := h
        exact Rch.dropk (sl_X3_eat_44 Q _ _ n8 _ _ _ h) ⟨rfl, ⟨rfl, ⟨rfl, ⟨rfl, ⟨rfl, trivial⟩⟩⟩⟩⟩
    · replace h := h.2 hc
      refine R.iconst 25 dX3_eat_24 rfl ?_
      exact R.retI dX3_eat_25 rfl h

abbrev k_X3_valueIn : MK := ("FrostBoxModel", cX3_valueIn, 4, (some .int), [], "valueIn")
def wl_X3_valueIn_4 (Q : Int32 → Wd → Prop) (l1 : Nat) (R4 : Int32 → Int32 → Wd → Prop) (l2 : Int32) (l3 : Int32) (w : Wd) : Prop := inA l1 (iz 40) ∧ ((gA w l1 (iz 40).toInt) ≤ l3 → Q l2 w) ∧ (¬ (gA w l1 (iz 40).toInt) ≤ l3 → wp_X3_valueOf l1 l3 w (fun r1 w2 => R4 (l2 + r1) (l3 + iz 1) w2))
def lp_X3_valueIn_4 (Q : Int32 → Wd → Prop) (l1 : Nat) : Nat → Int32 → Int32 → Wd → Prop
  | 0, _, _, _ => False
  | n + 1, l2, l3, w => wl_X3_valueIn_4 Q l1 (lp_X3_valueIn_4 Q l1 n) l2 l3 w
def wp_X3_valueIn (l1 : Nat) (w : Wd) (Q : Int32 → Wd → Prop) : Prop := ∃ n1, lp_X3_valueIn_4 Q l1 n1 (iz 0) (iz 0) w
set_option maxRecDepth 100000 in
set_option maxHeartbeats 4000000 in
theorem sl_X3_valueIn_4 {γ : GG} (Q : Int32 → Wd → Prop) (l1 : Nat) : ∀ (n : Nat) (l2 : Int32) (l3 : Int32) (w : Wd), lp_X3_valueIn_4 Q l1 n l2 l3 w → Rch γ 75 k_X3_valueIn 4 [some (.ref 2), some (.ref l1), some (.int l2), some (.int l3)] [] w (qI Q) xN := by
  intro n
  induction n with
  | zero => intro _ _ _ h; exact h.elim
  | succ n hR4 =>
    intro l2 l3 w h
    have h : wl_X3_valueIn_4 Q l1 (lp_X3_valueIn_4 Q l1 n) l2 l3 w := h
    unfold wl_X3_valueIn_4 at h
    refine R.iload_n 5 dX3_valueIn_4 rfl rfl ?_
    refine R.aload_n 6 dX3_valueIn_5 rfl rfl ?_
    refine R.bipush 8 dX3_valueIn_6 rfl (by decide +kernel) ?_
    obtain ⟨hb, h⟩ := h
    refine R.iaA 9 dX3_valueIn_8 rfl hb ?_
    refine R.icmp_ge 27 12 dX3_valueIn_9 (by decide) rfl (fun hc => ?_) (fun hc => ?_)
    · replace h := h.1 hc
      refine R.iload_n 28 dX3_valueIn_27 rfl rfl ?_
      exact R.retI dX3_valueIn_28 rfl h
    · replace h := h.2 hc
      refine R.iload_n 13 dX3_valueIn_12 rfl rfl ?_
      refine R.aload_n 14 dX3_valueIn_13 rfl rfl ?_
      refine R.aload_n 15 dX3_valueIn_14 rfl rfl ?_
      refine R.iload_n 16 dX3_valueIn_15 rfl rfl ?_
      refine Rch.callv (sd_X3_valueOf _ _ _ _ h) dX3_valueIn_16 (lw_V q1591 q1593 qs107 q146 q1594) dk_X3_valueOf rcM (by decide) (Nat.le_of_ble_eq_true rfl) rfl rfl (Nat.le_of_ble_eq_true rfl) (kI 19 rfl fun r1 w2 h => ?_) kN
      refine R.iadd 20 dX3_valueIn_19 rfl ?_
      refine R.ist2n 21 dX3_valueIn_20 rfl (Nat.le_of_ble_eq_true rfl) rfl ?_
      refine R.inc3 24 dX3_valueIn_21 rfl (Nat.le_of_ble_eq_true rfl) rfl ?_
      refine R.goto 4 dX3_valueIn_24 (by decide) ?_
      exact Rch.dropk (hR4 _ _ _ h) ⟨rfl, ⟨rfl, ⟨rfl, ⟨rfl, trivial⟩⟩⟩⟩
set_option maxRecDepth 100000 in
set_option maxHeartbeats 4000000 in
theorem sd_X3_valueIn {γ : GG} (l1 : Nat) (w : Wd) (Q : Int32 → Wd → Prop) : wp_X3_valueIn l1 w Q → Ctr γ 75 yX3_valueIn (ws_ yX3_valueIn cX3_valueIn 4 (some .int)) [.ref 2, .ref l1] w (qI Q) xN := by
  intro h
  unfold wp_X3_valueIn at h
  refine Ctr.of (μ := k_X3_valueIn) (by decide) rfl rfl rfl (Nat.le_of_ble_eq_true rfl) ⟨2, ?_⟩
  have es : lva [.ref 2, .ref l1] ++ List.replicate 2 none = [some (.ref 2), some (.ref l1), none, none] := rfl
  rw [es]
  refine R.iconst 1 dX3_valueIn_0 rfl ?_
  refine R.ist2n 2 dX3_valueIn_1 rfl (Nat.le_of_ble_eq_true rfl) rfl ?_
  refine R.iconst 3 dX3_valueIn_2 rfl ?_
  refine R.ist3n 4 dX3_valueIn_3 rfl (Nat.le_of_ble_eq_true rfl) rfl ?_
  obtain ⟨n1, h⟩ := h
  exact Rch.dropk (sl_X3_valueIn_4 Q _ n1 _ _ _ h) ⟨rfl, ⟨rfl, ⟨rfl, ⟨rfl, trivial⟩⟩⟩⟩

abbrev k_X3_costs : MK := ("FrostBoxModel", cX3_costs, 2, (some .int), [], "costs")
def wp_X3_costs (l1 : Int32) (w : Wd) (Q : Int32 → Wd → Prop) : Prop := ∀ w1, w1 = sI w 60 (iz 0) → wp_X3_isHours l1 w1 (fun r2 w3 => (¬ r2 = iz 0 → wp_X3_copy 90 91 w3 (fun w5 => wp_X3_sumIn 90 w5 (fun r6 w7 => wp_X3_moreThanBorne r6 l1 w7 (fun r8 w9 => wp_X3_ages 91 r8 w9 (fun w11 => wp_X3_valueIn 90 w11 (fun r12 w13 => wp_X3_valueIn 91 w13 (fun r14 w15 => Q (r12 - r14) w15))))))) ∧ (r2 = iz 0 → Q (iz (-1)) w3))
set_option maxRecDepth 100000 in
set_option maxHeartbeats 4000000 in
theorem sd_X3_costs {γ : GG} (l1 : Int32) (w : Wd) (Q : Int32 → Wd → Prop) : wp_X3_costs l1 w Q → Ctr γ 76 yX3_costs (ws_ yX3_costs cX3_costs 2 (some .int)) [.ref 2, .int l1] w (qI Q) xN := by
  intro h
  unfold wp_X3_costs at h
  refine Ctr.of (μ := k_X3_costs) (by decide) rfl rfl rfl (Nat.le_of_ble_eq_true rfl) ⟨0, ?_⟩
  have es : lva [.ref 2, .int l1] ++ List.replicate 0 none = [some (.ref 2), some (.int l1)] := rfl
  rw [es]
  refine R.aload_n 1 dX3_costs_0 rfl rfl ?_
  refine R.iconst 2 dX3_costs_1 rfl ?_
  replace h := h _ rfl
  refine pf_60 _ 5 dX3_costs_2 rfl rfl ?_
  refine R.aload_n 6 dX3_costs_5 rfl rfl ?_
  refine R.iload_n 7 dX3_costs_6 rfl rfl ?_
  refine Rch.callv (sd_X3_isHours _ _ _ h) dX3_costs_7 (lw_V q1688 q1690 qs120 q146 q1691) dk_X3_isHours rcM (by decide) (Nat.le_of_ble_eq_true rfl) rfl rfl (Nat.le_of_ble_eq_true rfl) (kI 10 rfl fun r2 w3 h => ?_) kN
  refine R.if_ne 15 13 dX3_costs_10 (by decide) rfl (fun hc => ?_) (fun hc => ?_)
  · replace h := h.1 hc
    refine R.aload_n 16 dX3_costs_15 rfl rfl ?_
    refine gf_90 19 dX3_costs_16 rfl rfl ?_
    refine R.aload_n 20 dX3_costs_19 rfl rfl ?_
    refine gf_91 23 dX3_costs_20 rfl rfl ?_
    refine Rch.calls (sd_X3_copy _ _ _ _ h) dX3_costs_23 (lw_S q1728 q1729 q146 q1730) dk_X3_copy (by decide) (Nat.le_of_ble_eq_true rfl) rfl rfl (Nat.le_of_ble_eq_true rfl) (kV 26 rfl fun w5 h => ?_) kN
    refine R.aload_n 27 dX3_costs_26 rfl rfl ?_
    refine R.aload_n 28 dX3_costs_27 rfl rfl ?_
    refine gf_91 31 dX3_costs_28 rfl rfl ?_
    refine R.aload_n 32 dX3_costs_31 rfl rfl ?_
    refine R.aload_n 33 dX3_costs_32 rfl rfl ?_
    refine R.aload_n 34 dX3_costs_33 rfl rfl ?_
    refine gf_90 37 dX3_costs_34 rfl rfl ?_
    refine Rch.callv (sd_X3_sumIn _ _ _ h) dX3_costs_37 (lw_V q1635 q1637 qs113 q146 q1638) dk_X3_sumIn rcM (by decide) (Nat.le_of_ble_eq_true rfl) rfl rfl (Nat.le_of_ble_eq_true rfl) (kI 40 rfl fun r6 w7 h => ?_) kN
    refine R.iload_n 41 dX3_costs_40 rfl rfl ?_
    refine Rch.callv (sd_X3_moreThanBorne _ _ _ _ h) dX3_costs_41 (lw_V q1693 q1695 qs121 q146 q1696) dk_X3_moreThanBorne rcM (by decide) (Nat.le_of_ble_eq_true rfl) rfl rfl (Nat.le_of_ble_eq_true rfl) (kI 44 rfl fun r8 w9 h => ?_) kN
    refine Rch.callv (sd_X3_ages _ _ _ _ h) dX3_costs_44 (lw_V q1680 q1682 qs119 q146 q1683) dk_X3_ages rcM (by decide) (Nat.le_of_ble_eq_true rfl) rfl rfl (Nat.le_of_ble_eq_true rfl) (kV 47 rfl fun w11 h => ?_) kN
    refine R.aload_n 48 dX3_costs_47 rfl rfl ?_
    refine R.aload_n 49 dX3_costs_48 rfl rfl ?_
    refine gf_90 52 dX3_costs_49 rfl rfl ?_
    refine Rch.callv (sd_X3_valueIn _ _ _ h) dX3_costs_52 (lw_V q1781 q1783 qs132 q146 q1784) dk_X3_valueIn rcM (by decide) (Nat.le_of_ble_eq_true rfl) rfl rfl (Nat.le_of_ble_eq_true rfl) (kI 55 rfl fun r12 w13 h => ?_) kN
    refine R.aload_n 56 dX3_costs_55 rfl rfl ?_
    refine R.aload_n 57 dX3_costs_56 rfl rfl ?_
    refine gf_91 60 dX3_costs_57 rfl rfl ?_
    refine Rch.callv (sd_X3_valueIn _ _ _ h) dX3_costs_60 (lw_V q1781 q1783 qs132 q146 q1784) dk_X3_valueIn rcM (by decide) (Nat.le_of_ble_eq_true rfl) rfl rfl (Nat.le_of_ble_eq_true rfl) (kI 63 rfl fun r14 w15 h => ?_) kN
    refine R.isub 64 dX3_costs_63 rfl ?_
    exact R.retI dX3_costs_64 rfl h
  · replace h := h.2 hc
    refine R.iconst 14 dX3_costs_13 rfl ?_
    exact R.retI dX3_costs_14 rfl h

abbrev k_X3_full : MK := ("FrostBoxModel", cX3_full, 3, (some .int), [], "full")
def wl_X3_full_17 (Q : Int32 → Wd → Prop) (l1 : Int32) (R17 : Int32 → Wd → Prop) (l2 : Int32) (w : Wd) : Prop := inb (iz 0) 4 ∧ ((gA w 78 (iz 0).toInt) < l2 → Q (iz (-1)) w) ∧ (¬ (gA w 78 (iz 0).toInt) < l2 → wp_X3_moreThanBorne l2 l1 w (fun r1 w2 => (¬ r1 = iz 0 → R17 (l2 + iz 1) w2) ∧ (r1 = iz 0 → Q l2 w2)))
def lp_X3_full_17 (Q : Int32 → Wd → Prop) (l1 : Int32) : Nat → Int32 → Wd → Prop
  | 0, _, _ => False
  | n + 1, l2, w => wl_X3_full_17 Q l1 (lp_X3_full_17 Q l1 n) l2 w
def wp_X3_full (l1 : Int32) (w : Wd) (Q : Int32 → Wd → Prop) : Prop := ∀ w1, w1 = sI w 60 (iz 0) → wp_X3_isHours l1 w1 (fun r2 w3 => (¬ r2 = iz 0 → ∃ n4, lp_X3_full_17 Q l1 n4 (iz 0) w3) ∧ (r2 = iz 0 → Q (iz (-1)) w3))
set_option maxRecDepth 100000 in
set_option maxHeartbeats 4000000 in
theorem sl_X3_full_17 {γ : GG} (Q : Int32 → Wd → Prop) (l1 : Int32) : ∀ (n : Nat) (l2 : Int32) (w : Wd), lp_X3_full_17 Q l1 n l2 w → Rch γ 3 k_X3_full 17 [some (.ref 2), some (.int l1), some (.int l2)] [] w (qI Q) xN := by
  intro n
  induction n with
  | zero => intro _ _ h; exact h.elim
  | succ n hR17 =>
    intro l2 w h
    have h : wl_X3_full_17 Q l1 (lp_X3_full_17 Q l1 n) l2 w := h
    unfold wl_X3_full_17 at h
    refine R.iload_n 18 dX3_full_17 rfl rfl ?_
    refine R.aload_n 19 dX3_full_18 rfl rfl ?_
    refine gf_78 22 dX3_full_19 rfl rfl ?_
    refine R.iconst 23 dX3_full_22 rfl ?_
    obtain ⟨hb, h⟩ := h
    refine R.iald ar_78 24 dX3_full_23 rfl hb ?_
    refine R.icmp_gt 44 27 dX3_full_24 (by decide) rfl (fun hc => ?_) (fun hc => ?_)
    · replace h := h.1 hc
      refine R.iconst 45 dX3_full_44 rfl ?_
      exact R.retI dX3_full_45 rfl h
    · replace h := h.2 hc
      refine R.aload_n 28 dX3_full_27 rfl rfl ?_
      refine R.iload_n 29 dX3_full_28 rfl rfl ?_
      refine R.iload_n 30 dX3_full_29 rfl rfl ?_
      refine Rch.callv (sd_X3_moreThanBorne _ _ _ _ h) dX3_full_30 (lw_V q1693 q1695 qs121 q146 q1696) dk_X3_moreThanBorne rcM (by decide) (Nat.le_of_ble_eq_true rfl) rfl rfl (Nat.le_of_ble_eq_true rfl) (kI 33 rfl fun r1 w2 h => ?_) kN
      refine R.if_ne 38 36 dX3_full_33 (by decide) rfl (fun hc => ?_) (fun hc => ?_)
      · replace h := h.1 hc
        refine R.inc2 41 dX3_full_38 rfl (Nat.le_of_ble_eq_true rfl) rfl ?_
        refine R.goto 17 dX3_full_41 (by decide) ?_
        exact Rch.dropk (hR17 _ _ h) ⟨rfl, ⟨rfl, ⟨rfl, trivial⟩⟩⟩
      · replace h := h.2 hc
        refine R.iload_n 37 dX3_full_36 rfl rfl ?_
        exact R.retI dX3_full_37 rfl h
set_option maxRecDepth 100000 in
set_option maxHeartbeats 4000000 in
theorem sd_X3_full {γ : GG} (l1 : Int32) (w : Wd) (Q : Int32 → Wd → Prop) : wp_X3_full l1 w Q → Ctr γ 3 yX3_full (ws_ yX3_full cX3_full 3 (some .int)) [.ref 2, .int l1] w (qI Q) xN := by
  intro h
  unfold wp_X3_full at h
  refine Ctr.of (μ := k_X3_full) (by decide) rfl rfl rfl (Nat.le_of_ble_eq_true rfl) ⟨1, ?_⟩
  have es : lva [.ref 2, .int l1] ++ List.replicate 1 none = [some (.ref 2), some (.int l1), none] := rfl
  rw [es]
  refine R.aload_n 1 dX3_full_0 rfl rfl ?_
  refine R.iconst 2 dX3_full_1 rfl ?_
  replace h := h _ rfl
  refine pf_60 _ 5 dX3_full_2 rfl rfl ?_
  refine R.aload_n 6 dX3_full_5 rfl rfl ?_
  refine R.iload_n 7 dX3_full_6 rfl rfl ?_
  refine Rch.callv (sd_X3_isHours _ _ _ h) dX3_full_7 (lw_V q1688 q1690 qs120 q146 q1691) dk_X3_isHours rcM (by decide) (Nat.le_of_ble_eq_true rfl) rfl rfl (Nat.le_of_ble_eq_true rfl) (kI 10 rfl fun r2 w3 h => ?_) kN
  refine R.if_ne 15 13 dX3_full_10 (by decide) rfl (fun hc => ?_) (fun hc => ?_)
  · replace h := h.1 hc
    refine R.iconst 16 dX3_full_15 rfl ?_
    refine R.ist2n 17 dX3_full_16 rfl (Nat.le_of_ble_eq_true rfl) rfl ?_
    obtain ⟨n4, h⟩ := h
    exact Rch.dropk (sl_X3_full_17 Q _ n4 _ _ h) ⟨rfl, ⟨rfl, ⟨rfl, trivial⟩⟩⟩
  · replace h := h.2 hc
    refine R.iconst 14 dX3_full_13 rfl ?_
    exact R.retI dX3_full_14 rfl h

abbrev k_X3_keep : MK := ("FrostBoxModel", cX3_keep, 5, (some .int), [], "keep")
def wl_X3_keep_64 (Q : Int32 → Wd → Prop) (l2 : Int32) (R64 : Int32 → Int32 → Wd → Prop) (l3 : Int32) (l4 : Int32) (w : Wd) : Prop := inb (iz 40) 283 ∧ ((gA w 91 (iz 40).toInt) ≤ l4 → Q l3 w) ∧ (¬ (gA w 91 (iz 40).toInt) ≤ l4 → wp_X3_valueOf 91 l4 w (fun r1 w2 => inb (((iz 5) * l4) + (iz 1)) 283 ∧ (r1 < (l2 * (gA w2 91 (((iz 5) * l4) + (iz 1)).toInt)) → R64 (l3 ||| (iz 0)) (l4 + iz 1) w2) ∧ (¬ r1 < (l2 * (gA w2 91 (((iz 5) * l4) + (iz 1)).toInt)) → R64 (l3 ||| ((iz 1) <<< (l4 &&& 31))) (l4 + iz 1) w2)))
def lp_X3_keep_64 (Q : Int32 → Wd → Prop) (l2 : Int32) : Nat → Int32 → Int32 → Wd → Prop
  | 0, _, _, _ => False
  | n + 1, l3, l4, w => wl_X3_keep_64 Q l2 (lp_X3_keep_64 Q l2 n) l3 l4 w
def wp_X3_keep (l1 : Int32) (l2 : Int32) (w : Wd) (Q : Int32 → Wd → Prop) : Prop := ∀ w1, w1 = sI w 60 (iz 0) → wp_X3_isHours l1 w1 (fun r2 w3 => (r2 = iz 0 → Q (iz (-1)) w3) ∧ (¬ r2 = iz 0 → wp_X3_isIn ((l2).toInt64) (lz 0) (lz 9) w3 (fun r4 w5 => (¬ r4 = iz 0 → wp_X3_copy 90 91 w5 (fun w7 => wp_X3_sumIn 90 w7 (fun r8 w9 => wp_X3_moreThanBorne r8 l1 w9 (fun r10 w11 => wp_X3_ages 91 r10 w11 (fun w13 => ∃ n14, lp_X3_keep_64 Q l2 n14 (iz 0) (iz 0) w13))))) ∧ (r4 = iz 0 → Q (iz (-1)) w5))))
set_option maxRecDepth 100000 in
set_option maxHeartbeats 4000000 in
theorem sl_X3_keep_64 {γ : GG} (Q : Int32 → Wd → Prop) (l2 : Int32) : ∀ (n : Nat) (l3 : Int32) (l4 : Int32) (w : Wd), lp_X3_keep_64 Q l2 n l3 l4 w → Rch γ 75 k_X3_keep 64 [some (.ref 2), none, some (.int l2), some (.int l3), some (.int l4)] [] w (qI Q) xN := by
  intro n
  induction n with
  | zero => intro _ _ _ h; exact h.elim
  | succ n hR64 =>
    intro l3 l4 w h
    have h : wl_X3_keep_64 Q l2 (lp_X3_keep_64 Q l2 n) l3 l4 w := h
    unfold wl_X3_keep_64 at h
    refine R.iload 66 dX3_keep_64 rfl rfl ?_
    refine R.aload_n 67 dX3_keep_66 rfl rfl ?_
    refine gf_91 70 dX3_keep_67 rfl rfl ?_
    refine R.bipush 72 dX3_keep_70 rfl (by decide +kernel) ?_
    obtain ⟨hb, h⟩ := h
    refine R.iald ar_91 73 dX3_keep_72 rfl hb ?_
    refine R.icmp_ge 119 76 dX3_keep_73 (by decide) rfl (fun hc => ?_) (fun hc => ?_)
    · replace h := h.1 hc
      refine R.iload_n 120 dX3_keep_119 rfl rfl ?_
      exact R.retI dX3_keep_120 rfl h
    · replace h := h.2 hc
      refine R.iload_n 77 dX3_keep_76 rfl rfl ?_
      refine R.aload_n 78 dX3_keep_77 rfl rfl ?_
      refine R.aload_n 79 dX3_keep_78 rfl rfl ?_
      refine gf_91 82 dX3_keep_79 rfl rfl ?_
      refine R.iload 84 dX3_keep_82 rfl rfl ?_
      refine Rch.callv (sd_X3_valueOf _ _ _ _ h) dX3_keep_84 (lw_V q1591 q1593 qs107 q146 q1594) dk_X3_valueOf rcM (by decide) (Nat.le_of_ble_eq_true rfl) rfl rfl (Nat.le_of_ble_eq_true rfl) (kI 87 rfl fun r1 w2 h => ?_) kN
      refine R.iload_n 88 dX3_keep_87 rfl rfl ?_
      refine R.aload_n 89 dX3_keep_88 rfl rfl ?_
      refine gf_91 92 dX3_keep_89 rfl rfl ?_
      refine R.iconst 93 dX3_keep_92 rfl ?_
      refine R.iload 95 dX3_keep_93 rfl rfl ?_
      refine R.imul 96 dX3_keep_95 rfl ?_
      refine R.iconst 97 dX3_keep_96 rfl ?_
      refine R.iadd 98 dX3_keep_97 rfl ?_
      obtain ⟨hb, h⟩ := h
      refine R.iald ar_91 99 dX3_keep_98 rfl hb ?_
      refine R.imul 100 dX3_keep_99 rfl ?_
      refine R.icmp_lt 110 103 dX3_keep_100 (by decide) rfl (fun hc => ?_) (fun hc => ?_)
      · replace h := h.1 hc
        refine R.iconst 111 dX3_keep_110 rfl ?_
        refine R.ior 112 dX3_keep_111 rfl ?_
        refine R.ist3n 113 dX3_keep_112 rfl (Nat.le_of_ble_eq_true rfl) rfl ?_
        refine R.inc4 116 dX3_keep_113 rfl (Nat.le_of_ble_eq_true rfl) rfl ?_
        refine R.goto 64 dX3_keep_116 (by decide) ?_
        exact Rch.dropk (hR64 _ _ _ h) ⟨rfl, ⟨rfl, ⟨rfl, ⟨rfl, trivial⟩⟩⟩⟩
      · replace h := h.2 hc
        refine R.iconst 104 dX3_keep_103 rfl ?_
        refine R.iload 106 dX3_keep_104 rfl rfl ?_
        refine R.ishl 107 dX3_keep_106 rfl ?_
        refine R.goto 111 dX3_keep_107 (by decide) ?_
        refine R.ior 112 dX3_keep_111 rfl ?_
        refine R.ist3n 113 dX3_keep_112 rfl (Nat.le_of_ble_eq_true rfl) rfl ?_
        refine R.inc4 116 dX3_keep_113 rfl (Nat.le_of_ble_eq_true rfl) rfl ?_
        refine R.goto 64 dX3_keep_116 (by decide) ?_
        exact Rch.dropk (hR64 _ _ _ h) ⟨rfl, ⟨rfl, ⟨rfl, ⟨rfl, trivial⟩⟩⟩⟩
set_option maxRecDepth 100000 in
set_option maxHeartbeats 4000000 in
theorem sd_X3_keep {γ : GG} (l1 : Int32) (l2 : Int32) (w : Wd) (Q : Int32 → Wd → Prop) : wp_X3_keep l1 l2 w Q → Ctr γ 75 yX3_keep (ws_ yX3_keep cX3_keep 5 (some .int)) [.ref 2, .int l1, .int l2] w (qI Q) xN := by
  intro h
  unfold wp_X3_keep at h
  refine Ctr.of (μ := k_X3_keep) (by decide) rfl rfl rfl (Nat.le_of_ble_eq_true rfl) ⟨2, ?_⟩
  have es : lva [.ref 2, .int l1, .int l2] ++ List.replicate 2 none = [some (.ref 2), some (.int l1), some (.int l2), none, none] := rfl
  rw [es]
  refine R.aload_n 1 dX3_keep_0 rfl rfl ?_
  refine R.iconst 2 dX3_keep_1 rfl ?_
  replace h := h _ rfl
  refine pf_60 _ 5 dX3_keep_2 rfl rfl ?_
  refine R.aload_n 6 dX3_keep_5 rfl rfl ?_
  refine R.iload_n 7 dX3_keep_6 rfl rfl ?_
  refine Rch.callv (sd_X3_isHours _ _ _ h) dX3_keep_7 (lw_V q1688 q1690 qs120 q146 q1691) dk_X3_isHours rcM (by decide) (Nat.le_of_ble_eq_true rfl) rfl rfl (Nat.le_of_ble_eq_true rfl) (kI 10 rfl fun r2 w3 h => ?_) kN
  refine R.if_eq 25 13 dX3_keep_10 (by decide) rfl (fun hc => ?_) (fun hc => ?_)
  · replace h := h.1 hc
    refine R.iconst 26 dX3_keep_25 rfl ?_
    exact R.retI dX3_keep_26 rfl h
  · replace h := h.2 hc
    refine R.iload_n 14 dX3_keep_13 rfl rfl ?_
    refine R.i2l 15 dX3_keep_14 rfl ?_
    refine R.lconst (m0 := 0) 16 dX3_keep_15 rfl (by decide +kernel) ?_
    refine R.ldc2 (n := 9) 19 dX3_keep_16 rfl q1626 (by decide +kernel) ?_
    refine Rch.calls (sd_X3_isIn _ _ _ _ _ h) dX3_keep_19 (lw_S q1426 q1427 q146 q1428) dk_X3_isIn (by decide) (Nat.le_of_ble_eq_true rfl) rfl rfl (Nat.le_of_ble_eq_true rfl) (kI 22 rfl fun r4 w5 h => ?_) kN
    refine R.if_ne 27 25 dX3_keep_22 (by decide) rfl (fun hc => ?_) (fun hc => ?_)
    · replace h := h.1 hc
      refine R.aload_n 28 dX3_keep_27 rfl rfl ?_
      refine gf_90 31 dX3_keep_28 rfl rfl ?_
      refine R.aload_n 32 dX3_keep_31 rfl rfl ?_
      refine gf_91 35 dX3_keep_32 rfl rfl ?_
      refine Rch.calls (sd_X3_copy _ _ _ _ h) dX3_keep_35 (lw_S q1728 q1729 q146 q1730) dk_X3_copy (by decide) (Nat.le_of_ble_eq_true rfl) rfl rfl (Nat.le_of_ble_eq_true rfl) (kV 38 rfl fun w7 h => ?_) kN
      refine R.aload_n 39 dX3_keep_38 rfl rfl ?_
      refine R.aload_n 40 dX3_keep_39 rfl rfl ?_
      refine gf_91 43 dX3_keep_40 rfl rfl ?_
      refine R.aload_n 44 dX3_keep_43 rfl rfl ?_
      refine R.aload_n 45 dX3_keep_44 rfl rfl ?_
      refine R.aload_n 46 dX3_keep_45 rfl rfl ?_
      refine gf_90 49 dX3_keep_46 rfl rfl ?_
      refine Rch.callv (sd_X3_sumIn _ _ _ h) dX3_keep_49 (lw_V q1635 q1637 qs113 q146 q1638) dk_X3_sumIn rcM (by decide) (Nat.le_of_ble_eq_true rfl) rfl rfl (Nat.le_of_ble_eq_true rfl) (kI 52 rfl fun r8 w9 h => ?_) kN
      refine R.iload_n 53 dX3_keep_52 rfl rfl ?_
      refine Rch.callv (sd_X3_moreThanBorne _ _ _ _ h) dX3_keep_53 (lw_V q1693 q1695 qs121 q146 q1696) dk_X3_moreThanBorne rcM (by decide) (Nat.le_of_ble_eq_true rfl) rfl rfl (Nat.le_of_ble_eq_true rfl) (kI 56 rfl fun r10 w11 h => ?_) kN
      refine Rch.callv (sd_X3_ages _ _ _ _ h) dX3_keep_56 (lw_V q1680 q1682 qs119 q146 q1683) dk_X3_ages rcM (by decide) (Nat.le_of_ble_eq_true rfl) rfl rfl (Nat.le_of_ble_eq_true rfl) (kV 59 rfl fun w13 h => ?_) kN
      refine R.iconst 60 dX3_keep_59 rfl ?_
      refine R.ist3n 61 dX3_keep_60 rfl (Nat.le_of_ble_eq_true rfl) rfl ?_
      refine R.iconst 62 dX3_keep_61 rfl ?_
      refine R.ist4 64 dX3_keep_62 rfl (Nat.le_of_ble_eq_true rfl) rfl ?_
      obtain ⟨n14, h⟩ := h
      exact Rch.dropk (sl_X3_keep_64 Q _ n14 _ _ _ h) ⟨rfl, ⟨rfl, ⟨rfl, ⟨rfl, trivial⟩⟩⟩⟩
    · replace h := h.2 hc
      refine R.iconst 26 dX3_keep_25 rfl ?_
      exact R.retI dX3_keep_26 rfl h

abbrev k_X3_isNameless : MK := ("FrostBoxModel", cX3_isNameless, 2, (some .boolean), [], "isNameless")
def wp_X3_isNameless (l1 : Int32) (w : Wd) (Q : Int32 → Wd → Prop) : Prop := inb (((iz 5) * l1) + (iz 3)) 283 ∧ (¬ (gA w 90 (((iz 5) * l1) + (iz 3)).toInt) = iz 0 → Q (iz 0) w) ∧ ((gA w 90 (((iz 5) * l1) + (iz 3)).toInt) = iz 0 → Q (iz 1) w)
set_option maxRecDepth 100000 in
set_option maxHeartbeats 4000000 in
theorem sd_X3_isNameless {γ : GG} (l1 : Int32) (w : Wd) (Q : Int32 → Wd → Prop) : wp_X3_isNameless l1 w Q → Ctr γ 1 yX3_isNameless (ws_ yX3_isNameless cX3_isNameless 2 (some .boolean)) [.ref 2, .int l1] w (qI Q) xN := by
  intro h
  unfold wp_X3_isNameless at h
  refine Ctr.of (μ := k_X3_isNameless) (by decide) rfl rfl rfl (Nat.le_of_ble_eq_true rfl) ⟨0, ?_⟩
  have es : lva [.ref 2, .int l1] ++ List.replicate 0 none = [some (.ref 2), some (.int l1)] := rfl
  rw [es]
  refine R.aload_n 1 dX3_isNameless_0 rfl rfl ?_
  refine gf_90 4 dX3_isNameless_1 rfl rfl ?_
  refine R.iconst 5 dX3_isNameless_4 rfl ?_
  refine R.iload_n 6 dX3_isNameless_5 rfl rfl ?_
  refine R.imul 7 dX3_isNameless_6 rfl ?_
  refine R.iconst 8 dX3_isNameless_7 rfl ?_
  refine R.iadd 9 dX3_isNameless_8 rfl ?_
  obtain ⟨hb, h⟩ := h
  refine R.iald ar_90 10 dX3_isNameless_9 rfl hb ?_
  refine R.if_ne 17 13 dX3_isNameless_10 (by decide) rfl (fun hc => ?_) (fun hc => ?_)
  · replace h := h.1 hc
    refine R.iconst 18 dX3_isNameless_17 rfl ?_
    exact R.retZ dX3_isNameless_18 rfl zok0 h
  · replace h := h.2 hc
    refine R.iconst 14 dX3_isNameless_13 rfl ?_
    refine R.goto 18 dX3_isNameless_14 (by decide) ?_
    exact R.retZ dX3_isNameless_18 rfl zok1 h

abbrev k_X3_couldBe : MK := ("FrostBoxModel", cX3_couldBe, 5, (some .int), [], "couldBe")
def wp_X3_couldBe (l1 : Int32) (l2 : Int32) (w : Wd) (Q : Int32 → Wd → Prop) : Prop := wp_X3_weightOf 90 l1 w (fun r1 w2 => wp_X3_told l2 (iz 1) w2 (fun r3 w4 => wp_X3_kindIn l1 w4 (fun r5 w6 => wp_X3_told r5 (iz 0) w6 (fun r7 w8 => wp_X3_told l2 (iz 0) w8 (fun r9 w10 => (¬ r7 = r9 → Q (iz 0) w10) ∧ (r7 = r9 → (¬ r3 = 0) ∧ (¬ (r1 - r1 / r3 * r3) = iz 0 → Q (iz 0) w10) ∧ ((r1 - r1 / r3 * r3) = iz 0 → (¬ r3 = 0) ∧ ((iz 9) < (r1 / r3) → Q (iz 0) w10) ∧ (¬ (iz 9) < (r1 / r3) → (¬ r3 = 0) ∧ Q (r1 / r3) w10))))))))
set_option maxRecDepth 100000 in
set_option maxHeartbeats 4000000 in
theorem sd_X3_couldBe {γ : GG} (l1 : Int32) (l2 : Int32) (w : Wd) (Q : Int32 → Wd → Prop) : wp_X3_couldBe l1 l2 w Q → Ctr γ 3 yX3_couldBe (ws_ yX3_couldBe cX3_couldBe 5 (some .int)) [.ref 2, .int l1, .int l2] w (qI Q) xN := by
  intro h
  unfold wp_X3_couldBe at h
  refine Ctr.of (μ := k_X3_couldBe) (by decide) rfl rfl rfl (Nat.le_of_ble_eq_true rfl) ⟨2, ?_⟩
  have es : lva [.ref 2, .int l1, .int l2] ++ List.replicate 2 none = [some (.ref 2), some (.int l1), some (.int l2), none, none] := rfl
  rw [es]
  refine R.aload_n 1 dX3_couldBe_0 rfl rfl ?_
  refine R.aload_n 2 dX3_couldBe_1 rfl rfl ?_
  refine gf_90 5 dX3_couldBe_2 rfl rfl ?_
  refine R.iload_n 6 dX3_couldBe_5 rfl rfl ?_
  refine Rch.callv (sd_X3_weightOf _ _ _ _ h) dX3_couldBe_6 (lw_V q1614 q1616 qs111 q146 q1617) dk_X3_weightOf rcM (by decide) (Nat.le_of_ble_eq_true rfl) rfl rfl (Nat.le_of_ble_eq_true rfl) (kI 9 rfl fun r1 w2 h => ?_) kN
  refine R.ist3n 10 dX3_couldBe_9 rfl (Nat.le_of_ble_eq_true rfl) rfl ?_
  refine R.aload_n 11 dX3_couldBe_10 rfl rfl ?_
  refine R.iload_n 12 dX3_couldBe_11 rfl rfl ?_
  refine R.iconst 13 dX3_couldBe_12 rfl ?_
  refine Rch.callv (sd_X3_told _ _ _ _ h) dX3_couldBe_13 (lw_V q1578 q1580 qs105 q146 q1581) dk_X3_told rcM (by decide) (Nat.le_of_ble_eq_true rfl) rfl rfl (Nat.le_of_ble_eq_true rfl) (kI 16 rfl fun r3 w4 h => ?_) kN
  refine R.ist4 18 dX3_couldBe_16 rfl (Nat.le_of_ble_eq_true rfl) rfl ?_
  refine R.aload_n 19 dX3_couldBe_18 rfl rfl ?_
  refine R.aload_n 20 dX3_couldBe_19 rfl rfl ?_
  refine R.iload_n 21 dX3_couldBe_20 rfl rfl ?_
  refine Rch.callv (sd_X3_kindIn _ _ _ h) dX3_couldBe_21 (lw_V q1756 q1758 qs128 q146 q1759) dk_X3_kindIn rcM (by decide) (Nat.le_of_ble_eq_true rfl) rfl rfl (Nat.le_of_ble_eq_true rfl) (kI 24 rfl fun r5 w6 h => ?_) kN
  refine R.iconst 25 dX3_couldBe_24 rfl ?_
  refine Rch.callv (sd_X3_told _ _ _ _ h) dX3_couldBe_25 (lw_V q1578 q1580 qs105 q146 q1581) dk_X3_told rcM (by decide) (Nat.le_of_ble_eq_true rfl) rfl rfl (Nat.le_of_ble_eq_true rfl) (kI 28 rfl fun r7 w8 h => ?_) kN
  refine R.aload_n 29 dX3_couldBe_28 rfl rfl ?_
  refine R.iload_n 30 dX3_couldBe_29 rfl rfl ?_
  refine R.iconst 31 dX3_couldBe_30 rfl ?_
  refine Rch.callv (sd_X3_told _ _ _ _ h) dX3_couldBe_31 (lw_V q1578 q1580 qs105 q146 q1581) dk_X3_told rcM (by decide) (Nat.le_of_ble_eq_true rfl) rfl rfl (Nat.le_of_ble_eq_true rfl) (kI 34 rfl fun r9 w10 h => ?_) kN
  refine R.icmp_ne 60 37 dX3_couldBe_34 (by decide) rfl (fun hc => ?_) (fun hc => ?_)
  · replace h := h.1 hc
    refine R.iconst 61 dX3_couldBe_60 rfl ?_
    exact R.retI dX3_couldBe_61 rfl h
  · replace h := h.2 hc
    refine R.iload_n 38 dX3_couldBe_37 rfl rfl ?_
    refine R.iload 40 dX3_couldBe_38 rfl rfl ?_
    obtain ⟨hz, h⟩ := h
    refine R.irem 41 dX3_couldBe_40 rfl hz ?_
    refine R.if_ne 60 44 dX3_couldBe_41 (by decide) rfl (fun hc => ?_) (fun hc => ?_)
    · replace h := h.1 hc
      refine R.iconst 61 dX3_couldBe_60 rfl ?_
      exact R.retI dX3_couldBe_61 rfl h
    · replace h := h.2 hc
      refine R.iload_n 45 dX3_couldBe_44 rfl rfl ?_
      refine R.iload 47 dX3_couldBe_45 rfl rfl ?_
      obtain ⟨hz, h⟩ := h
      refine R.idiv 48 dX3_couldBe_47 rfl hz ?_
      refine R.bipush 50 dX3_couldBe_48 rfl (by decide +kernel) ?_
      refine R.icmp_gt 60 53 dX3_couldBe_50 (by decide) rfl (fun hc => ?_) (fun hc => ?_)
      · replace h := h.1 hc
        refine R.iconst 61 dX3_couldBe_60 rfl ?_
        exact R.retI dX3_couldBe_61 rfl h
      · replace h := h.2 hc
        refine R.iload_n 54 dX3_couldBe_53 rfl rfl ?_
        refine R.iload 56 dX3_couldBe_54 rfl rfl ?_
        obtain ⟨hz, h⟩ := h
        refine R.idiv 57 dX3_couldBe_56 rfl hz ?_
        refine R.goto 61 dX3_couldBe_57 (by decide) ?_
        exact R.retI dX3_couldBe_61 rfl h

abbrev k_X3_spans : MK := ("FrostBoxModel", cX3_spans, 5, (some .int), [], "spans")
def wl_X3_spans_30 (Q : Int32 → Wd → Prop) (l1 : Int32) (l2 : Int32) (R30 : Int32 → Int32 → Wd → Prop) (l3 : Int32) (l4 : Int32) (w : Wd) : Prop := inb (iz 40) 283 ∧ ((gA w 90 (iz 40).toInt) ≤ l4 → Q l3 w) ∧ (¬ (gA w 90 (iz 40).toInt) ≤ l4 → wp_X3_isNameless l4 w (fun r1 w2 => (¬ r1 = iz 0 → (¬ l2 = (iz 1) → R30 (l3 + (iz 0)) (l4 + iz 1) w2) ∧ (l2 = (iz 1) → wp_X3_couldBe l4 l1 w2 (fun r3 w4 => R30 (l3 + r3) (l4 + iz 1) w4))) ∧ (r1 = iz 0 → wp_X3_kindIn l4 w2 (fun r5 w6 => (¬ r5 = l1 → R30 (l3 + (iz 0)) (l4 + iz 1) w6) ∧ (r5 = l1 → inb (((iz 5) * l4) + (iz 1)) 283 ∧ R30 (l3 + (gA w6 90 (((iz 5) * l4) + (iz 1)).toInt)) (l4 + iz 1) w6)))))
def lp_X3_spans_30 (Q : Int32 → Wd → Prop) (l1 : Int32) (l2 : Int32) : Nat → Int32 → Int32 → Wd → Prop
  | 0, _, _, _ => False
  | n + 1, l3, l4, w => wl_X3_spans_30 Q l1 l2 (lp_X3_spans_30 Q l1 l2 n) l3 l4 w
def wp_X3_spans (l1 : Int32) (l2 : Int32) (w : Wd) (Q : Int32 → Wd → Prop) : Prop := ∀ w1, w1 = sI w 60 (iz 0) → wp_X3_isKind l1 w1 (fun r2 w3 => (r2 = iz 0 → Q (iz (-1)) w3) ∧ (¬ r2 = iz 0 → wp_X3_isIn ((l2).toInt64) (lz 0) (lz 1) w3 (fun r4 w5 => (¬ r4 = iz 0 → ∃ n6, lp_X3_spans_30 Q l1 l2 n6 (iz 0) (iz 0) w5) ∧ (r4 = iz 0 → Q (iz (-1)) w5))))
set_option maxRecDepth 100000 in
set_option maxHeartbeats 4000000 in
theorem sl_X3_spans_30 {γ : GG} (Q : Int32 → Wd → Prop) (l1 : Int32) (l2 : Int32) : ∀ (n : Nat) (l3 : Int32) (l4 : Int32) (w : Wd), lp_X3_spans_30 Q l1 l2 n l3 l4 w → Rch γ 4 k_X3_spans 30 [some (.ref 2), some (.int l1), some (.int l2), some (.int l3), some (.int l4)] [] w (qI Q) xN := by
  intro n
  induction n with
  | zero => intro _ _ _ h; exact h.elim
  | succ n hR30 =>
    intro l3 l4 w h
    have h : wl_X3_spans_30 Q l1 l2 (lp_X3_spans_30 Q l1 l2 n) l3 l4 w := h
    unfold wl_X3_spans_30 at h
    refine R.iload 32 dX3_spans_30 rfl rfl ?_
    refine R.aload_n 33 dX3_spans_32 rfl rfl ?_
    refine gf_90 36 dX3_spans_33 rfl rfl ?_
    refine R.bipush 38 dX3_spans_36 rfl (by decide +kernel) ?_
    obtain ⟨hb, h⟩ := h
    refine R.iald ar_90 39 dX3_spans_38 rfl hb ?_
    refine R.icmp_ge 107 42 dX3_spans_39 (by decide) rfl (fun hc => ?_) (fun hc => ?_)
    · replace h := h.1 hc
      refine R.iload_n 108 dX3_spans_107 rfl rfl ?_
      exact R.retI dX3_spans_108 rfl h
    · replace h := h.2 hc
      refine R.aload_n 43 dX3_spans_42 rfl rfl ?_
      refine R.iload 45 dX3_spans_43 rfl rfl ?_
      refine Rch.callv (sd_X3_isNameless _ _ _ h) dX3_spans_45 (lw_V q1797 q1799 qs133 q146 q1800) dk_X3_isNameless rcM (by decide) (Nat.le_of_ble_eq_true rfl) rfl rfl (Nat.le_of_ble_eq_true rfl) (kI 48 rfl fun r1 w2 h => ?_) kN
      refine R.if_ne 82 51 dX3_spans_48 (by decide) rfl (fun hc => ?_) (fun hc => ?_)
      · replace h := h.1 hc
        refine R.iload_n 83 dX3_spans_82 rfl rfl ?_
        refine R.iload_n 84 dX3_spans_83 rfl rfl ?_
        refine R.iconst 85 dX3_spans_84 rfl ?_
        refine R.icmp_ne 98 88 dX3_spans_85 (by decide) rfl (fun hc => ?_) (fun hc => ?_)
        · replace h := h.1 hc
          refine R.iconst 99 dX3_spans_98 rfl ?_
          refine R.iadd 100 dX3_spans_99 rfl ?_
          refine R.ist3n 101 dX3_spans_100 rfl (Nat.le_of_ble_eq_true rfl) rfl ?_
          refine R.inc4 104 dX3_spans_101 rfl (Nat.le_of_ble_eq_true rfl) rfl ?_
          refine R.goto 30 dX3_spans_104 (by decide) ?_
          exact Rch.dropk (hR30 _ _ _ h) ⟨rfl, ⟨rfl, ⟨rfl, ⟨rfl, ⟨rfl, trivial⟩⟩⟩⟩⟩
        · replace h := h.2 hc
          refine R.aload_n 89 dX3_spans_88 rfl rfl ?_
          refine R.iload 91 dX3_spans_89 rfl rfl ?_
          refine R.iload_n 92 dX3_spans_91 rfl rfl ?_
          refine Rch.callv (sd_X3_couldBe _ _ _ _ h) dX3_spans_92 (lw_V q1801 q1803 qs134 q146 q1804) dk_X3_couldBe rcM (by decide) (Nat.le_of_ble_eq_true rfl) rfl rfl (Nat.le_of_ble_eq_true rfl) (kI 95 rfl fun r3 w4 h => ?_) kN
          refine R.goto 99 dX3_spans_95 (by decide) ?_
          refine R.iadd 100 dX3_spans_99 rfl ?_
          refine R.ist3n 101 dX3_spans_100 rfl (Nat.le_of_ble_eq_true rfl) rfl ?_
          refine R.inc4 104 dX3_spans_101 rfl (Nat.le_of_ble_eq_true rfl) rfl ?_
          refine R.goto 30 dX3_spans_104 (by decide) ?_
          exact Rch.dropk (hR30 _ _ _ h) ⟨rfl, ⟨rfl, ⟨rfl, ⟨rfl, ⟨rfl, trivial⟩⟩⟩⟩⟩
      · replace h := h.2 hc
        refine R.iload_n 52 dX3_spans_51 rfl rfl ?_
        refine R.aload_n 53 dX3_spans_52 rfl rfl ?_
        refine R.iload 55 dX3_spans_53 rfl rfl ?_
        refine Rch.callv (sd_X3_kindIn _ _ _ h) dX3_spans_55 (lw_V q1756 q1758 qs128 q146 q1759) dk_X3_kindIn rcM (by decide) (Nat.le_of_ble_eq_true rfl) rfl rfl (Nat.le_of_ble_eq_true rfl) (kI 58 rfl fun r5 w6 h => ?_) kN
        refine R.iload_n 59 dX3_spans_58 rfl rfl ?_
        refine R.icmp_ne 76 62 dX3_spans_59 (by decide) rfl (fun hc => ?_) (fun hc => ?_)
        · replace h := h.1 hc
          refine R.iconst 77 dX3_spans_76 rfl ?_
          refine R.iadd 78 dX3_spans_77 rfl ?_
          refine R.ist3n 79 dX3_spans_78 rfl (Nat.le_of_ble_eq_true rfl) rfl ?_
          refine R.goto 101 dX3_spans_79 (by decide) ?_
          refine R.inc4 104 dX3_spans_101 rfl (Nat.le_of_ble_eq_true rfl) rfl ?_
          refine R.goto 30 dX3_spans_104 (by decide) ?_
          exact Rch.dropk (hR30 _ _ _ h) ⟨rfl, ⟨rfl, ⟨rfl, ⟨rfl, ⟨rfl, trivial⟩⟩⟩⟩⟩
        · replace h := h.2 hc
          refine R.aload_n 63 dX3_spans_62 rfl rfl ?_
          refine gf_90 66 dX3_spans_63 rfl rfl ?_
          refine R.iconst 67 dX3_spans_66 rfl ?_
          refine R.iload 69 dX3_spans_67 rfl rfl ?_
          refine R.imul 70 dX3_spans_69 rfl ?_
          refine R.iconst 71 dX3_spans_70 rfl ?_
          refine R.iadd 72 dX3_spans_71 rfl ?_
          obtain ⟨hb, h⟩ := h
          refine R.iald ar_90 73 dX3_spans_72 rfl hb ?_
          refine R.goto 77 dX3_spans_73 (by decide) ?_
          refine R.iadd 78 dX3_spans_77 rfl ?_
          refine R.ist3n 79 dX3_spans_78 rfl (Nat.le_of_ble_eq_true rfl) rfl ?_
          refine R.goto 101 dX3_spans_79 (by decide) ?_
          refine R.inc4 104 dX3_spans_101 rfl (Nat.le_of_ble_eq_true rfl) rfl ?_
          refine R.goto 30 dX3_spans_104 (by decide) ?_
          exact Rch.dropk (hR30 _ _ _ h) ⟨rfl, ⟨rfl, ⟨rfl, ⟨rfl, ⟨rfl, trivial⟩⟩⟩⟩⟩
set_option maxRecDepth 100000 in
set_option maxHeartbeats 4000000 in
theorem sd_X3_spans {γ : GG} (l1 : Int32) (l2 : Int32) (w : Wd) (Q : Int32 → Wd → Prop) : wp_X3_spans l1 l2 w Q → Ctr γ 4 yX3_spans (ws_ yX3_spans cX3_spans 5 (some .int)) [.ref 2, .int l1, .int l2] w (qI Q) xN := by
  intro h
  unfold wp_X3_spans at h
  refine Ctr.of (μ := k_X3_spans) (by decide) rfl rfl rfl (Nat.le_of_ble_eq_true rfl) ⟨2, ?_⟩
  have es : lva [.ref 2, .int l1, .int l2] ++ List.replicate 2 none = [some (.ref 2), some (.int l1), some (.int l2), none, none] := rfl
  rw [es]
  refine R.aload_n 1 dX3_spans_0 rfl rfl ?_
  refine R.iconst 2 dX3_spans_1 rfl ?_
  replace h := h _ rfl
  refine pf_60 _ 5 dX3_spans_2 rfl rfl ?_
  refine R.aload_n 6 dX3_spans_5 rfl rfl ?_
  refine R.iload_n 7 dX3_spans_6 rfl rfl ?_
  refine Rch.callv (sd_X3_isKind _ _ _ h) dX3_spans_7 (lw_V q1573 q1575 qs104 q146 q1576) dk_X3_isKind rcM (by decide) (Nat.le_of_ble_eq_true rfl) rfl rfl (Nat.le_of_ble_eq_true rfl) (kI 10 rfl fun r2 w3 h => ?_) kN
  refine R.if_eq 23 13 dX3_spans_10 (by decide) rfl (fun hc => ?_) (fun hc => ?_)
  · replace h := h.1 hc
    refine R.iconst 24 dX3_spans_23 rfl ?_
    exact R.retI dX3_spans_24 rfl h
  · replace h := h.2 hc
    refine R.iload_n 14 dX3_spans_13 rfl rfl ?_
    refine R.i2l 15 dX3_spans_14 rfl ?_
    refine R.lconst (m0 := 0) 16 dX3_spans_15 rfl (by decide +kernel) ?_
    refine R.lconst (m0 := 1) 17 dX3_spans_16 rfl (by decide +kernel) ?_
    refine Rch.calls (sd_X3_isIn _ _ _ _ _ h) dX3_spans_17 (lw_S q1426 q1427 q146 q1428) dk_X3_isIn (by decide) (Nat.le_of_ble_eq_true rfl) rfl rfl (Nat.le_of_ble_eq_true rfl) (kI 20 rfl fun r4 w5 h => ?_) kN
    refine R.if_ne 25 23 dX3_spans_20 (by decide) rfl (fun hc => ?_) (fun hc => ?_)
    · replace h := h.1 hc
      refine R.iconst 26 dX3_spans_25 rfl ?_
      refine R.ist3n 27 dX3_spans_26 rfl (Nat.le_of_ble_eq_true rfl) rfl ?_
      refine R.iconst 28 dX3_spans_27 rfl ?_
      refine R.ist4 30 dX3_spans_28 rfl (Nat.le_of_ble_eq_true rfl) rfl ?_
      obtain ⟨n6, h⟩ := h
      exact Rch.dropk (sl_X3_spans_30 Q _ _ n6 _ _ _ h) ⟨rfl, ⟨rfl, ⟨rfl, ⟨rfl, ⟨rfl, trivial⟩⟩⟩⟩⟩
    · replace h := h.2 hc
      refine R.iconst 24 dX3_spans_23 rfl ?_
      exact R.retI dX3_spans_24 rfl h

abbrev k_X3_nameless : MK := ("FrostBoxModel", cX3_nameless, 3, (some .int), [], "nameless")
def wl_X3_nameless_18 (Q : Int32 → Wd → Prop) (R18 : Int32 → Int32 → Wd → Prop) (l1 : Int32) (l2 : Int32) (w : Wd) : Prop := inb (iz 40) 283 ∧ ((gA w 90 (iz 40).toInt) ≤ l2 → Q l1 w) ∧ (¬ (gA w 90 (iz 40).toInt) ≤ l2 → wp_X3_isNameless l2 w (fun r1 w2 => (r1 = iz 0 → R18 (l1 ||| (iz 0)) (l2 + iz 1) w2) ∧ (¬ r1 = iz 0 → R18 (l1 ||| ((iz 1) <<< (l2 &&& 31))) (l2 + iz 1) w2)))
def lp_X3_nameless_18 (Q : Int32 → Wd → Prop) : Nat → Int32 → Int32 → Wd → Prop
  | 0, _, _, _ => False
  | n + 1, l1, l2, w => wl_X3_nameless_18 Q (lp_X3_nameless_18 Q n) l1 l2 w
def wp_X3_nameless (w : Wd) (Q : Int32 → Wd → Prop) : Prop := ∀ w1, w1 = sI w 60 (iz 0) → (¬ (gI w1 85) = iz 0 → ∃ n2, lp_X3_nameless_18 Q n2 (iz 0) (iz 0) w1) ∧ ((gI w1 85) = iz 0 → Q (iz (-1)) w1)
set_option maxRecDepth 100000 in
set_option maxHeartbeats 4000000 in
theorem sl_X3_nameless_18 {γ : GG} (Q : Int32 → Wd → Prop) : ∀ (n : Nat) (l1 : Int32) (l2 : Int32) (w : Wd), lp_X3_nameless_18 Q n l1 l2 w → Rch γ 2 k_X3_nameless 18 [some (.ref 2), some (.int l1), some (.int l2)] [] w (qI Q) xN := by
  intro n
  induction n with
  | zero => intro _ _ _ h; exact h.elim
  | succ n hR18 =>
    intro l1 l2 w h
    have h : wl_X3_nameless_18 Q (lp_X3_nameless_18 Q n) l1 l2 w := h
    unfold wl_X3_nameless_18 at h
    refine R.iload_n 19 dX3_nameless_18 rfl rfl ?_
    refine R.aload_n 20 dX3_nameless_19 rfl rfl ?_
    refine gf_90 23 dX3_nameless_20 rfl rfl ?_
    refine R.bipush 25 dX3_nameless_23 rfl (by decide +kernel) ?_
    obtain ⟨hb, h⟩ := h
    refine R.iald ar_90 26 dX3_nameless_25 rfl hb ?_
    refine R.icmp_ge 53 29 dX3_nameless_26 (by decide) rfl (fun hc => ?_) (fun hc => ?_)
    · replace h := h.1 hc
      refine R.iload_n 54 dX3_nameless_53 rfl rfl ?_
      exact R.retI dX3_nameless_54 rfl h
    · replace h := h.2 hc
      refine R.iload_n 30 dX3_nameless_29 rfl rfl ?_
      refine R.aload_n 31 dX3_nameless_30 rfl rfl ?_
      refine R.iload_n 32 dX3_nameless_31 rfl rfl ?_
      refine Rch.callv (sd_X3_isNameless _ _ _ h) dX3_nameless_32 (lw_V q1797 q1799 qs133 q146 q1800) dk_X3_isNameless rcM (by decide) (Nat.le_of_ble_eq_true rfl) rfl rfl (Nat.le_of_ble_eq_true rfl) (kI 35 rfl fun r1 w2 h => ?_) kN
      refine R.if_eq 44 38 dX3_nameless_35 (by decide) rfl (fun hc => ?_) (fun hc => ?_)
      · replace h := h.1 hc
        refine R.iconst 45 dX3_nameless_44 rfl ?_
        refine R.ior 46 dX3_nameless_45 rfl ?_
        refine R.ist1n 47 dX3_nameless_46 rfl (Nat.le_of_ble_eq_true rfl) rfl ?_
        refine R.inc2 50 dX3_nameless_47 rfl (Nat.le_of_ble_eq_true rfl) rfl ?_
        refine R.goto 18 dX3_nameless_50 (by decide) ?_
        exact Rch.dropk (hR18 _ _ _ h) ⟨rfl, ⟨rfl, ⟨rfl, trivial⟩⟩⟩
      · replace h := h.2 hc
        refine R.iconst 39 dX3_nameless_38 rfl ?_
        refine R.iload_n 40 dX3_nameless_39 rfl rfl ?_
        refine R.ishl 41 dX3_nameless_40 rfl ?_
        refine R.goto 45 dX3_nameless_41 (by decide) ?_
        refine R.ior 46 dX3_nameless_45 rfl ?_
        refine R.ist1n 47 dX3_nameless_46 rfl (Nat.le_of_ble_eq_true rfl) rfl ?_
        refine R.inc2 50 dX3_nameless_47 rfl (Nat.le_of_ble_eq_true rfl) rfl ?_
        refine R.goto 18 dX3_nameless_50 (by decide) ?_
        exact Rch.dropk (hR18 _ _ _ h) ⟨rfl, ⟨rfl, ⟨rfl, trivial⟩⟩⟩
set_option maxRecDepth 100000 in
set_option maxHeartbeats 4000000 in
theorem sd_X3_nameless {γ : GG} (w : Wd) (Q : Int32 → Wd → Prop) : wp_X3_nameless w Q → Ctr γ 2 yX3_nameless (ws_ yX3_nameless cX3_nameless 3 (some .int)) [.ref 2] w (qI Q) xN := by
  intro h
  unfold wp_X3_nameless at h
  refine Ctr.of (μ := k_X3_nameless) (by decide) rfl rfl rfl (Nat.le_of_ble_eq_true rfl) ⟨2, ?_⟩
  have es : lva [.ref 2] ++ List.replicate 2 none = [some (.ref 2), none, none] := rfl
  rw [es]
  refine R.aload_n 1 dX3_nameless_0 rfl rfl ?_
  refine R.iconst 2 dX3_nameless_1 rfl ?_
  replace h := h _ rfl
  refine pf_60 _ 5 dX3_nameless_2 rfl rfl ?_
  refine R.aload_n 6 dX3_nameless_5 rfl rfl ?_
  refine gf_85 9 dX3_nameless_6 rfl rfl ?_
  refine R.if_ne 14 12 dX3_nameless_9 (by decide) rfl (fun hc => ?_) (fun hc => ?_)
  · replace h := h.1 hc
    refine R.iconst 15 dX3_nameless_14 rfl ?_
    refine R.ist1n 16 dX3_nameless_15 rfl (Nat.le_of_ble_eq_true rfl) rfl ?_
    refine R.iconst 17 dX3_nameless_16 rfl ?_
    refine R.ist2n 18 dX3_nameless_17 rfl (Nat.le_of_ble_eq_true rfl) rfl ?_
    obtain ⟨n2, h⟩ := h
    exact Rch.dropk (sl_X3_nameless_18 Q n2 _ _ _ h) ⟨rfl, ⟨rfl, ⟨rfl, trivial⟩⟩⟩
  · replace h := h.2 hc
    refine R.iconst 13 dX3_nameless_12 rfl ?_
    exact R.retI dX3_nameless_13 rfl h

abbrev k_X3_doubles : MK := ("FrostBoxModel", cX3_doubles, 5, (some .int), [], "doubles")
def wl_X3_doubles_39 (Q : Int32 → Wd → Prop) (R23 : Int32 → Int32 → Wd → Prop) (l1 : Int32) (l3 : Int32) (R39 : Int32 → Int32 → Wd → Prop) (l2 : Int32) (l4 : Int32) (w : Wd) : Prop := inb (iz 40) 283 ∧ ((gA w 90 (iz 40).toInt) ≤ l4 → R23 l2 (l3 + iz 1) w) ∧ (¬ (gA w 90 (iz 40).toInt) ≤ l4 → wp_X3_isNameless l3 w (fun r1 w2 => (r1 = iz 0 → R39 l2 (l4 + iz 1) w2) ∧ (¬ r1 = iz 0 → wp_X3_isNameless l4 w2 (fun r3 w4 => (r3 = iz 0 → R39 l2 (l4 + iz 1) w4) ∧ (¬ r3 = iz 0 → wp_X3_kindIn l3 w4 (fun r5 w6 => wp_X3_told r5 (iz 0) w6 (fun r7 w8 => wp_X3_kindIn l4 w8 (fun r9 w10 => wp_X3_told r9 (iz 0) w10 (fun r11 w12 => (¬ r7 = r11 → R39 l2 (l4 + iz 1) w12) ∧ (r7 = r11 → wp_X3_weightOf 90 l3 w12 (fun r13 w14 => wp_X3_weightOf 90 l4 w14 (fun r15 w16 => (r13 = r15 → (¬ l2 = l1 → R39 (l2 + iz 1) (l4 + iz 1) w16) ∧ (l2 = l1 → Q (((iz 10) * l3) + l4) w16)) ∧ (¬ r13 = r15 → R39 l2 (l4 + iz 1) w16)))))))))))))
def lp_X3_doubles_39 (Q : Int32 → Wd → Prop) (R23 : Int32 → Int32 → Wd → Prop) (l1 : Int32) (l3 : Int32) : Nat → Int32 → Int32 → Wd → Prop
  | 0, _, _, _ => False
  | n + 1, l2, l4, w => wl_X3_doubles_39 Q R23 l1 l3 (lp_X3_doubles_39 Q R23 l1 l3 n) l2 l4 w
def wl_X3_doubles_23 (Q : Int32 → Wd → Prop) (l1 : Int32) (R23 : Int32 → Int32 → Wd → Prop) (l2 : Int32) (l3 : Int32) (w : Wd) : Prop := inb (iz 40) 283 ∧ ((gA w 90 (iz 40).toInt) ≤ l3 → (¬ l1 = (iz (-1)) → Q (iz (-1)) w) ∧ (l1 = (iz (-1)) → Q l2 w)) ∧ (¬ (gA w 90 (iz 40).toInt) ≤ l3 → ∃ n1, lp_X3_doubles_39 Q R23 l1 l3 n1 l2 (l3 + (iz 1)) w)
def lp_X3_doubles_23 (Q : Int32 → Wd → Prop) (l1 : Int32) : Nat → Int32 → Int32 → Wd → Prop
  | 0, _, _, _ => False
  | n + 1, l2, l3, w => wl_X3_doubles_23 Q l1 (lp_X3_doubles_23 Q l1 n) l2 l3 w
def wp_X3_doubles (l1 : Int32) (w : Wd) (Q : Int32 → Wd → Prop) : Prop := ∀ w1, w1 = sI w 60 (iz 0) → ((gI w1 85) = iz 0 → Q (iz (-1)) w1) ∧ (¬ (gI w1 85) = iz 0 → ((iz (-1)) ≤ l1 → ∃ n2, lp_X3_doubles_23 Q l1 n2 (iz 0) (iz 0) w1) ∧ (¬ (iz (-1)) ≤ l1 → Q (iz (-1)) w1))
set_option maxRecDepth 100000 in
set_option maxHeartbeats 4000000 in
theorem sl_X3_doubles_39 {γ : GG} (Q : Int32 → Wd → Prop) (R23 : Int32 → Int32 → Wd → Prop) (l1 : Int32) (l3 : Int32) (hR23 : ∀ (l2 : Int32) (l3 : Int32) (w : Wd), R23 l2 l3 w → Rch γ 3 k_X3_doubles 23 [some (.ref 2), some (.int l1), some (.int l2), some (.int l3), none] [] w (qI Q) xN) : ∀ (n : Nat) (l2 : Int32) (l4 : Int32) (w : Wd), lp_X3_doubles_39 Q R23 l1 l3 n l2 l4 w → Rch γ 3 k_X3_doubles 39 [some (.ref 2), some (.int l1), some (.int l2), some (.int l3), some (.int l4)] [] w (qI Q) xN := by
  intro n
  induction n with
  | zero => intro _ _ _ h; exact h.elim
  | succ n hR39 =>
    intro l2 l4 w h
    have h : wl_X3_doubles_39 Q R23 l1 l3 (lp_X3_doubles_39 Q R23 l1 l3 n) l2 l4 w := h
    unfold wl_X3_doubles_39 at h
    refine R.iload 41 dX3_doubles_39 rfl rfl ?_
    refine R.aload_n 42 dX3_doubles_41 rfl rfl ?_
    refine gf_90 45 dX3_doubles_42 rfl rfl ?_
    refine R.bipush 47 dX3_doubles_45 rfl (by decide +kernel) ?_
    obtain ⟨hb, h⟩ := h
    refine R.iald ar_90 48 dX3_doubles_47 rfl hb ?_
    refine R.icmp_ge 139 51 dX3_doubles_48 (by decide) rfl (fun hc => ?_) (fun hc => ?_)
    · replace h := h.1 hc
      refine R.inc3 142 dX3_doubles_139 rfl (Nat.le_of_ble_eq_true rfl) rfl ?_
      refine R.goto 23 dX3_doubles_142 (by decide) ?_
      exact Rch.dropk (hR23 _ _ _ h) ⟨rfl, ⟨rfl, ⟨rfl, ⟨rfl, trivial⟩⟩⟩⟩
    · replace h := h.2 hc
      refine R.aload_n 52 dX3_doubles_51 rfl rfl ?_
      refine R.iload_n 53 dX3_doubles_52 rfl rfl ?_
      refine Rch.callv (sd_X3_isNameless _ _ _ h) dX3_doubles_53 (lw_V q1797 q1799 qs133 q146 q1800) dk_X3_isNameless rcM (by decide) (Nat.le_of_ble_eq_true rfl) rfl rfl (Nat.le_of_ble_eq_true rfl) (kI 56 rfl fun r1 w2 h => ?_) kN
      refine R.if_eq 133 59 dX3_doubles_56 (by decide) rfl (fun hc => ?_) (fun hc => ?_)
      · replace h := h.1 hc
        refine R.inc4 136 dX3_doubles_133 rfl (Nat.le_of_ble_eq_true rfl) rfl ?_
        refine R.goto 39 dX3_doubles_136 (by decide) ?_
        exact Rch.dropk (hR39 _ _ _ h) ⟨rfl, ⟨rfl, ⟨rfl, ⟨rfl, ⟨rfl, trivial⟩⟩⟩⟩⟩
      · replace h := h.2 hc
        refine R.aload_n 60 dX3_doubles_59 rfl rfl ?_
        refine R.iload 62 dX3_doubles_60 rfl rfl ?_
        refine Rch.callv (sd_X3_isNameless _ _ _ h) dX3_doubles_62 (lw_V q1797 q1799 qs133 q146 q1800) dk_X3_isNameless rcM (by decide) (Nat.le_of_ble_eq_true rfl) rfl rfl (Nat.le_of_ble_eq_true rfl) (kI 65 rfl fun r3 w4 h => ?_) kN
        refine R.if_eq 133 68 dX3_doubles_65 (by decide) rfl (fun hc => ?_) (fun hc => ?_)
        · replace h := h.1 hc
          refine R.inc4 136 dX3_doubles_133 rfl (Nat.le_of_ble_eq_true rfl) rfl ?_
          refine R.goto 39 dX3_doubles_136 (by decide) ?_
          exact Rch.dropk (hR39 _ _ _ h) ⟨rfl, ⟨rfl, ⟨rfl, ⟨rfl, ⟨rfl, trivial⟩⟩⟩⟩⟩
        · replace h := h.2 hc
          refine R.aload_n 69 dX3_doubles_68 rfl rfl ?_
          refine R.aload_n 70 dX3_doubles_69 rfl rfl ?_
          refine R.iload_n 71 dX3_doubles_70 rfl rfl ?_
          refine Rch.callv (sd_X3_kindIn _ _ _ h) dX3_doubles_71 (lw_V q1756 q1758 qs128 q146 q1759) dk_X3_kindIn rcM (by decide) (Nat.le_of_ble_eq_true rfl) rfl rfl (Nat.le_of_ble_eq_true rfl) (kI 74 rfl fun r5 w6 h => ?_) kN
          refine R.iconst 75 dX3_doubles_74 rfl ?_
          refine Rch.callv (sd_X3_told _ _ _ _ h) dX3_doubles_75 (lw_V q1578 q1580 qs105 q146 q1581) dk_X3_told rcM (by decide) (Nat.le_of_ble_eq_true rfl) rfl rfl (Nat.le_of_ble_eq_true rfl) (kI 78 rfl fun r7 w8 h => ?_) kN
          refine R.aload_n 79 dX3_doubles_78 rfl rfl ?_
          refine R.aload_n 80 dX3_doubles_79 rfl rfl ?_
          refine R.iload 82 dX3_doubles_80 rfl rfl ?_
          refine Rch.callv (sd_X3_kindIn _ _ _ h) dX3_doubles_82 (lw_V q1756 q1758 qs128 q146 q1759) dk_X3_kindIn rcM (by decide) (Nat.le_of_ble_eq_true rfl) rfl rfl (Nat.le_of_ble_eq_true rfl) (kI 85 rfl fun r9 w10 h => ?_) kN
          refine R.iconst 86 dX3_doubles_85 rfl ?_
          refine Rch.callv (sd_X3_told _ _ _ _ h) dX3_doubles_86 (lw_V q1578 q1580 qs105 q146 q1581) dk_X3_told rcM (by decide) (Nat.le_of_ble_eq_true rfl) rfl rfl (Nat.le_of_ble_eq_true rfl) (kI 89 rfl fun r11 w12 h => ?_) kN
          refine R.icmp_ne 133 92 dX3_doubles_89 (by decide) rfl (fun hc => ?_) (fun hc => ?_)
          · replace h := h.1 hc
            refine R.inc4 136 dX3_doubles_133 rfl (Nat.le_of_ble_eq_true rfl) rfl ?_
            refine R.goto 39 dX3_doubles_136 (by decide) ?_
            exact Rch.dropk (hR39 _ _ _ h) ⟨rfl, ⟨rfl, ⟨rfl, ⟨rfl, ⟨rfl, trivial⟩⟩⟩⟩⟩
          · replace h := h.2 hc
            refine R.aload_n 93 dX3_doubles_92 rfl rfl ?_
            refine R.aload_n 94 dX3_doubles_93 rfl rfl ?_
            refine gf_90 97 dX3_doubles_94 rfl rfl ?_
            refine R.iload_n 98 dX3_doubles_97 rfl rfl ?_
            refine Rch.callv (sd_X3_weightOf _ _ _ _ h) dX3_doubles_98 (lw_V q1614 q1616 qs111 q146 q1617) dk_X3_weightOf rcM (by decide) (Nat.le_of_ble_eq_true rfl) rfl rfl (Nat.le_of_ble_eq_true rfl) (kI 101 rfl fun r13 w14 h => ?_) kN
            refine R.aload_n 102 dX3_doubles_101 rfl rfl ?_
            refine R.aload_n 103 dX3_doubles_102 rfl rfl ?_
            refine gf_90 106 dX3_doubles_103 rfl rfl ?_
            refine R.iload 108 dX3_doubles_106 rfl rfl ?_
            refine Rch.callv (sd_X3_weightOf _ _ _ _ h) dX3_doubles_108 (lw_V q1614 q1616 qs111 q146 q1617) dk_X3_weightOf rcM (by decide) (Nat.le_of_ble_eq_true rfl) rfl rfl (Nat.le_of_ble_eq_true rfl) (kI 111 rfl fun r15 w16 h => ?_) kN
            refine R.icmp_eq 117 114 dX3_doubles_111 (by decide) rfl (fun hc => ?_) (fun hc => ?_)
            · replace h := h.1 hc
              refine R.iload_n 118 dX3_doubles_117 rfl rfl ?_
              refine R.iload_n 119 dX3_doubles_118 rfl rfl ?_
              refine R.icmp_ne 130 122 dX3_doubles_119 (by decide) rfl (fun hc => ?_) (fun hc => ?_)
              · replace h := h.1 hc
                refine R.inc2 133 dX3_doubles_130 rfl (Nat.le_of_ble_eq_true rfl) rfl ?_
                refine R.inc4 136 dX3_doubles_133 rfl (Nat.le_of_ble_eq_true rfl) rfl ?_
                refine R.goto 39 dX3_doubles_136 (by decide) ?_
                exact Rch.dropk (hR39 _ _ _ h) ⟨rfl, ⟨rfl, ⟨rfl, ⟨rfl, ⟨rfl, trivial⟩⟩⟩⟩⟩
              · replace h := h.2 hc
                refine R.bipush 124 dX3_doubles_122 rfl (by decide +kernel) ?_
                refine R.iload_n 125 dX3_doubles_124 rfl rfl ?_
                refine R.imul 126 dX3_doubles_125 rfl ?_
                refine R.iload 128 dX3_doubles_126 rfl rfl ?_
                refine R.iadd 129 dX3_doubles_128 rfl ?_
                exact R.retI dX3_doubles_129 rfl h
            · replace h := h.2 hc
              refine R.goto 133 dX3_doubles_114 (by decide) ?_
              refine R.inc4 136 dX3_doubles_133 rfl (Nat.le_of_ble_eq_true rfl) rfl ?_
              refine R.goto 39 dX3_doubles_136 (by decide) ?_
              exact Rch.dropk (hR39 _ _ _ h) ⟨rfl, ⟨rfl, ⟨rfl, ⟨rfl, ⟨rfl, trivial⟩⟩⟩⟩⟩
set_option maxRecDepth 100000 in
set_option maxHeartbeats 4000000 in
theorem sl_X3_doubles_23 {γ : GG} (Q : Int32 → Wd → Prop) (l1 : Int32) : ∀ (n : Nat) (l2 : Int32) (l3 : Int32) (w : Wd), lp_X3_doubles_23 Q l1 n l2 l3 w → Rch γ 3 k_X3_doubles 23 [some (.ref 2), some (.int l1), some (.int l2), some (.int l3), none] [] w (qI Q) xN := by
  intro n
  induction n with
  | zero => intro _ _ _ h; exact h.elim
  | succ n hR23 =>
    intro l2 l3 w h
    have h : wl_X3_doubles_23 Q l1 (lp_X3_doubles_23 Q l1 n) l2 l3 w := h
    unfold wl_X3_doubles_23 at h
    refine R.iload_n 24 dX3_doubles_23 rfl rfl ?_
    refine R.aload_n 25 dX3_doubles_24 rfl rfl ?_
    refine gf_90 28 dX3_doubles_25 rfl rfl ?_
    refine R.bipush 30 dX3_doubles_28 rfl (by decide +kernel) ?_
    obtain ⟨hb, h⟩ := h
    refine R.iald ar_90 31 dX3_doubles_30 rfl hb ?_
    refine R.icmp_ge 145 34 dX3_doubles_31 (by decide) rfl (fun hc => ?_) (fun hc => ?_)
    · replace h := h.1 hc
      refine R.iload_n 146 dX3_doubles_145 rfl rfl ?_
      refine R.iconst 147 dX3_doubles_146 rfl ?_
      refine R.icmp_ne 154 150 dX3_doubles_147 (by decide) rfl (fun hc => ?_) (fun hc => ?_)
      · replace h := h.1 hc
        refine R.iconst 155 dX3_doubles_154 rfl ?_
        exact R.retI dX3_doubles_155 rfl h
      · replace h := h.2 hc
        refine R.iload_n 151 dX3_doubles_150 rfl rfl ?_
        refine R.goto 155 dX3_doubles_151 (by decide) ?_
        exact R.retI dX3_doubles_155 rfl h
    · replace h := h.2 hc
      refine R.iload_n 35 dX3_doubles_34 rfl rfl ?_
      refine R.iconst 36 dX3_doubles_35 rfl ?_
      refine R.iadd 37 dX3_doubles_36 rfl ?_
      refine R.ist4 39 dX3_doubles_37 rfl (Nat.le_of_ble_eq_true rfl) rfl ?_
      obtain ⟨n1, h⟩ := h
      exact Rch.dropk (sl_X3_doubles_39 Q _ _ _ hR23 n1 _ _ _ h) ⟨rfl, ⟨rfl, ⟨rfl, ⟨rfl, ⟨rfl, trivial⟩⟩⟩⟩⟩
set_option maxRecDepth 100000 in
set_option maxHeartbeats 4000000 in
theorem sd_X3_doubles {γ : GG} (l1 : Int32) (w : Wd) (Q : Int32 → Wd → Prop) : wp_X3_doubles l1 w Q → Ctr γ 3 yX3_doubles (ws_ yX3_doubles cX3_doubles 5 (some .int)) [.ref 2, .int l1] w (qI Q) xN := by
  intro h
  unfold wp_X3_doubles at h
  refine Ctr.of (μ := k_X3_doubles) (by decide) rfl rfl rfl (Nat.le_of_ble_eq_true rfl) ⟨3, ?_⟩
  have es : lva [.ref 2, .int l1] ++ List.replicate 3 none = [some (.ref 2), some (.int l1), none, none, none] := rfl
  rw [es]
  refine R.aload_n 1 dX3_doubles_0 rfl rfl ?_
  refine R.iconst 2 dX3_doubles_1 rfl ?_
  replace h := h _ rfl
  refine pf_60 _ 5 dX3_doubles_2 rfl rfl ?_
  refine R.aload_n 6 dX3_doubles_5 rfl rfl ?_
  refine gf_85 9 dX3_doubles_6 rfl rfl ?_
  refine R.if_eq 17 12 dX3_doubles_9 (by decide) rfl (fun hc => ?_) (fun hc => ?_)
  · replace h := h.1 hc
    refine R.iconst 18 dX3_doubles_17 rfl ?_
    exact R.retI dX3_doubles_18 rfl h
  · replace h := h.2 hc
    refine R.iload_n 13 dX3_doubles_12 rfl rfl ?_
    refine R.iconst 14 dX3_doubles_13 rfl ?_
    refine R.icmp_ge 19 17 dX3_doubles_14 (by decide) rfl (fun hc => ?_) (fun hc => ?_)
    · replace h := h.1 hc
      refine R.iconst 20 dX3_doubles_19 rfl ?_
      refine R.ist2n 21 dX3_doubles_20 rfl (Nat.le_of_ble_eq_true rfl) rfl ?_
      refine R.iconst 22 dX3_doubles_21 rfl ?_
      refine R.ist3n 23 dX3_doubles_22 rfl (Nat.le_of_ble_eq_true rfl) rfl ?_
      obtain ⟨n2, h⟩ := h
      exact Rch.dropk (sl_X3_doubles_23 Q _ n2 _ _ _ h) ⟨rfl, ⟨rfl, ⟨rfl, ⟨rfl, trivial⟩⟩⟩⟩
    · replace h := h.2 hc
      refine R.iconst 18 dX3_doubles_17 rfl ?_
      exact R.retI dX3_doubles_18 rfl h

abbrev k_X3_peek : MK := ("FrostBoxModel", cX3_peek, 3, (some .int), [], "peek")
def b_X3_peek_39 (Q : Int32 → Wd → Prop) (l1 : Int32) (l2 : Int32) (t0 : Int64) (t1 : Int64) (t2 : Int64) (w : Wd) : Prop := wp_X3_isIn t2 t1 t0 w (fun r1 w2 => (r1 = iz 0 → Q (iz (-1)) w2) ∧ (¬ r1 = iz 0 → (¬ (gI w2 103) = (iz 12) → inb (gI w2 103) 12 ∧ (∀ w3, w3 = sA w2 101 (gI w2 103).toInt l1 → inb (gI w3 103) 12 ∧ (∀ w4, w4 = sA w3 102 (gI w3 103).toInt l2 → ∀ w5, w5 = sI w4 103 ((gI w4 103) + (iz 1)) → Q (gI w5 103) w5))) ∧ ((gI w2 103) = (iz 12) → Q (iz (-1)) w2)))
def wp_X3_peek (l1 : Int32) (l2 : Int32) (w : Wd) (Q : Int32 → Wd → Prop) : Prop := ∀ w1, w1 = sI w 60 (iz 0) → ((gI w1 85) = iz 0 → Q (iz (-1)) w1) ∧ (¬ (gI w1 85) = iz 0 → wp_X3_isIn ((l1).toInt64) (lz 0) (lz 1) w1 (fun r2 w3 => (r2 = iz 0 → Q (iz (-1)) w3) ∧ (¬ r2 = iz 0 → (¬ l1 = iz 0 → b_X3_peek_39 Q l1 l2 (lz 9) ((l1).toInt64) ((l2).toInt64) w3) ∧ (l1 = iz 0 → b_X3_peek_39 Q l1 l2 (lz 5) ((l1).toInt64) ((l2).toInt64) w3))))
set_option maxRecDepth 100000 in
set_option maxHeartbeats 4000000 in
theorem s_X3_peek_39 {γ : GG} (Q : Int32 → Wd → Prop) (l1 : Int32) (l2 : Int32) (t0 : Int64) (t1 : Int64) (t2 : Int64) : ∀ (w : Wd), b_X3_peek_39 Q l1 l2 t0 t1 t2 w → Rch γ 2 k_X3_peek 39 [some (.ref 2), some (.int l1), some (.int l2)] [.long t0, .long t1, .long t2] w (qI Q) xN := by
  intro w h
  unfold b_X3_peek_39 at h
  refine Rch.calls (sd_X3_isIn _ _ _ _ _ h) dX3_peek_39 (lw_S q1426 q1427 q146 q1428) dk_X3_isIn (by decide) (Nat.le_of_ble_eq_true rfl) rfl rfl (Nat.le_of_ble_eq_true rfl) (kI 42 rfl fun r1 w2 h => ?_) kN
  refine R.if_eq 54 45 dX3_peek_42 (by decide) rfl (fun hc => ?_) (fun hc => ?_)
  · replace h := h.1 hc
    refine R.iconst 55 dX3_peek_54 rfl ?_
    exact R.retI dX3_peek_55 rfl h
  · replace h := h.2 hc
    refine R.aload_n 46 dX3_peek_45 rfl rfl ?_
    refine gf_103 49 dX3_peek_46 rfl rfl ?_
    refine R.bipush 51 dX3_peek_49 rfl (by decide +kernel) ?_
    refine R.icmp_ne 56 54 dX3_peek_51 (by decide) rfl (fun hc => ?_) (fun hc => ?_)
    · replace h := h.1 hc
      refine R.aload_n 57 dX3_peek_56 rfl rfl ?_
      refine gf_101 60 dX3_peek_57 rfl rfl ?_
      refine R.aload_n 61 dX3_peek_60 rfl rfl ?_
      refine gf_103 64 dX3_peek_61 rfl rfl ?_
      refine R.iload_n 65 dX3_peek_64 rfl rfl ?_
      obtain ⟨hb, h⟩ := h
      replace h := h _ rfl
      refine R.iast ar_101 66 dX3_peek_65 rfl hb ?_
      refine R.aload_n 67 dX3_peek_66 rfl rfl ?_
      refine gf_102 70 dX3_peek_67 rfl rfl ?_
      refine R.aload_n 71 dX3_peek_70 rfl rfl ?_
      refine gf_103 74 dX3_peek_71 rfl rfl ?_
      refine R.iload_n 75 dX3_peek_74 rfl rfl ?_
      obtain ⟨hb, h⟩ := h
      replace h := h _ rfl
      refine R.iast ar_102 76 dX3_peek_75 rfl hb ?_
      refine R.aload_n 77 dX3_peek_76 rfl rfl ?_
      refine R.dupR 78 dX3_peek_77 rfl ?_
      refine gf_103 81 dX3_peek_78 rfl rfl ?_
      refine R.iconst 82 dX3_peek_81 rfl ?_
      refine R.iadd 83 dX3_peek_82 rfl ?_
      replace h := h _ rfl
      refine pf_103 _ 86 dX3_peek_83 rfl rfl ?_
      refine R.aload_n 87 dX3_peek_86 rfl rfl ?_
      refine gf_103 90 dX3_peek_87 rfl rfl ?_
      exact R.retI dX3_peek_90 rfl h
    · replace h := h.2 hc
      refine R.iconst 55 dX3_peek_54 rfl ?_
      exact R.retI dX3_peek_55 rfl h
set_option maxRecDepth 100000 in
set_option maxHeartbeats 4000000 in
theorem sd_X3_peek {γ : GG} (l1 : Int32) (l2 : Int32) (w : Wd) (Q : Int32 → Wd → Prop) : wp_X3_peek l1 l2 w Q → Ctr γ 2 yX3_peek (ws_ yX3_peek cX3_peek 3 (some .int)) [.ref 2, .int l1, .int l2] w (qI Q) xN := by
  intro h
  unfold wp_X3_peek at h
  refine Ctr.of (μ := k_X3_peek) (by decide) rfl rfl rfl (Nat.le_of_ble_eq_true rfl) ⟨0, ?_⟩
  have es : lva [.ref 2, .int l1, .int l2] ++ List.replicate 0 none = [some (.ref 2), some (.int l1), some (.int l2)] := rfl
  rw [es]
  refine R.aload_n 1 dX3_peek_0 rfl rfl ?_
  refine R.iconst 2 dX3_peek_1 rfl ?_
  replace h := h _ rfl
  refine pf_60 _ 5 dX3_peek_2 rfl rfl ?_
  refine R.aload_n 6 dX3_peek_5 rfl rfl ?_
  refine gf_85 9 dX3_peek_6 rfl rfl ?_
  refine R.if_eq 54 12 dX3_peek_9 (by decide) rfl (fun hc => ?_) (fun hc => ?_)
  · replace h := h.1 hc
    refine R.iconst 55 dX3_peek_54 rfl ?_
    exact R.retI dX3_peek_55 rfl h
  · replace h := h.2 hc
    refine R.iload_n 13 dX3_peek_12 rfl rfl ?_
    refine R.i2l 14 dX3_peek_13 rfl ?_
    refine R.lconst (m0 := 0) 15 dX3_peek_14 rfl (by decide +kernel) ?_
    refine R.lconst (m0 := 1) 16 dX3_peek_15 rfl (by decide +kernel) ?_
    refine Rch.calls (sd_X3_isIn _ _ _ _ _ h) dX3_peek_16 (lw_S q1426 q1427 q146 q1428) dk_X3_isIn (by decide) (Nat.le_of_ble_eq_true rfl) rfl rfl (Nat.le_of_ble_eq_true rfl) (kI 19 rfl fun r2 w3 h => ?_) kN
    refine R.if_eq 54 22 dX3_peek_19 (by decide) rfl (fun hc => ?_) (fun hc => ?_)
    · replace h := h.1 hc
      refine R.iconst 55 dX3_peek_54 rfl ?_
      exact R.retI dX3_peek_55 rfl h
    · replace h := h.2 hc
      refine R.iload_n 23 dX3_peek_22 rfl rfl ?_
      refine R.i2l 24 dX3_peek_23 rfl ?_
      refine R.iload_n 25 dX3_peek_24 rfl rfl ?_
      refine R.i2l 26 dX3_peek_25 rfl ?_
      refine R.iload_n 27 dX3_peek_26 rfl rfl ?_
      refine R.if_ne 36 30 dX3_peek_27 (by decide) rfl (fun hc => ?_) (fun hc => ?_)
      · replace h := h.1 hc
        refine R.ldc2 (n := 9) 39 dX3_peek_36 rfl q1626 (by decide +kernel) ?_
        exact Rch.dropk (s_X3_peek_39 Q _ _ _ _ _ _ h) ⟨rfl, ⟨rfl, ⟨rfl, trivial⟩⟩⟩
      · replace h := h.2 hc
        refine R.ldc2 (n := 5) 33 dX3_peek_30 rfl q1612 (by decide +kernel) ?_
        refine R.goto 39 dX3_peek_33 (by decide) ?_
        exact Rch.dropk (s_X3_peek_39 Q _ _ _ _ _ _ h) ⟨rfl, ⟨rfl, ⟨rfl, trivial⟩⟩⟩

abbrev k_X3_heldBy : MK := ("FrostBoxModel", cX3_heldBy, 5, (some .long), [], "heldBy")
def wl_X3_heldBy_5 (Q : Int64 → Wd → Prop) (l1 : Int32) (R5 : Int64 → Int32 → Wd → Prop) (l2 : Int64) (l4 : Int32) (w : Wd) : Prop := ((gI w 103) ≤ l4 → Q l2 w) ∧ (¬ (gI w 103) ≤ l4 → inb l4 12 ∧ wp_X3_told l1 (gA w 101 l4.toInt) w (fun r1 w2 => inb l4 12 ∧ (¬ r1 = (gA w2 102 l4.toInt) → inb (iz 3) 4 ∧ R5 (l2 * ((gA w2 78 (iz 3).toInt)).toInt64) (l4 + iz 1) w2) ∧ (r1 = (gA w2 102 l4.toInt) → inb (iz 3) 4 ∧ R5 (l2 * (((iz 10) - (gA w2 78 (iz 3).toInt))).toInt64) (l4 + iz 1) w2)))
def lp_X3_heldBy_5 (Q : Int64 → Wd → Prop) (l1 : Int32) : Nat → Int64 → Int32 → Wd → Prop
  | 0, _, _, _ => False
  | n + 1, l2, l4, w => wl_X3_heldBy_5 Q l1 (lp_X3_heldBy_5 Q l1 n) l2 l4 w
def wp_X3_heldBy (l1 : Int32) (w : Wd) (Q : Int64 → Wd → Prop) : Prop := ∃ n1, lp_X3_heldBy_5 Q l1 n1 (lz 1) (iz 0) w
set_option maxRecDepth 100000 in
set_option maxHeartbeats 4000000 in
theorem sl_X3_heldBy_5 {γ : GG} (Q : Int64 → Wd → Prop) (l1 : Int32) : ∀ (n : Nat) (l2 : Int64) (l4 : Int32) (w : Wd), lp_X3_heldBy_5 Q l1 n l2 l4 w → Rch γ 2 k_X3_heldBy 5 [some (.ref 2), some (.int l1), some (.long l2), none, some (.int l4)] [] w (qJ Q) xN := by
  intro n
  induction n with
  | zero => intro _ _ _ h; exact h.elim
  | succ n hR5 =>
    intro l2 l4 w h
    have h : wl_X3_heldBy_5 Q l1 (lp_X3_heldBy_5 Q l1 n) l2 l4 w := h
    unfold wl_X3_heldBy_5 at h
    refine R.iload 7 dX3_heldBy_5 rfl rfl ?_
    refine R.aload_n 8 dX3_heldBy_7 rfl rfl ?_
    refine gf_103 11 dX3_heldBy_8 rfl rfl ?_
    refine R.icmp_ge 65 14 dX3_heldBy_11 (by decide) rfl (fun hc => ?_) (fun hc => ?_)
    · replace h := h.1 hc
      refine R.lload_n 66 dX3_heldBy_65 rfl rfl ?_
      exact R.retJ dX3_heldBy_66 rfl h
    · replace h := h.2 hc
      refine R.lload_n 15 dX3_heldBy_14 rfl rfl ?_
      refine R.aload_n 16 dX3_heldBy_15 rfl rfl ?_
      refine R.iload_n 17 dX3_heldBy_16 rfl rfl ?_
      refine R.aload_n 18 dX3_heldBy_17 rfl rfl ?_
      refine gf_101 21 dX3_heldBy_18 rfl rfl ?_
      refine R.iload 23 dX3_heldBy_21 rfl rfl ?_
      obtain ⟨hb, h⟩ := h
      refine R.iald ar_101 24 dX3_heldBy_23 rfl hb ?_
      refine Rch.callv (sd_X3_told _ _ _ _ h) dX3_heldBy_24 (lw_V q1578 q1580 qs105 q146 q1581) dk_X3_told rcM (by decide) (Nat.le_of_ble_eq_true rfl) rfl rfl (Nat.le_of_ble_eq_true rfl) (kI 27 rfl fun r1 w2 h => ?_) kN
      refine R.aload_n 28 dX3_heldBy_27 rfl rfl ?_
      refine gf_102 31 dX3_heldBy_28 rfl rfl ?_
      refine R.iload 33 dX3_heldBy_31 rfl rfl ?_
      obtain ⟨hb, h⟩ := h
      refine R.iald ar_102 34 dX3_heldBy_33 rfl hb ?_
      refine R.icmp_ne 50 37 dX3_heldBy_34 (by decide) rfl (fun hc => ?_) (fun hc => ?_)
      · replace h := h.1 hc
        refine R.aload_n 51 dX3_heldBy_50 rfl rfl ?_
        refine gf_78 54 dX3_heldBy_51 rfl rfl ?_
        refine R.iconst 55 dX3_heldBy_54 rfl ?_
        obtain ⟨hb, h⟩ := h
        refine R.iald ar_78 56 dX3_heldBy_55 rfl hb ?_
        refine R.i2l 57 dX3_heldBy_56 rfl ?_
        refine R.lmul 58 dX3_heldBy_57 rfl ?_
        refine R.lst2n 59 dX3_heldBy_58 rfl (Nat.le_of_ble_eq_true rfl) rfl ?_
        refine R.inc4 62 dX3_heldBy_59 rfl (Nat.le_of_ble_eq_true rfl) rfl ?_
        refine R.goto 5 dX3_heldBy_62 (by decide) ?_
        exact Rch.dropk (hR5 _ _ _ h) ⟨rfl, ⟨rfl, ⟨rfl, ⟨rfl, trivial⟩⟩⟩⟩
      · replace h := h.2 hc
        refine R.bipush 39 dX3_heldBy_37 rfl (by decide +kernel) ?_
        refine R.aload_n 40 dX3_heldBy_39 rfl rfl ?_
        refine gf_78 43 dX3_heldBy_40 rfl rfl ?_
        refine R.iconst 44 dX3_heldBy_43 rfl ?_
        obtain ⟨hb, h⟩ := h
        refine R.iald ar_78 45 dX3_heldBy_44 rfl hb ?_
        refine R.isub 46 dX3_heldBy_45 rfl ?_
        refine R.i2l 47 dX3_heldBy_46 rfl ?_
        refine R.goto 57 dX3_heldBy_47 (by decide) ?_
        refine R.lmul 58 dX3_heldBy_57 rfl ?_
        refine R.lst2n 59 dX3_heldBy_58 rfl (Nat.le_of_ble_eq_true rfl) rfl ?_
        refine R.inc4 62 dX3_heldBy_59 rfl (Nat.le_of_ble_eq_true rfl) rfl ?_
        refine R.goto 5 dX3_heldBy_62 (by decide) ?_
        exact Rch.dropk (hR5 _ _ _ h) ⟨rfl, ⟨rfl, ⟨rfl, ⟨rfl, trivial⟩⟩⟩⟩
set_option maxRecDepth 100000 in
set_option maxHeartbeats 4000000 in
theorem sd_X3_heldBy {γ : GG} (l1 : Int32) (w : Wd) (Q : Int64 → Wd → Prop) : wp_X3_heldBy l1 w Q → Ctr γ 2 yX3_heldBy (ws_ yX3_heldBy cX3_heldBy 5 (some .long)) [.ref 2, .int l1] w (qJ Q) xN := by
  intro h
  unfold wp_X3_heldBy at h
  refine Ctr.of (μ := k_X3_heldBy) (by decide) rfl rfl rfl (Nat.le_of_ble_eq_true rfl) ⟨3, ?_⟩
  have es : lva [.ref 2, .int l1] ++ List.replicate 3 none = [some (.ref 2), some (.int l1), none, none, none] := rfl
  rw [es]
  refine R.lconst (m0 := 1) 1 dX3_heldBy_0 rfl (by decide +kernel) ?_
  refine R.lst2n 2 dX3_heldBy_1 rfl (Nat.le_of_ble_eq_true rfl) rfl ?_
  refine R.iconst 3 dX3_heldBy_2 rfl ?_
  refine R.ist4 5 dX3_heldBy_3 rfl (Nat.le_of_ble_eq_true rfl) rfl ?_
  obtain ⟨n1, h⟩ := h
  exact Rch.dropk (sl_X3_heldBy_5 Q _ n1 _ _ _ h) ⟨rfl, ⟨rfl, ⟨rfl, ⟨rfl, trivial⟩⟩⟩⟩

abbrev k_X3_greatestBy : MK := ("FrostBoxModel", cX3_greatestBy, 8, (some .long), [], "greatestBy")
def wl_X3_greatestBy_18 (Q : Int64 → Wd → Prop) (R5 : Int64 → Int32 → Wd → Prop) (l1 : Int32) (l2 : Int64) (l4 : Int32) (R18 : Int64 → Int32 → Wd → Prop) (l5 : Int64) (l7 : Int32) (w : Wd) : Prop := ((gI w 85) ≤ l7 → R5 (lmax l2 l5) (l4 + iz 1) w) ∧ (¬ (gI w 85) ≤ l7 → wp_X3_told l7 l1 w (fun r1 w2 => (¬ r1 = l4 → R18 (l5 + (lz 0)) (l7 + iz 1) w2) ∧ (r1 = l4 → wp_X3_heldBy l7 w2 (fun r3 w4 => R18 (l5 + r3) (l7 + iz 1) w4))))
def lp_X3_greatestBy_18 (Q : Int64 → Wd → Prop) (R5 : Int64 → Int32 → Wd → Prop) (l1 : Int32) (l2 : Int64) (l4 : Int32) : Nat → Int64 → Int32 → Wd → Prop
  | 0, _, _, _ => False
  | n + 1, l5, l7, w => wl_X3_greatestBy_18 Q R5 l1 l2 l4 (lp_X3_greatestBy_18 Q R5 l1 l2 l4 n) l5 l7 w
def wl_X3_greatestBy_5 (Q : Int64 → Wd → Prop) (l1 : Int32) (R5 : Int64 → Int32 → Wd → Prop) (l2 : Int64) (l4 : Int32) (w : Wd) : Prop := ((iz 9) < l4 → Q l2 w) ∧ (¬ (iz 9) < l4 → ∃ n1, lp_X3_greatestBy_18 Q R5 l1 l2 l4 n1 (lz 0) (iz 0) w)
def lp_X3_greatestBy_5 (Q : Int64 → Wd → Prop) (l1 : Int32) : Nat → Int64 → Int32 → Wd → Prop
  | 0, _, _, _ => False
  | n + 1, l2, l4, w => wl_X3_greatestBy_5 Q l1 (lp_X3_greatestBy_5 Q l1 n) l2 l4 w
def wp_X3_greatestBy (l1 : Int32) (w : Wd) (Q : Int64 → Wd → Prop) : Prop := ∃ n1, lp_X3_greatestBy_5 Q l1 n1 (lz 0) (iz 0) w
set_option maxRecDepth 100000 in
set_option maxHeartbeats 4000000 in
theorem sl_X3_greatestBy_18 {γ : GG} (Q : Int64 → Wd → Prop) (R5 : Int64 → Int32 → Wd → Prop) (l1 : Int32) (l2 : Int64) (l4 : Int32) (hR5 : ∀ (l2 : Int64) (l4 : Int32) (w : Wd), R5 l2 l4 w → Rch γ 3 k_X3_greatestBy 5 [some (.ref 2), some (.int l1), some (.long l2), none, some (.int l4), none, none, none] [] w (qJ Q) xN) : ∀ (n : Nat) (l5 : Int64) (l7 : Int32) (w : Wd), lp_X3_greatestBy_18 Q R5 l1 l2 l4 n l5 l7 w → Rch γ 3 k_X3_greatestBy 18 [some (.ref 2), some (.int l1), some (.long l2), none, some (.int l4), some (.long l5), none, some (.int l7)] [] w (qJ Q) xN := by
  intro n
  induction n with
  | zero => intro _ _ _ h; exact h.elim
  | succ n hR18 =>
    intro l5 l7 w h
    have h : wl_X3_greatestBy_18 Q R5 l1 l2 l4 (lp_X3_greatestBy_18 Q R5 l1 l2 l4 n) l5 l7 w := h
    unfold wl_X3_greatestBy_18 at h
    refine R.iload 20 dX3_greatestBy_18 rfl rfl ?_
    refine R.aload_n 21 dX3_greatestBy_20 rfl rfl ?_
    refine gf_85 24 dX3_greatestBy_21 rfl rfl ?_
    refine R.icmp_ge 60 27 dX3_greatestBy_24 (by decide) rfl (fun hc => ?_) (fun hc => ?_)
    · replace h := h.1 hc
      refine R.lload_n 61 dX3_greatestBy_60 rfl rfl ?_
      refine R.lload 63 dX3_greatestBy_61 rfl rfl ?_
      refine R.mmaxl 66 dX3_greatestBy_63 rfl q1538 q887 q149 q888 (by omega) (Nat.le_of_ble_eq_true rfl) ?_
      refine R.lst2n 67 dX3_greatestBy_66 rfl (Nat.le_of_ble_eq_true rfl) rfl ?_
      refine R.inc4 70 dX3_greatestBy_67 rfl (Nat.le_of_ble_eq_true rfl) rfl ?_
      refine R.goto 5 dX3_greatestBy_70 (by decide) ?_
      exact Rch.dropk (hR5 _ _ _ h) ⟨rfl, ⟨rfl, ⟨rfl, ⟨rfl, trivial⟩⟩⟩⟩
    · replace h := h.2 hc
      refine R.lload 29 dX3_greatestBy_27 rfl rfl ?_
      refine R.aload_n 30 dX3_greatestBy_29 rfl rfl ?_
      refine R.iload 32 dX3_greatestBy_30 rfl rfl ?_
      refine R.iload_n 33 dX3_greatestBy_32 rfl rfl ?_
      refine Rch.callv (sd_X3_told _ _ _ _ h) dX3_greatestBy_33 (lw_V q1578 q1580 qs105 q146 q1581) dk_X3_told rcM (by decide) (Nat.le_of_ble_eq_true rfl) rfl rfl (Nat.le_of_ble_eq_true rfl) (kI 36 rfl fun r1 w2 h => ?_) kN
      refine R.iload 38 dX3_greatestBy_36 rfl rfl ?_
      refine R.icmp_ne 50 41 dX3_greatestBy_38 (by decide) rfl (fun hc => ?_) (fun hc => ?_)
      · replace h := h.1 hc
        refine R.lconst (m0 := 0) 51 dX3_greatestBy_50 rfl (by decide +kernel) ?_
        refine R.ladd 52 dX3_greatestBy_51 rfl ?_
        refine R.lst5 54 dX3_greatestBy_52 rfl (Nat.le_of_ble_eq_true rfl) rfl ?_
        refine R.inc7 57 dX3_greatestBy_54 rfl (Nat.le_of_ble_eq_true rfl) rfl ?_
        refine R.goto 18 dX3_greatestBy_57 (by decide) ?_
        exact Rch.dropk (hR18 _ _ _ h) ⟨rfl, ⟨rfl, ⟨rfl, ⟨rfl, ⟨rfl, ⟨rfl, trivial⟩⟩⟩⟩⟩⟩
      · replace h := h.2 hc
        refine R.aload_n 42 dX3_greatestBy_41 rfl rfl ?_
        refine R.iload 44 dX3_greatestBy_42 rfl rfl ?_
        refine Rch.callv (sd_X3_heldBy _ _ _ h) dX3_greatestBy_44 (lw_V q1825 q1827 qs136 q146 q1828) dk_X3_heldBy rcM (by decide) (Nat.le_of_ble_eq_true rfl) rfl rfl (Nat.le_of_ble_eq_true rfl) (kJ 47 rfl fun r3 w4 h => ?_) kN
        refine R.goto 51 dX3_greatestBy_47 (by decide) ?_
        refine R.ladd 52 dX3_greatestBy_51 rfl ?_
        refine R.lst5 54 dX3_greatestBy_52 rfl (Nat.le_of_ble_eq_true rfl) rfl ?_
        refine R.inc7 57 dX3_greatestBy_54 rfl (Nat.le_of_ble_eq_true rfl) rfl ?_
        refine R.goto 18 dX3_greatestBy_57 (by decide) ?_
        exact Rch.dropk (hR18 _ _ _ h) ⟨rfl, ⟨rfl, ⟨rfl, ⟨rfl, ⟨rfl, ⟨rfl, trivial⟩⟩⟩⟩⟩⟩
set_option maxRecDepth 100000 in
set_option maxHeartbeats 4000000 in
theorem sl_X3_greatestBy_5 {γ : GG} (Q : Int64 → Wd → Prop) (l1 : Int32) : ∀ (n : Nat) (l2 : Int64) (l4 : Int32) (w : Wd), lp_X3_greatestBy_5 Q l1 n l2 l4 w → Rch γ 3 k_X3_greatestBy 5 [some (.ref 2), some (.int l1), some (.long l2), none, some (.int l4), none, none, none] [] w (qJ Q) xN := by
  intro n
  induction n with
  | zero => intro _ _ _ h; exact h.elim
  | succ n hR5 =>
    intro l2 l4 w h
    have h : wl_X3_greatestBy_5 Q l1 (lp_X3_greatestBy_5 Q l1 n) l2 l4 w := h
    unfold wl_X3_greatestBy_5 at h
    refine R.iload 7 dX3_greatestBy_5 rfl rfl ?_
    refine R.bipush 9 dX3_greatestBy_7 rfl (by decide +kernel) ?_
    refine R.icmp_gt 73 12 dX3_greatestBy_9 (by decide) rfl (fun hc => ?_) (fun hc => ?_)
    · replace h := h.1 hc
      refine R.lload_n 74 dX3_greatestBy_73 rfl rfl ?_
      exact R.retJ dX3_greatestBy_74 rfl h
    · replace h := h.2 hc
      refine R.lconst (m0 := 0) 13 dX3_greatestBy_12 rfl (by decide +kernel) ?_
      refine R.lst5 15 dX3_greatestBy_13 rfl (Nat.le_of_ble_eq_true rfl) rfl ?_
      refine R.iconst 16 dX3_greatestBy_15 rfl ?_
      refine R.ist7 18 dX3_greatestBy_16 rfl (Nat.le_of_ble_eq_true rfl) rfl ?_
      obtain ⟨n1, h⟩ := h
      exact Rch.dropk (sl_X3_greatestBy_18 Q _ _ _ _ hR5 n1 _ _ _ h) ⟨rfl, ⟨rfl, ⟨rfl, ⟨rfl, ⟨rfl, ⟨rfl, trivial⟩⟩⟩⟩⟩⟩
set_option maxRecDepth 100000 in
set_option maxHeartbeats 4000000 in
theorem sd_X3_greatestBy {γ : GG} (l1 : Int32) (w : Wd) (Q : Int64 → Wd → Prop) : wp_X3_greatestBy l1 w Q → Ctr γ 3 yX3_greatestBy (ws_ yX3_greatestBy cX3_greatestBy 8 (some .long)) [.ref 2, .int l1] w (qJ Q) xN := by
  intro h
  unfold wp_X3_greatestBy at h
  refine Ctr.of (μ := k_X3_greatestBy) (by decide) rfl rfl rfl (Nat.le_of_ble_eq_true rfl) ⟨6, ?_⟩
  have es : lva [.ref 2, .int l1] ++ List.replicate 6 none = [some (.ref 2), some (.int l1), none, none, none, none, none, none] := rfl
  rw [es]
  refine R.lconst (m0 := 0) 1 dX3_greatestBy_0 rfl (by decide +kernel) ?_
  refine R.lst2n 2 dX3_greatestBy_1 rfl (Nat.le_of_ble_eq_true rfl) rfl ?_
  refine R.iconst 3 dX3_greatestBy_2 rfl ?_
  refine R.ist4 5 dX3_greatestBy_3 rfl (Nat.le_of_ble_eq_true rfl) rfl ?_
  obtain ⟨n1, h⟩ := h
  exact Rch.dropk (sl_X3_greatestBy_5 Q _ n1 _ _ _ h) ⟨rfl, ⟨rfl, ⟨rfl, ⟨rfl, trivial⟩⟩⟩⟩

abbrev k_X3_what : MK := ("FrostBoxModel", cX3_what, 6, (some .int), [], "what")
def b_X3_what_85 (Q : Int32 → Wd → Prop) (R58 : Int32 → Int64 → Int32 → Wd → Prop) (l1 : Int32) (l2 : Int32) (l3 : Int64) (l5 : Int32) (w : Wd) : Prop := wp_X3_heldBy l5 w (fun r1 w2 => R58 l2 (l3 + r1) (l5 + iz 1) w2)
def wl_X3_what_58 (Q : Int32 → Wd → Prop) (l1 : Int32) (R58 : Int32 → Int64 → Int32 → Wd → Prop) (l2 : Int32) (l3 : Int64) (l5 : Int32) (w : Wd) : Prop := ((gI w 85) ≤ l5 → (¬ l1 = iz 0 → (¬ (lg_cmp l3 (lz 0)) = iz 0 → wp_X3_heldBy l2 w (fun r1 w2 => (¬ l3 = 0) ∧ Q ((((lz 1000) * r1) / l3)).toInt32 w2)) ∧ ((lg_cmp l3 (lz 0)) = iz 0 → Q (iz 0) w)) ∧ (l1 = iz 0 → Q l2 w)) ∧ (¬ (gI w 85) ≤ l5 → wp_X3_heldBy l5 w (fun r3 w4 => wp_X3_heldBy l2 w4 (fun r5 w6 => ((lg_cmp r3 r5) ≤ iz 0 → b_X3_what_85 Q R58 l1 l2 l3 l5 w6) ∧ (¬ (lg_cmp r3 r5) ≤ iz 0 → b_X3_what_85 Q R58 l1 l5 l3 l5 w6))))
def lp_X3_what_58 (Q : Int32 → Wd → Prop) (l1 : Int32) : Nat → Int32 → Int64 → Int32 → Wd → Prop
  | 0, _, _, _, _ => False
  | n + 1, l2, l3, l5, w => wl_X3_what_58 Q l1 (lp_X3_what_58 Q l1 n) l2 l3 l5 w
def wp_X3_what (l1 : Int32) (w : Wd) (Q : Int32 → Wd → Prop) : Prop := ∀ w1, w1 = sI w 60 (iz 0) → ((gI w1 85) = iz 0 → Q (iz (-1)) w1) ∧ (¬ (gI w1 85) = iz 0 → wp_X3_isIn ((l1).toInt64) (lz 0) (lz 2) w1 (fun r2 w3 => (¬ r2 = iz 0 → (¬ l1 = (iz 2) → ∃ n4, lp_X3_what_58 Q l1 n4 (iz 0) (lz 0) (iz 0) w3) ∧ (l1 = (iz 2) → wp_X3_greatestBy (iz 1) w3 (fun r5 w6 => wp_X3_greatestBy (iz 0) w6 (fun r7 w8 => (iz 0 ≤ (lg_cmp r5 r7) → Q (iz 0) w8) ∧ (¬ iz 0 ≤ (lg_cmp r5 r7) → Q (iz 1) w8))))) ∧ (r2 = iz 0 → Q (iz (-1)) w3)))
set_option maxRecDepth 100000 in
set_option maxHeartbeats 4000000 in
theorem s_X3_what_85 {γ : GG} (Q : Int32 → Wd → Prop) (R58 : Int32 → Int64 → Int32 → Wd → Prop) (l1 : Int32) (l2 : Int32) (l3 : Int64) (l5 : Int32) (hR58 : ∀ (l2 : Int32) (l3 : Int64) (l5 : Int32) (w : Wd), R58 l2 l3 l5 w → Rch γ 4 k_X3_what 58 [some (.ref 2), some (.int l1), some (.int l2), some (.long l3), none, some (.int l5)] [] w (qI Q) xN) : ∀ (w : Wd), b_X3_what_85 Q R58 l1 l2 l3 l5 w → Rch γ 4 k_X3_what 85 [some (.ref 2), some (.int l1), some (.int l2), some (.long l3), none, some (.int l5)] [] w (qI Q) xN := by
  intro w h
  unfold b_X3_what_85 at h
  refine R.lload_n 86 dX3_what_85 rfl rfl ?_
  refine R.aload_n 87 dX3_what_86 rfl rfl ?_
  refine R.iload 89 dX3_what_87 rfl rfl ?_
  refine Rch.callv (sd_X3_heldBy _ _ _ h) dX3_what_89 (lw_V q1825 q1827 qs136 q146 q1828) dk_X3_heldBy rcM (by decide) (Nat.le_of_ble_eq_true rfl) rfl rfl (Nat.le_of_ble_eq_true rfl) (kJ 92 rfl fun r1 w2 h => ?_) kN
  refine R.ladd 93 dX3_what_92 rfl ?_
  refine R.lst3n 94 dX3_what_93 rfl (Nat.le_of_ble_eq_true rfl) rfl ?_
  refine R.inc5 97 dX3_what_94 rfl (Nat.le_of_ble_eq_true rfl) rfl ?_
  refine R.goto 58 dX3_what_97 (by decide) ?_
  exact Rch.dropk (hR58 _ _ _ _ h) ⟨rfl, ⟨rfl, ⟨rfl, ⟨rfl, ⟨rfl, trivial⟩⟩⟩⟩⟩
set_option maxRecDepth 100000 in
set_option maxHeartbeats 4000000 in
theorem sl_X3_what_58 {γ : GG} (Q : Int32 → Wd → Prop) (l1 : Int32) : ∀ (n : Nat) (l2 : Int32) (l3 : Int64) (l5 : Int32) (w : Wd), lp_X3_what_58 Q l1 n l2 l3 l5 w → Rch γ 4 k_X3_what 58 [some (.ref 2), some (.int l1), some (.int l2), some (.long l3), none, some (.int l5)] [] w (qI Q) xN := by
  intro n
  induction n with
  | zero => intro _ _ _ _ h; exact h.elim
  | succ n hR58 =>
    intro l2 l3 l5 w h
    have h : wl_X3_what_58 Q l1 (lp_X3_what_58 Q l1 n) l2 l3 l5 w := h
    unfold wl_X3_what_58 at h
    refine R.iload 60 dX3_what_58 rfl rfl ?_
    refine R.aload_n 61 dX3_what_60 rfl rfl ?_
    refine gf_85 64 dX3_what_61 rfl rfl ?_
    refine R.icmp_ge 100 67 dX3_what_64 (by decide) rfl (fun hc => ?_) (fun hc => ?_)
    · replace h := h.1 hc
      refine R.iload_n 101 dX3_what_100 rfl rfl ?_
      refine R.if_ne 106 104 dX3_what_101 (by decide) rfl (fun hc => ?_) (fun hc => ?_)
      · replace h := h.1 hc
        refine R.lload_n 107 dX3_what_106 rfl rfl ?_
        refine R.lconst (m0 := 0) 108 dX3_what_107 rfl (by decide +kernel) ?_
        refine R.lcmp 109 dX3_what_108 rfl ?_
        refine R.if_ne 116 112 dX3_what_109 (by decide) rfl (fun hc => ?_) (fun hc => ?_)
        · replace h := h.1 hc
          refine R.ldc2 (n := 1000) 119 dX3_what_116 rfl q1829 (by decide +kernel) ?_
          refine R.aload_n 120 dX3_what_119 rfl rfl ?_
          refine R.iload_n 121 dX3_what_120 rfl rfl ?_
          refine Rch.callv (sd_X3_heldBy _ _ _ h) dX3_what_121 (lw_V q1825 q1827 qs136 q146 q1828) dk_X3_heldBy rcM (by decide) (Nat.le_of_ble_eq_true rfl) rfl rfl (Nat.le_of_ble_eq_true rfl) (kJ 124 rfl fun r1 w2 h => ?_) kN
          refine R.lmul 125 dX3_what_124 rfl ?_
          refine R.lload_n 126 dX3_what_125 rfl rfl ?_
          obtain ⟨hz, h⟩ := h
          refine R.ldiv 127 dX3_what_126 rfl hz ?_
          refine R.l2i 128 dX3_what_127 rfl ?_
          exact R.retI dX3_what_128 rfl h
        · replace h := h.2 hc
          refine R.iconst 113 dX3_what_112 rfl ?_
          refine R.goto 128 dX3_what_113 (by decide) ?_
          exact R.retI dX3_what_128 rfl h
      · replace h := h.2 hc
        refine R.iload_n 105 dX3_what_104 rfl rfl ?_
        exact R.retI dX3_what_105 rfl h
    · replace h := h.2 hc
      refine R.aload_n 68 dX3_what_67 rfl rfl ?_
      refine R.iload 70 dX3_what_68 rfl rfl ?_
      refine Rch.callv (sd_X3_heldBy _ _ _ h) dX3_what_70 (lw_V q1825 q1827 qs136 q146 q1828) dk_X3_heldBy rcM (by decide) (Nat.le_of_ble_eq_true rfl) rfl rfl (Nat.le_of_ble_eq_true rfl) (kJ 73 rfl fun r3 w4 h => ?_) kN
      refine R.aload_n 74 dX3_what_73 rfl rfl ?_
      refine R.iload_n 75 dX3_what_74 rfl rfl ?_
      refine Rch.callv (sd_X3_heldBy _ _ _ h) dX3_what_75 (lw_V q1825 q1827 qs136 q146 q1828) dk_X3_heldBy rcM (by decide) (Nat.le_of_ble_eq_true rfl) rfl rfl (Nat.le_of_ble_eq_true rfl) (kJ 78 rfl fun r5 w6 h => ?_) kN
      refine R.lcmp 79 dX3_what_78 rfl ?_
      refine R.if_le 85 82 dX3_what_79 (by decide) rfl (fun hc => ?_) (fun hc => ?_)
      · replace h := h.1 hc
        exact Rch.dropk (s_X3_what_85 Q _ _ _ _ _ hR58 _ h) ⟨rfl, ⟨rfl, ⟨rfl, ⟨rfl, ⟨rfl, trivial⟩⟩⟩⟩⟩
      · replace h := h.2 hc
        refine R.iload 84 dX3_what_82 rfl rfl ?_
        refine R.ist2n 85 dX3_what_84 rfl (Nat.le_of_ble_eq_true rfl) rfl ?_
        exact Rch.dropk (s_X3_what_85 Q _ _ _ _ _ hR58 _ h) ⟨rfl, ⟨rfl, ⟨rfl, ⟨rfl, ⟨rfl, trivial⟩⟩⟩⟩⟩
set_option maxRecDepth 100000 in
set_option maxHeartbeats 4000000 in
theorem sd_X3_what {γ : GG} (l1 : Int32) (w : Wd) (Q : Int32 → Wd → Prop) : wp_X3_what l1 w Q → Ctr γ 4 yX3_what (ws_ yX3_what cX3_what 6 (some .int)) [.ref 2, .int l1] w (qI Q) xN := by
  intro h
  unfold wp_X3_what at h
  refine Ctr.of (μ := k_X3_what) (by decide) rfl rfl rfl (Nat.le_of_ble_eq_true rfl) ⟨4, ?_⟩
  have es : lva [.ref 2, .int l1] ++ List.replicate 4 none = [some (.ref 2), some (.int l1), none, none, none, none] := rfl
  rw [es]
  refine R.aload_n 1 dX3_what_0 rfl rfl ?_
  refine R.iconst 2 dX3_what_1 rfl ?_
  replace h := h _ rfl
  refine pf_60 _ 5 dX3_what_2 rfl rfl ?_
  refine R.aload_n 6 dX3_what_5 rfl rfl ?_
  refine gf_85 9 dX3_what_6 rfl rfl ?_
  refine R.if_eq 24 12 dX3_what_9 (by decide) rfl (fun hc => ?_) (fun hc => ?_)
  · replace h := h.1 hc
    refine R.iconst 25 dX3_what_24 rfl ?_
    exact R.retI dX3_what_25 rfl h
  · replace h := h.2 hc
    refine R.iload_n 13 dX3_what_12 rfl rfl ?_
    refine R.i2l 14 dX3_what_13 rfl ?_
    refine R.lconst (m0 := 0) 15 dX3_what_14 rfl (by decide +kernel) ?_
    refine R.ldc2 (n := 2) 18 dX3_what_15 rfl q1425 (by decide +kernel) ?_
    refine Rch.calls (sd_X3_isIn _ _ _ _ _ h) dX3_what_18 (lw_S q1426 q1427 q146 q1428) dk_X3_isIn (by decide) (Nat.le_of_ble_eq_true rfl) rfl rfl (Nat.le_of_ble_eq_true rfl) (kI 21 rfl fun r2 w3 h => ?_) kN
    refine R.if_ne 26 24 dX3_what_21 (by decide) rfl (fun hc => ?_) (fun hc => ?_)
    · replace h := h.1 hc
      refine R.iload_n 27 dX3_what_26 rfl rfl ?_
      refine R.iconst 28 dX3_what_27 rfl ?_
      refine R.icmp_ne 51 31 dX3_what_28 (by decide) rfl (fun hc => ?_) (fun hc => ?_)
      · replace h := h.1 hc
        refine R.iconst 52 dX3_what_51 rfl ?_
        refine R.ist2n 53 dX3_what_52 rfl (Nat.le_of_ble_eq_true rfl) rfl ?_
        refine R.lconst (m0 := 0) 54 dX3_what_53 rfl (by decide +kernel) ?_
        refine R.lst3n 55 dX3_what_54 rfl (Nat.le_of_ble_eq_true rfl) rfl ?_
        refine R.iconst 56 dX3_what_55 rfl ?_
        refine R.ist5 58 dX3_what_56 rfl (Nat.le_of_ble_eq_true rfl) rfl ?_
        obtain ⟨n4, h⟩ := h
        exact Rch.dropk (sl_X3_what_58 Q _ n4 _ _ _ _ h) ⟨rfl, ⟨rfl, ⟨rfl, ⟨rfl, ⟨rfl, trivial⟩⟩⟩⟩⟩
      · replace h := h.2 hc
        refine R.aload_n 32 dX3_what_31 rfl rfl ?_
        refine R.iconst 33 dX3_what_32 rfl ?_
        refine Rch.callv (sd_X3_greatestBy _ _ _ h) dX3_what_33 (lw_V q1821 q1823 qs135 q146 q1824) dk_X3_greatestBy rcM (by decide) (Nat.le_of_ble_eq_true rfl) rfl rfl (Nat.le_of_ble_eq_true rfl) (kJ 36 rfl fun r5 w6 h => ?_) kN
        refine R.aload_n 37 dX3_what_36 rfl rfl ?_
        refine R.iconst 38 dX3_what_37 rfl ?_
        refine Rch.callv (sd_X3_greatestBy _ _ _ h) dX3_what_38 (lw_V q1821 q1823 qs135 q146 q1824) dk_X3_greatestBy rcM (by decide) (Nat.le_of_ble_eq_true rfl) rfl rfl (Nat.le_of_ble_eq_true rfl) (kJ 41 rfl fun r7 w8 h => ?_) kN
        refine R.lcmp 42 dX3_what_41 rfl ?_
        refine R.if_ge 49 45 dX3_what_42 (by decide) rfl (fun hc => ?_) (fun hc => ?_)
        · replace h := h.1 hc
          refine R.iconst 50 dX3_what_49 rfl ?_
          exact R.retI dX3_what_50 rfl h
        · replace h := h.2 hc
          refine R.iconst 46 dX3_what_45 rfl ?_
          refine R.goto 50 dX3_what_46 (by decide) ?_
          exact R.retI dX3_what_50 rfl h
    · replace h := h.2 hc
      refine R.iconst 25 dX3_what_24 rfl ?_
      exact R.retI dX3_what_25 rfl h
