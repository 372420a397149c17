set_option maxRecDepth 100000

abbrev k_X10_init : MK := ("FrostBox$Test", cX10_init, 1, none, [], "<init>")
def wp_X10_init (l0 : Nat) (w : Wd) (Q : Wd → Prop) : Prop := Q w
set_option maxRecDepth 100000 in
set_option maxHeartbeats 4000000 in
theorem sd_X10_init {γ : GG} (l0 : Nat) (w : Wd) (Q : Wd → Prop) : wp_X10_init l0 w Q → Ctr γ 1 yX10_init (ws_ yX10_init cX10_init 1 none) [.ref l0] w (qV Q) xN := by
  intro h
  unfold wp_X10_init at h
  refine Ctr.of (μ := k_X10_init) (by decide) rfl rfl rfl (Nat.le_of_ble_eq_true rfl) ⟨0, ?_⟩
  have es : lva [.ref l0] ++ List.replicate 0 none = [some (.ref l0)] := rfl
  rw [es]
  refine R.aload_n 1 dX10_init_0 rfl rfl ?_
  refine R.objInit 4 dX10_init_1 rfl q612 q172 q173 (by omega) (Nat.le_of_ble_eq_true rfl) ?_
  exact R.retV dX10_init_4 rfl h

abbrev k_X12_init : MK := ("FrostBox$Compare", cX12_init, 4, none, [], "<init>")
def wp_X12_init (l0 : Nat) (l1 : Int32) (l2 : Option Nat) (l3 : Option Nat) (w : Wd) (Q : Wd → Prop) : Prop := wp_X10_init l0 w (fun w2 => ∃ fs3, gF w2 l0 = some (8, fs3) ∧ 1 < fs3.length ∧ (∀ w4, w4 = sF w2 l0 (8, fs3.set 1 (.int l1)) → ∃ fs5, gF w4 l0 = some (8, fs5) ∧ 2 < fs5.length ∧ (∀ w6, w6 = sF w4 l0 (8, fs5.set 2 (rv l2)) → ∃ fs7, gF w6 l0 = some (8, fs7) ∧ 3 < fs7.length ∧ (∀ w8, w8 = sF w6 l0 (8, fs7.set 3 (rv l3)) → Q w8))))
set_option maxRecDepth 100000 in
set_option maxHeartbeats 4000000 in
theorem sd_X12_init {γ : GG} (l0 : Nat) (l1 : Int32) (l2 : Option Nat) (l3 : Option Nat) (w : Wd) (Q : Wd → Prop) : wp_X12_init l0 l1 l2 l3 w Q → Ctr γ 2 yX12_init (ws_ yX12_init cX12_init 4 none) [.ref l0, .int l1, rv l2, rv l3] w (qV Q) xN := by
  intro h
  unfold wp_X12_init at h
  refine Ctr.of (μ := k_X12_init) (by decide) rfl rfl rfl (by cases l2 <;> cases l3 <;> exact Nat.le_of_ble_eq_true rfl) ⟨0, ?_⟩
  have es : lva [.ref l0, .int l1, rv l2, rv l3] ++ List.replicate 0 none = [some (.ref l0), some (.int l1), some (rv l2), some (rv l3)] := by cases l2 <;> cases l3 <;> rfl
  rw [es]
  refine R.aload_n 1 dX12_init_0 rfl rfl ?_
  refine Rch.callIN (sd_X10_init _ _ _ h) dX12_init_1 (lw_meth q611) q159 (List.mem_of_getElem? (i := 4) rfl) q610 rfl dk_X10_init (by decide) (Nat.le_of_ble_eq_true rfl) rfl rfl (Nat.le_of_ble_eq_true rfl) (kV 4 rfl fun w2 h => ?_) kN
  refine R.aload_n 5 dX12_init_4 rfl rfl ?_
  refine R.iload_n 6 dX12_init_5 rfl rfl ?_
  obtain ⟨fs3, hg, hl, h⟩ := h
  replace h := h _ rfl
  refine R.putF (k0 := 1) (T := TX12) (ty := .int) (v := .int l1) 9 dX12_init_6 rfl rfl rfl rfl in_X12 tyX12_ok nmX12 q630 rfl (by decide) (by decide +kernel) rfl rfl hl hg ?_
  refine R.aload_n 10 dX12_init_9 rfl rfl ?_
  refine R.aload_nQ 11 dX12_init_10 rfl rfl ?_
  obtain ⟨fs5, hg, hl, h⟩ := h
  replace h := h _ rfl
  refine R.putF (k0 := 2) (T := TX12) (ty := (.object "FrostBox$Sum")) (v := rv l2) 14 dX12_init_11 rfl rfl rfl rfl in_X12 tyX12_ok nmX12 q631 rfl (by decide) (by decide +kernel) (nar_o γ _ _) (fit_o γ _ _) hl hg ?_
  refine R.aload_n 15 dX12_init_14 rfl rfl ?_
  refine R.aload_nQ 16 dX12_init_15 rfl rfl ?_
  obtain ⟨fs7, hg, hl, h⟩ := h
  replace h := h _ rfl
  refine R.putF (k0 := 3) (T := TX12) (ty := (.object "FrostBox$Sum")) (v := rv l3) 19 dX12_init_16 rfl rfl rfl rfl in_X12 tyX12_ok nmX12 q632 rfl (by decide) (by decide +kernel) (nar_o γ _ _) (fit_o γ _ _) hl hg ?_
  exact R.retV dX12_init_19 rfl h

abbrev k_X12_holds : MK := ("FrostBox$Compare", cX12_holds, 4, (some .boolean), [], "holds")
def wp_X12_holds (l0 : Nat) (l1 : Nat) (w : Wd) (Q : Int32 → Wd → Prop) : Prop := ∃ x1, ndO w l0 8 2 x1 ∧ ∃ i2, x1 = some i2 ∧ (pf_val 30) i2 l1 w (fun r3 w4 => ∃ x5, ndO w4 l0 8 3 x5 ∧ ∃ i6, x5 = some i6 ∧ (pf_val 30) i6 l1 w4 (fun r7 w8 => ∃ x9, ndI w8 l0 8 1 x9 ∧ (¬ x9 = (iz 61) → ∃ x10, ndI w8 l0 8 1 x10 ∧ (¬ x10 = (iz 60) → (r3 ≤ r7 → Q (iz 0) w8) ∧ (¬ r3 ≤ r7 → Q (iz 1) w8)) ∧ (x10 = (iz 60) → (r7 ≤ r3 → Q (iz 0) w8) ∧ (¬ r7 ≤ r3 → Q (iz 1) w8))) ∧ (x9 = (iz 61) → (¬ r3 = r7 → Q (iz 0) w8) ∧ (r3 = r7 → Q (iz 1) w8))))
set_option maxRecDepth 100000 in
set_option maxHeartbeats 4000000 in
theorem sd_X12_holds {γ : GG} (l0 : Nat) (l1 : Nat) (w : Wd) (Q : Int32 → Wd → Prop) : wp_X12_holds l0 l1 w Q → Ctr γ 62 yX12_holds (ws_ yX12_holds cX12_holds 4 (some .boolean)) [.ref l0, .ref l1] w (qI Q) xN := by
  intro h
  unfold wp_X12_holds at h
  refine Ctr.of (μ := k_X12_holds) (by decide) rfl rfl rfl (Nat.le_of_ble_eq_true rfl) ⟨2, ?_⟩
  have es : lva [.ref l0, .ref l1] ++ List.replicate 2 none = [some (.ref l0), some (.ref l1), none, none] := rfl
  rw [es]
  refine R.aload_n 1 dX12_holds_0 rfl rfl ?_
  obtain ⟨x1, ⟨fs, hg, hv⟩, h⟩ := h
  refine R.getN (k0 := 2) (T := TX12) 4 dX12_holds_1 rfl rfl rfl in_X12 q631 rfl (by decide) hg hv ?_
  refine R.aload_n 5 dX12_holds_4 rfl rfl ?_
  obtain ⟨i2, ho, h⟩ := h
  refine R.dr1 ho ?_
  refine Rch.callVir (n := 1) (sf_val 30 _ _ _ _ h) dX12_holds_5 q865 q867 (List.mem_of_getElem? (i := 0) rfl) (by decide +kernel) (by decide) rfl rfl (Nat.le_of_ble_eq_true rfl) (kI 8 rfl fun r3 w4 h => ?_)
  refine R.ist2n 9 dX12_holds_8 rfl (Nat.le_of_ble_eq_true rfl) rfl ?_
  refine R.aload_n 10 dX12_holds_9 rfl rfl ?_
  obtain ⟨x5, ⟨fs, hg, hv⟩, h⟩ := h
  refine R.getN (k0 := 3) (T := TX12) 13 dX12_holds_10 rfl rfl rfl in_X12 q632 rfl (by decide) hg hv ?_
  refine R.aload_n 14 dX12_holds_13 rfl rfl ?_
  obtain ⟨i6, ho, h⟩ := h
  refine R.dr1 ho ?_
  refine Rch.callVir (n := 1) (sf_val 30 _ _ _ _ h) dX12_holds_14 q865 q867 (List.mem_of_getElem? (i := 0) rfl) (by decide +kernel) (by decide) rfl rfl (Nat.le_of_ble_eq_true rfl) (kI 17 rfl fun r7 w8 h => ?_)
  refine R.ist3n 18 dX12_holds_17 rfl (Nat.le_of_ble_eq_true rfl) rfl ?_
  refine R.aload_n 19 dX12_holds_18 rfl rfl ?_
  obtain ⟨x9, ⟨fs, hg, hv⟩, h⟩ := h
  refine R.getN (k0 := 1) (T := TX12) 22 dX12_holds_19 rfl rfl rfl in_X12 q630 rfl (by decide) hg hv ?_
  refine R.bipush 24 dX12_holds_22 rfl (by decide +kernel) ?_
  refine R.icmp_ne 40 27 dX12_holds_24 (by decide) rfl (fun hc => ?_) (fun hc => ?_)
  · replace h := h.1 hc
    refine R.aload_n 41 dX12_holds_40 rfl rfl ?_
    obtain ⟨x10, ⟨fs, hg, hv⟩, h⟩ := h
    refine R.getN (k0 := 1) (T := TX12) 44 dX12_holds_41 rfl rfl rfl in_X12 q630 rfl (by decide) hg hv ?_
    refine R.bipush 46 dX12_holds_44 rfl (by decide +kernel) ?_
    refine R.icmp_ne 62 49 dX12_holds_46 (by decide) rfl (fun hc => ?_) (fun hc => ?_)
    · replace h := h.1 hc
      refine R.iload_n 63 dX12_holds_62 rfl rfl ?_
      refine R.iload_n 64 dX12_holds_63 rfl rfl ?_
      refine R.icmp_le 71 67 dX12_holds_64 (by decide) rfl (fun hc => ?_) (fun hc => ?_)
      · replace h := h.1 hc
        refine R.iconst 72 dX12_holds_71 rfl ?_
        exact R.retZ dX12_holds_72 rfl zok0 h
      · replace h := h.2 hc
        refine R.iconst 68 dX12_holds_67 rfl ?_
        refine R.goto 72 dX12_holds_68 (by decide) ?_
        exact R.retZ dX12_holds_72 rfl zok1 h
    · replace h := h.2 hc
      refine R.iload_n 50 dX12_holds_49 rfl rfl ?_
      refine R.iload_n 51 dX12_holds_50 rfl rfl ?_
      refine R.icmp_ge 58 54 dX12_holds_51 (by decide) rfl (fun hc => ?_) (fun hc => ?_)
      · replace h := h.1 hc
        refine R.iconst 59 dX12_holds_58 rfl ?_
        refine R.goto 72 dX12_holds_59 (by decide) ?_
        exact R.retZ dX12_holds_72 rfl zok0 h
      · replace h := h.2 hc
        refine R.iconst 55 dX12_holds_54 rfl ?_
        refine R.goto 72 dX12_holds_55 (by decide) ?_
        exact R.retZ dX12_holds_72 rfl zok1 h
  · replace h := h.2 hc
    refine R.iload_n 28 dX12_holds_27 rfl rfl ?_
    refine R.iload_n 29 dX12_holds_28 rfl rfl ?_
    refine R.icmp_ne 36 32 dX12_holds_29 (by decide) rfl (fun hc => ?_) (fun hc => ?_)
    · replace h := h.1 hc
      refine R.iconst 37 dX12_holds_36 rfl ?_
      refine R.goto 72 dX12_holds_37 (by decide) ?_
      exact R.retZ dX12_holds_72 rfl zok0 h
    · replace h := h.2 hc
      refine R.iconst 33 dX12_holds_32 rfl ?_
      refine R.goto 72 dX12_holds_33 (by decide) ?_
      exact R.retZ dX12_holds_72 rfl zok1 h

abbrev k_X11_init : MK := ("FrostBox$Not", cX11_init, 2, none, [], "<init>")
def wp_X11_init (l0 : Nat) (l1 : Option Nat) (w : Wd) (Q : Wd → Prop) : Prop := wp_X10_init l0 w (fun w2 => ∃ fs3, gF w2 l0 = some (7, fs3) ∧ 1 < fs3.length ∧ (∀ w4, w4 = sF w2 l0 (7, fs3.set 1 (rv l1)) → Q w4))
set_option maxRecDepth 100000 in
set_option maxHeartbeats 4000000 in
theorem sd_X11_init {γ : GG} (l0 : Nat) (l1 : Option Nat) (w : Wd) (Q : Wd → Prop) : wp_X11_init l0 l1 w Q → Ctr γ 2 yX11_init (ws_ yX11_init cX11_init 2 none) [.ref l0, rv l1] w (qV Q) xN := by
  intro h
  unfold wp_X11_init at h
  refine Ctr.of (μ := k_X11_init) (by decide) rfl rfl rfl (by cases l1 <;> exact Nat.le_of_ble_eq_true rfl) ⟨0, ?_⟩
  have es : lva [.ref l0, rv l1] ++ List.replicate 0 none = [some (.ref l0), some (rv l1)] := by cases l1 <;> rfl
  rw [es]
  refine R.aload_n 1 dX11_init_0 rfl rfl ?_
  refine Rch.callIN (sd_X10_init _ _ _ h) dX11_init_1 (lw_meth q611) q159 (List.mem_of_getElem? (i := 3) rfl) q610 rfl dk_X10_init (by decide) (Nat.le_of_ble_eq_true rfl) rfl rfl (Nat.le_of_ble_eq_true rfl) (kV 4 rfl fun w2 h => ?_) kN
  refine R.aload_n 5 dX11_init_4 rfl rfl ?_
  refine R.aload_nQ 6 dX11_init_5 rfl rfl ?_
  obtain ⟨fs3, hg, hl, h⟩ := h
  replace h := h _ rfl
  refine R.putF (k0 := 1) (T := TX11) (ty := (.object "FrostBox$Test")) (v := rv l1) 9 dX11_init_6 rfl rfl rfl rfl in_X11 tyX11_ok nmX11 q613 rfl (by decide) (by decide +kernel) (nar_o γ _ _) (fit_o γ _ _) hl hg ?_
  exact R.retV dX11_init_9 rfl h

abbrev k_X11_holds : MK := ("FrostBox$Not", cX11_holds, 2, (some .boolean), [], "holds")
def wp_X11_holds (Phold : Nat → Nat → Wd → (Int32 → Wd → Prop) → Prop) (l0 : Nat) (l1 : Nat) (w : Wd) (Q : Int32 → Wd → Prop) : Prop := ∃ x1, ndO w l0 7 1 x1 ∧ ∃ i2, x1 = some i2 ∧ Phold i2 l1 w (fun r3 w4 => (¬ r3 = iz 0 → Q (iz 0) w4) ∧ (r3 = iz 0 → Q (iz 1) w4))
set_option maxRecDepth 100000 in
set_option maxHeartbeats 4000000 in
theorem sd_X11_holds {γ : GG} {dP : Nat} (hB : 0 ≤ dP) (Phold : Nat → Nat → Wd → (Int32 → Wd → Prop) → Prop) (hPhold : ∀ (r a : Nat) (w : Wd) (Q : Int32 → Wd → Prop), Phold r a w Q → VCt γ dP ⟨"FrostBox$Test", "holds", "([I)Z"⟩ r [.ref a] w (qI Q)) (l0 : Nat) (l1 : Nat) (w : Wd) (Q : Int32 → Wd → Prop) : wp_X11_holds Phold l0 l1 w Q → Ctr γ (dP + 1) yX11_holds (ws_ yX11_holds cX11_holds 2 (some .boolean)) [.ref l0, .ref l1] w (qI Q) xN := by
  intro h
  unfold wp_X11_holds at h
  refine Ctr.of (μ := k_X11_holds) (by decide) rfl rfl rfl (Nat.le_of_ble_eq_true rfl) ⟨0, ?_⟩
  have es : lva [.ref l0, .ref l1] ++ List.replicate 0 none = [some (.ref l0), some (.ref l1)] := rfl
  rw [es]
  refine R.aload_n 1 dX11_holds_0 rfl rfl ?_
  obtain ⟨x1, ⟨fs, hg, hv⟩, h⟩ := h
  refine R.getN (k0 := 1) (T := TX11) 4 dX11_holds_1 rfl rfl rfl in_X11 q613 rfl (by decide) hg hv ?_
  refine R.aload_n 5 dX11_holds_4 rfl rfl ?_
  obtain ⟨i2, ho, h⟩ := h
  refine R.dr1 ho ?_
  refine Rch.callVir (n := 1) (hPhold _ _ _ _ h) dX11_holds_5 q894 q861 (List.mem_of_getElem? (i := 1) rfl) (by decide +kernel) (by omega) rfl rfl (Nat.le_of_ble_eq_true rfl) (kI 8 rfl fun r3 w4 h => ?_)
  refine R.if_ne 15 11 dX11_holds_8 (by decide) rfl (fun hc => ?_) (fun hc => ?_)
  · replace h := h.1 hc
    refine R.iconst 16 dX11_holds_15 rfl ?_
    exact R.retZ dX11_holds_16 rfl zok0 h
  · replace h := h.2 hc
    refine R.iconst 12 dX11_holds_11 rfl ?_
    refine R.goto 16 dX11_holds_12 (by decide) ?_
    exact R.retZ dX11_holds_16 rfl zok1 h

abbrev k_X13_init : MK := ("FrostBox$Several", cX13_init, 3, none, [], "<init>")
def wp_X13_init (l0 : Nat) (l1 : Int32) (l2 : Option Nat) (w : Wd) (Q : Wd → Prop) : Prop := wp_X10_init l0 w (fun w2 => zok l1 ∧ ∃ fs3, gF w2 l0 = some (9, fs3) ∧ 1 < fs3.length ∧ (∀ w4, w4 = sF w2 l0 (9, fs3.set 1 (.int l1)) → ∃ fs5, gF w4 l0 = some (9, fs5) ∧ 2 < fs5.length ∧ (∀ w6, w6 = sF w4 l0 (9, fs5.set 2 (rv l2)) → ∃ fs7, gF w6 l0 = some (9, fs7) ∧ 3 < fs7.length ∧ (∀ w8, w8 = sF w6 l0 (9, fs7.set 3 (rv l2)) → Q w8))))
set_option maxRecDepth 100000 in
set_option maxHeartbeats 4000000 in
theorem sd_X13_init {γ : GG} (l0 : Nat) (l1 : Int32) (l2 : Option Nat) (w : Wd) (Q : Wd → Prop) : wp_X13_init l0 l1 l2 w Q → Ctr γ 2 yX13_init (ws_ yX13_init cX13_init 3 none) [.ref l0, .int l1, rv l2] w (qV Q) xN := by
  intro h
  unfold wp_X13_init at h
  refine Ctr.of (μ := k_X13_init) (by decide) rfl rfl rfl (by cases l2 <;> exact Nat.le_of_ble_eq_true rfl) ⟨0, ?_⟩
  have es : lva [.ref l0, .int l1, rv l2] ++ List.replicate 0 none = [some (.ref l0), some (.int l1), some (rv l2)] := by cases l2 <;> rfl
  rw [es]
  refine R.aload_n 1 dX13_init_0 rfl rfl ?_
  refine Rch.callIN (sd_X10_init _ _ _ h) dX13_init_1 (lw_meth q611) q159 (List.mem_of_getElem? (i := 5) rfl) q610 rfl dk_X10_init (by decide) (Nat.le_of_ble_eq_true rfl) rfl rfl (Nat.le_of_ble_eq_true rfl) (kV 4 rfl fun w2 h => ?_) kN
  refine R.aload_n 5 dX13_init_4 rfl rfl ?_
  refine R.iload_n 6 dX13_init_5 rfl rfl ?_
  obtain ⟨hzk, h⟩ := h
  obtain ⟨fs3, hg, hl, h⟩ := h
  replace h := h _ rfl
  refine R.putF (k0 := 1) (T := TX13) (ty := .boolean) (v := .int l1) 9 dX13_init_6 rfl rfl rfl rfl in_X13 tyX13_ok nmX13 q647 rfl (by decide) (by decide +kernel) (zok_nar hzk) (zok_fit hzk) hl hg ?_
  refine R.aload_n 10 dX13_init_9 rfl rfl ?_
  refine R.aload_nQ 11 dX13_init_10 rfl rfl ?_
  obtain ⟨fs5, hg, hl, h⟩ := h
  replace h := h _ rfl
  refine R.putN (k0 := 2) (T := TX13) (ty := (.object "FrostBox$Test")) (v := rv l2) 14 dX13_init_11 rfl rfl rfl in_X13 tyX13_ok nmX13 q648 rfl (by decide) (by decide +kernel) (nar_o γ _ _) (fit_o γ _ _) hl hg ?_
  refine R.aload_n 15 dX13_init_14 rfl rfl ?_
  refine R.aload_nQ 16 dX13_init_15 rfl rfl ?_
  obtain ⟨fs7, hg, hl, h⟩ := h
  replace h := h _ rfl
  refine R.putN (k0 := 3) (T := TX13) (ty := (.object "FrostBox$Test")) (v := rv l2) 19 dX13_init_16 rfl rfl rfl in_X13 tyX13_ok nmX13 q649 rfl (by decide) (by decide +kernel) (nar_o γ _ _) (fit_o γ _ _) hl hg ?_
  exact R.retV dX13_init_19 rfl h

abbrev k_X13_add : MK := ("FrostBox$Several", cX13_add, 2, none, [], "add")
def wp_X13_add (l0 : Nat) (l1 : Option Nat) (w : Wd) (Q : Wd → Prop) : Prop := ∃ x1, ndO w l0 9 3 x1 ∧ ∃ i2, x1 = some i2 ∧ ∃ ci3 fs4, (ci3 = 7 ∨ ci3 = 8 ∨ ci3 = 9) ∧ gF w i2 = some (ci3, fs4) ∧ 0 < fs4.length ∧ (∀ w5, w5 = sF w i2 (ci3, fs4.set 0 (rv l1)) → ∃ fs6, gF w5 l0 = some (9, fs6) ∧ 3 < fs6.length ∧ (∀ w7, w7 = sF w5 l0 (9, fs6.set 3 (rv l1)) → Q w7))
set_option maxRecDepth 100000 in
set_option maxHeartbeats 4000000 in
theorem sd_X13_add {γ : GG} (l0 : Nat) (l1 : Option Nat) (w : Wd) (Q : Wd → Prop) : wp_X13_add l0 l1 w Q → Ctr γ 1 yX13_add (ws_ yX13_add cX13_add 2 none) [.ref l0, rv l1] w (qV Q) xN := by
  intro h
  unfold wp_X13_add at h
  refine Ctr.of (μ := k_X13_add) (by decide) rfl rfl rfl (by cases l1 <;> exact Nat.le_of_ble_eq_true rfl) ⟨0, ?_⟩
  have es : lva [.ref l0, rv l1] ++ List.replicate 0 none = [some (.ref l0), some (rv l1)] := by cases l1 <;> rfl
  rw [es]
  refine R.aload_n 1 dX13_add_0 rfl rfl ?_
  obtain ⟨x1, ⟨fs, hg, hv⟩, h⟩ := h
  refine R.getN (k0 := 3) (T := TX13) 4 dX13_add_1 rfl rfl rfl in_X13 q649 rfl (by decide) hg hv ?_
  refine R.aload_nQ 5 dX13_add_4 rfl rfl ?_
  obtain ⟨i2, ho, h⟩ := h
  refine R.dr1 ho ?_
  obtain ⟨ci3, fs4, hci, hg, hl, h⟩ := h
  replace h := h _ rfl
  refine pNext 8 dX13_add_5 rfl rfl hci hg hl ?_
  refine R.aload_n 9 dX13_add_8 rfl rfl ?_
  refine R.aload_nQ 10 dX13_add_9 rfl rfl ?_
  obtain ⟨fs6, hg, hl, h⟩ := h
  replace h := h _ rfl
  refine R.putN (k0 := 3) (T := TX13) (ty := (.object "FrostBox$Test")) (v := rv l1) 13 dX13_add_10 rfl rfl rfl in_X13 tyX13_ok nmX13 q649 rfl (by decide) (by decide +kernel) (nar_o γ _ _) (fit_o γ _ _) hl hg ?_
  exact R.retV dX13_add_13 rfl h

abbrev k_X13_holds : MK := ("FrostBox$Several", cX13_holds, 3, (some .boolean), [], "holds")
def wl_X13_holds_5 (Phold : Nat → Nat → Wd → (Int32 → Wd → Prop) → Prop) (Q : Int32 → Wd → Prop) (l0 : Option Nat) (l1 : Nat) (R5 : Option Nat → Wd → Prop) (l2 : Option Nat) (w : Wd) : Prop := (l2 = none → ∃ i2, l0 = some i2 ∧ ∃ x3, ndI w i2 9 1 x3 ∧ zok x3 ∧ Q x3 w) ∧ (∀ i1, l2 = some i1 → ∃ i4, l2 = some i4 ∧ Phold i4 l1 w (fun r5 w6 => ∃ i7, l0 = some i7 ∧ ∃ x8, ndI w6 i7 9 1 x8 ∧ (r5 = x8 → ∃ i9, l2 = some i9 ∧ ∃ x10, ndT w6 i9 x10 ∧ R5 x10 w6) ∧ (¬ r5 = x8 → ∃ i11, l0 = some i11 ∧ ∃ x12, ndI w6 i11 9 1 x12 ∧ (¬ x12 = iz 0 → Q (iz 0) w6) ∧ (x12 = iz 0 → Q (iz 1) w6))))
def lp_X13_holds_5 (Phold : Nat → Nat → Wd → (Int32 → Wd → Prop) → Prop) (Q : Int32 → Wd → Prop) (l0 : Option Nat) (l1 : Nat) : Nat → Option Nat → Wd → Prop
  | 0, _, _ => False
  | n + 1, l2, w => wl_X13_holds_5 Phold Q l0 l1 (lp_X13_holds_5 Phold Q l0 l1 n) l2 w
def wp_X13_holds (Phold : Nat → Nat → Wd → (Int32 → Wd → Prop) → Prop) (l0 : Nat) (l1 : Nat) (w : Wd) (Q : Int32 → Wd → Prop) : Prop := ∃ x1, ndO w l0 9 2 x1 ∧ ∃ n2, lp_X13_holds_5 Phold Q (some l0) l1 n2 x1 w
set_option maxRecDepth 100000 in
set_option maxHeartbeats 4000000 in
theorem sl_X13_holds_5 {γ : GG} {dP : Nat} (hB : 0 ≤ dP) (Phold : Nat → Nat → Wd → (Int32 → Wd → Prop) → Prop) (hPhold : ∀ (r a : Nat) (w : Wd) (Q : Int32 → Wd → Prop), Phold r a w Q → VCt γ dP ⟨"FrostBox$Test", "holds", "([I)Z"⟩ r [.ref a] w (qI Q)) (Q : Int32 → Wd → Prop) (l0 : Option Nat) (l1 : Nat) : ∀ (n : Nat) (l2 : Option Nat) (w : Wd), lp_X13_holds_5 Phold Q l0 l1 n l2 w → Rch γ (dP + 1) k_X13_holds 5 [some (rv l0), some (.ref l1), some (rv l2)] [] w (qI Q) xN := by
  intro n
  induction n with
  | zero => intro _ _ h; exact h.elim
  | succ n hR5 =>
    intro l2 w h
    have h : wl_X13_holds_5 Phold Q l0 l1 (lp_X13_holds_5 Phold Q l0 l1 n) l2 w := h
    unfold wl_X13_holds_5 at h
    refine R.aload_nQ 6 dX13_holds_5 rfl rfl ?_
    refine R.ifnull 42 9 dX13_holds_6 (by decide) rfl (fun hc => ?_) (fun i1 hc => ?_)
    · replace h := h.1 hc
      refine R.aload_nQ 43 dX13_holds_42 rfl rfl ?_
      obtain ⟨i2, ho, h⟩ := h
      refine R.dr0 ho ?_
      obtain ⟨x3, ⟨fs, hg, hv⟩, h⟩ := h
      refine R.getN (k0 := 1) (T := TX13) 46 dX13_holds_43 rfl rfl rfl in_X13 q647 rfl (by decide) hg hv ?_
      exact R.retZ dX13_holds_46 rfl h.1 h.2
    · replace h := h.2 i1 hc
      refine R.aload_nQ 10 dX13_holds_9 rfl rfl ?_
      refine R.aload_n 11 dX13_holds_10 rfl rfl ?_
      obtain ⟨i4, ho, h⟩ := h
      refine R.dr1 ho ?_
      refine Rch.callVir (n := 1) (hPhold _ _ _ _ h) dX13_holds_11 q897 q861 (List.mem_of_getElem? (i := 1) rfl) (by decide +kernel) (by omega) rfl rfl (Nat.le_of_ble_eq_true rfl) (kI 14 rfl fun r5 w6 h => ?_)
      refine R.aload_nQ 15 dX13_holds_14 rfl rfl ?_
      obtain ⟨i7, ho, h⟩ := h
      refine R.dr0 ho ?_
      obtain ⟨x8, ⟨fs, hg, hv⟩, h⟩ := h
      refine R.getN (k0 := 1) (T := TX13) 18 dX13_holds_15 rfl rfl rfl in_X13 q647 rfl (by decide) hg hv ?_
      refine R.icmp_eq 34 21 dX13_holds_18 (by decide) rfl (fun hc => ?_) (fun hc => ?_)
      · replace h := h.1 hc
        refine R.aload_nQ 35 dX13_holds_34 rfl rfl ?_
        obtain ⟨i9, ho, h⟩ := h
        refine R.dr0 ho ?_
        obtain ⟨x10, hn, h⟩ := h
        refine gNext 38 dX13_holds_35 rfl rfl hn ?_
        refine R.qst2n 39 dX13_holds_38 rfl (Nat.le_of_ble_eq_true rfl) rfl ?_
        refine R.goto 5 dX13_holds_39 (by decide) ?_
        exact Rch.dropk (hR5 _ _ h) ⟨rfl, ⟨rfl, ⟨rfl, trivial⟩⟩⟩
      · replace h := h.2 hc
        refine R.aload_nQ 22 dX13_holds_21 rfl rfl ?_
        obtain ⟨i11, ho, h⟩ := h
        refine R.dr0 ho ?_
        obtain ⟨x12, ⟨fs, hg, hv⟩, h⟩ := h
        refine R.getN (k0 := 1) (T := TX13) 25 dX13_holds_22 rfl rfl rfl in_X13 q647 rfl (by decide) hg hv ?_
        refine R.if_ne 32 28 dX13_holds_25 (by decide) rfl (fun hc => ?_) (fun hc => ?_)
        · replace h := h.1 hc
          refine R.iconst 33 dX13_holds_32 rfl ?_
          exact R.retZ dX13_holds_33 rfl zok0 h
        · replace h := h.2 hc
          refine R.iconst 29 dX13_holds_28 rfl ?_
          refine R.goto 33 dX13_holds_29 (by decide) ?_
          exact R.retZ dX13_holds_33 rfl zok1 h
set_option maxRecDepth 100000 in
set_option maxHeartbeats 4000000 in
theorem sd_X13_holds {γ : GG} {dP : Nat} (hB : 0 ≤ dP) (Phold : Nat → Nat → Wd → (Int32 → Wd → Prop) → Prop) (hPhold : ∀ (r a : Nat) (w : Wd) (Q : Int32 → Wd → Prop), Phold r a w Q → VCt γ dP ⟨"FrostBox$Test", "holds", "([I)Z"⟩ r [.ref a] w (qI Q)) (l0 : Nat) (l1 : Nat) (w : Wd) (Q : Int32 → Wd → Prop) : wp_X13_holds Phold l0 l1 w Q → Ctr γ (dP + 1) yX13_holds (ws_ yX13_holds cX13_holds 3 (some .boolean)) [.ref l0, .ref l1] w (qI Q) xN := by
  intro h
  unfold wp_X13_holds at h
  refine Ctr.of (μ := k_X13_holds) (by decide) rfl rfl rfl (Nat.le_of_ble_eq_true rfl) ⟨1, ?_⟩
  have es : lva [.ref l0, .ref l1] ++ List.replicate 1 none = [some (.ref l0), some (.ref l1), none] := rfl
  rw [es]
  refine R.aload_n 1 dX13_holds_0 rfl rfl ?_
  obtain ⟨x1, ⟨fs, hg, hv⟩, h⟩ := h
  refine R.getN (k0 := 2) (T := TX13) 4 dX13_holds_1 rfl rfl rfl in_X13 q648 rfl (by decide) hg hv ?_
  refine R.qst2n 5 dX13_holds_4 rfl (Nat.le_of_ble_eq_true rfl) rfl ?_
  obtain ⟨n2, h⟩ := h
  exact Rch.dropk (sl_X13_holds_5 hB Phold hPhold Q _ _ n2 _ _ h) ⟨rfl, ⟨rfl, ⟨rfl, trivial⟩⟩⟩

def pf_hold : Nat → Nat → Nat → Wd → (Int32 → Wd → Prop) → Prop
  | 0 => fun _ _ _ _ => False
  | n + 1 => fun r a w Q => (∃ fs, gF w r = some (7, fs) ∧ wp_X11_holds (pf_hold n) r a w Q) ∨ (∃ fs, gF w r = some (8, fs) ∧ wp_X12_holds r a w Q) ∨ (∃ fs, gF w r = some (9, fs) ∧ wp_X13_holds (pf_hold n) r a w Q)
theorem sf_hold {γ : GG} : ∀ (n r a : Nat) (w : Wd) (Q : Int32 → Wd → Prop), pf_hold n r a w Q → VCt γ (62 + 1 * n) ⟨"FrostBox$Test", "holds", "([I)Z"⟩ r [.ref a] w (qI Q)
  | 0, _, _, _, _, h => h.elim
  | n + 1, r, a, w, Q, h => by
    rcases h with ⟨fs, hg, h⟩ | ⟨fs, hg, h⟩ | ⟨fs, hg, h⟩
    · exact ⟨"FrostBox$Not", yX11_holds, cX11_holds, 2, (some .boolean), by decide, Ctr.up (sd_X11_holds (dP := 62 + 1 * n) (by omega) (pf_hold n) (sf_hold n) r a w Q h) (by omega), rcN hg rfl, q891, q892, q160, q893⟩
    · exact ⟨"FrostBox$Compare", yX12_holds, cX12_holds, 4, (some .boolean), by decide, Ctr.up (sd_X12_holds r a w Q h) (by omega), rcN hg rfl, q862, q863, q161, q864⟩
    · exact ⟨"FrostBox$Several", yX13_holds, cX13_holds, 3, (some .boolean), by decide, Ctr.up (sd_X13_holds (dP := 62 + 1 * n) (by omega) (pf_hold n) (sf_hold n) r a w Q h) (by omega), rcN hg rfl, q898, q895, q162, q896⟩

abbrev k_X9_init : MK := ("FrostBox$Clause", cX9_init, 4, none, [], "<init>")
def wp_X9_init (l0 : Nat) (l1 : Int32) (l2 : Option Nat) (l3 : Option Nat) (w : Wd) (Q : Wd → Prop) : Prop := ∃ fs1, gF w l0 = some (6, fs1) ∧ 0 < fs1.length ∧ (∀ w2, w2 = sF w l0 (6, fs1.set 0 (.int l1)) → ∃ fs3, gF w2 l0 = some (6, fs3) ∧ 1 < fs3.length ∧ (∀ w4, w4 = sF w2 l0 (6, fs3.set 1 (rv l2)) → ∃ fs5, gF w4 l0 = some (6, fs5) ∧ 2 < fs5.length ∧ (∀ w6, w6 = sF w4 l0 (6, fs5.set 2 (rv l3)) → Q w6)))
set_option maxRecDepth 100000 in
set_option maxHeartbeats 4000000 in
theorem sd_X9_init {γ : GG} (l0 : Nat) (l1 : Int32) (l2 : Option Nat) (l3 : Option Nat) (w : Wd) (Q : Wd → Prop) : wp_X9_init l0 l1 l2 l3 w Q → Ctr γ 1 yX9_init (ws_ yX9_init cX9_init 4 none) [.ref l0, .int l1, rv l2, rv l3] w (qV Q) xN := by
  intro h
  unfold wp_X9_init at h
  refine Ctr.of (μ := k_X9_init) (by decide) rfl rfl rfl (by cases l2 <;> cases l3 <;> exact Nat.le_of_ble_eq_true rfl) ⟨0, ?_⟩
  have es : lva [.ref l0, .int l1, rv l2, rv l3] ++ List.replicate 0 none = [some (.ref l0), some (.int l1), some (rv l2), some (rv l3)] := by cases l2 <;> cases l3 <;> rfl
  rw [es]
  refine R.aload_n 1 dX9_init_0 rfl rfl ?_
  refine R.objInit 4 dX9_init_1 rfl q575 q172 q173 (by omega) (Nat.le_of_ble_eq_true rfl) ?_
  refine R.aload_n 5 dX9_init_4 rfl rfl ?_
  refine R.iload_n 6 dX9_init_5 rfl rfl ?_
  obtain ⟨fs1, hg, hl, h⟩ := h
  replace h := h _ rfl
  refine R.putF (k0 := 0) (T := TX9) (ty := .int) (v := .int l1) 9 dX9_init_6 rfl rfl rfl rfl in_X9 tyX9_ok nmX9 q576 rfl (by decide) (by decide +kernel) rfl rfl hl hg ?_
  refine R.aload_n 10 dX9_init_9 rfl rfl ?_
  refine R.aload_nQ 11 dX9_init_10 rfl rfl ?_
  obtain ⟨fs3, hg, hl, h⟩ := h
  replace h := h _ rfl
  refine R.putF (k0 := 1) (T := TX9) (ty := (.object "FrostBox$Test")) (v := rv l2) 14 dX9_init_11 rfl rfl rfl rfl in_X9 tyX9_ok nmX9 q578 rfl (by decide) (by decide +kernel) (nar_o γ _ _) (fit_o γ _ _) hl hg ?_
  refine R.aload_n 15 dX9_init_14 rfl rfl ?_
  refine R.aload_nQ 16 dX9_init_15 rfl rfl ?_
  obtain ⟨fs5, hg, hl, h⟩ := h
  replace h := h _ rfl
  refine R.putF (k0 := 2) (T := TX9) (ty := (.object "FrostBox$Sum")) (v := rv l3) 19 dX9_init_16 rfl rfl rfl rfl in_X9 tyX9_ok nmX9 q580 rfl (by decide) (by decide +kernel) (nar_o γ _ _) (fit_o γ _ _) hl hg ?_
  exact R.retV dX9_init_19 rfl h
