set_option maxRecDepth 100000

abbrev k_X4_init : MK := ("FrostBox$Sum", cX4_init, 1, none, [], "<init>")
def wp_X4_init (l0 : Nat) (w : Wd) (Q : Wd → Prop) : Prop := Q w
set_option maxRecDepth 100000 in
set_option maxHeartbeats 4000000 in
theorem sd_X4_init {γ : GG} (l0 : Nat) (w : Wd) (Q : Wd → Prop) : wp_X4_init l0 w Q → Ctr γ 1 yX4_init (ws_ yX4_init cX4_init 1 none) [.ref l0] w (qV Q) xN := by
  intro h
  unfold wp_X4_init at h
  refine Ctr.of (μ := k_X4_init) (by decide) rfl rfl rfl (Nat.le_of_ble_eq_true rfl) ⟨0, ?_⟩
  have es : lva [.ref l0] ++ List.replicate 0 none = [some (.ref l0)] := rfl
  rw [es]
  refine R.aload_n 1 dX4_init_0 rfl rfl ?_
  refine R.objInit 4 dX4_init_1 rfl q514 q172 q173 (by omega) (Nat.le_of_ble_eq_true rfl) ?_
  exact R.retV dX4_init_4 rfl h

abbrev k_X5_init : MK := ("FrostBox$Letter", cX5_init, 2, none, [], "<init>")
def wp_X5_init (l0 : Nat) (l1 : Int32) (w : Wd) (Q : Wd → Prop) : Prop := wp_X4_init l0 w (fun w2 => ∃ fs3, gF w2 l0 = some (2, fs3) ∧ 0 < fs3.length ∧ (∀ w4, w4 = sF w2 l0 (2, fs3.set 0 (.int l1)) → Q w4))
set_option maxRecDepth 100000 in
set_option maxHeartbeats 4000000 in
theorem sd_X5_init {γ : GG} (l0 : Nat) (l1 : Int32) (w : Wd) (Q : Wd → Prop) : wp_X5_init l0 l1 w Q → Ctr γ 2 yX5_init (ws_ yX5_init cX5_init 2 none) [.ref l0, .int l1] w (qV Q) xN := by
  intro h
  unfold wp_X5_init at h
  refine Ctr.of (μ := k_X5_init) (by decide) rfl rfl rfl (Nat.le_of_ble_eq_true rfl) ⟨0, ?_⟩
  have es : lva [.ref l0, .int l1] ++ List.replicate 0 none = [some (.ref l0), some (.int l1)] := rfl
  rw [es]
  refine R.aload_n 1 dX5_init_0 rfl rfl ?_
  refine Rch.callIN (sd_X4_init _ _ _ h) dX5_init_1 (lw_meth q513) q153 (List.mem_of_getElem? (i := 0) rfl) q512 rfl dk_X4_init (by decide) (Nat.le_of_ble_eq_true rfl) rfl rfl (Nat.le_of_ble_eq_true rfl) (kV 4 rfl fun w2 h => ?_) kN
  refine R.aload_n 5 dX5_init_4 rfl rfl ?_
  refine R.iload_n 6 dX5_init_5 rfl rfl ?_
  obtain ⟨fs3, hg, hl, h⟩ := h
  replace h := h _ rfl
  refine R.putF (k0 := 0) (T := TX5) (ty := .int) (v := .int l1) 9 dX5_init_6 rfl rfl rfl rfl in_X5 tyX5_ok nmX5 q515 rfl (by decide) (by decide +kernel) rfl rfl hl hg ?_
  exact R.retV dX5_init_9 rfl h

abbrev k_X5_value : MK := ("FrostBox$Letter", cX5_value, 2, (some .int), [], "value")
def wp_X5_value (l0 : Nat) (l1 : Nat) (w : Wd) (Q : Int32 → Wd → Prop) : Prop := ∃ x1, ndI w l0 2 0 x1 ∧ inA l1 x1 ∧ Q (gA w l1 x1.toInt) w
set_option maxRecDepth 100000 in
set_option maxHeartbeats 4000000 in
theorem sd_X5_value {γ : GG} (l0 : Nat) (l1 : Nat) (w : Wd) (Q : Int32 → Wd → Prop) : wp_X5_value l0 l1 w Q → Ctr γ 1 yX5_value (ws_ yX5_value cX5_value 2 (some .int)) [.ref l0, .ref l1] w (qI Q) xN := by
  intro h
  unfold wp_X5_value at h
  refine Ctr.of (μ := k_X5_value) (by decide) rfl rfl rfl (Nat.le_of_ble_eq_true rfl) ⟨0, ?_⟩
  have es : lva [.ref l0, .ref l1] ++ List.replicate 0 none = [some (.ref l0), some (.ref l1)] := rfl
  rw [es]
  refine R.aload_n 1 dX5_value_0 rfl rfl ?_
  refine R.aload_n 2 dX5_value_1 rfl rfl ?_
  obtain ⟨x1, ⟨fs, hg, hv⟩, h⟩ := h
  refine R.getN (k0 := 0) (T := TX5) 5 dX5_value_2 rfl rfl rfl in_X5 q515 rfl (by decide) hg hv ?_
  obtain ⟨hb, h⟩ := h
  refine R.iaA 6 dX5_value_5 rfl hb ?_
  exact R.retI dX5_value_6 rfl h

abbrev k_X6_init : MK := ("FrostBox$Constant", cX6_init, 2, none, [], "<init>")
def wp_X6_init (l0 : Nat) (l1 : Int32) (w : Wd) (Q : Wd → Prop) : Prop := wp_X4_init l0 w (fun w2 => ∃ fs3, gF w2 l0 = some (3, fs3) ∧ 0 < fs3.length ∧ (∀ w4, w4 = sF w2 l0 (3, fs3.set 0 (.int l1)) → Q w4))
set_option maxRecDepth 100000 in
set_option maxHeartbeats 4000000 in
theorem sd_X6_init {γ : GG} (l0 : Nat) (l1 : Int32) (w : Wd) (Q : Wd → Prop) : wp_X6_init l0 l1 w Q → Ctr γ 2 yX6_init (ws_ yX6_init cX6_init 2 none) [.ref l0, .int l1] w (qV Q) xN := by
  intro h
  unfold wp_X6_init at h
  refine Ctr.of (μ := k_X6_init) (by decide) rfl rfl rfl (Nat.le_of_ble_eq_true rfl) ⟨0, ?_⟩
  have es : lva [.ref l0, .int l1] ++ List.replicate 0 none = [some (.ref l0), some (.int l1)] := rfl
  rw [es]
  refine R.aload_n 1 dX6_init_0 rfl rfl ?_
  refine Rch.callIN (sd_X4_init _ _ _ h) dX6_init_1 (lw_meth q513) q153 (List.mem_of_getElem? (i := 1) rfl) q512 rfl dk_X4_init (by decide) (Nat.le_of_ble_eq_true rfl) rfl rfl (Nat.le_of_ble_eq_true rfl) (kV 4 rfl fun w2 h => ?_) kN
  refine R.aload_n 5 dX6_init_4 rfl rfl ?_
  refine R.iload_n 6 dX6_init_5 rfl rfl ?_
  obtain ⟨fs3, hg, hl, h⟩ := h
  replace h := h _ rfl
  refine R.putF (k0 := 0) (T := TX6) (ty := .int) (v := .int l1) 9 dX6_init_6 rfl rfl rfl rfl in_X6 tyX6_ok nmX6 q528 rfl (by decide) (by decide +kernel) rfl rfl hl hg ?_
  exact R.retV dX6_init_9 rfl h

abbrev k_X6_value : MK := ("FrostBox$Constant", cX6_value, 2, (some .int), [], "value")
def wp_X6_value (l0 : Nat) (l1 : Nat) (w : Wd) (Q : Int32 → Wd → Prop) : Prop := ∃ x1, ndI w l0 3 0 x1 ∧ Q x1 w
set_option maxRecDepth 100000 in
set_option maxHeartbeats 4000000 in
theorem sd_X6_value {γ : GG} (l0 : Nat) (l1 : Nat) (w : Wd) (Q : Int32 → Wd → Prop) : wp_X6_value l0 l1 w Q → Ctr γ 1 yX6_value (ws_ yX6_value cX6_value 2 (some .int)) [.ref l0, .ref l1] w (qI Q) xN := by
  intro h
  unfold wp_X6_value at h
  refine Ctr.of (μ := k_X6_value) (by decide) rfl rfl rfl (Nat.le_of_ble_eq_true rfl) ⟨0, ?_⟩
  have es : lva [.ref l0, .ref l1] ++ List.replicate 0 none = [some (.ref l0), some (.ref l1)] := rfl
  rw [es]
  refine R.aload_n 1 dX6_value_0 rfl rfl ?_
  obtain ⟨x1, ⟨fs, hg, hv⟩, h⟩ := h
  refine R.getN (k0 := 0) (T := TX6) 4 dX6_value_1 rfl rfl rfl in_X6 q528 rfl (by decide) hg hv ?_
  exact R.retI dX6_value_4 rfl h

abbrev k_X8_init : MK := ("FrostBox$Link", cX8_init, 3, none, [], "<init>")
def wp_X8_init (l0 : Nat) (l1 : Int32) (l2 : Option Nat) (w : Wd) (Q : Wd → Prop) : Prop := ∃ fs1, gF w l0 = some (5, fs1) ∧ 0 < fs1.length ∧ (∀ w2, w2 = sF w l0 (5, fs1.set 0 (.int l1)) → ∃ fs3, gF w2 l0 = some (5, fs3) ∧ 1 < fs3.length ∧ (∀ w4, w4 = sF w2 l0 (5, fs3.set 1 (rv l2)) → Q w4))
set_option maxRecDepth 100000 in
set_option maxHeartbeats 4000000 in
theorem sd_X8_init {γ : GG} (l0 : Nat) (l1 : Int32) (l2 : Option Nat) (w : Wd) (Q : Wd → Prop) : wp_X8_init l0 l1 l2 w Q → Ctr γ 1 yX8_init (ws_ yX8_init cX8_init 3 none) [.ref l0, .int l1, rv l2] w (qV Q) xN := by
  intro h
  unfold wp_X8_init at h
  refine Ctr.of (μ := k_X8_init) (by decide) rfl rfl rfl (by cases l2 <;> exact Nat.le_of_ble_eq_true rfl) ⟨0, ?_⟩
  have es : lva [.ref l0, .int l1, rv l2] ++ List.replicate 0 none = [some (.ref l0), some (.int l1), some (rv l2)] := by cases l2 <;> rfl
  rw [es]
  refine R.aload_n 1 dX8_init_0 rfl rfl ?_
  refine R.objInit 4 dX8_init_1 rfl q557 q172 q173 (by omega) (Nat.le_of_ble_eq_true rfl) ?_
  refine R.aload_n 5 dX8_init_4 rfl rfl ?_
  refine R.iload_n 6 dX8_init_5 rfl rfl ?_
  obtain ⟨fs1, hg, hl, h⟩ := h
  replace h := h _ rfl
  refine R.putF (k0 := 0) (T := TX8) (ty := .int) (v := .int l1) 9 dX8_init_6 rfl rfl rfl rfl in_X8 tyX8_ok nmX8 q558 rfl (by decide) (by decide +kernel) rfl rfl hl hg ?_
  refine R.aload_n 10 dX8_init_9 rfl rfl ?_
  refine R.aload_nQ 11 dX8_init_10 rfl rfl ?_
  obtain ⟨fs3, hg, hl, h⟩ := h
  replace h := h _ rfl
  refine R.putF (k0 := 1) (T := TX8) (ty := (.object "FrostBox$Sum")) (v := rv l2) 14 dX8_init_11 rfl rfl rfl rfl in_X8 tyX8_ok nmX8 q559 rfl (by decide) (by decide +kernel) (nar_o γ _ _) (fit_o γ _ _) hl hg ?_
  exact R.retV dX8_init_14 rfl h

abbrev k_X8_on : MK := ("FrostBox$Link", cX8_on, 6, (some .long), [], "on")
def b_X8_on_59 (Pval : Nat → Nat → Wd → (Int32 → Wd → Prop) → Prop) (Q : Int64 → Wd → Prop) (l1 : Int64) (l4 : Int64) (w : Wd) : Prop := (¬ (lg_cmp l4 (lz 0)) = iz 0 → (¬ l4 = 0) ∧ Q (l1 / l4) w) ∧ ((lg_cmp l4 (lz 0)) = iz 0 → Q (lz 0) w)
def wp_X8_on (Pval : Nat → Nat → Wd → (Int32 → Wd → Prop) → Prop) (l0 : Nat) (l1 : Int64) (l3 : Nat) (w : Wd) (Q : Int64 → Wd → Prop) : Prop := ∃ x1, ndO w l0 5 1 x1 ∧ ∃ i2, x1 = some i2 ∧ Pval i2 l3 w (fun r3 w4 => ∃ x5, ndI w4 l0 5 0 x5 ∧ (x5.toInt = 42 → Q (l1 * (r3).toInt64) w4) ∧ (x5.toInt = 43 → Q (l1 + (r3).toInt64) w4) ∧ (x5.toInt = 44 → b_X8_on_59 Pval Q l1 ((r3).toInt64) w4) ∧ (x5.toInt = 45 → Q (l1 - (r3).toInt64) w4) ∧ (x5.toInt < 42 ∨ 45 < x5.toInt → b_X8_on_59 Pval Q l1 ((r3).toInt64) w4))
set_option maxRecDepth 100000 in
set_option maxHeartbeats 4000000 in
theorem s_X8_on_59 {γ : GG} {dP : Nat} (hB : 0 ≤ dP) (Pval : Nat → Nat → Wd → (Int32 → Wd → Prop) → Prop) (hPval : ∀ (r a : Nat) (w : Wd) (Q : Int32 → Wd → Prop), Pval r a w Q → VCt γ dP ⟨"FrostBox$Sum", "value", "([I)I"⟩ r [.ref a] w (qI Q)) (Q : Int64 → Wd → Prop) (l1 : Int64) (l4 : Int64) : ∀ (w : Wd), b_X8_on_59 Pval Q l1 l4 w → Rch γ (dP + 1) k_X8_on 59 [none, some (.long l1), none, none, some (.long l4), none] [] w (qJ Q) xN := by
  intro w h
  unfold b_X8_on_59 at h
  refine R.lload 61 dX8_on_59 rfl rfl ?_
  refine R.lconst (m0 := 0) 62 dX8_on_61 rfl (by decide +kernel) ?_
  refine R.lcmp 63 dX8_on_62 rfl ?_
  refine R.if_ne 70 66 dX8_on_63 (by decide) rfl (fun hc => ?_) (fun hc => ?_)
  · replace h := h.1 hc
    refine R.lload_n 71 dX8_on_70 rfl rfl ?_
    refine R.lload 73 dX8_on_71 rfl rfl ?_
    obtain ⟨hz, h⟩ := h
    refine R.ldiv 74 dX8_on_73 rfl hz ?_
    exact R.retJ dX8_on_74 rfl h
  · replace h := h.2 hc
    refine R.lconst (m0 := 0) 67 dX8_on_66 rfl (by decide +kernel) ?_
    refine R.goto 74 dX8_on_67 (by decide) ?_
    exact R.retJ dX8_on_74 rfl h
set_option maxRecDepth 100000 in
set_option maxHeartbeats 4000000 in
theorem sd_X8_on {γ : GG} {dP : Nat} (hB : 0 ≤ dP) (Pval : Nat → Nat → Wd → (Int32 → Wd → Prop) → Prop) (hPval : ∀ (r a : Nat) (w : Wd) (Q : Int32 → Wd → Prop), Pval r a w Q → VCt γ dP ⟨"FrostBox$Sum", "value", "([I)I"⟩ r [.ref a] w (qI Q)) (l0 : Nat) (l1 : Int64) (l3 : Nat) (w : Wd) (Q : Int64 → Wd → Prop) : wp_X8_on Pval l0 l1 l3 w Q → Ctr γ (dP + 1) yX8_on (ws_ yX8_on cX8_on 6 (some .long)) [.ref l0, .long l1, .ref l3] w (qJ Q) xN := by
  intro h
  unfold wp_X8_on at h
  refine Ctr.of (μ := k_X8_on) (by decide) rfl rfl rfl (Nat.le_of_ble_eq_true rfl) ⟨2, ?_⟩
  have es : lva [.ref l0, .long l1, .ref l3] ++ List.replicate 2 none = [some (.ref l0), some (.long l1), none, some (.ref l3), none, none] := rfl
  rw [es]
  refine R.aload_n 1 dX8_on_0 rfl rfl ?_
  obtain ⟨x1, ⟨fs, hg, hv⟩, h⟩ := h
  refine R.getN (k0 := 1) (T := TX8) 4 dX8_on_1 rfl rfl rfl in_X8 q559 rfl (by decide) hg hv ?_
  refine R.aload_n 5 dX8_on_4 rfl rfl ?_
  obtain ⟨i2, ho, h⟩ := h
  refine R.dr1 ho ?_
  refine Rch.callVir (n := 1) (hPval _ _ _ _ h) dX8_on_5 q882 q867 (List.mem_of_getElem? (i := 0) rfl) (by decide +kernel) (by omega) rfl rfl (Nat.le_of_ble_eq_true rfl) (kI 8 rfl fun r3 w4 h => ?_)
  refine R.i2l 9 dX8_on_8 rfl ?_
  refine R.lst4 11 dX8_on_9 rfl (Nat.le_of_ble_eq_true rfl) rfl ?_
  refine R.aload_n 12 dX8_on_11 rfl rfl ?_
  obtain ⟨x5, ⟨fs, hg, hv⟩, h⟩ := h
  refine R.getN (k0 := 0) (T := TX8) 15 dX8_on_12 rfl rfl rfl in_X8 q558 rfl (by decide) hg hv ?_
  by_cases c0 : x5.toInt = 42
  · replace h := h.1 c0
    refine R.tswIn 42 54 dX8_on_15 c0 (by decide) (by decide) rfl (by decide) ?_
    refine R.lload_n 55 dX8_on_54 rfl rfl ?_
    refine R.lload 57 dX8_on_55 rfl rfl ?_
    refine R.lmul 58 dX8_on_57 rfl ?_
    exact R.retJ dX8_on_58 rfl h
  replace h := h.2
  by_cases c1 : x5.toInt = 43
  · replace h := h.1 c1
    refine R.tswIn 43 44 dX8_on_15 c1 (by decide) (by decide) rfl (by decide) ?_
    refine R.lload_n 45 dX8_on_44 rfl rfl ?_
    refine R.lload 47 dX8_on_45 rfl rfl ?_
    refine R.ladd 48 dX8_on_47 rfl ?_
    exact R.retJ dX8_on_48 rfl h
  replace h := h.2
  by_cases c2 : x5.toInt = 44
  · replace h := h.1 c2
    refine R.tswIn 44 59 dX8_on_15 c2 (by decide) (by decide) rfl (by decide) ?_
    exact Rch.dropk (s_X8_on_59 hB Pval hPval Q _ _ _ h) ⟨rfl, ⟨rfl, trivial⟩⟩
  replace h := h.2
  by_cases c3 : x5.toInt = 45
  · replace h := h.1 c3
    refine R.tswIn 45 49 dX8_on_15 c3 (by decide) (by decide) rfl (by decide) ?_
    refine R.lload_n 50 dX8_on_49 rfl rfl ?_
    refine R.lload 52 dX8_on_50 rfl rfl ?_
    refine R.lsub 53 dX8_on_52 rfl ?_
    exact R.retJ dX8_on_53 rfl h
  replace h := h.2
  have cd : x5.toInt < 42 ∨ 45 < x5.toInt := by omega
  replace h := h cd
  refine R.tswOut 59 dX8_on_15 cd (by decide) ?_
  exact Rch.dropk (s_X8_on_59 hB Pval hPval Q _ _ _ h) ⟨rfl, ⟨rfl, trivial⟩⟩

abbrev k_X7_init : MK := ("FrostBox$Chain", cX7_init, 2, none, [], "<init>")
def wp_X7_init (l0 : Nat) (l1 : Option Nat) (w : Wd) (Q : Wd → Prop) : Prop := wp_X4_init l0 w (fun w2 => ∃ fs3, gF w2 l0 = some (4, fs3) ∧ 0 < fs3.length ∧ (∀ w4, w4 = sF w2 l0 (4, fs3.set 0 (rv l1)) → Q w4))
set_option maxRecDepth 100000 in
set_option maxHeartbeats 4000000 in
theorem sd_X7_init {γ : GG} (l0 : Nat) (l1 : Option Nat) (w : Wd) (Q : Wd → Prop) : wp_X7_init l0 l1 w Q → Ctr γ 2 yX7_init (ws_ yX7_init cX7_init 2 none) [.ref l0, rv l1] w (qV Q) xN := by
  intro h
  unfold wp_X7_init at h
  refine Ctr.of (μ := k_X7_init) (by decide) rfl rfl rfl (by cases l1 <;> exact Nat.le_of_ble_eq_true rfl) ⟨0, ?_⟩
  have es : lva [.ref l0, rv l1] ++ List.replicate 0 none = [some (.ref l0), some (rv l1)] := by cases l1 <;> rfl
  rw [es]
  refine R.aload_n 1 dX7_init_0 rfl rfl ?_
  refine Rch.callIN (sd_X4_init _ _ _ h) dX7_init_1 (lw_meth q513) q153 (List.mem_of_getElem? (i := 2) rfl) q512 rfl dk_X4_init (by decide) (Nat.le_of_ble_eq_true rfl) rfl rfl (Nat.le_of_ble_eq_true rfl) (kV 4 rfl fun w2 h => ?_) kN
  refine R.aload_n 5 dX7_init_4 rfl rfl ?_
  refine R.aload_nQ 6 dX7_init_5 rfl rfl ?_
  obtain ⟨fs3, hg, hl, h⟩ := h
  replace h := h _ rfl
  refine R.putF (k0 := 0) (T := TX7) (ty := (.object "FrostBox$Sum")) (v := rv l1) 9 dX7_init_6 rfl rfl rfl rfl in_X7 tyX7_ok nmX7 q538 rfl (by decide) (by decide +kernel) (nar_o γ _ _) (fit_o γ _ _) hl hg ?_
  exact R.retV dX7_init_9 rfl h

abbrev k_X7_add : MK := ("FrostBox$Chain", cX7_add, 4, none, [], "add")
def wp_X7_add (l0 : Nat) (l1 : Int32) (l2 : Option Nat) (w : Wd) (Q : Wd → Prop) : Prop := gZ w + 1 ≤ CM ∧ (∀ r1, 200 ≤ r1 → gF w r1 = none → ∀ w2, w2 = sZ (sF w r1 (5, [.int 0, .null, .null])) (gZ w + 1) → wp_X8_init r1 l1 l2 w2 (fun w4 => ∃ x5, ndO w4 l0 4 2 x5 ∧ (∀ i6, x5 = some i6 → ∃ x7, ndO w4 l0 4 2 x7 ∧ ∃ i8, x7 = some i8 ∧ ∃ fs9, gF w4 i8 = some (5, fs9) ∧ 2 < fs9.length ∧ (∀ w10, w10 = sF w4 i8 (5, fs9.set 2 (rv (some r1))) → ∃ fs11, gF w10 l0 = some (4, fs11) ∧ 2 < fs11.length ∧ (∀ w12, w12 = sF w10 l0 (4, fs11.set 2 (rv (some r1))) → Q w12))) ∧ (x5 = none → ∃ fs13, gF w4 l0 = some (4, fs13) ∧ 1 < fs13.length ∧ (∀ w14, w14 = sF w4 l0 (4, fs13.set 1 (rv (some r1))) → ∃ fs15, gF w14 l0 = some (4, fs15) ∧ 2 < fs15.length ∧ (∀ w16, w16 = sF w14 l0 (4, fs15.set 2 (rv (some r1))) → Q w16)))))
set_option maxRecDepth 100000 in
set_option maxHeartbeats 4000000 in
theorem sd_X7_add {γ : GG} (l0 : Nat) (l1 : Int32) (l2 : Option Nat) (w : Wd) (Q : Wd → Prop) : wp_X7_add l0 l1 l2 w Q → Ctr γ 2 yX7_add (ws_ yX7_add cX7_add 4 none) [.ref l0, .int l1, rv l2] w (qV Q) xN := by
  intro h
  unfold wp_X7_add at h
  refine Ctr.of (μ := k_X7_add) (by decide) rfl rfl rfl (by cases l2 <;> exact Nat.le_of_ble_eq_true rfl) ⟨1, ?_⟩
  have es : lva [.ref l0, .int l1, rv l2] ++ List.replicate 1 none = [some (.ref l0), some (.int l1), some (rv l2), none] := by cases l2 <;> rfl
  rw [es]
  obtain ⟨hZ, h⟩ := h
  refine R.new (ci := 5) (T := TX8) (ty0 := tyX8) (fs := [.int 0, .null, .null]) 3 dX7_add_0 rfl rfl rfl in_X8 tyX8_ok q552 q553 q157 bl_X8 rfl (by decide) hZ (fun r1 hr1 hr2 => ?_)
  replace h := h r1 hr1 hr2 _ rfl
  refine R.dupR 4 dX7_add_3 rfl ?_
  refine R.iload_n 5 dX7_add_4 rfl rfl ?_
  refine R.aload_nQ 6 dX7_add_5 rfl rfl ?_
  refine Rch.callI (sd_X8_init _ _ _ _ _ h) dX7_add_6 (lw_meth q556) q157 q554 q555 rfl dk_X8_init (by decide) (Nat.le_of_ble_eq_true rfl) rfl rfl (Nat.le_of_ble_eq_true rfl) (kV 9 rfl fun w4 h => ?_) kN
  refine R.ast3n 10 dX7_add_9 rfl (Nat.le_of_ble_eq_true rfl) (c1_rv _) ?_
  refine R.aload_n 11 dX7_add_10 rfl rfl ?_
  obtain ⟨x5, ⟨fs, hg, hv⟩, h⟩ := h
  refine R.getN (k0 := 2) (T := TX7) 14 dX7_add_11 rfl rfl rfl in_X7 q540 rfl (by decide) hg hv ?_
  refine R.ifnonnull 25 17 dX7_add_14 (by decide) rfl (fun i6 hc => ?_) (fun hc => ?_)
  · replace h := h.1 i6 hc
    refine R.aload_n 26 dX7_add_25 rfl rfl ?_
    obtain ⟨x7, ⟨fs, hg, hv⟩, h⟩ := h
    refine R.getN (k0 := 2) (T := TX7) 29 dX7_add_26 rfl rfl rfl in_X7 q540 rfl (by decide) hg hv ?_
    refine R.aload_n 30 dX7_add_29 rfl rfl ?_
    obtain ⟨i8, ho, h⟩ := h
    refine R.dr1 ho ?_
    obtain ⟨fs9, hg, hl, h⟩ := h
    replace h := h _ rfl
    refine R.putNN (k0 := 2) (T := TX8) (ty := (.object "FrostBox$Link")) (v := rv (some r1)) 33 dX7_add_30 rfl rfl rfl in_X8 tyX8_ok nmX8 (List.mem_of_getElem? (i := 0) rfl) rfl (by decide) (by decide +kernel) (nar_o γ _ _) (fit_o γ _ _) hl hg ?_
    refine R.aload_n 34 dX7_add_33 rfl rfl ?_
    refine R.aload_n 35 dX7_add_34 rfl rfl ?_
    obtain ⟨fs11, hg, hl, h⟩ := h
    replace h := h _ rfl
    refine R.putN (k0 := 2) (T := TX7) (ty := (.object "FrostBox$Link")) (v := rv (some r1)) 38 dX7_add_35 rfl rfl rfl in_X7 tyX7_ok nmX7 q540 rfl (by decide) (by decide +kernel) (nar_o γ _ _) (fit_o γ _ _) hl hg ?_
    exact R.retV dX7_add_38 rfl h
  · replace h := h.2 hc
    refine R.aload_n 18 dX7_add_17 rfl rfl ?_
    refine R.aload_n 19 dX7_add_18 rfl rfl ?_
    obtain ⟨fs13, hg, hl, h⟩ := h
    replace h := h _ rfl
    refine R.putN (k0 := 1) (T := TX7) (ty := (.object "FrostBox$Link")) (v := rv (some r1)) 22 dX7_add_19 rfl rfl rfl in_X7 tyX7_ok nmX7 q539 rfl (by decide) (by decide +kernel) (nar_o γ _ _) (fit_o γ _ _) hl hg ?_
    refine R.goto 33 dX7_add_22 (by decide) ?_
    refine R.aload_n 34 dX7_add_33 rfl rfl ?_
    refine R.aload_n 35 dX7_add_34 rfl rfl ?_
    obtain ⟨fs15, hg, hl, h⟩ := h
    replace h := h _ rfl
    refine R.putN (k0 := 2) (T := TX7) (ty := (.object "FrostBox$Link")) (v := rv (some r1)) 38 dX7_add_35 rfl rfl rfl in_X7 tyX7_ok nmX7 q540 rfl (by decide) (by decide +kernel) (nar_o γ _ _) (fit_o γ _ _) hl hg ?_
    exact R.retV dX7_add_38 rfl h

abbrev k_X7_value : MK := ("FrostBox$Chain", cX7_value, 5, (some .int), [], "value")
def wl_X7_value_16 (Pval : Nat → Nat → Wd → (Int32 → Wd → Prop) → Prop) (Q : Int32 → Wd → Prop) (l1 : Nat) (R16 : Int64 → Option Nat → Wd → Prop) (l2 : Int64) (l4 : Option Nat) (w : Wd) : Prop := (l4 = none → Q (l2).toInt32 w) ∧ (∀ i1, l4 = some i1 → ∃ i2, l4 = some i2 ∧ (∃ fs, gF w i2 = some (5, fs)) ∧ wp_X8_on Pval i2 l2 l1 w (fun r3 w4 => ∃ i5, l4 = some i5 ∧ ∃ x6, ndO w4 i5 5 2 x6 ∧ R16 (lmax (lz (-1000000)) (lmin (lz 1000000) r3)) x6 w4))
def lp_X7_value_16 (Pval : Nat → Nat → Wd → (Int32 → Wd → Prop) → Prop) (Q : Int32 → Wd → Prop) (l1 : Nat) : Nat → Int64 → Option Nat → Wd → Prop
  | 0, _, _, _ => False
  | n + 1, l2, l4, w => wl_X7_value_16 Pval Q l1 (lp_X7_value_16 Pval Q l1 n) l2 l4 w
def wp_X7_value (Pval : Nat → Nat → Wd → (Int32 → Wd → Prop) → Prop) (l0 : Nat) (l1 : Nat) (w : Wd) (Q : Int32 → Wd → Prop) : Prop := ∃ x1, ndO w l0 4 0 x1 ∧ ∃ i2, x1 = some i2 ∧ Pval i2 l1 w (fun r3 w4 => ∃ x5, ndO w4 l0 4 1 x5 ∧ ∃ n6, lp_X7_value_16 Pval Q l1 n6 ((r3).toInt64) x5 w4)
set_option maxRecDepth 100000 in
set_option maxHeartbeats 4000000 in
theorem sl_X7_value_16 {γ : GG} {dP : Nat} (hB : 0 ≤ dP) (Pval : Nat → Nat → Wd → (Int32 → Wd → Prop) → Prop) (hPval : ∀ (r a : Nat) (w : Wd) (Q : Int32 → Wd → Prop), Pval r a w Q → VCt γ dP ⟨"FrostBox$Sum", "value", "([I)I"⟩ r [.ref a] w (qI Q)) (Q : Int32 → Wd → Prop) (l1 : Nat) : ∀ (n : Nat) (l2 : Int64) (l4 : Option Nat) (w : Wd), lp_X7_value_16 Pval Q l1 n l2 l4 w → Rch γ (dP + 2) k_X7_value 16 [none, some (.ref l1), some (.long l2), none, some (rv l4)] [] w (qI Q) xN := by
  intro n
  induction n with
  | zero => intro _ _ _ h; exact h.elim
  | succ n hR16 =>
    intro l2 l4 w h
    have h : wl_X7_value_16 Pval Q l1 (lp_X7_value_16 Pval Q l1 n) l2 l4 w := h
    unfold wl_X7_value_16 at h
    refine R.aloadQ 18 dX7_value_16 rfl rfl ?_
    refine R.ifnull 51 21 dX7_value_18 (by decide) rfl (fun hc => ?_) (fun i1 hc => ?_)
    · replace h := h.1 hc
      refine R.lload_n 52 dX7_value_51 rfl rfl ?_
      refine R.l2i 53 dX7_value_52 rfl ?_
      exact R.retI dX7_value_53 rfl h
    · replace h := h.2 i1 hc
      refine R.ldc2 (n := (-1000000)) 24 dX7_value_21 rfl q876 (by decide +kernel) ?_
      refine R.ldc2 (n := 1000000) 27 dX7_value_24 rfl q877 (by decide +kernel) ?_
      refine R.aloadQ 29 dX7_value_27 rfl rfl ?_
      refine R.lload_n 30 dX7_value_29 rfl rfl ?_
      refine R.aload_n 31 dX7_value_30 rfl rfl ?_
      obtain ⟨i2, ho, h⟩ := h
      refine R.dr2 ho ?_
      obtain ⟨⟨fs, hg⟩, h⟩ := h
      refine Rch.callv (sd_X8_on (dP := dP) (by omega) Pval hPval _ _ _ _ _ h) dX7_value_31 (lw_V q878 q879 q880 q157 q881) dk_X8_on (rcN hg rfl) (by omega) (Nat.le_of_ble_eq_true rfl) rfl rfl (Nat.le_of_ble_eq_true rfl) (kJ 34 rfl fun r3 w4 h => ?_) kN
      refine R.mminl 37 dX7_value_34 rfl q883 q884 q149 q885 (by omega) (Nat.le_of_ble_eq_true rfl) ?_
      refine R.mmaxl 40 dX7_value_37 rfl q886 q887 q149 q888 (by omega) (Nat.le_of_ble_eq_true rfl) ?_
      refine R.lst2n 41 dX7_value_40 rfl (Nat.le_of_ble_eq_true rfl) rfl ?_
      refine R.aloadQ 43 dX7_value_41 rfl rfl ?_
      obtain ⟨i5, ho, h⟩ := h
      refine R.dr0 ho ?_
      obtain ⟨x6, ⟨fs, hg, hv⟩, h⟩ := h
      refine R.getNN (k0 := 2) (T := TX8) 46 dX7_value_43 rfl rfl rfl in_X8 (List.mem_of_getElem? (i := 0) rfl) rfl (by decide) hg hv ?_
      refine R.qst4 48 dX7_value_46 rfl (Nat.le_of_ble_eq_true rfl) rfl ?_
      refine R.goto 16 dX7_value_48 (by decide) ?_
      exact Rch.dropk (hR16 _ _ _ h) ⟨rfl, ⟨rfl, ⟨rfl, trivial⟩⟩⟩
set_option maxRecDepth 100000 in
set_option maxHeartbeats 4000000 in
theorem sd_X7_value {γ : GG} {dP : Nat} (hB : 0 ≤ dP) (Pval : Nat → Nat → Wd → (Int32 → Wd → Prop) → Prop) (hPval : ∀ (r a : Nat) (w : Wd) (Q : Int32 → Wd → Prop), Pval r a w Q → VCt γ dP ⟨"FrostBox$Sum", "value", "([I)I"⟩ r [.ref a] w (qI Q)) (l0 : Nat) (l1 : Nat) (w : Wd) (Q : Int32 → Wd → Prop) : wp_X7_value Pval l0 l1 w Q → Ctr γ (dP + 2) yX7_value (ws_ yX7_value cX7_value 5 (some .int)) [.ref l0, .ref l1] w (qI Q) xN := by
  intro h
  unfold wp_X7_value at h
  refine Ctr.of (μ := k_X7_value) (by decide) rfl rfl rfl (Nat.le_of_ble_eq_true rfl) ⟨3, ?_⟩
  have es : lva [.ref l0, .ref l1] ++ List.replicate 3 none = [some (.ref l0), some (.ref l1), none, none, none] := rfl
  rw [es]
  refine R.aload_n 1 dX7_value_0 rfl rfl ?_
  obtain ⟨x1, ⟨fs, hg, hv⟩, h⟩ := h
  refine R.getN (k0 := 0) (T := TX7) 4 dX7_value_1 rfl rfl rfl in_X7 q538 rfl (by decide) hg hv ?_
  refine R.aload_n 5 dX7_value_4 rfl rfl ?_
  obtain ⟨i2, ho, h⟩ := h
  refine R.dr1 ho ?_
  refine Rch.callVir (n := 1) (hPval _ _ _ _ h) dX7_value_5 q871 q867 (List.mem_of_getElem? (i := 0) rfl) (by decide +kernel) (by omega) rfl rfl (Nat.le_of_ble_eq_true rfl) (kI 8 rfl fun r3 w4 h => ?_)
  refine R.i2l 9 dX7_value_8 rfl ?_
  refine R.lst2n 10 dX7_value_9 rfl (Nat.le_of_ble_eq_true rfl) rfl ?_
  refine R.aload_n 11 dX7_value_10 rfl rfl ?_
  obtain ⟨x5, ⟨fs, hg, hv⟩, h⟩ := h
  refine R.getN (k0 := 1) (T := TX7) 14 dX7_value_11 rfl rfl rfl in_X7 q539 rfl (by decide) hg hv ?_
  refine R.qst4 16 dX7_value_14 rfl (Nat.le_of_ble_eq_true rfl) rfl ?_
  obtain ⟨n6, h⟩ := h
  exact Rch.dropk (sl_X7_value_16 hB Pval hPval Q _ n6 _ _ _ h) ⟨rfl, ⟨rfl, ⟨rfl, trivial⟩⟩⟩

def pf_val : Nat → Nat → Nat → Wd → (Int32 → Wd → Prop) → Prop
  | 0 => fun _ _ _ _ => False
  | n + 1 => fun r a w Q => (∃ fs, gF w r = some (2, fs) ∧ wp_X5_value r a w Q) ∨ (∃ fs, gF w r = some (3, fs) ∧ wp_X6_value r a w Q) ∨ (∃ fs, gF w r = some (4, fs) ∧ wp_X7_value (pf_val n) r a w Q)
theorem sf_val {γ : GG} : ∀ (n r a : Nat) (w : Wd) (Q : Int32 → Wd → Prop), pf_val n r a w Q → VCt γ (1 + 2 * n) ⟨"FrostBox$Sum", "value", "([I)I"⟩ r [.ref a] w (qI Q)
  | 0, _, _, _, _, h => h.elim
  | n + 1, r, a, w, Q, h => by
    rcases h with ⟨fs, hg, h⟩ | ⟨fs, hg, h⟩ | ⟨fs, hg, h⟩
    · exact ⟨"FrostBox$Letter", yX5_value, cX5_value, 2, (some .int), by decide, Ctr.up (sd_X5_value r a w Q h) (by omega), rcN hg rfl, q890, q874, q154, q875⟩
    · exact ⟨"FrostBox$Constant", yX6_value, cX6_value, 2, (some .int), by decide, Ctr.up (sd_X6_value r a w Q h) (by omega), rcN hg rfl, q889, q872, q155, q873⟩
    · exact ⟨"FrostBox$Chain", yX7_value, cX7_value, 5, (some .int), by decide, Ctr.up (sd_X7_value (dP := 1 + 2 * n) (by omega) (pf_val n) (sf_val n) r a w Q h) (by omega), rcN hg rfl, q868, q869, q156, q870⟩
