set_option maxRecDepth 100000

abbrev k_J10_bitCount : MK := ("java/lang/Integer", cJ10_bitCount, 1, (some .int), [], "bitCount")
def wp_J10_bitCount (l0 : Int32) (w : Wd) (Q : Int32 → Wd → Prop) : Prop := Q ((((((((l0 - (((l0).toUInt32 >>> (((iz 1)).toUInt32 &&& Int32.toUInt32 31)).toInt32 &&& (iz 1431655765))) &&& (iz 858993459)) + ((((l0 - (((l0).toUInt32 >>> (((iz 1)).toUInt32 &&& Int32.toUInt32 31)).toInt32 &&& (iz 1431655765)))).toUInt32 >>> (((iz 2)).toUInt32 &&& Int32.toUInt32 31)).toInt32 &&& (iz 858993459))) + (((((l0 - (((l0).toUInt32 >>> (((iz 1)).toUInt32 &&& Int32.toUInt32 31)).toInt32 &&& (iz 1431655765))) &&& (iz 858993459)) + ((((l0 - (((l0).toUInt32 >>> (((iz 1)).toUInt32 &&& Int32.toUInt32 31)).toInt32 &&& (iz 1431655765)))).toUInt32 >>> (((iz 2)).toUInt32 &&& Int32.toUInt32 31)).toInt32 &&& (iz 858993459)))).toUInt32 >>> (((iz 4)).toUInt32 &&& Int32.toUInt32 31)).toInt32) &&& (iz 252645135)) + (((((((l0 - (((l0).toUInt32 >>> (((iz 1)).toUInt32 &&& Int32.toUInt32 31)).toInt32 &&& (iz 1431655765))) &&& (iz 858993459)) + ((((l0 - (((l0).toUInt32 >>> (((iz 1)).toUInt32 &&& Int32.toUInt32 31)).toInt32 &&& (iz 1431655765)))).toUInt32 >>> (((iz 2)).toUInt32 &&& Int32.toUInt32 31)).toInt32 &&& (iz 858993459))) + (((((l0 - (((l0).toUInt32 >>> (((iz 1)).toUInt32 &&& Int32.toUInt32 31)).toInt32 &&& (iz 1431655765))) &&& (iz 858993459)) + ((((l0 - (((l0).toUInt32 >>> (((iz 1)).toUInt32 &&& Int32.toUInt32 31)).toInt32 &&& (iz 1431655765)))).toUInt32 >>> (((iz 2)).toUInt32 &&& Int32.toUInt32 31)).toInt32 &&& (iz 858993459)))).toUInt32 >>> (((iz 4)).toUInt32 &&& Int32.toUInt32 31)).toInt32) &&& (iz 252645135))).toUInt32 >>> (((iz 8)).toUInt32 &&& Int32.toUInt32 31)).toInt32) + ((((((((l0 - (((l0).toUInt32 >>> (((iz 1)).toUInt32 &&& Int32.toUInt32 31)).toInt32 &&& (iz 1431655765))) &&& (iz 858993459)) + ((((l0 - (((l0).toUInt32 >>> (((iz 1)).toUInt32 &&& Int32.toUInt32 31)).toInt32 &&& (iz 1431655765)))).toUInt32 >>> (((iz 2)).toUInt32 &&& Int32.toUInt32 31)).toInt32 &&& (iz 858993459))) + (((((l0 - (((l0).toUInt32 >>> (((iz 1)).toUInt32 &&& Int32.toUInt32 31)).toInt32 &&& (iz 1431655765))) &&& (iz 858993459)) + ((((l0 - (((l0).toUInt32 >>> (((iz 1)).toUInt32 &&& Int32.toUInt32 31)).toInt32 &&& (iz 1431655765)))).toUInt32 >>> (((iz 2)).toUInt32 &&& Int32.toUInt32 31)).toInt32 &&& (iz 858993459)))).toUInt32 >>> (((iz 4)).toUInt32 &&& Int32.toUInt32 31)).toInt32) &&& (iz 252645135)) + (((((((l0 - (((l0).toUInt32 >>> (((iz 1)).toUInt32 &&& Int32.toUInt32 31)).toInt32 &&& (iz 1431655765))) &&& (iz 858993459)) + ((((l0 - (((l0).toUInt32 >>> (((iz 1)).toUInt32 &&& Int32.toUInt32 31)).toInt32 &&& (iz 1431655765)))).toUInt32 >>> (((iz 2)).toUInt32 &&& Int32.toUInt32 31)).toInt32 &&& (iz 858993459))) + (((((l0 - (((l0).toUInt32 >>> (((iz 1)).toUInt32 &&& Int32.toUInt32 31)).toInt32 &&& (iz 1431655765))) &&& (iz 858993459)) + ((((l0 - (((l0).toUInt32 >>> (((iz 1)).toUInt32 &&& Int32.toUInt32 31)).toInt32 &&& (iz 1431655765)))).toUInt32 >>> (((iz 2)).toUInt32 &&& Int32.toUInt32 31)).toInt32 &&& (iz 858993459)))).toUInt32 >>> (((iz 4)).toUInt32 &&& Int32.toUInt32 31)).toInt32) &&& (iz 252645135))).toUInt32 >>> (((iz 8)).toUInt32 &&& Int32.toUInt32 31)).toInt32)).toUInt32 >>> (((iz 16)).toUInt32 &&& Int32.toUInt32 31)).toInt32) &&& (iz 63)) w
set_option maxRecDepth 100000 in
set_option maxHeartbeats 4000000 in
theorem sd_J10_bitCount {γ : GG} (l0 : Int32) (w : Wd) (Q : Int32 → Wd → Prop) : wp_J10_bitCount l0 w Q → Ctr γ 1 yJ10_bitCount (ws_ yJ10_bitCount cJ10_bitCount 1 (some .int)) [.int l0] w (qI Q) xN := by
  intro h
  unfold wp_J10_bitCount at h
  refine Ctr.of (μ := k_J10_bitCount) (by decide) rfl rfl rfl (Nat.le_of_ble_eq_true rfl) ⟨0, ?_⟩
  have es : lva [.int l0] ++ List.replicate 0 none = [some (.int l0)] := rfl
  rw [es]
  refine R.iload_n 1 dJ10_bitCount_0 rfl rfl ?_
  refine R.iload_n 2 dJ10_bitCount_1 rfl rfl ?_
  refine R.iconst 3 dJ10_bitCount_2 rfl ?_
  refine R.iushr 4 dJ10_bitCount_3 rfl ?_
  refine R.ldcw (n := 1431655765) 7 dJ10_bitCount_4 rfl q1034 (by decide +kernel) ?_
  refine R.iand 8 dJ10_bitCount_7 rfl ?_
  refine R.isub 9 dJ10_bitCount_8 rfl ?_
  refine R.ist0n 10 dJ10_bitCount_9 rfl (Nat.le_of_ble_eq_true rfl) ?_
  refine R.iload_n 11 dJ10_bitCount_10 rfl rfl ?_
  refine R.ldcw (n := 858993459) 14 dJ10_bitCount_11 rfl q1035 (by decide +kernel) ?_
  refine R.iand 15 dJ10_bitCount_14 rfl ?_
  refine R.iload_n 16 dJ10_bitCount_15 rfl rfl ?_
  refine R.iconst 17 dJ10_bitCount_16 rfl ?_
  refine R.iushr 18 dJ10_bitCount_17 rfl ?_
  refine R.ldcw (n := 858993459) 21 dJ10_bitCount_18 rfl q1035 (by decide +kernel) ?_
  refine R.iand 22 dJ10_bitCount_21 rfl ?_
  refine R.iadd 23 dJ10_bitCount_22 rfl ?_
  refine R.ist0n 24 dJ10_bitCount_23 rfl (Nat.le_of_ble_eq_true rfl) ?_
  refine R.iload_n 25 dJ10_bitCount_24 rfl rfl ?_
  refine R.iload_n 26 dJ10_bitCount_25 rfl rfl ?_
  refine R.iconst 27 dJ10_bitCount_26 rfl ?_
  refine R.iushr 28 dJ10_bitCount_27 rfl ?_
  refine R.iadd 29 dJ10_bitCount_28 rfl ?_
  refine R.ldcw (n := 252645135) 32 dJ10_bitCount_29 rfl q1036 (by decide +kernel) ?_
  refine R.iand 33 dJ10_bitCount_32 rfl ?_
  refine R.ist0n 34 dJ10_bitCount_33 rfl (Nat.le_of_ble_eq_true rfl) ?_
  refine R.iload_n 35 dJ10_bitCount_34 rfl rfl ?_
  refine R.iload_n 36 dJ10_bitCount_35 rfl rfl ?_
  refine R.bipush 38 dJ10_bitCount_36 rfl (by decide +kernel) ?_
  refine R.iushr 39 dJ10_bitCount_38 rfl ?_
  refine R.iadd 40 dJ10_bitCount_39 rfl ?_
  refine R.ist0n 41 dJ10_bitCount_40 rfl (Nat.le_of_ble_eq_true rfl) ?_
  refine R.iload_n 42 dJ10_bitCount_41 rfl rfl ?_
  refine R.iload_n 43 dJ10_bitCount_42 rfl rfl ?_
  refine R.bipush 45 dJ10_bitCount_43 rfl (by decide +kernel) ?_
  refine R.iushr 46 dJ10_bitCount_45 rfl ?_
  refine R.iadd 47 dJ10_bitCount_46 rfl ?_
  refine R.ist0n 48 dJ10_bitCount_47 rfl (Nat.le_of_ble_eq_true rfl) ?_
  refine R.iload_n 49 dJ10_bitCount_48 rfl rfl ?_
  refine R.bipush 51 dJ10_bitCount_49 rfl (by decide +kernel) ?_
  refine R.iand 52 dJ10_bitCount_51 rfl ?_
  exact R.retI dJ10_bitCount_52 rfl h

abbrev k_J10_numberOfTrailingZeros : MK := ("java/lang/Integer", cJ10_numberOfTrailingZeros, 2, (some .int), [], "numberOfTrailingZeros")
def b_J10_numberOfTrailingZeros_62 (Q : Int32 → Wd → Prop) (l0 : Int32) (l1 : Int32) (w : Wd) : Prop := (l0 ≤ (iz 4) → Q (l1 + ((l0).toUInt32 >>> (((iz 1)).toUInt32 &&& Int32.toUInt32 31)).toInt32) w) ∧ (¬ l0 ≤ (iz 4) → Q ((l1 + iz 2) + ((((l0).toUInt32 >>> (((iz 2)).toUInt32 &&& Int32.toUInt32 31)).toInt32).toUInt32 >>> (((iz 1)).toUInt32 &&& Int32.toUInt32 31)).toInt32) w)
def b_J10_numberOfTrailingZeros_49 (Q : Int32 → Wd → Prop) (l0 : Int32) (l1 : Int32) (w : Wd) : Prop := (l0 ≤ (iz 16) → b_J10_numberOfTrailingZeros_62 Q l0 l1 w) ∧ (¬ l0 ≤ (iz 16) → b_J10_numberOfTrailingZeros_62 Q (((l0).toUInt32 >>> (((iz 4)).toUInt32 &&& Int32.toUInt32 31)).toInt32) (l1 + iz 4) w)
def b_J10_numberOfTrailingZeros_34 (Q : Int32 → Wd → Prop) (l0 : Int32) (l1 : Int32) (w : Wd) : Prop := (l0 ≤ (iz 256) → b_J10_numberOfTrailingZeros_49 Q l0 l1 w) ∧ (¬ l0 ≤ (iz 256) → b_J10_numberOfTrailingZeros_49 Q (((l0).toUInt32 >>> (((iz 8)).toUInt32 &&& Int32.toUInt32 31)).toInt32) (l1 + iz 8) w)
def wp_J10_numberOfTrailingZeros (l0 : Int32) (w : Wd) (Q : Int32 → Wd → Prop) : Prop := (iz 0 < ((l0 ^^^ (iz (-1))) &&& (l0 - (iz 1))) → (((l0 ^^^ (iz (-1))) &&& (l0 - (iz 1))) ≤ (iz 65536) → b_J10_numberOfTrailingZeros_34 Q ((l0 ^^^ (iz (-1))) &&& (l0 - (iz 1))) (iz 1) w) ∧ (¬ ((l0 ^^^ (iz (-1))) &&& (l0 - (iz 1))) ≤ (iz 65536) → b_J10_numberOfTrailingZeros_34 Q (((((l0 ^^^ (iz (-1))) &&& (l0 - (iz 1)))).toUInt32 >>> (((iz 16)).toUInt32 &&& Int32.toUInt32 31)).toInt32) ((iz 1) + iz 16) w)) ∧ (¬ iz 0 < ((l0 ^^^ (iz (-1))) &&& (l0 - (iz 1))) → Q (((l0 ^^^ (iz (-1))) &&& (l0 - (iz 1))) &&& (iz 32)) w)
set_option maxRecDepth 100000 in
set_option maxHeartbeats 4000000 in
theorem s_J10_numberOfTrailingZeros_62 {γ : GG} (Q : Int32 → Wd → Prop) (l0 : Int32) (l1 : Int32) : ∀ (w : Wd), b_J10_numberOfTrailingZeros_62 Q l0 l1 w → Rch γ 1 k_J10_numberOfTrailingZeros 62 [some (.int l0), some (.int l1)] [] w (qI Q) xN := by
  intro w h
  unfold b_J10_numberOfTrailingZeros_62 at h
  refine R.iload_n 63 dJ10_numberOfTrailingZeros_62 rfl rfl ?_
  refine R.iconst 64 dJ10_numberOfTrailingZeros_63 rfl ?_
  refine R.icmp_le 74 67 dJ10_numberOfTrailingZeros_64 (by decide) rfl (fun hc => ?_) (fun hc => ?_)
  · replace h := h.1 hc
    refine R.iload_n 75 dJ10_numberOfTrailingZeros_74 rfl rfl ?_
    refine R.iload_n 76 dJ10_numberOfTrailingZeros_75 rfl rfl ?_
    refine R.iconst 77 dJ10_numberOfTrailingZeros_76 rfl ?_
    refine R.iushr 78 dJ10_numberOfTrailingZeros_77 rfl ?_
    refine R.iadd 79 dJ10_numberOfTrailingZeros_78 rfl ?_
    exact R.retI dJ10_numberOfTrailingZeros_79 rfl h
  · replace h := h.2 hc
    refine R.inc1 70 dJ10_numberOfTrailingZeros_67 rfl (Nat.le_of_ble_eq_true rfl) rfl ?_
    refine R.iload_n 71 dJ10_numberOfTrailingZeros_70 rfl rfl ?_
    refine R.iconst 72 dJ10_numberOfTrailingZeros_71 rfl ?_
    refine R.iushr 73 dJ10_numberOfTrailingZeros_72 rfl ?_
    refine R.ist0n 74 dJ10_numberOfTrailingZeros_73 rfl (Nat.le_of_ble_eq_true rfl) ?_
    refine R.iload_n 75 dJ10_numberOfTrailingZeros_74 rfl rfl ?_
    refine R.iload_n 76 dJ10_numberOfTrailingZeros_75 rfl rfl ?_
    refine R.iconst 77 dJ10_numberOfTrailingZeros_76 rfl ?_
    refine R.iushr 78 dJ10_numberOfTrailingZeros_77 rfl ?_
    refine R.iadd 79 dJ10_numberOfTrailingZeros_78 rfl ?_
    exact R.retI dJ10_numberOfTrailingZeros_79 rfl h
set_option maxRecDepth 100000 in
set_option maxHeartbeats 4000000 in
theorem s_J10_numberOfTrailingZeros_49 {γ : GG} (Q : Int32 → Wd → Prop) (l0 : Int32) (l1 : Int32) : ∀ (w : Wd), b_J10_numberOfTrailingZeros_49 Q l0 l1 w → Rch γ 1 k_J10_numberOfTrailingZeros 49 [some (.int l0), some (.int l1)] [] w (qI Q) xN := by
  intro w h
  unfold b_J10_numberOfTrailingZeros_49 at h
  refine R.iload_n 50 dJ10_numberOfTrailingZeros_49 rfl rfl ?_
  refine R.bipush 52 dJ10_numberOfTrailingZeros_50 rfl (by decide +kernel) ?_
  refine R.icmp_le 62 55 dJ10_numberOfTrailingZeros_52 (by decide) rfl (fun hc => ?_) (fun hc => ?_)
  · replace h := h.1 hc
    exact Rch.dropk (s_J10_numberOfTrailingZeros_62 Q _ _ _ h) ⟨rfl, ⟨rfl, trivial⟩⟩
  · replace h := h.2 hc
    refine R.inc1 58 dJ10_numberOfTrailingZeros_55 rfl (Nat.le_of_ble_eq_true rfl) rfl ?_
    refine R.iload_n 59 dJ10_numberOfTrailingZeros_58 rfl rfl ?_
    refine R.iconst 60 dJ10_numberOfTrailingZeros_59 rfl ?_
    refine R.iushr 61 dJ10_numberOfTrailingZeros_60 rfl ?_
    refine R.ist0n 62 dJ10_numberOfTrailingZeros_61 rfl (Nat.le_of_ble_eq_true rfl) ?_
    exact Rch.dropk (s_J10_numberOfTrailingZeros_62 Q _ _ _ h) ⟨rfl, ⟨rfl, trivial⟩⟩
set_option maxRecDepth 100000 in
set_option maxHeartbeats 4000000 in
theorem s_J10_numberOfTrailingZeros_34 {γ : GG} (Q : Int32 → Wd → Prop) (l0 : Int32) (l1 : Int32) : ∀ (w : Wd), b_J10_numberOfTrailingZeros_34 Q l0 l1 w → Rch γ 1 k_J10_numberOfTrailingZeros 34 [some (.int l0), some (.int l1)] [] w (qI Q) xN := by
  intro w h
  unfold b_J10_numberOfTrailingZeros_34 at h
  refine R.iload_n 35 dJ10_numberOfTrailingZeros_34 rfl rfl ?_
  refine R.sipush 38 dJ10_numberOfTrailingZeros_35 rfl (by decide +kernel) ?_
  refine R.icmp_le 49 41 dJ10_numberOfTrailingZeros_38 (by decide) rfl (fun hc => ?_) (fun hc => ?_)
  · replace h := h.1 hc
    exact Rch.dropk (s_J10_numberOfTrailingZeros_49 Q _ _ _ h) ⟨rfl, ⟨rfl, trivial⟩⟩
  · replace h := h.2 hc
    refine R.inc1 44 dJ10_numberOfTrailingZeros_41 rfl (Nat.le_of_ble_eq_true rfl) rfl ?_
    refine R.iload_n 45 dJ10_numberOfTrailingZeros_44 rfl rfl ?_
    refine R.bipush 47 dJ10_numberOfTrailingZeros_45 rfl (by decide +kernel) ?_
    refine R.iushr 48 dJ10_numberOfTrailingZeros_47 rfl ?_
    refine R.ist0n 49 dJ10_numberOfTrailingZeros_48 rfl (Nat.le_of_ble_eq_true rfl) ?_
    exact Rch.dropk (s_J10_numberOfTrailingZeros_49 Q _ _ _ h) ⟨rfl, ⟨rfl, trivial⟩⟩
set_option maxRecDepth 100000 in
set_option maxHeartbeats 4000000 in
theorem sd_J10_numberOfTrailingZeros {γ : GG} (l0 : Int32) (w : Wd) (Q : Int32 → Wd → Prop) : wp_J10_numberOfTrailingZeros l0 w Q → Ctr γ 1 yJ10_numberOfTrailingZeros (ws_ yJ10_numberOfTrailingZeros cJ10_numberOfTrailingZeros 2 (some .int)) [.int l0] w (qI Q) xN := by
  intro h
  unfold wp_J10_numberOfTrailingZeros at h
  refine Ctr.of (μ := k_J10_numberOfTrailingZeros) (by decide) rfl rfl rfl (Nat.le_of_ble_eq_true rfl) ⟨1, ?_⟩
  have es : lva [.int l0] ++ List.replicate 1 none = [some (.int l0), none] := rfl
  rw [es]
  refine R.iload_n 1 dJ10_numberOfTrailingZeros_0 rfl rfl ?_
  refine R.iconst 2 dJ10_numberOfTrailingZeros_1 rfl ?_
  refine R.ixor 3 dJ10_numberOfTrailingZeros_2 rfl ?_
  refine R.iload_n 4 dJ10_numberOfTrailingZeros_3 rfl rfl ?_
  refine R.iconst 5 dJ10_numberOfTrailingZeros_4 rfl ?_
  refine R.isub 6 dJ10_numberOfTrailingZeros_5 rfl ?_
  refine R.iand 7 dJ10_numberOfTrailingZeros_6 rfl ?_
  refine R.ist0n 8 dJ10_numberOfTrailingZeros_7 rfl (Nat.le_of_ble_eq_true rfl) ?_
  refine R.iload_n 9 dJ10_numberOfTrailingZeros_8 rfl rfl ?_
  refine R.if_gt 17 12 dJ10_numberOfTrailingZeros_9 (by decide) rfl (fun hc => ?_) (fun hc => ?_)
  · replace h := h.1 hc
    refine R.iconst 18 dJ10_numberOfTrailingZeros_17 rfl ?_
    refine R.ist1n 19 dJ10_numberOfTrailingZeros_18 rfl (Nat.le_of_ble_eq_true rfl) rfl ?_
    refine R.iload_n 20 dJ10_numberOfTrailingZeros_19 rfl rfl ?_
    refine R.ldcw (n := 65536) 23 dJ10_numberOfTrailingZeros_20 rfl q1023 (by decide +kernel) ?_
    refine R.icmp_le 34 26 dJ10_numberOfTrailingZeros_23 (by decide) rfl (fun hc => ?_) (fun hc => ?_)
    · replace h := h.1 hc
      exact Rch.dropk (s_J10_numberOfTrailingZeros_34 Q _ _ _ h) ⟨rfl, ⟨rfl, trivial⟩⟩
    · replace h := h.2 hc
      refine R.inc1 29 dJ10_numberOfTrailingZeros_26 rfl (Nat.le_of_ble_eq_true rfl) rfl ?_
      refine R.iload_n 30 dJ10_numberOfTrailingZeros_29 rfl rfl ?_
      refine R.bipush 32 dJ10_numberOfTrailingZeros_30 rfl (by decide +kernel) ?_
      refine R.iushr 33 dJ10_numberOfTrailingZeros_32 rfl ?_
      refine R.ist0n 34 dJ10_numberOfTrailingZeros_33 rfl (Nat.le_of_ble_eq_true rfl) ?_
      exact Rch.dropk (s_J10_numberOfTrailingZeros_34 Q _ _ _ h) ⟨rfl, ⟨rfl, trivial⟩⟩
  · replace h := h.2 hc
    refine R.iload_n 13 dJ10_numberOfTrailingZeros_12 rfl rfl ?_
    refine R.bipush 15 dJ10_numberOfTrailingZeros_13 rfl (by decide +kernel) ?_
    refine R.iand 16 dJ10_numberOfTrailingZeros_15 rfl ?_
    exact R.retI dJ10_numberOfTrailingZeros_16 rfl h

abbrev k_J10_numberOfLeadingZeros : MK := ("java/lang/Integer", cJ10_numberOfLeadingZeros, 2, (some .int), [], "numberOfLeadingZeros")
def b_J10_numberOfLeadingZeros_61 (Q : Int32 → Wd → Prop) (l0 : Int32) (l1 : Int32) (w : Wd) : Prop := (l0 < (iz 4) → Q (l1 - ((l0).toUInt32 >>> (((iz 1)).toUInt32 &&& Int32.toUInt32 31)).toInt32) w) ∧ (¬ l0 < (iz 4) → Q ((l1 + iz (-2)) - ((((l0).toUInt32 >>> (((iz 2)).toUInt32 &&& Int32.toUInt32 31)).toInt32).toUInt32 >>> (((iz 1)).toUInt32 &&& Int32.toUInt32 31)).toInt32) w)
def b_J10_numberOfLeadingZeros_48 (Q : Int32 → Wd → Prop) (l0 : Int32) (l1 : Int32) (w : Wd) : Prop := (l0 < (iz 16) → b_J10_numberOfLeadingZeros_61 Q l0 l1 w) ∧ (¬ l0 < (iz 16) → b_J10_numberOfLeadingZeros_61 Q (((l0).toUInt32 >>> (((iz 4)).toUInt32 &&& Int32.toUInt32 31)).toInt32) (l1 + iz (-4)) w)
def b_J10_numberOfLeadingZeros_33 (Q : Int32 → Wd → Prop) (l0 : Int32) (l1 : Int32) (w : Wd) : Prop := (l0 < (iz 256) → b_J10_numberOfLeadingZeros_48 Q l0 l1 w) ∧ (¬ l0 < (iz 256) → b_J10_numberOfLeadingZeros_48 Q (((l0).toUInt32 >>> (((iz 8)).toUInt32 &&& Int32.toUInt32 31)).toInt32) (l1 + iz (-8)) w)
def wp_J10_numberOfLeadingZeros (l0 : Int32) (w : Wd) (Q : Int32 → Wd → Prop) : Prop := (iz 0 < l0 → (l0 < (iz 65536) → b_J10_numberOfLeadingZeros_33 Q l0 (iz 31) w) ∧ (¬ l0 < (iz 65536) → b_J10_numberOfLeadingZeros_33 Q (((l0).toUInt32 >>> (((iz 16)).toUInt32 &&& Int32.toUInt32 31)).toInt32) ((iz 31) + iz (-16)) w)) ∧ (¬ iz 0 < l0 → (¬ l0 = iz 0 → Q (iz 0) w) ∧ (l0 = iz 0 → Q (iz 32) w))
set_option maxRecDepth 100000 in
set_option maxHeartbeats 4000000 in
theorem s_J10_numberOfLeadingZeros_61 {γ : GG} (Q : Int32 → Wd → Prop) (l0 : Int32) (l1 : Int32) : ∀ (w : Wd), b_J10_numberOfLeadingZeros_61 Q l0 l1 w → Rch γ 1 k_J10_numberOfLeadingZeros 61 [some (.int l0), some (.int l1)] [] w (qI Q) xN := by
  intro w h
  unfold b_J10_numberOfLeadingZeros_61 at h
  refine R.iload_n 62 dJ10_numberOfLeadingZeros_61 rfl rfl ?_
  refine R.iconst 63 dJ10_numberOfLeadingZeros_62 rfl ?_
  refine R.icmp_lt 73 66 dJ10_numberOfLeadingZeros_63 (by decide) rfl (fun hc => ?_) (fun hc => ?_)
  · replace h := h.1 hc
    refine R.iload_n 74 dJ10_numberOfLeadingZeros_73 rfl rfl ?_
    refine R.iload_n 75 dJ10_numberOfLeadingZeros_74 rfl rfl ?_
    refine R.iconst 76 dJ10_numberOfLeadingZeros_75 rfl ?_
    refine R.iushr 77 dJ10_numberOfLeadingZeros_76 rfl ?_
    refine R.isub 78 dJ10_numberOfLeadingZeros_77 rfl ?_
    exact R.retI dJ10_numberOfLeadingZeros_78 rfl h
  · replace h := h.2 hc
    refine R.inc1 69 dJ10_numberOfLeadingZeros_66 rfl (Nat.le_of_ble_eq_true rfl) rfl ?_
    refine R.iload_n 70 dJ10_numberOfLeadingZeros_69 rfl rfl ?_
    refine R.iconst 71 dJ10_numberOfLeadingZeros_70 rfl ?_
    refine R.iushr 72 dJ10_numberOfLeadingZeros_71 rfl ?_
    refine R.ist0n 73 dJ10_numberOfLeadingZeros_72 rfl (Nat.le_of_ble_eq_true rfl) ?_
    refine R.iload_n 74 dJ10_numberOfLeadingZeros_73 rfl rfl ?_
    refine R.iload_n 75 dJ10_numberOfLeadingZeros_74 rfl rfl ?_
    refine R.iconst 76 dJ10_numberOfLeadingZeros_75 rfl ?_
    refine R.iushr 77 dJ10_numberOfLeadingZeros_76 rfl ?_
    refine R.isub 78 dJ10_numberOfLeadingZeros_77 rfl ?_
    exact R.retI dJ10_numberOfLeadingZeros_78 rfl h
set_option maxRecDepth 100000 in
set_option maxHeartbeats 4000000 in
theorem s_J10_numberOfLeadingZeros_48 {γ : GG} (Q : Int32 → Wd → Prop) (l0 : Int32) (l1 : Int32) : ∀ (w : Wd), b_J10_numberOfLeadingZeros_48 Q l0 l1 w → Rch γ 1 k_J10_numberOfLeadingZeros 48 [some (.int l0), some (.int l1)] [] w (qI Q) xN := by
  intro w h
  unfold b_J10_numberOfLeadingZeros_48 at h
  refine R.iload_n 49 dJ10_numberOfLeadingZeros_48 rfl rfl ?_
  refine R.bipush 51 dJ10_numberOfLeadingZeros_49 rfl (by decide +kernel) ?_
  refine R.icmp_lt 61 54 dJ10_numberOfLeadingZeros_51 (by decide) rfl (fun hc => ?_) (fun hc => ?_)
  · replace h := h.1 hc
    exact Rch.dropk (s_J10_numberOfLeadingZeros_61 Q _ _ _ h) ⟨rfl, ⟨rfl, trivial⟩⟩
  · replace h := h.2 hc
    refine R.inc1 57 dJ10_numberOfLeadingZeros_54 rfl (Nat.le_of_ble_eq_true rfl) rfl ?_
    refine R.iload_n 58 dJ10_numberOfLeadingZeros_57 rfl rfl ?_
    refine R.iconst 59 dJ10_numberOfLeadingZeros_58 rfl ?_
    refine R.iushr 60 dJ10_numberOfLeadingZeros_59 rfl ?_
    refine R.ist0n 61 dJ10_numberOfLeadingZeros_60 rfl (Nat.le_of_ble_eq_true rfl) ?_
    exact Rch.dropk (s_J10_numberOfLeadingZeros_61 Q _ _ _ h) ⟨rfl, ⟨rfl, trivial⟩⟩
set_option maxRecDepth 100000 in
set_option maxHeartbeats 4000000 in
theorem s_J10_numberOfLeadingZeros_33 {γ : GG} (Q : Int32 → Wd → Prop) (l0 : Int32) (l1 : Int32) : ∀ (w : Wd), b_J10_numberOfLeadingZeros_33 Q l0 l1 w → Rch γ 1 k_J10_numberOfLeadingZeros 33 [some (.int l0), some (.int l1)] [] w (qI Q) xN := by
  intro w h
  unfold b_J10_numberOfLeadingZeros_33 at h
  refine R.iload_n 34 dJ10_numberOfLeadingZeros_33 rfl rfl ?_
  refine R.sipush 37 dJ10_numberOfLeadingZeros_34 rfl (by decide +kernel) ?_
  refine R.icmp_lt 48 40 dJ10_numberOfLeadingZeros_37 (by decide) rfl (fun hc => ?_) (fun hc => ?_)
  · replace h := h.1 hc
    exact Rch.dropk (s_J10_numberOfLeadingZeros_48 Q _ _ _ h) ⟨rfl, ⟨rfl, trivial⟩⟩
  · replace h := h.2 hc
    refine R.inc1 43 dJ10_numberOfLeadingZeros_40 rfl (Nat.le_of_ble_eq_true rfl) rfl ?_
    refine R.iload_n 44 dJ10_numberOfLeadingZeros_43 rfl rfl ?_
    refine R.bipush 46 dJ10_numberOfLeadingZeros_44 rfl (by decide +kernel) ?_
    refine R.iushr 47 dJ10_numberOfLeadingZeros_46 rfl ?_
    refine R.ist0n 48 dJ10_numberOfLeadingZeros_47 rfl (Nat.le_of_ble_eq_true rfl) ?_
    exact Rch.dropk (s_J10_numberOfLeadingZeros_48 Q _ _ _ h) ⟨rfl, ⟨rfl, trivial⟩⟩
set_option maxRecDepth 100000 in
set_option maxHeartbeats 4000000 in
theorem sd_J10_numberOfLeadingZeros {γ : GG} (l0 : Int32) (w : Wd) (Q : Int32 → Wd → Prop) : wp_J10_numberOfLeadingZeros l0 w Q → Ctr γ 1 yJ10_numberOfLeadingZeros (ws_ yJ10_numberOfLeadingZeros cJ10_numberOfLeadingZeros 2 (some .int)) [.int l0] w (qI Q) xN := by
  intro h
  unfold wp_J10_numberOfLeadingZeros at h
  refine Ctr.of (μ := k_J10_numberOfLeadingZeros) (by decide) rfl rfl rfl (Nat.le_of_ble_eq_true rfl) ⟨1, ?_⟩
  have es : lva [.int l0] ++ List.replicate 1 none = [some (.int l0), none] := rfl
  rw [es]
  refine R.iload_n 1 dJ10_numberOfLeadingZeros_0 rfl rfl ?_
  refine R.if_gt 15 4 dJ10_numberOfLeadingZeros_1 (by decide) rfl (fun hc => ?_) (fun hc => ?_)
  · replace h := h.1 hc
    refine R.bipush 17 dJ10_numberOfLeadingZeros_15 rfl (by decide +kernel) ?_
    refine R.ist1n 18 dJ10_numberOfLeadingZeros_17 rfl (Nat.le_of_ble_eq_true rfl) rfl ?_
    refine R.iload_n 19 dJ10_numberOfLeadingZeros_18 rfl rfl ?_
    refine R.ldcw (n := 65536) 22 dJ10_numberOfLeadingZeros_19 rfl q1023 (by decide +kernel) ?_
    refine R.icmp_lt 33 25 dJ10_numberOfLeadingZeros_22 (by decide) rfl (fun hc => ?_) (fun hc => ?_)
    · replace h := h.1 hc
      exact Rch.dropk (s_J10_numberOfLeadingZeros_33 Q _ _ _ h) ⟨rfl, ⟨rfl, trivial⟩⟩
    · replace h := h.2 hc
      refine R.inc1 28 dJ10_numberOfLeadingZeros_25 rfl (Nat.le_of_ble_eq_true rfl) rfl ?_
      refine R.iload_n 29 dJ10_numberOfLeadingZeros_28 rfl rfl ?_
      refine R.bipush 31 dJ10_numberOfLeadingZeros_29 rfl (by decide +kernel) ?_
      refine R.iushr 32 dJ10_numberOfLeadingZeros_31 rfl ?_
      refine R.ist0n 33 dJ10_numberOfLeadingZeros_32 rfl (Nat.le_of_ble_eq_true rfl) ?_
      exact Rch.dropk (s_J10_numberOfLeadingZeros_33 Q _ _ _ h) ⟨rfl, ⟨rfl, trivial⟩⟩
  · replace h := h.2 hc
    refine R.iload_n 5 dJ10_numberOfLeadingZeros_4 rfl rfl ?_
    refine R.if_ne 13 8 dJ10_numberOfLeadingZeros_5 (by decide) rfl (fun hc => ?_) (fun hc => ?_)
    · replace h := h.1 hc
      refine R.iconst 14 dJ10_numberOfLeadingZeros_13 rfl ?_
      exact R.retI dJ10_numberOfLeadingZeros_14 rfl h
    · replace h := h.2 hc
      refine R.bipush 10 dJ10_numberOfLeadingZeros_8 rfl (by decide +kernel) ?_
      refine R.goto 14 dJ10_numberOfLeadingZeros_10 (by decide) ?_
      exact R.retI dJ10_numberOfLeadingZeros_14 rfl h

abbrev k_J2_coder : MK := ("java/lang/String", cJ2_coder, 1, (some .byte), [], "coder")
def wp_J2_coder (l0 : Nat) (w : Wd) (Q : Int32 → Wd → Prop) : Prop := ((iz 1) = iz 0 → narrow .byte (.int (iz 1)) = .int (iz 1) ∧ Q (iz 1) w) ∧ (¬ (iz 1) = iz 0 → l0 < 6 ∧ narrow .byte (.int (iz 0)) = .int (iz 0) ∧ Q (iz 0) w)
set_option maxRecDepth 100000 in
set_option maxHeartbeats 4000000 in
theorem sd_J2_coder {γ : GG} (l0 : Nat) (w : Wd) (Q : Int32 → Wd → Prop) : wp_J2_coder l0 w Q → Ctr γ 1 yJ2_coder (ws_ yJ2_coder cJ2_coder 1 (some .byte)) [.ref (120 + l0)] w (qI Q) xN := by
  intro h
  unfold wp_J2_coder at h
  refine Ctr.of (μ := k_J2_coder) (by decide) rfl rfl rfl (Nat.le_of_ble_eq_true rfl) ⟨0, ?_⟩
  have es : lva [.ref (120 + l0)] ++ List.replicate 0 none = [some (.ref (120 + l0))] := rfl
  rw [es]
  refine R.sCS 3 dJ2_coder_0 rfl rfl q407 ?_
  refine R.if_eq 13 6 dJ2_coder_3 (by decide) rfl (fun hc => ?_) (fun hc => ?_)
  · replace h := h.1 hc
    refine R.iconst 14 dJ2_coder_13 rfl ?_
    exact R.retT dJ2_coder_14 rfl h.1 h.2
  · replace h := h.2 hc
    refine R.aload_n 7 dJ2_coder_6 rfl rfl ?_
    obtain ⟨h6, h⟩ := h
    refine R.scod h6 10 dJ2_coder_7 rfl rfl q1930 ?_
    refine R.goto 14 dJ2_coder_10 (by decide) ?_
    exact R.retT dJ2_coder_14 rfl h.1 h.2

abbrev k_J2_length : MK := ("java/lang/String", cJ2_length, 1, (some .int), [], "length")
def wp_J2_length (l0 : Nat) (w : Wd) (Q : Int32 → Wd → Prop) : Prop := l0 < 6 ∧ l0 < 6 ∧ l0 < 6 ∧ wp_J2_coder l0 w (fun r1 w2 => Q ((iz (sLen.getD l0 0)) >>> (r1 &&& 31)) w2)
set_option maxRecDepth 100000 in
set_option maxHeartbeats 4000000 in
theorem sd_J2_length {γ : GG} (l0 : Nat) (w : Wd) (Q : Int32 → Wd → Prop) : wp_J2_length l0 w Q → Ctr γ 2 yJ2_length (ws_ yJ2_length cJ2_length 1 (some .int)) [.ref (120 + l0)] w (qI Q) xN := by
  intro h
  unfold wp_J2_length at h
  refine Ctr.of (μ := k_J2_length) (by decide) rfl rfl rfl (Nat.le_of_ble_eq_true rfl) ⟨0, ?_⟩
  have es : lva [.ref (120 + l0)] ++ List.replicate 0 none = [some (.ref (120 + l0))] := rfl
  rw [es]
  refine R.aload_n 1 dJ2_length_0 rfl rfl ?_
  obtain ⟨h6, h⟩ := h
  refine R.sval h6 4 dJ2_length_1 rfl rfl q1931 ?_
  obtain ⟨h6, h⟩ := h
  refine R.slen h6 5 dJ2_length_4 rfl ?_
  refine R.aload_n 6 dJ2_length_5 rfl rfl ?_
  obtain ⟨h6, h⟩ := h
  refine Rch.callv (sd_J2_coder _ _ _ h) dJ2_length_6 (lw_V q413 q414 q415 q147 q416) dk_J2_coder (rcS l0 h6) (by decide) (Nat.le_of_ble_eq_true rfl) rfl rfl (Nat.le_of_ble_eq_true rfl) (kI 9 rfl fun r1 w2 h => ?_) kN
  refine R.ishr 10 dJ2_length_9 rfl ?_
  exact R.retI dJ2_length_10 rfl h

abbrev k_J2_isLatin1 : MK := ("java/lang/String", cJ2_isLatin1, 1, (some .boolean), [], "isLatin1")
def wp_J2_isLatin1 (l0 : Nat) (w : Wd) (Q : Int32 → Wd → Prop) : Prop := ((iz 1) = iz 0 → Q (iz 0) w) ∧ (¬ (iz 1) = iz 0 → l0 < 6 ∧ (¬ (iz 0) = iz 0 → Q (iz 0) w) ∧ ((iz 0) = iz 0 → Q (iz 1) w))
set_option maxRecDepth 100000 in
set_option maxHeartbeats 4000000 in
theorem sd_J2_isLatin1 {γ : GG} (l0 : Nat) (w : Wd) (Q : Int32 → Wd → Prop) : wp_J2_isLatin1 l0 w Q → Ctr γ 1 yJ2_isLatin1 (ws_ yJ2_isLatin1 cJ2_isLatin1 1 (some .boolean)) [.ref (120 + l0)] w (qI Q) xN := by
  intro h
  unfold wp_J2_isLatin1 at h
  refine Ctr.of (μ := k_J2_isLatin1) (by decide) rfl rfl rfl (Nat.le_of_ble_eq_true rfl) ⟨0, ?_⟩
  have es : lva [.ref (120 + l0)] ++ List.replicate 0 none = [some (.ref (120 + l0))] := rfl
  rw [es]
  refine R.sCS 3 dJ2_isLatin1_0 rfl rfl q407 ?_
  refine R.if_eq 17 6 dJ2_isLatin1_3 (by decide) rfl (fun hc => ?_) (fun hc => ?_)
  · replace h := h.1 hc
    refine R.iconst 18 dJ2_isLatin1_17 rfl ?_
    exact R.retZ dJ2_isLatin1_18 rfl zok0 h
  · replace h := h.2 hc
    refine R.aload_n 7 dJ2_isLatin1_6 rfl rfl ?_
    obtain ⟨h6, h⟩ := h
    refine R.scod h6 10 dJ2_isLatin1_7 rfl rfl q1930 ?_
    refine R.if_ne 17 13 dJ2_isLatin1_10 (by decide) rfl (fun hc => ?_) (fun hc => ?_)
    · replace h := h.1 hc
      refine R.iconst 18 dJ2_isLatin1_17 rfl ?_
      exact R.retZ dJ2_isLatin1_18 rfl zok0 h
    · replace h := h.2 hc
      refine R.iconst 14 dJ2_isLatin1_13 rfl ?_
      refine R.goto 18 dJ2_isLatin1_14 (by decide) ?_
      exact R.retZ dJ2_isLatin1_18 rfl zok1 h

abbrev k_J6_checkIndex : MK := ("jdk/internal/util/Preconditions", cJ6_checkIndex, 3, (some .int), [], "checkIndex")
def wp_J6_checkIndex (l0 : Int32) (l1 : Int32) (l2 : Option Nat) (w : Wd) (Q : Int32 → Wd → Prop) : Prop := (l0 < iz 0 → False) ∧ (¬ l0 < iz 0 → (l0 < l1 → Q l0 w) ∧ (¬ l0 < l1 → False))
set_option maxRecDepth 100000 in
set_option maxHeartbeats 4000000 in
theorem sd_J6_checkIndex {γ : GG} (l0 : Int32) (l1 : Int32) (l2 : Option Nat) (w : Wd) (Q : Int32 → Wd → Prop) : wp_J6_checkIndex l0 l1 l2 w Q → Ctr γ 1 yJ6_checkIndex (ws_ yJ6_checkIndex cJ6_checkIndex 3 (some .int)) [.int l0, .int l1, rv l2] w (qI Q) xN := by
  intro h
  unfold wp_J6_checkIndex at h
  refine Ctr.of (μ := k_J6_checkIndex) (by decide) rfl rfl rfl (by cases l2 <;> exact Nat.le_of_ble_eq_true rfl) ⟨0, ?_⟩
  have es : lva [.int l0, .int l1, rv l2] ++ List.replicate 0 none = [some (.int l0), some (.int l1), some (rv l2)] := by cases l2 <;> rfl
  rw [es]
  refine R.iload_n 1 dJ6_checkIndex_0 rfl rfl ?_
  refine R.if_lt 9 4 dJ6_checkIndex_1 (by decide) rfl (fun hc => ?_) (fun hc => ?_)
  · replace h := h.1 hc
    refine R.aload_nQ 10 dJ6_checkIndex_9 rfl rfl ?_
    refine R.iload_n 11 dJ6_checkIndex_10 rfl rfl ?_
    refine R.iload_n 12 dJ6_checkIndex_11 rfl rfl ?_
    exact h.elim
  · replace h := h.2 hc
    refine R.iload_n 5 dJ6_checkIndex_4 rfl rfl ?_
    refine R.iload_n 6 dJ6_checkIndex_5 rfl rfl ?_
    refine R.icmp_lt 16 9 dJ6_checkIndex_6 (by decide) rfl (fun hc => ?_) (fun hc => ?_)
    · replace h := h.1 hc
      refine R.iload_n 17 dJ6_checkIndex_16 rfl rfl ?_
      exact R.retI dJ6_checkIndex_17 rfl h
    · replace h := h.2 hc
      refine R.aload_nQ 10 dJ6_checkIndex_9 rfl rfl ?_
      refine R.iload_n 11 dJ6_checkIndex_10 rfl rfl ?_
      refine R.iload_n 12 dJ6_checkIndex_11 rfl rfl ?_
      exact h.elim

abbrev k_J2_checkIndex : MK := ("java/lang/String", cJ2_checkIndex, 2, none, [], "checkIndex")
def wp_J2_checkIndex (l0 : Int32) (l1 : Int32) (w : Wd) (Q : Wd → Prop) : Prop := ∀ o1, wp_J6_checkIndex l0 l1 o1 w (fun r2 w3 => Q w3)
set_option maxRecDepth 100000 in
set_option maxHeartbeats 4000000 in
theorem sd_J2_checkIndex {γ : GG} (l0 : Int32) (l1 : Int32) (w : Wd) (Q : Wd → Prop) : wp_J2_checkIndex l0 l1 w Q → Ctr γ 2 yJ2_checkIndex (ws_ yJ2_checkIndex cJ2_checkIndex 2 none) [.int l0, .int l1] w (qV Q) xN := by
  intro h
  unfold wp_J2_checkIndex at h
  refine Ctr.of (μ := k_J2_checkIndex) (by decide) rfl rfl rfl (Nat.le_of_ble_eq_true rfl) ⟨0, ?_⟩
  have es : lva [.int l0, .int l1] ++ List.replicate 0 none = [some (.int l0), some (.int l1)] := rfl
  rw [es]
  refine R.iload_n 1 dJ2_checkIndex_0 rfl rfl ?_
  refine R.iload_n 2 dJ2_checkIndex_1 rfl rfl ?_
  refine R.sSIQ 5 dJ2_checkIndex_2 rfl rfl q450 (fun o1 => ?_)
  replace h := h o1
  refine Rch.calls (sd_J6_checkIndex _ _ _ _ _ h) dJ2_checkIndex_5 (lw_S q846 q847 q151 q848) dk_J6_checkIndex (by decide) (Nat.le_of_ble_eq_true rfl) rfl rfl (Nat.le_of_ble_eq_true rfl) (kI 8 rfl fun r2 w3 h => ?_) kN
  refine R.pop 9 dJ2_checkIndex_8 rfl ?_
  exact R.retV dJ2_checkIndex_9 rfl h

abbrev k_J3_charAt : MK := ("java/lang/StringLatin1", cJ3_charAt, 2, (some .char), [], "charAt")
def wp_J3_charAt (l0 : Nat) (l1 : Int32) (w : Wd) (Q : Int32 → Wd → Prop) : Prop := l0 < 6 ∧ wp_J2_checkIndex l1 (iz (sLen.getD l0 0)) w (fun w2 => l0 < 6 ∧ inb l1 (sLen.getD l0 0) ∧ narrow .char (.int (((((sByt.getD l0 []).getD l1.toNatClampNeg 0) &&& (iz 255))).toUInt32 % 65536).toInt32) = .int (((((sByt.getD l0 []).getD l1.toNatClampNeg 0) &&& (iz 255))).toUInt32 % 65536).toInt32 ∧ Q (((((sByt.getD l0 []).getD l1.toNatClampNeg 0) &&& (iz 255))).toUInt32 % 65536).toInt32 w2)
set_option maxRecDepth 100000 in
set_option maxHeartbeats 4000000 in
theorem sd_J3_charAt {γ : GG} (l0 : Nat) (l1 : Int32) (w : Wd) (Q : Int32 → Wd → Prop) : wp_J3_charAt l0 l1 w Q → Ctr γ 3 yJ3_charAt (ws_ yJ3_charAt cJ3_charAt 2 (some .char)) [.ref (130 + l0), .int l1] w (qI Q) xN := by
  intro h
  unfold wp_J3_charAt at h
  refine Ctr.of (μ := k_J3_charAt) (by decide) rfl rfl rfl (Nat.le_of_ble_eq_true rfl) ⟨0, ?_⟩
  have es : lva [.ref (130 + l0), .int l1] ++ List.replicate 0 none = [some (.ref (130 + l0)), some (.int l1)] := rfl
  rw [es]
  refine R.iload_n 1 dJ3_charAt_0 rfl rfl ?_
  refine R.aload_n 2 dJ3_charAt_1 rfl rfl ?_
  obtain ⟨h6, h⟩ := h
  refine R.slen h6 3 dJ3_charAt_2 rfl ?_
  refine Rch.calls (sd_J2_checkIndex _ _ _ _ h) dJ3_charAt_3 (lw_S q843 q844 q147 q845) dk_J2_checkIndex (by decide) (Nat.le_of_ble_eq_true rfl) rfl rfl (Nat.le_of_ble_eq_true rfl) (kV 6 rfl fun w2 h => ?_) kN
  refine R.aload_n 7 dJ3_charAt_6 rfl rfl ?_
  refine R.iload_n 8 dJ3_charAt_7 rfl rfl ?_
  obtain ⟨h6, hb, h⟩ := h
  refine R.sbyt h6 9 dJ3_charAt_8 rfl hb ?_
  refine R.sipush 12 dJ3_charAt_9 rfl (by decide +kernel) ?_
  refine R.iand 13 dJ3_charAt_12 rfl ?_
  refine R.i2c 14 dJ3_charAt_13 rfl ?_
  exact R.retT dJ3_charAt_14 rfl h.1 h.2

abbrev k_J2_charAt : MK := ("java/lang/String", cJ2_charAt, 2, (some .char), [], "charAt")
def wp_J2_charAt (l0 : Nat) (l1 : Int32) (w : Wd) (Q : Int32 → Wd → Prop) : Prop := l0 < 6 ∧ wp_J2_isLatin1 l0 w (fun r1 w2 => (r1 = iz 0 → l0 < 6 ∧ False) ∧ (¬ r1 = iz 0 → l0 < 6 ∧ wp_J3_charAt l0 l1 w2 (fun r3 w4 => narrow .char (.int r3) = .int r3 ∧ Q r3 w4)))
set_option maxRecDepth 100000 in
set_option maxHeartbeats 4000000 in
theorem sd_J2_charAt {γ : GG} (l0 : Nat) (l1 : Int32) (w : Wd) (Q : Int32 → Wd → Prop) : wp_J2_charAt l0 l1 w Q → Ctr γ 4 yJ2_charAt (ws_ yJ2_charAt cJ2_charAt 2 (some .char)) [.ref (120 + l0), .int l1] w (qI Q) xN := by
  intro h
  unfold wp_J2_charAt at h
  refine Ctr.of (μ := k_J2_charAt) (by decide) rfl rfl rfl (Nat.le_of_ble_eq_true rfl) ⟨0, ?_⟩
  have es : lva [.ref (120 + l0), .int l1] ++ List.replicate 0 none = [some (.ref (120 + l0)), some (.int l1)] := rfl
  rw [es]
  refine R.aload_n 1 dJ2_charAt_0 rfl rfl ?_
  obtain ⟨h6, h⟩ := h
  refine Rch.callv (sd_J2_isLatin1 _ _ _ h) dJ2_charAt_1 (lw_V q403 q404 q405 q147 q406) dk_J2_isLatin1 (rcS l0 h6) (by decide) (Nat.le_of_ble_eq_true rfl) rfl rfl (Nat.le_of_ble_eq_true rfl) (kI 4 rfl fun r1 w2 h => ?_) kN
  refine R.if_eq 16 7 dJ2_charAt_4 (by decide) rfl (fun hc => ?_) (fun hc => ?_)
  · replace h := h.1 hc
    refine R.aload_n 17 dJ2_charAt_16 rfl rfl ?_
    obtain ⟨h6, h⟩ := h
    refine R.sval h6 20 dJ2_charAt_17 rfl rfl q1931 ?_
    refine R.iload_n 21 dJ2_charAt_20 rfl rfl ?_
    exact h.elim
  · replace h := h.2 hc
    refine R.aload_n 8 dJ2_charAt_7 rfl rfl ?_
    obtain ⟨h6, h⟩ := h
    refine R.sval h6 11 dJ2_charAt_8 rfl rfl q1931 ?_
    refine R.iload_n 12 dJ2_charAt_11 rfl rfl ?_
    refine Rch.calls (sd_J3_charAt _ _ _ _ h) dJ2_charAt_12 (lw_S q840 q841 q148 q842) dk_J3_charAt (by decide) (Nat.le_of_ble_eq_true rfl) rfl rfl (Nat.le_of_ble_eq_true rfl) (kI 15 rfl fun r3 w4 h => ?_) kN
    exact R.retT dJ2_charAt_15 rfl h.1 h.2

abbrev k_J3_canEncode : MK := ("java/lang/StringLatin1", cJ3_canEncode, 1, (some .boolean), [], "canEncode")
def wp_J3_canEncode (l0 : Int32) (w : Wd) (Q : Int32 → Wd → Prop) : Prop := (l0 < iz 0 → Q (iz 0) w) ∧ (¬ l0 < iz 0 → ((iz 255) < l0 → Q (iz 0) w) ∧ (¬ (iz 255) < l0 → Q (iz 1) w))
set_option maxRecDepth 100000 in
set_option maxHeartbeats 4000000 in
theorem sd_J3_canEncode {γ : GG} (l0 : Int32) (w : Wd) (Q : Int32 → Wd → Prop) : wp_J3_canEncode l0 w Q → Ctr γ 1 yJ3_canEncode (ws_ yJ3_canEncode cJ3_canEncode 1 (some .boolean)) [.int l0] w (qI Q) xN := by
  intro h
  unfold wp_J3_canEncode at h
  refine Ctr.of (μ := k_J3_canEncode) (by decide) rfl rfl rfl (Nat.le_of_ble_eq_true rfl) ⟨0, ?_⟩
  have es : lva [.int l0] ++ List.replicate 0 none = [some (.int l0)] := rfl
  rw [es]
  refine R.iload_n 1 dJ3_canEncode_0 rfl rfl ?_
  refine R.if_lt 15 4 dJ3_canEncode_1 (by decide) rfl (fun hc => ?_) (fun hc => ?_)
  · replace h := h.1 hc
    refine R.iconst 16 dJ3_canEncode_15 rfl ?_
    exact R.retZ dJ3_canEncode_16 rfl zok0 h
  · replace h := h.2 hc
    refine R.iload_n 5 dJ3_canEncode_4 rfl rfl ?_
    refine R.sipush 8 dJ3_canEncode_5 rfl (by decide +kernel) ?_
    refine R.icmp_gt 15 11 dJ3_canEncode_8 (by decide) rfl (fun hc => ?_) (fun hc => ?_)
    · replace h := h.1 hc
      refine R.iconst 16 dJ3_canEncode_15 rfl ?_
      exact R.retZ dJ3_canEncode_16 rfl zok0 h
    · replace h := h.2 hc
      refine R.iconst 12 dJ3_canEncode_11 rfl ?_
      refine R.goto 16 dJ3_canEncode_12 (by decide) ?_
      exact R.retZ dJ3_canEncode_16 rfl zok1 h

abbrev k_J3_indexOfChar : MK := ("java/lang/StringLatin1", cJ3_indexOfChar, 6, (some .int), [], "indexOfChar")
def wl_J3_indexOfChar_7 (Q : Int32 → Wd → Prop) (l0 : Nat) (l3 : Int32) (l4 : Int32) (R7 : Int32 → Wd → Prop) (l5 : Int32) (w : Wd) : Prop := (l3 ≤ l5 → Q (iz (-1)) w) ∧ (¬ l3 ≤ l5 → l0 < 6 ∧ inb l5 (sLen.getD l0 0) ∧ (¬ ((sByt.getD l0 []).getD l5.toNatClampNeg 0) = l4 → R7 (l5 + iz 1) w) ∧ (((sByt.getD l0 []).getD l5.toNatClampNeg 0) = l4 → Q l5 w))
def lp_J3_indexOfChar_7 (Q : Int32 → Wd → Prop) (l0 : Nat) (l3 : Int32) (l4 : Int32) : Nat → Int32 → Wd → Prop
  | 0, _, _ => False
  | n + 1, l5, w => wl_J3_indexOfChar_7 Q l0 l3 l4 (lp_J3_indexOfChar_7 Q l0 l3 l4 n) l5 w
def wp_J3_indexOfChar (l0 : Nat) (l1 : Int32) (l2 : Int32) (l3 : Int32) (w : Wd) (Q : Int32 → Wd → Prop) : Prop := ∃ n1, lp_J3_indexOfChar_7 Q l0 l3 ((l1).toInt8.toInt32) n1 l2 w
set_option maxRecDepth 100000 in
set_option maxHeartbeats 4000000 in
theorem sl_J3_indexOfChar_7 {γ : GG} (Q : Int32 → Wd → Prop) (l0 : Nat) (l3 : Int32) (l4 : Int32) : ∀ (n : Nat) (l5 : Int32) (w : Wd), lp_J3_indexOfChar_7 Q l0 l3 l4 n l5 w → Rch γ 1 k_J3_indexOfChar 7 [some (.ref (130 + l0)), none, none, some (.int l3), some (.int l4), some (.int l5)] [] w (qI Q) xN := by
  intro n
  induction n with
  | zero => intro _ _ h; exact h.elim
  | succ n hR7 =>
    intro l5 w h
    have h : wl_J3_indexOfChar_7 Q l0 l3 l4 (lp_J3_indexOfChar_7 Q l0 l3 l4 n) l5 w := h
    unfold wl_J3_indexOfChar_7 at h
    refine R.iload 9 dJ3_indexOfChar_7 rfl rfl ?_
    refine R.iload_n 10 dJ3_indexOfChar_9 rfl rfl ?_
    refine R.icmp_ge 31 13 dJ3_indexOfChar_10 (by decide) rfl (fun hc => ?_) (fun hc => ?_)
    · replace h := h.1 hc
      refine R.iconst 32 dJ3_indexOfChar_31 rfl ?_
      exact R.retI dJ3_indexOfChar_32 rfl h
    · replace h := h.2 hc
      refine R.aload_n 14 dJ3_indexOfChar_13 rfl rfl ?_
      refine R.iload 16 dJ3_indexOfChar_14 rfl rfl ?_
      obtain ⟨h6, hb, h⟩ := h
      refine R.sbyt h6 17 dJ3_indexOfChar_16 rfl hb ?_
      refine R.iload 19 dJ3_indexOfChar_17 rfl rfl ?_
      refine R.icmp_ne 25 22 dJ3_indexOfChar_19 (by decide) rfl (fun hc => ?_) (fun hc => ?_)
      · replace h := h.1 hc
        refine R.inc5 28 dJ3_indexOfChar_25 rfl (Nat.le_of_ble_eq_true rfl) rfl ?_
        refine R.goto 7 dJ3_indexOfChar_28 (by decide) ?_
        exact Rch.dropk (hR7 _ _ h) ⟨rfl, ⟨rfl, ⟨rfl, ⟨rfl, trivial⟩⟩⟩⟩
      · replace h := h.2 hc
        refine R.iload 24 dJ3_indexOfChar_22 rfl rfl ?_
        exact R.retI dJ3_indexOfChar_24 rfl h
set_option maxRecDepth 100000 in
set_option maxHeartbeats 4000000 in
theorem sd_J3_indexOfChar {γ : GG} (l0 : Nat) (l1 : Int32) (l2 : Int32) (l3 : Int32) (w : Wd) (Q : Int32 → Wd → Prop) : wp_J3_indexOfChar l0 l1 l2 l3 w Q → Ctr γ 1 yJ3_indexOfChar (ws_ yJ3_indexOfChar cJ3_indexOfChar 6 (some .int)) [.ref (130 + l0), .int l1, .int l2, .int l3] w (qI Q) xN := by
  intro h
  unfold wp_J3_indexOfChar at h
  refine Ctr.of (μ := k_J3_indexOfChar) (by decide) rfl rfl rfl (Nat.le_of_ble_eq_true rfl) ⟨2, ?_⟩
  have es : lva [.ref (130 + l0), .int l1, .int l2, .int l3] ++ List.replicate 2 none = [some (.ref (130 + l0)), some (.int l1), some (.int l2), some (.int l3), none, none] := rfl
  rw [es]
  refine R.iload_n 1 dJ3_indexOfChar_0 rfl rfl ?_
  refine R.i2b 2 dJ3_indexOfChar_1 rfl ?_
  refine R.ist4 4 dJ3_indexOfChar_2 rfl (Nat.le_of_ble_eq_true rfl) rfl ?_
  refine R.iload_n 5 dJ3_indexOfChar_4 rfl rfl ?_
  refine R.ist5 7 dJ3_indexOfChar_5 rfl (Nat.le_of_ble_eq_true rfl) rfl ?_
  obtain ⟨n1, h⟩ := h
  exact Rch.dropk (sl_J3_indexOfChar_7 Q _ _ _ n1 _ _ h) ⟨rfl, ⟨rfl, ⟨rfl, ⟨rfl, trivial⟩⟩⟩⟩

abbrev k_J3_indexOf : MK := ("java/lang/StringLatin1", cJ3_indexOf, 4, (some .int), [], "indexOf")
def wp_J3_indexOf (l0 : Nat) (l1 : Int32) (l2 : Int32) (l3 : Int32) (w : Wd) (Q : Int32 → Wd → Prop) : Prop := wp_J3_canEncode l1 w (fun r1 w2 => (¬ r1 = iz 0 → l0 < 6 ∧ ((imax l2 (iz 0)) < (imin l3 (iz (sLen.getD l0 0))) → wp_J3_indexOfChar l0 l1 (imax l2 (iz 0)) (imin l3 (iz (sLen.getD l0 0))) w2 (fun r3 w4 => Q r3 w4)) ∧ (¬ (imax l2 (iz 0)) < (imin l3 (iz (sLen.getD l0 0))) → Q (iz (-1)) w2)) ∧ (r1 = iz 0 → Q (iz (-1)) w2))
set_option maxRecDepth 100000 in
set_option maxHeartbeats 4000000 in
theorem sd_J3_indexOf {γ : GG} (l0 : Nat) (l1 : Int32) (l2 : Int32) (l3 : Int32) (w : Wd) (Q : Int32 → Wd → Prop) : wp_J3_indexOf l0 l1 l2 l3 w Q → Ctr γ 2 yJ3_indexOf (ws_ yJ3_indexOf cJ3_indexOf 4 (some .int)) [.ref (130 + l0), .int l1, .int l2, .int l3] w (qI Q) xN := by
  intro h
  unfold wp_J3_indexOf at h
  refine Ctr.of (μ := k_J3_indexOf) (by decide) rfl rfl rfl (Nat.le_of_ble_eq_true rfl) ⟨0, ?_⟩
  have es : lva [.ref (130 + l0), .int l1, .int l2, .int l3] ++ List.replicate 0 none = [some (.ref (130 + l0)), some (.int l1), some (.int l2), some (.int l3)] := rfl
  rw [es]
  refine R.iload_n 1 dJ3_indexOf_0 rfl rfl ?_
  refine Rch.calls (sd_J3_canEncode _ _ _ h) dJ3_indexOf_1 (lw_S q420 q421 q148 q422) dk_J3_canEncode (by decide) (Nat.le_of_ble_eq_true rfl) rfl rfl (Nat.le_of_ble_eq_true rfl) (kI 4 rfl fun r1 w2 h => ?_) kN
  refine R.if_ne 9 7 dJ3_indexOf_4 (by decide) rfl (fun hc => ?_) (fun hc => ?_)
  · replace h := h.1 hc
    refine R.iload_n 10 dJ3_indexOf_9 rfl rfl ?_
    refine R.iconst 11 dJ3_indexOf_10 rfl ?_
    refine R.mmax 14 dJ3_indexOf_11 rfl q423 q424 q149 q425 (by omega) (Nat.le_of_ble_eq_true rfl) ?_
    refine R.ist2n 15 dJ3_indexOf_14 rfl (Nat.le_of_ble_eq_true rfl) rfl ?_
    refine R.iload_n 16 dJ3_indexOf_15 rfl rfl ?_
    refine R.aload_n 17 dJ3_indexOf_16 rfl rfl ?_
    obtain ⟨h6, h⟩ := h
    refine R.slen h6 18 dJ3_indexOf_17 rfl ?_
    refine R.mmin 21 dJ3_indexOf_18 rfl q426 q427 q149 q428 (by omega) (Nat.le_of_ble_eq_true rfl) ?_
    refine R.ist3n 22 dJ3_indexOf_21 rfl (Nat.le_of_ble_eq_true rfl) rfl ?_
    refine R.iload_n 23 dJ3_indexOf_22 rfl rfl ?_
    refine R.iload_n 24 dJ3_indexOf_23 rfl rfl ?_
    refine R.icmp_lt 29 27 dJ3_indexOf_24 (by decide) rfl (fun hc => ?_) (fun hc => ?_)
    · replace h := h.1 hc
      refine R.aload_n 30 dJ3_indexOf_29 rfl rfl ?_
      refine R.iload_n 31 dJ3_indexOf_30 rfl rfl ?_
      refine R.iload_n 32 dJ3_indexOf_31 rfl rfl ?_
      refine R.iload_n 33 dJ3_indexOf_32 rfl rfl ?_
      refine Rch.calls (sd_J3_indexOfChar _ _ _ _ _ _ h) dJ3_indexOf_33 (lw_S q429 q430 q148 q431) dk_J3_indexOfChar (by decide) (Nat.le_of_ble_eq_true rfl) rfl rfl (Nat.le_of_ble_eq_true rfl) (kI 36 rfl fun r3 w4 h => ?_) kN
      exact R.retI dJ3_indexOf_36 rfl h
    · replace h := h.2 hc
      refine R.iconst 28 dJ3_indexOf_27 rfl ?_
      exact R.retI dJ3_indexOf_28 rfl h
  · replace h := h.2 hc
    refine R.iconst 8 dJ3_indexOf_7 rfl ?_
    exact R.retI dJ3_indexOf_8 rfl h

abbrev k_J2_indexOf_2 : MK := ("java/lang/String", cJ2_indexOf_2, 3, (some .int), [], "indexOf")
def wp_J2_indexOf_2 (l0 : Nat) (l1 : Int32) (l2 : Int32) (w : Wd) (Q : Int32 → Wd → Prop) : Prop := l0 < 6 ∧ wp_J2_isLatin1 l0 w (fun r1 w2 => (r1 = iz 0 → l0 < 6 ∧ l0 < 6 ∧ wp_J2_length l0 w2 (fun r3 w4 => False)) ∧ (¬ r1 = iz 0 → l0 < 6 ∧ l0 < 6 ∧ wp_J2_length l0 w2 (fun r5 w6 => wp_J3_indexOf l0 l1 l2 r5 w6 (fun r7 w8 => Q r7 w8))))
set_option maxRecDepth 100000 in
set_option maxHeartbeats 4000000 in
theorem sd_J2_indexOf_2 {γ : GG} (l0 : Nat) (l1 : Int32) (l2 : Int32) (w : Wd) (Q : Int32 → Wd → Prop) : wp_J2_indexOf_2 l0 l1 l2 w Q → Ctr γ 3 yJ2_indexOf_2 (ws_ yJ2_indexOf_2 cJ2_indexOf_2 3 (some .int)) [.ref (120 + l0), .int l1, .int l2] w (qI Q) xN := by
  intro h
  unfold wp_J2_indexOf_2 at h
  refine Ctr.of (μ := k_J2_indexOf_2) (by decide) rfl rfl rfl (Nat.le_of_ble_eq_true rfl) ⟨0, ?_⟩
  have es : lva [.ref (120 + l0), .int l1, .int l2] ++ List.replicate 0 none = [some (.ref (120 + l0)), some (.int l1), some (.int l2)] := rfl
  rw [es]
  refine R.aload_n 1 dJ2_indexOf_2_0 rfl rfl ?_
  obtain ⟨h6, h⟩ := h
  refine Rch.callv (sd_J2_isLatin1 _ _ _ h) dJ2_indexOf_2_1 (lw_V q403 q404 q405 q147 q406) dk_J2_isLatin1 (rcS l0 h6) (by decide) (Nat.le_of_ble_eq_true rfl) rfl rfl (Nat.le_of_ble_eq_true rfl) (kI 4 rfl fun r1 w2 h => ?_) kN
  refine R.if_eq 23 7 dJ2_indexOf_2_4 (by decide) rfl (fun hc => ?_) (fun hc => ?_)
  · replace h := h.1 hc
    refine R.aload_n 24 dJ2_indexOf_2_23 rfl rfl ?_
    obtain ⟨h6, h⟩ := h
    refine R.sval h6 27 dJ2_indexOf_2_24 rfl rfl q1931 ?_
    refine R.iload_n 28 dJ2_indexOf_2_27 rfl rfl ?_
    refine R.iload_n 29 dJ2_indexOf_2_28 rfl rfl ?_
    refine R.aload_n 30 dJ2_indexOf_2_29 rfl rfl ?_
    obtain ⟨h6, h⟩ := h
    refine Rch.callv (sd_J2_length _ _ _ h) dJ2_indexOf_2_30 (lw_V q409 q410 q411 q147 q412) dk_J2_length (rcS l0 h6) (by decide) (Nat.le_of_ble_eq_true rfl) rfl rfl (Nat.le_of_ble_eq_true rfl) (kI 33 rfl fun r3 w4 h => ?_) kN
    exact h.elim
  · replace h := h.2 hc
    refine R.aload_n 8 dJ2_indexOf_2_7 rfl rfl ?_
    obtain ⟨h6, h⟩ := h
    refine R.sval h6 11 dJ2_indexOf_2_8 rfl rfl q1931 ?_
    refine R.iload_n 12 dJ2_indexOf_2_11 rfl rfl ?_
    refine R.iload_n 13 dJ2_indexOf_2_12 rfl rfl ?_
    refine R.aload_n 14 dJ2_indexOf_2_13 rfl rfl ?_
    obtain ⟨h6, h⟩ := h
    refine Rch.callv (sd_J2_length _ _ _ h) dJ2_indexOf_2_14 (lw_V q409 q410 q411 q147 q412) dk_J2_length (rcS l0 h6) (by decide) (Nat.le_of_ble_eq_true rfl) rfl rfl (Nat.le_of_ble_eq_true rfl) (kI 17 rfl fun r5 w6 h => ?_) kN
    refine Rch.calls (sd_J3_indexOf _ _ _ _ _ _ h) dJ2_indexOf_2_17 (lw_S q417 q418 q148 q419) dk_J3_indexOf (by decide) (Nat.le_of_ble_eq_true rfl) rfl rfl (Nat.le_of_ble_eq_true rfl) (kI 20 rfl fun r7 w8 h => ?_) kN
    refine R.goto 36 dJ2_indexOf_2_20 (by decide) ?_
    exact R.retI dJ2_indexOf_2_36 rfl h

abbrev k_J2_indexOf : MK := ("java/lang/String", cJ2_indexOf, 2, (some .int), [], "indexOf")
def wp_J2_indexOf (l0 : Nat) (l1 : Int32) (w : Wd) (Q : Int32 → Wd → Prop) : Prop := l0 < 6 ∧ wp_J2_indexOf_2 l0 l1 (iz 0) w (fun r1 w2 => Q r1 w2)
set_option maxRecDepth 100000 in
set_option maxHeartbeats 4000000 in
theorem sd_J2_indexOf {γ : GG} (l0 : Nat) (l1 : Int32) (w : Wd) (Q : Int32 → Wd → Prop) : wp_J2_indexOf l0 l1 w Q → Ctr γ 4 yJ2_indexOf (ws_ yJ2_indexOf cJ2_indexOf 2 (some .int)) [.ref (120 + l0), .int l1] w (qI Q) xN := by
  intro h
  unfold wp_J2_indexOf at h
  refine Ctr.of (μ := k_J2_indexOf) (by decide) rfl rfl rfl (Nat.le_of_ble_eq_true rfl) ⟨0, ?_⟩
  have es : lva [.ref (120 + l0), .int l1] ++ List.replicate 0 none = [some (.ref (120 + l0)), some (.int l1)] := rfl
  rw [es]
  refine R.aload_n 1 dJ2_indexOf_0 rfl rfl ?_
  refine R.iload_n 2 dJ2_indexOf_1 rfl rfl ?_
  refine R.iconst 3 dJ2_indexOf_2 rfl ?_
  obtain ⟨h6, h⟩ := h
  refine Rch.callv (sd_J2_indexOf_2 _ _ _ _ _ h) dJ2_indexOf_3 (lw_V q399 q400 q401 q147 q402) dk_J2_indexOf_2 (rcS l0 h6) (by decide) (Nat.le_of_ble_eq_true rfl) rfl rfl (Nat.le_of_ble_eq_true rfl) (kI 6 rfl fun r1 w2 h => ?_) kN
  exact R.retI dJ2_indexOf_6 rfl h
