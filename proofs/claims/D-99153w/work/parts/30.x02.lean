set_option maxRecDepth 100000

abbrev k_X1_planRead : MK := ("FrostBox", cX1_planRead, 2, (some .int), [(10, 18, 21, 9)], "planRead")
def wp_X1_planRead (w : Wd) (Q : Int32 → Wd → Prop) : Prop := (¬ (gI w 26) = (iz 4) → wp_X1_wholePlan (gI w 26) w (fun w2 => ∀ w3, w3 = sI w2 12 (iz 0) → ∀ w4, w4 = sI w3 26 ((gI w3 26) + (iz 1)) → Q ((gI w4 26) - (iz 1)) w4) (fun w5 => Q (iz (-1)) w5)) ∧ ((gI w 26) = (iz 4) → Q (iz (-1)) w)
set_option maxRecDepth 100000 in
set_option maxHeartbeats 4000000 in
theorem sd_X1_planRead {γ : GG} (w : Wd) (Q : Int32 → Wd → Prop) : wp_X1_planRead w Q → Ctr γ 7 yX1_planRead (wsW_ yX1_planRead cX1_planRead 2 (some .int) [(10, 18, 21, 9)]) [.ref 1] w (qI Q) xN := by
  intro h
  unfold wp_X1_planRead at h
  refine Ctr.ofH (μ := k_X1_planRead) (by decide) rfl rfl (Nat.le_of_ble_eq_true rfl) ⟨1, ?_⟩
  have es : lva [.ref 1] ++ List.replicate 1 none = [some (.ref 1), none] := rfl
  rw [es]
  refine R.aload_n 1 dX1_planRead_0 rfl rfl ?_
  refine gf_26 4 dX1_planRead_1 rfl rfl ?_
  refine R.iconst 5 dX1_planRead_4 rfl ?_
  refine R.icmp_ne 10 8 dX1_planRead_5 (by decide) rfl (fun hc => ?_) (fun hc => ?_)
  · replace h := h.1 hc
    refine R.aload_n 11 dX1_planRead_10 rfl rfl ?_
    refine R.aload_n 12 dX1_planRead_11 rfl rfl ?_
    refine gf_26 15 dX1_planRead_12 rfl rfl ?_
    refine Rch.callv (sd_X1_wholePlan _ _ _ _ h) dX1_planRead_15 (lw_V q707 q709 qs21 q142 q710) dk_X1_wholePlan rcX (by decide) (Nat.le_of_ble_eq_true rfl) rfl rfl (Nat.le_of_ble_eq_true rfl) (kV 18 rfl fun w2 h => ?_) (kC fun w5 h => ?_)
    · refine R.goto 24 dX1_planRead_18 (by decide) ?_
      refine R.aload_n 25 dX1_planRead_24 rfl rfl ?_
      refine R.iconst 26 dX1_planRead_25 rfl ?_
      replace h := h _ rfl
      refine pf_12 _ 29 dX1_planRead_26 rfl rfl ?_
      refine R.aload_n 30 dX1_planRead_29 rfl rfl ?_
      refine R.dupR 31 dX1_planRead_30 rfl ?_
      refine gf_26 34 dX1_planRead_31 rfl rfl ?_
      refine R.iconst 35 dX1_planRead_34 rfl ?_
      refine R.iadd 36 dX1_planRead_35 rfl ?_
      replace h := h _ rfl
      refine pf_26 _ 39 dX1_planRead_36 rfl rfl ?_
      refine R.aload_n 40 dX1_planRead_39 rfl rfl ?_
      refine gf_26 43 dX1_planRead_40 rfl rfl ?_
      refine R.iconst 44 dX1_planRead_43 rfl ?_
      refine R.isub 45 dX1_planRead_44 rfl ?_
      exact R.retI dX1_planRead_45 rfl h
    · refine RchX.catch (k0 := 1) rfl (by decide) (by decide) q174 (List.mem_of_getElem? (i := 0) rfl) dX1_planRead_21 rfl (Nat.le_of_ble_eq_true rfl) (hpS (i := 0) rfl rfl) ?_
      refine R.iconst 23 dX1_planRead_22 rfl ?_
      exact R.retI dX1_planRead_23 rfl h
  · replace h := h.2 hc
    refine R.iconst 9 dX1_planRead_8 rfl ?_
    exact R.retI dX1_planRead_9 rfl h

abbrev k_X1_text : MK := ("FrostBox", cX1_text, 3, (some .int), [], "text")
def wl_X1_text_164 (Q : Int32 → Wd → Prop) (R164 : Int32 → Wd → Prop) (l2 : Int32) (w : Wd) : Prop := ((gI w 22) ≤ l2 → ∀ w1, w1 = sI w 39 (iz 0) → ∀ w2, w2 = sI w1 43 (iz 0) → ∀ w3, w3 = sI w2 33 (iz 0) → ∀ w4, w4 = sI w3 51 (iz 0) → Q (gI w4 23) w4) ∧ (¬ (gI w 22) ≤ l2 → inb (((iz 4) * l2) + (iz 3)) 275 ∧ inb (((iz 4) * l2) + (iz 3)) 275 ∧ (∀ w5, w5 = sA w 31 (((iz 4) * l2) + (iz 3)).toInt ((gA w 31 (((iz 4) * l2) + (iz 3)).toInt) - (iz 1)) → R164 (l2 + iz 1) w5))
def lp_X1_text_164 (Q : Int32 → Wd → Prop) : Nat → Int32 → Wd → Prop
  | 0, _, _ => False
  | n + 1, l2, w => wl_X1_text_164 Q (lp_X1_text_164 Q n) l2 w
def wl_X1_text_134 (Q : Int32 → Wd → Prop) (R134 : Int32 → Wd → Prop) (l2 : Int32) (w : Wd) : Prop := (((iz 4) * (gI w 22)) ≤ l2 → ∃ n1, lp_X1_text_164 Q n1 (iz 0) w) ∧ (¬ ((iz 4) * (gI w 22)) ≤ l2 → inb l2 32 ∧ inb l2 275 ∧ (∀ w2, w2 = sA w 31 l2.toInt (gA w 18 l2.toInt) → R134 (l2 + iz 1) w2))
def lp_X1_text_134 (Q : Int32 → Wd → Prop) : Nat → Int32 → Wd → Prop
  | 0, _, _ => False
  | n + 1, l2, w => wl_X1_text_134 Q (lp_X1_text_134 Q n) l2 w
def wl_X1_text_101 (Q : Int32 → Wd → Prop) (R101 : Int32 → Wd → Prop) (l2 : Int32) (w : Wd) : Prop := ((iz 275) ≤ l2 → inb (iz 32) 275 ∧ (∀ w1, w1 = sA w 31 (iz 32).toInt (gI w 22) → ∃ n2, lp_X1_text_134 Q n2 (iz 0) w1)) ∧ (¬ (iz 275) ≤ l2 → inb l2 275 ∧ (∀ w3, w3 = sA w 31 l2.toInt (iz 0) → R101 (l2 + iz 1) w3))
def lp_X1_text_101 (Q : Int32 → Wd → Prop) : Nat → Int32 → Wd → Prop
  | 0, _, _ => False
  | n + 1, l2, w => wl_X1_text_101 Q (lp_X1_text_101 Q n) l2 w
def wl_X1_text_75 (Q : Int32 → Wd → Prop) (R75 : Int32 → Wd → Prop) (l2 : Int32) (w : Wd) : Prop := ((iz 30) ≤ l2 → ∃ n1, lp_X1_text_101 Q n1 (iz 0) w) ∧ (¬ (iz 30) ≤ l2 → inb l2 30 ∧ inb l2 30 ∧ (∀ w2, w2 = sA w 20 l2.toInt (gA w 17 l2.toInt) → R75 (l2 + iz 1) w2))
def lp_X1_text_75 (Q : Int32 → Wd → Prop) : Nat → Int32 → Wd → Prop
  | 0, _, _ => False
  | n + 1, l2, w => wl_X1_text_75 Q (lp_X1_text_75 Q n) l2 w
def wl_X1_text_50 (Q : Int32 → Wd → Prop) (R50 : Int32 → Wd → Prop) (l2 : Int32) (w : Wd) : Prop := ((iz 4) ≤ l2 → ∃ n1, lp_X1_text_75 Q n1 (iz 0) w) ∧ (¬ (iz 4) ≤ l2 → inb l2 4 ∧ inb l2 4 ∧ (∀ w2, w2 = sA w 19 l2.toInt (gA w 16 l2.toInt) → R50 (l2 + iz 1) w2))
def lp_X1_text_50 (Q : Int32 → Wd → Prop) : Nat → Int32 → Wd → Prop
  | 0, _, _ => False
  | n + 1, l2, w => wl_X1_text_50 Q (lp_X1_text_50 Q n) l2 w
def wp_X1_text (l1 : Int32) (w : Wd) (Q : Int32 → Wd → Prop) : Prop := (¬ l1 = (iz 1) → (¬ l1 = (iz 2) → (¬ l1 = iz 0 → Q (iz (-1)) w) ∧ (l1 = iz 0 → wp_X1_fault (iz 0) w (fun r1 w2 => (r1 = (iz (-1)) → ∀ w3, w3 = sI w2 12 (iz 0) → ∀ w4, w4 = sI w3 23 (gI w3 21) → ∃ n5, lp_X1_text_50 Q n5 (iz 0) w4) ∧ (¬ r1 = (iz (-1)) → Q (iz (-1)) w2)))) ∧ (l1 = (iz 2) → wp_X1_planRead w (fun r6 w7 => Q r6 w7))) ∧ (l1 = (iz 1) → wp_X1_lawRead w (fun r8 w9 => Q r8 w9))
set_option maxRecDepth 100000 in
set_option maxHeartbeats 4000000 in
theorem sl_X1_text_164 {γ : GG} (Q : Int32 → Wd → Prop) : ∀ (n : Nat) (l2 : Int32) (w : Wd), lp_X1_text_164 Q n l2 w → Rch γ 72 k_X1_text 164 [some (.ref 1), none, some (.int l2)] [] w (qI Q) xN := by
  intro n
  induction n with
  | zero => intro _ _ h; exact h.elim
  | succ n hR164 =>
    intro l2 w h
    have h : wl_X1_text_164 Q (lp_X1_text_164 Q n) l2 w := h
    unfold wl_X1_text_164 at h
    refine R.iload_n 165 dX1_text_164 rfl rfl ?_
    refine R.aload_n 166 dX1_text_165 rfl rfl ?_
    refine gf_22 169 dX1_text_166 rfl rfl ?_
    refine R.icmp_ge 192 172 dX1_text_169 (by decide) rfl (fun hc => ?_) (fun hc => ?_)
    · replace h := h.1 hc
      refine R.aload_n 193 dX1_text_192 rfl rfl ?_
      refine R.iconst 194 dX1_text_193 rfl ?_
      replace h := h _ rfl
      refine pf_39 _ 197 dX1_text_194 rfl rfl ?_
      refine R.aload_n 198 dX1_text_197 rfl rfl ?_
      refine R.iconst 199 dX1_text_198 rfl ?_
      replace h := h _ rfl
      refine pf_43 _ 202 dX1_text_199 rfl rfl ?_
      refine R.aload_n 203 dX1_text_202 rfl rfl ?_
      refine R.iconst 204 dX1_text_203 rfl ?_
      replace h := h _ rfl
      refine pf_33 _ 207 dX1_text_204 rfl rfl ?_
      refine R.aload_n 208 dX1_text_207 rfl rfl ?_
      refine R.iconst 209 dX1_text_208 rfl ?_
      replace h := h _ rfl
      refine pf_51 _ 212 dX1_text_209 rfl rfl zok0 ?_
      refine R.aload_n 213 dX1_text_212 rfl rfl ?_
      refine gf_23 216 dX1_text_213 rfl rfl ?_
      exact R.retI dX1_text_216 rfl h
    · replace h := h.2 hc
      refine R.aload_n 173 dX1_text_172 rfl rfl ?_
      refine gf_31 176 dX1_text_173 rfl rfl ?_
      refine R.iconst 177 dX1_text_176 rfl ?_
      refine R.iload_n 178 dX1_text_177 rfl rfl ?_
      refine R.imul 179 dX1_text_178 rfl ?_
      refine R.iconst 180 dX1_text_179 rfl ?_
      refine R.iadd 181 dX1_text_180 rfl ?_
      refine R.dup2 182 dX1_text_181 rfl ?_
      obtain ⟨hb, h⟩ := h
      refine R.iald ar_31 183 dX1_text_182 rfl hb ?_
      refine R.iconst 184 dX1_text_183 rfl ?_
      refine R.isub 185 dX1_text_184 rfl ?_
      obtain ⟨hb, h⟩ := h
      replace h := h _ rfl
      refine R.iast ar_31 186 dX1_text_185 rfl hb ?_
      refine R.inc2 189 dX1_text_186 rfl (Nat.le_of_ble_eq_true rfl) rfl ?_
      refine R.goto 164 dX1_text_189 (by decide) ?_
      exact Rch.dropk (hR164 _ _ h) ⟨rfl, ⟨rfl, trivial⟩⟩
set_option maxRecDepth 100000 in
set_option maxHeartbeats 4000000 in
theorem sl_X1_text_134 {γ : GG} (Q : Int32 → Wd → Prop) : ∀ (n : Nat) (l2 : Int32) (w : Wd), lp_X1_text_134 Q n l2 w → Rch γ 72 k_X1_text 134 [some (.ref 1), none, some (.int l2)] [] w (qI Q) xN := by
  intro n
  induction n with
  | zero => intro _ _ h; exact h.elim
  | succ n hR134 =>
    intro l2 w h
    have h : wl_X1_text_134 Q (lp_X1_text_134 Q n) l2 w := h
    unfold wl_X1_text_134 at h
    refine R.iload_n 135 dX1_text_134 rfl rfl ?_
    refine R.iconst 136 dX1_text_135 rfl ?_
    refine R.aload_n 137 dX1_text_136 rfl rfl ?_
    refine gf_22 140 dX1_text_137 rfl rfl ?_
    refine R.imul 141 dX1_text_140 rfl ?_
    refine R.icmp_ge 162 144 dX1_text_141 (by decide) rfl (fun hc => ?_) (fun hc => ?_)
    · replace h := h.1 hc
      refine R.iconst 163 dX1_text_162 rfl ?_
      refine R.ist2n 164 dX1_text_163 rfl (Nat.le_of_ble_eq_true rfl) rfl ?_
      obtain ⟨n1, h⟩ := h
      exact Rch.dropk (sl_X1_text_164 Q n1 _ _ h) ⟨rfl, ⟨rfl, trivial⟩⟩
    · replace h := h.2 hc
      refine R.aload_n 145 dX1_text_144 rfl rfl ?_
      refine gf_31 148 dX1_text_145 rfl rfl ?_
      refine R.iload_n 149 dX1_text_148 rfl rfl ?_
      refine R.aload_n 150 dX1_text_149 rfl rfl ?_
      refine gf_18 153 dX1_text_150 rfl rfl ?_
      refine R.iload_n 154 dX1_text_153 rfl rfl ?_
      obtain ⟨hb, h⟩ := h
      refine R.iald ar_18 155 dX1_text_154 rfl hb ?_
      obtain ⟨hb, h⟩ := h
      replace h := h _ rfl
      refine R.iast ar_31 156 dX1_text_155 rfl hb ?_
      refine R.inc2 159 dX1_text_156 rfl (Nat.le_of_ble_eq_true rfl) rfl ?_
      refine R.goto 134 dX1_text_159 (by decide) ?_
      exact Rch.dropk (hR134 _ _ h) ⟨rfl, ⟨rfl, trivial⟩⟩
set_option maxRecDepth 100000 in
set_option maxHeartbeats 4000000 in
theorem sl_X1_text_101 {γ : GG} (Q : Int32 → Wd → Prop) : ∀ (n : Nat) (l2 : Int32) (w : Wd), lp_X1_text_101 Q n l2 w → Rch γ 72 k_X1_text 101 [some (.ref 1), none, some (.int l2)] [] w (qI Q) xN := by
  intro n
  induction n with
  | zero => intro _ _ h; exact h.elim
  | succ n hR101 =>
    intro l2 w h
    have h : wl_X1_text_101 Q (lp_X1_text_101 Q n) l2 w := h
    unfold wl_X1_text_101 at h
    refine R.iload_n 102 dX1_text_101 rfl rfl ?_
    refine R.sipush 105 dX1_text_102 rfl (by decide +kernel) ?_
    refine R.icmp_ge 121 108 dX1_text_105 (by decide) rfl (fun hc => ?_) (fun hc => ?_)
    · replace h := h.1 hc
      refine R.aload_n 122 dX1_text_121 rfl rfl ?_
      refine gf_31 125 dX1_text_122 rfl rfl ?_
      refine R.bipush 127 dX1_text_125 rfl (by decide +kernel) ?_
      refine R.aload_n 128 dX1_text_127 rfl rfl ?_
      refine gf_22 131 dX1_text_128 rfl rfl ?_
      obtain ⟨hb, h⟩ := h
      replace h := h _ rfl
      refine R.iast ar_31 132 dX1_text_131 rfl hb ?_
      refine R.iconst 133 dX1_text_132 rfl ?_
      refine R.ist2n 134 dX1_text_133 rfl (Nat.le_of_ble_eq_true rfl) rfl ?_
      obtain ⟨n2, h⟩ := h
      exact Rch.dropk (sl_X1_text_134 Q n2 _ _ h) ⟨rfl, ⟨rfl, trivial⟩⟩
    · replace h := h.2 hc
      refine R.aload_n 109 dX1_text_108 rfl rfl ?_
      refine gf_31 112 dX1_text_109 rfl rfl ?_
      refine R.iload_n 113 dX1_text_112 rfl rfl ?_
      refine R.iconst 114 dX1_text_113 rfl ?_
      obtain ⟨hb, h⟩ := h
      replace h := h _ rfl
      refine R.iast ar_31 115 dX1_text_114 rfl hb ?_
      refine R.inc2 118 dX1_text_115 rfl (Nat.le_of_ble_eq_true rfl) rfl ?_
      refine R.goto 101 dX1_text_118 (by decide) ?_
      exact Rch.dropk (hR101 _ _ h) ⟨rfl, ⟨rfl, trivial⟩⟩
set_option maxRecDepth 100000 in
set_option maxHeartbeats 4000000 in
theorem sl_X1_text_75 {γ : GG} (Q : Int32 → Wd → Prop) : ∀ (n : Nat) (l2 : Int32) (w : Wd), lp_X1_text_75 Q n l2 w → Rch γ 72 k_X1_text 75 [some (.ref 1), none, some (.int l2)] [] w (qI Q) xN := by
  intro n
  induction n with
  | zero => intro _ _ h; exact h.elim
  | succ n hR75 =>
    intro l2 w h
    have h : wl_X1_text_75 Q (lp_X1_text_75 Q n) l2 w := h
    unfold wl_X1_text_75 at h
    refine R.iload_n 76 dX1_text_75 rfl rfl ?_
    refine R.bipush 78 dX1_text_76 rfl (by decide +kernel) ?_
    refine R.icmp_ge 99 81 dX1_text_78 (by decide) rfl (fun hc => ?_) (fun hc => ?_)
    · replace h := h.1 hc
      refine R.iconst 100 dX1_text_99 rfl ?_
      refine R.ist2n 101 dX1_text_100 rfl (Nat.le_of_ble_eq_true rfl) rfl ?_
      obtain ⟨n1, h⟩ := h
      exact Rch.dropk (sl_X1_text_101 Q n1 _ _ h) ⟨rfl, ⟨rfl, trivial⟩⟩
    · replace h := h.2 hc
      refine R.aload_n 82 dX1_text_81 rfl rfl ?_
      refine gf_20 85 dX1_text_82 rfl rfl ?_
      refine R.iload_n 86 dX1_text_85 rfl rfl ?_
      refine R.aload_n 87 dX1_text_86 rfl rfl ?_
      refine gf_17 90 dX1_text_87 rfl rfl ?_
      refine R.iload_n 91 dX1_text_90 rfl rfl ?_
      obtain ⟨hb, h⟩ := h
      refine R.iald ar_17 92 dX1_text_91 rfl hb ?_
      obtain ⟨hb, h⟩ := h
      replace h := h _ rfl
      refine R.iast ar_20 93 dX1_text_92 rfl hb ?_
      refine R.inc2 96 dX1_text_93 rfl (Nat.le_of_ble_eq_true rfl) rfl ?_
      refine R.goto 75 dX1_text_96 (by decide) ?_
      exact Rch.dropk (hR75 _ _ h) ⟨rfl, ⟨rfl, trivial⟩⟩
set_option maxRecDepth 100000 in
set_option maxHeartbeats 4000000 in
theorem sl_X1_text_50 {γ : GG} (Q : Int32 → Wd → Prop) : ∀ (n : Nat) (l2 : Int32) (w : Wd), lp_X1_text_50 Q n l2 w → Rch γ 72 k_X1_text 50 [some (.ref 1), none, some (.int l2)] [] w (qI Q) xN := by
  intro n
  induction n with
  | zero => intro _ _ h; exact h.elim
  | succ n hR50 =>
    intro l2 w h
    have h : wl_X1_text_50 Q (lp_X1_text_50 Q n) l2 w := h
    unfold wl_X1_text_50 at h
    refine R.iload_n 51 dX1_text_50 rfl rfl ?_
    refine R.iconst 52 dX1_text_51 rfl ?_
    refine R.icmp_ge 73 55 dX1_text_52 (by decide) rfl (fun hc => ?_) (fun hc => ?_)
    · replace h := h.1 hc
      refine R.iconst 74 dX1_text_73 rfl ?_
      refine R.ist2n 75 dX1_text_74 rfl (Nat.le_of_ble_eq_true rfl) rfl ?_
      obtain ⟨n1, h⟩ := h
      exact Rch.dropk (sl_X1_text_75 Q n1 _ _ h) ⟨rfl, ⟨rfl, trivial⟩⟩
    · replace h := h.2 hc
      refine R.aload_n 56 dX1_text_55 rfl rfl ?_
      refine gf_19 59 dX1_text_56 rfl rfl ?_
      refine R.iload_n 60 dX1_text_59 rfl rfl ?_
      refine R.aload_n 61 dX1_text_60 rfl rfl ?_
      refine gf_16 64 dX1_text_61 rfl rfl ?_
      refine R.iload_n 65 dX1_text_64 rfl rfl ?_
      obtain ⟨hb, h⟩ := h
      refine R.iald ar_16 66 dX1_text_65 rfl hb ?_
      obtain ⟨hb, h⟩ := h
      replace h := h _ rfl
      refine R.iast ar_19 67 dX1_text_66 rfl hb ?_
      refine R.inc2 70 dX1_text_67 rfl (Nat.le_of_ble_eq_true rfl) rfl ?_
      refine R.goto 50 dX1_text_70 (by decide) ?_
      exact Rch.dropk (hR50 _ _ h) ⟨rfl, ⟨rfl, trivial⟩⟩
set_option maxRecDepth 100000 in
set_option maxHeartbeats 4000000 in
theorem sd_X1_text {γ : GG} (l1 : Int32) (w : Wd) (Q : Int32 → Wd → Prop) : wp_X1_text l1 w Q → Ctr γ 72 yX1_text (ws_ yX1_text cX1_text 3 (some .int)) [.ref 1, .int l1] w (qI Q) xN := by
  intro h
  unfold wp_X1_text at h
  refine Ctr.of (μ := k_X1_text) (by decide) rfl rfl rfl (Nat.le_of_ble_eq_true rfl) ⟨1, ?_⟩
  have es : lva [.ref 1, .int l1] ++ List.replicate 1 none = [some (.ref 1), some (.int l1), none] := rfl
  rw [es]
  refine R.iload_n 1 dX1_text_0 rfl rfl ?_
  refine R.iconst 2 dX1_text_1 rfl ?_
  refine R.icmp_ne 10 5 dX1_text_2 (by decide) rfl (fun hc => ?_) (fun hc => ?_)
  · replace h := h.1 hc
    refine R.iload_n 11 dX1_text_10 rfl rfl ?_
    refine R.iconst 12 dX1_text_11 rfl ?_
    refine R.icmp_ne 20 15 dX1_text_12 (by decide) rfl (fun hc => ?_) (fun hc => ?_)
    · replace h := h.1 hc
      refine R.iload_n 21 dX1_text_20 rfl rfl ?_
      refine R.if_ne 33 24 dX1_text_21 (by decide) rfl (fun hc => ?_) (fun hc => ?_)
      · replace h := h.1 hc
        refine R.iconst 34 dX1_text_33 rfl ?_
        exact R.retI dX1_text_34 rfl h
      · replace h := h.2 hc
        refine R.aload_n 25 dX1_text_24 rfl rfl ?_
        refine R.iconst 26 dX1_text_25 rfl ?_
        refine Rch.callvH (sd_X1_fault _ _ _ h) dX1_text_26 (lw_VW q732 q375 q376 q142 q377) dk_X1_fault rcX (by decide) (Nat.le_of_ble_eq_true rfl) rfl rfl (Nat.le_of_ble_eq_true rfl) (kI 29 rfl fun r1 w2 h => ?_) kN
        refine R.iconst 30 dX1_text_29 rfl ?_
        refine R.icmp_eq 35 33 dX1_text_30 (by decide) rfl (fun hc => ?_) (fun hc => ?_)
        · replace h := h.1 hc
          refine R.aload_n 36 dX1_text_35 rfl rfl ?_
          refine R.iconst 37 dX1_text_36 rfl ?_
          replace h := h _ rfl
          refine pf_12 _ 40 dX1_text_37 rfl rfl ?_
          refine R.aload_n 41 dX1_text_40 rfl rfl ?_
          refine R.aload_n 42 dX1_text_41 rfl rfl ?_
          refine gf_21 45 dX1_text_42 rfl rfl ?_
          replace h := h _ rfl
          refine pf_23 _ 48 dX1_text_45 rfl rfl ?_
          refine R.iconst 49 dX1_text_48 rfl ?_
          refine R.ist2n 50 dX1_text_49 rfl (Nat.le_of_ble_eq_true rfl) rfl ?_
          obtain ⟨n5, h⟩ := h
          exact Rch.dropk (sl_X1_text_50 Q n5 _ _ h) ⟨rfl, ⟨rfl, trivial⟩⟩
        · replace h := h.2 hc
          refine R.iconst 34 dX1_text_33 rfl ?_
          exact R.retI dX1_text_34 rfl h
    · replace h := h.2 hc
      refine R.aload_n 16 dX1_text_15 rfl rfl ?_
      refine Rch.callvH (sd_X1_planRead _ _ h) dX1_text_16 (lw_VW q728 q730 qs25 q142 q731) dk_X1_planRead rcX (by decide) (Nat.le_of_ble_eq_true rfl) rfl rfl (Nat.le_of_ble_eq_true rfl) (kI 19 rfl fun r6 w7 h => ?_) kN
      exact R.retI dX1_text_19 rfl h
  · replace h := h.2 hc
    refine R.aload_n 6 dX1_text_5 rfl rfl ?_
    refine Rch.callvH (sd_X1_lawRead _ _ h) dX1_text_6 (lw_VW q724 q726 qs24 q142 q727) dk_X1_lawRead rcX (by decide) (Nat.le_of_ble_eq_true rfl) rfl rfl (Nat.le_of_ble_eq_true rfl) (kI 9 rfl fun r8 w9 h => ?_) kN
    exact R.retI dX1_text_9 rfl h

abbrev k_X1_isHouse : MK := ("FrostBox", cX1_isHouse, 1, (some .boolean), [], "isHouse")
def wp_X1_isHouse (w : Wd) (Q : Int32 → Wd → Prop) : Prop := ((gI w 23) ≤ iz 0 → Q (iz 0) w) ∧ (¬ (gI w 23) ≤ iz 0 → Q (iz 1) w)
set_option maxRecDepth 100000 in
set_option maxHeartbeats 4000000 in
theorem sd_X1_isHouse {γ : GG} (w : Wd) (Q : Int32 → Wd → Prop) : wp_X1_isHouse w Q → Ctr γ 1 yX1_isHouse (ws_ yX1_isHouse cX1_isHouse 1 (some .boolean)) [.ref 1] w (qI Q) xN := by
  intro h
  unfold wp_X1_isHouse at h
  refine Ctr.of (μ := k_X1_isHouse) (by decide) rfl rfl rfl (Nat.le_of_ble_eq_true rfl) ⟨0, ?_⟩
  have es : lva [.ref 1] ++ List.replicate 0 none = [some (.ref 1)] := rfl
  rw [es]
  refine R.aload_n 1 dX1_isHouse_0 rfl rfl ?_
  refine gf_23 4 dX1_isHouse_1 rfl rfl ?_
  refine R.if_le 11 7 dX1_isHouse_4 (by decide) rfl (fun hc => ?_) (fun hc => ?_)
  · replace h := h.1 hc
    refine R.iconst 12 dX1_isHouse_11 rfl ?_
    exact R.retZ dX1_isHouse_12 rfl zok0 h
  · replace h := h.2 hc
    refine R.iconst 8 dX1_isHouse_7 rfl ?_
    refine R.goto 12 dX1_isHouse_8 (by decide) ?_
    exact R.retZ dX1_isHouse_12 rfl zok1 h

abbrev k_X1_rule : MK := ("FrostBox", cX1_rule, 2, (some .int), [], "rule")
def wp_X1_rule (l1 : Int32) (w : Wd) (Q : Int32 → Wd → Prop) : Prop := wp_X1_isHouse w (fun r1 w2 => (r1 = iz 0 → Q (iz (-1)) w2) ∧ (¬ r1 = iz 0 → wp_X1_in l1 (iz 0) (iz 3) w2 (fun r3 w4 => (r3 = iz 0 → Q (iz (-1)) w4) ∧ (¬ r3 = iz 0 → inb l1 4 ∧ Q (gA w4 19 l1.toInt) w4))))
set_option maxRecDepth 100000 in
set_option maxHeartbeats 4000000 in
theorem sd_X1_rule {γ : GG} (l1 : Int32) (w : Wd) (Q : Int32 → Wd → Prop) : wp_X1_rule l1 w Q → Ctr γ 2 yX1_rule (ws_ yX1_rule cX1_rule 2 (some .int)) [.ref 1, .int l1] w (qI Q) xN := by
  intro h
  unfold wp_X1_rule at h
  refine Ctr.of (μ := k_X1_rule) (by decide) rfl rfl rfl (Nat.le_of_ble_eq_true rfl) ⟨0, ?_⟩
  have es : lva [.ref 1, .int l1] ++ List.replicate 0 none = [some (.ref 1), some (.int l1)] := rfl
  rw [es]
  refine R.aload_n 1 dX1_rule_0 rfl rfl ?_
  refine Rch.callv (sd_X1_isHouse _ _ h) dX1_rule_1 (lw_V q737 q739 qs26 q142 q740) dk_X1_isHouse rcX (by decide) (Nat.le_of_ble_eq_true rfl) rfl rfl (Nat.le_of_ble_eq_true rfl) (kI 4 rfl fun r1 w2 h => ?_) kN
  refine R.if_eq 25 7 dX1_rule_4 (by decide) rfl (fun hc => ?_) (fun hc => ?_)
  · replace h := h.1 hc
    refine R.iconst 26 dX1_rule_25 rfl ?_
    exact R.retI dX1_rule_26 rfl h
  · replace h := h.2 hc
    refine R.iload_n 8 dX1_rule_7 rfl rfl ?_
    refine R.iconst 9 dX1_rule_8 rfl ?_
    refine R.iconst 10 dX1_rule_9 rfl ?_
    refine Rch.calls (sd_X1_in _ _ _ _ _ h) dX1_rule_10 (lw_S q700 q701 q142 q702) dk_X1_in (by decide) (Nat.le_of_ble_eq_true rfl) rfl rfl (Nat.le_of_ble_eq_true rfl) (kI 13 rfl fun r3 w4 h => ?_) kN
    refine R.if_eq 25 16 dX1_rule_13 (by decide) rfl (fun hc => ?_) (fun hc => ?_)
    · replace h := h.1 hc
      refine R.iconst 26 dX1_rule_25 rfl ?_
      exact R.retI dX1_rule_26 rfl h
    · replace h := h.2 hc
      refine R.aload_n 17 dX1_rule_16 rfl rfl ?_
      refine gf_19 20 dX1_rule_17 rfl rfl ?_
      refine R.iload_n 21 dX1_rule_20 rfl rfl ?_
      obtain ⟨hb, h⟩ := h
      refine R.iald ar_19 22 dX1_rule_21 rfl hb ?_
      refine R.goto 26 dX1_rule_22 (by decide) ?_
      exact R.retI dX1_rule_26 rfl h

abbrev k_X1_isKind : MK := ("FrostBox", cX1_isKind, 2, (some .boolean), [], "isKind")
def wp_X1_isKind (l1 : Int32) (w : Wd) (Q : Int32 → Wd → Prop) : Prop := wp_X1_in l1 (iz 0) ((gI w 23) - (iz 1)) w (fun r1 w2 => zok r1 ∧ Q r1 w2)
set_option maxRecDepth 100000 in
set_option maxHeartbeats 4000000 in
theorem sd_X1_isKind {γ : GG} (l1 : Int32) (w : Wd) (Q : Int32 → Wd → Prop) : wp_X1_isKind l1 w Q → Ctr γ 2 yX1_isKind (ws_ yX1_isKind cX1_isKind 2 (some .boolean)) [.ref 1, .int l1] w (qI Q) xN := by
  intro h
  unfold wp_X1_isKind at h
  refine Ctr.of (μ := k_X1_isKind) (by decide) rfl rfl rfl (Nat.le_of_ble_eq_true rfl) ⟨0, ?_⟩
  have es : lva [.ref 1, .int l1] ++ List.replicate 0 none = [some (.ref 1), some (.int l1)] := rfl
  rw [es]
  refine R.iload_n 1 dX1_isKind_0 rfl rfl ?_
  refine R.iconst 2 dX1_isKind_1 rfl ?_
  refine R.aload_n 3 dX1_isKind_2 rfl rfl ?_
  refine gf_23 6 dX1_isKind_3 rfl rfl ?_
  refine R.iconst 7 dX1_isKind_6 rfl ?_
  refine R.isub 8 dX1_isKind_7 rfl ?_
  refine Rch.calls (sd_X1_in _ _ _ _ _ h) dX1_isKind_8 (lw_S q700 q701 q142 q702) dk_X1_in (by decide) (Nat.le_of_ble_eq_true rfl) rfl rfl (Nat.le_of_ble_eq_true rfl) (kI 11 rfl fun r1 w2 h => ?_) kN
  exact R.retZ dX1_isKind_11 rfl h.1 h.2

abbrev k_X1_ofKind : MK := ("FrostBox", cX1_ofKind, 3, (some .int), [], "ofKind")
def wp_X1_ofKind (l1 : Int32) (l2 : Int32) (w : Wd) (Q : Int32 → Wd → Prop) : Prop := inb (((iz 5) * l1) + l2) 30 ∧ Q (gA w 20 (((iz 5) * l1) + l2).toInt) w
set_option maxRecDepth 100000 in
set_option maxHeartbeats 4000000 in
theorem sd_X1_ofKind {γ : GG} (l1 : Int32) (l2 : Int32) (w : Wd) (Q : Int32 → Wd → Prop) : wp_X1_ofKind l1 l2 w Q → Ctr γ 1 yX1_ofKind (ws_ yX1_ofKind cX1_ofKind 3 (some .int)) [.ref 1, .int l1, .int l2] w (qI Q) xN := by
  intro h
  unfold wp_X1_ofKind at h
  refine Ctr.of (μ := k_X1_ofKind) (by decide) rfl rfl rfl (Nat.le_of_ble_eq_true rfl) ⟨0, ?_⟩
  have es : lva [.ref 1, .int l1, .int l2] ++ List.replicate 0 none = [some (.ref 1), some (.int l1), some (.int l2)] := rfl
  rw [es]
  refine R.aload_n 1 dX1_ofKind_0 rfl rfl ?_
  refine gf_20 4 dX1_ofKind_1 rfl rfl ?_
  refine R.iconst 5 dX1_ofKind_4 rfl ?_
  refine R.iload_n 6 dX1_ofKind_5 rfl rfl ?_
  refine R.imul 7 dX1_ofKind_6 rfl ?_
  refine R.iload_n 8 dX1_ofKind_7 rfl rfl ?_
  refine R.iadd 9 dX1_ofKind_8 rfl ?_
  obtain ⟨hb, h⟩ := h
  refine R.iald ar_20 10 dX1_ofKind_9 rfl hb ?_
  exact R.retI dX1_ofKind_10 rfl h

abbrev k_X1_goesWith : MK := ("FrostBox", cX1_goesWith, 2, (some .int), [], "goesWith")
def wp_X1_goesWith (l1 : Int32) (w : Wd) (Q : Int32 → Wd → Prop) : Prop := wp_X1_ofKind l1 (iz 4) w (fun r1 w2 => (¬ r1 = (iz 6) → wp_X1_ofKind l1 (iz 4) w2 (fun r3 w4 => Q r3 w4)) ∧ (r1 = (iz 6) → Q (iz (-1)) w2))
set_option maxRecDepth 100000 in
set_option maxHeartbeats 4000000 in
theorem sd_X1_goesWith {γ : GG} (l1 : Int32) (w : Wd) (Q : Int32 → Wd → Prop) : wp_X1_goesWith l1 w Q → Ctr γ 2 yX1_goesWith (ws_ yX1_goesWith cX1_goesWith 2 (some .int)) [.ref 1, .int l1] w (qI Q) xN := by
  intro h
  unfold wp_X1_goesWith at h
  refine Ctr.of (μ := k_X1_goesWith) (by decide) rfl rfl rfl (Nat.le_of_ble_eq_true rfl) ⟨0, ?_⟩
  have es : lva [.ref 1, .int l1] ++ List.replicate 0 none = [some (.ref 1), some (.int l1)] := rfl
  rw [es]
  refine R.aload_n 1 dX1_goesWith_0 rfl rfl ?_
  refine R.iload_n 2 dX1_goesWith_1 rfl rfl ?_
  refine R.iconst 3 dX1_goesWith_2 rfl ?_
  refine Rch.callv (sd_X1_ofKind _ _ _ _ h) dX1_goesWith_3 (lw_V q753 q755 qs29 q142 q756) dk_X1_ofKind rcX (by decide) (Nat.le_of_ble_eq_true rfl) rfl rfl (Nat.le_of_ble_eq_true rfl) (kI 6 rfl fun r1 w2 h => ?_) kN
  refine R.bipush 8 dX1_goesWith_6 rfl (by decide +kernel) ?_
  refine R.icmp_ne 15 11 dX1_goesWith_8 (by decide) rfl (fun hc => ?_) (fun hc => ?_)
  · replace h := h.1 hc
    refine R.aload_n 16 dX1_goesWith_15 rfl rfl ?_
    refine R.iload_n 17 dX1_goesWith_16 rfl rfl ?_
    refine R.iconst 18 dX1_goesWith_17 rfl ?_
    refine Rch.callv (sd_X1_ofKind _ _ _ _ h) dX1_goesWith_18 (lw_V q753 q755 qs29 q142 q756) dk_X1_ofKind rcX (by decide) (Nat.le_of_ble_eq_true rfl) rfl rfl (Nat.le_of_ble_eq_true rfl) (kI 21 rfl fun r3 w4 h => ?_) kN
    exact R.retI dX1_goesWith_21 rfl h
  · replace h := h.2 hc
    refine R.iconst 12 dX1_goesWith_11 rfl ?_
    refine R.goto 21 dX1_goesWith_12 (by decide) ?_
    exact R.retI dX1_goesWith_21 rfl h

abbrev k_X1_kind : MK := ("FrostBox", cX1_kind, 3, (some .int), [], "kind")
def wp_X1_kind (l1 : Int32) (l2 : Int32) (w : Wd) (Q : Int32 → Wd → Prop) : Prop := wp_X1_isKind l1 w (fun r1 w2 => (r1 = iz 0 → Q (iz (-1)) w2) ∧ (¬ r1 = iz 0 → wp_X1_in l2 (iz 0) (iz 4) w2 (fun r3 w4 => (¬ r3 = iz 0 → (¬ l2 = (iz 4) → wp_X1_ofKind l1 l2 w4 (fun r5 w6 => Q r5 w6)) ∧ (l2 = (iz 4) → wp_X1_goesWith l1 w4 (fun r7 w8 => Q r7 w8))) ∧ (r3 = iz 0 → Q (iz (-1)) w4))))
set_option maxRecDepth 100000 in
set_option maxHeartbeats 4000000 in
theorem sd_X1_kind {γ : GG} (l1 : Int32) (l2 : Int32) (w : Wd) (Q : Int32 → Wd → Prop) : wp_X1_kind l1 l2 w Q → Ctr γ 3 yX1_kind (ws_ yX1_kind cX1_kind 3 (some .int)) [.ref 1, .int l1, .int l2] w (qI Q) xN := by
  intro h
  unfold wp_X1_kind at h
  refine Ctr.of (μ := k_X1_kind) (by decide) rfl rfl rfl (Nat.le_of_ble_eq_true rfl) ⟨0, ?_⟩
  have es : lva [.ref 1, .int l1, .int l2] ++ List.replicate 0 none = [some (.ref 1), some (.int l1), some (.int l2)] := rfl
  rw [es]
  refine R.aload_n 1 dX1_kind_0 rfl rfl ?_
  refine R.iload_n 2 dX1_kind_1 rfl rfl ?_
  refine Rch.callv (sd_X1_isKind _ _ _ h) dX1_kind_2 (lw_V q745 q747 qs27 q142 q748) dk_X1_isKind rcX (by decide) (Nat.le_of_ble_eq_true rfl) rfl rfl (Nat.le_of_ble_eq_true rfl) (kI 5 rfl fun r1 w2 h => ?_) kN
  refine R.if_eq 17 8 dX1_kind_5 (by decide) rfl (fun hc => ?_) (fun hc => ?_)
  · replace h := h.1 hc
    refine R.iconst 18 dX1_kind_17 rfl ?_
    refine R.goto 40 dX1_kind_18 (by decide) ?_
    exact R.retI dX1_kind_40 rfl h
  · replace h := h.2 hc
    refine R.iload_n 9 dX1_kind_8 rfl rfl ?_
    refine R.iconst 10 dX1_kind_9 rfl ?_
    refine R.iconst 11 dX1_kind_10 rfl ?_
    refine Rch.calls (sd_X1_in _ _ _ _ _ h) dX1_kind_11 (lw_S q700 q701 q142 q702) dk_X1_in (by decide) (Nat.le_of_ble_eq_true rfl) rfl rfl (Nat.le_of_ble_eq_true rfl) (kI 14 rfl fun r3 w4 h => ?_) kN
    refine R.if_ne 21 17 dX1_kind_14 (by decide) rfl (fun hc => ?_) (fun hc => ?_)
    · replace h := h.1 hc
      refine R.iload_n 22 dX1_kind_21 rfl rfl ?_
      refine R.iconst 23 dX1_kind_22 rfl ?_
      refine R.icmp_ne 34 26 dX1_kind_23 (by decide) rfl (fun hc => ?_) (fun hc => ?_)
      · replace h := h.1 hc
        refine R.aload_n 35 dX1_kind_34 rfl rfl ?_
        refine R.iload_n 36 dX1_kind_35 rfl rfl ?_
        refine R.iload_n 37 dX1_kind_36 rfl rfl ?_
        refine Rch.callv (sd_X1_ofKind _ _ _ _ h) dX1_kind_37 (lw_V q753 q755 qs29 q142 q756) dk_X1_ofKind rcX (by decide) (Nat.le_of_ble_eq_true rfl) rfl rfl (Nat.le_of_ble_eq_true rfl) (kI 40 rfl fun r5 w6 h => ?_) kN
        exact R.retI dX1_kind_40 rfl h
      · replace h := h.2 hc
        refine R.aload_n 27 dX1_kind_26 rfl rfl ?_
        refine R.iload_n 28 dX1_kind_27 rfl rfl ?_
        refine Rch.callv (sd_X1_goesWith _ _ _ h) dX1_kind_28 (lw_V q749 q751 qs28 q142 q752) dk_X1_goesWith rcX (by decide) (Nat.le_of_ble_eq_true rfl) rfl rfl (Nat.le_of_ble_eq_true rfl) (kI 31 rfl fun r7 w8 h => ?_) kN
        refine R.goto 40 dX1_kind_31 (by decide) ?_
        exact R.retI dX1_kind_40 rfl h
    · replace h := h.2 hc
      refine R.iconst 18 dX1_kind_17 rfl ?_
      refine R.goto 40 dX1_kind_18 (by decide) ?_
      exact R.retI dX1_kind_40 rfl h

abbrev k_X1_law : MK := ("FrostBox", cX1_law, 2, (some .boolean), [], "law")
def wp_X1_law (l1 : Int32) (w : Wd) (Q : Int32 → Wd → Prop) : Prop := wp_X1_in l1 (iz (-1)) ((gI w 28) - (iz 1)) w (fun r1 w2 => (¬ r1 = iz 0 → ∀ w3, w3 = sI w2 29 l1 → Q (iz 1) w3) ∧ (r1 = iz 0 → Q (iz 0) w2))
set_option maxRecDepth 100000 in
set_option maxHeartbeats 4000000 in
theorem sd_X1_law {γ : GG} (l1 : Int32) (w : Wd) (Q : Int32 → Wd → Prop) : wp_X1_law l1 w Q → Ctr γ 2 yX1_law (ws_ yX1_law cX1_law 2 (some .boolean)) [.ref 1, .int l1] w (qI Q) xN := by
  intro h
  unfold wp_X1_law at h
  refine Ctr.of (μ := k_X1_law) (by decide) rfl rfl rfl (Nat.le_of_ble_eq_true rfl) ⟨0, ?_⟩
  have es : lva [.ref 1, .int l1] ++ List.replicate 0 none = [some (.ref 1), some (.int l1)] := rfl
  rw [es]
  refine R.iload_n 1 dX1_law_0 rfl rfl ?_
  refine R.iconst 2 dX1_law_1 rfl ?_
  refine R.aload_n 3 dX1_law_2 rfl rfl ?_
  refine gf_28 6 dX1_law_3 rfl rfl ?_
  refine R.iconst 7 dX1_law_6 rfl ?_
  refine R.isub 8 dX1_law_7 rfl ?_
  refine Rch.calls (sd_X1_in _ _ _ _ _ h) dX1_law_8 (lw_S q700 q701 q142 q702) dk_X1_in (by decide) (Nat.le_of_ble_eq_true rfl) rfl rfl (Nat.le_of_ble_eq_true rfl) (kI 11 rfl fun r1 w2 h => ?_) kN
  refine R.if_ne 16 14 dX1_law_11 (by decide) rfl (fun hc => ?_) (fun hc => ?_)
  · replace h := h.1 hc
    refine R.aload_n 17 dX1_law_16 rfl rfl ?_
    refine R.iload_n 18 dX1_law_17 rfl rfl ?_
    replace h := h _ rfl
    refine pf_29 _ 21 dX1_law_18 rfl rfl ?_
    refine R.iconst 22 dX1_law_21 rfl ?_
    exact R.retZ dX1_law_22 rfl zok1 h
  · replace h := h.2 hc
    refine R.iconst 15 dX1_law_14 rfl ?_
    exact R.retZ dX1_law_15 rfl zok0 h

abbrev k_X1_habit : MK := ("FrostBox", cX1_habit, 2, (some .boolean), [], "habit")
def wp_X1_habit (l1 : Int32) (w : Wd) (Q : Int32 → Wd → Prop) : Prop := wp_X1_in l1 (iz 0) (iz 9) w (fun r1 w2 => (r1 = iz 0 → Q (iz 0) w2) ∧ (¬ r1 = iz 0 → (¬ l1 = (gI w2 30) → ∀ w3, w3 = sI w2 30 l1 → Q (iz 1) w3) ∧ (l1 = (gI w2 30) → Q (iz 0) w2)))
set_option maxRecDepth 100000 in
set_option maxHeartbeats 4000000 in
theorem sd_X1_habit {γ : GG} (l1 : Int32) (w : Wd) (Q : Int32 → Wd → Prop) : wp_X1_habit l1 w Q → Ctr γ 2 yX1_habit (ws_ yX1_habit cX1_habit 2 (some .boolean)) [.ref 1, .int l1] w (qI Q) xN := by
  intro h
  unfold wp_X1_habit at h
  refine Ctr.of (μ := k_X1_habit) (by decide) rfl rfl rfl (Nat.le_of_ble_eq_true rfl) ⟨0, ?_⟩
  have es : lva [.ref 1, .int l1] ++ List.replicate 0 none = [some (.ref 1), some (.int l1)] := rfl
  rw [es]
  refine R.iload_n 1 dX1_habit_0 rfl rfl ?_
  refine R.iconst 2 dX1_habit_1 rfl ?_
  refine R.bipush 4 dX1_habit_2 rfl (by decide +kernel) ?_
  refine Rch.calls (sd_X1_in _ _ _ _ _ h) dX1_habit_4 (lw_S q700 q701 q142 q702) dk_X1_in (by decide) (Nat.le_of_ble_eq_true rfl) rfl rfl (Nat.le_of_ble_eq_true rfl) (kI 7 rfl fun r1 w2 h => ?_) kN
  refine R.if_eq 18 10 dX1_habit_7 (by decide) rfl (fun hc => ?_) (fun hc => ?_)
  · replace h := h.1 hc
    refine R.iconst 19 dX1_habit_18 rfl ?_
    exact R.retZ dX1_habit_19 rfl zok0 h
  · replace h := h.2 hc
    refine R.iload_n 11 dX1_habit_10 rfl rfl ?_
    refine R.aload_n 12 dX1_habit_11 rfl rfl ?_
    refine gf_30 15 dX1_habit_12 rfl rfl ?_
    refine R.icmp_ne 20 18 dX1_habit_15 (by decide) rfl (fun hc => ?_) (fun hc => ?_)
    · replace h := h.1 hc
      refine R.aload_n 21 dX1_habit_20 rfl rfl ?_
      refine R.iload_n 22 dX1_habit_21 rfl rfl ?_
      replace h := h _ rfl
      refine pf_30 _ 25 dX1_habit_22 rfl rfl ?_
      refine R.iconst 26 dX1_habit_25 rfl ?_
      exact R.retZ dX1_habit_26 rfl zok1 h
    · replace h := h.2 hc
      refine R.iconst 19 dX1_habit_18 rfl ?_
      exact R.retZ dX1_habit_19 rfl zok0 h

abbrev k_X1_boxMany : MK := ("FrostBox", cX1_boxMany, 1, (some .int), [], "boxMany")
def wp_X1_boxMany (w : Wd) (Q : Int32 → Wd → Prop) : Prop := inb (iz 32) 275 ∧ Q (gA w 31 (iz 32).toInt) w
set_option maxRecDepth 100000 in
set_option maxHeartbeats 4000000 in
theorem sd_X1_boxMany {γ : GG} (w : Wd) (Q : Int32 → Wd → Prop) : wp_X1_boxMany w Q → Ctr γ 1 yX1_boxMany (ws_ yX1_boxMany cX1_boxMany 1 (some .int)) [.ref 1] w (qI Q) xN := by
  intro h
  unfold wp_X1_boxMany at h
  refine Ctr.of (μ := k_X1_boxMany) (by decide) rfl rfl rfl (Nat.le_of_ble_eq_true rfl) ⟨0, ?_⟩
  have es : lva [.ref 1] ++ List.replicate 0 none = [some (.ref 1)] := rfl
  rw [es]
  refine R.aload_n 1 dX1_boxMany_0 rfl rfl ?_
  refine gf_31 4 dX1_boxMany_1 rfl rfl ?_
  refine R.bipush 6 dX1_boxMany_4 rfl (by decide +kernel) ?_
  obtain ⟨hb, h⟩ := h
  refine R.iald ar_31 7 dX1_boxMany_6 rfl hb ?_
  exact R.retI dX1_boxMany_7 rfl h

abbrev k_X1_turned : MK := ("FrostBox", cX1_turned, 2, (some .int), [], "turned")
def wp_X1_turned (l1 : Int32) (w : Wd) (Q : Int32 → Wd → Prop) : Prop := wp_X1_boxMany w (fun r1 w2 => Q ((r1 - (iz 1)) - l1) w2)
set_option maxRecDepth 100000 in
set_option maxHeartbeats 4000000 in
theorem sd_X1_turned {γ : GG} (l1 : Int32) (w : Wd) (Q : Int32 → Wd → Prop) : wp_X1_turned l1 w Q → Ctr γ 2 yX1_turned (ws_ yX1_turned cX1_turned 2 (some .int)) [.ref 1, .int l1] w (qI Q) xN := by
  intro h
  unfold wp_X1_turned at h
  refine Ctr.of (μ := k_X1_turned) (by decide) rfl rfl rfl (Nat.le_of_ble_eq_true rfl) ⟨0, ?_⟩
  have es : lva [.ref 1, .int l1] ++ List.replicate 0 none = [some (.ref 1), some (.int l1)] := rfl
  rw [es]
  refine R.aload_n 1 dX1_turned_0 rfl rfl ?_
  refine Rch.callv (sd_X1_boxMany _ _ h) dX1_turned_1 (lw_V q773 q775 qs31 q142 q776) dk_X1_boxMany rcX (by decide) (Nat.le_of_ble_eq_true rfl) rfl rfl (Nat.le_of_ble_eq_true rfl) (kI 4 rfl fun r1 w2 h => ?_) kN
  refine R.iconst 5 dX1_turned_4 rfl ?_
  refine R.isub 6 dX1_turned_5 rfl ?_
  refine R.iload_n 7 dX1_turned_6 rfl rfl ?_
  refine R.isub 8 dX1_turned_7 rfl ?_
  exact R.retI dX1_turned_8 rfl h

abbrev k_X1_of : MK := ("FrostBox", cX1_of, 3, (some .int), [], "of")
def wp_X1_of (l1 : Int32) (l2 : Int32) (w : Wd) (Q : Int32 → Wd → Prop) : Prop := wp_X1_turned l1 w (fun r1 w2 => inb (((iz 4) * r1) + l2) 275 ∧ Q (gA w2 31 (((iz 4) * r1) + l2).toInt) w2)
set_option maxRecDepth 100000 in
set_option maxHeartbeats 4000000 in
theorem sd_X1_of {γ : GG} (l1 : Int32) (l2 : Int32) (w : Wd) (Q : Int32 → Wd → Prop) : wp_X1_of l1 l2 w Q → Ctr γ 3 yX1_of (ws_ yX1_of cX1_of 3 (some .int)) [.ref 1, .int l1, .int l2] w (qI Q) xN := by
  intro h
  unfold wp_X1_of at h
  refine Ctr.of (μ := k_X1_of) (by decide) rfl rfl rfl (Nat.le_of_ble_eq_true rfl) ⟨0, ?_⟩
  have es : lva [.ref 1, .int l1, .int l2] ++ List.replicate 0 none = [some (.ref 1), some (.int l1), some (.int l2)] := rfl
  rw [es]
  refine R.aload_n 1 dX1_of_0 rfl rfl ?_
  refine gf_31 4 dX1_of_1 rfl rfl ?_
  refine R.iconst 5 dX1_of_4 rfl ?_
  refine R.aload_n 6 dX1_of_5 rfl rfl ?_
  refine R.iload_n 7 dX1_of_6 rfl rfl ?_
  refine Rch.callv (sd_X1_turned _ _ _ h) dX1_of_7 (lw_V q789 q791 qs35 q142 q792) dk_X1_turned rcX (by decide) (Nat.le_of_ble_eq_true rfl) rfl rfl (Nat.le_of_ble_eq_true rfl) (kI 10 rfl fun r1 w2 h => ?_) kN
  refine R.imul 11 dX1_of_10 rfl ?_
  refine R.iload_n 12 dX1_of_11 rfl rfl ?_
  refine R.iadd 13 dX1_of_12 rfl ?_
  obtain ⟨hb, h⟩ := h
  refine R.iald ar_31 14 dX1_of_13 rfl hb ?_
  exact R.retI dX1_of_14 rfl h

abbrev k_X1_portionsOf : MK := ("FrostBox", cX1_portionsOf, 4, (some .int), [], "portionsOf")
def wl_X1_portionsOf_4 (Q : Int32 → Wd → Prop) (l1 : Int32) (R4 : Int32 → Int32 → Wd → Prop) (l2 : Int32) (l3 : Int32) (w : Wd) : Prop := wp_X1_boxMany w (fun r1 w2 => (r1 ≤ l3 → Q l2 w2) ∧ (¬ r1 ≤ l3 → wp_X1_has l1 l3 w2 (fun r3 w4 => (r3 = iz 0 → R4 l2 (l3 + iz 1) w4) ∧ (¬ r3 = iz 0 → wp_X1_of l3 (iz 1) w4 (fun r5 w6 => R4 (l2 + r5) (l3 + iz 1) w6)))))
def lp_X1_portionsOf_4 (Q : Int32 → Wd → Prop) (l1 : Int32) : Nat → Int32 → Int32 → Wd → Prop
  | 0, _, _, _ => False
  | n + 1, l2, l3, w => wl_X1_portionsOf_4 Q l1 (lp_X1_portionsOf_4 Q l1 n) l2 l3 w
def wp_X1_portionsOf (l1 : Int32) (w : Wd) (Q : Int32 → Wd → Prop) : Prop := ∃ n1, lp_X1_portionsOf_4 Q l1 n1 (iz 0) (iz 0) w
set_option maxRecDepth 100000 in
set_option maxHeartbeats 4000000 in
theorem sl_X1_portionsOf_4 {γ : GG} (Q : Int32 → Wd → Prop) (l1 : Int32) : ∀ (n : Nat) (l2 : Int32) (l3 : Int32) (w : Wd), lp_X1_portionsOf_4 Q l1 n l2 l3 w → Rch γ 4 k_X1_portionsOf 4 [some (.ref 1), some (.int l1), some (.int l2), some (.int l3)] [] w (qI Q) xN := by
  intro n
  induction n with
  | zero => intro _ _ _ h; exact h.elim
  | succ n hR4 =>
    intro l2 l3 w h
    have h : wl_X1_portionsOf_4 Q l1 (lp_X1_portionsOf_4 Q l1 n) l2 l3 w := h
    unfold wl_X1_portionsOf_4 at h
    refine R.iload_n 5 dX1_portionsOf_4 rfl rfl ?_
    refine R.aload_n 6 dX1_portionsOf_5 rfl rfl ?_
    refine Rch.callv (sd_X1_boxMany _ _ h) dX1_portionsOf_6 (lw_V q773 q775 qs31 q142 q776) dk_X1_boxMany rcX (by decide) (Nat.le_of_ble_eq_true rfl) rfl rfl (Nat.le_of_ble_eq_true rfl) (kI 9 rfl fun r1 w2 h => ?_) kN
    refine R.icmp_ge 35 12 dX1_portionsOf_9 (by decide) rfl (fun hc => ?_) (fun hc => ?_)
    · replace h := h.1 hc
      refine R.iload_n 36 dX1_portionsOf_35 rfl rfl ?_
      exact R.retI dX1_portionsOf_36 rfl h
    · replace h := h.2 hc
      refine R.iload_n 13 dX1_portionsOf_12 rfl rfl ?_
      refine R.iload_n 14 dX1_portionsOf_13 rfl rfl ?_
      refine Rch.calls (sd_X1_has _ _ _ _ h) dX1_portionsOf_14 (lw_S q687 q688 q142 q689) dk_X1_has (by decide) (Nat.le_of_ble_eq_true rfl) rfl rfl (Nat.le_of_ble_eq_true rfl) (kI 17 rfl fun r3 w4 h => ?_) kN
      refine R.if_eq 29 20 dX1_portionsOf_17 (by decide) rfl (fun hc => ?_) (fun hc => ?_)
      · replace h := h.1 hc
        refine R.inc3 32 dX1_portionsOf_29 rfl (Nat.le_of_ble_eq_true rfl) rfl ?_
        refine R.goto 4 dX1_portionsOf_32 (by decide) ?_
        exact Rch.dropk (hR4 _ _ _ h) ⟨rfl, ⟨rfl, ⟨rfl, ⟨rfl, trivial⟩⟩⟩⟩
      · replace h := h.2 hc
        refine R.iload_n 21 dX1_portionsOf_20 rfl rfl ?_
        refine R.aload_n 22 dX1_portionsOf_21 rfl rfl ?_
        refine R.iload_n 23 dX1_portionsOf_22 rfl rfl ?_
        refine R.iconst 24 dX1_portionsOf_23 rfl ?_
        refine Rch.callv (sd_X1_of _ _ _ _ h) dX1_portionsOf_24 (lw_V q785 q787 qs34 q142 q788) dk_X1_of rcX (by decide) (Nat.le_of_ble_eq_true rfl) rfl rfl (Nat.le_of_ble_eq_true rfl) (kI 27 rfl fun r5 w6 h => ?_) kN
        refine R.iadd 28 dX1_portionsOf_27 rfl ?_
        refine R.ist2n 29 dX1_portionsOf_28 rfl (Nat.le_of_ble_eq_true rfl) rfl ?_
        refine R.inc3 32 dX1_portionsOf_29 rfl (Nat.le_of_ble_eq_true rfl) rfl ?_
        refine R.goto 4 dX1_portionsOf_32 (by decide) ?_
        exact Rch.dropk (hR4 _ _ _ h) ⟨rfl, ⟨rfl, ⟨rfl, ⟨rfl, trivial⟩⟩⟩⟩
set_option maxRecDepth 100000 in
set_option maxHeartbeats 4000000 in
theorem sd_X1_portionsOf {γ : GG} (l1 : Int32) (w : Wd) (Q : Int32 → Wd → Prop) : wp_X1_portionsOf l1 w Q → Ctr γ 4 yX1_portionsOf (ws_ yX1_portionsOf cX1_portionsOf 4 (some .int)) [.ref 1, .int l1] w (qI Q) xN := by
  intro h
  unfold wp_X1_portionsOf at h
  refine Ctr.of (μ := k_X1_portionsOf) (by decide) rfl rfl rfl (Nat.le_of_ble_eq_true rfl) ⟨2, ?_⟩
  have es : lva [.ref 1, .int l1] ++ List.replicate 2 none = [some (.ref 1), some (.int l1), none, none] := rfl
  rw [es]
  refine R.iconst 1 dX1_portionsOf_0 rfl ?_
  refine R.ist2n 2 dX1_portionsOf_1 rfl (Nat.le_of_ble_eq_true rfl) rfl ?_
  refine R.iconst 3 dX1_portionsOf_2 rfl ?_
  refine R.ist3n 4 dX1_portionsOf_3 rfl (Nat.le_of_ble_eq_true rfl) rfl ?_
  obtain ⟨n1, h⟩ := h
  exact Rch.dropk (sl_X1_portionsOf_4 Q _ n1 _ _ _ h) ⟨rfl, ⟨rfl, ⟨rfl, ⟨rfl, trivial⟩⟩⟩⟩

abbrev k_X1_portionsAll : MK := ("FrostBox", cX1_portionsAll, 1, (some .int), [], "portionsAll")
def wp_X1_portionsAll (w : Wd) (Q : Int32 → Wd → Prop) : Prop := wp_X1_boxMany w (fun r1 w2 => wp_X1_portionsOf (((iz 1) <<< (r1 &&& 31)) - (iz 1)) w2 (fun r3 w4 => Q r3 w4))
set_option maxRecDepth 100000 in
set_option maxHeartbeats 4000000 in
theorem sd_X1_portionsAll {γ : GG} (w : Wd) (Q : Int32 → Wd → Prop) : wp_X1_portionsAll w Q → Ctr γ 5 yX1_portionsAll (ws_ yX1_portionsAll cX1_portionsAll 1 (some .int)) [.ref 1] w (qI Q) xN := by
  intro h
  unfold wp_X1_portionsAll at h
  refine Ctr.of (μ := k_X1_portionsAll) (by decide) rfl rfl rfl (Nat.le_of_ble_eq_true rfl) ⟨0, ?_⟩
  have es : lva [.ref 1] ++ List.replicate 0 none = [some (.ref 1)] := rfl
  rw [es]
  refine R.aload_n 1 dX1_portionsAll_0 rfl rfl ?_
  refine R.iconst 2 dX1_portionsAll_1 rfl ?_
  refine R.aload_n 3 dX1_portionsAll_2 rfl rfl ?_
  refine Rch.callv (sd_X1_boxMany _ _ h) dX1_portionsAll_3 (lw_V q773 q775 qs31 q142 q776) dk_X1_boxMany rcX (by decide) (Nat.le_of_ble_eq_true rfl) rfl rfl (Nat.le_of_ble_eq_true rfl) (kI 6 rfl fun r1 w2 h => ?_) kN
  refine R.ishl 7 dX1_portionsAll_6 rfl ?_
  refine R.iconst 8 dX1_portionsAll_7 rfl ?_
  refine R.isub 9 dX1_portionsAll_8 rfl ?_
  refine Rch.callv (sd_X1_portionsOf _ _ _ h) dX1_portionsAll_9 (lw_V q781 q783 qs33 q142 q784) dk_X1_portionsOf rcX (by decide) (Nat.le_of_ble_eq_true rfl) rfl rfl (Nat.le_of_ble_eq_true rfl) (kI 12 rfl fun r3 w4 h => ?_) kN
  exact R.retI dX1_portionsAll_12 rfl h

abbrev k_X1_canPut : MK := ("FrostBox", cX1_canPut, 3, (some .boolean), [], "canPut")
def wp_X1_canPut (l1 : Int32) (l2 : Int32) (w : Wd) (Q : Int32 → Wd → Prop) : Prop := wp_X1_isKind l1 w (fun r1 w2 => (r1 = iz 0 → Q (iz 0) w2) ∧ (¬ r1 = iz 0 → wp_X1_in l2 (iz 1) (iz 9) w2 (fun r3 w4 => (r3 = iz 0 → Q (iz 0) w4) ∧ (¬ r3 = iz 0 → wp_X1_boxMany w4 (fun r5 w6 => ((iz 8) ≤ r5 → Q (iz 0) w6) ∧ (¬ (iz 8) ≤ r5 → wp_X1_portionsAll w6 (fun r7 w8 => inb (iz 0) 4 ∧ ((gA w8 19 (iz 0).toInt) < (r7 + l2) → Q (iz 0) w8) ∧ (¬ (gA w8 19 (iz 0).toInt) < (r7 + l2) → Q (iz 1) w8))))))))
set_option maxRecDepth 100000 in
set_option maxHeartbeats 4000000 in
theorem sd_X1_canPut {γ : GG} (l1 : Int32) (l2 : Int32) (w : Wd) (Q : Int32 → Wd → Prop) : wp_X1_canPut l1 l2 w Q → Ctr γ 6 yX1_canPut (ws_ yX1_canPut cX1_canPut 3 (some .boolean)) [.ref 1, .int l1, .int l2] w (qI Q) xN := by
  intro h
  unfold wp_X1_canPut at h
  refine Ctr.of (μ := k_X1_canPut) (by decide) rfl rfl rfl (Nat.le_of_ble_eq_true rfl) ⟨0, ?_⟩
  have es : lva [.ref 1, .int l1, .int l2] ++ List.replicate 0 none = [some (.ref 1), some (.int l1), some (.int l2)] := rfl
  rw [es]
  refine R.aload_n 1 dX1_canPut_0 rfl rfl ?_
  refine R.iload_n 2 dX1_canPut_1 rfl rfl ?_
  refine Rch.callv (sd_X1_isKind _ _ _ h) dX1_canPut_2 (lw_V q745 q747 qs27 q142 q748) dk_X1_isKind rcX (by decide) (Nat.le_of_ble_eq_true rfl) rfl rfl (Nat.le_of_ble_eq_true rfl) (kI 5 rfl fun r1 w2 h => ?_) kN
  refine R.if_eq 46 8 dX1_canPut_5 (by decide) rfl (fun hc => ?_) (fun hc => ?_)
  · replace h := h.1 hc
    refine R.iconst 47 dX1_canPut_46 rfl ?_
    exact R.retZ dX1_canPut_47 rfl zok0 h
  · replace h := h.2 hc
    refine R.iload_n 9 dX1_canPut_8 rfl rfl ?_
    refine R.iconst 10 dX1_canPut_9 rfl ?_
    refine R.bipush 12 dX1_canPut_10 rfl (by decide +kernel) ?_
    refine Rch.calls (sd_X1_in _ _ _ _ _ h) dX1_canPut_12 (lw_S q700 q701 q142 q702) dk_X1_in (by decide) (Nat.le_of_ble_eq_true rfl) rfl rfl (Nat.le_of_ble_eq_true rfl) (kI 15 rfl fun r3 w4 h => ?_) kN
    refine R.if_eq 46 18 dX1_canPut_15 (by decide) rfl (fun hc => ?_) (fun hc => ?_)
    · replace h := h.1 hc
      refine R.iconst 47 dX1_canPut_46 rfl ?_
      exact R.retZ dX1_canPut_47 rfl zok0 h
    · replace h := h.2 hc
      refine R.aload_n 19 dX1_canPut_18 rfl rfl ?_
      refine Rch.callv (sd_X1_boxMany _ _ h) dX1_canPut_19 (lw_V q773 q775 qs31 q142 q776) dk_X1_boxMany rcX (by decide) (Nat.le_of_ble_eq_true rfl) rfl rfl (Nat.le_of_ble_eq_true rfl) (kI 22 rfl fun r5 w6 h => ?_) kN
      refine R.bipush 24 dX1_canPut_22 rfl (by decide +kernel) ?_
      refine R.icmp_ge 46 27 dX1_canPut_24 (by decide) rfl (fun hc => ?_) (fun hc => ?_)
      · replace h := h.1 hc
        refine R.iconst 47 dX1_canPut_46 rfl ?_
        exact R.retZ dX1_canPut_47 rfl zok0 h
      · replace h := h.2 hc
        refine R.aload_n 28 dX1_canPut_27 rfl rfl ?_
        refine Rch.callv (sd_X1_portionsAll _ _ h) dX1_canPut_28 (lw_V q777 q779 qs32 q142 q780) dk_X1_portionsAll rcX (by decide) (Nat.le_of_ble_eq_true rfl) rfl rfl (Nat.le_of_ble_eq_true rfl) (kI 31 rfl fun r7 w8 h => ?_) kN
        refine R.iload_n 32 dX1_canPut_31 rfl rfl ?_
        refine R.iadd 33 dX1_canPut_32 rfl ?_
        refine R.aload_n 34 dX1_canPut_33 rfl rfl ?_
        refine gf_19 37 dX1_canPut_34 rfl rfl ?_
        refine R.iconst 38 dX1_canPut_37 rfl ?_
        obtain ⟨hb, h⟩ := h
        refine R.iald ar_19 39 dX1_canPut_38 rfl hb ?_
        refine R.icmp_gt 46 42 dX1_canPut_39 (by decide) rfl (fun hc => ?_) (fun hc => ?_)
        · replace h := h.1 hc
          refine R.iconst 47 dX1_canPut_46 rfl ?_
          exact R.retZ dX1_canPut_47 rfl zok0 h
        · replace h := h.2 hc
          refine R.iconst 43 dX1_canPut_42 rfl ?_
          refine R.goto 47 dX1_canPut_43 (by decide) ?_
          exact R.retZ dX1_canPut_47 rfl zok1 h

abbrev k_X1_act : MK := ("FrostBox", cX1_act, 2, none, [], "act")
def wl_X1_act_54 (Q : Wd → Prop) (R54 : Int32 → Wd → Prop) (l1 : Int32) (w : Wd) : Prop := ((iz 275) ≤ l1 → ∀ w1, w1 = sI w 33 ((gI w 33) + (iz 1)) → Q w1) ∧ (¬ (iz 275) ≤ l1 → inb l1 275 ∧ inb (((iz 275) * (gI w 33)) + l1) 11000 ∧ (∀ w2, w2 = sA w 32 (((iz 275) * (gI w 33)) + l1).toInt (gA w 31 l1.toInt) → R54 (l1 + iz 1) w2))
def lp_X1_act_54 (Q : Wd → Prop) : Nat → Int32 → Wd → Prop
  | 0, _, _ => False
  | n + 1, l1, w => wl_X1_act_54 Q (lp_X1_act_54 Q n) l1 w
def wl_X1_act_13 (Q : Wd → Prop) (R13 : Int32 → Wd → Prop) (l1 : Int32) (w : Wd) : Prop := ((iz 11000) ≤ l1 → ∀ w1, w1 = sI w 33 ((gI w 33) - (iz 1)) → ∃ n2, lp_X1_act_54 Q n2 (iz 0) w1) ∧ (¬ (iz 11000) ≤ l1 → inb l1 11000 ∧ inb (l1 - (iz 275)) 11000 ∧ (∀ w3, w3 = sA w 32 (l1 - (iz 275)).toInt (gA w 32 l1.toInt) → R13 (l1 + iz 1) w3))
def lp_X1_act_13 (Q : Wd → Prop) : Nat → Int32 → Wd → Prop
  | 0, _, _ => False
  | n + 1, l1, w => wl_X1_act_13 Q (lp_X1_act_13 Q n) l1 w
def wp_X1_act (w : Wd) (Q : Wd → Prop) : Prop := (¬ (gI w 33) = (iz 40) → ∃ n1, lp_X1_act_54 Q n1 (iz 0) w) ∧ ((gI w 33) = (iz 40) → ∃ n2, lp_X1_act_13 Q n2 (iz 275) w)
set_option maxRecDepth 100000 in
set_option maxHeartbeats 4000000 in
theorem sl_X1_act_54 {γ : GG} (Q : Wd → Prop) : ∀ (n : Nat) (l1 : Int32) (w : Wd), lp_X1_act_54 Q n l1 w → Rch γ 1 k_X1_act 54 [some (.ref 1), some (.int l1)] [] w (qV Q) xN := by
  intro n
  induction n with
  | zero => intro _ _ h; exact h.elim
  | succ n hR54 =>
    intro l1 w h
    have h : wl_X1_act_54 Q (lp_X1_act_54 Q n) l1 w := h
    unfold wl_X1_act_54 at h
    refine R.iload_n 55 dX1_act_54 rfl rfl ?_
    refine R.sipush 58 dX1_act_55 rfl (by decide +kernel) ?_
    refine R.icmp_ge 88 61 dX1_act_58 (by decide) rfl (fun hc => ?_) (fun hc => ?_)
    · replace h := h.1 hc
      refine R.aload_n 89 dX1_act_88 rfl rfl ?_
      refine R.dupR 90 dX1_act_89 rfl ?_
      refine gf_33 93 dX1_act_90 rfl rfl ?_
      refine R.iconst 94 dX1_act_93 rfl ?_
      refine R.iadd 95 dX1_act_94 rfl ?_
      replace h := h _ rfl
      refine pf_33 _ 98 dX1_act_95 rfl rfl ?_
      exact R.retV dX1_act_98 rfl h
    · replace h := h.2 hc
      refine R.aload_n 62 dX1_act_61 rfl rfl ?_
      refine gf_32 65 dX1_act_62 rfl rfl ?_
      refine R.sipush 68 dX1_act_65 rfl (by decide +kernel) ?_
      refine R.aload_n 69 dX1_act_68 rfl rfl ?_
      refine gf_33 72 dX1_act_69 rfl rfl ?_
      refine R.imul 73 dX1_act_72 rfl ?_
      refine R.iload_n 74 dX1_act_73 rfl rfl ?_
      refine R.iadd 75 dX1_act_74 rfl ?_
      refine R.aload_n 76 dX1_act_75 rfl rfl ?_
      refine gf_31 79 dX1_act_76 rfl rfl ?_
      refine R.iload_n 80 dX1_act_79 rfl rfl ?_
      obtain ⟨hb, h⟩ := h
      refine R.iald ar_31 81 dX1_act_80 rfl hb ?_
      obtain ⟨hb, h⟩ := h
      replace h := h _ rfl
      refine R.iast ar_32 82 dX1_act_81 rfl hb ?_
      refine R.inc1 85 dX1_act_82 rfl (Nat.le_of_ble_eq_true rfl) rfl ?_
      refine R.goto 54 dX1_act_85 (by decide) ?_
      exact Rch.dropk (hR54 _ _ h) ⟨rfl, ⟨rfl, trivial⟩⟩
set_option maxRecDepth 100000 in
set_option maxHeartbeats 4000000 in
theorem sl_X1_act_13 {γ : GG} (Q : Wd → Prop) : ∀ (n : Nat) (l1 : Int32) (w : Wd), lp_X1_act_13 Q n l1 w → Rch γ 1 k_X1_act 13 [some (.ref 1), some (.int l1)] [] w (qV Q) xN := by
  intro n
  induction n with
  | zero => intro _ _ h; exact h.elim
  | succ n hR13 =>
    intro l1 w h
    have h : wl_X1_act_13 Q (lp_X1_act_13 Q n) l1 w := h
    unfold wl_X1_act_13 at h
    refine R.iload_n 14 dX1_act_13 rfl rfl ?_
    refine R.sipush 17 dX1_act_14 rfl (by decide +kernel) ?_
    refine R.icmp_ge 42 20 dX1_act_17 (by decide) rfl (fun hc => ?_) (fun hc => ?_)
    · replace h := h.1 hc
      refine R.aload_n 43 dX1_act_42 rfl rfl ?_
      refine R.dupR 44 dX1_act_43 rfl ?_
      refine gf_33 47 dX1_act_44 rfl rfl ?_
      refine R.iconst 48 dX1_act_47 rfl ?_
      refine R.isub 49 dX1_act_48 rfl ?_
      replace h := h _ rfl
      refine pf_33 _ 52 dX1_act_49 rfl rfl ?_
      refine R.iconst 53 dX1_act_52 rfl ?_
      refine R.ist1n 54 dX1_act_53 rfl (Nat.le_of_ble_eq_true rfl) rfl ?_
      obtain ⟨n2, h⟩ := h
      exact Rch.dropk (sl_X1_act_54 Q n2 _ _ h) ⟨rfl, ⟨rfl, trivial⟩⟩
    · replace h := h.2 hc
      refine R.aload_n 21 dX1_act_20 rfl rfl ?_
      refine gf_32 24 dX1_act_21 rfl rfl ?_
      refine R.iload_n 25 dX1_act_24 rfl rfl ?_
      refine R.sipush 28 dX1_act_25 rfl (by decide +kernel) ?_
      refine R.isub 29 dX1_act_28 rfl ?_
      refine R.aload_n 30 dX1_act_29 rfl rfl ?_
      refine gf_32 33 dX1_act_30 rfl rfl ?_
      refine R.iload_n 34 dX1_act_33 rfl rfl ?_
      obtain ⟨hb, h⟩ := h
      refine R.iald ar_32 35 dX1_act_34 rfl hb ?_
      obtain ⟨hb, h⟩ := h
      replace h := h _ rfl
      refine R.iast ar_32 36 dX1_act_35 rfl hb ?_
      refine R.inc1 39 dX1_act_36 rfl (Nat.le_of_ble_eq_true rfl) rfl ?_
      refine R.goto 13 dX1_act_39 (by decide) ?_
      exact Rch.dropk (hR13 _ _ h) ⟨rfl, ⟨rfl, trivial⟩⟩
set_option maxRecDepth 100000 in
set_option maxHeartbeats 4000000 in
theorem sd_X1_act {γ : GG} (w : Wd) (Q : Wd → Prop) : wp_X1_act w Q → Ctr γ 1 yX1_act (ws_ yX1_act cX1_act 2 none) [.ref 1] w (qV Q) xN := by
  intro h
  unfold wp_X1_act at h
  refine Ctr.of (μ := k_X1_act) (by decide) rfl rfl rfl (Nat.le_of_ble_eq_true rfl) ⟨1, ?_⟩
  have es : lva [.ref 1] ++ List.replicate 1 none = [some (.ref 1), none] := rfl
  rw [es]
  refine R.aload_n 1 dX1_act_0 rfl rfl ?_
  refine gf_33 4 dX1_act_1 rfl rfl ?_
  refine R.bipush 6 dX1_act_4 rfl (by decide +kernel) ?_
  refine R.icmp_ne 52 9 dX1_act_6 (by decide) rfl (fun hc => ?_) (fun hc => ?_)
  · replace h := h.1 hc
    refine R.iconst 53 dX1_act_52 rfl ?_
    refine R.ist1n 54 dX1_act_53 rfl (Nat.le_of_ble_eq_true rfl) rfl ?_
    obtain ⟨n1, h⟩ := h
    exact Rch.dropk (sl_X1_act_54 Q n1 _ _ h) ⟨rfl, ⟨rfl, trivial⟩⟩
  · replace h := h.2 hc
    refine R.sipush 12 dX1_act_9 rfl (by decide +kernel) ?_
    refine R.ist1n 13 dX1_act_12 rfl (Nat.le_of_ble_eq_true rfl) rfl ?_
    obtain ⟨n2, h⟩ := h
    exact Rch.dropk (sl_X1_act_13 Q n2 _ _ h) ⟨rfl, ⟨rfl, trivial⟩⟩

abbrev k_X1_putNow : MK := ("FrostBox", cX1_putNow, 5, none, [], "putNow")
def b_X1_putNow_61 (Q : Wd → Prop) (t0 : Int32) (t1 : Int32) (w : Wd) : Prop := inb t1 275 ∧ (∀ w1, w1 = sA w 31 t1.toInt t0 → inb (iz 32) 275 ∧ inb (iz 32) 275 ∧ (∀ w2, w2 = sA w1 31 (iz 32).toInt ((gA w1 31 (iz 32).toInt) + (iz 1)) → Q w2))
def wp_X1_putNow (l1 : Int32) (l2 : Int32) (l3 : Int32) (w : Wd) (Q : Wd → Prop) : Prop := wp_X1_boxMany w (fun r1 w2 => inb (((iz 4) * r1) + (iz 0)) 275 ∧ (∀ w3, w3 = sA w2 31 (((iz 4) * r1) + (iz 0)).toInt l1 → inb (((iz 4) * r1) + (iz 1)) 275 ∧ (∀ w4, w4 = sA w3 31 (((iz 4) * r1) + (iz 1)).toInt l2 → inb (((iz 4) * r1) + (iz 2)) 275 ∧ (∀ w5, w5 = sA w4 31 (((iz 4) * r1) + (iz 2)).toInt (iz 0) → (l3 = iz 0 → b_X1_putNow_61 Q (iz (-1)) (((iz 4) * r1) + (iz 3)) w5) ∧ (¬ l3 = iz 0 → inb (iz 33) 275 ∧ b_X1_putNow_61 Q (gA w5 31 (iz 33).toInt) (((iz 4) * r1) + (iz 3)) w5)))))
set_option maxRecDepth 100000 in
set_option maxHeartbeats 4000000 in
theorem s_X1_putNow_61 {γ : GG} (Q : Wd → Prop) (t0 : Int32) (t1 : Int32) : ∀ (w : Wd), b_X1_putNow_61 Q t0 t1 w → Rch γ 2 k_X1_putNow 61 [some (.ref 1), none, none, none, none] [.int t0, .int t1, .ref 31] w (qV Q) xN := by
  intro w h
  unfold b_X1_putNow_61 at h
  obtain ⟨hb, h⟩ := h
  replace h := h _ rfl
  refine R.iast ar_31 62 dX1_putNow_61 rfl hb ?_
  refine R.aload_n 63 dX1_putNow_62 rfl rfl ?_
  refine gf_31 66 dX1_putNow_63 rfl rfl ?_
  refine R.bipush 68 dX1_putNow_66 rfl (by decide +kernel) ?_
  refine R.dup2 69 dX1_putNow_68 rfl ?_
  obtain ⟨hb, h⟩ := h
  refine R.iald ar_31 70 dX1_putNow_69 rfl hb ?_
  refine R.iconst 71 dX1_putNow_70 rfl ?_
  refine R.iadd 72 dX1_putNow_71 rfl ?_
  obtain ⟨hb, h⟩ := h
  replace h := h _ rfl
  refine R.iast ar_31 73 dX1_putNow_72 rfl hb ?_
  exact R.retV dX1_putNow_73 rfl h
set_option maxRecDepth 100000 in
set_option maxHeartbeats 4000000 in
theorem sd_X1_putNow {γ : GG} (l1 : Int32) (l2 : Int32) (l3 : Int32) (w : Wd) (Q : Wd → Prop) : wp_X1_putNow l1 l2 l3 w Q → Ctr γ 2 yX1_putNow (ws_ yX1_putNow cX1_putNow 5 none) [.ref 1, .int l1, .int l2, .int l3] w (qV Q) xN := by
  intro h
  unfold wp_X1_putNow at h
  refine Ctr.of (μ := k_X1_putNow) (by decide) rfl rfl rfl (Nat.le_of_ble_eq_true rfl) ⟨1, ?_⟩
  have es : lva [.ref 1, .int l1, .int l2, .int l3] ++ List.replicate 1 none = [some (.ref 1), some (.int l1), some (.int l2), some (.int l3), none] := rfl
  rw [es]
  refine R.iconst 1 dX1_putNow_0 rfl ?_
  refine R.aload_n 2 dX1_putNow_1 rfl rfl ?_
  refine Rch.callv (sd_X1_boxMany _ _ h) dX1_putNow_2 (lw_V q773 q775 qs31 q142 q776) dk_X1_boxMany rcX (by decide) (Nat.le_of_ble_eq_true rfl) rfl rfl (Nat.le_of_ble_eq_true rfl) (kI 5 rfl fun r1 w2 h => ?_) kN
  refine R.imul 6 dX1_putNow_5 rfl ?_
  refine R.ist4 8 dX1_putNow_6 rfl (Nat.le_of_ble_eq_true rfl) rfl ?_
  refine R.aload_n 9 dX1_putNow_8 rfl rfl ?_
  refine gf_31 12 dX1_putNow_9 rfl rfl ?_
  refine R.iload 14 dX1_putNow_12 rfl rfl ?_
  refine R.iconst 15 dX1_putNow_14 rfl ?_
  refine R.iadd 16 dX1_putNow_15 rfl ?_
  refine R.iload_n 17 dX1_putNow_16 rfl rfl ?_
  obtain ⟨hb, h⟩ := h
  replace h := h _ rfl
  refine R.iast ar_31 18 dX1_putNow_17 rfl hb ?_
  refine R.aload_n 19 dX1_putNow_18 rfl rfl ?_
  refine gf_31 22 dX1_putNow_19 rfl rfl ?_
  refine R.iload 24 dX1_putNow_22 rfl rfl ?_
  refine R.iconst 25 dX1_putNow_24 rfl ?_
  refine R.iadd 26 dX1_putNow_25 rfl ?_
  refine R.iload_n 27 dX1_putNow_26 rfl rfl ?_
  obtain ⟨hb, h⟩ := h
  replace h := h _ rfl
  refine R.iast ar_31 28 dX1_putNow_27 rfl hb ?_
  refine R.aload_n 29 dX1_putNow_28 rfl rfl ?_
  refine gf_31 32 dX1_putNow_29 rfl rfl ?_
  refine R.iload 34 dX1_putNow_32 rfl rfl ?_
  refine R.iconst 35 dX1_putNow_34 rfl ?_
  refine R.iadd 36 dX1_putNow_35 rfl ?_
  refine R.iconst 37 dX1_putNow_36 rfl ?_
  obtain ⟨hb, h⟩ := h
  replace h := h _ rfl
  refine R.iast ar_31 38 dX1_putNow_37 rfl hb ?_
  refine R.aload_n 39 dX1_putNow_38 rfl rfl ?_
  refine gf_31 42 dX1_putNow_39 rfl rfl ?_
  refine R.iload 44 dX1_putNow_42 rfl rfl ?_
  refine R.iconst 45 dX1_putNow_44 rfl ?_
  refine R.iadd 46 dX1_putNow_45 rfl ?_
  refine R.iload_n 47 dX1_putNow_46 rfl rfl ?_
  refine R.if_eq 60 50 dX1_putNow_47 (by decide) rfl (fun hc => ?_) (fun hc => ?_)
  · replace h := h.1 hc
    refine R.iconst 61 dX1_putNow_60 rfl ?_
    exact Rch.dropk (s_X1_putNow_61 Q _ _ _ h) ⟨rfl, trivial⟩
  · replace h := h.2 hc
    refine R.aload_n 51 dX1_putNow_50 rfl rfl ?_
    refine gf_31 54 dX1_putNow_51 rfl rfl ?_
    refine R.bipush 56 dX1_putNow_54 rfl (by decide +kernel) ?_
    obtain ⟨hb, h⟩ := h
    refine R.iald ar_31 57 dX1_putNow_56 rfl hb ?_
    refine R.goto 61 dX1_putNow_57 (by decide) ?_
    exact Rch.dropk (s_X1_putNow_61 Q _ _ _ h) ⟨rfl, trivial⟩

abbrev k_X1_put : MK := ("FrostBox", cX1_put, 4, (some .int), [], "put")
def wp_X1_put (l1 : Int32) (l2 : Int32) (l3 : Int32) (w : Wd) (Q : Int32 → Wd → Prop) : Prop := wp_X1_canPut l1 l2 w (fun r1 w2 => (¬ r1 = iz 0 → wp_X1_act w2 (fun w4 => wp_X1_putNow l1 l2 l3 w4 (fun w6 => wp_X1_boxMany w6 (fun r7 w8 => Q r7 w8)))) ∧ (r1 = iz 0 → Q (iz (-1)) w2))
set_option maxRecDepth 100000 in
set_option maxHeartbeats 4000000 in
theorem sd_X1_put {γ : GG} (l1 : Int32) (l2 : Int32) (l3 : Int32) (w : Wd) (Q : Int32 → Wd → Prop) : wp_X1_put l1 l2 l3 w Q → Ctr γ 7 yX1_put (ws_ yX1_put cX1_put 4 (some .int)) [.ref 1, .int l1, .int l2, .int l3] w (qI Q) xN := by
  intro h
  unfold wp_X1_put at h
  refine Ctr.of (μ := k_X1_put) (by decide) rfl rfl rfl (Nat.le_of_ble_eq_true rfl) ⟨0, ?_⟩
  have es : lva [.ref 1, .int l1, .int l2, .int l3] ++ List.replicate 0 none = [some (.ref 1), some (.int l1), some (.int l2), some (.int l3)] := rfl
  rw [es]
  refine R.aload_n 1 dX1_put_0 rfl rfl ?_
  refine R.iload_n 2 dX1_put_1 rfl rfl ?_
  refine R.iload_n 3 dX1_put_2 rfl rfl ?_
  refine Rch.callv (sd_X1_canPut _ _ _ _ h) dX1_put_3 (lw_V q769 q771 qs30 q142 q772) dk_X1_canPut rcX (by decide) (Nat.le_of_ble_eq_true rfl) rfl rfl (Nat.le_of_ble_eq_true rfl) (kI 6 rfl fun r1 w2 h => ?_) kN
  refine R.if_ne 11 9 dX1_put_6 (by decide) rfl (fun hc => ?_) (fun hc => ?_)
  · replace h := h.1 hc
    refine R.aload_n 12 dX1_put_11 rfl rfl ?_
    refine Rch.callv (sd_X1_act _ _ h) dX1_put_12 (lw_V q793 q795 qs36 q142 q796) dk_X1_act rcX (by decide) (Nat.le_of_ble_eq_true rfl) rfl rfl (Nat.le_of_ble_eq_true rfl) (kV 15 rfl fun w4 h => ?_) kN
    refine R.aload_n 16 dX1_put_15 rfl rfl ?_
    refine R.iload_n 17 dX1_put_16 rfl rfl ?_
    refine R.iload_n 18 dX1_put_17 rfl rfl ?_
    refine R.iload_n 19 dX1_put_18 rfl rfl ?_
    refine Rch.callv (sd_X1_putNow _ _ _ _ _ h) dX1_put_19 (lw_V q797 q799 qs37 q142 q800) dk_X1_putNow rcX (by decide) (Nat.le_of_ble_eq_true rfl) rfl rfl (Nat.le_of_ble_eq_true rfl) (kV 22 rfl fun w6 h => ?_) kN
    refine R.aload_n 23 dX1_put_22 rfl rfl ?_
    refine Rch.callv (sd_X1_boxMany _ _ h) dX1_put_23 (lw_V q773 q775 qs31 q142 q776) dk_X1_boxMany rcX (by decide) (Nat.le_of_ble_eq_true rfl) rfl rfl (Nat.le_of_ble_eq_true rfl) (kI 26 rfl fun r7 w8 h => ?_) kN
    exact R.retI dX1_put_26 rfl h
  · replace h := h.2 hc
    refine R.iconst 10 dX1_put_9 rfl ?_
    exact R.retI dX1_put_10 rfl h

abbrev k_X1_isBox : MK := ("FrostBox", cX1_isBox, 2, (some .boolean), [], "isBox")
def wp_X1_isBox (l1 : Int32) (w : Wd) (Q : Int32 → Wd → Prop) : Prop := wp_X1_boxMany w (fun r1 w2 => wp_X1_in l1 (iz 0) (r1 - (iz 1)) w2 (fun r3 w4 => zok r3 ∧ Q r3 w4))
set_option maxRecDepth 100000 in
set_option maxHeartbeats 4000000 in
theorem sd_X1_isBox {γ : GG} (l1 : Int32) (w : Wd) (Q : Int32 → Wd → Prop) : wp_X1_isBox l1 w Q → Ctr γ 2 yX1_isBox (ws_ yX1_isBox cX1_isBox 2 (some .boolean)) [.ref 1, .int l1] w (qI Q) xN := by
  intro h
  unfold wp_X1_isBox at h
  refine Ctr.of (μ := k_X1_isBox) (by decide) rfl rfl rfl (Nat.le_of_ble_eq_true rfl) ⟨0, ?_⟩
  have es : lva [.ref 1, .int l1] ++ List.replicate 0 none = [some (.ref 1), some (.int l1)] := rfl
  rw [es]
  refine R.iload_n 1 dX1_isBox_0 rfl rfl ?_
  refine R.iconst 2 dX1_isBox_1 rfl ?_
  refine R.aload_n 3 dX1_isBox_2 rfl rfl ?_
  refine Rch.callv (sd_X1_boxMany _ _ h) dX1_isBox_3 (lw_V q773 q775 qs31 q142 q776) dk_X1_boxMany rcX (by decide) (Nat.le_of_ble_eq_true rfl) rfl rfl (Nat.le_of_ble_eq_true rfl) (kI 6 rfl fun r1 w2 h => ?_) kN
  refine R.iconst 7 dX1_isBox_6 rfl ?_
  refine R.isub 8 dX1_isBox_7 rfl ?_
  refine Rch.calls (sd_X1_in _ _ _ _ _ h) dX1_isBox_8 (lw_S q700 q701 q142 q702) dk_X1_in (by decide) (Nat.le_of_ble_eq_true rfl) rfl rfl (Nat.le_of_ble_eq_true rfl) (kI 11 rfl fun r3 w4 h => ?_) kN
  exact R.retZ dX1_isBox_11 rfl h.1 h.2

abbrev k_X1_aged : MK := ("FrostBox", cX1_aged, 3, (some .int), [], "aged")
def wp_X1_aged (l1 : Int32) (l2 : Int32) (w : Wd) (Q : Int32 → Wd → Prop) : Prop := wp_X1_of l1 (iz 2) w (fun r1 w2 => Q (imin (iz 99) (r1 + l2)) w2)
set_option maxRecDepth 100000 in
set_option maxHeartbeats 4000000 in
theorem sd_X1_aged {γ : GG} (l1 : Int32) (l2 : Int32) (w : Wd) (Q : Int32 → Wd → Prop) : wp_X1_aged l1 l2 w Q → Ctr γ 4 yX1_aged (ws_ yX1_aged cX1_aged 3 (some .int)) [.ref 1, .int l1, .int l2] w (qI Q) xN := by
  intro h
  unfold wp_X1_aged at h
  refine Ctr.of (μ := k_X1_aged) (by decide) rfl rfl rfl (Nat.le_of_ble_eq_true rfl) ⟨0, ?_⟩
  have es : lva [.ref 1, .int l1, .int l2] ++ List.replicate 0 none = [some (.ref 1), some (.int l1), some (.int l2)] := rfl
  rw [es]
  refine R.bipush 2 dX1_aged_0 rfl (by decide +kernel) ?_
  refine R.aload_n 3 dX1_aged_2 rfl rfl ?_
  refine R.iload_n 4 dX1_aged_3 rfl rfl ?_
  refine R.iconst 5 dX1_aged_4 rfl ?_
  refine Rch.callv (sd_X1_of _ _ _ _ h) dX1_aged_5 (lw_V q785 q787 qs34 q142 q788) dk_X1_of rcX (by decide) (Nat.le_of_ble_eq_true rfl) rfl rfl (Nat.le_of_ble_eq_true rfl) (kI 8 rfl fun r1 w2 h => ?_) kN
  refine R.iload_n 9 dX1_aged_8 rfl rfl ?_
  refine R.iadd 10 dX1_aged_9 rfl ?_
  refine R.mmin 13 dX1_aged_10 rfl q825 q427 q149 q428 (by omega) (Nat.le_of_ble_eq_true rfl) ?_
  exact R.retI dX1_aged_13 rfl h

abbrev k_X1_forget : MK := ("FrostBox", cX1_forget, 2, none, [], "forget")
def wl_X1_forget_2 (Q : Wd → Prop) (R2 : Int32 → Wd → Prop) (l1 : Int32) (w : Wd) : Prop := 1 < 6 ∧ wp_J2_length 1 w (fun r1 w2 => (r1 ≤ l1 → Q w2) ∧ (¬ r1 ≤ l1 → 1 < 6 ∧ wp_J2_charAt 1 l1 w2 (fun r3 w4 => inb r3 128 ∧ (∀ w5, w5 = sA w4 15 r3.toInt (iz 0) → R2 (l1 + iz 1) w5))))
def lp_X1_forget_2 (Q : Wd → Prop) : Nat → Int32 → Wd → Prop
  | 0, _, _ => False
  | n + 1, l1, w => wl_X1_forget_2 Q (lp_X1_forget_2 Q n) l1 w
def wp_X1_forget (w : Wd) (Q : Wd → Prop) : Prop := ∃ n1, lp_X1_forget_2 Q n1 (iz 0) w
set_option maxRecDepth 100000 in
set_option maxHeartbeats 4000000 in
theorem sl_X1_forget_2 {γ : GG} (Q : Wd → Prop) : ∀ (n : Nat) (l1 : Int32) (w : Wd), lp_X1_forget_2 Q n l1 w → Rch γ 5 k_X1_forget 2 [some (.ref 1), some (.int l1)] [] w (qV Q) xN := by
  intro n
  induction n with
  | zero => intro _ _ h; exact h.elim
  | succ n hR2 =>
    intro l1 w h
    have h : wl_X1_forget_2 Q (lp_X1_forget_2 Q n) l1 w := h
    unfold wl_X1_forget_2 at h
    refine R.iload_n 3 dX1_forget_2 rfl rfl ?_
    refine R.ldcS (i := 1) 5 dX1_forget_3 rfl (List.mem_of_getElem? (i := 1) rfl) ?_
    obtain ⟨h6, h⟩ := h
    refine Rch.callv (sd_J2_length _ _ _ h) dX1_forget_5 (lw_V q835 q410 q411 q147 q412) dk_J2_length (rcS 1 h6) (by decide) (Nat.le_of_ble_eq_true rfl) rfl rfl (Nat.le_of_ble_eq_true rfl) (kI 8 rfl fun r1 w2 h => ?_) kN
    refine R.icmp_ge 29 11 dX1_forget_8 (by decide) rfl (fun hc => ?_) (fun hc => ?_)
    · replace h := h.1 hc
      exact R.retV dX1_forget_29 rfl h
    · replace h := h.2 hc
      refine R.aload_n 12 dX1_forget_11 rfl rfl ?_
      refine gf_15 15 dX1_forget_12 rfl rfl ?_
      refine R.ldcS (i := 1) 17 dX1_forget_15 rfl (List.mem_of_getElem? (i := 1) rfl) ?_
      refine R.iload_n 18 dX1_forget_17 rfl rfl ?_
      obtain ⟨h6, h⟩ := h
      refine Rch.callv (sd_J2_charAt _ _ _ _ h) dX1_forget_18 (lw_V q836 q837 q838 q147 q839) dk_J2_charAt (rcS 1 h6) (by decide) (Nat.le_of_ble_eq_true rfl) rfl rfl (Nat.le_of_ble_eq_true rfl) (kI 21 rfl fun r3 w4 h => ?_) kN
      refine R.iconst 22 dX1_forget_21 rfl ?_
      obtain ⟨hb, h⟩ := h
      replace h := h _ rfl
      refine R.iast ar_15 23 dX1_forget_22 rfl hb ?_
      refine R.inc1 26 dX1_forget_23 rfl (Nat.le_of_ble_eq_true rfl) rfl ?_
      refine R.goto 2 dX1_forget_26 (by decide) ?_
      exact Rch.dropk (hR2 _ _ h) ⟨rfl, ⟨rfl, trivial⟩⟩
set_option maxRecDepth 100000 in
set_option maxHeartbeats 4000000 in
theorem sd_X1_forget {γ : GG} (w : Wd) (Q : Wd → Prop) : wp_X1_forget w Q → Ctr γ 5 yX1_forget (ws_ yX1_forget cX1_forget 2 none) [.ref 1] w (qV Q) xN := by
  intro h
  unfold wp_X1_forget at h
  refine Ctr.of (μ := k_X1_forget) (by decide) rfl rfl rfl (Nat.le_of_ble_eq_true rfl) ⟨1, ?_⟩
  have es : lva [.ref 1] ++ List.replicate 1 none = [some (.ref 1), none] := rfl
  rw [es]
  refine R.iconst 1 dX1_forget_0 rfl ?_
  refine R.ist1n 2 dX1_forget_1 rfl (Nat.le_of_ble_eq_true rfl) rfl ?_
  obtain ⟨n1, h⟩ := h
  exact Rch.dropk (sl_X1_forget_2 Q n1 _ _ h) ⟨rfl, ⟨rfl, trivial⟩⟩

abbrev k_X1_worth : MK := ("FrostBox", cX1_worth, 4, (some .int), [], "worth")
def wl_X1_worth_2 (Q : Int32 → Wd → Prop) (l1 : Int32) (l2 : Nat) (R2 : Option Nat → Wd → Prop) (l3 : Option Nat) (w : Wd) : Prop := (l3 = none → Q (iz 0) w) ∧ (∀ i1, l3 = some i1 → ∃ i2, l3 = some i2 ∧ ∃ x3, ndI w i2 6 0 x3 ∧ (¬ x3 = l1 → ∃ i4, l3 = some i4 ∧ ∃ x5, ndO w i4 6 3 x5 ∧ R2 x5 w) ∧ (x3 = l1 → ∃ i6, l3 = some i6 ∧ ∃ x7, ndO w i6 6 1 x7 ∧ (x7 = none → ∃ i9, l3 = some i9 ∧ ∃ x10, ndO w i9 6 2 x10 ∧ ∃ i11, x10 = some i11 ∧ (pf_val 30) i11 l2 w (fun r12 w13 => Q r12 w13)) ∧ (∀ i8, x7 = some i8 → ∃ i14, l3 = some i14 ∧ ∃ x15, ndO w i14 6 1 x15 ∧ ∃ i16, x15 = some i16 ∧ (pf_hold 30) i16 l2 w (fun r17 w18 => (r17 = iz 0 → ∃ i19, l3 = some i19 ∧ ∃ x20, ndO w18 i19 6 3 x20 ∧ R2 x20 w18) ∧ (¬ r17 = iz 0 → ∃ i21, l3 = some i21 ∧ ∃ x22, ndO w18 i21 6 2 x22 ∧ ∃ i23, x22 = some i23 ∧ (pf_val 30) i23 l2 w18 (fun r24 w25 => Q r24 w25))))))
def lp_X1_worth_2 (Q : Int32 → Wd → Prop) (l1 : Int32) (l2 : Nat) : Nat → Option Nat → Wd → Prop
  | 0, _, _ => False
  | n + 1, l3, w => wl_X1_worth_2 Q l1 l2 (lp_X1_worth_2 Q l1 l2 n) l3 w
def wp_X1_worth (l0 : Option Nat) (l1 : Int32) (l2 : Nat) (w : Wd) (Q : Int32 → Wd → Prop) : Prop := ∃ n1, lp_X1_worth_2 Q l1 l2 n1 l0 w
set_option maxRecDepth 100000 in
set_option maxHeartbeats 4000000 in
theorem sl_X1_worth_2 {γ : GG} (Q : Int32 → Wd → Prop) (l1 : Int32) (l2 : Nat) : ∀ (n : Nat) (l3 : Option Nat) (w : Wd), lp_X1_worth_2 Q l1 l2 n l3 w → Rch γ 93 k_X1_worth 2 [none, some (.int l1), some (.ref l2), some (rv l3)] [] w (qI Q) xN := by
  intro n
  induction n with
  | zero => intro _ _ h; exact h.elim
  | succ n hR2 =>
    intro l3 w h
    have h : wl_X1_worth_2 Q l1 l2 (lp_X1_worth_2 Q l1 l2 n) l3 w := h
    unfold wl_X1_worth_2 at h
    refine R.aload_nQ 3 dX1_worth_2 rfl rfl ?_
    refine R.ifnull 49 6 dX1_worth_3 (by decide) rfl (fun hc => ?_) (fun i1 hc => ?_)
    · replace h := h.1 hc
      refine R.iconst 50 dX1_worth_49 rfl ?_
      exact R.retI dX1_worth_50 rfl h
    · replace h := h.2 i1 hc
      refine R.aload_nQ 7 dX1_worth_6 rfl rfl ?_
      obtain ⟨i2, ho, h⟩ := h
      refine R.dr0 ho ?_
      obtain ⟨x3, ⟨fs, hg, hv⟩, h⟩ := h
      refine R.getNN (k0 := 0) (T := TX9) 10 dX1_worth_7 rfl rfl rfl in_X9 (List.mem_of_getElem? (i := 2) rfl) rfl (by decide) hg hv ?_
      refine R.iload_n 11 dX1_worth_10 rfl rfl ?_
      refine R.icmp_ne 41 14 dX1_worth_11 (by decide) rfl (fun hc => ?_) (fun hc => ?_)
      · replace h := h.1 hc
        refine R.aload_nQ 42 dX1_worth_41 rfl rfl ?_
        obtain ⟨i4, ho, h⟩ := h
        refine R.dr0 ho ?_
        obtain ⟨x5, ⟨fs, hg, hv⟩, h⟩ := h
        refine R.getNN (k0 := 3) (T := TX9) 45 dX1_worth_42 rfl rfl rfl in_X9 (List.mem_of_getElem? (i := 5) rfl) rfl (by decide) hg hv ?_
        refine R.qst3n 46 dX1_worth_45 rfl (Nat.le_of_ble_eq_true rfl) rfl ?_
        refine R.goto 2 dX1_worth_46 (by decide) ?_
        exact Rch.dropk (hR2 _ _ h) ⟨rfl, ⟨rfl, ⟨rfl, trivial⟩⟩⟩
      · replace h := h.2 hc
        refine R.aload_nQ 15 dX1_worth_14 rfl rfl ?_
        obtain ⟨i6, ho, h⟩ := h
        refine R.dr0 ho ?_
        obtain ⟨x7, ⟨fs, hg, hv⟩, h⟩ := h
        refine R.getNN (k0 := 1) (T := TX9) 18 dX1_worth_15 rfl rfl rfl in_X9 (List.mem_of_getElem? (i := 3) rfl) rfl (by decide) hg hv ?_
        refine R.ifnull 32 21 dX1_worth_18 (by decide) rfl (fun hc => ?_) (fun i8 hc => ?_)
        · replace h := h.1 hc
          refine R.aload_nQ 33 dX1_worth_32 rfl rfl ?_
          obtain ⟨i9, ho, h⟩ := h
          refine R.dr0 ho ?_
          obtain ⟨x10, ⟨fs, hg, hv⟩, h⟩ := h
          refine R.getNN (k0 := 2) (T := TX9) 36 dX1_worth_33 rfl rfl rfl in_X9 (List.mem_of_getElem? (i := 4) rfl) rfl (by decide) hg hv ?_
          refine R.aload_n 37 dX1_worth_36 rfl rfl ?_
          obtain ⟨i11, ho, h⟩ := h
          refine R.dr1 ho ?_
          refine Rch.callVir (n := 1) (sf_val 30 _ _ _ _ h) dX1_worth_37 q899 q867 (List.mem_of_getElem? (i := 0) rfl) (by decide +kernel) (by decide) rfl rfl (Nat.le_of_ble_eq_true rfl) (kI 40 rfl fun r12 w13 h => ?_)
          exact R.retI dX1_worth_40 rfl h
        · replace h := h.2 i8 hc
          refine R.aload_nQ 22 dX1_worth_21 rfl rfl ?_
          obtain ⟨i14, ho, h⟩ := h
          refine R.dr0 ho ?_
          obtain ⟨x15, ⟨fs, hg, hv⟩, h⟩ := h
          refine R.getNN (k0 := 1) (T := TX9) 25 dX1_worth_22 rfl rfl rfl in_X9 (List.mem_of_getElem? (i := 3) rfl) rfl (by decide) hg hv ?_
          refine R.aload_n 26 dX1_worth_25 rfl rfl ?_
          obtain ⟨i16, ho, h⟩ := h
          refine R.dr1 ho ?_
          refine Rch.callVir (n := 1) (sf_hold 30 _ _ _ _ h) dX1_worth_26 q859 q861 (List.mem_of_getElem? (i := 1) rfl) (by decide +kernel) (by decide) rfl rfl (Nat.le_of_ble_eq_true rfl) (kI 29 rfl fun r17 w18 h => ?_)
          refine R.if_eq 41 32 dX1_worth_29 (by decide) rfl (fun hc => ?_) (fun hc => ?_)
          · replace h := h.1 hc
            refine R.aload_nQ 42 dX1_worth_41 rfl rfl ?_
            obtain ⟨i19, ho, h⟩ := h
            refine R.dr0 ho ?_
            obtain ⟨x20, ⟨fs, hg, hv⟩, h⟩ := h
            refine R.getNN (k0 := 3) (T := TX9) 45 dX1_worth_42 rfl rfl rfl in_X9 (List.mem_of_getElem? (i := 5) rfl) rfl (by decide) hg hv ?_
            refine R.qst3n 46 dX1_worth_45 rfl (Nat.le_of_ble_eq_true rfl) rfl ?_
            refine R.goto 2 dX1_worth_46 (by decide) ?_
            exact Rch.dropk (hR2 _ _ h) ⟨rfl, ⟨rfl, ⟨rfl, trivial⟩⟩⟩
          · replace h := h.2 hc
            refine R.aload_nQ 33 dX1_worth_32 rfl rfl ?_
            obtain ⟨i21, ho, h⟩ := h
            refine R.dr0 ho ?_
            obtain ⟨x22, ⟨fs, hg, hv⟩, h⟩ := h
            refine R.getNN (k0 := 2) (T := TX9) 36 dX1_worth_33 rfl rfl rfl in_X9 (List.mem_of_getElem? (i := 4) rfl) rfl (by decide) hg hv ?_
            refine R.aload_n 37 dX1_worth_36 rfl rfl ?_
            obtain ⟨i23, ho, h⟩ := h
            refine R.dr1 ho ?_
            refine Rch.callVir (n := 1) (sf_val 30 _ _ _ _ h) dX1_worth_37 q899 q867 (List.mem_of_getElem? (i := 0) rfl) (by decide +kernel) (by decide) rfl rfl (Nat.le_of_ble_eq_true rfl) (kI 40 rfl fun r24 w25 h => ?_)
            exact R.retI dX1_worth_40 rfl h
set_option maxRecDepth 100000 in
set_option maxHeartbeats 4000000 in
theorem sd_X1_worth {γ : GG} (l0 : Option Nat) (l1 : Int32) (l2 : Nat) (w : Wd) (Q : Int32 → Wd → Prop) : wp_X1_worth l0 l1 l2 w Q → Ctr γ 93 yX1_worth (ws_ yX1_worth cX1_worth 4 (some .int)) [rv l0, .int l1, .ref l2] w (qI Q) xN := by
  intro h
  unfold wp_X1_worth at h
  refine Ctr.of (μ := k_X1_worth) (by decide) rfl rfl rfl (by cases l0 <;> exact Nat.le_of_ble_eq_true rfl) ⟨1, ?_⟩
  have es : lva [rv l0, .int l1, .ref l2] ++ List.replicate 1 none = [some (rv l0), some (.int l1), some (.ref l2), none] := by cases l0 <;> rfl
  rw [es]
  refine R.aload_nQ 1 dX1_worth_0 rfl rfl ?_
  refine R.qst3n 2 dX1_worth_1 rfl (Nat.le_of_ble_eq_true rfl) rfl ?_
  obtain ⟨n1, h⟩ := h
  exact Rch.dropk (sl_X1_worth_2 Q _ _ n1 _ _ h) ⟨rfl, ⟨rfl, ⟨rfl, trivial⟩⟩⟩

abbrev k_X1_worthAt : MK := ("FrostBox", cX1_worthAt, 7, (some .int), [], "worthAt")
def b_X1_worthAt_130 (Q : Int32 → Wd → Prop) (l5 : Int32) (l6 : Int32) (w : Wd) : Prop := wp_X1_ofKind l5 (iz 3) w (fun r1 w2 => Q (imax (iz 0) (r1 - l6)) w2)
def wp_X1_worthAt (l1 : Int32) (l2 : Int32) (l3 : Int32) (l4 : Int32) (w : Wd) (Q : Int32 → Wd → Prop) : Prop := wp_X1_of l1 (iz 0) w (fun r1 w2 => wp_X1_ofKind r1 (iz 2) w2 (fun r3 w4 => ((gI w4 29) = (iz (-1)) → b_X1_worthAt_130 Q r1 (imax (iz 0) (imin (iz 9) (l2 - r3))) w4) ∧ (¬ (gI w4 29) = (iz (-1)) → wp_X1_forget w4 (fun w6 => inb (iz 97) 128 ∧ (∀ w7, w7 = sA w6 15 (iz 97).toInt l2 → wp_X1_ofKind r1 (iz 2) w7 (fun r8 w9 => inb (iz 111) 128 ∧ (∀ w10, w10 = sA w9 15 (iz 111).toInt r8 → wp_X1_of l1 (iz 1) w10 (fun r11 w12 => inb (iz 110) 128 ∧ (∀ w13, w13 = sA w12 15 (iz 110).toInt r11 → inb (iz 121) 128 ∧ (∀ w14, w14 = sA w13 15 (iz 121).toInt l3 → inb (iz 107) 128 ∧ (∀ w15, w15 = sA w14 15 (iz 107).toInt r1 → inb (iz 109) 128 ∧ (∀ w16, w16 = sA w15 15 (iz 109).toInt l4 → inb (gI w16 29) 4 ∧ wp_X1_worth (gC w16 (gI w16 29).toInt) (iz 121) 15 w16 (fun r17 w18 => b_X1_worthAt_130 Q r1 (imax (iz 0) (imin (iz 9) r17)) w18)))))))))))))
set_option maxRecDepth 100000 in
set_option maxHeartbeats 4000000 in
theorem s_X1_worthAt_130 {γ : GG} (Q : Int32 → Wd → Prop) (l5 : Int32) (l6 : Int32) : ∀ (w : Wd), b_X1_worthAt_130 Q l5 l6 w → Rch γ 94 k_X1_worthAt 130 [some (.ref 1), none, none, none, none, some (.int l5), some (.int l6)] [] w (qI Q) xN := by
  intro w h
  unfold b_X1_worthAt_130 at h
  refine R.iconst 131 dX1_worthAt_130 rfl ?_
  refine R.aload_n 132 dX1_worthAt_131 rfl rfl ?_
  refine R.iload 134 dX1_worthAt_132 rfl rfl ?_
  refine R.iconst 135 dX1_worthAt_134 rfl ?_
  refine Rch.callv (sd_X1_ofKind _ _ _ _ h) dX1_worthAt_135 (lw_V q753 q755 qs29 q142 q756) dk_X1_ofKind rcX (by decide) (Nat.le_of_ble_eq_true rfl) rfl rfl (Nat.le_of_ble_eq_true rfl) (kI 138 rfl fun r1 w2 h => ?_) kN
  refine R.iload 140 dX1_worthAt_138 rfl rfl ?_
  refine R.isub 141 dX1_worthAt_140 rfl ?_
  refine R.mmax 144 dX1_worthAt_141 rfl q830 q424 q149 q425 (by omega) (Nat.le_of_ble_eq_true rfl) ?_
  exact R.retI dX1_worthAt_144 rfl h
set_option maxRecDepth 100000 in
set_option maxHeartbeats 4000000 in
theorem sd_X1_worthAt {γ : GG} (l1 : Int32) (l2 : Int32) (l3 : Int32) (l4 : Int32) (w : Wd) (Q : Int32 → Wd → Prop) : wp_X1_worthAt l1 l2 l3 l4 w Q → Ctr γ 94 yX1_worthAt (ws_ yX1_worthAt cX1_worthAt 7 (some .int)) [.ref 1, .int l1, .int l2, .int l3, .int l4] w (qI Q) xN := by
  intro h
  unfold wp_X1_worthAt at h
  refine Ctr.of (μ := k_X1_worthAt) (by decide) rfl rfl rfl (Nat.le_of_ble_eq_true rfl) ⟨2, ?_⟩
  have es : lva [.ref 1, .int l1, .int l2, .int l3, .int l4] ++ List.replicate 2 none = [some (.ref 1), some (.int l1), some (.int l2), some (.int l3), some (.int l4), none, none] := rfl
  rw [es]
  refine R.aload_n 1 dX1_worthAt_0 rfl rfl ?_
  refine R.iload_n 2 dX1_worthAt_1 rfl rfl ?_
  refine R.iconst 3 dX1_worthAt_2 rfl ?_
  refine Rch.callv (sd_X1_of _ _ _ _ h) dX1_worthAt_3 (lw_V q785 q787 qs34 q142 q788) dk_X1_of rcX (by decide) (Nat.le_of_ble_eq_true rfl) rfl rfl (Nat.le_of_ble_eq_true rfl) (kI 6 rfl fun r1 w2 h => ?_) kN
  refine R.ist5 8 dX1_worthAt_6 rfl (Nat.le_of_ble_eq_true rfl) rfl ?_
  refine R.iconst 9 dX1_worthAt_8 rfl ?_
  refine R.bipush 11 dX1_worthAt_9 rfl (by decide +kernel) ?_
  refine R.iload_n 12 dX1_worthAt_11 rfl rfl ?_
  refine R.aload_n 13 dX1_worthAt_12 rfl rfl ?_
  refine R.iload 15 dX1_worthAt_13 rfl rfl ?_
  refine R.iconst 16 dX1_worthAt_15 rfl ?_
  refine Rch.callv (sd_X1_ofKind _ _ _ _ h) dX1_worthAt_16 (lw_V q753 q755 qs29 q142 q756) dk_X1_ofKind rcX (by decide) (Nat.le_of_ble_eq_true rfl) rfl rfl (Nat.le_of_ble_eq_true rfl) (kI 19 rfl fun r3 w4 h => ?_) kN
  refine R.isub 20 dX1_worthAt_19 rfl ?_
  refine R.mmin 23 dX1_worthAt_20 rfl q825 q427 q149 q428 (by omega) (Nat.le_of_ble_eq_true rfl) ?_
  refine R.mmax 26 dX1_worthAt_23 rfl q830 q424 q149 q425 (by omega) (Nat.le_of_ble_eq_true rfl) ?_
  refine R.ist6 28 dX1_worthAt_26 rfl (Nat.le_of_ble_eq_true rfl) rfl ?_
  refine R.aload_n 29 dX1_worthAt_28 rfl rfl ?_
  refine gf_29 32 dX1_worthAt_29 rfl rfl ?_
  refine R.iconst 33 dX1_worthAt_32 rfl ?_
  refine R.icmp_eq 130 36 dX1_worthAt_33 (by decide) rfl (fun hc => ?_) (fun hc => ?_)
  · replace h := h.1 hc
    exact Rch.dropk (s_X1_worthAt_130 Q _ _ _ h) ⟨rfl, ⟨rfl, ⟨rfl, trivial⟩⟩⟩
  · replace h := h.2 hc
    refine R.aload_n 37 dX1_worthAt_36 rfl rfl ?_
    refine Rch.callv (sd_X1_forget _ _ h) dX1_worthAt_37 (lw_V q831 q833 qs44 q142 q834) dk_X1_forget rcX (by decide) (Nat.le_of_ble_eq_true rfl) rfl rfl (Nat.le_of_ble_eq_true rfl) (kV 40 rfl fun w6 h => ?_) kN
    refine R.aload_n 41 dX1_worthAt_40 rfl rfl ?_
    refine gf_15 44 dX1_worthAt_41 rfl rfl ?_
    refine R.bipush 46 dX1_worthAt_44 rfl (by decide +kernel) ?_
    refine R.iload_n 47 dX1_worthAt_46 rfl rfl ?_
    obtain ⟨hb, h⟩ := h
    replace h := h _ rfl
    refine R.iast ar_15 48 dX1_worthAt_47 rfl hb ?_
    refine R.aload_n 49 dX1_worthAt_48 rfl rfl ?_
    refine gf_15 52 dX1_worthAt_49 rfl rfl ?_
    refine R.bipush 54 dX1_worthAt_52 rfl (by decide +kernel) ?_
    refine R.aload_n 55 dX1_worthAt_54 rfl rfl ?_
    refine R.iload 57 dX1_worthAt_55 rfl rfl ?_
    refine R.iconst 58 dX1_worthAt_57 rfl ?_
    refine Rch.callv (sd_X1_ofKind _ _ _ _ h) dX1_worthAt_58 (lw_V q753 q755 qs29 q142 q756) dk_X1_ofKind rcX (by decide) (Nat.le_of_ble_eq_true rfl) rfl rfl (Nat.le_of_ble_eq_true rfl) (kI 61 rfl fun r8 w9 h => ?_) kN
    obtain ⟨hb, h⟩ := h
    replace h := h _ rfl
    refine R.iast ar_15 62 dX1_worthAt_61 rfl hb ?_
    refine R.aload_n 63 dX1_worthAt_62 rfl rfl ?_
    refine gf_15 66 dX1_worthAt_63 rfl rfl ?_
    refine R.bipush 68 dX1_worthAt_66 rfl (by decide +kernel) ?_
    refine R.aload_n 69 dX1_worthAt_68 rfl rfl ?_
    refine R.iload_n 70 dX1_worthAt_69 rfl rfl ?_
    refine R.iconst 71 dX1_worthAt_70 rfl ?_
    refine Rch.callv (sd_X1_of _ _ _ _ h) dX1_worthAt_71 (lw_V q785 q787 qs34 q142 q788) dk_X1_of rcX (by decide) (Nat.le_of_ble_eq_true rfl) rfl rfl (Nat.le_of_ble_eq_true rfl) (kI 74 rfl fun r11 w12 h => ?_) kN
    obtain ⟨hb, h⟩ := h
    replace h := h _ rfl
    refine R.iast ar_15 75 dX1_worthAt_74 rfl hb ?_
    refine R.aload_n 76 dX1_worthAt_75 rfl rfl ?_
    refine gf_15 79 dX1_worthAt_76 rfl rfl ?_
    refine R.bipush 81 dX1_worthAt_79 rfl (by decide +kernel) ?_
    refine R.iload_n 82 dX1_worthAt_81 rfl rfl ?_
    obtain ⟨hb, h⟩ := h
    replace h := h _ rfl
    refine R.iast ar_15 83 dX1_worthAt_82 rfl hb ?_
    refine R.aload_n 84 dX1_worthAt_83 rfl rfl ?_
    refine gf_15 87 dX1_worthAt_84 rfl rfl ?_
    refine R.bipush 89 dX1_worthAt_87 rfl (by decide +kernel) ?_
    refine R.iload 91 dX1_worthAt_89 rfl rfl ?_
    obtain ⟨hb, h⟩ := h
    replace h := h _ rfl
    refine R.iast ar_15 92 dX1_worthAt_91 rfl hb ?_
    refine R.aload_n 93 dX1_worthAt_92 rfl rfl ?_
    refine gf_15 96 dX1_worthAt_93 rfl rfl ?_
    refine R.bipush 98 dX1_worthAt_96 rfl (by decide +kernel) ?_
    refine R.iload 100 dX1_worthAt_98 rfl rfl ?_
    obtain ⟨hb, h⟩ := h
    replace h := h _ rfl
    refine R.iast ar_15 101 dX1_worthAt_100 rfl hb ?_
    refine R.iconst 102 dX1_worthAt_101 rfl ?_
    refine R.bipush 104 dX1_worthAt_102 rfl (by decide +kernel) ?_
    refine R.aload_n 105 dX1_worthAt_104 rfl rfl ?_
    refine gf_27 108 dX1_worthAt_105 rfl rfl ?_
    refine R.aload_n 109 dX1_worthAt_108 rfl rfl ?_
    refine gf_29 112 dX1_worthAt_109 rfl rfl ?_
    obtain ⟨hb, h⟩ := h
    refine R.aald 113 dX1_worthAt_112 rfl hb ?_
    refine R.bipush 115 dX1_worthAt_113 rfl (by decide +kernel) ?_
    refine R.aload_n 116 dX1_worthAt_115 rfl rfl ?_
    refine gf_15 119 dX1_worthAt_116 rfl rfl ?_
    refine Rch.calls (sd_X1_worth _ _ _ _ _ h) dX1_worthAt_119 (lw_S q856 q857 q142 q858) dk_X1_worth (by decide) (Nat.le_of_ble_eq_true rfl) rfl rfl (Nat.le_of_ble_eq_true rfl) (kI 122 rfl fun r17 w18 h => ?_) kN
    refine R.mmin 125 dX1_worthAt_122 rfl q825 q427 q149 q428 (by omega) (Nat.le_of_ble_eq_true rfl) ?_
    refine R.mmax 128 dX1_worthAt_125 rfl q830 q424 q149 q425 (by omega) (Nat.le_of_ble_eq_true rfl) ?_
    refine R.ist6 130 dX1_worthAt_128 rfl (Nat.le_of_ble_eq_true rfl) rfl ?_
    exact Rch.dropk (s_X1_worthAt_130 Q _ _ _ h) ⟨rfl, ⟨rfl, ⟨rfl, trivial⟩⟩⟩

abbrev k_X1_valueAt : MK := ("FrostBox", cX1_valueAt, 4, (some .int), [], "valueAt")
def wp_X1_valueAt (l1 : Int32) (l2 : Int32) (l3 : Int32) (w : Wd) (Q : Int32 → Wd → Prop) : Prop := wp_X1_of l1 (iz 1) w (fun r1 w2 => wp_X1_aged l1 l2 w2 (fun r3 w4 => inb (iz 33) 275 ∧ wp_X1_worthAt l1 r3 l3 ((gA w4 31 (iz 33).toInt) + l2) w4 (fun r5 w6 => Q (r1 * r5) w6)))
set_option maxRecDepth 100000 in
set_option maxHeartbeats 4000000 in
theorem sd_X1_valueAt {γ : GG} (l1 : Int32) (l2 : Int32) (l3 : Int32) (w : Wd) (Q : Int32 → Wd → Prop) : wp_X1_valueAt l1 l2 l3 w Q → Ctr γ 95 yX1_valueAt (ws_ yX1_valueAt cX1_valueAt 4 (some .int)) [.ref 1, .int l1, .int l2, .int l3] w (qI Q) xN := by
  intro h
  unfold wp_X1_valueAt at h
  refine Ctr.of (μ := k_X1_valueAt) (by decide) rfl rfl rfl (Nat.le_of_ble_eq_true rfl) ⟨0, ?_⟩
  have es : lva [.ref 1, .int l1, .int l2, .int l3] ++ List.replicate 0 none = [some (.ref 1), some (.int l1), some (.int l2), some (.int l3)] := rfl
  rw [es]
  refine R.aload_n 1 dX1_valueAt_0 rfl rfl ?_
  refine R.iload_n 2 dX1_valueAt_1 rfl rfl ?_
  refine R.iconst 3 dX1_valueAt_2 rfl ?_
  refine Rch.callv (sd_X1_of _ _ _ _ h) dX1_valueAt_3 (lw_V q785 q787 qs34 q142 q788) dk_X1_of rcX (by decide) (Nat.le_of_ble_eq_true rfl) rfl rfl (Nat.le_of_ble_eq_true rfl) (kI 6 rfl fun r1 w2 h => ?_) kN
  refine R.aload_n 7 dX1_valueAt_6 rfl rfl ?_
  refine R.iload_n 8 dX1_valueAt_7 rfl rfl ?_
  refine R.aload_n 9 dX1_valueAt_8 rfl rfl ?_
  refine R.iload_n 10 dX1_valueAt_9 rfl rfl ?_
  refine R.iload_n 11 dX1_valueAt_10 rfl rfl ?_
  refine Rch.callv (sd_X1_aged _ _ _ _ h) dX1_valueAt_11 (lw_V q821 q823 qs42 q142 q824) dk_X1_aged rcX (by decide) (Nat.le_of_ble_eq_true rfl) rfl rfl (Nat.le_of_ble_eq_true rfl) (kI 14 rfl fun r3 w4 h => ?_) kN
  refine R.iload_n 15 dX1_valueAt_14 rfl rfl ?_
  refine R.aload_n 16 dX1_valueAt_15 rfl rfl ?_
  refine gf_31 19 dX1_valueAt_16 rfl rfl ?_
  refine R.bipush 21 dX1_valueAt_19 rfl (by decide +kernel) ?_
  obtain ⟨hb, h⟩ := h
  refine R.iald ar_31 22 dX1_valueAt_21 rfl hb ?_
  refine R.iload_n 23 dX1_valueAt_22 rfl rfl ?_
  refine R.iadd 24 dX1_valueAt_23 rfl ?_
  refine Rch.callv (sd_X1_worthAt _ _ _ _ _ _ h) dX1_valueAt_24 (lw_V q826 q828 qs43 q142 q829) dk_X1_worthAt rcX (by decide) (Nat.le_of_ble_eq_true rfl) rfl rfl (Nat.le_of_ble_eq_true rfl) (kI 27 rfl fun r5 w6 h => ?_) kN
  refine R.imul 28 dX1_valueAt_27 rfl ?_
  exact R.retI dX1_valueAt_28 rfl h

abbrev k_X1_valueOf : MK := ("FrostBox", cX1_valueOf, 2, (some .int), [], "valueOf")
def wp_X1_valueOf (l1 : Int32) (w : Wd) (Q : Int32 → Wd → Prop) : Prop := wp_X1_turned l1 w (fun r1 w2 => wp_X1_valueAt l1 (iz 0) r1 w2 (fun r3 w4 => Q r3 w4))
set_option maxRecDepth 100000 in
set_option maxHeartbeats 4000000 in
theorem sd_X1_valueOf {γ : GG} (l1 : Int32) (w : Wd) (Q : Int32 → Wd → Prop) : wp_X1_valueOf l1 w Q → Ctr γ 96 yX1_valueOf (ws_ yX1_valueOf cX1_valueOf 2 (some .int)) [.ref 1, .int l1] w (qI Q) xN := by
  intro h
  unfold wp_X1_valueOf at h
  refine Ctr.of (μ := k_X1_valueOf) (by decide) rfl rfl rfl (Nat.le_of_ble_eq_true rfl) ⟨0, ?_⟩
  have es : lva [.ref 1, .int l1] ++ List.replicate 0 none = [some (.ref 1), some (.int l1)] := rfl
  rw [es]
  refine R.aload_n 1 dX1_valueOf_0 rfl rfl ?_
  refine R.iload_n 2 dX1_valueOf_1 rfl rfl ?_
  refine R.iconst 3 dX1_valueOf_2 rfl ?_
  refine R.aload_n 4 dX1_valueOf_3 rfl rfl ?_
  refine R.iload_n 5 dX1_valueOf_4 rfl rfl ?_
  refine Rch.callv (sd_X1_turned _ _ _ h) dX1_valueOf_5 (lw_V q789 q791 qs35 q142 q792) dk_X1_turned rcX (by decide) (Nat.le_of_ble_eq_true rfl) rfl rfl (Nat.le_of_ble_eq_true rfl) (kI 8 rfl fun r1 w2 h => ?_) kN
  refine Rch.callv (sd_X1_valueAt _ _ _ _ _ h) dX1_valueOf_8 (lw_V q817 q819 qs41 q142 q820) dk_X1_valueAt rcX (by decide) (Nat.le_of_ble_eq_true rfl) rfl rfl (Nat.le_of_ble_eq_true rfl) (kI 11 rfl fun r3 w4 h => ?_) kN
  exact R.retI dX1_valueOf_11 rfl h

abbrev k_X1_takeNow : MK := ("FrostBox", cX1_takeNow, 5, (some .int), [], "takeNow")
def wl_X1_takeNow_139 (Q : Int32 → Wd → Prop) (l2 : Int32) (R139 : Int32 → Wd → Prop) (l4 : Int32) (w : Wd) : Prop := ((iz 32) ≤ l4 → inb (iz 32) 275 ∧ inb (iz 32) 275 ∧ (∀ w1, w1 = sA w 31 (iz 32).toInt ((gA w 31 (iz 32).toInt) - (iz 1)) → Q l2 w1)) ∧ (¬ (iz 32) ≤ l4 → inb l4 275 ∧ inb (l4 - (iz 4)) 275 ∧ (∀ w2, w2 = sA w 31 (l4 - (iz 4)).toInt (gA w 31 l4.toInt) → R139 (l4 + iz 1) w2))
def lp_X1_takeNow_139 (Q : Int32 → Wd → Prop) (l2 : Int32) : Nat → Int32 → Wd → Prop
  | 0, _, _ => False
  | n + 1, l4, w => wl_X1_takeNow_139 Q l2 (lp_X1_takeNow_139 Q l2 n) l4 w
def wl_X1_takeNow_80 (Q : Int32 → Wd → Prop) (l1 : Int32) (l2 : Int32) (l3 : Int32) (R80 : Int32 → Wd → Prop) (l4 : Int32) (w : Wd) : Prop := ((iz 3) ≤ l4 → inb (l3 + (iz 3)) 275 ∧ (∀ w1, w1 = sA w 31 (l3 + (iz 3)).toInt l2 → inb (iz 34) 275 ∧ inb (iz 34) 275 ∧ (∀ w2, w2 = sA w1 31 (iz 34).toInt ((gA w1 31 (iz 34).toInt) + (iz 1)) → wp_X1_turned l1 w2 (fun r3 w4 => ∃ n5, lp_X1_takeNow_139 Q l2 n5 ((iz 4) * (r3 + (iz 1))) w4)))) ∧ (¬ (iz 3) ≤ l4 → wp_X1_of l1 l4 w (fun r6 w7 => inb (l3 + l4) 275 ∧ (∀ w8, w8 = sA w7 31 (l3 + l4).toInt r6 → R80 (l4 + iz 1) w8)))
def lp_X1_takeNow_80 (Q : Int32 → Wd → Prop) (l1 : Int32) (l2 : Int32) (l3 : Int32) : Nat → Int32 → Wd → Prop
  | 0, _, _ => False
  | n + 1, l4, w => wl_X1_takeNow_80 Q l1 l2 l3 (lp_X1_takeNow_80 Q l1 l2 l3 n) l4 w
def b_X1_takeNow_64 (Q : Int32 → Wd → Prop) (l1 : Int32) (l2 : Int32) (w : Wd) : Prop := inb (iz 34) 275 ∧ ∃ n1, lp_X1_takeNow_80 Q l1 l2 ((iz 35) + ((iz 4) * (gA w 31 (iz 34).toInt))) n1 (iz 0) w
def wl_X1_takeNow_20 (Q : Int32 → Wd → Prop) (l1 : Int32) (l2 : Int32) (R20 : Int32 → Wd → Prop) (l3 : Int32) (w : Wd) : Prop := ((iz 240) ≤ l3 → inb (iz 34) 275 ∧ inb (iz 34) 275 ∧ (∀ w1, w1 = sA w 31 (iz 34).toInt ((gA w 31 (iz 34).toInt) - (iz 1)) → b_X1_takeNow_64 Q l1 l2 w1)) ∧ (¬ (iz 240) ≤ l3 → inb ((iz 35) + l3) 275 ∧ inb (((iz 35) + l3) - (iz 4)) 275 ∧ (∀ w2, w2 = sA w 31 (((iz 35) + l3) - (iz 4)).toInt (gA w 31 ((iz 35) + l3).toInt) → R20 (l3 + iz 1) w2))
def lp_X1_takeNow_20 (Q : Int32 → Wd → Prop) (l1 : Int32) (l2 : Int32) : Nat → Int32 → Wd → Prop
  | 0, _, _ => False
  | n + 1, l3, w => wl_X1_takeNow_20 Q l1 l2 (lp_X1_takeNow_20 Q l1 l2 n) l3 w
def wp_X1_takeNow (l1 : Int32) (w : Wd) (Q : Int32 → Wd → Prop) : Prop := wp_X1_valueOf l1 w (fun r1 w2 => inb (iz 34) 275 ∧ (¬ (gA w2 31 (iz 34).toInt) = (iz 60) → b_X1_takeNow_64 Q l1 r1 w2) ∧ ((gA w2 31 (iz 34).toInt) = (iz 60) → ∃ n3, lp_X1_takeNow_20 Q l1 r1 n3 (iz 4) w2))
set_option maxRecDepth 100000 in
set_option maxHeartbeats 4000000 in
theorem sl_X1_takeNow_139 {γ : GG} (Q : Int32 → Wd → Prop) (l2 : Int32) : ∀ (n : Nat) (l4 : Int32) (w : Wd), lp_X1_takeNow_139 Q l2 n l4 w → Rch γ 97 k_X1_takeNow 139 [some (.ref 1), none, some (.int l2), none, some (.int l4)] [] w (qI Q) xN := by
  intro n
  induction n with
  | zero => intro _ _ h; exact h.elim
  | succ n hR139 =>
    intro l4 w h
    have h : wl_X1_takeNow_139 Q l2 (lp_X1_takeNow_139 Q l2 n) l4 w := h
    unfold wl_X1_takeNow_139 at h
    refine R.iload 141 dX1_takeNow_139 rfl rfl ?_
    refine R.bipush 143 dX1_takeNow_141 rfl (by decide +kernel) ?_
    refine R.icmp_ge 168 146 dX1_takeNow_143 (by decide) rfl (fun hc => ?_) (fun hc => ?_)
    · replace h := h.1 hc
      refine R.aload_n 169 dX1_takeNow_168 rfl rfl ?_
      refine gf_31 172 dX1_takeNow_169 rfl rfl ?_
      refine R.bipush 174 dX1_takeNow_172 rfl (by decide +kernel) ?_
      refine R.dup2 175 dX1_takeNow_174 rfl ?_
      obtain ⟨hb, h⟩ := h
      refine R.iald ar_31 176 dX1_takeNow_175 rfl hb ?_
      refine R.iconst 177 dX1_takeNow_176 rfl ?_
      refine R.isub 178 dX1_takeNow_177 rfl ?_
      obtain ⟨hb, h⟩ := h
      replace h := h _ rfl
      refine R.iast ar_31 179 dX1_takeNow_178 rfl hb ?_
      refine R.iload_n 180 dX1_takeNow_179 rfl rfl ?_
      exact R.retI dX1_takeNow_180 rfl h
    · replace h := h.2 hc
      refine R.aload_n 147 dX1_takeNow_146 rfl rfl ?_
      refine gf_31 150 dX1_takeNow_147 rfl rfl ?_
      refine R.iload 152 dX1_takeNow_150 rfl rfl ?_
      refine R.iconst 153 dX1_takeNow_152 rfl ?_
      refine R.isub 154 dX1_takeNow_153 rfl ?_
      refine R.aload_n 155 dX1_takeNow_154 rfl rfl ?_
      refine gf_31 158 dX1_takeNow_155 rfl rfl ?_
      refine R.iload 160 dX1_takeNow_158 rfl rfl ?_
      obtain ⟨hb, h⟩ := h
      refine R.iald ar_31 161 dX1_takeNow_160 rfl hb ?_
      obtain ⟨hb, h⟩ := h
      replace h := h _ rfl
      refine R.iast ar_31 162 dX1_takeNow_161 rfl hb ?_
      refine R.inc4 165 dX1_takeNow_162 rfl (Nat.le_of_ble_eq_true rfl) rfl ?_
      refine R.goto 139 dX1_takeNow_165 (by decide) ?_
      exact Rch.dropk (hR139 _ _ h) ⟨rfl, ⟨rfl, ⟨rfl, trivial⟩⟩⟩
set_option maxRecDepth 100000 in
set_option maxHeartbeats 4000000 in
theorem sl_X1_takeNow_80 {γ : GG} (Q : Int32 → Wd → Prop) (l1 : Int32) (l2 : Int32) (l3 : Int32) : ∀ (n : Nat) (l4 : Int32) (w : Wd), lp_X1_takeNow_80 Q l1 l2 l3 n l4 w → Rch γ 97 k_X1_takeNow 80 [some (.ref 1), some (.int l1), some (.int l2), some (.int l3), some (.int l4)] [] w (qI Q) xN := by
  intro n
  induction n with
  | zero => intro _ _ h; exact h.elim
  | succ n hR80 =>
    intro l4 w h
    have h : wl_X1_takeNow_80 Q l1 l2 l3 (lp_X1_takeNow_80 Q l1 l2 l3 n) l4 w := h
    unfold wl_X1_takeNow_80 at h
    refine R.iload 82 dX1_takeNow_80 rfl rfl ?_
    refine R.iconst 83 dX1_takeNow_82 rfl ?_
    refine R.icmp_ge 108 86 dX1_takeNow_83 (by decide) rfl (fun hc => ?_) (fun hc => ?_)
    · replace h := h.1 hc
      refine R.aload_n 109 dX1_takeNow_108 rfl rfl ?_
      refine gf_31 112 dX1_takeNow_109 rfl rfl ?_
      refine R.iload_n 113 dX1_takeNow_112 rfl rfl ?_
      refine R.iconst 114 dX1_takeNow_113 rfl ?_
      refine R.iadd 115 dX1_takeNow_114 rfl ?_
      refine R.iload_n 116 dX1_takeNow_115 rfl rfl ?_
      obtain ⟨hb, h⟩ := h
      replace h := h _ rfl
      refine R.iast ar_31 117 dX1_takeNow_116 rfl hb ?_
      refine R.aload_n 118 dX1_takeNow_117 rfl rfl ?_
      refine gf_31 121 dX1_takeNow_118 rfl rfl ?_
      refine R.bipush 123 dX1_takeNow_121 rfl (by decide +kernel) ?_
      refine R.dup2 124 dX1_takeNow_123 rfl ?_
      obtain ⟨hb, h⟩ := h
      refine R.iald ar_31 125 dX1_takeNow_124 rfl hb ?_
      refine R.iconst 126 dX1_takeNow_125 rfl ?_
      refine R.iadd 127 dX1_takeNow_126 rfl ?_
      obtain ⟨hb, h⟩ := h
      replace h := h _ rfl
      refine R.iast ar_31 128 dX1_takeNow_127 rfl hb ?_
      refine R.iconst 129 dX1_takeNow_128 rfl ?_
      refine R.aload_n 130 dX1_takeNow_129 rfl rfl ?_
      refine R.iload_n 131 dX1_takeNow_130 rfl rfl ?_
      refine Rch.callv (sd_X1_turned _ _ _ h) dX1_takeNow_131 (lw_V q789 q791 qs35 q142 q792) dk_X1_turned rcX (by decide) (Nat.le_of_ble_eq_true rfl) rfl rfl (Nat.le_of_ble_eq_true rfl) (kI 134 rfl fun r3 w4 h => ?_) kN
      refine R.iconst 135 dX1_takeNow_134 rfl ?_
      refine R.iadd 136 dX1_takeNow_135 rfl ?_
      refine R.imul 137 dX1_takeNow_136 rfl ?_
      refine R.ist4 139 dX1_takeNow_137 rfl (Nat.le_of_ble_eq_true rfl) rfl ?_
      obtain ⟨n5, h⟩ := h
      exact Rch.dropk (sl_X1_takeNow_139 Q _ n5 _ _ h) ⟨rfl, ⟨rfl, ⟨rfl, trivial⟩⟩⟩
    · replace h := h.2 hc
      refine R.aload_n 87 dX1_takeNow_86 rfl rfl ?_
      refine gf_31 90 dX1_takeNow_87 rfl rfl ?_
      refine R.iload_n 91 dX1_takeNow_90 rfl rfl ?_
      refine R.iload 93 dX1_takeNow_91 rfl rfl ?_
      refine R.iadd 94 dX1_takeNow_93 rfl ?_
      refine R.aload_n 95 dX1_takeNow_94 rfl rfl ?_
      refine R.iload_n 96 dX1_takeNow_95 rfl rfl ?_
      refine R.iload 98 dX1_takeNow_96 rfl rfl ?_
      refine Rch.callv (sd_X1_of _ _ _ _ h) dX1_takeNow_98 (lw_V q785 q787 qs34 q142 q788) dk_X1_of rcX (by decide) (Nat.le_of_ble_eq_true rfl) rfl rfl (Nat.le_of_ble_eq_true rfl) (kI 101 rfl fun r6 w7 h => ?_) kN
      obtain ⟨hb, h⟩ := h
      replace h := h _ rfl
      refine R.iast ar_31 102 dX1_takeNow_101 rfl hb ?_
      refine R.inc4 105 dX1_takeNow_102 rfl (Nat.le_of_ble_eq_true rfl) rfl ?_
      refine R.goto 80 dX1_takeNow_105 (by decide) ?_
      exact Rch.dropk (hR80 _ _ h) ⟨rfl, ⟨rfl, ⟨rfl, ⟨rfl, ⟨rfl, trivial⟩⟩⟩⟩⟩
set_option maxRecDepth 100000 in
set_option maxHeartbeats 4000000 in
theorem s_X1_takeNow_64 {γ : GG} (Q : Int32 → Wd → Prop) (l1 : Int32) (l2 : Int32) : ∀ (w : Wd), b_X1_takeNow_64 Q l1 l2 w → Rch γ 97 k_X1_takeNow 64 [some (.ref 1), some (.int l1), some (.int l2), none, none] [] w (qI Q) xN := by
  intro w h
  unfold b_X1_takeNow_64 at h
  refine R.bipush 66 dX1_takeNow_64 rfl (by decide +kernel) ?_
  refine R.iconst 67 dX1_takeNow_66 rfl ?_
  refine R.aload_n 68 dX1_takeNow_67 rfl rfl ?_
  refine gf_31 71 dX1_takeNow_68 rfl rfl ?_
  refine R.bipush 73 dX1_takeNow_71 rfl (by decide +kernel) ?_
  obtain ⟨hb, h⟩ := h
  refine R.iald ar_31 74 dX1_takeNow_73 rfl hb ?_
  refine R.imul 75 dX1_takeNow_74 rfl ?_
  refine R.iadd 76 dX1_takeNow_75 rfl ?_
  refine R.ist3n 77 dX1_takeNow_76 rfl (Nat.le_of_ble_eq_true rfl) rfl ?_
  refine R.iconst 78 dX1_takeNow_77 rfl ?_
  refine R.ist4 80 dX1_takeNow_78 rfl (Nat.le_of_ble_eq_true rfl) rfl ?_
  obtain ⟨n1, h⟩ := h
  exact Rch.dropk (sl_X1_takeNow_80 Q _ _ _ n1 _ _ h) ⟨rfl, ⟨rfl, ⟨rfl, ⟨rfl, ⟨rfl, trivial⟩⟩⟩⟩⟩
set_option maxRecDepth 100000 in
set_option maxHeartbeats 4000000 in
theorem sl_X1_takeNow_20 {γ : GG} (Q : Int32 → Wd → Prop) (l1 : Int32) (l2 : Int32) : ∀ (n : Nat) (l3 : Int32) (w : Wd), lp_X1_takeNow_20 Q l1 l2 n l3 w → Rch γ 97 k_X1_takeNow 20 [some (.ref 1), some (.int l1), some (.int l2), some (.int l3), none] [] w (qI Q) xN := by
  intro n
  induction n with
  | zero => intro _ _ h; exact h.elim
  | succ n hR20 =>
    intro l3 w h
    have h : wl_X1_takeNow_20 Q l1 l2 (lp_X1_takeNow_20 Q l1 l2 n) l3 w := h
    unfold wl_X1_takeNow_20 at h
    refine R.iload_n 21 dX1_takeNow_20 rfl rfl ?_
    refine R.sipush 24 dX1_takeNow_21 rfl (by decide +kernel) ?_
    refine R.icmp_ge 53 27 dX1_takeNow_24 (by decide) rfl (fun hc => ?_) (fun hc => ?_)
    · replace h := h.1 hc
      refine R.aload_n 54 dX1_takeNow_53 rfl rfl ?_
      refine gf_31 57 dX1_takeNow_54 rfl rfl ?_
      refine R.bipush 59 dX1_takeNow_57 rfl (by decide +kernel) ?_
      refine R.dup2 60 dX1_takeNow_59 rfl ?_
      obtain ⟨hb, h⟩ := h
      refine R.iald ar_31 61 dX1_takeNow_60 rfl hb ?_
      refine R.iconst 62 dX1_takeNow_61 rfl ?_
      refine R.isub 63 dX1_takeNow_62 rfl ?_
      obtain ⟨hb, h⟩ := h
      replace h := h _ rfl
      refine R.iast ar_31 64 dX1_takeNow_63 rfl hb ?_
      exact Rch.dropk (s_X1_takeNow_64 Q _ _ _ h) ⟨rfl, ⟨rfl, ⟨rfl, trivial⟩⟩⟩
    · replace h := h.2 hc
      refine R.aload_n 28 dX1_takeNow_27 rfl rfl ?_
      refine gf_31 31 dX1_takeNow_28 rfl rfl ?_
      refine R.bipush 33 dX1_takeNow_31 rfl (by decide +kernel) ?_
      refine R.iload_n 34 dX1_takeNow_33 rfl rfl ?_
      refine R.iadd 35 dX1_takeNow_34 rfl ?_
      refine R.iconst 36 dX1_takeNow_35 rfl ?_
      refine R.isub 37 dX1_takeNow_36 rfl ?_
      refine R.aload_n 38 dX1_takeNow_37 rfl rfl ?_
      refine gf_31 41 dX1_takeNow_38 rfl rfl ?_
      refine R.bipush 43 dX1_takeNow_41 rfl (by decide +kernel) ?_
      refine R.iload_n 44 dX1_takeNow_43 rfl rfl ?_
      refine R.iadd 45 dX1_takeNow_44 rfl ?_
      obtain ⟨hb, h⟩ := h
      refine R.iald ar_31 46 dX1_takeNow_45 rfl hb ?_
      obtain ⟨hb, h⟩ := h
      replace h := h _ rfl
      refine R.iast ar_31 47 dX1_takeNow_46 rfl hb ?_
      refine R.inc3 50 dX1_takeNow_47 rfl (Nat.le_of_ble_eq_true rfl) rfl ?_
      refine R.goto 20 dX1_takeNow_50 (by decide) ?_
      exact Rch.dropk (hR20 _ _ h) ⟨rfl, ⟨rfl, ⟨rfl, ⟨rfl, trivial⟩⟩⟩⟩
set_option maxRecDepth 100000 in
set_option maxHeartbeats 4000000 in
theorem sd_X1_takeNow {γ : GG} (l1 : Int32) (w : Wd) (Q : Int32 → Wd → Prop) : wp_X1_takeNow l1 w Q → Ctr γ 97 yX1_takeNow (ws_ yX1_takeNow cX1_takeNow 5 (some .int)) [.ref 1, .int l1] w (qI Q) xN := by
  intro h
  unfold wp_X1_takeNow at h
  refine Ctr.of (μ := k_X1_takeNow) (by decide) rfl rfl rfl (Nat.le_of_ble_eq_true rfl) ⟨3, ?_⟩
  have es : lva [.ref 1, .int l1] ++ List.replicate 3 none = [some (.ref 1), some (.int l1), none, none, none] := rfl
  rw [es]
  refine R.aload_n 1 dX1_takeNow_0 rfl rfl ?_
  refine R.iload_n 2 dX1_takeNow_1 rfl rfl ?_
  refine Rch.callv (sd_X1_valueOf _ _ _ h) dX1_takeNow_2 (lw_V q813 q815 qs40 q142 q816) dk_X1_valueOf rcX (by decide) (Nat.le_of_ble_eq_true rfl) rfl rfl (Nat.le_of_ble_eq_true rfl) (kI 5 rfl fun r1 w2 h => ?_) kN
  refine R.ist2n 6 dX1_takeNow_5 rfl (Nat.le_of_ble_eq_true rfl) rfl ?_
  refine R.aload_n 7 dX1_takeNow_6 rfl rfl ?_
  refine gf_31 10 dX1_takeNow_7 rfl rfl ?_
  refine R.bipush 12 dX1_takeNow_10 rfl (by decide +kernel) ?_
  obtain ⟨hb, h⟩ := h
  refine R.iald ar_31 13 dX1_takeNow_12 rfl hb ?_
  refine R.bipush 15 dX1_takeNow_13 rfl (by decide +kernel) ?_
  refine R.icmp_ne 64 18 dX1_takeNow_15 (by decide) rfl (fun hc => ?_) (fun hc => ?_)
  · replace h := h.1 hc
    exact Rch.dropk (s_X1_takeNow_64 Q _ _ _ h) ⟨rfl, ⟨rfl, ⟨rfl, trivial⟩⟩⟩
  · replace h := h.2 hc
    refine R.iconst 19 dX1_takeNow_18 rfl ?_
    refine R.ist3n 20 dX1_takeNow_19 rfl (Nat.le_of_ble_eq_true rfl) rfl ?_
    obtain ⟨n3, h⟩ := h
    exact Rch.dropk (sl_X1_takeNow_20 Q _ _ n3 _ _ h) ⟨rfl, ⟨rfl, ⟨rfl, ⟨rfl, trivial⟩⟩⟩⟩
