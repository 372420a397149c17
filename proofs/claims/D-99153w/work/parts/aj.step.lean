/-! a step of a plan, read on both sides -/
def fW (o : Int) (w w' : Wd) : Prop := (∀ k, k ≠ 13 → gI w' k = gI w k) ∧ (∀ a, a ≠ 24 → gA w' a = gA w a) ∧ (∀ t, t < o ∨ o + 4 ≤ t → gA w' 24 t = gA w 24 t) ∧ gJ w' = gJ w ∧ gL w' = gL w ∧ gC w' = gC w ∧ gF w' = gF w ∧ gZ w' = gZ w
def fV (o : Int) (w w' : Wd) : Prop := (∀ k, k ≠ 70 → k ≠ 71 → gI w' k = gI w k) ∧ (∀ a, a ≠ 83 → gA w' a = gA w a) ∧ (∀ t, t < o ∨ o + 4 ≤ t → gA w' 83 t = gA w 83 t) ∧ gJ w' = gJ w ∧ gL w' = gL w ∧ gC w' = gC w ∧ gF w' = gF w ∧ gZ w' = gZ w
section SP
variable {t : Int → Int} {n p d o : Int} {w w' w'' : Wd}
theorem fW.refl (w : Wd) : fW o w w := ⟨fun _ _ => rfl, fun _ _ => rfl, fun _ _ => rfl, rfl, rfl, rfl, rfl, rfl⟩
theorem fW.i13 (f : fW o w w') (v : Int32) : fW o w (sI w' 13 v) := by
  obtain ⟨f1, f2, f3, f4⟩ := f
  exact ⟨fun k a => by rw [gI_sI, if_neg a]; exact f1 k a, f2, f3, f4⟩
theorem fW.set (f : fW o w w') {i : Int} (h : o ≤ i ∧ i < o + 4) (v : Int32) : fW o w (sA w' 24 i v) := by
  obtain ⟨f1, f2, f3, f4⟩ := f
  refine ⟨f1, fun a ha => ?_, fun t ht => ?_, f4⟩
  · rw [sA_sB, gA_n _ ha]
    exact f2 a ha
  · rw [gA_sA, if_pos rfl, if_neg (by omega)]
    exact f3 t ht
theorem fV.refl (w : Wd) : fV o w w := ⟨fun _ _ _ => rfl, fun _ _ => rfl, fun _ _ => rfl, rfl, rfl, rfl, rfl, rfl⟩
theorem fV.i70 (f : fV o w w') (v : Int32) : fV o w (sI w' 70 v) := by
  obtain ⟨f1, f2, f3, f4⟩ := f
  exact ⟨fun k a b => by rw [gI_sI, if_neg a]; exact f1 k a b, f2, f3, f4⟩
theorem fV.i71 (f : fV o w w') (v : Int32) : fV o w (sI w' 71 v) := by
  obtain ⟨f1, f2, f3, f4⟩ := f
  exact ⟨fun k a b => by rw [gI_sI, if_neg b]; exact f1 k a b, f2, f3, f4⟩
theorem fV.set (f : fV o w w') {i : Int} (h : o ≤ i ∧ i < o + 4) (v : Int32) : fV o w (sA w' 83 i v) := by
  obtain ⟨f1, f2, f3, f4⟩ := f
  refine ⟨f1, fun a ha => ?_, fun t ht => ?_, f4⟩
  · rw [sA_sB, gA_n _ ha]
    exact f2 a ha
  · rw [gA_sA, if_pos rfl, if_neg (by omega)]
    exact f3 t ht
theorem PX.set (S : PX t n p w) {a : Nat} (ha : a ≠ 11) (i : Int) (v : Int32) : PX t n p (sA w a i v) := by
  refine ⟨⟨S.1.1, fun j j1 j2 => ?_⟩, S.2⟩
  rw [sA_sB, gA_n _ (Ne.symm ha)]
  exact S.1.2 j j1 j2
theorem MS0.set (S : MS0 t n p d w) {a : Nat} (h1 : a ≠ 61) (h2 : a ≠ 62) (i : Int) (v : Int32) : MS0 t n p d (sA w a i v) := by
  obtain ⟨s1, ⟨b0, s2, s3, s4, s5, s6⟩, s7, s8, s9⟩ := S
  refine ⟨s1, ⟨b0, s2, s3, s4, s5, fun j j1 j2 => ?_⟩, s7, s8, s9⟩
  show gA (sA w a i v) (gT w) (b0 + j) = _
  rw [sA_sB, gA_n _ (by rcases s4 with ⟨e, _⟩ | e <;> rw [e] <;> omega)]
  exact s6 j j1 j2
theorem g24 (w : Wd) (a : Nat) (i j : Int) (v : Int32) : gA (sA w a i v) a j = if j = i then v else gA w a j := by rw [gA_sA, if_pos rfl]
def vf (a b c d : Int) : Int → Int := fun i => if i = 0 then a else if i = 1 then b else if i = 2 then c else d
theorem vf_ok {a b c d : Int} (h : 0 ≤ a ∧ a ≤ 4 ∧ 0 ≤ b ∧ b ≤ 99 ∧ (a ≤ 3 → b ≤ 9) ∧ -1 ≤ c ∧ c ≤ 9 ∧ -1 ≤ d ∧ d ≤ 1 ∧ (a = 0 → 0 ≤ c ∧ 0 ≤ d)) : stepOK (vf a b c d) 0 := h
theorem bo_step (B : TB t n) (h0 : 0 ≤ p) (h1 : p ≤ n) :
    (∃ pf, p ≤ pf ∧ pf ≤ n ∧ (∀ (o : Int) (w : Wd) (Q : Wd → Prop) (X : Wd → Prop), 0 ≤ o → o ≤ 316 → PX t n p w → (∀ w', fW o w w' → gI w' 13 = iz pf → X w') → wp_X1_stepRead (iz o) w Q X) ∧ (∀ (o d : Int) (w : Wd) (Q : Wd → Prop), 0 ≤ o → o ≤ 316 → MS0 t n p d w → (∀ w', fV o w w' → gI w' 71 = iz pf → Q w') → wp_X3_readStep (iz o) w Q)) ∨
    (∃ (p' : Int) (v : Int → Int), p < p' ∧ p' ≤ n ∧ stepOK v 0 ∧ (∀ (o : Int) (w : Wd) (Q : Wd → Prop) (X : Wd → Prop), 0 ≤ o → o ≤ 316 → PX t n p w → (∀ w', fW o w w' → PX t n p' w' → gA w' 24 o = iz (v 0) → gA w' 24 (o + 1) = iz (v 1) → gA w' 24 (o + 2) = iz (v 2) → gA w' 24 (o + 3) = iz (v 3) → Q w') → wp_X1_stepRead (iz o) w Q X) ∧ (∀ (o d : Int) (w : Wd) (Q : Wd → Prop), 0 ≤ o → o ≤ 316 → MS0 t n p d w → (∀ w', fV o w w' → MS0 t n p' d w' → gA w' 83 o = iz (v 0) → gA w' 83 (o + 1) = iz (v 1) → gA w' 83 (o + 2) = iz (v 2) → gA w' 83 (o + 3) = iz (v 3) → Q w') → wp_X3_readStep (iz o) w Q)) := by
  have b1 := B.1; have b2 := B.2.1
  obtain ⟨k1, k2⟩ := sk_bd t h1
  generalize hp : sk t n p = p1 at k1 k2
  have cb := lkc_bd (t := t) (n := n) p1
  generalize hc : lkc t n p1 = c at cb
  generalize ha : sIx 5 c = a
  have ab : -1 ≤ a ∧ a < 5 := by
    have h := pIx_lt (sTx.getD 5 []) c 0 (by decide)
    have e : pIx (sTx.getD 5 []) c 0 = a := ha
    have l : (sTx.getD 5 []).length = 5 := by decide
    rw [e, l] at h
    omega
  by_cases an : a = -1
  · subst an
    refine Or.inl ⟨p1, k1, k2, fun o w Q X o0 o1 S x => ?_, fun o d w Q o0 o1 S x => ?_⟩
    · have S1 := S.at p1
      have no : ∀ v, b_X1_stepRead_33 Q X (iz o) v (iz 0) (sI w 13 (iz p1)) := fun v => by
        unfold b_X1_stepRead_33
        exact u0 (x _ ((fW.refl w).i13 _) S1.2)
      unfold wp_X1_stepRead
      refine p_look B S h0 h1 hp hc ⟨fun _ => p_there B S1 (by omega) k2 ⟨by decide, ?_⟩, fun _ => ⟨fun _ => no _, fun e => absurd (show iz (-1) < iz 0 by decide) e⟩⟩
      rw [hc]
      refine s_indexOf (by decide) (by omega) (by omega) ?_
      rw [ha]
      exact ⟨fun _ => no _, fun e => absurd (show iz (-1) < iz 0 by decide) e⟩
    · have S1 := S.at p1
      unfold wp_X3_readStep
      refine m_look' B S h0 h1 hp hc (m_spotOf (by decide) (by constructor <;> omega) ?_)
      rw [ha]
      refine ⟨fun e => absurd rfl e, fun _ => m_fails S1.2.2.2.2 ?_⟩
      rw [S1.2.2.1]
      refine x _ (((fV.refl w).i70 _).i71 _) ?_
      rw [gI_sI, if_pos rfl]
  · have a0 : 0 ≤ a := by omega
    have c0 : c ≠ -1 := fun e => by
      rw [e] at ha
      rw [← ha] at a0
      exact absurd a0 (by decide)
    have pin := lkc_in hc (by omega)
    have hx1 : ∀ (o : Int) (w : Wd) (Q : Wd → Prop) (X : Wd → Prop), 0 ≤ o → o ≤ 316 → PX t n p w → (∀ w1, fW o w w1 → PX t n (p1 + 1) w1 → gA w1 24 o = iz a → wp_X1_digit (iz 9) w1 (fun r5 w6 => inb (iz o + iz 1) 320 ∧ (∀ w7, w7 = sA w6 24 (iz o + iz 1).toInt r5 → (iz a ≤ iz 3 → b_X1_stepRead_98 Q X (iz o) (iz a) w7) ∧ (¬ iz a ≤ iz 3 → inb (iz o + iz 1) 320 ∧ wp_X1_digit (iz 9) w7 (fun r8 w9 => inb (iz o + iz 1) 320 ∧ (∀ w10, w10 = sA w9 24 (iz o + iz 1).toInt (((iz 10) * (gA w7 24 (iz o + iz 1).toInt)) + r8) → b_X1_stepRead_98 Q X (iz o) (iz a) w10)) X))) X) → wp_X1_stepRead (iz o) w Q X := by
      intro o w Q X o0 o1 S x
      have S1 := S.at p1
      unfold wp_X1_stepRead
      refine p_look B S h0 h1 hp hc ⟨fun _ => p_there B S1 (by omega) k2 ⟨by decide, ?_⟩, fun e => absurd ((iz_eq (by omega) (by omega) (by decide) (by decide)).mp e) c0⟩
      rw [hc]
      refine s_indexOf (by decide) (by omega) (by omega) ?_
      rw [ha]
      refine br (iz_lt (by omega) (by omega) (by decide) (by decide)) (fun e => by omega) (fun _ => ?_)
      unfold b_X1_stepRead_33
      refine u1 ?_
      rintro w3 rfl
      rw [S1.2, iz_add, sI_sI]
      refine ⟨iz_inb o0 (by omega) (by omega), ?_⟩
      rintro w4 rfl
      rw [iz_toInt (a := o) (by omega) (by omega)]
      refine x _ (((fW.refl w).i13 _).set ⟨by omega, by omega⟩ _) ((S.at (p1 + 1)).set (by decide) _ _) ?_
      rw [g24, if_pos rfl]
    have hm1 : ∀ (o d : Int) (w : Wd) (Q : Wd → Prop), 0 ≤ o → o ≤ 316 → MS0 t n p d w → (∀ w1, fV o w w1 → MS0 t n (p1 + 1) d w1 → gA w1 83 o = iz a → wp_X3_digit (iz 9) w1 (fun r7 w8 => ∀ w11, w11 = sA (sA (sA w8 83 (o + 1) r7) 83 (o + 2) (iz (-1))) 83 (o + 3) (iz (-1)) → ((gI w11 71) = (iz (-1)) → (¬ iz a = (iz 4) → b_X3_readStep_111 Q (iz o) (iz a) w11) ∧ (iz a = (iz 4) → inb (iz o + iz 1) 320 ∧ wp_X3_digit (iz 9) w11 (fun r12 w13 => inb (iz o + iz 1) 320 ∧ (∀ w14, w14 = sA w13 83 (iz o + iz 1).toInt (((iz 10) * (gA w11 83 (iz o + iz 1).toInt)) + r12) → b_X3_readStep_111 Q (iz o) (iz a) w14)))) ∧ (¬ (gI w11 71) = (iz (-1)) → Q w11))) → wp_X3_readStep (iz o) w Q := by
      intro o d w Q o0 o1 S x
      have S1 := S.at p1
      unfold wp_X3_readStep
      refine m_look' B S h0 h1 hp hc (m_spotOf (by decide) (by constructor <;> omega) ?_)
      rw [ha]
      refine brn (iz_eq (by omega) (by omega) (by decide) (by decide)) (fun _ => ?_) (fun e => absurd e an)
      rintro w5 rfl
      rw [S1.2.2.1, iz_add, sI_sI]
      refine ⟨iz_inb o0 (by omega) (by omega), ?_⟩
      rintro w6 rfl
      rw [iz_toInt (a := o) (by omega) (by omega)]
      have x := x _ (((fV.refl w).i70 (iz (p1 + 1))).set (i := o) ⟨by omega, by omega⟩ (iz a)) ((S.at (p1 + 1)).set (by decide) (by decide) o (iz a)) (by rw [g24, if_pos rfl])
      have hh : (fun (r7 : Int32) (w8 : Wd) => inb (iz o + iz 1) 320 ∧ (∀ w9, w9 = sA w8 83 (iz o + iz 1).toInt r7 → inb (iz o + iz 2) 320 ∧ (∀ w10, w10 = sA w9 83 (iz o + iz 2).toInt (iz (-1)) → inb (iz o + iz 3) 320 ∧ (∀ w11, w11 = sA w10 83 (iz o + iz 3).toInt (iz (-1)) → ((gI w11 71) = (iz (-1)) → (¬ iz a = (iz 4) → b_X3_readStep_111 Q (iz o) (iz a) w11) ∧ (iz a = (iz 4) → inb (iz o + iz 1) 320 ∧ wp_X3_digit (iz 9) w11 (fun r12 w13 => inb (iz o + iz 1) 320 ∧ (∀ w14, w14 = sA w13 83 (iz o + iz 1).toInt (((iz 10) * (gA w11 83 (iz o + iz 1).toInt)) + r12) → b_X3_readStep_111 Q (iz o) (iz a) w14)))) ∧ (¬ (gI w11 71) = (iz (-1)) → Q w11))))) = (fun r7 w8 => ∀ w11, w11 = sA (sA (sA w8 83 (o + 1) r7) 83 (o + 2) (iz (-1))) 83 (o + 3) (iz (-1)) → ((gI w11 71) = (iz (-1)) → (¬ iz a = (iz 4) → b_X3_readStep_111 Q (iz o) (iz a) w11) ∧ (iz a = (iz 4) → inb (iz o + iz 1) 320 ∧ wp_X3_digit (iz 9) w11 (fun r12 w13 => inb (iz o + iz 1) 320 ∧ (∀ w14, w14 = sA w13 83 (iz o + iz 1).toInt (((iz 10) * (gA w11 83 (iz o + iz 1).toInt)) + r12) → b_X3_readStep_111 Q (iz o) (iz a) w14)))) ∧ (¬ (gI w11 71) = (iz (-1)) → Q w11)) := by
        funext r7 w8
        have e1 : (iz o + iz 1).toInt = o + 1 := by rw [iz_add, iz_toInt (by omega) (by omega)]
        have e2 : (iz o + iz 2).toInt = o + 2 := by rw [iz_add, iz_toInt (by omega) (by omega)]
        have e3 : (iz o + iz 3).toInt = o + 3 := by rw [iz_add, iz_toInt (by omega) (by omega)]
        have i1 : inb (iz o + iz 1) 320 := by rw [iz_add]; exact iz_inb (by omega) (by omega) (by omega)
        have i2 : inb (iz o + iz 2) 320 := by rw [iz_add]; exact iz_inb (by omega) (by omega) (by omega)
        have i3 : inb (iz o + iz 3) 320 := by rw [iz_add]; exact iz_inb (by omega) (by omega) (by omega)
        refine propext ⟨fun H w11 hw => (((H.2 _ rfl).2 _ rfl).2 w11 (by rw [hw, e1, e2, e3])), fun H => ⟨i1, ?_⟩⟩
        rintro w9 rfl
        refine ⟨i2, ?_⟩
        rintro w10 rfl
        refine ⟨i3, fun w11 hw => H w11 (by rw [hw, e1, e2, e3])⟩
      rw [hh]
      exact x
    have e1 : ∀ o : Int, 0 ≤ o → o ≤ 316 → (iz o + iz 1).toInt = o + 1 ∧ (iz o + iz 2).toInt = o + 2 ∧ (iz o + iz 3).toInt = o + 3 ∧ inb (iz o + iz 1) 320 ∧ inb (iz o + iz 2) 320 ∧ inb (iz o + iz 3) 320 := fun o o0 o1 => by
      rw [iz_add, iz_add, iz_add, iz_toInt (by omega) (by omega), iz_toInt (by omega) (by omega), iz_toInt (by omega) (by omega)]
      exact ⟨rfl, rfl, rfl, iz_inb (by omega) (by omega) (by omega), iz_inb (by omega) (by omega) (by omega), iz_inb (by omega) (by omega) (by omega)⟩
    rcases bo_digit B (show 0 ≤ p1 + 1 by omega) (by omega) (m := 9) (by decide) (by decide) with ⟨pf, q1, q2, qx, qm⟩ | ⟨p2, v1, q1, q2, v10, v19, qx, qm⟩
    · refine Or.inl ⟨pf, by omega, q2, fun o w Q X o0 o1 S x => hx1 o w Q X o0 o1 S (fun w1 f1 S1 ea => qx w1 _ X S1 (x _ (f1.i13 _) (by rw [gI_sI, if_pos rfl]))), fun o d w Q o0 o1 S x => hm1 o d w Q o0 o1 S (fun w1 f1 S1 ea => qm d w1 _ S1 ?_)⟩
      rintro w11 rfl
      have e71 : gI (sA (sA (sA (sI (sI w1 70 (iz pf)) 71 (iz pf)) 83 (o + 1) (iz 0)) 83 (o + 2) (iz (-1))) 83 (o + 3) (iz (-1))) 71 = iz pf := by
        show gI (sI (sI w1 70 (iz pf)) 71 (iz pf)) 71 = _
        rw [gI_sI, if_pos rfl]
      rw [e71]
      exact br (iz_eq (by omega) (by omega) (by decide) (by decide)) (fun e => by omega) (fun _ => x _ (((((f1.i70 _).i71 _).set ⟨by omega, by omega⟩ _).set ⟨by omega, by omega⟩ _).set ⟨by omega, by omega⟩ _) e71)
    · have hx2 : ∀ (o : Int) (w : Wd) (Q : Wd → Prop) (X : Wd → Prop), 0 ≤ o → o ≤ 316 → PX t n p w → (∀ w7, fW o w w7 → PX t n p2 w7 → gA w7 24 o = iz a → gA w7 24 (o + 1) = iz v1 → (a ≤ 3 → b_X1_stepRead_98 Q X (iz o) (iz a) w7) ∧ (¬ a ≤ 3 → wp_X1_digit (iz 9) w7 (fun r8 w9 => b_X1_stepRead_98 Q X (iz o) (iz a) (sA w9 24 (o + 1) (((iz 10) * iz v1) + r8))) X)) → wp_X1_stepRead (iz o) w Q X := by
        intro o w Q X o0 o1 S x
        obtain ⟨t1', t2', t3', i1, i2, i3⟩ := e1 o o0 o1
        refine hx1 o w Q X o0 o1 S (fun w1 f1 S1 ea => qx w1 _ X S1 ⟨i1, ?_⟩)
        rintro w7 rfl
        rw [t1']
        obtain ⟨x1, x2⟩ := x _ ((f1.i13 (iz p2)).set (i := o + 1) ⟨by omega, by omega⟩ (iz v1)) ((S1.at p2).set (by decide) _ _) (by rw [g24, if_neg (by omega)]; exact ea) (by rw [g24, if_pos rfl])
        refine br (iz_le (by omega) (by omega) (by decide) (by decide)) x1 (fun e => ⟨i1, ?_⟩)
        have hh : (fun (r8 : Int32) (w9 : Wd) => inb (iz o + iz 1) 320 ∧ ∀ w10, w10 = sA w9 24 (o + 1) (((iz 10) * (gA (sA (sI w1 13 (iz p2)) 24 (o + 1) (iz v1)) 24 (o + 1))) + r8) → b_X1_stepRead_98 Q X (iz o) (iz a) w10) = (fun r8 w9 => b_X1_stepRead_98 Q X (iz o) (iz a) (sA w9 24 (o + 1) (((iz 10) * iz v1) + r8))) := by
          funext r8 w9
          rw [g24, if_pos rfl]
          exact propext ⟨fun H => H.2 _ rfl, fun H => ⟨i1, fun w10 hw => by rw [hw]; exact H⟩⟩
        rw [hh]
        exact x2 e
      have hm2 : ∀ (o d : Int) (w : Wd) (Q : Wd → Prop), 0 ≤ o → o ≤ 316 → MS0 t n p d w → (∀ w7, fV o w w7 → MS0 t n p2 d w7 → gA w7 83 o = iz a → gA w7 83 (o + 1) = iz v1 → gA w7 83 (o + 2) = iz (-1) → gA w7 83 (o + 3) = iz (-1) → (a ≠ 4 → b_X3_readStep_111 Q (iz o) (iz a) w7) ∧ (a = 4 → wp_X3_digit (iz 9) w7 (fun r8 w9 => b_X3_readStep_111 Q (iz o) (iz a) (sA w9 83 (o + 1) (((iz 10) * iz v1) + r8))))) → wp_X3_readStep (iz o) w Q := by
        intro o d w Q o0 o1 S x
        obtain ⟨t1', t2', t3', i1, i2, i3⟩ := e1 o o0 o1
        refine hm1 o d w Q o0 o1 S (fun w1 f1 S1 ea => qm d w1 _ S1 ?_)
        rintro w11 rfl
        rw [t1']
        obtain ⟨x1, x2⟩ := x _ ((((f1.i70 (iz p2)).set (i := o + 1) ⟨by omega, by omega⟩ (iz v1)).set (i := o + 2) ⟨by omega, by omega⟩ (iz (-1))).set (i := o + 3) ⟨by omega, by omega⟩ (iz (-1))) ((((S1.at p2).set (by decide) (by decide) (o + 1) (iz v1)).set (by decide) (by decide) (o + 2) (iz (-1))).set (by decide) (by decide) (o + 3) (iz (-1))) (by rw [g24, if_neg (by omega), g24, if_neg (by omega), g24, if_neg (by omega)]; exact ea) (by rw [g24, if_neg (by omega), g24, if_neg (by omega), g24, if_pos rfl]) (by rw [g24, if_neg (by omega), g24, if_pos rfl]) (by rw [g24, if_pos rfl])
        have e71 : gI (sA (sA (sA (sI w1 70 (iz p2)) 83 (o + 1) (iz v1)) 83 (o + 2) (iz (-1))) 83 (o + 3) (iz (-1))) 71 = iz (-1) := (S1.at p2).2.2.2.2
        rw [e71]
        refine ⟨fun _ => brn (iz_eq (by omega) (by omega) (by decide) (by decide)) x1 (fun e => ⟨i1, ?_⟩), fun e => absurd rfl e⟩
        have hh : (fun (r8 : Int32) (w9 : Wd) => inb (iz o + iz 1) 320 ∧ ∀ w10, w10 = sA w9 83 (o + 1) (((iz 10) * (gA (sA (sA (sA (sI w1 70 (iz p2)) 83 (o + 1) (iz v1)) 83 (o + 2) (iz (-1))) 83 (o + 3) (iz (-1))) 83 (o + 1))) + r8) → b_X3_readStep_111 Q (iz o) (iz a) w10) = (fun r8 w9 => b_X3_readStep_111 Q (iz o) (iz a) (sA w9 83 (o + 1) (((iz 10) * iz v1) + r8))) := by
          funext r8 w9
          rw [g24, if_neg (by omega), g24, if_neg (by omega), g24, if_pos rfl]
          exact propext ⟨fun H => H.2 _ rfl, fun H => ⟨i1, fun w10 hw => by rw [hw]; exact H⟩⟩
        rw [hh]
        exact x2 e
      by_cases z0 : a = 0
      · subst z0
        rcases bo_digit B (show 0 ≤ p2 by omega) q2 (m := 9) (by decide) (by decide) with ⟨pf, j1, j2, jx, jm⟩ | ⟨p3, v2, j1, j2, v20, v29, jx, jm⟩
        · refine Or.inl ⟨pf, by omega, j2, fun o w Q X o0 o1 S x => hx2 o w Q X o0 o1 S (fun w7 f7 S7 _ _ => ⟨fun _ => ⟨fun e => absurd rfl e, fun _ => jx w7 _ X S7 (x _ (f7.i13 _) (by rw [gI_sI, if_pos rfl]))⟩, fun e => absurd (by decide) e⟩), fun o d w Q o0 o1 S x => hm2 o d w Q o0 o1 S (fun w7 f7 S7 _ _ _ _ => ⟨fun _ => ⟨fun _ => jm d w7 _ S7 ?_, fun e => absurd rfl e⟩, fun e => absurd e (by decide)⟩)⟩
          obtain ⟨t1', t2', t3', i1, i2, i3⟩ := e1 o o0 o1
          refine ⟨i2, ?_⟩
          rintro w3 rfl
          rw [t2']
          have e71 : gI (sA (sI (sI w7 70 (iz pf)) 71 (iz pf)) 83 (o + 2) (iz 0)) 71 = iz pf := by
            show gI (sI (sI w7 70 (iz pf)) 71 (iz pf)) 71 = _
            rw [gI_sI, if_pos rfl]
          rw [e71]
          exact brn (iz_eq (by omega) (by omega) (by decide) (by decide)) (fun _ => x _ (((f7.i70 _).i71 _).set ⟨by omega, by omega⟩ _) e71) (fun e => by omega)
        · rcases bo_digit B (show 0 ≤ p3 by omega) j2 (m := 1) (by decide) (by decide) with ⟨pf, l1, l2, lx, lm⟩ | ⟨p4, v3, l1, l2, v30, v39, lx, lm⟩
          · refine Or.inl ⟨pf, by omega, l2, fun o w Q X o0 o1 S x => hx2 o w Q X o0 o1 S (fun w7 f7 S7 _ _ => ⟨fun _ => ⟨fun e => absurd rfl e, fun _ => jx w7 _ X S7 ?_⟩, fun e => absurd (by decide) e⟩), fun o d w Q o0 o1 S x => hm2 o d w Q o0 o1 S (fun w7 f7 S7 _ _ _ _ => ⟨fun _ => ⟨fun _ => jm d w7 _ S7 ?_, fun e => absurd rfl e⟩, fun e => absurd e (by decide)⟩)⟩
            · obtain ⟨t1', t2', t3', i1, i2, i3⟩ := e1 o o0 o1
              refine ⟨i2, ?_⟩
              rintro w3 rfl
              rw [t2']
              exact ⟨fun e => absurd rfl e, fun _ => lx _ _ X ((S7.at p3).set (by decide) _ _) (x _ (((f7.i13 _).set ⟨by omega, by omega⟩ _).i13 _) (by rw [gI_sI, if_pos rfl]))⟩
            · obtain ⟨t1', t2', t3', i1, i2, i3⟩ := e1 o o0 o1
              refine ⟨i2, ?_⟩
              rintro w3 rfl
              rw [t2']
              have S8 := (S7.at p3).set (a := 83) (by decide) (by decide) (o + 2) (iz v2)
              rw [S8.2.2.2.2]
              refine ⟨fun e => absurd rfl e, fun _ => lm d _ _ S8 ⟨i3, ?_⟩⟩
              rintro w6 rfl
              rw [t3']
              refine x _ (((((f7.i70 _).set ⟨by omega, by omega⟩ _).i70 _).i71 _).set ⟨by omega, by omega⟩ _) ?_
              show gI (sI (sI (sA (sI w7 70 (iz p3)) 83 (o + 2) (iz v2)) 70 (iz pf)) 71 (iz pf)) 71 = _
              rw [gI_sI, if_pos rfl]
          · refine Or.inr ⟨p4, vf 0 v1 v2 v3, by omega, l2, vf_ok ⟨by omega, by omega, by omega, by omega, fun _ => v19, by omega, by omega, by omega, by omega, fun _ => ⟨v20, v30⟩⟩, fun o w Q X o0 o1 S x => hx2 o w Q X o0 o1 S (fun w7 f7 S7 ea eb => ⟨fun _ => ⟨fun e => absurd rfl e, fun _ => jx w7 _ X S7 ?_⟩, fun e => absurd (by decide) e⟩), fun o d w Q o0 o1 S x => hm2 o d w Q o0 o1 S (fun w7 f7 S7 ea eb _ _ => ⟨fun _ => ⟨fun _ => jm d w7 _ S7 ?_, fun e => absurd rfl e⟩, fun e => absurd e (by decide)⟩)⟩
            · obtain ⟨t1', t2', t3', i1, i2, i3⟩ := e1 o o0 o1
              refine ⟨i2, ?_⟩
              rintro w3 rfl
              rw [t2']
              refine ⟨fun e => absurd rfl e, fun _ => lx _ _ X ((S7.at p3).set (by decide) _ _) ⟨i3, ?_⟩⟩
              rintro w5 rfl
              rw [t3']
              refine x _ ((((f7.i13 _).set ⟨by omega, by omega⟩ _).i13 _).set ⟨by omega, by omega⟩ _) ((((S7.at p3).set (by decide) _ _).at p4).set (by decide) _ _) ?_ ?_ ?_ ?_
              · rw [g24, if_neg (by omega)]
                show gA (sA (sI w7 13 (iz p3)) 24 (o + 2) (iz v2)) 24 o = _
                rw [g24, if_neg (by omega)]
                exact ea
              · rw [g24, if_neg (by omega)]
                show gA (sA (sI w7 13 (iz p3)) 24 (o + 2) (iz v2)) 24 (o + 1) = _
                rw [g24, if_neg (by omega)]
                exact eb
              · rw [g24, if_neg (by omega)]
                show gA (sA (sI w7 13 (iz p3)) 24 (o + 2) (iz v2)) 24 (o + 2) = _
                rw [g24, if_pos rfl]
                rfl
              · rw [g24, if_pos rfl]
                rfl
            · obtain ⟨t1', t2', t3', i1, i2, i3⟩ := e1 o o0 o1
              refine ⟨i2, ?_⟩
              rintro w3 rfl
              rw [t2']
              have S8 := (S7.at p3).set (a := 83) (by decide) (by decide) (o + 2) (iz v2)
              rw [S8.2.2.2.2]
              refine ⟨fun e => absurd rfl e, fun _ => lm d _ _ S8 ⟨i3, ?_⟩⟩
              rintro w6 rfl
              rw [t3']
              refine x _ ((((f7.i70 _).set ⟨by omega, by omega⟩ _).i70 _).set ⟨by omega, by omega⟩ _) ((S8.at p4).set (by decide) (by decide) _ _) ?_ ?_ ?_ ?_
              · rw [g24, if_neg (by omega)]
                show gA (sA (sI w7 70 (iz p3)) 83 (o + 2) (iz v2)) 83 o = _
                rw [g24, if_neg (by omega)]
                exact ea
              · rw [g24, if_neg (by omega)]
                show gA (sA (sI w7 70 (iz p3)) 83 (o + 2) (iz v2)) 83 (o + 1) = _
                rw [g24, if_neg (by omega)]
                exact eb
              · rw [g24, if_neg (by omega)]
                show gA (sA (sI w7 70 (iz p3)) 83 (o + 2) (iz v2)) 83 (o + 2) = _
                rw [g24, if_pos rfl]
                rfl
              · rw [g24, if_pos rfl]
                rfl
      · have nz : ¬ iz a = iz 0 := fun e => z0 ((iz_eq (by omega) (by omega) (by decide) (by decide)).mp e)
        have fin : ∀ (o b p' : Int) (w w7 : Wd) (Q : Wd → Prop) (X : Wd → Prop), 0 ≤ o → o ≤ 316 → fW o w w7 → PX t n p' w7 → gA w7 24 o = iz a → gA w7 24 (o + 1) = iz b → (∀ w', fW o w w' → PX t n p' w' → gA w' 24 o = iz a → gA w' 24 (o + 1) = iz b → gA w' 24 (o + 2) = iz (-1) → gA w' 24 (o + 3) = iz (-1) → Q w') → b_X1_stepRead_98 Q X (iz o) (iz a) w7 := by
          intro o b p' w w7 Q X o0 o1 f7 S7 ea eb x
          obtain ⟨t1', t2', t3', i1, i2, i3⟩ := e1 o o0 o1
          refine ⟨fun _ => ⟨i2, ?_⟩, fun e => absurd e nz⟩
          rintro w1 rfl
          refine ⟨fun _ => ⟨i3, ?_⟩, fun e => absurd e nz⟩
          rintro w2 rfl
          rw [t2', t3']
          refine x _ ((f7.set ⟨by omega, by omega⟩ _).set ⟨by omega, by omega⟩ _) ((S7.set (by decide) _ _).set (by decide) _ _) ?_ ?_ ?_ ?_
          · rw [g24, if_neg (by omega), g24, if_neg (by omega)]
            exact ea
          · rw [g24, if_neg (by omega), g24, if_neg (by omega)]
            exact eb
          · rw [g24, if_neg (by omega), g24, if_pos rfl]
          · rw [g24, if_pos rfl]
        by_cases a4 : a = 4
        · rcases bo_digit B (show 0 ≤ p2 by omega) q2 (m := 9) (by decide) (by decide) with ⟨pf, j1, j2, jx, jm⟩ | ⟨p3, v2, j1, j2, v20, v29, jx, jm⟩
          · refine Or.inl ⟨pf, by omega, j2, fun o w Q X o0 o1 S x => hx2 o w Q X o0 o1 S (fun w7 f7 S7 _ _ => ⟨fun e => by omega, fun _ => jx w7 _ X S7 (x _ (f7.i13 _) (by rw [gI_sI, if_pos rfl]))⟩), fun o d w Q o0 o1 S x => hm2 o d w Q o0 o1 S (fun w7 f7 S7 _ _ _ _ => ⟨fun e => absurd a4 e, fun _ => jm d w7 _ S7 ⟨fun e => absurd e nz, fun _ => x _ (((f7.i70 _).i71 _).set ⟨by omega, by omega⟩ _) ?_⟩⟩)⟩
            show gI (sI (sI w7 70 (iz pf)) 71 (iz pf)) 71 = _
            rw [gI_sI, if_pos rfl]
          · refine Or.inr ⟨p3, vf a (10 * v1 + v2) (-1) (-1), by omega, j2, vf_ok ⟨a0, by omega, by omega, by omega, fun e => by omega, by omega, by omega, by omega, by omega, fun e => absurd e z0⟩, fun o w Q X o0 o1 S x => hx2 o w Q X o0 o1 S (fun w7 f7 S7 ea eb => ⟨fun e => by omega, fun _ => jx w7 _ X S7 ?_⟩), fun o d w Q o0 o1 S x => hm2 o d w Q o0 o1 S (fun w7 f7 S7 ea eb ec ed => ⟨fun e => absurd a4 e, fun _ => jm d w7 _ S7 ⟨fun e => absurd e nz, fun _ => ?_⟩⟩)⟩
            · rw [iz_mul, iz_add]
              refine fin o (10 * v1 + v2) p3 w _ Q X o0 o1 ((f7.i13 _).set ⟨by omega, by omega⟩ _) ((S7.at p3).set (by decide) _ _) ?_ ?_ x
              · rw [g24, if_neg (by omega)]
                exact ea
              · rw [g24, if_pos rfl]
            · rw [iz_mul, iz_add]
              refine x _ ((f7.i70 _).set ⟨by omega, by omega⟩ _) ((S7.at p3).set (by decide) (by decide) _ _) ?_ ?_ ?_ ?_
              · rw [g24, if_neg (by omega)]
                exact ea
              · rw [g24, if_pos rfl]
                rfl
              · rw [g24, if_neg (by omega)]
                exact ec
              · rw [g24, if_neg (by omega)]
                exact ed
        · refine Or.inr ⟨p2, vf a v1 (-1) (-1), by omega, q2, vf_ok ⟨a0, by omega, by omega, by omega, fun e => v19, by omega, by omega, by omega, by omega, fun e => absurd e z0⟩, fun o w Q X o0 o1 S x => hx2 o w Q X o0 o1 S (fun w7 f7 S7 ea eb => ⟨fun _ => fin o v1 p2 w w7 Q X o0 o1 f7 S7 ea eb x, fun e => by omega⟩), fun o d w Q o0 o1 S x => hm2 o d w Q o0 o1 S (fun w7 f7 S7 ea eb ec ed => ⟨fun _ => ⟨fun e => absurd e nz, fun _ => x w7 f7 S7 ea eb ec ed⟩, fun e => absurd e a4⟩)⟩
end SP
