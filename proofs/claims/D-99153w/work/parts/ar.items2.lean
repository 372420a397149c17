/-! the items' loop -/
theorem lo_item {t : Int → Int} {n l : Int} (B : TB t n) (h : KdI l) : ∀ (m : Nat) (mask : Int32) (p : Int), (n - p).toNat ≤ m → 0 ≤ p → p ≤ n → LoI t n l m mask p := by
  have b1 := B.1; have b2 := B.2.1
  have st : stI l < 6 := by rcases h with rfl | rfl | rfl <;> decide
  intro m
  induction m with
  | zero =>
    intro mask p hm h0 h1
    refine lo_itemN B h 0 mask h0 h1 ?_
    rcases sIx_I h (lkc t n (sk t n p)) with e | ⟨e1, e2, e3, e4⟩
    · exact e
    · have cb := lkc_bd (t := t) (n := n) (sk t n p)
      have := lkc_in (t := t) (n := n) (p := sk t n p) rfl (by omega)
      have := (sk_bd t h1).1
      omega
  | succ m ih =>
    intro mask p hm h0 h1
    rcases sIx_I h (lkc t n (sk t n p)) with e | ⟨i0, i1, c59, c1⟩
    · exact lo_itemN B h _ mask h0 h1 e
    obtain ⟨k1, k2⟩ := sk_bd t h1
    have hs := sk_sk t n p
    generalize hp : sk t n p = p1 at k1 k2 i0 i1 c59 c1 hs
    have cb := lkc_bd (t := t) (n := n) p1
    generalize hc : lkc t n p1 = c at cb i0 i1 c59 c1
    generalize hi : sIx (stI l) c = i at i0 i1
    have pin := lkc_in hc (by omega)
    have i5 : i < 5 := by
      have : cnI l ≤ 5 := by rcases h with rfl | rfl | rfl <;> decide
      omega
    have hx : ∀ (a : Nat) (o : Int) (w : Wd) (Q X : Wd → Prop), PX t n p w → (((mask >>> (iz i &&& 31)) &&& (iz 1)) = (iz 1) → Q (sI w 13 (iz p1))) → (¬ ((mask >>> (iz i &&& 31)) &&& (iz 1)) = (iz 1) → wp_X1_number (iz (loI l i)) (iz (hiI l i)) (sI w 13 (iz (p1 + 1))) (fun r22 w23 => inA a (iz o + iz i) ∧ (∀ w24, w24 = sA w23 a (iz o + iz i).toInt r22 → lp_X1_items_31 Q X (iz l) a (iz o) (m + 1) (mask ||| ((iz 1) <<< (iz i &&& 31))) w24)) X) → XiI l a o (m + 1) mask w Q X := by
      intro a o w Q X S f g
      have S1 := S.at p1
      show wl_X1_items_31 Q X (iz l) a (iz o) _ mask w
      unfold wl_X1_items_31
      have it : ∀ (R : Int32 → Wd → Prop), R (iz i) (sI w 13 (iz p1)) → wp_X1_there (sI w 13 (iz p1)) (fun r3 w4 => wp_X1_item (iz l) r3 w4 R) := fun R r => by
        refine p_there B S1 (by omega) k2 ?_
        rw [hc]
        refine x_itemI h (by constructor <;> omega) ?_
        rw [hi]
        exact r
      refine p_look B S h0 h1 hp hc (br (iz_eq (by omega) (by omega) (by decide) (by decide)) (fun e => absurd e c1) (fun _ => it _ ?_))
      refine br (iz_lt (by omega) (by omega) (by decide) (by decide)) (fun e => by omega) (fun _ => it _ ?_)
      unfold wp_X1_has
      refine ⟨fun e => u0 (it _ ?_), fun e => u1 (f e)⟩
      rintro w17 rfl
      rw [S1.2, iz_add, sI_sI]
      exact x_lowestI h i0 i1 (x_highestI h i0 i1 (g e))
    have hmm : ∀ (a : Nat) (o d : Int) (w : Wd) (Q : Wd → Prop), MS0 t n p d w → (((mask >>> (iz i &&& 31)) &&& (iz 1)) = (iz 1) → Q (sI (sI w 70 (iz p1)) 71 (iz p1))) → (¬ ((mask >>> (iz i &&& 31)) &&& (iz 1)) = (iz 1) → wp_X3_number (iz (loI l i)) (iz (hiI l i)) (sI w 70 (iz (p1 + 1))) (fun r8 w9 => inA a (iz o + iz i) ∧ (∀ w10, w10 = sA w9 a (iz o + iz i).toInt r8 → (¬ (gI w10 71) = (iz (-1)) → Q w10) ∧ ((gI w10 71) = (iz (-1)) → MiI l a o m (mask ||| ((iz 1) <<< (iz i &&& 31))) w10 Q)))) → MiI l a o (m + 1) mask w Q := by
      intro a o d w Q S f g
      have S1 := S.at p1
      unfold MiI
      refine m_look' B S h0 h1 hp hc (m_spotOf st (by constructor <;> omega) ?_)
      rw [hi]
      show wl_X3_readItems_45 Q (iz l) a (iz o) (stI l) (lp_X3_readItems_45 Q (iz l) a (iz o) (stI l) (m + 2)) mask (iz i) (sI w 70 (iz p1))
      unfold wl_X3_readItems_45
      have ni : ¬ iz i = iz (-1) := fun e => by
        have := (iz_eq (by omega) (by omega) (by decide) (by decide)).mp e
        omega
      rw [S1.2.2.2.2]
      refine ⟨fun e => absurd e ni, fun _ => ⟨fun e => absurd rfl e, fun _ => ?_⟩⟩
      unfold wp_X3_has
      refine ⟨fun e => t0 ?_, fun e => t1 (m_fails S1.2.2.2.2 ?_)⟩
      · rintro w3 rfl
        rw [S1.2.2.1, iz_add, sI_sI]
        refine m_leastI h i0 i1 (m_mostI h i0 i1 ?_)
        have g := g e
        have hh : (fun (r8 : Int32) (w9 : Wd) => inA a (iz o + iz i) ∧ (∀ w10, w10 = sA w9 a (iz o + iz i).toInt r8 → (¬ (gI w10 71) = (iz (-1)) → Q w10) ∧ ((gI w10 71) = (iz (-1)) → MiI l a o m (mask ||| ((iz 1) <<< (iz i &&& 31))) w10 Q))) = (fun r8 w9 => inA a (iz o + iz i) ∧ (∀ w10, w10 = sA w9 a (iz o + iz i).toInt r8 → (¬ (gI w10 71) = (iz (-1)) → lp_X3_readItems_45 Q (iz l) a (iz o) (stI l) (m + 2) (mask ||| ((iz 1) <<< (iz i &&& 31))) (iz i) w10) ∧ ((gI w10 71) = (iz (-1)) → wp_X3_look w10 (fun r11 w12 => wp_X3_spotOf (stI l) r11 w12 (fun r13 w14 => lp_X3_readItems_45 Q (iz l) a (iz o) (stI l) (m + 2) (mask ||| ((iz 1) <<< (iz i &&& 31))) r13 w14))))) := by
          funext r8 w9
          refine propext ⟨fun H => ⟨H.1, fun w10 hw => ⟨fun e7 => ⟨fun z => absurd z ni, fun _ => ⟨fun _ => (H.2 w10 hw).1 e7, fun z => absurd z e7⟩⟩, fun e7 => (H.2 w10 hw).2 e7⟩⟩, fun H => ⟨H.1, fun w10 hw => ⟨fun e7 => (((H.2 w10 hw).1 e7).2 ni).1 e7, fun e7 => (H.2 w10 hw).2 e7⟩⟩⟩
        rw [hh] at g
        exact g
      · rw [S1.2.2.1]
        exact f e
    have lb : -1000 ≤ loI l i ∧ loI l i ≤ 1000 := by
      unfold loI
      repeat' split
      all_goals omega
    have hb' : -1000 ≤ hiI l i ∧ hiI l i ≤ 1000 := by
      unfold hiI
      repeat' split
      all_goals omega
    have rr : ∀ {a : Nat} {o : Int}, roI l a o → inA a (iz o + iz i) ∧ (iz o + iz i).toInt = o + i := fun {a o} rm => by
      have r1 := rm.1; have r2 := rm.2.1
      rw [iz_add, iz_toInt (by omega) (by omega)]
      exact ⟨rm.2.2 i i0 i1, rfl⟩
    by_cases hb : ((mask >>> (iz i &&& 31)) &&& (iz 1)) = (iz 1)
    · exact Or.inr (Or.inr ⟨p1, k1, k2, hs, by rw [hc]; exact c59, by rw [hc]; exact c1, fun a o w Q X _ rm S x => hx a o w Q X S (fun _ => x _ ((fI.refl w).si (k := 13) (show p13 13 from rfl) _) (S.at p1)) (fun e => absurd hb e), fun a o d w Q _ _ rm S x => hmm a o d w Q S (fun _ => x _ ((MF.i70 w _).trans (MF.i71 _ _)).fi (by rw [gI_sI, if_pos rfl])) (fun e => absurd hb e)⟩)
    · rcases bo_number B (show 0 ≤ p1 + 1 by omega) (by omega) lb hb' with ⟨pf, q1, q2, qx, qm⟩ | ⟨p2, v, q1, q2, v1, v2, qx, qm⟩
      · refine Or.inl ⟨pf, by omega, q2, fun a o w Q X _ rm S x => hx a o w Q X S (fun e => absurd e hb) (fun _ => qx _ _ X (S.at (p1 + 1)) (x _ (((fI.refl w).si (k := 13) (show p13 13 from rfl) _).si (k := 13) (show p13 13 from rfl) _) (by rw [gI_sI, if_pos rfl]))), fun a o d w Q _ _ rm S x => hmm a o d w Q S (fun e => absurd e hb) (fun _ => qm d _ _ (S.at (p1 + 1)) (fun v' w' f e71 => ⟨(rr rm).1, ?_⟩))⟩
        rintro w10 rfl
        rw [(rr rm).2]
        have ne : ¬ gI (sA w' a (o + i) v') 71 = iz (-1) := fun e => by
          have e : gI w' 71 = iz (-1) := e
          rw [e71] at e
          have := (iz_eq (by omega) (by omega) (by decide) (by decide)).mp e
          omega
        exact ⟨fun _ => x _ ((((MF.i70 w _).trans f).fi).set ⟨by omega, by omega⟩ _) e71, fun e => absurd e ne⟩
      · have fx : ∀ {a : Nat} {o : Int} {w : Wd}, fI p13 a o (cnI l) w (sA (sI (sI w 13 (iz (p1 + 1))) 13 (iz p2)) a (o + i) (iz v)) := fun {a o w} => (((fI.refl w).si (k := 13) (show p13 13 from rfl) _).si (k := 13) (show p13 13 from rfl) _).set ⟨by omega, by omega⟩ _
        have fm : ∀ {a : Nat} {o : Int} {w : Wd}, fI p70 a o (cnI l) w (sA (sI (sI w 70 (iz (p1 + 1))) 70 (iz p2)) a (o + i) (iz v)) := fun {a o w} => (((fI.refl w).si (k := 70) ⟨by decide, by decide⟩ _).si (k := 70) ⟨by decide, by decide⟩ _).set ⟨by omega, by omega⟩ _
        have va : ∀ {a : Nat} {o : Int} {w w1 : Wd} {g : Int → Int}, vaI l a o g w → gA w1 a = gA w a → vaI l a o (fun j => if j = i then v else g j) (sA w1 a (o + i) (iz v)) := fun {a o w w1 g} hv e j j0 j1 => by
          rw [g24, e]
          show (if o + j = o + i then iz v else gA w a (o + j)) = iz (if j = i then v else g j)
          by_cases ej : j = i
          · rw [if_pos (by omega), if_pos ej]
          · rw [if_neg (by omega), if_neg ej]
            exact hv j j0 j1
        have hX : ∀ (a : Nat) (o : Int) (w : Wd) (Q X : Wd → Prop), roI l a o → PX t n p w → XiI l a o m (mask ||| ((iz 1) <<< (iz i &&& 31))) (sA (sI (sI w 13 (iz (p1 + 1))) 13 (iz p2)) a (o + i) (iz v)) Q X → XiI l a o (m + 1) mask w Q X := fun a o w Q X rm S x => hx a o w Q X S (fun e => absurd e hb) (fun _ => qx _ _ X (S.at (p1 + 1)) ⟨(rr rm).1, by
          rintro w24 rfl
          rw [(rr rm).2]
          exact x⟩)
        have hM : ∀ (a : Nat) (o d : Int) (w : Wd) (Q : Wd → Prop), roI l a o → MS0 t n p d w → MiI l a o m (mask ||| ((iz 1) <<< (iz i &&& 31))) (sA (sI (sI w 70 (iz (p1 + 1))) 70 (iz p2)) a (o + i) (iz v)) Q → MiI l a o (m + 1) mask w Q := fun a o d w Q rm S x => hmm a o d w Q S (fun e => absurd e hb) (fun _ => qm d _ _ (S.at (p1 + 1)) ⟨(rr rm).1, by
          rintro w24 rfl
          rw [(rr rm).2]
          exact ⟨fun e => absurd ((S.at (p1 + 1)).at p2).2.2.2.2 e, fun _ => x⟩⟩)
        rcases ih (mask ||| ((iz 1) <<< (iz i &&& 31))) p2 (by omega) (by omega) q2 with ⟨pf, j1, j2, jx, jm⟩ | ⟨p3, G, j1, j2, j3, jb, jx, jm⟩ | ⟨p3, j1, j2, j3, j4, j5, jx, jm⟩
        · exact Or.inl ⟨pf, by omega, j2, fun a o w Q X na rm S x => hX a o w Q X rm S (jx a o _ Q X na rm (((S.at (p1 + 1)).at p2).set na _ _) (fun w' f e => x w' (fx.trans f) e)), fun a o d w Q na nb rm S x => hM a o d w Q rm S (jm a o d _ Q na nb rm (((S.at (p1 + 1)).at p2).set na nb _ _) (fun w' f e => x w' (fm.trans f) e))⟩
        · refine Or.inr (Or.inl ⟨p3, fun g => G (fun j => if j = i then v else g j), by omega, j2, j3, fun g hg => jb _ (fun j j0 j1 => ?_), fun a o w Q X g na rm S hv x => hX a o w Q X rm S (jx a o _ Q X _ na rm (((S.at (p1 + 1)).at p2).set na _ _) (va hv rfl) (fun w' f e y => x w' (fx.trans f) e y)), fun a o d w Q g na nb rm S hv x => hM a o d w Q rm S (jm a o d _ Q _ na nb rm (((S.at (p1 + 1)).at p2).set na nb _ _) (va hv rfl) (fun w' f e y => x w' (fm.trans f) e y))⟩)
          show loI l j ≤ (if j = i then v else g j) ∧ (if j = i then v else g j) ≤ hiI l j
          by_cases ej : j = i
          · rw [if_pos ej, ej]
            exact ⟨v1, v2⟩
          · rw [if_neg ej]
            exact hg j j0 j1
        · exact Or.inr (Or.inr ⟨p3, by omega, j2, j3, j4, j5, fun a o w Q X na rm S x => hX a o w Q X rm S (jx a o _ Q X na rm (((S.at (p1 + 1)).at p2).set na _ _) (fun w' f e => x w' (fx.trans f) e)), fun a o d w Q na nb rm S x => hM a o d w Q rm S (jm a o d _ Q na nb rm (((S.at (p1 + 1)).at p2).set na nb _ _) (fun w' f e => x w' (fm.trans f) e))⟩)
