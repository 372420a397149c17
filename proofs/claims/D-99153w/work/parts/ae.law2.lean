/-! a law whole: worth, and the loop over its clauses -/
def LawD (w : Wd) (r : Nat) (L : Vs) : Prop := ∀ w2, (∀ q, gF w q ≠ none → gF w2 q = gF w q) → ∀ Q : Int32 → Wd → Prop, Q (wv (gA w2 15) L) w2 → wp_X1_worth (some r) (iz 121) 15 w2 Q
theorem x_worthl {w w2 : Wd} {U : Nat → Prop} {Q : Int32 → Wd → Prop} (hw : ∀ q, gF w q ≠ none → gF w2 q = gF w q) : ∀ (I : List Cl) (hd : Option Nat), SegC w hd I none → (∀ x ∈ I, DenC U w x.2.1 x.2.2.1 x.2.2.2.1 x.2.2.2.2) → Q (wv (gA w2 15) (I.map vs)) w2 → lp_X1_worth_2 Q (iz 121) 15 (I.length + 1) hd w2
  | [], hd, h, _, q => by
    have h : hd = none := h
    subst h
    exact ⟨fun _ => q, fun i e => (nomatch e)⟩
  | x :: L, hd, ⟨h1, nx, h2, h3⟩, hI, q => by
    subst h1
    have D := hI x List.mem_cons_self
    have D2 := D.2 w2 (fun q hq => hw q (D.1 q hq))
    have q : Q (if x.2.2.2.1 (gA w2 15) = true then x.2.2.2.2 (gA w2 15) else wv (gA w2 15) (L.map vs)) w2 := q
    have h2' : gF w2 x.1 = some (clF x nx) := by
      rw [hw _ (by rw [h2]; exact fun z => nomatch z)]
      exact h2
    have nxt : Q (wv (gA w2 15) (L.map vs)) w2 → lp_X1_worth_2 Q (iz 121) 15 (L.length + 1) nx w2 := fun q => x_worthl hw L nx h3 (fun y hy => hI y (List.mem_cons_of_mem _ hy)) q
    refine ⟨fun e => (nomatch e), fun i e => ⟨x.1, rfl, iz 121, ⟨_, h2', rfl⟩, fun e2 => absurd rfl e2, fun _ => ⟨x.1, rfl, x.2.1, ⟨_, h2', rfl⟩, fun e3 => ?_, fun i8 e3 => ?_⟩⟩⟩
    · refine ⟨x.1, rfl, some x.2.2.1, ⟨_, h2', rfl⟩, _, rfl, D2.1 _ ?_⟩
      rcases D2.2 with ⟨_, e4⟩ | ⟨rt, e4, _⟩
      · rw [if_pos (e4 _)] at q
        exact q
      · rw [e3] at e4
        exact nomatch e4
    · rcases D2.2 with ⟨e4, _⟩ | ⟨rt, e4, hh⟩
      · rw [e3] at e4
        exact nomatch e4
      · refine ⟨x.1, rfl, x.2.1, ⟨_, h2', rfl⟩, rt, e4, hh _ ?_⟩
        cases hb : x.2.2.2.1 (gA w2 15)
        · rw [hb] at q
          exact t0 ⟨x.1, rfl, nx, ⟨_, h2', rfl⟩, nxt q⟩
        · rw [hb] at q
          exact t1 ⟨x.1, rfl, some x.2.2.1, ⟨_, h2', rfl⟩, _, rfl, D2.1 _ q⟩
theorem StC.law {w0 w : Wd} {r0 : Nat} {J : List Cl} {la : Cl} {U : Nat → Prop} (H : StC w0 w r0 J la U) : LawD w r0 ((J ++ [la]).map vs) := by
  obtain ⟨h1, h2, h3, h4, h5, h6, h7, h8, h9⟩ := H
  intro w2 hw Q q
  refine ⟨_, x_worthl (U := U) hw (J ++ [la]) (some r0) (SegC.snoc h4 _ _ h3) (fun x hx => ?_) q⟩
  rcases List.mem_append.mp hx with hx | hx
  · exact h6 x hx
  · rw [List.mem_singleton.mp hx]
    exact h7
/-- the loop over clauses, both sides -/
def LoL (t : Int → Int) (n : Int) (m : Nat) (p : Int) : Prop :=
    (∃ pf, p ≤ pf ∧ pf ≤ n ∧ (∀ (Z0 : Int), Z0 + 600 ≤ 600000 → ∀ (w0 w : Wd) (Q : Nat → Wd → Prop) (X : Wd → Prop) (r0 : Nat) (J : List Cl) (la : Cl) (U : Nat → Prop), StC w0 w r0 J la U → XS t n Z0 p 0 w → (∀ w', XF w0 w' → gI w' 13 = iz pf → (gZ w' : Int) ≤ Z0 + 2 * pf → X w') → lp_X1_wholeLaw_17 Q X (some r0) (m + 1) (some la.1) w) ∧ (∀ (w : Wd) (Q : Wd → Prop) (hf : Int) (fv : Int32), MS0 t n p 0 w → ML hf fv w → (∀ w', MF2 w w' → gI w' 71 = iz pf → Q w') → lp_X3_goThrough_32 Q (m + 2) w)) ∨
    (∃ L : Vs, (∀ x ∈ L, Dep x.1 ∧ Dep x.2) ∧ (∀ (Z0 : Int), Z0 + 600 ≤ 600000 → ∀ (w0 w : Wd) (Q : Nat → Wd → Prop) (X : Wd → Prop) (r0 : Nat) (J : List Cl) (la : Cl) (U : Nat → Prop), StC w0 w r0 J la U → XS t n Z0 p 0 w → (∀ w', XF w0 w' → (gZ w' : Int) ≤ Z0 + 2 * n → LawD w' r0 ((J ++ [la]).map vs ++ L) → gF w' r0 ≠ none → (∃ fs, gF w' r0 = some (6, fs)) → Q r0 w') → lp_X1_wholeLaw_17 Q X (some r0) (m + 1) (some la.1) w) ∧ (∀ (w : Wd) (Q : Wd → Prop) (hf : Int) (fv : Int32), MS0 t n p 0 w → ML hf fv w → (∀ w', MF2 w w' → gI w' 71 = iz (-1) → gI w' 74 = gw (gA w 64) L hf fv → Q w') → lp_X3_goThrough_32 Q (m + 2) w))
theorem lo_end {t : Int → Int} {n p : Int} (B : TB t n) (m : Nat) (h0 : 0 ≤ p) (h1 : p ≤ n) (c59 : ¬ lkc t n (sk t n p) = 59) : LoL t n m p := by
  have b1 := B.1; have b2 := B.2.1
  obtain ⟨k1, k2⟩ := sk_bd t h1
  have hs := sk_sk t n p
  generalize hp : sk t n p = p1 at k1 k2 c59 hs
  have cb := lkc_bd (t := t) (n := n) p1
  generalize hc : lkc t n p1 = c at cb c59
  have hx : ∀ (Z0 : Int) (w : Wd) (Q : Nat → Wd → Prop) (X : Wd → Prop) (r0 : Nat) (la : Cl), XS t n Z0 p 0 w → (¬ iz c = (iz (-1)) → X (sI (sI w 13 (iz p1)) 13 (iz p1))) ∧ (iz c = (iz (-1)) → Q r0 (sI (sI w 13 (iz p1)) 13 (iz p1))) → lp_X1_wholeLaw_17 Q X (some r0) (m + 1) (some la.1) w := by
    intro Z0 w Q X r0 la S x
    show wl_X1_wholeLaw_17 Q X _ _ _ w
    unfold wl_X1_wholeLaw_17
    refine x_look' B S h0 h1 hp hc (brn (iz_eq (by omega) (by omega) (by decide) (by decide)) (fun _ => x_look' B (S.at k1) (by omega) k2 hs hc ⟨fun e => ?_, fun e => ?_⟩) (fun e => absurd e c59))
    · exact u0 (x.1 e)
    · exact u1 ⟨r0, rfl, x.2 e⟩
  have hm : ∀ (w : Wd) (Q : Wd → Prop), MS0 t n p 0 w → (iz c = iz (-1) → Q (sI (sI w 70 (iz p1)) 70 (iz p1))) ∧ (¬ iz c = iz (-1) → Q (sI (sI (sI w 70 (iz p1)) 70 (iz p1)) 71 (iz p1))) → lp_X3_goThrough_32 Q (m + 2) w := by
    intro w Q S x
    show wl_X3_goThrough_32 Q _ w
    unfold wl_X3_goThrough_32 b_X3_goThrough_66
    have S1 := S.at p1
    have S2 := S1.at p1
    rw [S.2.2.2.2]
    refine ⟨fun e => absurd rfl e, fun _ => m_look' B S h0 h1 hp hc (brn (iz_eq (by omega) (by omega) (by decide) (by decide)) (fun _ => ?_) (fun e => absurd e c59))⟩
    rw [S1.2.2.2.2]
    refine ⟨fun e => absurd rfl e, fun _ => m_look' B S1 (by omega) k2 hs hc ⟨x.1, fun e => m_fails S2.2.2.2.2 ?_⟩⟩
    rw [S2.2.2.1]
    exact x.2 e
  by_cases ce : c = -1
  · refine Or.inr ⟨[], fun x hx => (nomatch hx), fun Z0 zh w0 w Q X r0 J la U H S x => hx Z0 w Q X r0 la S ⟨fun e => absurd (by rw [ce]) e, fun _ => ?_⟩, fun w Q hf fv S L x => hm w Q S ⟨fun _ => ?_, fun e => absurd (by rw [ce]) e⟩⟩
    · have H2 := (H.xf (XF.i13 w (iz p1))).xf (XF.i13 _ (iz p1))
      have S2 := (S.at k1).z
      have hl := H2.law
      rw [← List.append_nil (List.map vs (J ++ [la]))] at hl
      have fs : ∃ fs, gF (sI (sI w 13 (iz p1)) 13 (iz p1)) r0 = some (6, fs) := by
        obtain ⟨h1, h2, h3, h4, h5, h6, h7, h8, h9⟩ := H2
        have := SegC.snoc h4 _ _ h3
        cases J with
        | nil =>
          obtain ⟨e, nx, e2, _⟩ := this
          exact ⟨_, by rw [Option.some.inj e]; exact e2⟩
        | cons x J =>
          obtain ⟨e, nx, e2, _⟩ := this
          exact ⟨_, by rw [Option.some.inj e]; exact e2⟩
      refine x _ H2.1 (by show (gZ (sI w 13 (iz p1)) : Int) ≤ _; omega) hl ?_ fs
      obtain ⟨fs, e⟩ := fs
      rw [e]
      exact fun z => nomatch z
    · refine x _ ((MF.i70 w _).trans (MF.i70 _ _)).two ((S.at p1).at p1).2.2.2.2 ?_
      rw [gI_sI, if_neg (by decide), gI_sI, if_neg (by decide)]
      exact L.2.2.1
  · have ne : ¬ iz c = iz (-1) := fun e => ce ((iz_eq (by omega) (by omega) (by decide) (by decide)).mp e)
    refine Or.inl ⟨p1, k1, k2, fun Z0 zh w0 w Q X r0 J la U H S x => hx Z0 w Q X r0 la S ⟨fun _ => ?_, fun e => absurd e ne⟩, fun w Q hf fv S L x => hm w Q S ⟨fun e => absurd e ne, fun _ => ?_⟩⟩
    · have S2 := (S.at k1).at (p' := p1) (Int.le_refl _)
      exact x _ ((H.xf (XF.i13 w (iz p1))).xf (XF.i13 _ (iz p1))).1 S2.2.2.1 S2.z
    · refine x _ (((MF.i70 w _).trans (MF.i70 _ _)).trans (MF.i71 _ _)).two ?_
      rw [gI_sI, if_pos rfl]
theorem lo_law {t : Int → Int} {n : Int} (B : TB t n) : ∀ (m : Nat) (p : Int), (n - p).toNat ≤ m → 0 ≤ p → p ≤ n → LoL t n m p := by
  have b1 := B.1; have b2 := B.2.1
  intro m
  induction m with
  | zero =>
    intro p hm h0 h1
    refine lo_end B 0 h0 h1 (fun e => ?_)
    have := lkc_in e (by decide)
    have := (sk_bd t h1).1
    omega
  | succ m ih =>
    intro p hm h0 h1
    by_cases c59 : lkc t n (sk t n p) = 59
    · obtain ⟨k1, k2⟩ := sk_bd t h1
      generalize hp : sk t n p = p1 at k1 k2 c59
      have pin := lkc_in c59 (by decide)
      have hx : ∀ (Z0 : Int) (w : Wd) (Q : Nat → Wd → Prop) (X : Wd → Prop) (r0 : Nat) (la : Cl), XS t n Z0 p 0 w → (∀ w1, XF w w1 → XS t n Z0 (p1 + 1) 0 w1 → wp_X1_clause w1 (fun r14 w15 => ∃ i16, some la.1 = some i16 ∧ ∃ fs17, gF w15 i16 = some (6, fs17) ∧ 3 < fs17.length ∧ (∀ w18, w18 = sF w15 i16 (6, fs17.set 3 (rv (some r14))) → ∃ i19, some la.1 = some i19 ∧ ∃ x20, ndO w18 i19 6 3 x20 ∧ lp_X1_wholeLaw_17 Q X (some r0) (m + 1) x20 w18)) X) → lp_X1_wholeLaw_17 Q X (some r0) (m + 1 + 1) (some la.1) w := by
        intro Z0 w Q X r0 la S x
        show wl_X1_wholeLaw_17 Q X _ _ _ w
        unfold wl_X1_wholeLaw_17
        refine x_look' B S h0 h1 hp c59 ⟨fun e => absurd rfl e, fun _ => ?_⟩
        rintro w13 rfl
        rw [(S.at k1).2.2.1, iz_add, sI_sI]
        exact x _ (XF.i13 w _) (S.at (by omega))
      have hmm : ∀ (w : Wd) (Q : Wd → Prop), MS0 t n p 0 w → (∀ w1, MF w w1 → MS0 t n (p1 + 1) 0 w1 → wp_X3_clause w1 (fun w5 => lp_X3_goThrough_32 Q (m + 2) w5)) → lp_X3_goThrough_32 Q (m + 1 + 2) w := by
        intro w Q S x
        show wl_X3_goThrough_32 Q _ w
        unfold wl_X3_goThrough_32
        rw [S.2.2.2.2]
        refine ⟨fun e => absurd rfl e, fun _ => m_look' B S h0 h1 hp c59 ⟨fun e => absurd rfl e, fun _ => ?_⟩⟩
        rintro w3 rfl
        rw [(S.at p1).2.2.1, iz_add, sI_sI]
        exact x _ (MF.i70 w _) (S.at (p1 + 1))
      rcases bo_clause B (show 0 ≤ p1 + 1 by omega) (by omega) with ⟨pf, q1, q2, qx, qm⟩ | ⟨p2, tb, f, q1, q2, qd, qd2, qx, qm⟩
      · refine Or.inl ⟨pf, by omega, q2, fun Z0 zh w0 w Q X r0 J la U H S x => hx Z0 w Q X r0 la S (fun w1 f1 S1 => qx Z0 zh w1 _ X S1 (fun w' g1 g2 g3 => x w' ((H.1.trans f1).trans g1) g2 g3)), fun w Q hf fv S L x => hmm w Q S (fun w1 f1 S1 => qm w1 _ hf fv S1 (L.mf f1) (fun w' g1 g2 => ?_))⟩
        show wl_X3_goThrough_32 Q _ w'
        unfold wl_X3_goThrough_32 b_X3_goThrough_66
        have ne : ¬ gI w' 71 = iz (-1) := by
          rw [g2]
          intro e
          have := (iz_eq (by omega) (by omega) (by decide) (by decide)).mp e
          omega
        exact ⟨fun _ => ⟨fun _ => x w' (f1.two.trans g1) g2, fun e => absurd e ne⟩, fun e => absurd e ne⟩
      · rcases ih p2 (by omega) (by omega) q2 with ⟨pf, i1, i2, ix, im⟩ | ⟨L', dL, ix, im⟩
        · refine Or.inl ⟨pf, by omega, i2, fun Z0 zh w0 w Q X r0 J la U H S x => hx Z0 w Q X r0 la S (fun w1 f1 S1 => qx Z0 zh w1 _ X S1 (fun r w2 Sf to s g1 g2 g3 g4 g5 g6 g7 => ?_)), fun w Q hf fv S L x => hmm w Q S (fun w1 f1 S1 => qm w1 _ hf fv S1 (L.mf f1) (fun w' g1 g2 g3 => im w' Q _ _ g2 g3 (fun w'' y1 y2 => x w'' ((f1.two.trans g1).trans y1) y2)))⟩
          refine (H.xf f1).add g1 g3 g4 g5 g6 g7 (fun w' e1 e2 e3 H' => ix Z0 zh w0 w' Q X r0 _ (r, to, s, tb, f) _ H' ?_ x)
          obtain ⟨s1, s2, s3, s4, s5⟩ := g2
          exact ⟨by rw [e1]; exact s1, fun i a b => by rw [e2]; exact s2 i a b, by rw [e1]; exact s3, by rw [e1]; exact s4, by rw [e3]; exact s5⟩
        · refine Or.inr ⟨(tb, f) :: L', fun y hy => ?_, fun Z0 zh w0 w Q X r0 J la U H S x => hx Z0 w Q X r0 la S (fun w1 f1 S1 => qx Z0 zh w1 _ X S1 (fun r w2 Sf to s g1 g2 g3 g4 g5 g6 g7 => ?_)), fun w Q hf fv S L x => hmm w Q S (fun w1 f1 S1 => qm w1 _ hf fv S1 (L.mf f1) (fun w' g1 g2 g3 => im w' Q _ _ g2 g3 (fun w'' y1 y2 y3 => x w'' ((f1.two.trans g1).trans y1) y2 ?_)))⟩
          · rcases List.mem_cons.mp hy with e | e
            · rw [e]
              exact ⟨qd, qd2⟩
            · exact dL y e
          · refine (H.xf f1).add g1 g3 g4 g5 g6 g7 (fun w' e1 e2 e3 H' => ix Z0 zh w0 w' Q X r0 _ (r, to, s, tb, f) _ H' ?_ (fun w'' y1 y2 y3 y4 y5 => x w'' y1 y2 ?_ y4 y5))
            · obtain ⟨s1, s2, s3, s4, s5⟩ := g2
              exact ⟨by rw [e1]; exact s1, fun i a b => by rw [e2]; exact s2 i a b, by rw [e1]; exact s3, by rw [e1]; exact s4, by rw [e3]; exact s5⟩
            · rw [List.map_append, List.append_assoc] at y3
              exact y3
          · rw [y3]
            have e1 : gA w1 64 = gA w 64 := by rw [f1.2.1]
            have e2 : gA w' 64 = gA w 64 := by rw [g1.2.1, e1]
            rw [e1, e2]
            rfl
    · exact lo_end B _ h0 h1 c59
