/-- products: the loop -/
theorem lo_term {t : Int → Int} {n d : Int} {K : Nat} {PsX : Wd → (Nat → Wd → Prop) → (Wd → Prop) → Prop} {PsM : Wd → (Int32 → Wd → Prop) → Prop} (B : TB t n) (ha : ∀ p, 0 ≤ p → p ≤ n → BoS t n K (wp_X1_atom PsX) (wp_X3_atom PsM) p d) : ∀ (m : Nat) (p : Int), (n - p).toNat ≤ m → 0 ≤ p → p ≤ n →
    (∃ pf, p ≤ pf ∧ pf ≤ n ∧ (∀ (Z0 : Int), Z0 + 600 ≤ 600000 → ∀ (nn : Nat), m + 1 ≤ nn → ∀ (w0 w : Wd) (Q : Nat → Wd → Prop) (X : Wd → Prop) (s0 : Nat) (f0 : En → Int32) (U : Nat → Prop) (l2 : Option Nat) (I : List It), StX K w0 w s0 f0 U l2 I → XS t n Z0 (sk t n p) d w → (∀ w', XF w0 w' → gI w' 13 = iz pf → (gZ w' : Int) ≤ Z0 + 2 * pf → X w') → lp_X1_term_12 PsX Q X (some s0) nn l2 (iz (lkc t n (sk t n p))) w) ∧ (∀ (nn : Nat), m + 1 ≤ nn → ∀ (w : Wd) (Q : Int32 → Wd → Prop) (v : Int32), MS0 t n p d w → (∀ v w', MF w w' → gI w' 71 = iz pf → Q v w') → lp_X3_term_5 PsM Q nn v w)) ∨
    (∃ p' G, p ≤ p' ∧ p' ≤ n ∧ (∀ g ∈ G, Dep (Prod.snd g)) ∧ (∀ (Z0 : Int), Z0 + 600 ≤ 600000 → ∀ (nn : Nat), m + 1 ≤ nn → ∀ (w0 w : Wd) (Q : Nat → Wd → Prop) (X : Wd → Prop) (s0 : Nat) (f0 : En → Int32) (U : Nat → Prop) (l2 : Option Nat) (I : List It), StX K w0 w s0 f0 U l2 I → XS t n Z0 (sk t n p) d w → (∀ (r : Nat) (w' : Wd) (S : Nat → Prop), XF w0 w' → XS t n Z0 p' d w' → (∀ q, S q → gF w0 q = none) → DenS (K + 1) S w' r (fun e => cf (vls I ++ G) e (f0 e)) → Q r w') → lp_X1_term_12 PsX Q X (some s0) nn l2 (iz (lkc t n (sk t n p))) w) ∧ (∀ (nn : Nat), m + 1 ≤ nn → ∀ (w : Wd) (Q : Int32 → Wd → Prop) (v : Int32), MS0 t n p d w → (∀ w', MF w w' → MS0 t n p' d w' → Q (cf G (gA w 64) v) w') → lp_X3_term_5 PsM Q nn v w)) := by
  have b1 := B.1; have b2 := B.2.1
  intro m
  induction m with
  | zero =>
    intro p hm h0 h1
    obtain rfl : p = n := by omega
    have hp : sk t p p = p := sk_n t (by omega)
    have hc : lkc t p p = -1 := if_neg (by omega)
    refine Or.inr ⟨p, [], Int.le_refl _, Int.le_refl _, fun g hg => (nomatch hg), fun Z0 zh nn hn w0 w Q X s0 f0 U l2 I H S x => ?_, fun nn hn w Q v S x => ?_⟩
    · obtain ⟨nn, rfl⟩ : ∃ j, nn = j + 1 := ⟨nn - 1, by omega⟩
      rw [hp, hc]
      rw [hp] at S
      refine ⟨fun e => absurd e (by decide), fun _ => ⟨fun _ => ?_, fun e => absurd e (by decide)⟩⟩
      refine H.fin (fun r Sf g1 g2 => x r w Sf H.1 S g1 ?_)
      rw [List.append_nil]
      exact g2
    · obtain ⟨nn, rfl⟩ : ∃ j, nn = j + 1 := ⟨nn - 1, by omega⟩
      show wl_X3_term_5 PsM Q _ v w
      unfold wl_X3_term_5
      rw [S.2.2.2.2]
      refine ⟨fun e => absurd rfl e, fun _ => m_look' B S h0 h1 hp hc ⟨fun e => absurd e (by decide), fun _ => m_look' B (S.at p) h0 h1 hp hc ⟨fun _ => ?_, fun e => absurd e (by decide)⟩⟩⟩
      exact x _ ((MF.i70 w _).trans (MF.i70 _ _)) ((S.at p).at p)
  | succ m ih =>
    intro p hm h0 h1
    obtain ⟨k1, k2⟩ := sk_bd t h1
    have ss := sk_sk t n p
    generalize hp : sk t n p = p1 at k1 k2 ss
    have cb := lkc_bd (t := t) (n := n) p1
    generalize hc : lkc t n p1 = c at cb
    by_cases op : c = 42 ∨ c = 47
    · have pin := lkc_in hc (by omega)
      have sg : sgOK (iz c) := by
        unfold sgOK
        rcases op with rfl | rfl
        · exact Or.inl rfl
        · exact Or.inr (Or.inr (Or.inr rfl))
      -- the component's way to the next part
      have hx : ∀ (Z0 : Int), Z0 + 600 ≤ 600000 → ∀ (nn : Nat) (w0 w : Wd) (Q : Nat → Wd → Prop) (X : Wd → Prop) (s0 : Nat) (f0 : En → Int32) (U : Nat → Prop) (l2 : Option Nat) (I : List It), StX K w0 w s0 f0 U l2 I → XS t n Z0 p1 d w → (∀ (r0 : Nat) (w1 : Wd), StX K w0 w1 s0 f0 U (some r0) I → XS t n (Z0 - 1) (p1 + 1) d w1 → b_X1_term_47 PsX Q X (lp_X1_term_12 PsX Q X (some s0) nn) (some s0) (some r0) (iz c) w1) → lp_X1_term_12 PsX Q X (some s0) (nn + 1) l2 (iz c) w := by
        intro Z0 zh nn w0 w Q X s0 f0 U l2 I H S x
        have go : b_X1_term_24 PsX Q X (lp_X1_term_12 PsX Q X (some s0) nn) (some s0) l2 (iz c) w := by
          unfold b_X1_term_24
          rintro w1 rfl
          have z0 := S.z
          have H1 := H.xf (XF.i13 w (gI w 13 + iz 1))
          have S1 : XS t n (Z0 - 1) (p1 + 1) d (sI w 13 (gI w 13 + iz 1)) := by
            rw [S.2.2.1, iz_add]
            refine (S.at (p' := p1 + 1) (by omega)).lower ?_
            show (gZ w : Int) ≤ _
            omega
          have zz : gZ (sI w 13 (gI w 13 + iz 1)) = gZ w := rfl
          generalize sI w 13 (gI w 13 + iz 1) = w1 at H1 S1 zz
          refine ⟨fun i e => ?_, fun e => ?_⟩
          · subst e
            exact x i w1 H1 S1
          · subst e
            have eI : I = [] := by
              obtain ⟨-, -, -, -, h5⟩ := H1
              rcases h5 with ⟨-, e⟩ | ⟨r0, e, -⟩
              · exact e
              · exact nomatch e
            subst eI
            exact H1.new (by omega) (by omega) S1 (by omega) (fun r w' g1 g2 => x r w' g1 g2)
        show wl_X1_term_12 PsX Q X (some s0) _ l2 (iz c) w
        unfold wl_X1_term_12
        refine br (iz_eq (by omega) (by omega) (by decide) (by decide)) (fun _ => go) (fun e => brn (iz_eq (by omega) (by omega) (by decide) (by decide)) (fun e2 => by omega) (fun _ => go))
      -- the model's
      have hm' : ∀ (nn : Nat) (w : Wd) (Q : Int32 → Wd → Prop) (v : Int32), MS0 t n p d w → (∀ (w1 : Wd) (A : Int32 → Wd → Prop), MF w w1 → MS0 t n (p1 + 1) d w1 → (∀ r2 w3, lp_X3_term_5 PsM Q nn (stp (iz c) v r2) w3 → A r2 w3) → wp_X3_atom PsM w1 A) → lp_X3_term_5 PsM Q (nn + 1) v w := by
        intro nn w Q v S x
        have go : ∀ w1, MF w w1 → MS0 t n p1 d w1 → b_X3_term_31 PsM Q (lp_X3_term_5 PsM Q nn) v w1 := by
          intro w1 f1 S1
          unfold b_X3_term_31
          have go2 : ∀ tt : Int32, (tt = iz 1 ∧ iz c = iz 42 ∨ tt = iz 0 ∧ iz c = iz 47) → b_X3_term_45 PsM Q (lp_X3_term_5 PsM Q nn) v tt (sI w1 70 (iz p1)) := by
            intro tt htt
            unfold b_X3_term_45
            rintro w2 rfl
            have f2 : MF w (sI (sI w1 70 (iz p1)) 70 (gI (sI w1 70 (iz p1)) 70 + iz 1)) := (f1.trans (MF.i70 _ _)).trans (MF.i70 _ _)
            have S2 : MS0 t n (p1 + 1) d (sI (sI w1 70 (iz p1)) 70 (gI (sI w1 70 (iz p1)) 70 + iz 1)) := by
              rw [(S1.at p1).2.2.1, iz_add]
              exact (S1.at p1).at (p1 + 1)
            exact x _ _ f2 S2 (fun r2 w3 hr => m_ar_term htt hr)
          refine m_look' B S1 (by omega) k2 ss hc (brn (iz_eq (by omega) (by omega) (by decide) (by decide)) (fun e => go2 (iz 0) (Or.inr ⟨rfl, by rw [show c = 47 by omega]⟩)) (fun e => go2 (iz 1) (Or.inl ⟨rfl, by rw [e]⟩)))
        show wl_X3_term_5 PsM Q _ v w
        unfold wl_X3_term_5
        rw [S.2.2.2.2]
        refine ⟨fun e => absurd rfl e, fun _ => m_look' B S h0 h1 hp hc (br (iz_eq (by omega) (by omega) (by decide) (by decide)) (fun _ => go _ (MF.i70 w _) (S.at p1)) (fun e => m_look' B (S.at p1) (by omega) k2 ss hc (brn (iz_eq (by omega) (by omega) (by decide) (by decide)) (fun e2 => by omega) (fun _ => go _ ((MF.i70 w _).trans (MF.i70 _ _)) ((S.at p1).at p1)))))⟩
      have flt : ∀ (pf : Int), 0 ≤ pf → pf ≤ n → ∀ (nn : Nat) (v : Int32) (w3 : Wd) (Q : Int32 → Wd → Prop), gI w3 71 = iz pf → Q v w3 → lp_X3_term_5 PsM Q (nn + 1) v w3 := by
        intro pf f0 f1 nn v w3 Q e q
        show wl_X3_term_5 PsM Q _ v w3
        unfold wl_X3_term_5
        rw [e]
        exact brn (iz_eq (by omega) (by omega) (by decide) (by decide)) (fun _ => q) (fun e2 => by omega)
      rcases ha (p1 + 1) (by omega) (by omega) with ⟨pf, q1, q2, qx, qm⟩ | ⟨p2, f2, q1, q2, qd, qx, qm⟩
      · refine Or.inl ⟨pf, by omega, q2, fun Z0 zh nn hn w0 w Q X s0 f0 U l2 I H S x => ?_, fun nn hn w Q v S x => ?_⟩
        · obtain ⟨nn, rfl⟩ : ∃ j, nn = j + 1 := ⟨nn - 1, by omega⟩
          refine hx Z0 zh nn w0 w Q X s0 f0 U l2 I H S (fun r0 w1 H1 S1 => ?_)
          unfold b_X1_term_47
          exact qx (Z0 - 1) (by omega) w1 _ X S1 (fun w' g1 g2 g3 => x w' (H1.1.trans g1) g2 (by omega))
        · obtain ⟨nn, rfl⟩ : ∃ j, nn = j + 2 := ⟨nn - 2, by omega⟩
          refine hm' (nn + 1) w Q v S (fun w1 A f1 S1 hA => qm w1 A S1 (fun r2 w3 g1 g2 => hA r2 w3 (flt pf (by omega) q2 nn _ w3 Q g2 (x _ w3 (f1.trans g1) g2))))
      · obtain ⟨k3, k4⟩ := sk_bd t q2
        rcases ih p2 (by omega) (by omega) q2 with ⟨pf, i1, i2, ix, im⟩ | ⟨p', G, i1, i2, id, ix, im⟩
        · refine Or.inl ⟨pf, by omega, i2, fun Z0 zh nn hn w0 w Q X s0 f0 U l2 I H S x => ?_, fun nn hn w Q v S x => ?_⟩
          · obtain ⟨nn, rfl⟩ : ∃ j, nn = j + 1 := ⟨nn - 1, by omega⟩
            refine hx Z0 zh nn w0 w Q X s0 f0 U l2 I H S (fun r0 w1 H1 S1 => ?_)
            unfold b_X1_term_47
            refine qx (Z0 - 1) (by omega) w1 _ X S1 (fun r1 w2 S2 g1 g2 g3 g4 => ⟨r0, rfl, ?_, H1.add (f := f2) zh (by omega) g1 g2 g3 g4 sg (fun r w5 H5 S5 => x_look' B S5 (by omega) q2 rfl rfl ?_)⟩)
            · obtain ⟨-, -, -, -, h5⟩ := H1.xf g1
              rcases h5 with ⟨e, -⟩ | ⟨r2, e, C, -⟩
              · exact nomatch e
              · obtain rfl := Option.some.inj e
                exact C.r
            · exact ix Z0 zh nn (by omega) w0 _ Q X s0 f0 _ _ _ (H5.xf (XF.i13 _ _)) (S5.at k3) x
          · obtain ⟨nn, rfl⟩ : ∃ j, nn = j + 1 := ⟨nn - 1, by omega⟩
            refine hm' nn w Q v S (fun w1 A f1 S1 hA => qm w1 A S1 (fun w3 g1 g2 => hA _ w3 (im nn (by omega) w3 Q _ g2 (fun v' w' y1 y2 => x v' w' ((f1.trans g1).trans y1) y2))))
        · refine Or.inr ⟨p', (iz c, f2) :: G, by omega, i2, fun g hg => ?_, fun Z0 zh nn hn w0 w Q X s0 f0 U l2 I H S x => ?_, fun nn hn w Q v S x => ?_⟩
          · rcases List.mem_cons.mp hg with e | e
            · rw [e]
              exact qd
            · exact id g e
          · obtain ⟨nn, rfl⟩ : ∃ j, nn = j + 1 := ⟨nn - 1, by omega⟩
            refine hx Z0 zh nn w0 w Q X s0 f0 U l2 I H S (fun r0 w1 H1 S1 => ?_)
            unfold b_X1_term_47
            refine qx (Z0 - 1) (by omega) w1 _ X S1 (fun r1 w2 S2 g1 g2 g3 g4 => ⟨r0, rfl, ?_, H1.add (f := f2) zh (by omega) g1 g2 g3 g4 sg (fun r w5 H5 S5 => x_look' B S5 (by omega) q2 rfl rfl ?_)⟩)
            · obtain ⟨-, -, -, -, h5⟩ := H1.xf g1
              rcases h5 with ⟨e, -⟩ | ⟨r2, e, C, -⟩
              · exact nomatch e
              · obtain rfl := Option.some.inj e
                exact C.r
            · refine ix Z0 zh nn (by omega) w0 _ Q X s0 f0 _ _ _ (H5.xf (XF.i13 _ _)) (S5.at k3) (fun r' w' Sf y1 y2 y3 y4 => x r' w' Sf y1 y2 y3 ?_)
              have e : (fun e => cf (vls (I ++ [(r, iz c, r1, f2)]) ++ G) e (f0 e)) = (fun e => cf (vls I ++ (iz c, f2) :: G) e (f0 e)) := by
                rw [vls_app, List.append_assoc]
                rfl
              rw [e] at y4
              exact y4
          · obtain ⟨nn, rfl⟩ : ∃ j, nn = j + 1 := ⟨nn - 1, by omega⟩
            refine hm' nn w Q v S (fun w1 A f1 S1 hA => qm w1 A S1 (fun w3 g1 g2 => hA _ w3 (im nn (by omega) w3 Q _ g2 (fun w' y1 y2 => ?_))))
            have := x w' ((f1.trans g1).trans y1) y2
            rw [show gA w3 64 = gA w 64 by rw [g1.2.1, f1.2.1], show gA w1 64 = gA w 64 by rw [f1.2.1]]
            exact this
    · -- the end of the row
      refine Or.inr ⟨p1, [], k1, k2, fun g hg => (nomatch hg), fun Z0 zh nn hn w0 w Q X s0 f0 U l2 I H S x => ?_, fun nn hn w Q v S x => ?_⟩
      · obtain ⟨nn, rfl⟩ : ∃ j, nn = j + 1 := ⟨nn - 1, by omega⟩
        show wl_X1_term_12 PsX Q X (some s0) _ l2 (iz c) w
        unfold wl_X1_term_12
        refine br (iz_eq (by omega) (by omega) (by decide) (by decide)) (fun e => absurd (Or.inl e) op) (fun _ => brn (iz_eq (by omega) (by omega) (by decide) (by decide)) (fun _ => ?_) (fun e => absurd (Or.inr e) op))
        refine H.fin (fun r Sf g1 g2 => x r w Sf H.1 S g1 ?_)
        rw [List.append_nil]
        exact g2
      · obtain ⟨nn, rfl⟩ : ∃ j, nn = j + 1 := ⟨nn - 1, by omega⟩
        show wl_X3_term_5 PsM Q _ v w
        unfold wl_X3_term_5
        rw [S.2.2.2.2]
        refine ⟨fun e => absurd rfl e, fun _ => m_look' B S h0 h1 hp hc (br (iz_eq (by omega) (by omega) (by decide) (by decide)) (fun e => absurd (Or.inl e) op) (fun _ => m_look' B (S.at p1) (by omega) k2 ss hc (brn (iz_eq (by omega) (by omega) (by decide) (by decide)) (fun _ => ?_) (fun e => absurd (Or.inr e) op))))⟩
        exact x _ ((MF.i70 w _).trans (MF.i70 _ _)) ((S.at p1).at p1)
/-- a row of products -/
theorem bo_term {t : Int → Int} {n d : Int} {K : Nat} {PsX : Wd → (Nat → Wd → Prop) → (Wd → Prop) → Prop} {PsM : Wd → (Int32 → Wd → Prop) → Prop} (B : TB t n) (ha : ∀ p, 0 ≤ p → p ≤ n → BoS t n K (wp_X1_atom PsX) (wp_X3_atom PsM) p d) : ∀ p, 0 ≤ p → p ≤ n → BoS t n (K + 1) (wp_X1_term PsX) (wp_X3_term PsM) p d := by
  intro p h0 h1
  have b2 := B.2.1
  rcases ha p h0 h1 with ⟨pf, q1, q2, qx, qm⟩ | ⟨p2, f2, q1, q2, qd, qx, qm⟩
  · refine Or.inl ⟨pf, q1, q2, fun Z0 zh w Q X S x => qx Z0 zh w _ X S x, fun w Q S x => qm w _ S (fun v w' g1 g2 => ⟨1, ?_⟩)⟩
    show wl_X3_term_5 PsM Q _ v w'
    unfold wl_X3_term_5
    rw [g2]
    exact brn (iz_eq (by omega) (by omega) (by decide) (by decide)) (fun _ => x v w' g1 g2) (fun e2 => by omega)
  · obtain ⟨k3, k4⟩ := sk_bd t q2
    rcases lo_term (d := d) B ha (n - p2).toNat p2 (Nat.le_refl _) (by omega) q2 with ⟨pf, i1, i2, ix, im⟩ | ⟨p', G, i1, i2, id, ix, im⟩
    · refine Or.inl ⟨pf, by omega, i2, fun Z0 zh w Q X S x => qx Z0 zh w _ X S (fun r w2 S2 g1 g2 g3 g4 => x_look' B g2 (by omega) q2 rfl rfl ⟨_, ix Z0 zh _ (Nat.le_refl _) w _ Q X r f2 S2 none [] ⟨g1.trans (XF.i13 _ _), g3, g4.xf (XF.i13 _ _), fun x hx => (nomatch hx), Or.inl ⟨rfl, rfl⟩⟩ (g2.at k3) x⟩), fun w Q S x => qm w _ S (fun w' g1 g2 => ⟨_, im _ (Nat.le_refl _) w' Q _ g2 (fun v w'' y1 y2 => x v w'' (g1.trans y1) y2)⟩)⟩
    · refine Or.inr ⟨p', fun e => cf G e (f2 e), by omega, i2, ?_, fun Z0 zh w Q X S x => qx Z0 zh w _ X S (fun r w2 S2 g1 g2 g3 g4 => x_look' B g2 (by omega) q2 rfl rfl ⟨_, ix Z0 zh _ (Nat.le_refl _) w _ Q X r f2 S2 none [] ⟨g1.trans (XF.i13 _ _), g3, g4.xf (XF.i13 _ _), fun x hx => (nomatch hx), Or.inl ⟨rfl, rfl⟩⟩ (g2.at k3) (fun r' w' Sf y1 y2 y3 y4 => x r' w' Sf y1 y2 y3 y4)⟩), fun w Q S x => qm w _ S (fun w' g1 g2 => ⟨_, im _ (Nat.le_refl _) w' Q _ g2 (fun w'' y1 y2 => ?_)⟩)⟩
      · intro e e' he
        have hG : ∀ (G : List (Int32 × (En → Int32))) (v : Int32), (∀ g ∈ G, Dep (Prod.snd g)) → cf G e v = cf G e' v := by
          intro G
          induction G with
          | nil => intro v _; rfl
          | cons g G ihG =>
            intro v hg
            show cf G e (stp g.1 v (g.2 e)) = cf G e' (stp g.1 v (g.2 e'))
            rw [hg g List.mem_cons_self e e' he]
            exact ihG _ (fun y hy => hg y (List.mem_cons_of_mem _ hy))
        show cf G e (f2 e) = cf G e' (f2 e')
        rw [qd e e' he]
        exact hG G _ id
      · have := x w'' (g1.trans y1) y2
        rw [show gA w' 64 = gA w 64 by rw [g1.2.1]]
        exact this
/-- sums: the loop -/
theorem lo_sum {t : Int → Int} {n d : Int} {K : Nat} {PsX : Wd → (Nat → Wd → Prop) → (Wd → Prop) → Prop} {PsM : Wd → (Int32 → Wd → Prop) → Prop} (B : TB t n) (ha : ∀ p, 0 ≤ p → p ≤ n → BoS t n K (wp_X1_term PsX) (wp_X3_term PsM) p d) : ∀ (m : Nat) (p : Int), (n - p).toNat ≤ m → 0 ≤ p → p ≤ n →
    (∃ pf, p ≤ pf ∧ pf ≤ n ∧ (∀ (Z0 : Int), Z0 + 600 ≤ 600000 → ∀ (nn : Nat), m + 1 ≤ nn → ∀ (w0 w : Wd) (Q : Nat → Wd → Prop) (X : Wd → Prop) (s0 : Nat) (f0 : En → Int32) (U : Nat → Prop) (l2 : Option Nat) (I : List It), StX K w0 w s0 f0 U l2 I → XS t n Z0 (sk t n p) d w → (∀ w', XF w0 w' → gI w' 13 = iz pf → (gZ w' : Int) ≤ Z0 + 2 * pf → X w') → lp_X1_sum_12 PsX Q X (some s0) nn l2 (iz (lkc t n (sk t n p))) w) ∧ (∀ (nn : Nat), m + 1 ≤ nn → ∀ (w : Wd) (Q : Int32 → Wd → Prop) (v : Int32), MS0 t n p d w → (∀ v w', MF w w' → gI w' 71 = iz pf → Q v w') → lp_X3_sum_5 PsM Q nn v w)) ∨
    (∃ p' G, p ≤ p' ∧ p' ≤ n ∧ (∀ g ∈ G, Dep (Prod.snd g)) ∧ (∀ (Z0 : Int), Z0 + 600 ≤ 600000 → ∀ (nn : Nat), m + 1 ≤ nn → ∀ (w0 w : Wd) (Q : Nat → Wd → Prop) (X : Wd → Prop) (s0 : Nat) (f0 : En → Int32) (U : Nat → Prop) (l2 : Option Nat) (I : List It), StX K w0 w s0 f0 U l2 I → XS t n Z0 (sk t n p) d w → (∀ (r : Nat) (w' : Wd) (S : Nat → Prop), XF w0 w' → XS t n Z0 p' d w' → (∀ q, S q → gF w0 q = none) → DenS (K + 1) S w' r (fun e => cf (vls I ++ G) e (f0 e)) → Q r w') → lp_X1_sum_12 PsX Q X (some s0) nn l2 (iz (lkc t n (sk t n p))) w) ∧ (∀ (nn : Nat), m + 1 ≤ nn → ∀ (w : Wd) (Q : Int32 → Wd → Prop) (v : Int32), MS0 t n p d w → (∀ w', MF w w' → MS0 t n p' d w' → Q (cf G (gA w 64) v) w') → lp_X3_sum_5 PsM Q nn v w)) := by
  have b1 := B.1; have b2 := B.2.1
  intro m
  induction m with
  | zero =>
    intro p hm h0 h1
    obtain rfl : p = n := by omega
    have hp : sk t p p = p := sk_n t (by omega)
    have hc : lkc t p p = -1 := if_neg (by omega)
    refine Or.inr ⟨p, [], Int.le_refl _, Int.le_refl _, fun g hg => (nomatch hg), fun Z0 zh nn hn w0 w Q X s0 f0 U l2 I H S x => ?_, fun nn hn w Q v S x => ?_⟩
    · obtain ⟨nn, rfl⟩ : ∃ j, nn = j + 1 := ⟨nn - 1, by omega⟩
      rw [hp, hc]
      rw [hp] at S
      refine ⟨fun e => absurd e (by decide), fun _ => ⟨fun _ => ?_, fun e => absurd e (by decide)⟩⟩
      refine H.fin (fun r Sf g1 g2 => x r w Sf H.1 S g1 ?_)
      rw [List.append_nil]
      exact g2
    · obtain ⟨nn, rfl⟩ : ∃ j, nn = j + 1 := ⟨nn - 1, by omega⟩
      show wl_X3_sum_5 PsM Q _ v w
      unfold wl_X3_sum_5
      rw [S.2.2.2.2]
      refine ⟨fun e => absurd rfl e, fun _ => m_look' B S h0 h1 hp hc ⟨fun e => absurd e (by decide), fun _ => m_look' B (S.at p) h0 h1 hp hc ⟨fun _ => ?_, fun e => absurd e (by decide)⟩⟩⟩
      exact x _ ((MF.i70 w _).trans (MF.i70 _ _)) ((S.at p).at p)
  | succ m ih =>
    intro p hm h0 h1
    obtain ⟨k1, k2⟩ := sk_bd t h1
    have ss := sk_sk t n p
    generalize hp : sk t n p = p1 at k1 k2 ss
    have cb := lkc_bd (t := t) (n := n) p1
    generalize hc : lkc t n p1 = c at cb
    by_cases op : c = 43 ∨ c = 45
    · have pin := lkc_in hc (by omega)
      have sg : sgOK (iz c) := by
        unfold sgOK
        rcases op with rfl | rfl
        · exact Or.inr (Or.inl rfl)
        · exact Or.inr (Or.inr (Or.inl rfl))
      -- the component's way to the next part
      have hx : ∀ (Z0 : Int), Z0 + 600 ≤ 600000 → ∀ (nn : Nat) (w0 w : Wd) (Q : Nat → Wd → Prop) (X : Wd → Prop) (s0 : Nat) (f0 : En → Int32) (U : Nat → Prop) (l2 : Option Nat) (I : List It), StX K w0 w s0 f0 U l2 I → XS t n Z0 p1 d w → (∀ (r0 : Nat) (w1 : Wd), StX K w0 w1 s0 f0 U (some r0) I → XS t n (Z0 - 1) (p1 + 1) d w1 → b_X1_sum_47 PsX Q X (lp_X1_sum_12 PsX Q X (some s0) nn) (some s0) (some r0) (iz c) w1) → lp_X1_sum_12 PsX Q X (some s0) (nn + 1) l2 (iz c) w := by
        intro Z0 zh nn w0 w Q X s0 f0 U l2 I H S x
        have go : b_X1_sum_24 PsX Q X (lp_X1_sum_12 PsX Q X (some s0) nn) (some s0) l2 (iz c) w := by
          unfold b_X1_sum_24
          rintro w1 rfl
          have z0 := S.z
          have H1 := H.xf (XF.i13 w (gI w 13 + iz 1))
          have S1 : XS t n (Z0 - 1) (p1 + 1) d (sI w 13 (gI w 13 + iz 1)) := by
            rw [S.2.2.1, iz_add]
            refine (S.at (p' := p1 + 1) (by omega)).lower ?_
            show (gZ w : Int) ≤ _
            omega
          have zz : gZ (sI w 13 (gI w 13 + iz 1)) = gZ w := rfl
          generalize sI w 13 (gI w 13 + iz 1) = w1 at H1 S1 zz
          refine ⟨fun i e => ?_, fun e => ?_⟩
          · subst e
            exact x i w1 H1 S1
          · subst e
            have eI : I = [] := by
              obtain ⟨-, -, -, -, h5⟩ := H1
              rcases h5 with ⟨-, e⟩ | ⟨r0, e, -⟩
              · exact e
              · exact nomatch e
            subst eI
            exact H1.new (by omega) (by omega) S1 (by omega) (fun r w' g1 g2 => x r w' g1 g2)
        show wl_X1_sum_12 PsX Q X (some s0) _ l2 (iz c) w
        unfold wl_X1_sum_12
        refine br (iz_eq (by omega) (by omega) (by decide) (by decide)) (fun _ => go) (fun e => brn (iz_eq (by omega) (by omega) (by decide) (by decide)) (fun e2 => by omega) (fun _ => go))
      -- the model's
      have hm' : ∀ (nn : Nat) (w : Wd) (Q : Int32 → Wd → Prop) (v : Int32), MS0 t n p d w → (∀ (w1 : Wd) (A : Int32 → Wd → Prop), MF w w1 → MS0 t n (p1 + 1) d w1 → (∀ r2 w3, lp_X3_sum_5 PsM Q nn (stp (iz c) v r2) w3 → A r2 w3) → wp_X3_term PsM w1 A) → lp_X3_sum_5 PsM Q (nn + 1) v w := by
        intro nn w Q v S x
        have go : ∀ w1, MF w w1 → MS0 t n p1 d w1 → b_X3_sum_31 PsM Q (lp_X3_sum_5 PsM Q nn) v w1 := by
          intro w1 f1 S1
          unfold b_X3_sum_31
          have go2 : ∀ tt : Int32, (tt = iz 1 ∧ iz c = iz 43 ∨ tt = iz 0 ∧ iz c = iz 45) → b_X3_sum_45 PsM Q (lp_X3_sum_5 PsM Q nn) v tt (sI w1 70 (iz p1)) := by
            intro tt htt
            unfold b_X3_sum_45
            rintro w2 rfl
            have f2 : MF w (sI (sI w1 70 (iz p1)) 70 (gI (sI w1 70 (iz p1)) 70 + iz 1)) := (f1.trans (MF.i70 _ _)).trans (MF.i70 _ _)
            have S2 : MS0 t n (p1 + 1) d (sI (sI w1 70 (iz p1)) 70 (gI (sI w1 70 (iz p1)) 70 + iz 1)) := by
              rw [(S1.at p1).2.2.1, iz_add]
              exact (S1.at p1).at (p1 + 1)
            exact x _ _ f2 S2 (fun r2 w3 hr => m_ar_sum htt hr)
          refine m_look' B S1 (by omega) k2 ss hc (brn (iz_eq (by omega) (by omega) (by decide) (by decide)) (fun e => go2 (iz 0) (Or.inr ⟨rfl, by rw [show c = 45 by omega]⟩)) (fun e => go2 (iz 1) (Or.inl ⟨rfl, by rw [e]⟩)))
        show wl_X3_sum_5 PsM Q _ v w
        unfold wl_X3_sum_5
        rw [S.2.2.2.2]
        refine ⟨fun e => absurd rfl e, fun _ => m_look' B S h0 h1 hp hc (br (iz_eq (by omega) (by omega) (by decide) (by decide)) (fun _ => go _ (MF.i70 w _) (S.at p1)) (fun e => m_look' B (S.at p1) (by omega) k2 ss hc (brn (iz_eq (by omega) (by omega) (by decide) (by decide)) (fun e2 => by omega) (fun _ => go _ ((MF.i70 w _).trans (MF.i70 _ _)) ((S.at p1).at p1)))))⟩
      have flt : ∀ (pf : Int), 0 ≤ pf → pf ≤ n → ∀ (nn : Nat) (v : Int32) (w3 : Wd) (Q : Int32 → Wd → Prop), gI w3 71 = iz pf → Q v w3 → lp_X3_sum_5 PsM Q (nn + 1) v w3 := by
        intro pf f0 f1 nn v w3 Q e q
        show wl_X3_sum_5 PsM Q _ v w3
        unfold wl_X3_sum_5
        rw [e]
        exact brn (iz_eq (by omega) (by omega) (by decide) (by decide)) (fun _ => q) (fun e2 => by omega)
      rcases ha (p1 + 1) (by omega) (by omega) with ⟨pf, q1, q2, qx, qm⟩ | ⟨p2, f2, q1, q2, qd, qx, qm⟩
      · refine Or.inl ⟨pf, by omega, q2, fun Z0 zh nn hn w0 w Q X s0 f0 U l2 I H S x => ?_, fun nn hn w Q v S x => ?_⟩
        · obtain ⟨nn, rfl⟩ : ∃ j, nn = j + 1 := ⟨nn - 1, by omega⟩
          refine hx Z0 zh nn w0 w Q X s0 f0 U l2 I H S (fun r0 w1 H1 S1 => ?_)
          unfold b_X1_sum_47
          exact qx (Z0 - 1) (by omega) w1 _ X S1 (fun w' g1 g2 g3 => x w' (H1.1.trans g1) g2 (by omega))
        · obtain ⟨nn, rfl⟩ : ∃ j, nn = j + 2 := ⟨nn - 2, by omega⟩
          refine hm' (nn + 1) w Q v S (fun w1 A f1 S1 hA => qm w1 A S1 (fun r2 w3 g1 g2 => hA r2 w3 (flt pf (by omega) q2 nn _ w3 Q g2 (x _ w3 (f1.trans g1) g2))))
      · obtain ⟨k3, k4⟩ := sk_bd t q2
        rcases ih p2 (by omega) (by omega) q2 with ⟨pf, i1, i2, ix, im⟩ | ⟨p', G, i1, i2, id, ix, im⟩
        · refine Or.inl ⟨pf, by omega, i2, fun Z0 zh nn hn w0 w Q X s0 f0 U l2 I H S x => ?_, fun nn hn w Q v S x => ?_⟩
          · obtain ⟨nn, rfl⟩ : ∃ j, nn = j + 1 := ⟨nn - 1, by omega⟩
            refine hx Z0 zh nn w0 w Q X s0 f0 U l2 I H S (fun r0 w1 H1 S1 => ?_)
            unfold b_X1_sum_47
            refine qx (Z0 - 1) (by omega) w1 _ X S1 (fun r1 w2 S2 g1 g2 g3 g4 => ⟨r0, rfl, ?_, H1.add (f := f2) zh (by omega) g1 g2 g3 g4 sg (fun r w5 H5 S5 => x_look' B S5 (by omega) q2 rfl rfl ?_)⟩)
            · obtain ⟨-, -, -, -, h5⟩ := H1.xf g1
              rcases h5 with ⟨e, -⟩ | ⟨r2, e, C, -⟩
              · exact nomatch e
              · obtain rfl := Option.some.inj e
                exact C.r
            · exact ix Z0 zh nn (by omega) w0 _ Q X s0 f0 _ _ _ (H5.xf (XF.i13 _ _)) (S5.at k3) x
          · obtain ⟨nn, rfl⟩ : ∃ j, nn = j + 1 := ⟨nn - 1, by omega⟩
            refine hm' nn w Q v S (fun w1 A f1 S1 hA => qm w1 A S1 (fun w3 g1 g2 => hA _ w3 (im nn (by omega) w3 Q _ g2 (fun v' w' y1 y2 => x v' w' ((f1.trans g1).trans y1) y2))))
        · refine Or.inr ⟨p', (iz c, f2) :: G, by omega, i2, fun g hg => ?_, fun Z0 zh nn hn w0 w Q X s0 f0 U l2 I H S x => ?_, fun nn hn w Q v S x => ?_⟩
          · rcases List.mem_cons.mp hg with e | e
            · rw [e]
              exact qd
            · exact id g e
          · obtain ⟨nn, rfl⟩ : ∃ j, nn = j + 1 := ⟨nn - 1, by omega⟩
            refine hx Z0 zh nn w0 w Q X s0 f0 U l2 I H S (fun r0 w1 H1 S1 => ?_)
            unfold b_X1_sum_47
            refine qx (Z0 - 1) (by omega) w1 _ X S1 (fun r1 w2 S2 g1 g2 g3 g4 => ⟨r0, rfl, ?_, H1.add (f := f2) zh (by omega) g1 g2 g3 g4 sg (fun r w5 H5 S5 => x_look' B S5 (by omega) q2 rfl rfl ?_)⟩)
            · obtain ⟨-, -, -, -, h5⟩ := H1.xf g1
              rcases h5 with ⟨e, -⟩ | ⟨r2, e, C, -⟩
              · exact nomatch e
              · obtain rfl := Option.some.inj e
                exact C.r
            · refine ix Z0 zh nn (by omega) w0 _ Q X s0 f0 _ _ _ (H5.xf (XF.i13 _ _)) (S5.at k3) (fun r' w' Sf y1 y2 y3 y4 => x r' w' Sf y1 y2 y3 ?_)
              have e : (fun e => cf (vls (I ++ [(r, iz c, r1, f2)]) ++ G) e (f0 e)) = (fun e => cf (vls I ++ (iz c, f2) :: G) e (f0 e)) := by
                rw [vls_app, List.append_assoc]
                rfl
              rw [e] at y4
              exact y4
          · obtain ⟨nn, rfl⟩ : ∃ j, nn = j + 1 := ⟨nn - 1, by omega⟩
            refine hm' nn w Q v S (fun w1 A f1 S1 hA => qm w1 A S1 (fun w3 g1 g2 => hA _ w3 (im nn (by omega) w3 Q _ g2 (fun w' y1 y2 => ?_))))
            have := x w' ((f1.trans g1).trans y1) y2
            rw [show gA w3 64 = gA w 64 by rw [g1.2.1, f1.2.1], show gA w1 64 = gA w 64 by rw [f1.2.1]]
            exact this
    · -- the end of the row
      refine Or.inr ⟨p1, [], k1, k2, fun g hg => (nomatch hg), fun Z0 zh nn hn w0 w Q X s0 f0 U l2 I H S x => ?_, fun nn hn w Q v S x => ?_⟩
      · obtain ⟨nn, rfl⟩ : ∃ j, nn = j + 1 := ⟨nn - 1, by omega⟩
        show wl_X1_sum_12 PsX Q X (some s0) _ l2 (iz c) w
        unfold wl_X1_sum_12
        refine br (iz_eq (by omega) (by omega) (by decide) (by decide)) (fun e => absurd (Or.inl e) op) (fun _ => brn (iz_eq (by omega) (by omega) (by decide) (by decide)) (fun _ => ?_) (fun e => absurd (Or.inr e) op))
        refine H.fin (fun r Sf g1 g2 => x r w Sf H.1 S g1 ?_)
        rw [List.append_nil]
        exact g2
      · obtain ⟨nn, rfl⟩ : ∃ j, nn = j + 1 := ⟨nn - 1, by omega⟩
        show wl_X3_sum_5 PsM Q _ v w
        unfold wl_X3_sum_5
        rw [S.2.2.2.2]
        refine ⟨fun e => absurd rfl e, fun _ => m_look' B S h0 h1 hp hc (br (iz_eq (by omega) (by omega) (by decide) (by decide)) (fun e => absurd (Or.inl e) op) (fun _ => m_look' B (S.at p1) (by omega) k2 ss hc (brn (iz_eq (by omega) (by omega) (by decide) (by decide)) (fun _ => ?_) (fun e => absurd (Or.inr e) op))))⟩
        exact x _ ((MF.i70 w _).trans (MF.i70 _ _)) ((S.at p1).at p1)
/-- a row of sums -/
theorem bo_sum {t : Int → Int} {n d : Int} {K : Nat} {PsX : Wd → (Nat → Wd → Prop) → (Wd → Prop) → Prop} {PsM : Wd → (Int32 → Wd → Prop) → Prop} (B : TB t n) (ha : ∀ p, 0 ≤ p → p ≤ n → BoS t n K (wp_X1_term PsX) (wp_X3_term PsM) p d) : ∀ p, 0 ≤ p → p ≤ n → BoS t n (K + 1) (wp_X1_sum PsX) (wp_X3_sum PsM) p d := by
  intro p h0 h1
  have b2 := B.2.1
  rcases ha p h0 h1 with ⟨pf, q1, q2, qx, qm⟩ | ⟨p2, f2, q1, q2, qd, qx, qm⟩
  · refine Or.inl ⟨pf, q1, q2, fun Z0 zh w Q X S x => qx Z0 zh w _ X S x, fun w Q S x => qm w _ S (fun v w' g1 g2 => ⟨1, ?_⟩)⟩
    show wl_X3_sum_5 PsM Q _ v w'
    unfold wl_X3_sum_5
    rw [g2]
    exact brn (iz_eq (by omega) (by omega) (by decide) (by decide)) (fun _ => x v w' g1 g2) (fun e2 => by omega)
  · obtain ⟨k3, k4⟩ := sk_bd t q2
    rcases lo_sum (d := d) B ha (n - p2).toNat p2 (Nat.le_refl _) (by omega) q2 with ⟨pf, i1, i2, ix, im⟩ | ⟨p', G, i1, i2, id, ix, im⟩
    · refine Or.inl ⟨pf, by omega, i2, fun Z0 zh w Q X S x => qx Z0 zh w _ X S (fun r w2 S2 g1 g2 g3 g4 => x_look' B g2 (by omega) q2 rfl rfl ⟨_, ix Z0 zh _ (Nat.le_refl _) w _ Q X r f2 S2 none [] ⟨g1.trans (XF.i13 _ _), g3, g4.xf (XF.i13 _ _), fun x hx => (nomatch hx), Or.inl ⟨rfl, rfl⟩⟩ (g2.at k3) x⟩), fun w Q S x => qm w _ S (fun w' g1 g2 => ⟨_, im _ (Nat.le_refl _) w' Q _ g2 (fun v w'' y1 y2 => x v w'' (g1.trans y1) y2)⟩)⟩
    · refine Or.inr ⟨p', fun e => cf G e (f2 e), by omega, i2, ?_, fun Z0 zh w Q X S x => qx Z0 zh w _ X S (fun r w2 S2 g1 g2 g3 g4 => x_look' B g2 (by omega) q2 rfl rfl ⟨_, ix Z0 zh _ (Nat.le_refl _) w _ Q X r f2 S2 none [] ⟨g1.trans (XF.i13 _ _), g3, g4.xf (XF.i13 _ _), fun x hx => (nomatch hx), Or.inl ⟨rfl, rfl⟩⟩ (g2.at k3) (fun r' w' Sf y1 y2 y3 y4 => x r' w' Sf y1 y2 y3 y4)⟩), fun w Q S x => qm w _ S (fun w' g1 g2 => ⟨_, im _ (Nat.le_refl _) w' Q _ g2 (fun w'' y1 y2 => ?_)⟩)⟩
      · intro e e' he
        have hG : ∀ (G : List (Int32 × (En → Int32))) (v : Int32), (∀ g ∈ G, Dep (Prod.snd g)) → cf G e v = cf G e' v := by
          intro G
          induction G with
          | nil => intro v _; rfl
          | cons g G ihG =>
            intro v hg
            show cf G e (stp g.1 v (g.2 e)) = cf G e' (stp g.1 v (g.2 e'))
            rw [hg g List.mem_cons_self e e' he]
            exact ihG _ (fun y hy => hg y (List.mem_cons_of_mem _ hy))
        show cf G e (f2 e) = cf G e' (f2 e')
        rw [qd e e' he]
        exact hG G _ id
      · have := x w'' (g1.trans y1) y2
        rw [show gA w' 64 = gA w 64 by rw [g1.2.1]]
        exact this
