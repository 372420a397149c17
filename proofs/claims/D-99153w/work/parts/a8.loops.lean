/-! rows of tests, read on both sides (written by gen/tests.py) -/
theorem zok_ex {v : Int32} (h : zok v) : ∃ b, v = bz b := by
  rcases h with rfl | rfl
  · exact ⟨false, rfl⟩
  · exact ⟨true, rfl⟩
theorem m_ar_part {w : Wd} {R : Int32 → Wd → Prop} {b g : Bool} (q : R (bz (if b = true then g else !true)) w) : (bz b = iz 0 → R (iz 0) w) ∧ (¬ bz b = iz 0 → (bz g = iz 0 → R (iz 0) w) ∧ (¬ bz g = iz 0 → R (iz 1) w)) := by
  cases b
  · exact ⟨fun _ => q, fun e => absurd rfl e⟩
  · cases g
    · exact ⟨fun e => absurd e (by decide), fun _ => ⟨fun _ => q, fun e => absurd rfl e⟩⟩
    · exact ⟨fun e => absurd e (by decide), fun _ => ⟨fun e => absurd e (by decide), fun _ => q⟩⟩
theorem m_ar_condition {w : Wd} {R : Int32 → Wd → Prop} {b g : Bool} (q : R (bz (if b = false then g else !false)) w) : (¬ bz b = iz 0 → R (iz 1) w) ∧ (bz b = iz 0 → (bz g = iz 0 → R (iz 0) w) ∧ (¬ bz g = iz 0 → R (iz 1) w)) := by
  cases b
  · cases g
    · exact ⟨fun e => absurd rfl e, fun _ => ⟨fun _ => q, fun e => absurd rfl e⟩⟩
    · exact ⟨fun e => absurd rfl e, fun _ => ⟨fun e => absurd e (by decide), fun _ => q⟩⟩
  · exact ⟨fun _ => q, fun e => absurd e (by decide)⟩
theorem mf_dep (a : Bool) {e e' : En} (he : ∀ c, 0 ≤ sIx 1 c → e c = e' c) : ∀ (G : List (En → Bool)) (b : Bool), (∀ g ∈ G, Dep g) → mf a b G e = mf a b G e'
  | [], _, _ => rfl
  | g :: G, b, h => by
    show mf a (if b = a then g e else !a) G e = mf a (if b = a then g e' else !a) G e'
    rw [h g List.mem_cons_self e e' he]
    exact mf_dep a he G _ (fun y hy => h y (List.mem_cons_of_mem _ hy))
theorem lo_part {t : Int → Int} {n d : Int} {K : Nat} {PuX : Wd → (Nat → Wd → Prop) → (Wd → Prop) → Prop} {PuM : Wd → (Int32 → Wd → Prop) → Prop} (B : TB t n) (hu : ∀ p, 0 ≤ p → p ≤ n → BoT t n K PuX PuM p d) : ∀ (m : Nat) (p : Int), (n - p).toNat ≤ m → 0 ≤ p → p ≤ n →
    (∃ pf, p ≤ pf ∧ pf ≤ n ∧ (∀ (Z0 : Int), Z0 + 600 ≤ 600000 → ∀ (nn : Nat), m + 1 ≤ nn → ∀ (w0 w : Wd) (Q : Nat → Wd → Prop) (X : Wd → Prop) (u1 : Ut) (U : Nat → Prop) (l3 : Option Nat) (I : List Ut), StT K w0 w u1 true U l3 I → XS t n Z0 p d w → (∀ w', XF w0 w' → gI w' 13 = iz pf → (gZ w' : Int) ≤ Z0 + 2 * pf → X w') → lp_X1_part_19 PuX Q X (some u1.1) nn l3 w) ∧ (∀ (nn : Nat), m + 1 ≤ nn → ∀ (w : Wd) (Q : Int32 → Wd → Prop) (b : Bool), MS0 t n p d w → (∀ v w', zok v → MF w w' → gI w' 71 = iz pf → Q v w') → lp_X3_part_18 PuM Q nn (bz b) w)) ∨
    (∃ p' G, p ≤ p' ∧ p' ≤ n ∧ (∀ g ∈ G, Dep g) ∧ (∀ (Z0 : Int), Z0 + 600 ≤ 600000 → ∀ (nn : Nat), m + 1 ≤ nn → ∀ (w0 w : Wd) (Q : Nat → Wd → Prop) (X : Wd → Prop) (u1 : Ut) (U : Nat → Prop) (l3 : Option Nat) (I : List Ut), StT K w0 w u1 true U l3 I → XS t n Z0 p d w → (∀ (r : Nat) (w' : Wd) (S : Nat → Prop) (ci : Nat) (fs : List Value), XF w0 w' → XS t n Z0 p' d w' → gF w0 r = none → gF w' r = some (ci, rv none :: fs) → (∀ q, S q → gF w0 q = none) → DenT (K + 1) S w' r ci fs (fun e => sev true (mns I ++ G) e) → Q r w') → lp_X1_part_19 PuX Q X (some u1.1) nn l3 w) ∧ (∀ (nn : Nat), m + 1 ≤ nn → ∀ (w : Wd) (Q : Int32 → Wd → Prop) (b : Bool), MS0 t n p d w → (∀ w', MF w w' → MS0 t n p' d w' → Q (bz (mf true b G (gA w 64))) w') → lp_X3_part_18 PuM Q nn (bz b) w)) := by
  have b1 := B.1; have b2 := B.2.1
  intro m
  induction m with
  | zero =>
    intro p hm h0 h1
    obtain rfl : p = n := by omega
    have hp : sk t p p = p := sk_n t (by omega)
    have hc : lkc t p p = -1 := if_neg (by omega)
    refine Or.inr ⟨p, [], Int.le_refl _, Int.le_refl _, fun g hg => (nomatch hg), fun Z0 zh nn hn w0 w Q X u1 U l3 I H S x => ?_, fun nn hn w Q b S x => ?_⟩
    · obtain ⟨nn, rfl⟩ : ∃ j, nn = j + 1 := ⟨nn - 1, by omega⟩
      show wl_X1_part_19 PuX Q X (some u1.1) _ l3 w
      unfold wl_X1_part_19
      refine x_look' B S h0 h1 hp hc ⟨fun _ => ?_, fun e => absurd e (by decide)⟩
      refine (H.xf (XF.i13 w (iz p))).fin (fun r Sf ci fs g1 g2 g3 g4 => x r _ Sf ci fs (H.1.trans (XF.i13 w _)) (S.at (Int.le_refl _)) g1 g2 g3 ?_)
      rw [List.append_nil]
      exact g4
    · obtain ⟨nn, rfl⟩ : ∃ j, nn = j + 1 := ⟨nn - 1, by omega⟩
      show wl_X3_part_18 PuM Q _ (bz b) w
      unfold wl_X3_part_18
      rw [S.2.2.2.2]
      exact ⟨fun e => absurd rfl e, fun _ => m_look' B S h0 h1 hp hc ⟨fun _ => ⟨zok_bz b, x _ (MF.i70 w _) (S.at p)⟩, fun e => absurd e (by decide)⟩⟩
  | succ m ih =>
    intro p hm h0 h1
    obtain ⟨k1, k2⟩ := sk_bd t h1
    generalize hp : sk t n p = p1 at k1 k2
    have cb := lkc_bd (t := t) (n := n) p1
    generalize hc : lkc t n p1 = c at cb
    by_cases op : c = 38
    · subst op
      have pin := lkc_in hc (by omega)
      have hx : ∀ (Z0 : Int), Z0 + 600 ≤ 600000 → ∀ (nn : Nat) (w0 w : Wd) (Q : Nat → Wd → Prop) (X : Wd → Prop) (u1 : Ut) (U : Nat → Prop) (l3 : Option Nat) (I : List Ut), StT K w0 w u1 true U l3 I → XS t n Z0 p d w → (∀ (r0 : Nat) (w1 : Wd), StT K w0 w1 u1 true U (some r0) I → XS t n Z0 (p1 + 1) d w1 → b_X1_part_52 PuX Q X (lp_X1_part_19 PuX Q X (some u1.1) nn) (some u1.1) (some r0) w1) → lp_X1_part_19 PuX Q X (some u1.1) (nn + 1) l3 w := by
        intro Z0 zh nn w0 w Q X u1 U l3 I H S x
        show wl_X1_part_19 PuX Q X (some u1.1) _ l3 w
        unfold wl_X1_part_19
        refine x_look' B S h0 h1 hp hc ⟨fun e => absurd rfl e, fun _ => ?_⟩
        rintro w1 rfl
        have z0 := S.z
        rw [(S.at k1).2.2.1, iz_add, sI_sI]
        have H1 := H.xf (XF.i13 w (iz (p1 + 1)))
        have S1 := S.at (p' := p1 + 1) (by omega)
        have zz : gZ (sI w 13 (iz (p1 + 1))) = gZ w := rfl
        generalize sI w 13 (iz (p1 + 1)) = w1 at H1 S1 zz
        refine ⟨fun i e => ?_, fun e => ?_⟩
        · subst e
          exact x i w1 H1 S1
        · subst e
          exact H1.new zh (by omega) S1 (by omega) (fun r w' g1 g2 => x r w' g1 g2)
      have hm' : ∀ (nn : Nat) (w : Wd) (Q : Int32 → Wd → Prop) (b : Bool), MS0 t n p d w → (∀ (w1 : Wd) (A : Int32 → Wd → Prop), MF w w1 → MS0 t n (p1 + 1) d w1 → (∀ g w3, lp_X3_part_18 PuM Q nn (bz (if b = true then g else !true)) w3 → A (bz g) w3) → PuM w1 A) → lp_X3_part_18 PuM Q (nn + 1) (bz b) w := by
        intro nn w Q b S x
        show wl_X3_part_18 PuM Q _ (bz b) w
        unfold wl_X3_part_18
        rw [S.2.2.2.2]
        refine ⟨fun e => absurd rfl e, fun _ => m_look' B S h0 h1 hp hc ⟨fun e => absurd rfl e, fun _ => ?_⟩⟩
        rintro w3 rfl
        rw [(S.at p1).2.2.1, iz_add, sI_sI]
        exact x _ _ (MF.i70 w _) (S.at (p1 + 1)) (fun g w3 hr => m_ar_part hr)
      have flt : ∀ (pf : Int), 0 ≤ pf → pf ≤ n → ∀ (nn : Nat) (b : Bool) (w3 : Wd) (Q : Int32 → Wd → Prop), gI w3 71 = iz pf → Q (bz b) w3 → lp_X3_part_18 PuM Q (nn + 1) (bz b) w3 := by
        intro pf f0 f1 nn b w3 Q e q
        show wl_X3_part_18 PuM Q _ (bz b) w3
        unfold wl_X3_part_18
        rw [e]
        exact brn (iz_eq (by omega) (by omega) (by decide) (by decide)) (fun _ => ⟨zok_bz b, q⟩) (fun e2 => by omega)
      rcases hu (p1 + 1) (by omega) (by omega) with ⟨pf, q1, q2, qx, qm⟩ | ⟨p2, f2, q1, q2, qd, qx, qm⟩
      · refine Or.inl ⟨pf, by omega, q2, fun Z0 zh nn hn w0 w Q X u1 U l3 I H S x => ?_, fun nn hn w Q b S x => ?_⟩
        · obtain ⟨nn, rfl⟩ : ∃ j, nn = j + 1 := ⟨nn - 1, by omega⟩
          refine hx Z0 zh nn w0 w Q X u1 U l3 I H S (fun r0 w1 H1 S1 => ?_)
          unfold b_X1_part_52
          exact qx Z0 zh w1 _ X S1 (fun w' g1 g2 g3 => x w' (H1.1.trans g1) g2 g3)
        · obtain ⟨nn, rfl⟩ : ∃ j, nn = j + 2 := ⟨nn - 2, by omega⟩
          refine hm' (nn + 1) w Q b S (fun w1 A f1 S1 hA => qm w1 A S1 (fun v w3 zv g1 g2 => ?_))
          obtain ⟨g, rfl⟩ := zok_ex zv
          exact hA g w3 (flt pf (by omega) q2 nn _ w3 Q g2 (x _ w3 (zok_bz _) (f1.trans g1) g2))
      · have addx : ∀ (Z0 : Int), Z0 + 600 ≤ 600000 → ∀ (nn : Nat) (w0 w : Wd) (Q : Nat → Wd → Prop) (X : Wd → Prop) (u1 : Ut) (U : Nat → Prop) (l3 : Option Nat) (I : List Ut), StT K w0 w u1 true U l3 I → XS t n Z0 p d w → (∀ (r0 r1 ci : Nat) (fs : List Value) (U2 : Nat → Prop) (w5 : Wd), StT K w0 w5 u1 true U2 (some r0) (I ++ [(r1, ci, fs, f2)]) → XS t n Z0 p2 d w5 → lp_X1_part_19 PuX Q X (some u1.1) nn (some r0) w5) → lp_X1_part_19 PuX Q X (some u1.1) (nn + 1) l3 w := by
          intro Z0 zh nn w0 w Q X u1 U l3 I H S x
          refine hx Z0 zh nn w0 w Q X u1 U l3 I H S (fun r0 w1 H1 S1 => ?_)
          unfold b_X1_part_52
          refine qx Z0 zh w1 _ X S1 (fun r1 w2 S2 ci fs g1 g2 g3 g4 g5 g6 => ⟨r0, rfl, ?_, H1.add (f := f2) g1 g2 g3 g4 g5 g6 (fun w5 H5 S5 => x r0 r1 ci fs _ w5 H5 S5)⟩)
          obtain ⟨-, -, -, h5⟩ := H1.xf g1
          rcases h5 with ⟨e, -⟩ | ⟨r2, e, C, -⟩
          · exact nomatch e
          · obtain rfl := Option.some.inj e
            obtain ⟨hd, tl, y, -⟩ := C.seg
            exact ⟨_, y⟩
        rcases ih p2 (by omega) (by omega) q2 with ⟨pf, i1, i2, ix, im⟩ | ⟨p', G, i1, i2, id, ix, im⟩
        · refine Or.inl ⟨pf, by omega, i2, fun Z0 zh nn hn w0 w Q X u1 U l3 I H S x => ?_, fun nn hn w Q b S x => ?_⟩
          · obtain ⟨nn, rfl⟩ : ∃ j, nn = j + 1 := ⟨nn - 1, by omega⟩
            exact addx Z0 zh nn w0 w Q X u1 U l3 I H S (fun r0 r1 ci fs U2 w5 H5 S5 => ix Z0 zh nn (by omega) w0 w5 Q X u1 U2 _ _ H5 S5 x)
          · obtain ⟨nn, rfl⟩ : ∃ j, nn = j + 1 := ⟨nn - 1, by omega⟩
            exact hm' nn w Q b S (fun w1 A f1 S1 hA => qm w1 A S1 (fun w3 g1 g2 => hA _ w3 (im nn (by omega) w3 Q _ g2 (fun v' w' zv y1 y2 => x v' w' zv ((f1.trans g1).trans y1) y2))))
        · refine Or.inr ⟨p', f2 :: G, by omega, i2, fun g hg => ?_, fun Z0 zh nn hn w0 w Q X u1 U l3 I H S x => ?_, fun nn hn w Q b S x => ?_⟩
          · rcases List.mem_cons.mp hg with e | e
            · rw [e]
              exact qd
            · exact id g e
          · obtain ⟨nn, rfl⟩ : ∃ j, nn = j + 1 := ⟨nn - 1, by omega⟩
            refine addx Z0 zh nn w0 w Q X u1 U l3 I H S (fun r0 r1 ci fs U2 w5 H5 S5 => ix Z0 zh nn (by omega) w0 w5 Q X u1 U2 _ _ H5 S5 (fun r' w' Sf ci' fs' y1 y2 y3 y4 y5 y6 => x r' w' Sf ci' fs' y1 y2 y3 y4 y5 ?_))
            have e : (fun e => sev true (mns (I ++ [(r1, ci, fs, f2)]) ++ G) e) = (fun e => sev true (mns I ++ f2 :: G) e) := by
              unfold mns
              rw [List.map_append, List.append_assoc]
              rfl
            rw [e] at y6
            exact y6
          · obtain ⟨nn, rfl⟩ : ∃ j, nn = j + 1 := ⟨nn - 1, by omega⟩
            refine hm' nn w Q b S (fun w1 A f1 S1 hA => qm w1 A S1 (fun w3 g1 g2 => hA _ w3 (im nn (by omega) w3 Q _ g2 (fun w' y1 y2 => ?_))))
            have := x w' ((f1.trans g1).trans y1) y2
            rw [show gA w3 64 = gA w 64 by rw [g1.2.1, f1.2.1], show gA w1 64 = gA w 64 by rw [f1.2.1]]
            exact this
    · refine Or.inr ⟨p1, [], k1, k2, fun g hg => (nomatch hg), fun Z0 zh nn hn w0 w Q X u1 U l3 I H S x => ?_, fun nn hn w Q b S x => ?_⟩
      · obtain ⟨nn, rfl⟩ : ∃ j, nn = j + 1 := ⟨nn - 1, by omega⟩
        show wl_X1_part_19 PuX Q X (some u1.1) _ l3 w
        unfold wl_X1_part_19
        refine x_look' B S h0 h1 hp hc (brn (iz_eq (by omega) (by omega) (by decide) (by decide)) (fun _ => ?_) (fun e => absurd e op))
        refine (H.xf (XF.i13 w (iz p1))).fin (fun r Sf ci fs g1 g2 g3 g4 => x r _ Sf ci fs (H.1.trans (XF.i13 w _)) (S.at k1) g1 g2 g3 ?_)
        rw [List.append_nil]
        exact g4
      · obtain ⟨nn, rfl⟩ : ∃ j, nn = j + 1 := ⟨nn - 1, by omega⟩
        show wl_X3_part_18 PuM Q _ (bz b) w
        unfold wl_X3_part_18
        rw [S.2.2.2.2]
        exact ⟨fun e => absurd rfl e, fun _ => m_look' B S h0 h1 hp hc (brn (iz_eq (by omega) (by omega) (by decide) (by decide)) (fun _ => ⟨zok_bz b, x _ (MF.i70 w _) (S.at p1)⟩) (fun e => absurd e op))⟩
theorem lo_condition {t : Int → Int} {n d : Int} {K : Nat} {PuX : Wd → (Nat → Wd → Prop) → (Wd → Prop) → Prop} {PuM : Wd → (Int32 → Wd → Prop) → Prop} (B : TB t n) (hu : ∀ p, 0 ≤ p → p ≤ n → BoT t n K (wp_X1_part PuX none) (wp_X3_part PuM (iz 0) (iz 0)) p d) : ∀ (m : Nat) (p : Int), (n - p).toNat ≤ m → 0 ≤ p → p ≤ n →
    (∃ pf, p ≤ pf ∧ pf ≤ n ∧ (∀ (Z0 : Int), Z0 + 600 ≤ 600000 → ∀ (nn : Nat), m + 1 ≤ nn → ∀ (w0 w : Wd) (Q : Nat → Wd → Prop) (X : Wd → Prop) (u1 : Ut) (U : Nat → Prop) (l3 : Option Nat) (I : List Ut), StT K w0 w u1 false U l3 I → XS t n Z0 p d w → (∀ w', XF w0 w' → gI w' 13 = iz pf → (gZ w' : Int) ≤ Z0 + 2 * pf → X w') → lp_X1_condition_8 PuX Q X (some u1.1) nn l3 w) ∧ (∀ (nn : Nat), m + 1 ≤ nn → ∀ (w : Wd) (Q : Int32 → Wd → Prop) (b : Bool), MS0 t n p d w → (∀ v w', zok v → MF w w' → gI w' 71 = iz pf → Q v w') → lp_X3_condition_7 PuM Q nn (bz b) w)) ∨
    (∃ p' G, p ≤ p' ∧ p' ≤ n ∧ (∀ g ∈ G, Dep g) ∧ (∀ (Z0 : Int), Z0 + 600 ≤ 600000 → ∀ (nn : Nat), m + 1 ≤ nn → ∀ (w0 w : Wd) (Q : Nat → Wd → Prop) (X : Wd → Prop) (u1 : Ut) (U : Nat → Prop) (l3 : Option Nat) (I : List Ut), StT K w0 w u1 false U l3 I → XS t n Z0 p d w → (∀ (r : Nat) (w' : Wd) (S : Nat → Prop) (ci : Nat) (fs : List Value), XF w0 w' → XS t n Z0 p' d w' → gF w0 r = none → gF w' r = some (ci, rv none :: fs) → (∀ q, S q → gF w0 q = none) → DenT (K + 1) S w' r ci fs (fun e => sev false (mns I ++ G) e) → Q r w') → lp_X1_condition_8 PuX Q X (some u1.1) nn l3 w) ∧ (∀ (nn : Nat), m + 1 ≤ nn → ∀ (w : Wd) (Q : Int32 → Wd → Prop) (b : Bool), MS0 t n p d w → (∀ w', MF w w' → MS0 t n p' d w' → Q (bz (mf false b G (gA w 64))) w') → lp_X3_condition_7 PuM Q nn (bz b) w)) := by
  have b1 := B.1; have b2 := B.2.1
  intro m
  induction m with
  | zero =>
    intro p hm h0 h1
    obtain rfl : p = n := by omega
    have hp : sk t p p = p := sk_n t (by omega)
    have hc : lkc t p p = -1 := if_neg (by omega)
    refine Or.inr ⟨p, [], Int.le_refl _, Int.le_refl _, fun g hg => (nomatch hg), fun Z0 zh nn hn w0 w Q X u1 U l3 I H S x => ?_, fun nn hn w Q b S x => ?_⟩
    · obtain ⟨nn, rfl⟩ : ∃ j, nn = j + 1 := ⟨nn - 1, by omega⟩
      show wl_X1_condition_8 PuX Q X (some u1.1) _ l3 w
      unfold wl_X1_condition_8
      refine x_look' B S h0 h1 hp hc ⟨fun _ => ?_, fun e => absurd e (by decide)⟩
      refine (H.xf (XF.i13 w (iz p))).fin (fun r Sf ci fs g1 g2 g3 g4 => x r _ Sf ci fs (H.1.trans (XF.i13 w _)) (S.at (Int.le_refl _)) g1 g2 g3 ?_)
      rw [List.append_nil]
      exact g4
    · obtain ⟨nn, rfl⟩ : ∃ j, nn = j + 1 := ⟨nn - 1, by omega⟩
      show wl_X3_condition_7 PuM Q _ (bz b) w
      unfold wl_X3_condition_7
      rw [S.2.2.2.2]
      exact ⟨fun e => absurd rfl e, fun _ => m_look' B S h0 h1 hp hc ⟨fun _ => ⟨zok_bz b, x _ (MF.i70 w _) (S.at p)⟩, fun e => absurd e (by decide)⟩⟩
  | succ m ih =>
    intro p hm h0 h1
    obtain ⟨k1, k2⟩ := sk_bd t h1
    generalize hp : sk t n p = p1 at k1 k2
    have cb := lkc_bd (t := t) (n := n) p1
    generalize hc : lkc t n p1 = c at cb
    by_cases op : c = 124
    · subst op
      have pin := lkc_in hc (by omega)
      have hx : ∀ (Z0 : Int), Z0 + 600 ≤ 600000 → ∀ (nn : Nat) (w0 w : Wd) (Q : Nat → Wd → Prop) (X : Wd → Prop) (u1 : Ut) (U : Nat → Prop) (l3 : Option Nat) (I : List Ut), StT K w0 w u1 false U l3 I → XS t n Z0 p d w → (∀ (r0 : Nat) (w1 : Wd), StT K w0 w1 u1 false U (some r0) I → XS t n Z0 (p1 + 1) d w1 → b_X1_condition_41 PuX Q X (lp_X1_condition_8 PuX Q X (some u1.1) nn) (some u1.1) (some r0) w1) → lp_X1_condition_8 PuX Q X (some u1.1) (nn + 1) l3 w := by
        intro Z0 zh nn w0 w Q X u1 U l3 I H S x
        show wl_X1_condition_8 PuX Q X (some u1.1) _ l3 w
        unfold wl_X1_condition_8
        refine x_look' B S h0 h1 hp hc ⟨fun e => absurd rfl e, fun _ => ?_⟩
        rintro w1 rfl
        have z0 := S.z
        rw [(S.at k1).2.2.1, iz_add, sI_sI]
        have H1 := H.xf (XF.i13 w (iz (p1 + 1)))
        have S1 := S.at (p' := p1 + 1) (by omega)
        have zz : gZ (sI w 13 (iz (p1 + 1))) = gZ w := rfl
        generalize sI w 13 (iz (p1 + 1)) = w1 at H1 S1 zz
        refine ⟨fun i e => ?_, fun e => ?_⟩
        · subst e
          exact x i w1 H1 S1
        · subst e
          exact H1.new zh (by omega) S1 (by omega) (fun r w' g1 g2 => x r w' g1 g2)
      have hm' : ∀ (nn : Nat) (w : Wd) (Q : Int32 → Wd → Prop) (b : Bool), MS0 t n p d w → (∀ (w1 : Wd) (A : Int32 → Wd → Prop), MF w w1 → MS0 t n (p1 + 1) d w1 → (∀ g w3, lp_X3_condition_7 PuM Q nn (bz (if b = false then g else !false)) w3 → A (bz g) w3) → (wp_X3_part PuM (iz 0) (iz 0)) w1 A) → lp_X3_condition_7 PuM Q (nn + 1) (bz b) w := by
        intro nn w Q b S x
        show wl_X3_condition_7 PuM Q _ (bz b) w
        unfold wl_X3_condition_7
        rw [S.2.2.2.2]
        refine ⟨fun e => absurd rfl e, fun _ => m_look' B S h0 h1 hp hc ⟨fun e => absurd rfl e, fun _ => ?_⟩⟩
        rintro w3 rfl
        rw [(S.at p1).2.2.1, iz_add, sI_sI]
        exact x _ _ (MF.i70 w _) (S.at (p1 + 1)) (fun g w3 hr => m_ar_condition hr)
      have flt : ∀ (pf : Int), 0 ≤ pf → pf ≤ n → ∀ (nn : Nat) (b : Bool) (w3 : Wd) (Q : Int32 → Wd → Prop), gI w3 71 = iz pf → Q (bz b) w3 → lp_X3_condition_7 PuM Q (nn + 1) (bz b) w3 := by
        intro pf f0 f1 nn b w3 Q e q
        show wl_X3_condition_7 PuM Q _ (bz b) w3
        unfold wl_X3_condition_7
        rw [e]
        exact brn (iz_eq (by omega) (by omega) (by decide) (by decide)) (fun _ => ⟨zok_bz b, q⟩) (fun e2 => by omega)
      rcases hu (p1 + 1) (by omega) (by omega) with ⟨pf, q1, q2, qx, qm⟩ | ⟨p2, f2, q1, q2, qd, qx, qm⟩
      · refine Or.inl ⟨pf, by omega, q2, fun Z0 zh nn hn w0 w Q X u1 U l3 I H S x => ?_, fun nn hn w Q b S x => ?_⟩
        · obtain ⟨nn, rfl⟩ : ∃ j, nn = j + 1 := ⟨nn - 1, by omega⟩
          refine hx Z0 zh nn w0 w Q X u1 U l3 I H S (fun r0 w1 H1 S1 => ?_)
          unfold b_X1_condition_41
          exact qx Z0 zh w1 _ X S1 (fun w' g1 g2 g3 => x w' (H1.1.trans g1) g2 g3)
        · obtain ⟨nn, rfl⟩ : ∃ j, nn = j + 2 := ⟨nn - 2, by omega⟩
          refine hm' (nn + 1) w Q b S (fun w1 A f1 S1 hA => qm w1 A S1 (fun v w3 zv g1 g2 => ?_))
          obtain ⟨g, rfl⟩ := zok_ex zv
          exact hA g w3 (flt pf (by omega) q2 nn _ w3 Q g2 (x _ w3 (zok_bz _) (f1.trans g1) g2))
      · have addx : ∀ (Z0 : Int), Z0 + 600 ≤ 600000 → ∀ (nn : Nat) (w0 w : Wd) (Q : Nat → Wd → Prop) (X : Wd → Prop) (u1 : Ut) (U : Nat → Prop) (l3 : Option Nat) (I : List Ut), StT K w0 w u1 false U l3 I → XS t n Z0 p d w → (∀ (r0 r1 ci : Nat) (fs : List Value) (U2 : Nat → Prop) (w5 : Wd), StT K w0 w5 u1 false U2 (some r0) (I ++ [(r1, ci, fs, f2)]) → XS t n Z0 p2 d w5 → lp_X1_condition_8 PuX Q X (some u1.1) nn (some r0) w5) → lp_X1_condition_8 PuX Q X (some u1.1) (nn + 1) l3 w := by
          intro Z0 zh nn w0 w Q X u1 U l3 I H S x
          refine hx Z0 zh nn w0 w Q X u1 U l3 I H S (fun r0 w1 H1 S1 => ?_)
          unfold b_X1_condition_41
          refine qx Z0 zh w1 _ X S1 (fun r1 w2 S2 ci fs g1 g2 g3 g4 g5 g6 => ⟨r0, rfl, ?_, H1.add (f := f2) g1 g2 g3 g4 g5 g6 (fun w5 H5 S5 => x r0 r1 ci fs _ w5 H5 S5)⟩)
          obtain ⟨-, -, -, h5⟩ := H1.xf g1
          rcases h5 with ⟨e, -⟩ | ⟨r2, e, C, -⟩
          · exact nomatch e
          · obtain rfl := Option.some.inj e
            obtain ⟨hd, tl, y, -⟩ := C.seg
            exact ⟨_, y⟩
        rcases ih p2 (by omega) (by omega) q2 with ⟨pf, i1, i2, ix, im⟩ | ⟨p', G, i1, i2, id, ix, im⟩
        · refine Or.inl ⟨pf, by omega, i2, fun Z0 zh nn hn w0 w Q X u1 U l3 I H S x => ?_, fun nn hn w Q b S x => ?_⟩
          · obtain ⟨nn, rfl⟩ : ∃ j, nn = j + 1 := ⟨nn - 1, by omega⟩
            exact addx Z0 zh nn w0 w Q X u1 U l3 I H S (fun r0 r1 ci fs U2 w5 H5 S5 => ix Z0 zh nn (by omega) w0 w5 Q X u1 U2 _ _ H5 S5 x)
          · obtain ⟨nn, rfl⟩ : ∃ j, nn = j + 1 := ⟨nn - 1, by omega⟩
            exact hm' nn w Q b S (fun w1 A f1 S1 hA => qm w1 A S1 (fun w3 g1 g2 => hA _ w3 (im nn (by omega) w3 Q _ g2 (fun v' w' zv y1 y2 => x v' w' zv ((f1.trans g1).trans y1) y2))))
        · refine Or.inr ⟨p', f2 :: G, by omega, i2, fun g hg => ?_, fun Z0 zh nn hn w0 w Q X u1 U l3 I H S x => ?_, fun nn hn w Q b S x => ?_⟩
          · rcases List.mem_cons.mp hg with e | e
            · rw [e]
              exact qd
            · exact id g e
          · obtain ⟨nn, rfl⟩ : ∃ j, nn = j + 1 := ⟨nn - 1, by omega⟩
            refine addx Z0 zh nn w0 w Q X u1 U l3 I H S (fun r0 r1 ci fs U2 w5 H5 S5 => ix Z0 zh nn (by omega) w0 w5 Q X u1 U2 _ _ H5 S5 (fun r' w' Sf ci' fs' y1 y2 y3 y4 y5 y6 => x r' w' Sf ci' fs' y1 y2 y3 y4 y5 ?_))
            have e : (fun e => sev false (mns (I ++ [(r1, ci, fs, f2)]) ++ G) e) = (fun e => sev false (mns I ++ f2 :: G) e) := by
              unfold mns
              rw [List.map_append, List.append_assoc]
              rfl
            rw [e] at y6
            exact y6
          · obtain ⟨nn, rfl⟩ : ∃ j, nn = j + 1 := ⟨nn - 1, by omega⟩
            refine hm' nn w Q b S (fun w1 A f1 S1 hA => qm w1 A S1 (fun w3 g1 g2 => hA _ w3 (im nn (by omega) w3 Q _ g2 (fun w' y1 y2 => ?_))))
            have := x w' ((f1.trans g1).trans y1) y2
            rw [show gA w3 64 = gA w 64 by rw [g1.2.1, f1.2.1], show gA w1 64 = gA w 64 by rw [f1.2.1]]
            exact this
    · refine Or.inr ⟨p1, [], k1, k2, fun g hg => (nomatch hg), fun Z0 zh nn hn w0 w Q X u1 U l3 I H S x => ?_, fun nn hn w Q b S x => ?_⟩
      · obtain ⟨nn, rfl⟩ : ∃ j, nn = j + 1 := ⟨nn - 1, by omega⟩
        show wl_X1_condition_8 PuX Q X (some u1.1) _ l3 w
        unfold wl_X1_condition_8
        refine x_look' B S h0 h1 hp hc (brn (iz_eq (by omega) (by omega) (by decide) (by decide)) (fun _ => ?_) (fun e => absurd e op))
        refine (H.xf (XF.i13 w (iz p1))).fin (fun r Sf ci fs g1 g2 g3 g4 => x r _ Sf ci fs (H.1.trans (XF.i13 w _)) (S.at k1) g1 g2 g3 ?_)
        rw [List.append_nil]
        exact g4
      · obtain ⟨nn, rfl⟩ : ∃ j, nn = j + 1 := ⟨nn - 1, by omega⟩
        show wl_X3_condition_7 PuM Q _ (bz b) w
        unfold wl_X3_condition_7
        rw [S.2.2.2.2]
        exact ⟨fun e => absurd rfl e, fun _ => m_look' B S h0 h1 hp hc (brn (iz_eq (by omega) (by omega) (by decide) (by decide)) (fun _ => ⟨zok_bz b, x _ (MF.i70 w _) (S.at p1)⟩) (fun e => absurd e op))⟩
