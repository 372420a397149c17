/-! an atom, read on both sides -/
theorem sIx1 {c : Int} (h : 0 ≤ sIx 1 c) : c = 97 ∨ c = 111 ∨ c = 110 ∨ c = 121 ∨ c = 107 ∨ c = 109 := by
  have h : 0 ≤ pIx [97, 111, 110, 121, 107, 109] c 0 := h
  simp only [pIx] at h
  repeat' split at h
  all_goals omega
theorem sIx_or (i : Nat) (c : Int) : 0 ≤ sIx i c ∨ sIx i c = -1 := by
  have := pIx_lt (sTx.getD i []) c 0 (by decide)
  unfold sIx
  omega
section A2
variable {t : Int → Int} {n Z0 p d : Int} {w : Wd}
theorem x_look' {Q : Int32 → Wd → Prop} (B : TB t n) (S : XS t n Z0 p d w) (h0 : 0 ≤ p) (h1 : p ≤ n) {p1 c : Int} (hp : sk t n p = p1) (hc : lkc t n p1 = c) (q : Q (iz c) (sI w 13 (iz p1))) : wp_X1_look w Q := x_look B S h0 h1 (by rw [hp, hc]; exact q)
theorem m_look' {Q : Int32 → Wd → Prop} (B : TB t n) (S : MS0 t n p d w) (h0 : 0 ≤ p) (h1 : p ≤ n) {p1 c : Int} (hp : sk t n p = p1) (hc : lkc t n p1 = c) (q : Q (iz c) (sI w 70 (iz p1))) : wp_X3_look w Q := m_look B S h0 h1 (by rw [hp, hc]; exact q)
theorem DenS.i {K : Nat} {S : Nat → Prop} {r : Nat} {f : En → Int32} (D : DenS K S w r f) (k : Nat) (v : Int32) : DenS K S (sI w k v) r f := D.on (Nat.le_refl _) (fun _ h => h) D.1 (fun _ _ => rfl)
theorem lkc_in {c : Int} (h : lkc t n p = c) (hc : 0 ≤ c) : p < n := by
  unfold lkc at h
  by_cases e : p < n
  · exact e
  · rw [if_neg e] at h
    omega
/-- the next place, so deep -/
theorem XS.mv (S : XS t n Z0 p d w) {p' d' : Int} (h : p ≤ p') : XS t n Z0 p' d' (sI (sI w 14 (iz d')) 13 (iz p')) := by
  obtain ⟨s1, s2, s3, s4, s5⟩ := S
  refine ⟨by rw [gI_sI, if_neg (by decide), gI_sI, if_neg (by decide)]; exact s1, s2, by rw [gI_sI, if_pos rfl], by rw [gI_sI, if_neg (by decide), gI_sI, if_pos rfl], ?_⟩
  show (gZ w : Int) ≤ _
  omega
theorem XS.mv2 (S : XS t n Z0 p d w) {p' d' : Int} (h : p ≤ p') : XS t n Z0 p' d' (sI (sI w 13 (iz p')) 14 (iz d')) := by
  obtain ⟨s1, s2, s3, s4, s5⟩ := S
  refine ⟨by rw [gI_sI, if_neg (by decide), gI_sI, if_neg (by decide)]; exact s1, s2, by rw [gI_sI, if_neg (by decide), gI_sI, if_pos rfl], by rw [gI_sI, if_pos rfl], ?_⟩
  show (gZ w : Int) ≤ _
  omega
theorem MS0.dp (S : MS0 t n p d w) (d' : Int) : MS0 t n p d' (sI w 72 (iz d')) := by
  obtain ⟨s1, ⟨b0, s2, s3, s4, s5, s6⟩, s7, s8, s9⟩ := S
  exact ⟨by rw [gI_sI, if_neg (by decide)]; exact s1, ⟨b0, s2, s3, s4, by rw [gI_sI, if_neg (by decide)]; exact s5, s6⟩, by rw [gI_sI, if_neg (by decide)]; exact s7, by rw [gI_sI, if_pos rfl], by rw [gI_sI, if_neg (by decide)]; exact s9⟩
theorem x_const {Q : Nat → Wd → Prop} {w0 : Wd} {v : Int32} {K : Nat} (zh : Z0 + 600 ≤ 600000) (B : TB t n) (h1 : p ≤ n) (S : XS t n Z0 p d w) (z1 : (gZ w : Int) + 1 ≤ Z0 + 2 * p) (hK : 1 ≤ K) (f : XF w0 w) (q : ∀ (r : Nat) (w' : Wd) (S : Nat → Prop), XF w0 w' → XS t n Z0 p d w' → (∀ q, S q → gF w0 q = none) → DenS K S w' r (fun _ => v) → Q r w') : CN v w Q := by
  have b2 := B.2.1
  refine ⟨by show gZ w + 1 ≤ 600000; omega, fun r hr hn => ?_⟩
  rintro w2 rfl
  have h0 := f.fresh hn
  refine ⟨[.int 0], by rw [gF_sZ, gF_sF, if_pos rfl], by decide, ?_⟩
  rintro w4 rfl
  obtain ⟨s1, s2, s3, s4, s5⟩ := S
  refine q r _ (fun x => x = r) (((f.sF h0 _).sZ (Nat.le_succ _)).sF h0 _) ⟨s1, s2, s3, s4, ?_⟩ (fun x hx => by rw [hx]; exact h0) ⟨fun x hx => ?_, fun w' hw k hk Q' q' => ?_⟩
  · show ((gZ w + 1 : Nat) : Int) ≤ _
    omega
  · rw [gF_sF, if_pos hx]
    exact fun z => nomatch z
  · have e := hw r rfl
    rw [gF_sF, if_pos rfl] at e
    obtain ⟨k, rfl⟩ : ∃ j, k = j + 1 := ⟨k - 1, by omega⟩
    exact Or.inr (Or.inl ⟨_, e, v, ⟨_, e, rfl⟩, q'⟩)
theorem x_letter {Q : Nat → Wd → Prop} {w0 : Wd} {c : Int} {K : Nat} (zh : Z0 + 600 ≤ 600000) (B : TB t n) (h1 : p ≤ n) (S : XS t n Z0 p d w) (z1 : (gZ w : Int) + 1 ≤ Z0 + 2 * p) (hK : 1 ≤ K) (hc : 0 ≤ c ∧ c < 128) (f : XF w0 w) (q : ∀ (r : Nat) (w' : Wd) (S : Nat → Prop), XF w0 w' → XS t n Z0 p d w' → (∀ q, S q → gF w0 q = none) → DenS K S w' r (fun e => e c) → Q r w') : gZ w + 1 ≤ CM ∧ (∀ r6, 200 ≤ r6 → gF w r6 = none → ∀ w7, w7 = sZ (sF w r6 (2, [.int 0])) (gZ w + 1) → wp_X5_init r6 (iz c) w7 (fun w9 => Q r6 w9)) := by
  have b2 := B.2.1
  refine ⟨by show gZ w + 1 ≤ 600000; omega, fun r hr hn => ?_⟩
  rintro w2 rfl
  have h0 := f.fresh hn
  refine ⟨[.int 0], by rw [gF_sZ, gF_sF, if_pos rfl], by decide, ?_⟩
  rintro w4 rfl
  obtain ⟨s1, s2, s3, s4, s5⟩ := S
  refine q r _ (fun x => x = r) (((f.sF h0 _).sZ (Nat.le_succ _)).sF h0 _) ⟨s1, s2, s3, s4, ?_⟩ (fun x hx => by rw [hx]; exact h0) ⟨fun x hx => ?_, fun w' hw k hk Q' q' => ?_⟩
  · show ((gZ w + 1 : Nat) : Int) ≤ _
    omega
  · rw [gF_sF, if_pos hx]
    exact fun z => nomatch z
  · have e := hw r rfl
    rw [gF_sF, if_pos rfl] at e
    obtain ⟨k, rfl⟩ : ∃ j, k = j + 1 := ⟨k - 1, by omega⟩
    refine Or.inl ⟨_, e, iz c, ⟨_, e, rfl⟩, ⟨_, _, ar_15, iz_inb hc.1 (by omega) (by omega)⟩, ?_⟩
    rw [iz_toInt (by omega) (by omega)]
    exact q'
theorem bo_atom {K : Nat} {PsX : Wd → (Nat → Wd → Prop) → (Wd → Prop) → Prop} {PsM : Wd → (Int32 → Wd → Prop) → Prop} (B : TB t n) (h0 : 0 ≤ p) (h1 : p ≤ n) (d0 : 0 ≤ d) (d6 : d ≤ 6) (hK : 1 ≤ K) (hs : d < 6 → ∀ p, 0 ≤ p → p ≤ n → BoS t n K PsX PsM p (d + 1)) : BoS t n K (wp_X1_atom PsX) (wp_X3_atom PsM) p d := by
  have b1 := B.1; have b2 := B.2.1
  obtain ⟨k1, k2⟩ := sk_bd t h1
  generalize hp : sk t n p = p1 at k1 k2
  have cb := lkc_bd (t := t) (n := n) p1
  generalize hc : lkc t n p1 = c at cb
  by_cases c91 : c = 91
  · subst c91
    have pin := lkc_in hc (by decide)
    have s91 : ¬ 0 ≤ sIx 1 91 := by decide
    by_cases dd6 : d = 6
    · subst dd6
      refine Or.inl ⟨p1, k1, k2, fun Z0 zh w Q X S x => ?_, fun w Q S x => ?_⟩
      · refine x_look' B S h0 h1 hp hc ⟨fun e => absurd rfl e, fun _ => ?_⟩
        have S1 := S.at k1
        unfold wp_X1_opens
        rw [S1.2.2.2.1]
        refine ⟨fun _ => ⟨fun e => absurd rfl e, fun _ => x _ (XF.i13 w _) S1.2.2.1 S1.z⟩, fun e => absurd (Int32.le_refl _) e⟩
      · refine m_look' B S h0 h1 hp hc (m_isAmong (by decide) (by decide) (fun e => absurd e s91) (fun _ => t0 ⟨fun e => absurd rfl e, fun _ => ?_⟩))
        have S1 := S.at p1
        unfold wp_X3_goesIn
        rw [S1.2.2.2.1]
        refine ⟨fun e => absurd rfl e, fun _ => m_fails S1.2.2.2.2 ⟨zok0, u0 (x _ _ ((MF.i70 w _).trans (MF.i71 _ _)) ?_)⟩⟩
        rw [gI_sI, if_pos rfl]
        exact S1.2.2.1
    · have hx : ∀ (Z0 : Int) (w : Wd) (Q : Nat → Wd → Prop) (X : Wd → Prop), XS t n Z0 p d w → (∀ w', w' = sI (sI (sI w 13 (iz p1)) 14 (iz (d + 1))) 13 (iz (p1 + 1)) → PsX w' (fun r12 w13 => wp_X1_closes (iz 93) w13 (fun w15 => Q r12 w15) X) X) → wp_X1_atom PsX w Q X := by
        intro Z0 w Q X S x
        refine x_look' B S h0 h1 hp hc ⟨fun e => absurd rfl e, fun _ => ?_⟩
        have S1 := S.at k1
        unfold wp_X1_opens
        rw [S1.2.2.2.1]
        refine br (iz_le (by decide) (by decide) (by omega) (by omega)) (fun e => by omega) (fun e => u1 ?_)
        rintro w3 rfl w4 rfl
        have e13 : ∀ v, gI (sI (sI w 13 (iz p1)) 14 v) 13 = iz p1 := fun v => by rw [gI_sI, if_neg (by decide)]; exact S1.2.2.1
        rw [e13, S1.2.2.2.1, iz_add, iz_add]
        exact x _ rfl
      have hm : ∀ (w : Wd) (Q : Int32 → Wd → Prop), MS0 t n p d w → (∀ w', w' = sI (sI (sI w 70 (iz p1)) 72 (iz (d + 1))) 70 (iz (p1 + 1)) → PsM w' (fun r13 w14 => wp_X3_takes (iz 93) w14 (fun r15 w16 => (¬ r15 = iz 0 → ∀ w17, w17 = sI w16 72 ((gI w16 72) - (iz 1)) → Q r13 w17) ∧ (r15 = iz 0 → Q (iz 0) w16)))) → wp_X3_atom PsM w Q := by
        intro w Q S x
        refine m_look' B S h0 h1 hp hc (m_isAmong (by decide) (by decide) (fun e => absurd e s91) (fun _ => t0 ⟨fun e => absurd rfl e, fun _ => ?_⟩))
        have S1 := S.at p1
        unfold wp_X3_goesIn
        rw [S1.2.2.2.1]
        refine brn (iz_eq (by omega) (by omega) (by decide) (by decide)) (fun e => ?_) (fun e => absurd e dd6)
        rintro w3 rfl w4 rfl
        rw [gI_sI, if_neg (by decide), S1.2.2.1, iz_add, iz_add]
        exact u1 (x _ rfl)
      rcases hs (by omega) (p1 + 1) (by omega) (by omega) with ⟨pf, q1, q2, qx, qm⟩ | ⟨p2, f, q1, q2, qd, qx, qm⟩
      · refine Or.inl ⟨pf, by omega, q2, fun Z0 zh w Q X S x => hx Z0 w Q X S ?_, fun w Q S x => hm w Q S ?_⟩
        · rintro w' rfl
          exact qx Z0 zh _ _ _ ((S.at k1).mv (by omega)) (fun w' g1 g2 g3 => x w' ((((XF.i13 w _).trans (XF.i14 _ _)).trans (XF.i13 _ _)).trans g1) g2 g3)
        · rintro w' rfl
          refine qm _ _ (((S.at p1).dp (d + 1)).at (p1 + 1)) (fun v w' g1 g2 => ?_)
          unfold wp_X3_takes
          rw [g2]
          refine brn (iz_eq (by omega) (by omega) (by decide) (by decide)) (fun _ => m_fails2 (v := pf) (by omega) g2 ⟨zok0, u0 (x _ _ ((((MF.i70 w _).trans (MF.i72 _ _)).trans (MF.i70 _ _)).trans g1) g2)⟩) (fun e => by omega)
      · obtain ⟨k3, k4⟩ := sk_bd t q2
        generalize hp3 : sk t n p2 = p3 at k3 k4
        have cb3 := lkc_bd (t := t) (n := n) p3
        generalize hc3 : lkc t n p3 = c3 at cb3
        by_cases c93 : c3 = 93
        · subst c93
          have pin3 := lkc_in hc3 (by decide)
          refine Or.inr ⟨p3 + 1, f, by omega, by omega, qd, fun Z0 zh w Q X S x => hx Z0 w Q X S ?_, fun w Q S x => hm w Q S ?_⟩
          · rintro w' rfl
            refine qx Z0 zh _ _ _ ((S.at k1).mv (by omega)) (fun r w' Sf g1 g2 g3 g4 => ?_)
            refine x_look' B g2 (by omega) q2 hp3 hc3 ⟨fun e => absurd rfl e, fun _ => u1 ?_⟩
            have S3 := g2.at k3
            rintro w5 rfl w6 rfl
            have e14 : ∀ v, gI (sI (sI w' 13 (iz p3)) 13 v) 14 = iz (d + 1) := fun v => by rw [gI_sI, if_neg (by decide)]; exact S3.2.2.2.1
            rw [S3.2.2.1, e14, iz_add, iz_sub, show d + 1 - 1 = d by omega]
            refine x r _ Sf (((((((XF.i13 w _).trans (XF.i14 _ _)).trans (XF.i13 _ _)).trans g1).trans (XF.i13 _ _)).trans (XF.i13 _ _)).trans (XF.i14 _ _)) (S3.mv2 (by omega)) g3 (((g4.i _ _).i _ _).i _ _)
          · rintro w' rfl
            refine qm _ _ (((S.at p1).dp (d + 1)).at (p1 + 1)) (fun w' g1 g2 => ?_)
            unfold wp_X3_takes
            rw [g2.2.2.2.2]
            refine ⟨fun e => absurd rfl e, fun _ => m_look' B g2 (by omega) q2 hp3 hc3 ⟨fun _ => ?_, fun e => absurd rfl e⟩⟩
            have S3 := g2.at p3
            rintro w5 rfl
            refine u1 ?_
            rintro w6 rfl
            have e72 : ∀ v, gI (sI (sI w' 70 (iz p3)) 70 v) 72 = iz (d + 1) := fun v => by rw [gI_sI, if_neg (by decide)]; exact S3.2.2.2.1
            rw [S3.2.2.1, e72, iz_add, iz_sub, show d + 1 - 1 = d by omega]
            exact x _ (((((((MF.i70 w _).trans (MF.i72 _ _)).trans (MF.i70 _ _)).trans g1).trans (MF.i70 _ _)).trans (MF.i70 _ _)).trans (MF.i72 _ _)) ((S3.at (p3 + 1)).dp d)
        · refine Or.inl ⟨p3, by omega, k4, fun Z0 zh w Q X S x => hx Z0 w Q X S ?_, fun w Q S x => hm w Q S ?_⟩
          · rintro w' rfl
            refine qx Z0 zh _ _ _ ((S.at k1).mv (by omega)) (fun r w' Sf g1 g2 g3 g4 => ?_)
            have S3 := g2.at k3
            refine x_look' B g2 (by omega) q2 hp3 hc3 (brn (iz_eq (by omega) (by omega) (by decide) (by decide)) (fun _ => ⟨fun e => absurd rfl e, fun _ => x _ (((((XF.i13 w _).trans (XF.i14 _ _)).trans (XF.i13 _ _)).trans g1).trans (XF.i13 _ _)) S3.2.2.1 S3.z⟩) (fun e => absurd e c93))
          · rintro w' rfl
            refine qm _ _ (((S.at p1).dp (d + 1)).at (p1 + 1)) (fun w' g1 g2 => ?_)
            unfold wp_X3_takes
            rw [g2.2.2.2.2]
            have S3 := g2.at p3
            refine ⟨fun e => absurd rfl e, fun _ => m_look' B g2 (by omega) q2 hp3 hc3 (br (iz_eq (by omega) (by omega) (by decide) (by decide)) (fun e => absurd e c93) (fun _ => m_fails S3.2.2.2.2 ⟨zok0, u0 (x _ _ ((((((MF.i70 w _).trans (MF.i72 _ _)).trans (MF.i70 _ _)).trans g1).trans (MF.i70 _ _)).trans (MF.i71 _ _)) ?_)⟩))⟩
            rw [gI_sI, if_pos rfl]
            exact S3.2.2.1
  · by_cases lt : 0 ≤ sIx 1 c
    · have cl := sIx1 lt
      have pin := lkc_in hc (by omega)
      refine Or.inr ⟨p1 + 1, fun e => e c, by omega, by omega, fun e e' he => he c lt, fun Z0 zh w Q X S x => ?_, fun w Q S x => ?_⟩
      · refine x_look' B S h0 h1 hp hc (brn (iz_eq (by omega) (by omega) (by decide) (by decide)) (fun _ => br (iz_le (by omega) (by omega) (by decide) (by decide)) (fun e => by omega) (fun _ => ⟨by decide, s_indexOf (by decide) (by omega) (by omega) ?_⟩)) (fun e => absurd e c91))
        have S1 := S.at k1
        have ib := pIx_lt (sTx.getD 1 []) c 0 (by decide)
        have ib2 : sIx 1 c < 6 := by
          unfold sIx
          have : ((sTx.getD 1 []).length : Int) = 6 := rfl
          omega
        refine br (iz_lt (by omega) (by omega) (by decide) (by decide)) (fun e => by omega) (fun _ => ?_)
        rintro w5 rfl
        rw [S1.2.2.1, iz_add, sI_sI]
        have z0 := S.z
        refine x_letter zh B (by omega) (S.at (p' := p1 + 1) (by omega)) ?_ hK (by omega) (XF.i13 w _) (fun r w' Sf g1 g2 g3 g4 => x r w' Sf g1 g2 g3 g4)
        show (gZ w : Int) + 1 ≤ _
        omega
      · refine m_look' B S h0 h1 hp hc (m_isAmong (by decide) (by omega) (fun _ => t1 ?_) (fun e => by omega))
        have S1 := S.at p1
        rintro w5 rfl
        rw [S1.2.2.1, iz_add, sI_sI]
        refine ⟨iz_inb (by omega) (by omega) (by omega), ?_⟩
        rw [iz_toInt (by omega) (by omega)]
        exact x _ (MF.i70 w _) (S.at (p1 + 1))
    · have sm1 : sIx 1 c = -1 := by
        rcases sIx_or 1 c with e | e
        · exact absurd e lt
        · exact e
      -- the common ways in
      have hx : ∀ (Z0 : Int) (w : Wd) (Q : Nat → Wd → Prop) (X : Wd → Prop), XS t n Z0 p d w → b_X1_atom_60 PsX Q X (iz c) (sI w 13 (iz p1)) → wp_X1_atom PsX w Q X := by
        intro Z0 w Q X S x
        refine x_look' B S h0 h1 hp hc (brn (iz_eq (by omega) (by omega) (by decide) (by decide)) (fun _ => br (iz_le (by omega) (by omega) (by decide) (by decide)) (fun e => x) (fun _ => ⟨by decide, s_indexOf (by decide) (by omega) (by omega) ?_⟩)) (fun e => absurd e c91))
        rw [sm1]
        exact ⟨fun _ => x, fun e => absurd (by decide) e⟩
      have hm : ∀ (w : Wd) (Q : Int32 → Wd → Prop), MS0 t n p d w → wp_X3_isDigit (sI w 70 (iz p1)) (fun r5 w6 => (¬ r5 = iz 0 → ∃ n7, lp_X3_atom_90 PsM Q n7 (iz 0) (iz 0) w6) ∧ (r5 = iz 0 → wp_X3_fails w6 (fun r8 w9 => ∃ n10, lp_X3_atom_90 PsM Q n10 (iz 0) (iz 0) w9))) → wp_X3_atom PsM w Q := by
        intro w Q S x
        refine m_look' B S h0 h1 hp hc (m_isAmong (by decide) (by omega) (fun e => absurd e lt) (fun _ => t0 (brn (iz_eq (by omega) (by omega) (by decide) (by decide)) (fun _ => x) (fun e => absurd e c91))))
      have cd : (48 ≤ c ∧ c ≤ 57) ↔ (p1 < n ∧ 48 ≤ t p1 ∧ t p1 ≤ 57) := by
        have tb := B.2.2 p1
        rw [← hc]
        unfold lkc
        split
        · omega
        · omega
      by_cases dg : 48 ≤ c ∧ c ≤ 57
      · obtain ⟨dg1, dg2, dg3⟩ := cd.mp dg
        rcases digits B d 4 0 (iz 0) p1 (by decide) (by decide) (by omega) k2 with ⟨pf, q1, q2, qx, qm⟩ | ⟨p', v', q1, q2, q3, qx, qm⟩
        · refine Or.inl ⟨pf, by omega, q2, fun Z0 zh w Q X S x => hx Z0 w Q X S ?_, fun w Q S x => hm w Q S ?_⟩
          · have S1 := S.at k1
            have z0 := S.z
            unfold b_X1_atom_60
            refine x_isDigit (by omega) (fun _ _ => u1 (qx Z0 _ _ _ _ S1 ?_)) (fun e => absurd dg e)
            rw [sI_sI]
            refine x _ (XF.i13 w _) (by rw [gI_sI, if_pos rfl]) ?_
            show (gZ w : Int) ≤ _
            omega
          · have S1 := S.at p1
            refine m_isDigit B S1 (by omega) k2 (fun _ _ _ => u1 (qm _ _ _ S1 ?_)) (fun e => absurd ⟨dg1, dg2, dg3⟩ e)
            rw [sI_sI]
            exact x _ _ ((MF.i70 w _).trans (MF.i71 _ _)) (by rw [gI_sI, if_pos rfl])
        · have q3 := q3 dg1 dg2 dg3
          refine Or.inr ⟨p', fun _ => v', by omega, q2, fun _ _ _ => rfl, fun Z0 zh w Q X S x => hx Z0 w Q X S ?_, fun w Q S x => hm w Q S ?_⟩
          · have S1 := S.at k1
            have z0 := S.z
            unfold b_X1_atom_60
            refine x_isDigit (by omega) (fun _ _ => u1 (qx Z0 _ _ _ _ S1 ?_)) (fun e => absurd dg e)
            rw [sI_sI]
            refine x_const zh B q2 (S.at (p' := p') (by omega)) ?_ hK (XF.i13 w _) (fun r w' Sf g1 g2 g3 g4 => x r w' Sf g1 g2 g3 g4)
            show (gZ w : Int) + 1 ≤ _
            omega
          · have S1 := S.at p1
            refine m_isDigit B S1 (by omega) k2 (fun _ _ _ => u1 (qm _ _ _ S1 ?_)) (fun e => absurd ⟨dg1, dg2, dg3⟩ e)
            rw [sI_sI]
            exact x _ (MF.i70 w _) (S.at p')
      · have nd := fun e => dg (cd.mpr e)
        refine Or.inl ⟨p1, k1, k2, fun Z0 zh w Q X S x => hx Z0 w Q X S ?_, fun w Q S x => hm w Q S ?_⟩
        · have S1 := S.at k1
          unfold b_X1_atom_60
          exact x_isDigit (by omega) (fun a b => absurd ⟨a, b⟩ dg) (fun _ => ⟨fun e => absurd rfl e, fun _ => x _ (XF.i13 w _) S1.2.2.1 S1.z⟩)
        · have S1 := S.at p1
          refine m_isDigit B S1 (by omega) k2 (fun a b c => absurd ⟨a, b, c⟩ nd) (fun _ => u0 (m_fails S1.2.2.2.2 ⟨1, ?_⟩))
          have e71 : gI (sI (sI w 70 (iz p1)) 71 (gI (sI w 70 (iz p1)) 70)) 71 = iz p1 := by
            rw [gI_sI, if_pos rfl]
            exact S1.2.2.1
          have f2 : MF w (sI (sI w 70 (iz p1)) 71 (gI (sI w 70 (iz p1)) 70)) := (MF.i70 w _).trans (MF.i71 _ _)
          show wl_X3_atom_90 PsM Q _ (iz 0) (iz 0) _
          unfold wl_X3_atom_90
          have x' := x (iz 0) _ f2 e71
          -- the digit test looks at the same bytes
          have SS := S1
          obtain ⟨s1, ⟨b0, s2, s3, s4, s5, s6⟩, s7, s8, s9⟩ := SS
          have i69 : gI (sI (sI w 70 (iz p1)) 71 (gI (sI w 70 (iz p1)) 70)) 69 = iz n := by rw [gI_sI, if_neg (by decide)]; exact s1
          have i70 : gI (sI (sI w 70 (iz p1)) 71 (gI (sI w 70 (iz p1)) 70)) 70 = iz p1 := by rw [gI_sI, if_neg (by decide)]; exact s7
          have i68 : gI (sI (sI w 70 (iz p1)) 71 (gI (sI w 70 (iz p1)) 70)) 68 = gI (sI w 70 (iz p1)) 68 := by rw [gI_sI, if_neg (by decide)]
          unfold wp_X3_isDigit
          refine br (d := n ≤ p1) (by rw [i69, i70]; exact iz_le (by omega) (by omega) (by omega) (by omega)) (fun e => t0 x') (fun e => ?_)
          have tb := B.2.2 p1
          obtain ⟨y1, y2⟩ := S1.byte B (by omega) (by omega)
          rw [s7] at y1 y2
          rw [i68, i70]
          refine ⟨y1, ?_⟩
          have y3 : gA (sI (sI w 70 (iz p1)) 71 (gI (sI w 70 (iz p1)) 70)) (gT (sI (sI w 70 (iz p1)) 71 (gI (sI w 70 (iz p1)) 70))) (gI (sI w 70 (iz p1)) 68 + iz p1).toInt = iz (t p1) := y2
          rw [y3]
          exact br (iz_lt (by omega) (by omega) (by decide) (by decide)) (fun e3 => t0 x') (fun e3 => ⟨y1, br (iz_lt (by decide) (by decide) (by omega) (by omega)) (fun e4 => t0 x') (fun e4 => absurd ⟨by omega, by omega, by omega⟩ nd)⟩)
end A2
