/-! what it may be, on -/
/-- the kind most held among the first n, and all they are held by -/
def whF (c : Cf) (p : Pk) : Nat → Int × Int
  | 0 => (0, 0)
  | n + 1 => (if hld c p n ≤ hld c p (whF c p n).1 then (whF c p n).1 else n, (whF c p n).2 + hld c p n)
def o_what (c : Cf) (p : Pk) (v : Int) : Int := if 0 < cK c ∧ 0 ≤ v ∧ v ≤ 2 then (if v = 2 then (if hmax c p 0 10 ≤ hmax c p 1 10 then 0 else 1) else if v = 0 then (whF c p (cK c).toNat).1 else if (whF c p (cK c).toNat).2 = 0 then 0 else 1000 * hld c p (whF c p (cK c).toNat).1 / (whF c p (cK c).toNat).2) else -1
section WH2
variable {c : Cf} {lm : Int} {h : Hs} {w : Wd} {p : Pk} {Q : Int32 → Wd → Prop}
theorem whF_bd (H : CfOK c) (K : 0 < cK c) (hp : PkOK p) : ∀ n : Nat, (0 ≤ (whF c p n).1 ∧ ((whF c p n).1 < n ∨ (whF c p n).1 = 0)) ∧ 0 ≤ (whF c p n).2 ∧ (whF c p n).2 ≤ 1000000000000 * n := by
  intro n
  induction n with
  | zero => rw [whF]; decide
  | succ n ih =>
    rw [whF]
    have b := hld_bd H K hp n
    refine ⟨?_, ?_⟩
    · show 0 ≤ (if hld c p n ≤ hld c p (whF c p n).1 then (whF c p n).1 else (n : Int)) ∧ ((if hld c p n ≤ hld c p (whF c p n).1 then (whF c p n).1 else (n : Int)) < ((n + 1 : Nat) : Int) ∨ (if hld c p n ≤ hld c p (whF c p n).1 then (whF c p n).1 else (n : Int)) = 0)
      split <;> omega
    · show 0 ≤ (whF c p n).2 + hld c p n ∧ (whF c p n).2 + hld c p n ≤ 1000000000000 * ((n + 1 : Nat) : Int)
      push_cast
      omega
theorem x_what (H : HX c h w) (hp : PkOK p) (P : PkX p w) {v : Int} (hv : VR v) (q : Q (iz (o_what c p v)) w) : wp_X1_what (iz v) w Q := by
  unfold wp_X1_what
  have k6 := H.cf.2.1
  unfold o_what at q
  refine x_isHouse H (fun K => t1 (x_in hv (by decide) (by decide) (fun p1 p2 => u1 ?_) (fun p => u0 ?_))) (fun p => t0 ?_)
  · rw [if_pos ⟨K, p1, p2⟩] at q
    refine brn (iz_eq hv.1 hv.2 (by decide) (by decide)) (fun e => ?_) (fun e => x_mostHeld H K hp P (Or.inr rfl) (x_mostHeld H K hp P (Or.inl rfl) ?_))
    · rw [if_neg e] at q
      refine lpe (fun n (s : Int32 × Int64 × Int32 × Wd) => lp_X1_what_50 Q (iz v) n s.1 s.2.1 s.2.2.1 s.2.2.2) (fun R s => wl_X1_what_50 Q (iz v) (fun x y z t => R (x, y, z, t)) s.1 s.2.1 s.2.2.1 s.2.2.2) (fun _ _ h => h) (fun i s => 0 ≤ i ∧ s = (iz (whF c p i.toNat).1, lz (whF c p i.toNat).2, iz i, w)) (cK c) 0 (iz 0, lz 0, iz 0, w) (by omega) ⟨by decide, rfl⟩ ?_
      rintro R _ i hi ⟨hi0, rfl⟩ kk
      have wb := whF_bd H.cf K hp i.toNat
      unfold wl_X1_what_50
      rw [H.2.2.1]
      refine br (iz_le (by omega) (by omega) (by omega) (by omega)) (fun e2 => ?_) (fun e2 => ?_)
      · obtain rfl : i = cK c := by omega
        generalize whF c p (cK c).toNat = S at q wb ⊢
        refine brn (iz_eq hv.1 hv.2 (by decide) (by decide)) (fun e3 => ?_) (fun e3 => ?_)
        · rw [if_neg e3] at q
          have lc := lg_lt (a := S.2) (b := 0) (by omega) (by omega) (by omega) (by omega)
          refine brn lc.2.2 (fun e4 => x_heldOf H hp P (by omega) (by omega) ⟨?_, ?_⟩) (fun e4 => ?_)
          · intro z
            exact e4 (lz_inj (by omega) (by omega) (by omega) (by omega) z)
          · rw [if_neg e4] at q
            have hb := hld_bd H.cf K hp S.1
            rw [lz_mul, Int.mul_comm, lz_div (by omega) (by omega) (by omega) (by omega), l2i]
            exact q
          · rw [if_pos e4] at q
            exact q
        · rw [if_pos e3] at q
          exact q
      · have kk := kk (by omega)
        rw [show (i + 1).toNat = i.toNat + 1 by omega, whF, Int.toNat_of_nonneg hi0] at kk
        generalize whF c p i.toNat = S at kk wb ⊢
        refine x_heldOf H hp P hi0 (by omega) (x_heldOf H hp P hi0 (by omega) (x_heldOf H hp P (by omega) (by omega) ?_))
        have b1 := hld_bd H.cf K hp i
        have b2 := hld_bd H.cf K hp S.1
        have lc := lg_lt (a := hld c p i) (b := hld c p S.1) (by omega) (by omega) (by omega) (by omega)
        have le : lg_cmp (lz (hld c p i)) (lz (hld c p S.1)) ≤ iz 0 ↔ hld c p i ≤ hld c p S.1 := by
          rw [← Int32.not_lt, lc.2.1]
          omega
        rw [lz_add, iz_add]
        refine br le (fun e4 => ?_) (fun e4 => ?_)
        · rw [if_pos e4] at kk
          exact kk _ ⟨by omega, rfl⟩
        · rw [if_neg e4] at kk
          exact kk _ ⟨by omega, rfl⟩
    · rw [if_pos e] at q
      have b1 := hmax_bd H.cf K hp 0 10
      have b2 := hmax_bd H.cf K hp 1 10
      have lc := lg_lt (a := hmax c p 1 10) (b := hmax c p 0 10) (by omega) (by omega) (by omega) (by omega)
      have le : iz 0 ≤ lg_cmp (lz (hmax c p 1 10)) (lz (hmax c p 0 10)) ↔ hmax c p 0 10 ≤ hmax c p 1 10 := by
        rw [← Int32.not_lt, lc.1]
        omega
      refine br le (fun e4 => ?_) (fun e4 => ?_)
      · rw [if_pos e4] at q
        exact q
      · rw [if_neg e4] at q
        exact q
  · rw [if_neg (by omega)] at q
    exact q
  · rw [if_neg (by omega)] at q
    exact q
theorem m_what (H : HM c lm w) (hp : PkOK p) (P : PkM p w) {v : Int} (hv : VR v) (q : ∀ w', MS c lm w w' → Q (iz (o_what c p v)) w') : wp_X3_what (iz v) w Q := by
  unfold wp_X3_what
  rintro w1 rfl
  have M1 := m_thr H (iz 0)
  have q := q _ M1
  have H := H.ms M1
  have P : PkM p (sI w 60 (iz 0)) := P
  generalize sI w 60 (iz 0) = w at q H P ⊢
  have k0 := H.1.1; have k6 := H.1.2.1
  unfold o_what at q
  refine br (K0 H) (fun e => ?_) (fun e => m_isIn hv (by decide) (by decide) (fun p1 p2 => u1 ?_) (fun p => u0 ?_))
  · rw [if_neg (by omega)] at q
    exact q
  · have K : 0 < cK c := by omega
    rw [if_pos ⟨K, p1, p2⟩] at q
    refine brn (iz_eq hv.1 hv.2 (by decide) (by decide)) (fun e => ?_) (fun e => m_greatestBy H K hp P (Or.inr rfl) (m_greatestBy H K hp P (Or.inl rfl) ?_))
    · rw [if_neg e] at q
      refine lpe (fun n (s : Int32 × Int64 × Int32 × Wd) => lp_X3_what_58 Q (iz v) n s.1 s.2.1 s.2.2.1 s.2.2.2) (fun R s => wl_X3_what_58 Q (iz v) (fun x y z t => R (x, y, z, t)) s.1 s.2.1 s.2.2.1 s.2.2.2) (fun _ _ h => h) (fun i s => 0 ≤ i ∧ s = (iz (whF c p i.toNat).1, lz (whF c p i.toNat).2, iz i, w)) (cK c) 0 (iz 0, lz 0, iz 0, w) (by omega) ⟨by decide, rfl⟩ ?_
      rintro R _ i hi ⟨hi0, rfl⟩ kk
      have wb := whF_bd H.1 K hp i.toNat
      unfold wl_X3_what_58
      rw [H.2.1]
      refine br (iz_le (by omega) (by omega) (by omega) (by omega)) (fun e2 => ?_) (fun e2 => ?_)
      · obtain rfl : i = cK c := by omega
        generalize whF c p (cK c).toNat = S at q wb ⊢
        refine brn (iz_eq hv.1 hv.2 (by decide) (by decide)) (fun e3 => ?_) (fun e3 => ?_)
        · rw [if_neg e3] at q
          have lc := lg_lt (a := S.2) (b := 0) (by omega) (by omega) (by omega) (by omega)
          refine brn lc.2.2 (fun e4 => m_heldBy H hp P (by omega) (by omega) ⟨?_, ?_⟩) (fun e4 => ?_)
          · intro z
            exact e4 (lz_inj (by omega) (by omega) (by omega) (by omega) z)
          · rw [if_neg e4] at q
            have hb := hld_bd H.1 K hp S.1
            rw [lz_mul, lz_div (by omega) (by omega) (by omega) (by omega), l2i]
            exact q
          · rw [if_pos e4] at q
            exact q
        · rw [if_pos e3] at q
          exact q
      · have kk := kk (by omega)
        rw [show (i + 1).toNat = i.toNat + 1 by omega, whF, Int.toNat_of_nonneg hi0] at kk
        generalize whF c p i.toNat = S at kk wb ⊢
        refine m_heldBy H hp P hi0 (by omega) (m_heldBy H hp P (by omega) (by omega) ?_)
        have b1 := hld_bd H.1 K hp i
        have b2 := hld_bd H.1 K hp S.1
        have lc := lg_lt (a := hld c p i) (b := hld c p S.1) (by omega) (by omega) (by omega) (by omega)
        have le : lg_cmp (lz (hld c p i)) (lz (hld c p S.1)) ≤ iz 0 ↔ hld c p i ≤ hld c p S.1 := by
          rw [← Int32.not_lt, lc.2.1]
          omega
        refine br le (fun e4 => ?_) (fun e4 => ?_)
        · rw [if_pos e4] at kk
          refine m_heldBy H hp P hi0 (by omega) ?_
          rw [lz_add, iz_add]
          exact kk _ ⟨by omega, rfl⟩
        · rw [if_neg e4] at kk
          refine m_heldBy H hp P hi0 (by omega) ?_
          rw [lz_add, iz_add]
          exact kk _ ⟨by omega, rfl⟩
    · rw [if_pos e] at q
      have b1 := hmax_bd H.1 K hp 0 10
      have b2 := hmax_bd H.1 K hp 1 10
      have lc := lg_lt (a := hmax c p 1 10) (b := hmax c p 0 10) (by omega) (by omega) (by omega) (by omega)
      have le : iz 0 ≤ lg_cmp (lz (hmax c p 1 10)) (lz (hmax c p 0 10)) ↔ hmax c p 0 10 ≤ hmax c p 1 10 := by
        rw [← Int32.not_lt, lc.1]
        omega
      refine br le (fun e4 => ?_) (fun e4 => ?_)
      · rw [if_pos e4] at q
        exact q
      · rw [if_neg e4] at q
        exact q
  · rw [if_neg (by omega)] at q
    exact q
end WH2
