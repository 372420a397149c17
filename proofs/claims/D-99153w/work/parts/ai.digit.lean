/-! plans and houses: places, a digit, a sign of a kind; both sides -/
def PX (t : Int → Int) (n p : Int) (w : Wd) : Prop := TxX t n w ∧ gI w 13 = iz p
section DG
variable {t : Int → Int} {n p d : Int} {w : Wd} {Q : Int32 → Wd → Prop}
theorem PX.s (S : PX t n p w) (h0 : 0 ≤ p) : ∃ d, XS t n (gZ w) p d w := by
  obtain ⟨d, _, _, e⟩ := ex_iz (gI w 14)
  exact ⟨d, S.1.1, S.1.2, S.2, e, by omega⟩
theorem PX.at (S : PX t n p w) (p' : Int) : PX t n p' (sI w 13 (iz p')) := ⟨⟨by rw [gI_sI, if_neg (by decide)]; exact S.1.1, S.1.2⟩, by rw [gI_sI, if_pos rfl]⟩
theorem p_look (B : TB t n) (S : PX t n p w) (h0 : 0 ≤ p) (h1 : p ≤ n) {p1 c : Int} (hp : sk t n p = p1) (hc : lkc t n p1 = c) (q : Q (iz c) (sI w 13 (iz p1))) : wp_X1_look w Q := by
  obtain ⟨d, S⟩ := S.s h0
  exact x_look' B S h0 h1 hp hc q
theorem p_there (B : TB t n) (S : PX t n p w) (h0 : 0 ≤ p) (h1 : p ≤ n) (q : Q (iz (lkc t n p)) w) : wp_X1_there w Q := by
  obtain ⟨d, S⟩ := S.s h0
  exact x_look38 B S h0 h1 q
theorem m_here (B : TB t n) (S : MS0 t n p d w) (h0 : 0 ≤ p) (h1 : p ≤ n) (q : Q (iz (lkc t n p)) w) : wp_X3_here w Q := m_look43 B S h0 h1 q
theorem lkc_t {c : Int} (B : TB t n) (h0 : 0 ≤ p) (h : lkc t n p = c) (hc : 0 ≤ c) (h2 : c < 128) : t p = c := by
  have := lkc_in h hc
  have tb := B.2.2 p
  unfold lkc at h
  rw [if_pos this] at h
  omega
theorem lkc_dig (B : TB t n) (c : Int) (h : lkc t n p = c) : (p < n ∧ 48 ≤ t p ∧ t p ≤ 57) ↔ (48 ≤ c ∧ c ≤ 57) := by
  have tb := B.2.2 p
  unfold lkc at h
  constructor
  · intro a
    rw [if_pos a.1] at h
    omega
  · intro a
    by_cases e : p < n
    · rw [if_pos e] at h
      omega
    · rw [if_neg e] at h
      omega
/-- a digit up to m -/
theorem bo_digit (B : TB t n) (h0 : 0 ≤ p) (h1 : p ≤ n) {m : Int} (m0 : 0 ≤ m) (m9 : m ≤ 9) :
    (∃ pf, p ≤ pf ∧ pf ≤ n ∧ (∀ (w : Wd) (Q : Int32 → Wd → Prop) (X : Wd → Prop), PX t n p w → X (sI w 13 (iz pf)) → wp_X1_digit (iz m) w Q X) ∧ (∀ (d : Int) (w : Wd) (Q : Int32 → Wd → Prop), MS0 t n p d w → Q (iz 0) (sI (sI w 70 (iz pf)) 71 (iz pf)) → wp_X3_digit (iz m) w Q)) ∨
    (∃ p' v, p < p' ∧ p' ≤ n ∧ 0 ≤ v ∧ v ≤ m ∧ (∀ (w : Wd) (Q : Int32 → Wd → Prop) (X : Wd → Prop), PX t n p w → Q (iz v) (sI w 13 (iz p')) → wp_X1_digit (iz m) w Q X) ∧ (∀ (d : Int) (w : Wd) (Q : Int32 → Wd → Prop), MS0 t n p d w → Q (iz v) (sI w 70 (iz p')) → wp_X3_digit (iz m) w Q)) := by
  have b1 := B.1; have b2 := B.2.1
  obtain ⟨k1, k2⟩ := sk_bd t h1
  generalize hp : sk t n p = p1 at k1 k2
  have cb := lkc_bd (t := t) (n := n) p1
  generalize hc : lkc t n p1 = c at cb
  have ld := lkc_dig B c hc
  by_cases dg : 48 ≤ c ∧ c ≤ 57
  · have pin := (ld.mpr dg).1
    have et := lkc_t B (by omega) hc (by omega) (by omega)
    by_cases le : c - 48 ≤ m
    · refine Or.inr ⟨p1 + 1, c - 48, by omega, by omega, by omega, le, fun w Q X S x => ?_, fun d w Q S x => ?_⟩
      · unfold wp_X1_digit
        have S1 := S.at p1
        refine p_look B S h0 h1 hp hc (x_isDigit (by omega) (fun _ _ => t1 (p_there B S1 (by omega) k2 ?_)) (fun e => absurd dg e))
        rw [hc, iz_sub]
        refine br (iz_lt (by omega) (by omega) (by omega) (by omega)) (fun e => by omega) (fun _ => ?_)
        unfold b_X1_digit_27
        refine u1 ?_
        rintro w3 rfl
        rw [S1.2, iz_add, sI_sI, gI_sI, if_pos rfl, iz_sub, show p1 + 1 - 1 = p1 by omega]
        refine ⟨iz_inb (by omega) (by omega) (by omega), ?_⟩
        rw [iz_toInt (by omega) (by omega)]
        show Q (gA w 11 p1 - iz 48) _
        rw [S.1.2 p1 (by omega) pin, et, iz_sub]
        exact x
      · unfold wp_X3_digit
        have S1 := S.at p1
        refine m_look' B S h0 h1 hp hc (m_isDigit B S1 (by omega) k2 (fun _ _ _ => t1 ?_) (fun e => absurd (ld.mpr dg) e))
        rw [iz_sub]
        refine br (iz_le (by omega) (by omega) (by omega) (by omega)) (fun _ => ?_) (fun e => absurd le e)
        rintro w7 rfl
        rw [S1.2.2.1, iz_add, sI_sI]
        exact x
    · refine Or.inl ⟨p1, k1, k2, fun w Q X S x => ?_, fun d w Q S x => ?_⟩
      · unfold wp_X1_digit
        have S1 := S.at p1
        refine p_look B S h0 h1 hp hc (x_isDigit (by omega) (fun _ _ => t1 (p_there B S1 (by omega) k2 ?_)) (fun e => absurd dg e))
        rw [hc, iz_sub]
        refine br (iz_lt (by omega) (by omega) (by omega) (by omega)) (fun e => ?_) (fun e => by omega)
        unfold b_X1_digit_27
        exact u0 x
      · unfold wp_X3_digit
        have S1 := S.at p1
        refine m_look' B S h0 h1 hp hc (m_isDigit B S1 (by omega) k2 (fun _ _ _ => t1 ?_) (fun e => absurd (ld.mpr dg) e))
        rw [iz_sub]
        refine br (iz_le (by omega) (by omega) (by omega) (by omega)) (fun e => absurd e le) (fun _ => m_fails S1.2.2.2.2 ?_)
        rw [S1.2.2.1]
        exact x
  · refine Or.inl ⟨p1, k1, k2, fun w Q X S x => ?_, fun d w Q S x => ?_⟩
    · unfold wp_X1_digit
      refine p_look B S h0 h1 hp hc (x_isDigit (by omega) (fun a b => absurd ⟨a, b⟩ dg) (fun _ => t0 ?_))
      unfold b_X1_digit_27
      exact u0 x
    · unfold wp_X3_digit
      have S1 := S.at p1
      refine m_look' B S h0 h1 hp hc (m_isDigit B S1 (by omega) k2 (fun a b c => absurd (ld.mp ⟨a, b, c⟩) dg) (fun _ => t0 (m_fails S1.2.2.2.2 ?_)))
      rw [S1.2.2.1]
      exact x
/-- where among the signs? -/
theorem m_spotOf {i : Nat} (hi : i < 6) {c : Int} (hc : VR c) (q : Q (iz (sIx i c)) w) : wp_X3_spotOf i (iz c) w Q := by
  unfold wp_X3_spotOf
  have key : ∀ (l : List Int) (k : Int), 0 ≤ k → (sTx.getD i []).drop k.toNat = l → k + l.length = sLn i → Q (iz (pIx l c k)) w → lp_X3_spotOf_2 Q i (iz c) (l.length + 1) (iz k) w := by
    intro l
    obtain ⟨e0, e1, e2, e3⟩ := s_len_all i hi
    induction l with
    | nil =>
      intro k hk hd hl q
      simp only [List.length_nil] at hl
      exact ⟨hi, s_length hi ⟨fun _ => q, fun h => absurd ((iz_le (by omega) (by omega) (by omega) (by omega)).mpr (by omega)) h⟩⟩
    | cons b l ih =>
      intro k hk hd hl q
      simp only [List.length_cons] at hl ih ⊢
      have hlen : k.toNat < (sTx.getD i []).length := by
        have : (sTx.getD i []).length = sLn i := rfl
        omega
      have hb : sCh i k.toNat = b := by
        unfold sCh
        rw [List.getD_eq_getElem?_getD, List.getElem?_eq_getElem hlen]
        have := List.drop_eq_getElem_cons hlen
        rw [hd] at this
        simp only [Option.getD_some]
        exact (List.cons.inj this).1.symm
      have hd2 : (sTx.getD i []).drop (k + 1).toNat = l := by
        rw [show (k + 1).toNat = k.toNat + 1 by omega, ← List.drop_drop, hd]
        rfl
      obtain ⟨c1, c2, c3, c4, c5⟩ := s_ch_all i hi k.toNat (by omega)
      unfold pIx at q
      refine ⟨hi, s_length hi ⟨fun h => absurd ((iz_le (by omega) (by omega) (by omega) (by omega)).mp h) (by omega), fun _ => ⟨hi, s_charAt hi hk (by omega) ?_⟩⟩⟩
      rw [hb]
      refine brn (iz_eq (by omega) (by omega) hc.1 hc.2) (fun e => ?_) (fun e => ?_)
      · rw [if_neg e] at q
        rw [iz_add]
        exact ih (k + 1) (by omega) hd2 (by omega) q
      · rw [if_pos e] at q
        exact q
  exact ⟨_, key _ 0 (by decide) rfl (by show (0 : Int) + ((sTx.getD i []).length : Int) = sLn i; unfold sLn; omega) q⟩
end DG
