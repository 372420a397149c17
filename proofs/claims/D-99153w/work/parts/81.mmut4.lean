/-! the model's deeds, on: remembering, what may be done, keep, costs -/
section MM4
variable {c : Cf} {lm : Int} {h : Hs} {w w' : Wd}
theorem gA_96 (w : Wd) (f : Int → Int32) (i : Int) : gA (sB w 96 f) 96 i = f i := by rw [gA_sB, if_pos rfl]
theorem m_rememberEnd {Q : Wd → Prop} (G : MH c 90 h w) {k : Ks} {f0 : Int → Int32} (k1 : 0 ≤ k.1) (k2 : k.1 ≤ 39) (kk : KMf k f0) (q : ∀ f, KMf (k.1 + 1, fun i => if i = k.1 then h else k.2 i) f → Q (sI (sB w 96 f) 97 (iz (k.1 + 1)))) {w0 : Wd} (e0 : w0 = sB (sI w 97 (iz k.1)) 96 f0) (GK : KOK c k) : ∃ n, lp_X3_remember_52 Q n (iz 0) w0 := by
  subst e0
  have l1 := G.1.2.2.2.2.1; have l2 := G.1.2.2.2.2.2.1
  refine lpe (fun n1 (s : Int32 × Wd) => lp_X3_remember_52 Q n1 s.1 s.2) (fun R s => wl_X3_remember_52 Q (fun x y => R (x, y)) s.1 s.2) (fun _ _ h => h) (fun i s => 0 ≤ i ∧ ∃ f, s = (iz i, sB (sI w 97 (iz k.1)) 96 f) ∧ (∀ t, 0 ≤ t → t < i → f (283 * k.1 + t) = gA w 90 t) ∧ ∀ t, t < 283 * k.1 → f t = f0 t) 283 0 (iz 0, sB (sI w 97 (iz k.1)) 96 f0) (by decide) ⟨by decide, f0, rfl, fun j x y => by omega, fun t _ => rfl⟩ ?_
  rintro R _ i hi ⟨hi0, f, rfl, g1, g2⟩ kk2
  have eI : gI (sB (sI w 97 (iz k.1)) 96 f) 97 = iz k.1 := by rw [gI_sB, gI_sI, if_pos rfl]
  refine br (iz_le (by decide) (by decide) (by omega) (by omega)) (fun e => ?_) (fun e => ?_)
  · obtain rfl : i = 283 := by omega
    rintro w1 rfl
    rw [eI, iz_add]
    have := q f (fun i i1 i2 => ?_)
    · rw [← sI_sBI w 97 (iz k.1)] at this
      exact this
    · have i2 : i < k.1 + 1 := i2
      by_cases e2 : i = k.1
      · subst e2
        simp only [if_true]
        exact AMf_shift G.2 G.1.1 G.1.2.1 (fun t t1 t2 => by rw [g1 t t1 (by omega), Int.zero_add]) l1
      · simp only [e2, if_false]
        have z := GK.2.2 i i1 (by omega)
        have z5 := z.2.2.2.2.1; have z6 := z.2.2.2.2.2.1
        exact AMf_shift (kk i i1 (by omega)) z.1 z.2.1 (fun t t1 t2 => g2 _ (by omega)) z5
  · have e31 : gA (sB (sI w 97 (iz k.1)) 96 f) 90 i = gA w 90 i := by rw [gA_sB, if_neg (by decide), gA_sI]
    refine ⟨iz_inb (by omega) (by omega) (by omega), ?_⟩
    rw [eI, iz_mul, iz_add, iz_toInt (by omega) (by omega)]
    refine ⟨iz_inb (by omega) (by omega) (by omega), ?_⟩
    rw [iz_toInt (by omega) (by omega), e31]
    rintro w2 rfl
    obtain ⟨f1, e1, p1, r1⟩ := sA_ex2 (sI w 97 (iz k.1)) 96 f (283 * k.1 + i) (gA w 90 i)
    rw [e1, iz_add]
    refine kk2 (by omega) _ ⟨by omega, f1, rfl, fun t x y => ?_, fun t ht => ?_⟩
    · by_cases e6 : t = i
      · subst e6
        exact p1
      · rw [r1 _ (by omega)]
        exact g1 t x (by omega)
    · rw [r1 _ (by omega)]
      exact g2 t ht
theorem m_remember {Q : Wd → Prop} (G : MH c 90 h w) {k : Ks} (GK : KOK c k) (k1 : gI w 97 = iz k.1) (kk : KMf k (gA w 96)) (q : ∀ f, KMf (kPush k h) f → Q (sI (sB w 96 f) 97 (iz (kPush k h).1))) : wp_X3_remember w Q := by
  unfold wp_X3_remember
  obtain ⟨G1, G2, G3⟩ := GK
  rw [k1]
  refine brn (iz_eq (by omega) (by omega) (by decide) (by decide)) (fun e => ?_) (fun e => ?_)
  · refine m_rememberEnd (Q := Q) (k := k) (f0 := gA w 96) G G1 (by omega) kk (fun f hf => ?_) ?_ ⟨G1, G2, G3⟩
    · have := q f (by unfold kPush; rw [if_neg e]; exact hf)
      unfold kPush at this
      rwa [if_neg e] at this
    · rw [← k1]
      have e1 : sI w 97 (gI w 97) = w := by
        unfold sI gI
        refine Prod.ext ?_ rfl
        funext j
        by_cases h : j = 97
        · subst h; simp
        · simp [h]
      rw [e1, sB_self]
  · refine lpe (fun n1 (s : Int32 × Wd) => lp_X3_remember_11 Q n1 s.1 s.2) (fun R s => wl_X3_remember_11 Q (fun x y => R (x, y)) s.1 s.2) (fun _ _ h => h) (fun i s => 0 ≤ i ∧ ∃ f, s = (iz i, sB w 96 f) ∧ (∀ t, 0 ≤ t → t < i → f t = gA w 96 (t + 283)) ∧ ∀ t, i ≤ t → f t = gA w 96 t) 11037 0 (iz 0, w) (by decide) ⟨by decide, gA w 96, by rw [sB_self], fun j x y => by omega, fun t _ => rfl⟩ ?_
    rintro R _ i hi ⟨hi0, f, rfl, g1, g2⟩ kk2
    refine br (iz_le (by decide) (by decide) (by omega) (by omega)) (fun e5 => ?_) (fun e5 => ?_)
    · obtain rfl : i = 11037 := by omega
      rintro w1 rfl
      rw [gI_sB, k1, e, iz_sub]
      refine m_rememberEnd (Q := Q) (k := (39, fun i => k.2 (i + 1))) (f0 := f) G (show (0 : Int) ≤ 39 by decide) (show (39 : Int) ≤ 39 by decide) (fun i i1 i2 => ?_) (fun f hf => ?_) rfl ⟨(show (0 : Int) ≤ 39 by decide), (show (39 : Int) ≤ 40 by decide), fun i i1 i2 => G3 (i + 1) (by omega) (by have i2 : i < 39 := i2; omega)⟩
      · have i2 : i < 39 := i2
        have z := G3 (i + 1) (by omega) (by omega)
        have z5 := z.2.2.2.2.1; have z6 := z.2.2.2.2.2.1
        show AMf (k.2 (i + 1)) f (283 * i)
        exact AMf_shift (kk (i + 1) (by omega) (by omega)) z.1 z.2.1 (fun t t1 t2 => by rw [g1 _ (by omega) (by omega)]; congr 1; omega) z5
      · have := q f (by unfold kPush; rw [if_pos e]; exact hf)
        unfold kPush at this
        rwa [if_pos e] at this
    · rw [iz_add]
      refine ⟨iz_inb (by omega) (by omega) (by omega), iz_inb (by omega) (by omega) (by omega), ?_⟩
      rintro w2 rfl
      rw [gA_96, iz_toInt (by omega) (by omega), iz_toInt (by omega) (by omega), g2 _ (by omega)]
      obtain ⟨f1, e1, p1, r1⟩ := sA_ex2 w 96 f i (gA w 96 (i + 283))
      rw [e1, iz_add]
      refine kk2 (by omega) _ ⟨by omega, f1, rfl, fun t x y => ?_, fun t ht => ?_⟩
      · by_cases e6 : t = i
        · subst e6
          exact p1
        · rw [r1 _ (by omega)]
          exact g1 t x (by omega)
      · rw [r1 _ (by omega)]
        exact g2 t (by omega)
/-- what may be done -/
def mayPut (c : Cf) (h : Hs) (k p : Int) : Prop := 0 ≤ k ∧ k < cK c ∧ 1 ≤ p ∧ p ≤ 9 ∧ hn h < 8 ∧ pall h + p ≤ cR c 0
variable {Q : Int32 → Wd → Prop}
theorem m_canPut (H : HM c lm w) {r : Nat} (hr : MR r) (G : MH c r h w) {k p : Int} (hk : VR k) (hp : VR p) (f : mayPut c h k p → Q (iz 1) w) (g : ¬ mayPut c h k p → Q (iz 0) w) : wp_X3_canPut r (iz k) (iz p) w Q := by
  unfold wp_X3_canPut
  unfold mayPut at f g
  have n0 := G.1.1; have n8 := G.1.2.1
  have vn := G.2.1
  rw [Int.zero_add] at vn
  have pb := pall_bd G.1
  refine m_isKind H hk (fun e1 e2 => t1 (m_isIn hp (by decide) (by decide) (fun p1 p2 => t1 ⟨inM hr (by omega) (by omega), ?_⟩) (fun p => t0 (g (by omega))))) (fun p => t0 (g (by omega)))
  rw [iz_toInt (by decide) (by decide), vn]
  refine br (iz_le (by decide) (by decide) (by omega) (by omega)) (fun e => g (by omega)) (fun e => m_sumIn hr G ⟨iz_inb (by decide) (by decide) (by decide), ?_⟩)
  have cr := H.1.2.2.1 (by omega)
  rw [iz_toInt (by decide) (by decide), H.2.2.1 0 (by decide) (by decide), iz_add]
  exact br (iz_lt (by omega) (by omega) (by omega) (by omega)) (fun e => g (by omega)) (fun e => f (by omega))
theorem x_canPut (H : HX c h w) {k p : Int} (hk : VR k) (hp : VR p) (f : mayPut c h k p → Q (iz 1) w) (g : ¬ mayPut c h k p → Q (iz 0) w) : wp_X1_canPut (iz k) (iz p) w Q := by
  unfold wp_X1_canPut
  unfold mayPut at f g
  have n0 := H.hs.1; have n8 := H.hs.2.1
  have pb := pall_bd H.hs
  refine x_isKind H hk (fun e1 e2 => t1 (x_in hp (by decide) (by decide) (fun p1 p2 => t1 (x_boxMany H ?_)) (fun p => t0 (g (by omega))))) (fun p => t0 (g (by omega)))
  refine br (iz_le (by decide) (by decide) (by omega) (by omega)) (fun e => g (by omega)) (fun e => x_portionsAll H ⟨iz_inb (by decide) (by decide) (by decide), ?_⟩)
  have cr := H.cf.2.2.1 (by omega)
  rw [iz_toInt (by decide) (by decide), H.2.2.2.1 0 (by decide) (by decide), iz_add]
  exact br (iz_lt (by omega) (by omega) (by omega) (by omega)) (fun e => g (by omega)) (fun e => f (by omega))
theorem m_canLabel (H : HM c lm w) {r : Nat} (hr : MR r) (G : MH c r h w) {b : Int} (hv : VR b) (f : 0 ≤ b → b < hn h → hb h b 3 = 0 → Q (iz 1) w) (g : ¬ (0 ≤ b ∧ b < hn h ∧ hb h b 3 = 0) → Q (iz 0) w) : wp_X3_canLabel r (iz b) w Q := by
  unfold wp_X3_canLabel
  refine m_isBox H hr G hv (fun e1 e2 => t1 ?_) (fun p => t0 (g (by omega)))
  have n8 := G.1.2.1
  have g8 := G.1.2.2.2.2.2.2.2 b e1 e2
  simp only [iz_mul, iz_add]
  refine ⟨inM hr (by omega) (by omega), ?_⟩
  rw [iz_toInt (by omega) (by omega), G.v e1 e2 (by decide) (by decide)]
  exact brn (iz_eq (by omega) (by omega) (by decide) (by decide)) (fun e => g (by omega)) (fun e => f e1 e2 e)
theorem x_canLabel (H : HX c h w) {b : Int} (hv : VR b) (f : 0 ≤ b → b < hn h → hb h b 3 = 0 → Q (iz 1) w) (g : ¬ (0 ≤ b ∧ b < hn h ∧ hb h b 3 = 0) → Q (iz 0) w) : wp_X1_canLabel (iz b) w Q := by
  unfold wp_X1_canLabel
  refine x_isBox H hv (fun e1 e2 => t1 ?_) (fun p => t0 (g (by omega)))
  exact x_isLabelled H e1 e2 (fun e => u1 (g (by omega))) (fun e => u0 (f e1 e2 e))
/-- n months may pass, up to m -/
def mayGo (c : Cf) (h : Hs) (n m : Int) : Prop := 0 < cK c ∧ 1 ≤ n ∧ n ≤ m ∧ hm h + n ≤ 999
theorem m_mayPass (H : HM c lm w) {r : Nat} (hr : MR r) (G : MH c r h w) {n m : Int} (hv : VR n) (hm2 : VR m) (hm3 : m ≤ 1000) (f : mayGo c h n m → Q (iz 1) w) (g : ¬ mayGo c h n m → Q (iz 0) w) : wp_X3_mayPass r (iz n) (iz m) w Q := by
  unfold wp_X3_mayPass
  unfold mayGo at f g
  have k0 := H.1.1
  have m0 := G.1.2.2.1; have m9 := G.1.2.2.2.1
  have vm := G.2.2.1
  rw [Int.zero_add] at vm
  rw [i2l hm2]
  refine br (KL H) (fun e => g (by omega)) (fun e => m_isIn hv (by decide) hm2 (fun p1 p2 => t1 ⟨inM hr (by omega) (by omega), ?_⟩) (fun p => t0 (g (by omega))))
  rw [iz_toInt (by decide) (by decide), vm, iz_add]
  exact br (iz_lt (by omega) (by omega) (by omega) (by omega)) (fun e => g (by omega)) (fun e => f (by omega))
theorem x_canPass (H : HX c h w) {n : Int} (hv : VR n) (f : mayGo c h n 60 → Q (iz 1) w) (g : ¬ mayGo c h n 60 → Q (iz 0) w) : wp_X1_canPass (iz n) w Q := by
  unfold wp_X1_canPass
  unfold mayGo at f g
  have m0 := H.hs.2.2.1; have m9 := H.hs.2.2.2.1
  have em := H.ax.2.1
  rw [Int.zero_add] at em
  refine x_isHouse H (fun k => t1 (x_in hv (by decide) (by decide) (fun p1 p2 => t1 ⟨iz_inb (by decide) (by decide) (by decide), ?_⟩) (fun p => t0 (g (by omega))))) (fun p => t0 (g (by omega)))
  rw [iz_toInt (by decide) (by decide), em, iz_add]
  exact br (iz_lt (by decide) (by decide) (by omega) (by omega)) (fun e => g (by omega)) (fun e => f (by omega))
end MM4
