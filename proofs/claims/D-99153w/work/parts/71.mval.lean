/-! the model: what a portion is worth -/
theorem lz_add (a b : Int) : lz a + lz b = lz (a + b) := (Int64.ofInt_add a b).symm
theorem lz_sub (a b : Int) : lz a - lz b = lz (a - b) := (Int64.ofInt_sub a b).symm
theorem lz_mul (a b : Int) : lz a * lz b = lz (a * b) := (Int64.ofInt_mul a b).symm
theorem lz_div {a b : Int} (h1 : 0 ≤ a) (h2 : a < 9223372036854775808) (h3 : 0 < b) (h4 : b < 9223372036854775808) : lz a / lz b = lz (a / b) := by
  have hd : 0 ≤ a / b := Int.ediv_nonneg h1 (by omega)
  have hl : a / b ≤ a := Int.ediv_le_self b h1
  apply Int64.toInt_inj.mp
  rw [Int64.toInt_div, lz_toInt (by omega) h2, lz_toInt (by omega) h4, lz_toInt (by omega) (by omega), Int.tdiv_eq_ediv_of_nonneg h1]
  exact Int.bmod_eq_of_le (by omega) (by omega)
theorem lz_rem {a b : Int} (h1 : 0 ≤ a) (h2 : a < 9223372036854775808) (h3 : 0 < b) (h4 : b < 9223372036854775808) : lz a - lz a / lz b * lz b = lz (a % b) := by
  rw [lz_div h1 h2 h3 h4, lz_mul, lz_sub]
  congr 1
  have := Int.emod_add_mul_ediv a b
  rw [Int.mul_comm b] at this
  omega
theorem l2i (a : Int) : (lz a).toInt32 = iz a := Int64.toInt32_ofInt
theorem lz_inj {a b : Int} (h1 : -9223372036854775808 ≤ a) (h2 : a < 9223372036854775808) (h3 : -9223372036854775808 ≤ b) (h4 : b < 9223372036854775808) (e : lz a = lz b) : a = b := by
  have := congrArg Int64.toInt e
  rwa [lz_toInt h1 h2, lz_toInt h3 h4] at this
theorem gL_sL (w : Wd) (a : Nat) (i : Int) (v : Int64) (b : Nat) (j : Int) : gL (sL w a i v) b j = if b = a then (if j = i then v else gL w b j) else gL w b j := by
  unfold gL sL
  by_cases h : b = a
  · subst h; simp
  · simp [h]
section MV
variable {c : Cf} {lm : Int} {h : Hs} {w w' : Wd} {Q : Int32 → Wd → Prop}
theorem HM.ms (H : HM c lm w) (M : MS c lm w w') : HM c lm w' := by
  obtain ⟨h1, h3, h4, h5, h6, h8, h9, h10⟩ := H
  obtain ⟨m1, m2, -⟩ := M.1
  refine ⟨h1, by rw [m1 _ (by decide)]; exact h3, fun i => by rw [m2 _ (by decide)]; exact h4 i, fun i => by rw [m2 _ (by decide)]; exact h5 i, by rw [m1 _ (by decide)]; exact h6, ?_, M.2, h10⟩
  intro i i1 i2
  have z := h8 i i1 i2
  unfold LM at z ⊢
  rw [m2 62 (by decide), m2 63 (by decide)]
  exact z
theorem HM.self (H : HM c lm w) : MS c lm w w := ⟨fsM_refl w, H.2.2.2.2.2.2.1⟩
abbrev MR (r : Nat) : Prop := r = 90 ∨ r = 91
theorem MH.ms {r : Nat} (hr : MR r) (G : MH c r h w) (M : MS c lm w w') : MH c r h w' := by
  have := M.1.2.1 r (by omega)
  unfold MH
  rw [this]
  exact G
/-- .. and the fault flag is as it was -/
def MT (c : Cf) (lm : Int) (w w' : Wd) : Prop := MS c lm w w' ∧ gI w' 60 = gI w 60
theorem MT.trans {w'' : Wd} (h : MT c lm w w') (g : MT c lm w' w'') : MT c lm w w'' := ⟨h.1.trans g.1, g.2.trans h.2⟩
theorem m_worthNow (H : HM c lm w) {a o n y k m : Int} (A : mArgs (cH c) a o n y k m) (e1 : gA w 64 97 = iz a) (e2 : gA w 64 111 = iz o) (e3 : gA w 64 110 = iz n) (e4 : gA w 64 121 = iz y) (e5 : gA w 64 107 = iz k) (e6 : gA w 64 109 = iz m) (q : ∀ w', MT c lm w w' → Q (iz (cF c (cH c) a o n y k m)) w') : wp_X3_worthNow w Q := by
  have A' := A
  unfold mArgs at A'
  obtain ⟨h1, h3, h4, h5, h6, h8, h9, h10, h11, h12⟩ := H
  have f := fun (x : Int) (hx : VR x) => i2l hx
  unfold wp_X3_worthNow
  simp only [iz_toInt (show (-2147483648 : Int) ≤ 97 by decide) (by decide), iz_toInt (show (-2147483648 : Int) ≤ 111 by decide) (by decide), iz_toInt (show (-2147483648 : Int) ≤ 110 by decide) (by decide), iz_toInt (show (-2147483648 : Int) ≤ 121 by decide) (by decide), iz_toInt (show (-2147483648 : Int) ≤ 107 by decide) (by decide), iz_toInt (show (-2147483648 : Int) ≤ 109 by decide) (by decide), e1, e2, e3, e4, e5, e6, h6, f a (by omega), f o (by omega), f n (by omega), f y (by omega), f k (by omega), f m (by omega), f (cH c) (by omega), lz_mul, lz_add]
  have ek : 5 * (10 * (10 * (10 * (40 * (100 * m + a) + o) + n) + y) + k) + cH c + 1 = kEnc (cH c) a o n y k m := rfl
  rw [ek]
  have kb : 0 ≤ kEnc (cH c) a o n y k m ∧ kEnc (cH c) a o n y k m < 100000000000000 := by unfold kEnc; omega
  generalize hK : kEnc (cH c) a o n y k m = K at kb
  rw [lz_rem kb.1 (by omega) (by decide) (by decide), l2i]
  have rb : 0 ≤ K % 8191 ∧ K % 8191 < 8191 := ⟨Int.emod_nonneg _ (by decide), Int.emod_lt_of_pos _ (by decide)⟩
  generalize hI : K % 8191 = I at rb
  have ib : inb (iz I) 8191 := iz_inb (by omega) (by omega) (by omega)
  rw [iz_toInt (by omega) (by omega), iz_toInt (show -2147483648 ≤ cH c by omega) (by omega)]
  refine ⟨iz_inb (by decide) (by decide) (by decide), iz_inb (by decide) (by decide) (by decide), iz_inb (by decide) (by decide) (by decide), iz_inb (by decide) (by decide) (by decide), iz_inb (by decide) (by decide) (by decide), iz_inb (by decide) (by decide) (by decide), ib, ?_⟩
  have lc : lg_cmp (gL w 94 I) (lz K) = iz 0 ↔ gL w 94 I = lz K := by
    unfold lg_cmp
    constructor
    · intro z
      by_cases c1 : gL w 94 I > lz K
      · rw [if_pos c1] at z
        exact absurd z (by decide)
      · rw [if_neg c1] at z
        by_cases c2 : gL w 94 I = lz K
        · exact c2
        · rw [if_neg c2] at z
          exact absurd z (by decide)
    · intro z
      rw [z, if_neg (by show ¬ lz K < lz K; exact Int64.lt_irrefl), if_pos rfl]
      rfl
  refine brn lc (fun e => ?_) (fun e => ?_)
  · refine ⟨iz_inb (by omega) (by omega) (by omega), ?_⟩
    rw [iz_mul]
    refine h8 (cH c) (by omega) (by omega) w a o n y k m _ (fun _ _ _ => rfl) e1 e2 e3 e4 e5 e6 (fun w2 s1 s2 s3 s4 s5 s6 => ?_)
    refine ⟨ib, ?_⟩
    rintro w3 rfl
    refine ⟨ib, ?_⟩
    rintro w4 rfl
    have eI : gI (sL w2 94 I (lz K)) 74 = iz (cF c (cH c) a o n y k m) := s5
    rw [eI]
    have eI4 : gI (sA (sL w2 94 I (lz K)) 95 I (iz (cF c (cH c) a o n y k m))) 74 = iz (cF c (cH c) a o n y k m) := s5
    rw [eI4]
    refine q _ ⟨⟨fsM_trans s1 ⟨fun k hk => rfl, fun a ha => ?_, rfl, fun a ha => ?_, rfl, rfl, rfl⟩, ?_⟩, s6⟩
    · funext j
      rw [gA_sA, if_neg (by omega)]
      rfl
    · funext j
      rw [gL_sA, gL_sL, if_neg ha]
    · intro i i1 i2 l a' o' n' y' k' m' A2 ke
      rw [gL_sA, gL_sL, if_pos rfl] at ke
      rw [gA_sA, if_pos rfl]
      by_cases ei : i = I
      · rw [if_pos ei] at ke ⊢
        have kb2 : 0 ≤ kEnc l a' o' n' y' k' m' ∧ kEnc l a' o' n' y' k' m' < 100000000000000 := by unfold mArgs at A2; unfold kEnc; omega
        have := lz_inj (by omega) (by omega) (by omega) (by omega) ke
        rw [← hK] at this
        obtain ⟨z1, z2, z3, z4, z5, z6, z7⟩ := kEnc_inj A A2 this
        subst z1 z2 z3 z4 z5 z6 z7
        exact ⟨h11, rfl⟩
      · rw [if_neg ei] at ke ⊢
        rw [s3] at ke
        have e95 : gA (sL w2 94 I (lz K)) 95 i = gA w 95 i := by rw [← s4]; rfl
        rw [e95]
        exact h9 i i1 i2 l a' o' n' y' k' m' A2 ke
  · refine ⟨ib, ?_⟩
    rw [← hK] at e
    rw [(h9 I rb.1 rb.2 _ _ _ _ _ _ _ A e).2]
    exact q _ ⟨⟨fsM_refl w, h9⟩, rfl⟩
theorem inM {r : Nat} (hr : MR r) {i : Int} (h1 : 0 ≤ i) (h2 : i < 283) : inA r (iz i) := by
  rcases hr with rfl | rfl
  · exact ⟨_, _, ar_90, iz_inb h1 h2 (by omega)⟩
  · exact ⟨_, _, ar_91, iz_inb h1 h2 (by omega)⟩
theorem m_told (H : HM c lm w) {k j : Int} (h1 : 0 ≤ k) (h2 : k < cK c) (h3 : 0 ≤ j) (h4 : j < 5) (q : Q (iz (cD c (5 * k + j))) w) : wp_X3_told (iz k) (iz j) w Q := by
  unfold wp_X3_told
  have := H.1.2.1
  simp only [iz_mul, iz_add]
  refine ⟨iz_inb (by omega) (by omega) (by omega), ?_⟩
  rw [iz_toInt (by omega) (by omega), H.2.2.2.1 _ (by omega) (by omega)]
  exact q
theorem m_let (H : HM c lm w) (i : Int) (v : Int32) : MS c lm w (sA w 64 i v) := by
  refine ⟨⟨fun k hk => rfl, fun a ha => ?_, rfl, fun a ha => rfl, rfl, rfl, rfl⟩, ?_⟩
  · funext j
    rw [gA_sA, if_neg (by omega)]
  · intro i1 a b l a' o' n' y' k' m' A2 ke
    rw [gA_sA, if_neg (by decide)]
    exact H.2.2.2.2.2.2.1 i1 a b l a' o' n' y' k' m' A2 ke
theorem m_letT (H : HM c lm w) (i : Int) (v : Int32) : MT c lm w (sA w 64 i v) := ⟨m_let H i v, rfl⟩
theorem m_portionEnd (H : HM c lm w) {k l : Int} (h1 : 0 ≤ k) (h2 : k < cK c) (l1 : VR l) (q : Q (iz (max 0 (cD c (5 * k + 3) - max 0 (min 9 l)))) w) : b_X3_portionOf_83 Q (iz k) (iz l) w := by
  unfold b_X3_portionOf_83
  refine m_told H h1 h2 (by decide) (by decide) ?_
  have g := H.1.2.2.2.1 k h1 h2
  rw [imin_iz (by decide) (by decide) l1.1 l1.2, imax_iz (by decide) (by decide) (by omega) (by omega), iz_sub, imax_iz (by decide) (by decide) (by omega) (by omega)]
  exact q
theorem m_portionOf (H : HM c lm w) {k p a y m : Int} (h1 : 0 ≤ k) (h2 : k < cK c) (p1 : 1 ≤ p ∧ p ≤ 9) (a1 : 0 ≤ a ∧ a ≤ 99) (y1 : 0 ≤ y ∧ y ≤ 9) (m1 : 0 ≤ m ∧ m ≤ 2000) (q : ∀ w', MT c lm w w' → Q (iz (wth c k p a y m)) w') : wp_X3_portionOf (iz k) (iz p) (iz a) (iz y) (iz m) w Q := by
  unfold wp_X3_portionOf
  have gk := H.1.2.2.2.1 k h1 h2
  have gh := H.1.2.2.2.2
  have k6 := H.1.2.1
  have hc := H.2.2.2.2.2.2.2
  refine m_told H h1 h2 (by decide) (by decide) ?_
  rw [H.2.2.2.2.1]
  unfold wth at q
  refine br (iz_eq (by omega) (by omega) (by decide) (by decide)) (fun e => ?_) (fun e => ?_)
  · rw [iz_sub, imax_iz (by decide) (by decide) (by omega) (by omega)]
    refine m_portionEnd H h1 h2 (by omega) ?_
    have := q w ⟨H.self, rfl⟩
    rw [if_pos e] at this
    rw [show max 0 (min 9 (max 0 (a - cD c (5 * k + 2)))) = max 0 (min 9 (a - cD c (5 * k + 2))) by omega]
    exact this
  · simp only [if_neg e] at q
    refine ⟨iz_inb (by decide) (by decide) (by decide), ?_⟩
    intro w3 e3
    have M3 : MT c lm w w3 := by rw [e3]; exact m_letT H _ _
    have H3 := H.ms M3.1
    refine m_told H3 h1 h2 (by decide) (by decide) ?_
    refine ⟨iz_inb (by decide) (by decide) (by decide), ?_⟩
    intro w6 e6
    have M6 : MT c lm w w6 := by rw [e6]; exact M3.trans (m_letT H3 _ _)
    have H6 := H.ms M6.1
    refine ⟨iz_inb (by decide) (by decide) (by decide), ?_⟩
    intro w7 e7
    have M7 : MT c lm w w7 := by rw [e7]; exact M6.trans (m_letT H6 _ _)
    have H7 := H.ms M7.1
    refine ⟨iz_inb (by decide) (by decide) (by decide), ?_⟩
    intro w8 e8
    have M8 : MT c lm w w8 := by rw [e8]; exact M7.trans (m_letT H7 _ _)
    have H8 := H.ms M8.1
    refine ⟨iz_inb (by decide) (by decide) (by decide), ?_⟩
    intro w9 e9
    have M9 : MT c lm w w9 := by rw [e9]; exact M8.trans (m_letT H8 _ _)
    have H9 := H.ms M9.1
    refine ⟨iz_inb (by decide) (by decide) (by decide), ?_⟩
    intro w10 e10
    have M10 : MT c lm w w10 := by rw [e10]; exact M9.trans (m_letT H9 _ _)
    have H10 := H.ms M10.1
    simp only [iz_toInt (show (-2147483648 : Int) ≤ 97 by decide) (by decide), iz_toInt (show (-2147483648 : Int) ≤ 111 by decide) (by decide), iz_toInt (show (-2147483648 : Int) ≤ 110 by decide) (by decide), iz_toInt (show (-2147483648 : Int) ≤ 121 by decide) (by decide), iz_toInt (show (-2147483648 : Int) ≤ 107 by decide) (by decide), iz_toInt (show (-2147483648 : Int) ≤ 109 by decide) (by decide)] at e3 e6 e7 e8 e9 e10
    refine m_worthNow H10 (a := a) (o := cD c (5 * k + 2)) (n := p) (y := y) (k := k) (m := m) ?_ ?_ ?_ ?_ ?_ ?_ ?_ (fun w' M' => ?_)
    · unfold mArgs
      omega
    · rw [e10, e9, e8, e7, e6, e3]; simp [gA_sA]
    · rw [e10, e9, e8, e7, e6]; simp [gA_sA]
    · rw [e10, e9, e8, e7]; simp [gA_sA]
    · rw [e10, e9, e8]; simp [gA_sA]
    · rw [e10, e9]; simp [gA_sA]
    · rw [e10]; simp [gA_sA]
    · have gl := gh.2.2 (cH c) a (cD c (5 * k + 2)) p y k m
      refine m_portionEnd (H10.ms M'.1) h1 h2 (by omega) ?_
      exact q w' (M10.trans M')
theorem m_valueOnT (H : HM c lm w) {r : Nat} (hr : MR r) (G : MH c r h w) {b y more : Int} (h1 : 0 ≤ b) (h2 : b < hn h) (y1 : 0 ≤ y ∧ y ≤ 9) (h3 : 0 ≤ more) (h4 : more ≤ 1000) (q : ∀ w', MT c lm w w' → Q (iz (val c h b more y)) w') : wp_X3_valueOn r (iz b) (iz y) (iz more) w Q := by
  unfold wp_X3_valueOn
  obtain ⟨G1, G2⟩ := G
  have n8 := G1.2.1
  have g := G1.2.2.2.2.2.2.2 b h1 h2
  have m0 := G1.2.2.1; have m9 := G1.2.2.2.1
  have v0 := G2.2.2.2.1 b 0 h1 h2 (by decide) (by decide)
  have v1 := G2.2.2.2.1 b 1 h1 h2 (by decide) (by decide)
  have v2 := G2.2.2.2.1 b 2 h1 h2 (by decide) (by decide)
  have vm := G2.2.1
  rw [Int.zero_add] at v0 v1 v2 vm
  simp only [iz_mul, iz_add]
  refine ⟨inM hr (by omega) (by omega), inM hr (by omega) (by omega), inM hr (by omega) (by omega), inM hr (by omega) (by omega), inM hr (by omega) (by omega), ?_⟩
  rw [iz_toInt (show -2147483648 ≤ 5 * b + 0 by omega) (by omega), iz_toInt (show -2147483648 ≤ 5 * b + 1 by omega) (by omega), iz_toInt (show -2147483648 ≤ 5 * b + 2 by omega) (by omega), iz_toInt (show -2147483648 ≤ 41 by omega) (by omega), v0, v1, v2, vm, iz_add, iz_add, imin_iz (by decide) (by decide) (by omega) (by omega)]
  refine m_portionOf H (by omega) (by omega) (by omega) (by omega) y1 (by omega) (fun w' M => ?_)
  rw [iz_mul]
  exact q w' M
theorem m_valueOfT (H : HM c lm w) {r : Nat} (hr : MR r) (G : MH c r h w) {b : Int} (h1 : 0 ≤ b) (h2 : b < hn h) (q : ∀ w', MT c lm w w' → Q (iz (valO c h b)) w') : wp_X3_valueOf r (iz b) w Q := by
  unfold wp_X3_valueOf
  have n8 := G.1.2.1
  have vn := G.2.1
  rw [Int.zero_add] at vn
  refine ⟨inM hr (by omega) (by omega), ?_⟩
  rw [iz_toInt (by omega) (by omega), vn, iz_sub, iz_sub]
  exact m_valueOnT H hr G h1 h2 (by omega) (by decide) (by decide) q
theorem m_valueOn (H : HM c lm w) {r : Nat} (hr : MR r) (G : MH c r h w) {b y more : Int} (h1 : 0 ≤ b) (h2 : b < hn h) (y1 : 0 ≤ y ∧ y ≤ 9) (h3 : 0 ≤ more) (h4 : more ≤ 1000) (q : ∀ w', MS c lm w w' → Q (iz (val c h b more y)) w') : wp_X3_valueOn r (iz b) (iz y) (iz more) w Q := m_valueOnT H hr G h1 h2 y1 h3 h4 (fun w' M => q w' M.1)
theorem m_valueOf (H : HM c lm w) {r : Nat} (hr : MR r) (G : MH c r h w) {b : Int} (h1 : 0 ≤ b) (h2 : b < hn h) (q : ∀ w', MS c lm w w' → Q (iz (valO c h b)) w') : wp_X3_valueOf r (iz b) w Q := m_valueOfT H hr G h1 h2 (fun w' M => q w' M.1)
end MV
