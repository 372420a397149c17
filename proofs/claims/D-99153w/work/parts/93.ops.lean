/-! the questions: both sides answer alike (written by gen/ops.py) -/
section OPQ
variable {z : Nat} {w : Wd} {C : Int32 → Wd → Prop}
theorem op_rule (I : INV z w) (u : Int32) (q : ∀ r1 w2, (∀ K : Int32 → Wd → Prop, (∀ w', INV z w' → K r1 w') → wp_X3_rule u w2 K) → C r1 w2) : wp_X1_rule u w C := by
  obtain ⟨a, a1, a2, rfl⟩ := ex_iz u
  obtain ⟨c, lm, h, k, im, hv, tp, pl, pk, fn, ok, X, M, hz⟩ := I
  refine x_rule (X.hx ok) ⟨a1, a2⟩ (q _ _ (fun K kk => ?_))
  have hq := (qX.refl w)
  have M2 := M.fr hq.1
  exact m_rule M2.hm ⟨a1, a2⟩ (fun w' ms => kk w' (inv_q ok X M hz hq ms.q))
theorem op_kind (I : INV z w) (u v : Int32) (q : ∀ r1 w2, (∀ K : Int32 → Wd → Prop, (∀ w', INV z w' → K r1 w') → wp_X3_kind u v w2 K) → C r1 w2) : wp_X1_kind u v w C := by
  obtain ⟨a, a1, a2, rfl⟩ := ex_iz u
  obtain ⟨b, b1, b2, rfl⟩ := ex_iz v
  obtain ⟨c, lm, h, k, im, hv, tp, pl, pk, fn, ok, X, M, hz⟩ := I
  refine x_kind (X.hx ok) ⟨a1, a2⟩ ⟨b1, b2⟩ (q _ _ (fun K kk => ?_))
  have hq := (qX.refl w)
  have M2 := M.fr hq.1
  exact m_kind M2.hm ⟨a1, a2⟩ ⟨b1, b2⟩ (fun w' ms => kk w' (inv_q ok X M hz hq ms.q))
theorem op_log (I : INV z w) (u v : Int32) (q : ∀ r1 w2, (∀ K : Int32 → Wd → Prop, (∀ w', INV z w' → K r1 w') → wp_X3_log u v w2 K) → C r1 w2) : wp_X1_log u v w C := by
  obtain ⟨a, a1, a2, rfl⟩ := ex_iz u
  obtain ⟨b, b1, b2, rfl⟩ := ex_iz v
  obtain ⟨c, lm, h, k, im, hv, tp, pl, pk, fn, ok, X, M, hz⟩ := I
  refine x_log (X.hx ok) ⟨a1, a2⟩ ⟨b1, b2⟩ (q _ _ (fun K kk => ?_))
  have hq := (qX.refl w)
  have M2 := M.fr hq.1
  exact m_log M2.hm (M2.mh ok) ⟨a1, a2⟩ ⟨b1, b2⟩ (fun w' ms => kk w' (inv_q ok X M hz hq ms.q))
theorem op_spans (I : INV z w) (u v : Int32) (q : ∀ r1 w2, (∀ K : Int32 → Wd → Prop, (∀ w', INV z w' → K r1 w') → wp_X3_spans u v w2 K) → C r1 w2) : wp_X1_spans u v w C := by
  obtain ⟨a, a1, a2, rfl⟩ := ex_iz u
  obtain ⟨b, b1, b2, rfl⟩ := ex_iz v
  obtain ⟨c, lm, h, k, im, hv, tp, pl, pk, fn, ok, X, M, hz⟩ := I
  refine x_spans (X.hx ok) ⟨a1, a2⟩ ⟨b1, b2⟩ (q _ _ (fun K kk => ?_))
  have hq := (qX.refl w)
  have M2 := M.fr hq.1
  exact m_spans M2.hm (M2.mh ok) ⟨a1, a2⟩ ⟨b1, b2⟩ (fun w' ms => kk w' (inv_q ok X M hz hq ms.q))
theorem op_nameless (I : INV z w) (q : ∀ r1 w2, (∀ K : Int32 → Wd → Prop, (∀ w', INV z w' → K r1 w') → wp_X3_nameless w2 K) → C r1 w2) : wp_X1_nameless w C := by
  obtain ⟨c, lm, h, k, im, hv, tp, pl, pk, fn, ok, X, M, hz⟩ := I
  refine x_nameless (X.hx ok) (q _ _ (fun K kk => ?_))
  have hq := (qX.refl w)
  have M2 := M.fr hq.1
  exact m_nameless M2.hm (M2.mh ok) (fun w' ms => kk w' (inv_q ok X M hz hq ms.q))
theorem op_doubles (I : INV z w) (u : Int32) (q : ∀ r1 w2, (∀ K : Int32 → Wd → Prop, (∀ w', INV z w' → K r1 w') → wp_X3_doubles u w2 K) → C r1 w2) : wp_X1_doubles u w C := by
  obtain ⟨a, a1, a2, rfl⟩ := ex_iz u
  obtain ⟨c, lm, h, k, im, hv, tp, pl, pk, fn, ok, X, M, hz⟩ := I
  refine x_doubles (X.hx ok) ⟨a1, a2⟩ (q _ _ (fun K kk => ?_))
  have hq := (qX.refl w)
  have M2 := M.fr hq.1
  exact m_doubles M2.hm (M2.mh ok) ⟨a1, a2⟩ (fun w' ms => kk w' (inv_q ok X M hz hq ms.q))
theorem op_most (I : INV z w) (u : Int32) (q : ∀ r1 w2, (∀ K : Int32 → Wd → Prop, (∀ w', INV z w' → K r1 w') → wp_X3_most u w2 K) → C r1 w2) : wp_X1_most u w C := by
  obtain ⟨a, a1, a2, rfl⟩ := ex_iz u
  obtain ⟨c, lm, h, k, im, hv, tp, pl, pk, fn, ok, X, M, hz⟩ := I
  refine x_most (X.hx ok) ⟨a1, a2⟩ (fun f => q _ _ (fun K kk => ?_))
  have hq := (qxs15 w f)
  have M2 := M.fr hq.1
  exact m_most M2.hm (M2.mh ok) ⟨a1, a2⟩ (fun w' ms => kk w' (inv_q ok X M hz hq ms.q))
theorem op_spoilt (I : INV z w) (q : ∀ r1 w2, (∀ K : Int32 → Wd → Prop, (∀ w', INV z w' → K r1 w') → wp_X3_spoilt w2 K) → C r1 w2) : wp_X1_spoilt w C := by
  obtain ⟨c, lm, h, k, im, hv, tp, pl, pk, fn, ok, X, M, hz⟩ := I
  refine x_spoilt (X.hx ok) (fun f => q _ _ (fun K kk => ?_))
  have hq := (qxs15 w f)
  have M2 := M.fr hq.1
  exact m_spoilt M2.hm (M2.mh ok) (fun w' ms => kk w' (inv_q ok X M hz hq ms.q))
theorem op_buried (I : INV z w) (u : Int32) (q : ∀ r1 w2, (∀ K : Int32 → Wd → Prop, (∀ w', INV z w' → K r1 w') → wp_X3_buried u w2 K) → C r1 w2) : wp_X1_buried u w C := by
  obtain ⟨a, a1, a2, rfl⟩ := ex_iz u
  obtain ⟨c, lm, h, k, im, hv, tp, pl, pk, fn, ok, X, M, hz⟩ := I
  refine x_buried (X.hx ok) ⟨a1, a2⟩ (q _ _ (fun K kk => ?_))
  have hq := (qX.refl w)
  have M2 := M.fr hq.1
  exact m_buried M2.hm (M2.mh ok) ⟨a1, a2⟩ (fun w' ms => kk w' (inv_q ok X M hz hq ms.q))
theorem op_goes (I : INV z w) (u : Int32) (q : ∀ r1 w2, (∀ K : Int32 → Wd → Prop, (∀ w', INV z w' → K r1 w') → wp_X3_goes u w2 K) → C r1 w2) : wp_X1_goes u w C := by
  obtain ⟨a, a1, a2, rfl⟩ := ex_iz u
  obtain ⟨c, lm, h, k, im, hv, tp, pl, pk, fn, ok, X, M, hz⟩ := I
  refine x_goes (X.hx ok) ⟨a1, a2⟩ (q _ _ (fun K kk => ?_))
  have hq := (qX.refl w)
  have M2 := M.fr hq.1
  exact m_goes M2.hm ⟨a1, a2⟩ (fun w' ms => kk w' (inv_q ok X M hz hq ms.q))
theorem op_soonest (I : INV z w) (u : Int32) (q : ∀ r1 w2, (∀ K : Int32 → Wd → Prop, (∀ w', INV z w' → K r1 w') → wp_X3_soonest u w2 K) → C r1 w2) : wp_X1_soonest u w C := by
  obtain ⟨a, a1, a2, rfl⟩ := ex_iz u
  obtain ⟨c, lm, h, k, im, hv, tp, pl, pk, fn, ok, X, M, hz⟩ := I
  refine x_soonest (X.hx ok) ⟨a1, a2⟩ (fun f => q _ _ (fun K kk => ?_))
  have hq := (qxs15 w f)
  have M2 := M.fr hq.1
  exact m_soonest M2.hm (M2.mh ok) ⟨a1, a2⟩ (fun w' ms => kk w' (inv_q ok X M hz hq ms.q))
theorem op_monthly (I : INV z w) (u : Int32) (q : ∀ r1 w2, (∀ K : Int32 → Wd → Prop, (∀ w', INV z w' → K r1 w') → wp_X3_monthly u w2 K) → C r1 w2) : wp_X1_monthly u w C := by
  obtain ⟨a, a1, a2, rfl⟩ := ex_iz u
  obtain ⟨c, lm, h, k, im, hv, tp, pl, pk, fn, ok, X, M, hz⟩ := I
  refine x_monthly (X.hx ok) ⟨a1, a2⟩ (fun f => q _ _ (fun K kk => ?_))
  have hq := (qxs15 w f)
  have M2 := M.fr hq.1
  exact m_monthly M2.hm (M2.mh ok) ⟨a1, a2⟩ (fun w' ms => kk w' (inv_q ok X M hz hq ms.q))
theorem op_make (I : INV z w) (u v : Int32) (q : ∀ r1 w2, (∀ K : Int32 → Wd → Prop, (∀ w', INV z w' → K r1 w') → wp_X3_make u v w2 K) → C r1 w2) : wp_X1_make u v w C := by
  obtain ⟨a, a1, a2, rfl⟩ := ex_iz u
  obtain ⟨b, b1, b2, rfl⟩ := ex_iz v
  obtain ⟨c, lm, h, k, im, hv, tp, pl, pk, fn, ok, X, M, hz⟩ := I
  refine x_make (X.hx ok) ⟨a1, a2⟩ ⟨b1, b2⟩ (q _ _ (fun K kk => ?_))
  have hq := (qX.refl w)
  have M2 := M.fr hq.1
  exact m_make M2.hm ⟨a1, a2⟩ ⟨b1, b2⟩ (fun w' ms => kk w' (inv_q ok X M hz hq ms.q))
theorem op_full (I : INV z w) (u : Int32) (q : ∀ r1 w2, (∀ K : Int32 → Wd → Prop, (∀ w', INV z w' → K r1 w') → wp_X3_full u w2 K) → C r1 w2) : wp_X1_full u w C := by
  obtain ⟨a, a1, a2, rfl⟩ := ex_iz u
  obtain ⟨c, lm, h, k, im, hv, tp, pl, pk, fn, ok, X, M, hz⟩ := I
  refine x_full (X.hx ok) ⟨a1, a2⟩ (q _ _ (fun K kk => ?_))
  have hq := (qX.refl w)
  have M2 := M.fr hq.1
  exact m_full M2.hm ⟨a1, a2⟩ (fun w' ms => kk w' (inv_q ok X M hz hq ms.q))
theorem op_labels (I : INV z w) (u v : Int32) (q : ∀ r1 w2, (∀ K : Int32 → Wd → Prop, (∀ w', INV z w' → K r1 w') → wp_X3_labels u v w2 K) → C r1 w2) : wp_X1_labels u v w C := by
  obtain ⟨a, a1, a2, rfl⟩ := ex_iz u
  obtain ⟨b, b1, b2, rfl⟩ := ex_iz v
  obtain ⟨c, lm, h, k, im, hv, tp, pl, pk, fn, ok, X, M, hz⟩ := I
  refine x_labels (X.hx ok) ⟨a1, a2⟩ ⟨b1, b2⟩ (q _ _ (fun K kk => ?_))
  have hq := (qX.refl w)
  have M2 := M.fr hq.1
  exact m_labels M2.hm (M2.mh ok) ⟨a1, a2⟩ ⟨b1, b2⟩ (fun w' ms => kk w' (inv_q ok X M hz hq ms.q))
theorem op_rests (I : INV z w) (u : Int32) (q : ∀ r1 w2, (∀ K : Int32 → Wd → Prop, (∀ w', INV z w' → K r1 w') → wp_X3_rests u w2 K) → C r1 w2) : wp_X1_rests u w C := by
  obtain ⟨a, a1, a2, rfl⟩ := ex_iz u
  obtain ⟨c, lm, h, k, im, hv, tp, pl, pk, fn, ok, X, M, hz⟩ := I
  refine x_rests (X.hx ok) ⟨a1, a2⟩ (q _ _ (fun K kk => ?_))
  have hq := (qX.refl w)
  have M2 := M.fr hq.1
  exact m_rests M2.hm (M2.mh ok) ⟨a1, a2⟩ (fun w' ms => kk w' (inv_q ok X M hz hq ms.q))
theorem op_keep (I : INV z w) (u v : Int32) (q : ∀ r1 w2, (∀ K : Int32 → Wd → Prop, (∀ w', INV z w' → K r1 w') → wp_X3_keep u v w2 K) → C r1 w2) : wp_X1_keep u v w C := by
  obtain ⟨a, a1, a2, rfl⟩ := ex_iz u
  obtain ⟨b, b1, b2, rfl⟩ := ex_iz v
  obtain ⟨c, lm, h, k, im, hv, tp, pl, pk, fn, ok, X, M, hz⟩ := I
  refine x_keep (X.hx ok) ⟨a1, a2⟩ ⟨b1, b2⟩ (fun f => q _ _ (fun K kk => ?_))
  have hq := (qxs15 w f)
  have M2 := M.fr hq.1
  exact m_keep M2.hm (M2.mh ok) ⟨a1, a2⟩ ⟨b1, b2⟩ (fun w' ms => kk w' (inv_q ok X M hz hq (by rcases ms with ms | ms; exact ms.q; exact ms.q)))
theorem op_dinner (I : INV z w) (u v : Int32) (q : ∀ r1 w2, (∀ K : Int32 → Wd → Prop, (∀ w', INV z w' → K r1 w') → wp_X3_dinner u v w2 K) → C r1 w2) : wp_X1_dinner u v w C := by
  obtain ⟨a, a1, a2, rfl⟩ := ex_iz u
  obtain ⟨b, b1, b2, rfl⟩ := ex_iz v
  obtain ⟨c, lm, h, k, im, hv, tp, pl, pk, fn, ok, X, M, hz⟩ := I
  refine x_dinner (X.hx ok) ⟨a1, a2⟩ ⟨b1, b2⟩ (fun f => q _ _ (fun K kk => ?_))
  have hq := (qxs15 w f)
  have M2 := M.fr hq.1
  exact m_dinner M2.hm (M2.mh ok) ⟨a1, a2⟩ ⟨b1, b2⟩ (fun w' ms => kk w' (inv_q ok X M hz hq ms.q))
theorem op_lot (I : INV z w) (u : Int32) (q : ∀ r1 w2, (∀ K : Int32 → Wd → Prop, (∀ w', INV z w' → K r1 w') → wp_X3_lot u w2 K) → C r1 w2) : wp_X1_lot u w C := by
  obtain ⟨a, a1, a2, rfl⟩ := ex_iz u
  obtain ⟨c, lm, h, k, im, hv, tp, pl, pk, fn, ok, X, M, hz⟩ := I
  refine x_lot (X.hx ok) ⟨a1, a2⟩ (fun f => q _ _ (fun K kk => ?_))
  have hq := (qxs15 w f)
  have M2 := M.fr hq.1
  exact m_lot M2.hm (M2.mh ok) ⟨a1, a2⟩ (fun w' ms => kk w' (inv_q ok X M hz hq ms.q))
theorem op_eat (I : INV z w) (u : Int32) (q : ∀ r1 w2, (∀ K : Int32 → Wd → Prop, (∀ w', INV z w' → K r1 w') → wp_X3_eat u w2 K) → C r1 w2) : wp_X1_eat u w C := by
  obtain ⟨a, a1, a2, rfl⟩ := ex_iz u
  obtain ⟨c, lm, h, k, im, hv, tp, pl, pk, fn, ok, X, M, hz⟩ := I
  refine x_eat (X.hx ok) ⟨a1, a2⟩ (fun f g => q _ _ (fun K kk => ?_))
  have hq := ((qxs15 w f).sB (a := 36) (by decide) (by decide) (by decide) g)
  have M2 := M.fr hq.1
  exact m_eat M2.hm (M2.mh ok) ⟨a1, a2⟩ (fun w' ms => kk w' (inv_q ok X M hz hq ms.q))
theorem op_what (I : INV z w) (u : Int32) (q : ∀ r1 w2, (∀ K : Int32 → Wd → Prop, (∀ w', INV z w' → K r1 w') → wp_X3_what u w2 K) → C r1 w2) : wp_X1_what u w C := by
  obtain ⟨a, a1, a2, rfl⟩ := ex_iz u
  obtain ⟨c, lm, h, k, im, hv, tp, pl, pk, fn, ok, X, M, hz⟩ := I
  refine x_what (X.hx ok) ok.2.2.2.2.2.2.2.2.2.2.2.1 X.2.2.2.2.2.2.2.2.2.2.2.2.2.2.1 ⟨a1, a2⟩ (q _ _ (fun K kk => ?_))
  have hq := (qX.refl w)
  have M2 := M.fr hq.1
  exact m_what M2.hm ok.2.2.2.2.2.2.2.2.2.2.2.1 M2.2.2.2.2.2.2.2.2.2.2.1 ⟨a1, a2⟩ (fun w' ms => kk w' (inv_q ok X M hz hq ms.q))
theorem op_costs (I : INV z w) (u : Int32) (q : ∀ r1 w2, (∀ K : Int32 → Wd → Prop, (∀ w', INV z w' → K r1 w') → wp_X3_costs u w2 K) → C r1 w2) : wp_X1_costs u w C := by
  obtain ⟨a, a1, a2, rfl⟩ := ex_iz u
  obtain ⟨c, lm, h, k, im, hv, tp, pl, pk, fn, ok, X, M, hz⟩ := I
  refine x_costs (X.hx ok) ⟨a1, a2⟩ (fun f g j A => q _ _ (fun K kk => ?_))
  have f2 : fX 0 w (sB (sB (sB w 15 f) 31 g) 35 j) := (((fX.refl w).sB (a := 15) (by decide) f).sB (a := 31) (by decide) g).sB (a := 35) (by decide) j
  have M2 := M.fr f2
  have X2 : SX c lm h k im hv tp pl pk fn (sB (sB (sB w 15 f) 31 g) 35 j) := X.deed ok f2 (by rw [gA_n _ (by decide), gA_r]; exact A) X.2.2.2.2.2.2.2.1 (by rw [gA_n _ (by decide), gA_n _ (by decide), gA_n _ (by decide)]; exact X.2.2.2.2.2.2.2.2.1)
  exact m_costs M2.hm (M2.mh ok) ⟨a1, a2⟩ (fun w' ms => kk w' (inv_q ok X2 M2 hz (qX.refl _) (by rcases ms with ms | ms; exact ms.q; exact ms.q)))
theorem op_history (I : INV z w) (u v : Int32) (q : ∀ r1 w2, (∀ K : Int32 → Wd → Prop, (∀ w', INV z w' → K r1 w') → wp_X3_history u v w2 K) → C r1 w2) : wp_X1_history u v w C := by
  obtain ⟨a, a1, a2, rfl⟩ := ex_iz u
  obtain ⟨b, b1, b2, rfl⟩ := ex_iz v
  obtain ⟨c, lm, h, k, im, hv, tp, pl, pk, fn, ok, X, M, hz⟩ := I
  have okF := ok.2.2.2.2.2.2.2.2.2.2.2.2
  have XF := X.2.2.2.2.2.2.2.2.2.2.2.2.2.2.2
  refine x_history (X.hx ok) okF XF ⟨a1, a2⟩ ⟨b1, b2⟩ (fun e1 e2 w2 f => q _ _ (fun K kk => ?_)) (fun e w2 f => q _ _ (fun K kk => ?_))
  · have hq := qX.h3 f
    have M2 := M.fr hq.1
    exact m_history M2.hm okF M2.2.2.2.2.2.2.2.2.2.2.2 ⟨a1, a2⟩ ⟨b1, b2⟩ (fun _ _ w' g => kk w' (inv_q ok X M hz hq (hm_qg M2.hm g))) (fun e w' g => by rcases e with e | e; exact absurd e e1; exact absurd e2 e)
  · have hq := qX.h3 f
    have M2 := M.fr hq.1
    exact m_history M2.hm okF M2.2.2.2.2.2.2.2.2.2.2.2 ⟨a1, a2⟩ ⟨b1, b2⟩ (fun e1 e2 w' g => by rcases e with e | e; exact absurd e e1; exact absurd e2 e) (fun _ w' g => kk w' (inv_q ok X M hz hq (hm_qg M2.hm g)))
theorem op_share (I : INV z w) (u : Int32) (q : ∀ r1 w2, (∀ K : Int32 → Wd → Prop, (∀ w', INV z w' → K r1 w') → wp_X3_share u w2 K) → C r1 w2) : wp_X1_share u w C := by
  obtain ⟨a, a1, a2, rfl⟩ := ex_iz u
  obtain ⟨c, lm, h, k, im, hv, tp, pl, pk, fn, ok, X, M, hz⟩ := I
  have okF := ok.2.2.2.2.2.2.2.2.2.2.2.2
  have XF := X.2.2.2.2.2.2.2.2.2.2.2.2.2.2.2
  refine x_share (X.hx ok) okF XF ⟨a1, a2⟩ (fun e1 e2 w2 f => q _ _ (fun K kk => ?_)) (fun e w2 f => q _ _ (fun K kk => ?_))
  · have hq := qX.h3 f
    have M2 := M.fr hq.1
    exact m_share M2.hm okF M2.2.2.2.2.2.2.2.2.2.2.2 ⟨a1, a2⟩ (fun _ _ w' g => kk w' (inv_q ok X M hz hq (hm_qg M2.hm g))) (fun e w' g => absurd (e e1) e2)
  · have hq := qX.h3 f
    have M2 := M.fr hq.1
    exact m_share M2.hm okF M2.2.2.2.2.2.2.2.2.2.2.2 ⟨a1, a2⟩ (fun e1 e2 w' g => absurd (e e1) e2) (fun _ w' g => kk w' (inv_q ok X M hz hq (hm_qg M2.hm g)))
end OPQ
