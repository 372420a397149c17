/-! a row of parts, read on both sides: products -/
/-- how the component stands in its loop -/
def StX (K : Nat) (w0 w : Wd) (s0 : Nat) (f0 : En → Int32) (U : Nat → Prop) (l2 : Option Nat) (I : List It) : Prop := XF w0 w ∧ (∀ q, U q → gF w0 q = none) ∧ DenS K U w s0 f0 ∧ (∀ x ∈ I, sgOK x.2.1 ∧ DenS K U w x.2.2.1 x.2.2.2) ∧ ((l2 = none ∧ I = []) ∨ ∃ r0, l2 = some r0 ∧ ChL w r0 s0 I ∧ gF w0 r0 = none ∧ ¬ U r0 ∧ ∀ x ∈ I, gF w0 x.1 = none ∧ ¬ U x.1)
theorem XS.lower {t : Int → Int} {n Z0 Z1 p d : Int} {w : Wd} (S : XS t n Z0 p d w) (h : (gZ w : Int) ≤ Z1 + 2 * p) : XS t n Z1 p d w := ⟨S.1, S.2.1, S.2.2.1, S.2.2.2.1, h⟩
theorem DenS.xf {K : Nat} {S : Nat → Prop} {w w' : Wd} {r : Nat} {f : En → Int32} (D : DenS K S w r f) (g : XF w w') : DenS K S w' r f := D.on (Nat.le_refl _) (fun _ h => h) (fun q hq => by rw [g.2.2.2.2.2.1 q (D.1 q hq)]; exact D.1 q hq) (fun q hq => g.2.2.2.2.2.1 q (D.1 q hq))
/-- the state goes along with what is read further -/
theorem StX.xf {K : Nat} {w0 w w' : Wd} {s0 : Nat} {f0 : En → Int32} {U : Nat → Prop} {l2 : Option Nat} {I : List It} (H : StX K w0 w s0 f0 U l2 I) (g : XF w w') : StX K w0 w' s0 f0 U l2 I := by
  obtain ⟨h1, h2, h3, h4, h5⟩ := H
  refine ⟨h1.trans g, h2, h3.xf g, fun x hx => ⟨(h4 x hx).1, (h4 x hx).2.xf g⟩, ?_⟩
  rcases h5 with h5 | ⟨r0, e, C, h6, h7, h8⟩
  · exact Or.inl h5
  · refine Or.inr ⟨r0, e, C.on ?_ (fun x hx => ?_), h6, h7, h8⟩
    · obtain ⟨fs, e2⟩ := C.r
      exact g.2.2.2.2.2.1 r0 (by rw [e2]; exact fun z => nomatch z)
    · obtain ⟨hd, tl, e1, e2⟩ := C.seg
      obtain ⟨fs, e3⟩ := Seg.al I hd none e2 x hx
      exact g.2.2.2.2.2.1 x.1 (by rw [e3]; exact fun z => nomatch z)
/-- one more link -/
theorem StX.add {t : Int → Int} {n Z0 p d : Int} {K : Nat} {w0 w w2 : Wd} {s0 r0 sm : Nat} {sg : Int32} {f0 f : En → Int32} {U S2 : Nat → Prop} {I : List It} {Q : Wd → Prop} (zh : Z0 + 600 ≤ 600000) (hp : p ≤ 240) (H : StX K w0 w s0 f0 U (some r0) I) (g : XF w w2) (X2 : XS t n (Z0 - 1) p d w2) (hf : ∀ q, S2 q → gF w q = none) (D2 : DenS K S2 w2 sm f) (hs : sgOK sg) (q : ∀ (r : Nat) (w' : Wd), StX K w0 w' s0 f0 (fun q => U q ∨ S2 q) (some r0) (I ++ [(r, sg, sm, f)]) → XS t n Z0 p d w' → Q w') : wp_X7_add r0 sg (some sm) w2 Q := by
  have H2 := H.xf g
  obtain ⟨h1, h2, h3, h4, h5⟩ := H2
  rcases h5 with ⟨h5, -⟩ | ⟨r1, e, C, h6, h7, h8⟩
  · exact nomatch h5
  obtain rfl : r0 = r1 := Option.some.inj e
  -- the chain's own cells lie outside what was read now
  obtain ⟨w0f, -, -, -, k5⟩ := H
  have out : ¬ S2 r0 ∧ ∀ x ∈ I, ¬ S2 x.1 := by
    rcases k5 with ⟨k5, -⟩ | ⟨r1, e1, C1, -⟩
    · exact nomatch k5
    obtain rfl : r0 = r1 := Option.some.inj e1
    constructor
    · intro z
      obtain ⟨fs, e2⟩ := C1.r
      have := hf r0 z
      rw [e2] at this
      exact nomatch this
    · intro x hx z
      obtain ⟨hd, tl, y1, y2⟩ := C1.seg
      obtain ⟨fs, y3⟩ := Seg.al I hd none y2 x hx
      have := hf x.1 z
      rw [y3] at this
      exact nomatch this
  have z2 := X2.z
  refine x_add (f := f) C (by omega) (fun r w' hn eI eA eJ eL eC eZ eF C' => ?_)
  have keep : ∀ q, U q ∨ S2 q → gF w2 q ≠ none := fun q hq => by
    rcases hq with hq | hq
    · exact h3.1 q hq
    · exact D2.1 q hq
  have same : ∀ q, U q ∨ S2 q → gF w' q = gF w2 q := fun q hq => by
    refine eF q (fun z => ?_) (fun z => ?_) (fun x hx z => ?_)
    · have := keep q hq
      rw [z] at this
      exact this hn
    · rw [z] at hq
      rcases hq with hq | hq
      · exact h7 hq
      · exact out.1 hq
    · rw [z] at hq
      rcases hq with hq | hq
      · exact (h8 x hx).2 hq
      · exact out.2 x hx hq
  have al : ∀ q, U q ∨ S2 q → gF w' q ≠ none := fun q hq => by rw [same q hq]; exact keep q hq
  have wF : XF w0 w' := by
    obtain ⟨y1, y2, y3, y4, y5, y6, y7⟩ := h1
    refine ⟨fun k a b => by rw [eI]; exact y1 k a b, by rw [eA]; exact y2, by rw [eJ]; exact y3, by rw [eL]; exact y4, by rw [eC]; exact y5, fun q hq => ?_, by omega⟩
    rw [eF q (fun z => ?_) (fun z => ?_) (fun x hx z => ?_)]
    · exact y6 q hq
    · have := y6 q hq
      rw [z, hn] at this
      rw [z] at hq
      exact hq this.symm
    · rw [z] at hq
      exact hq h6
    · rw [z] at hq
      exact hq (h8 x hx).1
  refine q r w' ⟨wF, fun q hq => ?_, h3.on (Nat.le_refl _) (fun _ h => Or.inl h) al (fun q hq => same q (Or.inl hq)), fun x hx => ?_, Or.inr ⟨r0, rfl, C', h6, fun z => ?_, fun x hx => ?_⟩⟩ ?_
  · rcases hq with hq | hq
    · exact h2 q hq
    · exact w0f.fresh (hf q hq)
  · rcases List.mem_append.mp hx with hx | hx
    · exact ⟨(h4 x hx).1, (h4 x hx).2.on (Nat.le_refl _) (fun _ h => Or.inl h) al (fun q hq => same q (Or.inl hq))⟩
    · rw [List.mem_singleton.mp hx]
      exact ⟨hs, D2.on (Nat.le_refl _) (fun _ h => Or.inr h) al (fun q hq => same q (Or.inr hq))⟩
  · rcases z with z | z
    · exact h7 z
    · exact out.1 z
  · rcases List.mem_append.mp hx with hx | hx
    · refine ⟨(h8 x hx).1, fun z => ?_⟩
      rcases z with z | z
      · exact (h8 x hx).2 z
      · exact out.2 x hx z
    · rw [List.mem_singleton.mp hx]
      refine ⟨h1.fresh hn, fun z => ?_⟩
      exact keep r z hn
  · obtain ⟨y1, y2, y3, y4, y5⟩ := X2
    refine ⟨by rw [eI]; exact y1, by rw [eA]; exact y2, by rw [eI]; exact y3, by rw [eI]; exact y4, ?_⟩
    rw [eZ]
    omega
/-- the end of a row -/
theorem StX.fin {K : Nat} {w0 w : Wd} {s0 : Nat} {f0 : En → Int32} {U : Nat → Prop} {l2 : Option Nat} {I : List It} {Q : Nat → Wd → Prop} (H : StX K w0 w s0 f0 U l2 I) (q : ∀ (r : Nat) (S : Nat → Prop), (∀ q, S q → gF w0 q = none) → DenS (K + 1) S w r (fun e => cf (vls I) e (f0 e)) → Q r w) : (∀ i1, l2 = some i1 → ∃ i2, l2 = some i2 ∧ Q i2 w) ∧ (l2 = none → ∃ i3, some s0 = some i3 ∧ Q i3 w) := by
  obtain ⟨h1, h2, h3, h4, h5⟩ := H
  rcases h5 with ⟨rfl, rfl⟩ | ⟨r0, rfl, C, h6, h7, h8⟩
  · exact ⟨fun i e => (nomatch e), fun _ => ⟨s0, rfl, q s0 U h2 (h3.on (Nat.le_succ _) (fun _ h => h) h3.1 (fun _ _ => rfl))⟩⟩
  · refine ⟨fun i e => ⟨r0, rfl, q r0 _ (fun x hx => ?_) (den_chain C h3 h4)⟩, fun e => (nomatch e)⟩
    rcases hx with hx | rfl | ⟨y, hy, rfl⟩
    · exact h2 x hx
    · exact h6
    · exact (h8 y hy).1
/-- a new chain -/
theorem StX.new {t : Int → Int} {n Z0 p d : Int} {K : Nat} {w0 w : Wd} {s0 : Nat} {f0 : En → Int32} {U : Nat → Prop} {Q : Nat → Wd → Prop} (zh : Z0 + 600 ≤ 600000) (hp : p ≤ 240) (H : StX K w0 w s0 f0 U none []) (S : XS t n Z0 p d w) (z1 : (gZ w : Int) + 1 ≤ Z0 + 2 * p) (q : ∀ (r : Nat) (w' : Wd), StX K w0 w' s0 f0 U (some r) [] → XS t n Z0 p d w' → Q r w') : gZ w + 1 ≤ CM ∧ (∀ r3, 200 ≤ r3 → gF w r3 = none → ∀ w4, w4 = sZ (sF w r3 (4, [.null, .null, .null])) (gZ w + 1) → wp_X7_init r3 (some s0) w4 (fun w6 => Q r3 w6)) := by
  refine ⟨by show gZ w + 1 ≤ 600000; omega, fun r hr hn => ?_⟩
  rintro w2 rfl
  refine ⟨_, by rw [gF_sZ, gF_sF, if_pos rfl], by simp, ?_⟩
  rintro w3 rfl
  obtain ⟨h1, h2, h3, h4, h5⟩ := H
  have h0 := h1.fresh hn
  have same : ∀ q, U q → gF (sF (sZ (sF w r (4, [.null, .null, .null])) (gZ w + 1)) r (4, [Value.null, .null, .null].set 0 (rv (some s0)))) q = gF w q := fun q hq => by
    have nq : q ≠ r := fun z => by
      have := h3.1 q hq
      rw [z] at this
      exact this hn
    rw [gF_sF, if_neg nq, gF_sZ, gF_sF, if_neg nq]
  have al := fun q hq => (show gF (sF (sZ (sF w r (4, [.null, .null, .null])) (gZ w + 1)) r (4, [Value.null, .null, .null].set 0 (rv (some s0)))) q ≠ none from by rw [same q hq]; exact h3.1 q hq)
  obtain ⟨s1, s2, s3, s4, s5⟩ := S
  refine q r _ ⟨((h1.sF h0 _).sZ (Nat.le_succ _)).sF h0 _, h2, h3.on (Nat.le_refl _) (fun _ h => h) al same, fun x hx => (nomatch hx), Or.inr ⟨r, rfl, Or.inl ⟨rfl, ?_⟩, h0, fun z => h3.1 r z hn, fun x hx => (nomatch hx)⟩⟩ ⟨s1, s2, s3, s4, ?_⟩
  · rw [gF_sF, if_pos rfl]
    rfl
  · show ((gZ w + 1 : Nat) : Int) ≤ _
    omega
theorem m_ar_term {w : Wd} {R5 : Int32 → Wd → Prop} {l1 r2 tt sg : Int32} (h : tt = iz 1 ∧ sg = iz 42 ∨ tt = iz 0 ∧ sg = iz 47) (q : R5 (stp sg l1 r2) w) : (tt = iz 0 → (¬ (lg_cmp r2.toInt64 (lz 0)) = iz 0 → (¬ r2.toInt64 = 0) ∧ wp_X3_within (l1.toInt64 / r2.toInt64) w (fun r4 w5 => R5 r4 w5)) ∧ ((lg_cmp r2.toInt64 (lz 0)) = iz 0 → wp_X3_within (lz 0) w (fun r6 w7 => R5 r6 w7))) ∧ (¬ tt = iz 0 → wp_X3_within (l1.toInt64 * r2.toInt64) w (fun r8 w9 => R5 r8 w9)) := by
  unfold stp opL at q
  rcases h with ⟨rfl, rfl⟩ | ⟨rfl, rfl⟩
  · rw [if_pos rfl] at q
    exact t1 q
  · rw [if_neg (by decide), if_neg (by decide), if_neg (by decide)] at q
    refine t0 ⟨fun e => ?_, fun e => ?_⟩
    · have e3 : ¬ r2.toInt64 = lz 0 := fun z => e ((lg0 r2).mpr z)
      rw [if_neg e3] at q
      exact ⟨e3, q⟩
    · rw [if_pos ((lg0 r2).mp e)] at q
      exact q
theorem m_ar_sum {w : Wd} {R5 : Int32 → Wd → Prop} {l1 r2 tt sg : Int32} (h : tt = iz 1 ∧ sg = iz 43 ∨ tt = iz 0 ∧ sg = iz 45) (q : R5 (stp sg l1 r2) w) : (tt = iz 0 → wp_X3_within (l1.toInt64 - r2.toInt64) w (fun r4 w5 => R5 r4 w5)) ∧ (¬ tt = iz 0 → wp_X3_within (l1.toInt64 + r2.toInt64) w (fun r6 w7 => R5 r6 w7)) := by
  unfold stp opL at q
  rcases h with ⟨rfl, rfl⟩ | ⟨rfl, rfl⟩
  · rw [if_neg (by decide), if_pos rfl] at q
    exact t1 q
  · rw [if_neg (by decide), if_neg (by decide), if_pos rfl] at q
    exact t0 q
