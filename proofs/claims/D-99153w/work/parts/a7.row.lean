/-! rows of tests -/
abbrev Ut : Type := Nat × Nat × List Value × (En → Bool)
def SegT (w : Wd) : Option Nat → List Ut → Option Nat → Prop
  | hd, [], tl => hd = tl
  | hd, x :: L, tl => hd = some x.1 ∧ ∃ nx, gF w x.1 = some (x.2.1, rv nx :: x.2.2.1) ∧ SegT w nx L tl
theorem SegT.on {w w' : Wd} : ∀ (I : List Ut) (hd tl : Option Nat), (∀ x ∈ I, gF w' x.1 = gF w x.1) → SegT w hd I tl → SegT w' hd I tl
  | [], _, _, _, h => h
  | x :: L, hd, tl, e, ⟨h1, nx, h2, h3⟩ => ⟨h1, nx, by rw [e x List.mem_cons_self]; exact h2, SegT.on L nx tl (fun y hy => e y (List.mem_cons_of_mem _ hy)) h3⟩
theorem SegT.snoc {w : Wd} {la : Ut} {nx : Option Nat} (hn : gF w la.1 = some (la.2.1, rv nx :: la.2.2.1)) : ∀ (I : List Ut) (hd : Option Nat), SegT w hd I (some la.1) → SegT w hd (I ++ [la]) nx
  | [], _, h => ⟨h, nx, hn, rfl⟩
  | x :: L, hd, ⟨h1, n2, h2, h3⟩ => ⟨h1, n2, h2, SegT.snoc hn L n2 h3⟩
theorem SegT.al {w : Wd} : ∀ (I : List Ut) (hd tl : Option Nat), SegT w hd I tl → ∀ x ∈ I, gF w x.1 ≠ none
  | [], _, _, _, x, hx => nomatch hx
  | y :: L, hd, tl, ⟨h1, nx, h2, h3⟩, x, hx => by
    rcases List.mem_cons.mp hx with e | e
    · rw [e, h2]
      exact fun z => nomatch z
    · exact SegT.al L nx tl h3 x e
def sev (a : Bool) : List (En → Bool) → En → Bool
  | [], _ => a
  | f :: L, e => if f e = a then sev a L e else !a
def mf (a : Bool) : Bool → List (En → Bool) → En → Bool
  | b, [], _ => b
  | b, f :: L, e => mf a (if b = a then f e else !a) L e
theorem mf_sev (a : Bool) (e : En) : ∀ (L : List (En → Bool)) (b : Bool), mf a b L e = if b = a then sev a L e else !a
  | [], b => by
    show b = if b = a then a else !a
    cases a <;> cases b <;> rfl
  | f :: L, b => by
    show mf a (if b = a then f e else !a) L e = if b = a then (if f e = a then sev a L e else !a) else !a
    rw [mf_sev a e L]
    by_cases h : b = a
    · simp only [if_pos h]
    · simp only [if_neg h]
      rw [if_neg (by cases a <;> decide)]
theorem sev_1 (a : Bool) (f : En → Bool) (G : List (En → Bool)) (e : En) : sev a (f :: G) e = mf a (f e) G e := (mf_sev a e G (f e)).symm
theorem bz_inj {a b : Bool} : bz a = bz b ↔ a = b := by
  cases a <;> cases b
  · exact ⟨fun _ => rfl, fun _ => rfl⟩
  · exact ⟨fun h => absurd h (by decide), fun h => nomatch h⟩
  · exact ⟨fun h => absurd h (by decide), fun h => nomatch h⟩
  · exact ⟨fun _ => rfl, fun _ => rfl⟩
def mns (I : List Ut) : List (En → Bool) := I.map (fun x => x.2.2.2)
section RW2
variable {w : Wd}
theorem x_rowl {K k : Nat} {U : Nat → Prop} {Q : Int32 → Wd → Prop} {r0 : Nat} {a : Bool} {n0 v2 v3 : Value} (hk : K ≤ k) (hr : gF w r0 = some (9, [n0, .int (bz a), v2, v3])) : ∀ (I : List Ut) (hd : Option Nat), SegT w hd I none → (∀ x ∈ I, DenT K U w x.1 x.2.1 x.2.2.1 x.2.2.2) → Q (bz (sev a (mns I) (gA w 15))) w → lp_X13_holds_5 (pf_hold k) Q (some r0) 15 (I.length + 1) hd w
  | [], hd, h, _, q => by
    have h : hd = none := h
    subst h
    exact ⟨fun _ => ⟨r0, rfl, bz a, ⟨_, hr, rfl⟩, zok_bz a, q⟩, fun i e => (nomatch e)⟩
  | x :: L, hd, ⟨h1, nx, h2, h3⟩, hI, q => by
    subst h1
    have D := hI x List.mem_cons_self
    have q : Q (bz (if x.2.2.2 (gA w 15) = a then sev a (mns L) (gA w 15) else !a)) w := q
    refine ⟨fun e => (nomatch e), fun i e => ⟨x.1, rfl, D.2.2.2 w nx (fun _ _ => rfl) h2 k hk _ ⟨r0, rfl, bz a, ⟨_, hr, rfl⟩, fun e2 => ?_, fun e2 => ?_⟩⟩⟩
    · rw [if_pos (bz_inj.mp e2)] at q
      exact ⟨x.1, rfl, nx, ⟨_, _, D.1, h2, rfl⟩, x_rowl hk hr L nx h3 (fun y hy => hI y (List.mem_cons_of_mem _ hy)) q⟩
    · rw [if_neg (fun z => e2 (bz_inj.mpr z))] at q
      refine ⟨r0, rfl, bz a, ⟨_, hr, rfl⟩, ?_⟩
      cases a
      · exact u0 q
      · exact u1 q
/-- the row at r0 -/
def RowL (w : Wd) (r0 : Nat) (a : Bool) (I : List Ut) : Prop := ∃ (J : List Ut) (la : Ut) (hd : Option Nat), I = J ++ [la] ∧ gF w r0 = some (9, [rv none, .int (bz a), rv hd, rv (some la.1)]) ∧ SegT w hd J (some la.1) ∧ gF w la.1 = some (la.2.1, rv none :: la.2.2.1) ∧ (∀ x ∈ J, x.1 ≠ la.1) ∧ ∀ x ∈ I, x.1 ≠ r0
theorem RowL.seg {r0 : Nat} {a : Bool} {I : List Ut} (C : RowL w r0 a I) : ∃ hd tl, gF w r0 = some (9, [rv none, .int (bz a), rv hd, tl]) ∧ SegT w hd I none := by
  obtain ⟨J, la, hd, h1, h, h3, h4, h5⟩ := C
  subst h1
  exact ⟨hd, _, h, SegT.snoc (nx := none) h4 J hd h3⟩
theorem RowL.on {w' : Wd} {r0 : Nat} {a : Bool} {I : List Ut} (C : RowL w r0 a I) (e0 : gF w' r0 = gF w r0) (e : ∀ x ∈ I, gF w' x.1 = gF w x.1) : RowL w' r0 a I := by
  obtain ⟨J, la, hd, h1, h, h3, h4, h5, h6⟩ := C
  subst h1
  exact ⟨J, la, hd, rfl, by rw [e0]; exact h, h3.on J hd _ (fun x hx => e x (List.mem_append_left _ hx)), by rw [e la (List.mem_append_right _ List.mem_cons_self)]; exact h4, h5, h6⟩
theorem den_row {K : Nat} {U : Nat → Prop} {r0 : Nat} {a : Bool} {I : List Ut} (C : RowL w r0 a I) (hU : ∀ q, U q → gF w q ≠ none) (nU : ¬ U r0) (hI : ∀ x ∈ I, DenT K U w x.1 x.2.1 x.2.2.1 x.2.2.2) : ∃ fs, gF w r0 = some (9, rv none :: fs) ∧ DenT (K + 1) (fun q => U q ∨ ∃ x ∈ I, q = x.1) w r0 9 fs (fun e => sev a (mns I) e) := by
  have ne : ∀ x ∈ I, x.1 ≠ r0 := by
    obtain ⟨J, la, hd, h1, h, h3, h4, h5, h6⟩ := C
    exact h6
  obtain ⟨hd, tl, h1, h2⟩ := C.seg
  refine ⟨_, h1, Or.inr (Or.inr rfl), fun q hq => ?_, fun z => ?_, fun w' nx hw hr k hk Q q => ?_⟩
  · rcases hq with h | ⟨x, hx, rfl⟩
    · exact hU q h
    · exact SegT.al I hd none h2 x hx
  · rcases z with z | ⟨x, hx, z⟩
    · exact nU z
    · exact ne x hx z.symm
  · obtain ⟨k, rfl⟩ : ∃ j, k = j + 1 := ⟨k - 1, by omega⟩
    have eU : ∀ q, U q → gF w' q = gF w q := fun q hq => hw q (Or.inl hq)
    have hx : ∀ x ∈ I, gF w' x.1 = gF w x.1 := fun x hx => hw x.1 (Or.inr ⟨x, hx, rfl⟩)
    refine Or.inr (Or.inr ⟨_, hr, hd, ⟨_, hr, rfl⟩, _, x_rowl (K := K) (U := U) (by omega) hr I hd (h2.on I hd none hx) (fun x hx' => (hI x hx').on (Nat.le_refl _) (fun _ h => h) (hI x hx').2.2.1 (fun q hq => by rw [eU q hq]; exact hU q hq) eU) q⟩)
theorem x_radd {r0 r1 ci : Nat} {a : Bool} {fs : List Value} {f : En → Bool} {I : List Ut} {Q : Wd → Prop} (C : RowL w r0 a I) (hI : ∀ x ∈ I, x.2.1 = 7 ∨ x.2.1 = 8 ∨ x.2.1 = 9) (h1 : gF w r1 = some (ci, rv none :: fs)) (n0 : r1 ≠ r0) (nI : ∀ x ∈ I, r1 ≠ x.1) (q : ∀ (w' : Wd), gI w' = gI w → gA w' = gA w → gJ w' = gJ w → gL w' = gL w → gC w' = gC w → gZ w' = gZ w → (∀ q, q ≠ r0 → (∀ x ∈ I, q ≠ x.1) → gF w' q = gF w q) → RowL w' r0 a (I ++ [(r1, ci, fs, f)]) → Q w') : wp_X13_add r0 (some r1) w Q := by
  obtain ⟨J, la, hd, e1, h, h3, h4, h5, h6⟩ := C
  subst e1
  have mla : la ∈ J ++ [la] := List.mem_append_right _ List.mem_cons_self
  have nla := h6 la mla
  refine ⟨some la.1, ⟨_, h, rfl⟩, la.1, rfl, la.2.1, _, hI la mla, h4, by simp, ?_⟩
  rintro w5 rfl
  refine ⟨_, by rw [gF_sF, if_neg nla.symm, h], by simp, ?_⟩
  rintro w7 rfl
  refine q _ rfl rfl rfl rfl rfl rfl (fun x x1 x2 => ?_) ⟨J ++ [la], (r1, ci, fs, f), hd, rfl, ?_, ?_, ?_, fun x hx => ?_, fun x hx => ?_⟩
  · rw [gF_sF, if_neg x1, gF_sF, if_neg (x2 la mla)]
  · rw [gF_sF, if_pos rfl]
    rfl
  · refine SegT.snoc (nx := some r1) ?_ J hd (h3.on J hd _ (fun x hx => ?_))
    · rw [gF_sF, if_neg nla, gF_sF, if_pos rfl]
      rfl
    · rw [gF_sF, if_neg (h6 x (List.mem_append_left _ hx)), gF_sF, if_neg (h5 x hx)]
  · show gF _ r1 = _
    rw [gF_sF, if_neg n0, gF_sF, if_neg (nI la mla), h1]
  · exact fun z => nI x hx z.symm
  · rcases List.mem_append.mp hx with hx | hx
    · exact h6 x hx
    · rw [List.mem_singleton.mp hx]
      exact n0
end RW2
/-- how the component stands in its loop over tests -/
def StT (K : Nat) (w0 w : Wd) (t1 : Ut) (a : Bool) (U : Nat → Prop) (l3 : Option Nat) (I : List Ut) : Prop := XF w0 w ∧ (∀ q, U q → gF w0 q = none ∧ gF w q ≠ none) ∧ (∀ x ∈ I, gF w0 x.1 = none ∧ gF w x.1 ≠ none ∧ DenT K U w x.1 x.2.1 x.2.2.1 x.2.2.2) ∧ ((l3 = none ∧ I = [t1] ∧ gF w t1.1 = some (t1.2.1, rv none :: t1.2.2.1)) ∨ ∃ r0, l3 = some r0 ∧ RowL w r0 a I ∧ gF w0 r0 = none ∧ ¬ U r0)
theorem StT.xf {K : Nat} {w0 w w' : Wd} {t1 : Ut} {a : Bool} {U : Nat → Prop} {l3 : Option Nat} {I : List Ut} (H : StT K w0 w t1 a U l3 I) (g : XF w w') : StT K w0 w' t1 a U l3 I := by
  obtain ⟨h1, h2, h3, h4⟩ := H
  have same : ∀ q, gF w q ≠ none → gF w' q = gF w q := g.2.2.2.2.2.1
  refine ⟨h1.trans g, fun q hq => ⟨(h2 q hq).1, by rw [same q (h2 q hq).2]; exact (h2 q hq).2⟩, fun x hx => ⟨(h3 x hx).1, by rw [same _ (h3 x hx).2.1]; exact (h3 x hx).2.1, (h3 x hx).2.2.xf g⟩, ?_⟩
  rcases h4 with ⟨e1, e2, e3⟩ | ⟨r0, e, C, h6, h7⟩
  · exact Or.inl ⟨e1, e2, by rw [same _ (by rw [e3]; exact fun z => nomatch z)]; exact e3⟩
  · refine Or.inr ⟨r0, e, C.on ?_ (fun x hx => same _ (h3 x hx).2.1), h6, h7⟩
    obtain ⟨hd, tl, e2, -⟩ := C.seg
    exact same _ (by rw [e2]; exact fun z => nomatch z)
theorem StT.fin {K : Nat} {w0 w : Wd} {t1 : Ut} {a : Bool} {U : Nat → Prop} {l3 : Option Nat} {I : List Ut} {Q : Nat → Wd → Prop} (H : StT K w0 w t1 a U l3 I) (q : ∀ (r : Nat) (S : Nat → Prop) (ci : Nat) (fs : List Value), gF w0 r = none → gF w r = some (ci, rv none :: fs) → (∀ q, S q → gF w0 q = none) → DenT (K + 1) S w r ci fs (fun e => sev a (mns I) e) → Q r w) : (∀ i3, l3 = some i3 → ∃ i4, l3 = some i4 ∧ Q i4 w) ∧ (l3 = none → ∃ i5, some t1.1 = some i5 ∧ Q i5 w) := by
  obtain ⟨h1, h2, h3, h4⟩ := H
  rcases h4 with ⟨rfl, rfl, e3⟩ | ⟨r0, rfl, C, h6, h7⟩
  · refine ⟨fun i e => (nomatch e), fun _ => ⟨t1.1, rfl, ?_⟩⟩
    obtain ⟨y1, y2, y3⟩ := h3 t1 List.mem_cons_self
    refine q t1.1 U t1.2.1 t1.2.2.1 y1 e3 (fun q hq => (h2 q hq).1) ?_
    have ef : (fun e => sev a (mns [t1]) e) = t1.2.2.2 := by
      funext e
      show (if t1.2.2.2 e = a then a else !a) = t1.2.2.2 e
      cases a <;> cases t1.2.2.2 e <;> rfl
    rw [ef]
    exact y3.on (Nat.le_succ _) (fun _ h => h) y3.2.2.1 y3.2.1 (fun _ _ => rfl)
  · refine ⟨fun i e => ?_, fun e => (nomatch e)⟩
    obtain ⟨fs, e1, D⟩ := den_row C (fun q hq => (h2 q hq).2) h7 (fun x hx => (h3 x hx).2.2)
    refine ⟨r0, rfl, q r0 _ 9 fs h6 e1 (fun x hx => ?_) D⟩
    rcases hx with hx | ⟨y, hy, rfl⟩
    · exact (h2 x hx).1
    · exact (h3 y hy).1
theorem StT.new {t : Int → Int} {n Z0 p d : Int} {K : Nat} {w0 w : Wd} {t1 : Ut} {a : Bool} {U : Nat → Prop} {I : List Ut} {Q : Nat → Wd → Prop} (zh : Z0 + 600 ≤ 600000) (hp : p ≤ 240) (H : StT K w0 w t1 a U none I) (S : XS t n Z0 p d w) (z1 : (gZ w : Int) + 1 ≤ Z0 + 2 * p) (q : ∀ (r : Nat) (w' : Wd), StT K w0 w' t1 a U (some r) I → XS t n Z0 p d w' → Q r w') : gZ w + 1 ≤ CM ∧ (∀ r8, 200 ≤ r8 → gF w r8 = none → ∀ w9, w9 = sZ (sF w r8 (9, [.null, .int 0, .null, .null])) (gZ w + 1) → wp_X13_init r8 (bz a) (some t1.1) w9 (fun w11 => Q r8 w11)) := by
  refine ⟨by show gZ w + 1 ≤ 600000; omega, fun r hr hn => ?_⟩
  rintro w2 rfl
  refine ⟨zok_bz a, _, by rw [gF_sZ, gF_sF, if_pos rfl], by simp, ?_⟩
  rintro w3 rfl
  refine ⟨_, by rw [gF_sF, if_pos rfl], by simp, ?_⟩
  rintro w4 rfl
  refine ⟨_, by rw [gF_sF, if_pos rfl], by simp, ?_⟩
  rintro w5 rfl
  obtain ⟨h1, h2, h3, h4⟩ := H
  rcases h4 with ⟨-, rfl, e3⟩ | ⟨r0, e, -⟩
  · have h0 := h1.fresh hn
    have same : ∀ q, q ≠ r → ∀ v1 v2 v3 v4, gF (sF (sF (sF (sZ (sF w r v1) (gZ w + 1)) r v2) r v3) r v4) q = gF w q := fun q hq v1 v2 v3 v4 => by
      rw [gF_sF, if_neg hq, gF_sF, if_neg hq, gF_sF, if_neg hq, gF_sZ, gF_sF, if_neg hq]
    have nr : ∀ q, gF w q ≠ none → q ≠ r := fun q hq z => by rw [z] at hq; exact hq hn
    obtain ⟨y1, y2, y3⟩ := h3 t1 List.mem_cons_self
    obtain ⟨s1, s2, s3, s4, s5⟩ := S
    refine q r _ ⟨((((h1.sF h0 _).sZ (Nat.le_succ _)).sF h0 _).sF h0 _).sF h0 _, fun q hq => ⟨(h2 q hq).1, by rw [same q (nr q (h2 q hq).2)]; exact (h2 q hq).2⟩, fun x hx => ?_, Or.inr ⟨r, rfl, ⟨[], t1, some t1.1, rfl, ?_, rfl, ?_, fun x hx => (nomatch hx), fun x hx => ?_⟩, h0, fun z => (h2 r z).2 hn⟩⟩ ⟨s1, s2, s3, s4, ?_⟩
    · rw [List.mem_singleton.mp hx]
      exact ⟨y1, by rw [same _ (nr _ y2)]; exact y2, y3.on (Nat.le_refl _) (fun _ h => h) y3.2.2.1 (fun q hq => by rw [same q (nr q (h2 q hq).2)]; exact (h2 q hq).2) (fun q hq => same q (nr q (h2 q hq).2) _ _ _ _)⟩
    · rw [gF_sF, if_pos rfl]
      rfl
    · rw [same _ (nr _ y2)]
      exact e3
    · rw [List.mem_singleton.mp hx]
      exact nr _ y2
    · show ((gZ w + 1 : Nat) : Int) ≤ _
      omega
  · exact nomatch e
theorem StT.add {t : Int → Int} {n Z0 p d : Int} {K : Nat} {w0 w w2 : Wd} {t1 : Ut} {r0 r1 ci : Nat} {a : Bool} {fs : List Value} {f : En → Bool} {U S2 : Nat → Prop} {I : List Ut} {Q : Wd → Prop} (H : StT K w0 w t1 a U (some r0) I) (g : XF w w2) (X2 : XS t n Z0 p d w2) (e1 : gF w r1 = none) (e2 : gF w2 r1 = some (ci, rv none :: fs)) (hf : ∀ q, S2 q → gF w q = none) (D2 : DenT K S2 w2 r1 ci fs f) (q : ∀ (w' : Wd), StT K w0 w' t1 a (fun q => U q ∨ S2 q) (some r0) (I ++ [(r1, ci, fs, f)]) → XS t n Z0 p d w' → Q w') : wp_X13_add r0 (some r1) w2 Q := by
  have H2 := H.xf g
  obtain ⟨k1, k2, k3, k4⟩ := H
  obtain ⟨h1, h2, h3, h4⟩ := H2
  rcases h4 with ⟨z, -⟩ | ⟨r0', e, C, h6, h7⟩
  · exact nomatch z
  obtain rfl : r0 = r0' := Option.some.inj e
  have a0 : gF w r0 ≠ none := by
    rcases k4 with ⟨z, -⟩ | ⟨r2, e, C2, -⟩
    · exact nomatch z
    · obtain rfl : r0 = r2 := Option.some.inj e
      obtain ⟨hd, tl, y, -⟩ := C2.seg
      rw [y]
      exact fun z => nomatch z
  have n0 : r1 ≠ r0 := fun z => by rw [z] at e1; exact a0 e1
  have nI : ∀ x ∈ I, r1 ≠ x.1 := fun x hx z => by rw [z] at e1; exact (k3 x hx).2.1 e1
  have s0 : ¬ S2 r0 := fun z => a0 (hf r0 z)
  have sI' : ∀ x ∈ I, ¬ S2 x.1 := fun x hx z => (k3 x hx).2.1 (hf x.1 z)
  have uI : ∀ x ∈ I, ¬ U x.1 := fun x hx z => by
    have := (h3 x hx).2.2.2.2.1
    exact this z
  have u1' : ¬ U r1 := fun z => (k2 r1 z).2 e1
  refine x_radd (f := f) C (fun x hx => (h3 x hx).2.2.1) e2 n0 nI (fun w' eI eA eJ eL eC eZ eF C' => ?_)
  have same : ∀ q, U q ∨ S2 q → gF w' q = gF w2 q := fun q hq => by
    refine eF q (fun z => ?_) (fun x hx z => ?_)
    · rw [z] at hq
      rcases hq with hq | hq
      · exact h7 hq
      · exact s0 hq
    · rw [z] at hq
      rcases hq with hq | hq
      · exact uI x hx hq
      · exact sI' x hx hq
  have al2 : ∀ q, U q ∨ S2 q → gF w2 q ≠ none := fun q hq => by
    rcases hq with hq | hq
    · exact (h2 q hq).2
    · exact D2.2.1 q hq
  have al : ∀ q, U q ∨ S2 q → gF w' q ≠ none := fun q hq => by rw [same q hq]; exact al2 q hq
  have wF : XF w0 w' := by
    obtain ⟨y1, y2, y3, y4, y5, y6, y7⟩ := h1
    refine ⟨fun k a b => by rw [eI]; exact y1 k a b, by rw [eA]; exact y2, by rw [eJ]; exact y3, by rw [eL]; exact y4, by rw [eC]; exact y5, fun q hq => ?_, by rw [eZ]; exact y7⟩
    rw [eF q (fun z => ?_) (fun x hx z => ?_)]
    · exact y6 q hq
    · rw [z] at hq
      exact hq h6
    · rw [z] at hq
      exact hq (h3 x hx).1
  have al1 : ∀ x ∈ I ++ [(r1, ci, fs, f)], gF w' x.1 ≠ none := by
    obtain ⟨hd, tl, -, y⟩ := C'.seg
    exact SegT.al _ hd none y
  refine q w' ⟨wF, fun q hq => ⟨?_, al q hq⟩, fun x hx => ?_, Or.inr ⟨r0, rfl, C', h6, fun z => ?_⟩⟩ ?_
  · rcases hq with hq | hq
    · exact (h2 q hq).1
    · exact k1.fresh (hf q hq)
  · have al1 := al1 x hx
    rcases List.mem_append.mp hx with hx | hx
    · refine ⟨(h3 x hx).1, al1, (h3 x hx).2.2.on (Nat.le_refl _) (fun _ h => Or.inl h) (fun z => ?_) al (fun q hq => same q (Or.inl hq))⟩
      rcases z with z | z
      · exact uI x hx z
      · exact sI' x hx z
    · rw [List.mem_singleton.mp hx] at al1 ⊢
      refine ⟨k1.fresh e1, al1, D2.on (Nat.le_refl _) (fun _ h => Or.inr h) (fun z => ?_) al (fun q hq => same q (Or.inr hq))⟩
      rcases z with z | z
      · exact u1' z
      · exact D2.2.2.1 z
  · rcases z with z | z
    · exact h7 z
    · exact s0 z
  · obtain ⟨y1, y2, y3, y4, y5⟩ := X2
    exact ⟨by rw [eI]; exact y1, by rw [eA]; exact y2, by rw [eI]; exact y3, by rw [eI]; exact y4, by rw [eZ]; exact y5⟩
