/-! a law whole, read on both sides -/
abbrev Cl : Type := Nat × Option Nat × Nat × (En → Bool) × (En → Int32)
abbrev Vs : Type := List ((En → Bool) × (En → Int32))
def clF (x : Cl) (nx : Option Nat) : Nat × List Value := (6, [.int (iz 121), rv x.2.1, rv (some x.2.2.1), rv nx])
def SegC (w : Wd) : Option Nat → List Cl → Option Nat → Prop
  | hd, [], tl => hd = tl
  | hd, x :: L, tl => hd = some x.1 ∧ ∃ nx, gF w x.1 = some (clF x nx) ∧ SegC w nx L tl
theorem SegC.on {w w' : Wd} : ∀ (I : List Cl) (hd tl : Option Nat), (∀ x ∈ I, gF w' x.1 = gF w x.1) → SegC w hd I tl → SegC w' hd I tl
  | [], _, _, _, h => h
  | x :: L, hd, tl, e, ⟨h1, nx, h2, h3⟩ => ⟨h1, nx, by rw [e x List.mem_cons_self]; exact h2, SegC.on L nx tl (fun y hy => e y (List.mem_cons_of_mem _ hy)) h3⟩
theorem SegC.snoc {w : Wd} {la : Cl} {nx : Option Nat} (hn : gF w la.1 = some (clF la nx)) : ∀ (I : List Cl) (hd : Option Nat), SegC w hd I (some la.1) → SegC w hd (I ++ [la]) nx
  | [], _, h => ⟨h, nx, hn, rfl⟩
  | x :: L, hd, ⟨h1, n2, h2, h3⟩ => ⟨h1, n2, h2, SegC.snoc hn L n2 h3⟩
theorem SegC.al {w : Wd} : ∀ (I : List Cl) (hd tl : Option Nat), SegC w hd I tl → ∀ x ∈ I, gF w x.1 ≠ none
  | [], _, _, _, x, hx => nomatch hx
  | y :: L, hd, tl, ⟨h1, nx, h2, h3⟩, x, hx => by
    rcases List.mem_cons.mp hx with e | e
    · rw [e, h2]
      exact fun z => nomatch z
    · exact SegC.al L nx tl h3 x e
/-- the value: the first clause that holds, or 0 -/
def wv (e : En) : Vs → Int32
  | [] => iz 0
  | x :: L => if x.1 e = true then x.2 e else wv e L
def gw (e : En) : Vs → Int → Int32 → Int32
  | [], _, v => v
  | x :: L, hf, v => gw e L (hfN hf (x.1 e)) (fvN hf (x.1 e) (x.2 e) v)
theorem gw_1 (e : En) : ∀ (L : Vs) (v : Int32), gw e L 1 v = v
  | [], _ => rfl
  | x :: L, v => gw_1 e L v
theorem gw_0 (e : En) : ∀ (L : Vs), gw e L 0 (iz 0) = wv e L
  | [] => rfl
  | x :: L => by
    show gw e L (hfN 0 (x.1 e)) (fvN 0 (x.1 e) (x.2 e) (iz 0)) = if x.1 e = true then x.2 e else wv e L
    unfold hfN fvN
    by_cases h : x.1 e = true
    · rw [if_pos ⟨rfl, h⟩, if_pos ⟨rfl, h⟩, if_pos h]
      exact gw_1 e L _
    · rw [if_neg (fun z => h z.2), if_neg (fun z => h z.2), if_neg h]
      exact gw_0 e L
theorem wv_dep : ∀ (L : Vs), (∀ x ∈ L, Dep x.1 ∧ Dep x.2) → Dep (fun e => wv e L)
  | [], _ => fun _ _ _ => rfl
  | x :: L, h => fun e e' he => by
    show (if x.1 e = true then x.2 e else wv e L) = (if x.1 e' = true then x.2 e' else wv e' L)
    rw [(h x List.mem_cons_self).1 e e' he, (h x List.mem_cons_self).2 e e' he]
    have := wv_dep L (fun y hy => h y (List.mem_cons_of_mem _ hy)) e e' he
    rw [show wv e L = wv e' L from this]
def vs (x : Cl) : (En → Bool) × (En → Int32) := (x.2.2.2.1, x.2.2.2.2)
/-- the clauses so far: J, and the last one -/
def StC (w0 w : Wd) (r0 : Nat) (J : List Cl) (la : Cl) (U : Nat → Prop) : Prop := XF w0 w ∧ (∀ q, U q → gF w q ≠ none) ∧ SegC w (some r0) J (some la.1) ∧ gF w la.1 = some (clF la none) ∧ (∀ x ∈ J, x.1 ≠ la.1) ∧ (∀ x ∈ J, DenC U w x.2.1 x.2.2.1 x.2.2.2.1 x.2.2.2.2) ∧ DenC U w la.2.1 la.2.2.1 la.2.2.2.1 la.2.2.2.2 ∧ gF w0 la.1 = none ∧ ¬ U la.1
section LW
variable {t : Int → Int} {n : Int}
theorem DenC.xf {S : Nat → Prop} {w w' : Wd} {to : Option Nat} {s : Nat} {tb : En → Bool} {f : En → Int32} (D : DenC S w to s tb f) (g : XF w w') : DenC S w' to s tb f := D.on (fun _ h => h) (fun q hq => by rw [g.2.2.2.2.2.1 q (D.1 q hq)]; exact D.1 q hq) (fun q hq => g.2.2.2.2.2.1 q (D.1 q hq))
theorem StC.xf {w0 w w' : Wd} {r0 : Nat} {J : List Cl} {la : Cl} {U : Nat → Prop} (H : StC w0 w r0 J la U) (g : XF w w') : StC w0 w' r0 J la U := by
  obtain ⟨h1, h2, h3, h4, h5, h6, h7, h8, h9⟩ := H
  have g6 := g.2.2.2.2.2.1
  exact ⟨h1.trans g, fun q hq => by rw [g6 q (h2 q hq)]; exact h2 q hq, h3.on _ _ _ (fun x hx => g6 _ (SegC.al _ _ _ h3 x hx)), by rw [g6 _ (by rw [h4]; exact fun z => nomatch z)]; exact h4, h5, fun x hx => (h6 x hx).xf g, h7.xf g, h8, h9⟩
/-- a clause more -/
theorem StC.add {w0 w w2 : Wd} {r0 r s : Nat} {to : Option Nat} {tb : En → Bool} {f : En → Int32} {J : List Cl} {la : Cl} {U S : Nat → Prop} {R : Option Nat → Wd → Prop} (H : StC w0 w r0 J la U) (g : XF w w2) (e1 : gF w r = none) (e2 : gF w2 r = some (6, [.int (iz 121), rv to, rv (some s), rv none])) (nS : ¬ S r) (hS : ∀ q, S q → gF w q = none) (D : DenC S w2 to s tb f) (q : ∀ w', gI w' = gI w2 → gA w' = gA w2 → gZ w' = gZ w2 → StC w0 w' r0 (J ++ [la]) (r, to, s, tb, f) (fun q => U q ∨ S q) → R (some r) w') : ∃ i16, some la.1 = some i16 ∧ ∃ fs17, gF w2 i16 = some (6, fs17) ∧ 3 < fs17.length ∧ (∀ w18, w18 = sF w2 i16 (6, fs17.set 3 (rv (some r))) → ∃ i19, some la.1 = some i19 ∧ ∃ x20, ndO w18 i19 6 3 x20 ∧ R x20 w18) := by
  obtain ⟨h1, h2, h3, h4, h5, h6, h7, h8, h9⟩ := H.xf g
  have nU : ∀ q, U q → q ≠ la.1 := fun q hq z => h9 (z ▸ hq)
  have nSl : ∀ q, S q → q ≠ la.1 := fun q hq z => by
    have := hS q hq
    rw [z, H.2.2.2.1] at this
    exact nomatch this
  have nr : r ≠ la.1 := fun z => by
    rw [z, H.2.2.2.1] at e1
    exact nomatch e1
  have nUr : ¬ U r := fun z => H.2.1 r z e1
  refine ⟨la.1, rfl, _, h4, by simp, ?_⟩
  rintro w3 rfl
  refine ⟨la.1, rfl, some r, ⟨_, by rw [gF_sF, if_pos rfl], rfl⟩, ?_⟩
  have keep : ∀ v q, q ≠ la.1 → gF (sF w2 la.1 v) q = gF w2 q := fun v q nq => by rw [gF_sF, if_neg nq]
  have el : gF (sF w2 la.1 (6, [Value.int (iz 121), rv la.2.1, rv (some la.2.2.1), rv none].set 3 (rv (some r)))) la.1 = some (clF la (some r)) := by
    rw [gF_sF, if_pos rfl]
    rfl
  have al : ∀ q, U q ∨ S q → gF (sF w2 la.1 (6, [Value.int (iz 121), rv la.2.1, rv (some la.2.2.1), rv none].set 3 (rv (some r)))) q ≠ none := fun q hq => by
    rcases hq with hq | hq
    · rw [keep _ q (nU q hq)]
      exact h2 q hq
    · rw [keep _ q (nSl q hq)]
      exact D.1 q hq
  have hd : ∀ x : Cl, DenC U w2 x.2.1 x.2.2.1 x.2.2.2.1 x.2.2.2.2 → DenC (fun q => U q ∨ S q) (sF w2 la.1 (6, [Value.int (iz 121), rv la.2.1, rv (some la.2.2.1), rv none].set 3 (rv (some r)))) x.2.1 x.2.2.1 x.2.2.2.1 x.2.2.2.2 := fun x dx => dx.on (fun _ h => Or.inl h) al (fun q hq => keep _ q (nU q hq))
  refine q _ rfl rfl rfl ⟨h1.sF h8 _, al, SegC.snoc el _ _ (h3.on _ _ _ (fun x hx => keep _ _ (h5 x hx))), ?_, fun x hx => ?_, fun x hx => ?_, D.on (fun _ h => Or.inr h) al (fun q hq => keep _ q (nSl q hq)), H.1.fresh e1, fun z => ?_⟩
  · rw [keep _ r nr, e2]
    rfl
  · rcases List.mem_append.mp hx with hx | hx
    · intro z
      have := SegC.al _ _ _ H.2.2.1 x hx
      rw [show x.1 = r from z] at this
      exact this e1
    · rw [List.mem_singleton.mp hx]
      exact fun z => nr z.symm
  · rcases List.mem_append.mp hx with hx | hx
    · exact hd x (h6 x hx)
    · rw [List.mem_singleton.mp hx]
      exact hd la h7
  · rcases z with z | z
    · exact nUr z
    · exact nS z
end LW
