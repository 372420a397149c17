/-! chains: rows of parts with signs -/
abbrev It : Type := Nat × Int32 × Nat × (En → Int32)
/-- from hd through the links to tl -/
def Seg (w : Wd) : Option Nat → List It → Option Nat → Prop
  | hd, [], tl => hd = tl
  | hd, x :: L, tl => hd = some x.1 ∧ ∃ nx, gF w x.1 = some (5, [.int x.2.1, rv (some x.2.2.1), rv nx]) ∧ Seg w nx L tl
theorem Seg.on {w w' : Wd} : ∀ (I : List It) (hd tl : Option Nat), (∀ x ∈ I, gF w' x.1 = gF w x.1) → Seg w hd I tl → Seg w' hd I tl
  | [], _, _, _, h => h
  | x :: L, hd, tl, e, ⟨h1, nx, h2, h3⟩ => ⟨h1, nx, by rw [e x List.mem_cons_self]; exact h2, Seg.on L nx tl (fun y hy => e y (List.mem_cons_of_mem _ hy)) h3⟩
theorem Seg.snoc {w : Wd} {la : It} {nx : Option Nat} (hn : gF w la.1 = some (5, [.int la.2.1, rv (some la.2.2.1), rv nx])) : ∀ (I : List It) (hd : Option Nat), Seg w hd I (some la.1) → Seg w hd (I ++ [la]) nx
  | [], _, h => ⟨h, nx, hn, rfl⟩
  | x :: L, hd, ⟨h1, n2, h2, h3⟩ => ⟨h1, n2, h2, Seg.snoc hn L n2 h3⟩
def opL (sg : Int32) (a b : Int64) : Int64 := if sg = iz 42 then a * b else if sg = iz 43 then a + b else if sg = iz 45 then a - b else if b = lz 0 then lz 0 else a / b
def clL (x : Int64) : Int64 := lmax (lz (-1000000)) (lmin (lz 1000000) x)
def stp (sg v b : Int32) : Int32 := (clL (opL sg v.toInt64 b.toInt64)).toInt32
theorem lmin_lz {a b : Int} (h1 : -9223372036854775808 ≤ a) (h2 : a < 9223372036854775808) (h3 : -9223372036854775808 ≤ b) (h4 : b < 9223372036854775808) : lmin (lz a) (lz b) = lz (min a b) := by
  have gt : lz b < lz a ↔ b < a := by rw [Int64.lt_iff_toInt_lt, lz_toInt h1 h2, lz_toInt h3 h4]
  unfold lmin
  by_cases h : b < a
  · rw [if_pos (gt.mpr h), Int.min_eq_right (by omega)]
  · rw [if_neg (fun x => h (gt.mp x)), Int.min_eq_left (by omega)]
theorem lz_of (x : Int64) : lz x.toInt = x := Int64.ofInt_toInt x
theorem clL_rt (x : Int64) : (clL x).toInt32.toInt64 = clL x := by
  have h1 := Int64.le_toInt x
  have h2 := Int64.toInt_lt x
  unfold clL
  rw [← lz_of x, lmin_lz (by decide) (by decide) (by omega) (by omega), lmax_lz (by decide) (by decide) (by omega) (by omega), l2i, i2l (by omega)]
theorem i32_rt (x : Int32) : x.toInt64.toInt32 = x := by
  obtain ⟨a, a1, a2, rfl⟩ := ex_iz x
  rw [i2l ⟨a1, a2⟩, l2i]
def cf : List (Int32 × (En → Int32)) → En → Int32 → Int32
  | [], _, v => v
  | g :: G, e, v => cf G e (stp g.1 v (g.2 e))
theorem cf_app : ∀ (G H : List (Int32 × (En → Int32))) (e : En) (v : Int32), cf (G ++ H) e v = cf H e (cf G e v)
  | [], _, _, _ => rfl
  | g :: G, H, e, v => cf_app G H e _
def vls (I : List It) : List (Int32 × (En → Int32)) := I.map (fun x => (x.2.1, x.2.2.2))
theorem vls_app (I : List It) (x : It) : vls (I ++ [x]) = vls I ++ [(x.2.1, x.2.2.2)] := by
  unfold vls
  rw [List.map_append]
  rfl
def sgOK (sg : Int32) : Prop := sg = iz 42 ∨ sg = iz 43 ∨ sg = iz 45 ∨ sg = iz 47
theorem lg0 (b : Int32) : (lg_cmp b.toInt64 (lz 0) = iz 0 ↔ b.toInt64 = lz 0) := by
  obtain ⟨a, a1, a2, rfl⟩ := ex_iz b
  rw [i2l ⟨a1, a2⟩]
  have h := (lg_lt (a := a) (b := 0) (by omega) (by omega) (by decide) (by decide)).2.2
  rw [h]
  constructor
  · intro e; rw [e]
  · intro e; exact lz_inj (by omega) (by omega) (by decide) (by decide) e
section CH
variable {w : Wd}
theorem x_on {K k : Nat} {U : Nat → Prop} {x : It} {nx : Option Nat} {v : Int64} {Q : Int64 → Wd → Prop} (hg : gF w x.1 = some (5, [.int x.2.1, rv (some x.2.2.1), rv nx])) (hs : sgOK x.2.1) (D : DenS K U w x.2.2.1 x.2.2.2) (hk : K ≤ k) (q : Q (opL x.2.1 v (x.2.2.2 (gA w 15)).toInt64) w) : wp_X8_on (pf_val k) x.1 v 15 w Q := by
  refine ⟨some x.2.2.1, ⟨_, hg, rfl⟩, x.2.2.1, rfl, D.2 w (fun _ _ => rfl) k hk _ ⟨x.2.1, ⟨_, hg, rfl⟩, ?_⟩⟩
  generalize x.2.1 = sg at hs q
  generalize x.2.2.2 (gA w 15) = b at q
  have n1 : (iz 42).toInt = 42 := iz_toInt (by decide) (by decide)
  have n2 : (iz 43).toInt = 43 := iz_toInt (by decide) (by decide)
  have n3 : (iz 45).toInt = 45 := iz_toInt (by decide) (by decide)
  have n4 : (iz 47).toInt = 47 := iz_toInt (by decide) (by decide)
  unfold opL at q
  have dv : (sg = iz 47) → b_X8_on_59 (pf_val k) Q v b.toInt64 w := by
    intro e
    rw [e, if_neg (by decide), if_neg (by decide), if_neg (by decide)] at q
    unfold b_X8_on_59
    refine ⟨fun e2 => ?_, fun e2 => ?_⟩
    · have e3 : ¬ b.toInt64 = lz 0 := fun z => e2 ((lg0 b).mpr z)
      rw [if_neg e3] at q
      exact ⟨e3, q⟩
    · rw [if_pos ((lg0 b).mp e2)] at q
      exact q
  rcases hs with rfl | rfl | rfl | rfl
  · rw [if_pos rfl] at q
    rw [n1]
    exact ⟨fun _ => q, fun e => absurd e (by decide), fun e => absurd e (by decide), fun e => absurd e (by decide), fun e => absurd e (by decide)⟩
  · rw [if_neg (by decide), if_pos rfl] at q
    rw [n2]
    exact ⟨fun e => absurd e (by decide), fun _ => q, fun e => absurd e (by decide), fun e => absurd e (by decide), fun e => absurd e (by decide)⟩
  · rw [if_neg (by decide), if_neg (by decide), if_pos rfl] at q
    rw [n3]
    exact ⟨fun e => absurd e (by decide), fun e => absurd e (by decide), fun e => absurd e (by decide), fun _ => q, fun e => absurd e (by decide)⟩
  · rw [n4]
    exact ⟨fun e => absurd e (by decide), fun e => absurd e (by decide), fun e => absurd e (by decide), fun e => absurd e (by decide), fun _ => dv rfl⟩
theorem x_links {K k : Nat} {U : Nat → Prop} {Q : Int32 → Wd → Prop} (hk : K ≤ k) : ∀ (I : List It) (hd : Option Nat) (v : Int32), Seg w hd I none → (∀ x ∈ I, sgOK x.2.1 ∧ DenS K U w x.2.2.1 x.2.2.2) → Q (cf (vls I) (gA w 15) v) w → lp_X7_value_16 (pf_val k) Q 15 (I.length + 1) v.toInt64 hd w
  | [], hd, v, h, _, q => by
    have h : hd = none := h
    subst h
    refine ⟨fun _ => ?_, fun i e => nomatch e⟩
    rw [i32_rt]
    exact q
  | x :: L, hd, v, ⟨h1, nx, h2, h3⟩, hI, q => by
    subst h1
    obtain ⟨hs, hD⟩ := hI x List.mem_cons_self
    refine ⟨fun e => (nomatch e), fun i e => ⟨x.1, rfl, ⟨_, h2⟩, x_on h2 hs hD hk ⟨x.1, rfl, nx, ⟨_, h2, rfl⟩, ?_⟩⟩⟩
    have := x_links hk L nx (stp x.2.1 v (x.2.2.2 (gA w 15))) h3 (fun y hy => hI y (List.mem_cons_of_mem _ hy)) q
    unfold stp at this
    rw [clL_rt] at this
    exact this
/-- the chain at r0 with the first s0 and these links -/
def ChL (w : Wd) (r0 s0 : Nat) (I : List It) : Prop := (I = [] ∧ gF w r0 = some (4, [rv (some s0), .null, .null])) ∨ (∃ (J : List It) (la : It) (hd : Option Nat), I = J ++ [la] ∧ gF w r0 = some (4, [rv (some s0), rv hd, rv (some la.1)]) ∧ Seg w hd J (some la.1) ∧ gF w la.1 = some (5, [.int la.2.1, rv (some la.2.2.1), .null]) ∧ ∀ x ∈ J, x.1 ≠ la.1)
theorem ChL.r {r0 s0 : Nat} {I : List It} (C : ChL w r0 s0 I) : ∃ fs, gF w r0 = some (4, fs) := by
  rcases C with ⟨-, h⟩ | ⟨J, la, hd, -, h, -⟩
  · exact ⟨_, h⟩
  · exact ⟨_, h⟩
theorem ChL.seg {r0 s0 : Nat} {I : List It} (C : ChL w r0 s0 I) : ∃ hd tl, gF w r0 = some (4, [rv (some s0), rv hd, tl]) ∧ Seg w hd I none := by
  rcases C with ⟨h1, h⟩ | ⟨J, la, hd, h1, h, h3, h4, h5⟩
  · subst h1
    exact ⟨none, _, h, rfl⟩
  · subst h1
    exact ⟨hd, _, h, Seg.snoc (nx := none) h4 J hd h3⟩
theorem Seg.al : ∀ (I : List It) (hd tl : Option Nat), Seg w hd I tl → ∀ x ∈ I, ∃ fs, gF w x.1 = some (5, fs)
  | [], _, _, _, x, hx => nomatch hx
  | y :: L, hd, tl, ⟨h1, nx, h2, h3⟩, x, hx => by
    rcases List.mem_cons.mp hx with e | e
    · rw [e]
      exact ⟨_, h2⟩
    · exact Seg.al L nx tl h3 x e
theorem ChL.on {w' : Wd} {r0 s0 : Nat} {I : List It} (C : ChL w r0 s0 I) (e0 : gF w' r0 = gF w r0) (e : ∀ x ∈ I, gF w' x.1 = gF w x.1) : ChL w' r0 s0 I := by
  rcases C with ⟨h1, h⟩ | ⟨J, la, hd, h1, h, h3, h4, h5⟩
  · exact Or.inl ⟨h1, by rw [e0]; exact h⟩
  · subst h1
    refine Or.inr ⟨J, la, hd, rfl, by rw [e0]; exact h, h3.on J hd _ (fun x hx => e x (List.mem_append_left _ hx)), by rw [e la (List.mem_append_right _ List.mem_cons_self)]; exact h4, h5⟩
/-- what a chain says -/
theorem den_chain {K : Nat} {U : Nat → Prop} {r0 s0 : Nat} {f0 : En → Int32} {I : List It} (C : ChL w r0 s0 I) (D0 : DenS K U w s0 f0) (hI : ∀ x ∈ I, sgOK x.2.1 ∧ DenS K U w x.2.2.1 x.2.2.2) : DenS (K + 1) (fun q => U q ∨ q = r0 ∨ ∃ x ∈ I, q = x.1) w r0 (fun e => cf (vls I) e (f0 e)) := by
  obtain ⟨hd, tl, h1, h2⟩ := C.seg
  refine ⟨fun q hq => ?_, fun w' hw k hk Q q => ?_⟩
  · rcases hq with h | rfl | ⟨x, hx, rfl⟩
    · exact D0.1 q h
    · rw [h1]
      exact fun z => nomatch z
    · obtain ⟨fs, e⟩ := Seg.al I hd none h2 x hx
      rw [e]
      exact fun z => nomatch z
  · obtain ⟨k, rfl⟩ : ∃ j, k = j + 1 := ⟨k - 1, by omega⟩
    have hU : ∀ q, U q → gF w' q = gF w q := fun q hq => hw q (Or.inl hq)
    have hr : gF w' r0 = gF w r0 := hw r0 (Or.inr (Or.inl rfl))
    have hx : ∀ x ∈ I, gF w' x.1 = gF w x.1 := fun x hx => hw x.1 (Or.inr (Or.inr ⟨x, hx, rfl⟩))
    have D0' : DenS K U w' s0 f0 := D0.on (Nat.le_refl _) (fun _ h => h) (fun q hq => by rw [hU q hq]; exact D0.1 q hq) hU
    rw [h1] at hr
    refine Or.inr (Or.inr ⟨_, hr, some s0, ⟨_, hr, rfl⟩, s0, rfl, D0'.2 w' (fun _ _ => rfl) k (by omega) _ ⟨hd, ⟨_, hr, rfl⟩, _, x_links (K := K) (U := U) (by omega) I hd _ (h2.on I hd none hx) (fun x hx' => ⟨(hI x hx').1, (hI x hx').2.on (Nat.le_refl _) (fun _ h => h) (fun q hq => by rw [hU q hq]; exact D0.1 q hq) hU⟩) q⟩⟩)
theorem x_add {r0 s0 sm : Nat} {sg : Int32} {I : List It} {f : En → Int32} {Q : Wd → Prop} (C : ChL w r0 s0 I) (hz : gZ w + 1 ≤ 600000) (q : ∀ (r : Nat) (w' : Wd), gF w r = none → gI w' = gI w → gA w' = gA w → gJ w' = gJ w → gL w' = gL w → gC w' = gC w → gZ w' = gZ w + 1 → (∀ q, q ≠ r → q ≠ r0 → (∀ x ∈ I, q ≠ x.1) → gF w' q = gF w q) → ChL w' r0 s0 (I ++ [(r, sg, sm, f)]) → Q w') : wp_X7_add r0 sg (some sm) w Q := by
  refine ⟨hz, fun r hr hn => ?_⟩
  rintro w2 rfl
  refine ⟨_, by rw [gF_sZ, gF_sF, if_pos rfl], by simp, ?_⟩
  rintro w3 rfl
  refine ⟨_, by rw [gF_sF, if_pos rfl], by simp, ?_⟩
  rintro w4 rfl
  have nr0 : r0 ≠ r := by
    obtain ⟨fs, e⟩ := C.r
    intro z
    rw [z, hn] at e
    exact nomatch e
  rcases C with ⟨h1, h⟩ | ⟨J, la, hd, h1, h, h3, h4, h5⟩
  · subst h1
    have e0 : ∀ v1 v2 v3, gF (sF (sF (sZ (sF w r v1) (gZ w + 1)) r v2) r v3) r0 = some (4, [rv (some s0), .null, .null]) := fun v1 v2 v3 => by
      rw [gF_sF, if_neg nr0, gF_sF, if_neg nr0, gF_sZ, gF_sF, if_neg nr0, h]
    refine ⟨none, ⟨_, e0 _ _ _, rfl⟩, fun i e => (nomatch e), fun _ => ⟨_, e0 _ _ _, by simp, ?_⟩⟩
    rintro w5 rfl
    refine ⟨_, by rw [gF_sF, if_pos rfl], by simp, ?_⟩
    rintro w6 rfl
    refine q r _ hn rfl rfl rfl rfl rfl rfl (fun x x1 x2 _ => ?_) (Or.inr ⟨[], (r, sg, sm, f), some r, rfl, ?_, rfl, ?_, fun x hx => nomatch hx⟩)
    · rw [gF_sF, if_neg x2, gF_sF, if_neg x2, gF_sF, if_neg x1, gF_sF, if_neg x1, gF_sZ, gF_sF, if_neg x1]
    · rw [gF_sF, if_pos rfl]
      rfl
    · show gF _ r = _
      rw [gF_sF, if_neg nr0.symm, gF_sF, if_neg nr0.symm, gF_sF, if_pos rfl]
      rfl
  · subst h1
    have nla : la.1 ≠ r := by
      intro z
      rw [z, hn] at h4
      exact nomatch h4
    have nla0 : la.1 ≠ r0 := by
      intro z
      rw [z, h] at h4
      cases h4
    have e0 : ∀ v1 v2 v3, gF (sF (sF (sZ (sF w r v1) (gZ w + 1)) r v2) r v3) r0 = some (4, [rv (some s0), rv hd, rv (some la.1)]) := fun v1 v2 v3 => by
      rw [gF_sF, if_neg nr0, gF_sF, if_neg nr0, gF_sZ, gF_sF, if_neg nr0, h]
    have e1 : ∀ v1 v2 v3, gF (sF (sF (sZ (sF w r v1) (gZ w + 1)) r v2) r v3) la.1 = some (5, [.int la.2.1, rv (some la.2.2.1), .null]) := fun v1 v2 v3 => by
      rw [gF_sF, if_neg nla, gF_sF, if_neg nla, gF_sZ, gF_sF, if_neg nla, h4]
    refine ⟨some la.1, ⟨_, e0 _ _ _, rfl⟩, fun i e => ⟨some la.1, ⟨_, e0 _ _ _, rfl⟩, la.1, rfl, _, e1 _ _ _, by simp, ?_⟩, fun e => nomatch e⟩
    rintro w5 rfl
    refine ⟨_, by rw [gF_sF, if_neg nla0.symm, e0], by simp, ?_⟩
    rintro w6 rfl
    refine q r _ hn rfl rfl rfl rfl rfl rfl (fun x x1 x2 x3 => ?_) (Or.inr ⟨J ++ [la], (r, sg, sm, f), hd, rfl, ?_, ?_, ?_, fun x hx => ?_⟩)
    · have x4 : x ≠ la.1 := x3 la (List.mem_append_right _ List.mem_cons_self)
      rw [gF_sF, if_neg x2, gF_sF, if_neg x4, gF_sF, if_neg x1, gF_sF, if_neg x1, gF_sZ, gF_sF, if_neg x1]
    · rw [gF_sF, if_pos rfl]
      rfl
    · refine Seg.snoc (nx := some r) ?_ J hd (h3.on J hd _ (fun x hx => ?_))
      · rw [gF_sF, if_neg nla0, gF_sF, if_pos rfl]
        rfl
      · obtain ⟨fs, ex⟩ := Seg.al J hd _ h3 x hx
        have x1 : x.1 ≠ r := by intro z; rw [z, hn] at ex; exact nomatch ex
        have x2 : x.1 ≠ r0 := by intro z; rw [z, h] at ex; cases ex
        rw [gF_sF, if_neg x2, gF_sF, if_neg (h5 x hx), gF_sF, if_neg x1, gF_sF, if_neg x1, gF_sZ, gF_sF, if_neg x1]
    · show gF _ r = _
      rw [gF_sF, if_neg nr0.symm, gF_sF, if_neg nla.symm, gF_sF, if_pos rfl]
      rfl
    · rcases List.mem_append.mp hx with hx | hx
      · obtain ⟨fs, ex⟩ := Seg.al J hd _ h3 x hx
        intro z
        have z : x.1 = r := z
        rw [z, hn] at ex
        exact nomatch ex
      · rw [List.mem_singleton.mp hx]
        exact nla
end CH
