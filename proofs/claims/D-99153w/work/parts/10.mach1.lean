/-! THE WORLD of the whole run, as numbers: int fields I, int arrays A, long fields J, long arrays L, the array of laws C, the model's text T, the made nodes F, how many cells Z -/
set_option maxRecDepth 100000
abbrev Wd : Type := (Nat → Int32) × (Nat → Int → Int32) × (Nat → Int64) × (Nat → Int → Int64) × (Int → Option Nat) × Nat × (Nat → Option (Nat × List Value)) × Nat
def gI (w : Wd) (k : Nat) : Int32 := w.1 k
def gA (w : Wd) (a : Nat) (i : Int) : Int32 := w.2.1 a i
def gJ (w : Wd) (k : Nat) : Int64 := w.2.2.1 k
def gL (w : Wd) (a : Nat) (i : Int) : Int64 := w.2.2.2.1 a i
def gC (w : Wd) (i : Int) : Option Nat := w.2.2.2.2.1 i
def gT (w : Wd) : Nat := w.2.2.2.2.2.1
def gF (w : Wd) (r : Nat) : Option (Nat × List Value) := w.2.2.2.2.2.2.1 r
def gZ (w : Wd) : Nat := w.2.2.2.2.2.2.2
def sI (w : Wd) (k : Nat) (v : Int32) : Wd := (fun j => if j = k then v else w.1 j, w.2)
def sA (w : Wd) (a : Nat) (i : Int) (v : Int32) : Wd := (w.1, fun b => if b = a then (fun j => if j = i then v else w.2.1 b j) else w.2.1 b, w.2.2)
def sJ (w : Wd) (k : Nat) (v : Int64) : Wd := (w.1, w.2.1, fun j => if j = k then v else w.2.2.1 j, w.2.2.2)
def sL (w : Wd) (a : Nat) (i : Int) (v : Int64) : Wd := (w.1, w.2.1, w.2.2.1, fun b => if b = a then (fun j => if j = i then v else w.2.2.2.1 b j) else w.2.2.2.1 b, w.2.2.2.2)
def sC (w : Wd) (i : Int) (v : Option Nat) : Wd := (w.1, w.2.1, w.2.2.1, w.2.2.2.1, fun j => if j = i then v else w.2.2.2.2.1 j, w.2.2.2.2.2)
def sT (w : Wd) (v : Nat) : Wd := (w.1, w.2.1, w.2.2.1, w.2.2.2.1, w.2.2.2.2.1, v, w.2.2.2.2.2.2)
def sF (w : Wd) (r : Nat) (v : Nat × List Value) : Wd := (w.1, w.2.1, w.2.2.1, w.2.2.2.1, w.2.2.2.2.1, w.2.2.2.2.2.1, fun q => if q = r then some v else w.2.2.2.2.2.2.1 q, w.2.2.2.2.2.2.2)
def sZ (w : Wd) (n : Nat) : Wd := (w.1, w.2.1, w.2.2.1, w.2.2.2.1, w.2.2.2.2.1, w.2.2.2.2.2.1, w.2.2.2.2.2.2.1, n)
/-- what is fixed in a run: launch, the classes' numbers, the array classes, what may be written, sizes at the start, where things lie, a static -/
abbrev GG : Type := Launch × va_G × (Nat → ClassId) × (Nat → Prop) × Nat × Nat × Nat × (Nat → Nat) × Value × Nat × (Nat → Int32)
def gl (γ : GG) : Launch := γ.1
def gD (γ : GG) : va_G := γ.2.1
def gtc (γ : GG) : Nat → ClassId := γ.2.2.1
def gW (γ : GG) : Nat → Prop := γ.2.2.2.1
def gszA (γ : GG) : Nat := γ.2.2.2.2.1
def gsz0 (γ : GG) : Nat := γ.2.2.2.2.2.1
def gsl0 (γ : GG) : Nat := γ.2.2.2.2.2.2.1
def gad (γ : GG) (i : Nat) : Nat := if i < 200 then γ.2.2.2.2.2.2.2.1 i else i - 200
def gsio (γ : GG) : Value := γ.2.2.2.2.2.2.2.2.1
def gsn (γ : GG) : Nat := γ.2.2.2.2.2.2.2.2.2.1
def gxs (γ : GG) : Nat → Int32 := γ.2.2.2.2.2.2.2.2.2.2
def cv (γ : GG) : Value → Value
  | .ref i => .ref (gad γ i)
  | .int x => .int x
  | .long x => .long x
  | .float x => .float x
  | .double x => .double x
  | .null => .null
  | .retAddr x => .retAddr x
theorem cv_cat (γ : GG) (v : Value) : (cv γ v).category = v.category := by cases v <;> rfl
theorem cv_rest (γ : GG) (st : List Value) : ((st.map (cv γ)).map fun v => v.category).sum = (st.map fun v => v.category).sum := by
  induction st with
  | nil => rfl
  | cons a l ih => simp only [List.map_cons, List.sum_cons, cv_cat, ih]
def slT (H : Heap) : Nat := H.foldl (fun n c => n + c.slots.size) 0
abbrev CM : Nat := 600000
/-- own class, code, locals, answer, handlers, name -/
abbrev MK : Type := String × ByteArray × Nat × Option FieldType × List (Nat × Nat × Nat × Nat) × String
abbrev kown (μ : MK) : String := μ.1
abbrev kc (μ : MK) : ByteArray := μ.2.1
abbrev knL (μ : MK) : Nat := μ.2.2.1
abbrev kret (μ : MK) : Option FieldType := μ.2.2.2.1
abbrev khh (μ : MK) : List (Nat × Nat × Nat × Nat) := μ.2.2.2.2.1
abbrev knm (μ : MK) : String := μ.2.2.2.2.2
def lvl (γ : GG) : Nat → List (Option Value) → List (Nat × Value)
  | _, [] => []
  | i, none :: t => lvl γ (i + 1) t
  | i, some v :: t => (i, cv γ v) :: lvl γ (i + 1) t
theorem lvl_mem {γ : GG} : ∀ {ls : List (Option Value)} {i : Nat} {q : Nat × Value}, q ∈ lvl γ i ls ↔ ∃ v, i ≤ q.1 ∧ ls[q.1 - i]? = some (some v) ∧ q.2 = cv γ v
  | [], i, q => by simp [lvl]
  | none :: t, i, q => by
    rw [lvl, lvl_mem]
    constructor
    · rintro ⟨v, h1, h2, h3⟩
      refine ⟨v, by omega, ?_, h3⟩
      rw [show q.1 - i = (q.1 - (i + 1)) + 1 by omega, List.getElem?_cons_succ]
      exact h2
    · rintro ⟨v, h1, h2, h3⟩
      by_cases h : q.1 = i
      · rw [h, Nat.sub_self, List.getElem?_cons_zero] at h2
        cases h2
      · refine ⟨v, by omega, ?_, h3⟩
        rw [show q.1 - i = (q.1 - (i + 1)) + 1 by omega, List.getElem?_cons_succ] at h2
        exact h2
  | some u :: t, i, q => by
    rw [lvl, List.mem_cons, lvl_mem]
    constructor
    · rintro (h | ⟨v, h1, h2, h3⟩)
      · subst h
        exact ⟨u, Nat.le_refl _, by simp, rfl⟩
      · refine ⟨v, by omega, ?_, h3⟩
        rw [show q.1 - i = (q.1 - (i + 1)) + 1 by omega, List.getElem?_cons_succ]
        exact h2
    · rintro ⟨v, h1, h2, h3⟩
      by_cases h : q.1 = i
      · rw [h, Nat.sub_self, List.getElem?_cons_zero] at h2
        cases h2
        exact Or.inl (Prod.ext h h3)
      · refine Or.inr ⟨v, by omega, ?_, h3⟩
        rw [show q.1 - i = (q.1 - (i + 1)) + 1 by omega, List.getElem?_cons_succ] at h2
        exact h2
def lk (γ : GG) (n : Nat) (lsA : Array Slot) (ls : List (Option Value)) : Prop := lv_has lsA n (lvl γ 0 ls)
theorem lk_get {γ : GG} {n : Nat} {lsA : Array Slot} {ls : List (Option Value)} (h : lk γ n lsA ls) {i : Nat} {v : Value} (hi : ls[i]? = some (some v)) : lsA[i]? = some (.val (cv γ v)) :=
  h.2.2 (i, cv γ v) (lvl_mem.mpr ⟨v, Nat.zero_le _, by simpa using hi, rfl⟩)
def c1 : Option Value → Bool
  | some (.long _) => false
  | some (.double _) => false
  | _ => true
theorem c1_cat {v : Value} (h : c1 (some v) = true) : v.category = 1 := by cases v <;> first | rfl | cases h
theorem lk_set1 {γ : GG} {n : Nat} {lsA : Array Slot} {ls : List (Option Value)} {i : Nat} {v : Value} (hp : ∀ j, j + 1 = i → ∀ u, ls[j]? = some u → c1 u = true)
    (h' : lv_has lsA n ((i, cv γ v) :: (lvl γ 0 ls).filter (fun q => !(q.1 == i) && !(q.1 + 1 == i && q.2.category == 2)))) : lk γ n lsA (ls.set i (some v)) := by
  refine ⟨h'.1, h'.2.1, fun q hq => h'.2.2 q ?_⟩
  obtain ⟨u, -, h2, h3⟩ := lvl_mem.mp hq
  rw [Nat.sub_zero] at h2
  by_cases hi : q.1 = i
  · rw [hi, List.getElem?_set_self' ] at h2
    cases hl : ls[i]? with
    | none => rw [hl] at h2; simp at h2
    | some z =>
      rw [hl] at h2
      simp at h2
      subst h2
      exact List.mem_cons.mpr (Or.inl (Prod.ext hi h3))
  · rw [List.getElem?_set_ne (fun e => hi e.symm)] at h2
    refine List.mem_cons.mpr (Or.inr (List.mem_filter.mpr ⟨lvl_mem.mpr ⟨u, Nat.zero_le _, by simpa using h2, h3⟩, ?_⟩))
    by_cases hj : q.1 + 1 = i
    · have := c1_cat (hp _ hj _ h2)
      simp [hi, h3, cv_cat, this]
    · simp [hi, hj]
theorem lk_set2 {γ : GG} {n : Nat} {lsA : Array Slot} {ls : List (Option Value)} {i : Nat} {v : Value} (hp : ∀ j, j + 1 = i → ∀ u, ls[j]? = some u → c1 u = true)
    (h' : lv_has lsA n ((i, cv γ v) :: (lvl γ 0 ls).filter (fun q => !(q.1 == i) && (!(q.1 == i + 1) && !(q.1 + 1 == i && q.2.category == 2))))) : lk γ n lsA ((ls.set i (some v)).set (i + 1) none) := by
  refine ⟨h'.1, h'.2.1, fun q hq => h'.2.2 q ?_⟩
  obtain ⟨u, -, h2, h3⟩ := lvl_mem.mp hq
  rw [Nat.sub_zero] at h2
  by_cases hi1 : q.1 = i + 1
  · rw [hi1, List.getElem?_set_self'] at h2
    cases hl : (ls.set i (some v))[i + 1]? with
    | none => rw [hl] at h2; simp at h2
    | some z => rw [hl] at h2; simp at h2
  · rw [List.getElem?_set_ne (fun e => hi1 e.symm)] at h2
    by_cases hi : q.1 = i
    · rw [hi, List.getElem?_set_self' ] at h2
      cases hl : ls[i]? with
      | none => rw [hl] at h2; simp at h2
      | some z =>
        rw [hl] at h2
        simp at h2
        subst h2
        exact List.mem_cons.mpr (Or.inl (Prod.ext hi h3))
    · rw [List.getElem?_set_ne (fun e => hi e.symm)] at h2
      refine List.mem_cons.mpr (Or.inr (List.mem_filter.mpr ⟨lvl_mem.mpr ⟨u, Nat.zero_le _, by simpa using h2, h3⟩, ?_⟩))
      by_cases hj : q.1 + 1 = i
      · have := c1_cat (hp _ hj _ h2)
        simp [hi, hi1, h3, cv_cat, this]
      · simp [hi, hi1, hj]
/-- forgetting what a local holds -/
theorem lk_drop {γ : GG} {n : Nat} {lsA : Array Slot} {ls ls' : List (Option Value)} (h : lk γ n lsA ls) (hs : ∀ (i : Nat) (v : Value), ls'[i]? = some (some v) → ls[i]? = some (some v)) : lk γ n lsA ls' :=
  ⟨h.1, h.2.1, fun q hq => by
    obtain ⟨u, h1, h2, h3⟩ := lvl_mem.mp hq
    exact h.2.2 q (lvl_mem.mpr ⟨u, h1, by rw [Nat.sub_zero] at h2 ⊢; exact hs _ _ h2, h3⟩)⟩
/-- a method's arguments as its first locals -/
def lva : List Value → List (Option Value)
  | [] => []
  | v :: t => if v.category = 2 then some v :: none :: lva t else some v :: lva t
theorem lva_args {γ : GG} : ∀ (vs : List Value) (i k : Nat), lvl γ i (lva vs ++ List.replicate k none) = lv_args i (vs.map (cv γ))
  | [], i, k => by
    induction k generalizing i with
    | zero => rfl
    | succ k ih => exact ih (i + 1)
  | v :: t, i, k => by
    have ih := lva_args (γ := γ) t
    by_cases h : v.category = 2
    · simp only [lva, if_pos h, List.map_cons, lv_args, cv_cat, List.cons_append, lvl]
      rw [ih]
    · simp only [lva, if_neg h, List.map_cons, lv_args, cv_cat, List.cons_append, lvl]
      rw [ih]
