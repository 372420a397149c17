set_option maxRecDepth 100000
def qI (Q : Int32 → Wd → Prop) : Option Value → Wd → Prop := fun o w => ∃ r, o = some (.int r) ∧ Q r w
def qJ (Q : Int64 → Wd → Prop) : Option Value → Wd → Prop := fun o w => ∃ r, o = some (.long r) ∧ Q r w
def qR (Q : Nat → Wd → Prop) : Option Value → Wd → Prop := fun o w => ∃ r, o = some (.ref r) ∧ Q r w
def qV (Q : Wd → Prop) : Option Value → Wd → Prop := fun o w => o = none ∧ Q w
def xE (E : String) (X : Wd → Prop) : String → Wd → Prop := fun F w => F = E ∧ X w
def xN : String → Wd → Prop := fun _ _ => False
def zok (v : Int32) : Prop := v = iz 0 ∨ v = iz 1
theorem zok0 : zok (iz 0) := Or.inl rfl
theorem zok1 : zok (iz 1) := Or.inr rfl
theorem zok_nar {v : Int32} (h : zok v) : narrow .boolean (.int v) = .int v := by rcases h with rfl | rfl <;> decide +kernel
theorem zok_fit {v : Int32} (h : zok v) : fits .boolean (.int v) = true := by rcases h with rfl | rfl <;> decide +kernel
theorem zok_znar {v : Int32} (h : zok v) : znar v = v := by rcases h with rfl | rfl <;> decide +kernel
theorem nar_o (γ : GG) (n : String) (o : Option Nat) : narrow (.object n) (cv γ (rv o)) = cv γ (rv o) := by cases o <;> rfl
theorem fit_o (γ : GG) (n : String) (o : Option Nat) : fits (.object n) (cv γ (rv o)) = true := by cases o <;> rfl
def lsub : List (Option Value) → List (Option Value) → Prop
  | [], _ => True
  | none :: _, [] => False
  | none :: t', _ :: t => lsub t' t
  | some _ :: _, [] => False
  | some v :: t', x :: t => x = some v ∧ lsub t' t
theorem lsub_get : ∀ {a b : List (Option Value)}, lsub a b → ∀ (i : Nat) (v : Value), a[i]? = some (some v) → b[i]? = some (some v)
  | [], _, _, i, v, h => by simp at h
  | none :: t', [], h0, i, v, h => h0.elim
  | none :: t', x :: t, h0, i, v, h => by
    cases i with
    | zero => simp at h
    | succ i => rw [List.getElem?_cons_succ] at h ⊢; exact lsub_get (a := t') (b := t) h0 i v h
  | some u :: t', [], h0, i, v, h => h0.elim
  | some u :: t', x :: t, h0, i, v, h => by
    cases i with
    | zero => rw [List.getElem?_cons_zero] at h ⊢; rw [← h]; exact congrArg some h0.1
    | succ i => rw [List.getElem?_cons_succ] at h ⊢; exact lsub_get (a := t') (b := t) h0.2 i v h
section HELP
variable {γ : GG} {d : Nat} {μ : MK} {pc : Nat} {ls : List (Option Value)} {st : List Value} {w : Wd} {Q : Option Value → Wd → Prop} {X : String → Wd → Prop}
theorem Rch.drop {ls' : List (Option Value)} (hs : lsub ls' ls) (k : Rch γ d μ pc ls' st w Q X) : Rch γ d μ pc ls st w Q X :=
  fun p e R s m args below meth c QM hC hE H locs lsA hD hl => k p e R s m args below meth c QM hC hE H locs lsA hD (lk_drop hl (lsub_get hs))
theorem Rch.dropk {ls' : List (Option Value)} (k : Rch γ d μ pc ls' st w Q X) (hs : lsub ls' ls) : Rch γ d μ pc ls st w Q X := Rch.drop hs k
theorem kI {Qc : Int32 → Wd → Prop} (q : Nat) (hq : pc + 3 = q) (kk : ∀ r w', Qc r w' → Rch γ d μ q ls (.int r :: st) w' Q X) : ∀ r w', qI Qc r w' → Rch γ d μ (pc + 3) ls (r.toList ++ st) w' Q X := by
  rintro _ w' ⟨r, rfl, h⟩
  rw [hq]
  exact kk r w' h
theorem kJ {Qc : Int64 → Wd → Prop} (q : Nat) (hq : pc + 3 = q) (kk : ∀ r w', Qc r w' → Rch γ d μ q ls (.long r :: st) w' Q X) : ∀ r w', qJ Qc r w' → Rch γ d μ (pc + 3) ls (r.toList ++ st) w' Q X := by
  rintro _ w' ⟨r, rfl, h⟩
  rw [hq]
  exact kk r w' h
theorem kR {Qc : Nat → Wd → Prop} (q : Nat) (hq : pc + 3 = q) (kk : ∀ r w', Qc r w' → Rch γ d μ q ls (.ref r :: st) w' Q X) : ∀ r w', qR Qc r w' → Rch γ d μ (pc + 3) ls (r.toList ++ st) w' Q X := by
  rintro _ w' ⟨r, rfl, h⟩
  rw [hq]
  exact kk r w' h
theorem kV {Qc : Wd → Prop} (q : Nat) (hq : pc + 3 = q) (kk : ∀ w', Qc w' → Rch γ d μ q ls st w' Q X) : ∀ r w', qV Qc r w' → Rch γ d μ (pc + 3) ls (r.toList ++ st) w' Q X := by
  rintro _ w' ⟨rfl, h⟩
  rw [hq]
  exact kk w' h
theorem kN : ∀ E w', xN E w' → RchX γ d μ pc ls w' E Q X := fun _ _ h => h.elim
theorem kP {E0 : String} {X0 : Wd → Prop} (hh : khh μ = []) : ∀ E w', xE E0 X0 E w' → RchX γ d μ pc ls w' E Q (xE E0 X0) := fun _ _ h => RchX.out (fun x hx => by rw [hh] at hx; cases hx) h
theorem kC {E0 : String} {X0 : Wd → Prop} (kk : ∀ w', X0 w' → RchX γ d μ pc ls w' E0 Q X) : ∀ E w', xE E0 X0 E w' → RchX γ d μ pc ls w' E Q X := by
  rintro _ w' ⟨rfl, h⟩
  exact kk w' h
theorem R.retI {v : Int32} {Q : Int32 → Wd → Prop} (hd : decode (kc μ) pc = .ok (.ireturn, 1)) (hr : kret μ = some .int) (h : Q v w) : Rch γ d μ pc ls [.int v] w (qI Q) X := Rch.ret (some (.int v)) (Or.inl ⟨hd, v, .int, rfl, hr, rfl⟩) ⟨v, rfl, h⟩
theorem R.retZ {v : Int32} {Q : Int32 → Wd → Prop} (hd : decode (kc μ) pc = .ok (.ireturn, 1)) (hr : kret μ = some .boolean) (hz : zok v) (h : Q v w) : Rch γ d μ pc ls [.int v] w (qI Q) X := Rch.ret (some (.int v)) (Or.inl ⟨hd, v, .boolean, rfl, hr, zok_nar hz⟩) ⟨v, rfl, h⟩
theorem R.retT {v : Int32} {ty : FieldType} {Q : Int32 → Wd → Prop} (hd : decode (kc μ) pc = .ok (.ireturn, 1)) (hr : kret μ = some ty) (hz : narrow ty (.int v) = .int v) (h : Q v w) : Rch γ d μ pc ls [.int v] w (qI Q) X := Rch.ret (some (.int v)) (Or.inl ⟨hd, v, ty, rfl, hr, hz⟩) ⟨v, rfl, h⟩
theorem R.retJ {v : Int64} {Q : Int64 → Wd → Prop} (hd : decode (kc μ) pc = .ok (.lreturn, 1)) (hr : kret μ = some .long) (h : Q v w) : Rch γ d μ pc ls [.long v] w (qJ Q) X := Rch.ret (some (.long v)) (Or.inr (Or.inl ⟨hd, v, rfl, hr⟩)) ⟨v, rfl, h⟩
theorem R.retR {v : Nat} {n : String} {Q : Nat → Wd → Prop} (hd : decode (kc μ) pc = .ok (.areturn, 1)) (hr : kret μ = some (.object n)) (h : Q v w) : Rch γ d μ pc ls [.ref v] w (qR Q) X := Rch.ret (some (.ref v)) (Or.inr (Or.inr (Or.inl ⟨hd, v, n, rfl, hr⟩))) ⟨v, rfl, h⟩
theorem R.retV {Q : Wd → Prop} (hd : decode (kc μ) pc = .ok (.return_, 1)) (hr : kret μ = none) (h : Q w) : Rch γ d μ pc ls [] w (qV Q) X := Rch.ret none (Or.inr (Or.inr (Or.inr ⟨hd, rfl, hr⟩))) ⟨rfl, h⟩
theorem R.dr0 {o : Option Nat} {i : Nat} (ho : o = some i) (k : Rch γ d μ pc ls (.ref i :: st) w Q X) : Rch γ d μ pc ls (rv o :: st) w Q X := by subst ho; exact k
theorem R.dr1 {o : Option Nat} {i : Nat} {a : Value} (ho : o = some i) (k : Rch γ d μ pc ls (a :: .ref i :: st) w Q X) : Rch γ d μ pc ls (a :: rv o :: st) w Q X := by subst ho; exact k
theorem R.dr2 {o : Option Nat} {i : Nat} {a b : Value} (ho : o = some i) (k : Rch γ d μ pc ls (a :: b :: .ref i :: st) w Q X) : Rch γ d μ pc ls (a :: b :: rv o :: st) w Q X := by subst ho; exact k
end HELP
