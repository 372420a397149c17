/-! numbers: iz -/
theorem iz_toInt {a : Int} (h1 : -2147483648 ≤ a) (h2 : a < 2147483648) : (iz a).toInt = a := Int32.toInt_ofInt_of_le h1 h2
theorem iz_of (x : Int32) : iz x.toInt = x := Int32.ofInt_toInt x
theorem iz_add (a b : Int) : iz a + iz b = iz (a + b) := (Int32.ofInt_add a b).symm
theorem iz_sub (a b : Int) : iz a - iz b = iz (a - b) := (Int32.ofInt_sub a b).symm
theorem iz_mul (a b : Int) : iz a * iz b = iz (a * b) := (Int32.ofInt_mul a b).symm
theorem ex_iz (x : Int32) : ∃ a : Int, -2147483648 ≤ a ∧ a < 2147483648 ∧ x = iz a := ⟨x.toInt, Int32.le_toInt x, Int32.toInt_lt x, (iz_of x).symm⟩
theorem iz_lt {a b : Int} (h1 : -2147483648 ≤ a) (h2 : a < 2147483648) (h3 : -2147483648 ≤ b) (h4 : b < 2147483648) : iz a < iz b ↔ a < b := by
  rw [Int32.lt_iff_toInt_lt, iz_toInt h1 h2, iz_toInt h3 h4]
theorem iz_le {a b : Int} (h1 : -2147483648 ≤ a) (h2 : a < 2147483648) (h3 : -2147483648 ≤ b) (h4 : b < 2147483648) : iz a ≤ iz b ↔ a ≤ b := by
  rw [Int32.le_iff_toInt_le, iz_toInt h1 h2, iz_toInt h3 h4]
theorem iz_eq {a b : Int} (h1 : -2147483648 ≤ a) (h2 : a < 2147483648) (h3 : -2147483648 ≤ b) (h4 : b < 2147483648) : iz a = iz b ↔ a = b := by
  constructor
  · intro h
    have := congrArg Int32.toInt h
    rwa [iz_toInt h1 h2, iz_toInt h3 h4] at this
  · intro h; rw [h]
theorem iz_inb {a : Int} {n : Nat} (h1 : 0 ≤ a) (h2 : a < n) (h3 : a < 2147483648) : inb (iz a) n := by
  unfold inb
  rw [iz_toInt (by omega) h3]
  exact ⟨h1, h2⟩
theorem iz_div {a b : Int} (h1 : 0 ≤ a) (h2 : a < 2147483648) (h3 : 0 < b) (h4 : b < 2147483648) : iz a / iz b = iz (a / b) := by
  have hd : 0 ≤ a / b := Int.ediv_nonneg h1 (by omega)
  have hl : a / b ≤ a := Int.ediv_le_self b h1
  apply Int32.toInt_inj.mp
  rw [Int32.toInt_div, iz_toInt (by omega) h2, iz_toInt (by omega) h4, iz_toInt (by omega) (by omega), Int.tdiv_eq_ediv_of_nonneg h1]
  exact Int.bmod_eq_of_le (by omega) (by omega)
theorem iz_rem {a b : Int} (h1 : 0 ≤ a) (h2 : a < 2147483648) (h3 : 0 < b) (h4 : b < 2147483648) : iz a - iz a / iz b * iz b = iz (a % b) := by
  rw [iz_div h1 h2 h3 h4, iz_mul, iz_sub]
  congr 1
  have := Int.emod_add_mul_ediv a b
  rw [Int.mul_comm b] at this
  omega
theorem iz_ne0 {b : Int} (h3 : b ≠ 0) (h1 : -2147483648 ≤ b) (h4 : b < 2147483648) : ¬ iz b = 0 := by
  intro h
  exact h3 ((iz_eq h1 h4 (by decide) (by decide)).mp (h.trans (show (0 : Int32) = iz 0 by decide)))
theorem imax_iz {a b : Int} (h1 : -2147483648 ≤ a) (h2 : a < 2147483648) (h3 : -2147483648 ≤ b) (h4 : b < 2147483648) : imax (iz a) (iz b) = iz (max a b) := by
  unfold imax
  by_cases h : a < b
  · rw [if_pos ((iz_lt h1 h2 h3 h4).mpr h), Int.max_eq_right (by omega)]
  · rw [if_neg (fun x => h ((iz_lt h1 h2 h3 h4).mp x)), Int.max_eq_left (by omega)]
theorem imin_iz {a b : Int} (h1 : -2147483648 ≤ a) (h2 : a < 2147483648) (h3 : -2147483648 ≤ b) (h4 : b < 2147483648) : imin (iz a) (iz b) = iz (min a b) := by
  unfold imin
  by_cases h : b < a
  · rw [if_pos ((iz_lt h3 h4 h1 h2).mpr h), Int.min_eq_right (by omega)]
  · rw [if_neg (fun x => h ((iz_lt h3 h4 h1 h2).mp x)), Int.min_eq_left (by omega)]
/-- two ways on -/
theorem br {c d A B : Prop} (e : c ↔ d) (f : d → A) (g : ¬ d → B) : (c → A) ∧ (¬ c → B) := ⟨fun h => f (e.mp h), fun h => g (fun x => h (e.mpr x))⟩
theorem brn {c d A B : Prop} (e : c ↔ d) (f : ¬ d → A) (g : d → B) : (¬ c → A) ∧ (c → B) := ⟨fun h => f (fun x => h (e.mpr x)), fun h => g (e.mp h)⟩
/-! the world's getters behind its setters -/
theorem gI_sI (w : Wd) (k j : Nat) (v : Int32) : gI (sI w k v) j = if j = k then v else gI w j := rfl
theorem gA_sI (w : Wd) (k : Nat) (v : Int32) (a : Nat) (i : Int) : gA (sI w k v) a i = gA w a i := rfl
theorem gJ_sI (w : Wd) (k : Nat) (v : Int32) (a : Nat) : gJ (sI w k v) a = gJ w a := rfl
theorem gL_sI (w : Wd) (k : Nat) (v : Int32) (a : Nat) (i : Int) : gL (sI w k v) a i = gL w a i := rfl
theorem gC_sI (w : Wd) (k : Nat) (v : Int32) (i : Int) : gC (sI w k v) i = gC w i := rfl
theorem gT_sI (w : Wd) (k : Nat) (v : Int32) : gT (sI w k v) = gT w := rfl
theorem gF_sI (w : Wd) (k : Nat) (v : Int32) : gF (sI w k v) = gF w := rfl
theorem gZ_sI (w : Wd) (k : Nat) (v : Int32) : gZ (sI w k v) = gZ w := rfl
theorem gI_sA (w : Wd) (a : Nat) (i : Int) (v : Int32) (j : Nat) : gI (sA w a i v) j = gI w j := rfl
theorem gA_sA (w : Wd) (a : Nat) (i : Int) (v : Int32) (b : Nat) (j : Int) : gA (sA w a i v) b j = if b = a then (if j = i then v else gA w b j) else gA w b j := by
  unfold gA sA
  by_cases h : b = a
  · subst h; simp
  · simp [h]
theorem gJ_sA (w : Wd) (a : Nat) (i : Int) (v : Int32) (j : Nat) : gJ (sA w a i v) j = gJ w j := rfl
theorem gL_sA (w : Wd) (a : Nat) (i : Int) (v : Int32) (b : Nat) (j : Int) : gL (sA w a i v) b j = gL w b j := rfl
theorem gC_sA (w : Wd) (a : Nat) (i : Int) (v : Int32) (j : Int) : gC (sA w a i v) j = gC w j := rfl
theorem gT_sA (w : Wd) (a : Nat) (i : Int) (v : Int32) : gT (sA w a i v) = gT w := rfl
theorem gF_sA (w : Wd) (a : Nat) (i : Int) (v : Int32) : gF (sA w a i v) = gF w := rfl
theorem gZ_sA (w : Wd) (a : Nat) (i : Int) (v : Int32) : gZ (sA w a i v) = gZ w := rfl
/-- a whole array, anew -/
def sB (w : Wd) (a : Nat) (f : Int → Int32) : Wd := (w.1, fun b => if b = a then f else w.2.1 b, w.2.2)
theorem gI_sB (w : Wd) (a : Nat) (f : Int → Int32) (j : Nat) : gI (sB w a f) j = gI w j := rfl
theorem gA_sB (w : Wd) (a : Nat) (f : Int → Int32) (b : Nat) (j : Int) : gA (sB w a f) b j = if b = a then f j else gA w b j := by
  unfold gA sB
  by_cases h : b = a <;> simp [h]
theorem gJ_sB (w : Wd) (a : Nat) (f : Int → Int32) (j : Nat) : gJ (sB w a f) j = gJ w j := rfl
theorem gL_sB (w : Wd) (a : Nat) (f : Int → Int32) (b : Nat) (j : Int) : gL (sB w a f) b j = gL w b j := rfl
theorem gC_sB (w : Wd) (a : Nat) (f : Int → Int32) (j : Int) : gC (sB w a f) j = gC w j := rfl
theorem gT_sB (w : Wd) (a : Nat) (f : Int → Int32) : gT (sB w a f) = gT w := rfl
theorem gF_sB (w : Wd) (a : Nat) (f : Int → Int32) : gF (sB w a f) = gF w := rfl
theorem gZ_sB (w : Wd) (a : Nat) (f : Int → Int32) : gZ (sB w a f) = gZ w := rfl
theorem sB_sB (w : Wd) (a : Nat) (f g : Int → Int32) : sB (sB w a f) a g = sB w a g := by
  unfold sB
  refine Prod.ext rfl (Prod.ext ?_ rfl)
  funext b
  by_cases h : b = a <;> simp [h]
theorem sA_sB (w : Wd) (a : Nat) (i : Int) (v : Int32) : sA w a i v = sB w a (fun j => if j = i then v else gA w a j) := by
  unfold sB sA gA
  refine Prod.ext rfl (Prod.ext ?_ rfl)
  funext b
  by_cases h : b = a
  · subst h; simp
  · simp [h]
theorem sB_self (w : Wd) (a : Nat) : sB w a (gA w a) = w := by
  unfold sB gA
  refine Prod.ext rfl (Prod.ext ?_ rfl)
  funext b
  by_cases h : b = a
  · subst h; simp
  · simp [h]
theorem sA_sB2 (w : Wd) (a : Nat) (f : Int → Int32) (i : Int) (v : Int32) : sA (sB w a f) a i v = sB w a (fun j => if j = i then v else f j) := by
  rw [sA_sB, sB_sB]
  congr 1
  funext j
  simp [gA_sB]
theorem sB_ex {w w1 w2 : Wd} {a : Nat} {f : Int → Int32} {i : Int} {v : Int32} (h : w2 = sA w1 a i v) (h1 : w1 = sB w a f) : ∃ g, w2 = sB w a g := ⟨_, by rw [h, h1]; exact sA_sB2 _ _ _ _ _⟩
theorem one_ne : ¬ iz 1 = iz 0 := by decide +kernel
theorem t1 {A B : Prop} (b : B) : (iz 1 = iz 0 → A) ∧ (¬ iz 1 = iz 0 → B) := ⟨fun h => absurd h one_ne, fun _ => b⟩
theorem t0 {A B : Prop} (a : A) : (iz 0 = iz 0 → A) ∧ (¬ iz 0 = iz 0 → B) := ⟨fun _ => a, fun h => absurd rfl h⟩
theorem u1 {A B : Prop} (a : A) : (¬ iz 1 = iz 0 → A) ∧ (iz 1 = iz 0 → B) := ⟨fun _ => a, fun h => absurd h one_ne⟩
theorem u0 {A B : Prop} (b : B) : (¬ iz 0 = iz 0 → A) ∧ (iz 0 = iz 0 → B) := ⟨fun h => absurd rfl h, fun _ => b⟩
abbrev VR (v : Int) : Prop := -2147483648 ≤ v ∧ v < 2147483648
/-- a loop over i: from i on, while i < N -/
theorem lpi {S : Type} (lp : Nat → S → Prop) (wl : (S → Prop) → S → Prop) (st : ∀ n s, wl (lp n) s → lp (n + 1) s) (I : Int → S → Prop) (N : Int)
    (body : ∀ (R : S → Prop) (s : S) (i : Int), i ≤ N → I i s → (i < N → ∀ s', I (i + 1) s' → R s') → wl R s) : ∀ (d : Nat) (i : Int) (s : S), N - i = d → I i s → lp (d + 1) s := by
  intro d
  induction d with
  | zero => intro i s h hi; exact st _ _ (body _ s i (by omega) hi (fun q => by omega))
  | succ d ih => intro i s h hi; exact st _ _ (body _ s i (by omega) hi (fun q s' hs' => ih (i + 1) s' (by omega) hs'))
theorem lpe {S : Type} (lp : Nat → S → Prop) (wl : (S → Prop) → S → Prop) (st : ∀ n s, wl (lp n) s → lp (n + 1) s) (I : Int → S → Prop) (N i : Int) (s : S) (hi : i ≤ N) (h0 : I i s)
    (body : ∀ (R : S → Prop) (s : S) (i : Int), i ≤ N → I i s → (i < N → ∀ s', I (i + 1) s' → R s') → wl R s) : ∃ n, lp n s := ⟨_, lpi lp wl st I N body (N - i).toNat i s (by omega) h0⟩
def isum (f : Int → Int) : Nat → Int
  | 0 => 0
  | n + 1 => isum f n + f n
def sm (f : Int → Int) (n : Int) : Int := isum f n.toNat
theorem sm_0 (f : Int → Int) : sm f 0 = 0 := rfl
theorem sm_s (f : Int → Int) {i : Int} (h : 0 ≤ i) : sm f (i + 1) = sm f i + f i := by
  unfold sm
  rw [show (i + 1).toNat = i.toNat + 1 by omega, isum, Int.toNat_of_nonneg h]
theorem sm_congr {f g : Int → Int} {n : Int} (hn : 0 ≤ n) (h : ∀ i, 0 ≤ i → i < n → f i = g i) : sm f n = sm g n := by
  unfold sm
  have key : ∀ k : Nat, (k : Int) ≤ n → isum f k = isum g k := by
    intro k
    induction k with
    | zero => intro _; rfl
    | succ k ih => intro hk; rw [isum, isum, ih (by omega), h k (by omega) (by omega)]
  exact key _ (by omega)
theorem sm_bd {f : Int → Int} {n m : Int} (hn : 0 ≤ n) (h : ∀ i, 0 ≤ i → i < n → 0 ≤ f i ∧ f i ≤ m) : 0 ≤ sm f n ∧ sm f n ≤ n * m := by
  unfold sm
  have key : ∀ k : Nat, (k : Int) ≤ n → 0 ≤ isum f k ∧ isum f k ≤ k * m := by
    intro k
    induction k with
    | zero => intro _; simp [isum]
    | succ k ih =>
      intro hk
      have a := ih (by omega)
      have b := h k (by omega) (by omega)
      rw [isum]
      have e : ((k + 1 : Nat) : Int) * m = k * m + m := by rw [Int.natCast_succ, Int.add_mul]; omega
      omega
  have := key n.toNat (by omega)
  rwa [Int.toNat_of_nonneg hn] at this
/-- a set of bits, laid one by one -/
def ibits (f : Int → Prop) [DecidablePred f] : Nat → Int32
  | 0 => iz 0
  | n + 1 => if f n then ibits f n ||| (iz 1 <<< (iz n &&& 31)) else ibits f n
def bts (f : Int → Prop) [DecidablePred f] (n : Int) : Int32 := ibits f n.toNat
theorem bts_0 (f : Int → Prop) [DecidablePred f] : bts f 0 = iz 0 := rfl
theorem bts_t (f : Int → Prop) [DecidablePred f] {i : Int} (h : 0 ≤ i) (t : f i) : bts f (i + 1) = bts f i ||| (iz 1 <<< (iz i &&& 31)) := by
  unfold bts
  rw [show (i + 1).toNat = i.toNat + 1 by omega, ibits, Int.toNat_of_nonneg h, if_pos t]
theorem bts_f (f : Int → Prop) [DecidablePred f] {i : Int} (h : 0 ≤ i) (t : ¬ f i) : bts f (i + 1) = bts f i := by
  unfold bts
  rw [show (i + 1).toNat = i.toNat + 1 by omega, ibits, Int.toNat_of_nonneg h, if_neg t]
theorem bts_congr {f g : Int → Prop} [DecidablePred f] [DecidablePred g] {n : Int} (hn : 0 ≤ n) (h : ∀ i, 0 ≤ i → i < n → (f i ↔ g i)) : bts f n = bts g n := by
  unfold bts
  have key : ∀ k : Nat, (k : Int) ≤ n → ibits f k = ibits g k := by
    intro k
    induction k with
    | zero => intro _; rfl
    | succ k ih =>
      intro hk
      have e := h k (by omega) (by omega)
      rw [ibits, ibits, ih (by omega)]
      by_cases q : f k
      · rw [if_pos q, if_pos (e.mp q)]
      · rw [if_neg q, if_neg (fun x => q (e.mpr x))]
  exact key _ (by omega)
theorem has_tab : ∀ s, s < 256 → ∀ k, k < 8 → (((iz (s : Nat) >>> (iz (k : Nat) &&& 31)) &&& iz 1) = iz 1 ↔ s.testBit k = true) := by decide +kernel
/-- k is in the set s -/
def inS (s k : Int) : Prop := s.toNat.testBit k.toNat = true
abbrev inSd (s k : Int) : Decidable (inS s k) := inferInstanceAs (Decidable (_ = true))
theorem hasI {s k : Int} (h1 : 0 ≤ s) (h2 : s < 256) (h3 : 0 ≤ k) (h4 : k < 8) : ((iz s >>> (iz k &&& 31)) &&& iz 1) = iz 1 ↔ inS s k := by
  have := has_tab s.toNat (by omega) k.toNat (by omega)
  rw [Int.toNat_of_nonneg h1, Int.toNat_of_nonneg h3] at this
  exact this
theorem shl_tab : ∀ k, k < 9 → (iz 1 <<< (iz (k : Nat) &&& 31)) = iz ((2 ^ k : Nat) : Int) := by decide +kernel
theorem shlI {k : Int} (h1 : 0 ≤ k) (h2 : k < 9) : (iz 1 <<< (iz k &&& 31)) = iz ((2 ^ k.toNat : Nat) : Int) := by
  have := shl_tab k.toNat (by omega)
  rwa [Int.toNat_of_nonneg h1] at this
theorem low_tab : ∀ n, n < 9 → ∀ k, k < 8 → ((2 ^ n - 1 : Nat).testBit k = true ↔ k < n) ∧ 2 ^ n ≤ 256 ∧ 1 ≤ 2 ^ n := by decide +kernel
theorem low_in {n k : Int} (h1 : 0 ≤ n) (h2 : n < 9) (h3 : 0 ≤ k) (h4 : k < 8) : inS (((2 ^ n.toNat : Nat) : Int) - 1) k ↔ k < n := by
  obtain ⟨a, b, c⟩ := low_tab n.toNat (by omega) k.toNat (by omega)
  unfold inS
  rw [show (((2 ^ n.toNat : Nat) : Int) - 1).toNat = 2 ^ n.toNat - 1 by omega, a]
  omega
