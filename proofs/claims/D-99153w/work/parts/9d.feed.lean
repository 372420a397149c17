/-! the tape: feed and end, both sides joined -/
def byO (v : Int32) (s : Int) : Int32 := (v >>> (iz s &&& 31)) &&& iz 255
def bval (x : Int32) : Int := x.toInt8.toInt
theorem bval_bd (x : Int32) : -128 ≤ bval x ∧ bval x ≤ 127 := by
  have h1 := Int8.le_toInt x.toInt8
  have h2 := Int8.toInt_lt x.toInt8
  unfold bval
  omega
theorem and255 (x : Int32) : (x &&& iz 255).toInt8 = x.toInt8 := by
  apply Int8.toBitVec_inj.mp
  rw [Int32.toBitVec_toInt8, Int32.toBitVec_toInt8, BitVec.signExtend_eq_setWidth_of_le _ (by decide), BitVec.signExtend_eq_setWidth_of_le _ (by decide)]
  apply BitVec.eq_of_getLsbD_eq
  intro i hi
  have h : ∀ i, i < 8 → (iz 255).toBitVec.getLsbD i = true := by decide +kernel
  rw [BitVec.getLsbD_setWidth, BitVec.getLsbD_setWidth, Int32.toBitVec_and, BitVec.getLsbD_and, h i hi, Bool.and_true]
theorem stored (x : Int32) : x.toInt8.toInt32.toInt8.toInt32 = iz (bval x) := by
  have e : ∀ y : Int8, y.toInt32 = iz y.toInt := fun y => by
    rw [← iz_of y.toInt32, Int8.toInt_toInt32]
  have e2 : x.toInt8.toInt32.toInt8 = x.toInt8 := by
    apply Int8.toInt_inj.mp
    rw [Int32.toInt_toInt8, Int8.toInt_toInt32]
    have h1 := Int8.le_toInt x.toInt8
    have h2 := Int8.toInt_lt x.toInt8
    exact Int.bmod_eq_of_le (by omega) (by omega)
  rw [e2, e]
  rfl
theorem storedB (v : Int32) (s : Int) : (byO v s).toInt8.toInt32.toInt8.toInt32 = iz (bval (byO v s)) ∧ (v >>> (iz s &&& 31)).toInt8.toInt32.toInt8.toInt32 = iz (bval (byO v s)) := by
  refine ⟨stored _, ?_⟩
  rw [stored]
  unfold bval byO
  rw [and255]
def apT (tp : Tp) (B : Nat → Int32) : Nat → Tp
  | 0 => tp
  | n + 1 => if B n = iz 0 then apT tp B n else ((apT tp B n).1 + 1, ups (apT tp B n).2 (apT tp B n).1 (bval (B n)))
def cnB (B : Nat → Int32) (n : Int) : Int := sm (fun j => if B j.toNat = iz 0 then 0 else 1) n
theorem cnB_s (B : Nat → Int32) {i : Int} (h : 0 ≤ i) : cnB B (i + 1) = cnB B i + (if B i.toNat = iz 0 then 0 else 1) := sm_s _ h
theorem cnB_bd (B : Nat → Int32) {i : Int} (h : 0 ≤ i) : 0 ≤ cnB B i ∧ cnB B i ≤ i := by
  have := sm_bd (f := fun j => if B j.toNat = iz 0 then 0 else 1) (m := 1) h (fun i _ _ => by split <;> decide)
  unfold cnB
  omega
theorem apT_len (tp : Tp) (B : Nat → Int32) : ∀ n : Nat, (apT tp B n).1 = tp.1 + cnB B n := by
  intro n
  induction n with
  | zero => rw [apT]; show tp.1 = tp.1 + 0; omega
  | succ n ih =>
    rw [apT, show ((n + 1 : Nat) : Int) = (n : Int) + 1 by omega, cnB_s B (by omega), Int.toNat_natCast]
    split
    · omega
    · show (apT tp B n).1 + 1 = _
      omega
theorem apT_ok {tp : Tp} (B : Nat → Int32) (h : ∀ i, -128 ≤ tp.2 i ∧ tp.2 i ≤ 127) : ∀ n : Nat, ∀ i, -128 ≤ (apT tp B n).2 i ∧ (apT tp B n).2 i ≤ 127 := by
  intro n
  induction n with
  | zero => exact h
  | succ n ih =>
    intro i
    rw [apT]
    split
    · exact ih i
    · show -128 ≤ ups _ _ _ i ∧ ups _ _ _ i ≤ 127
      by_cases e : i = (apT tp B n).1
      · rw [e, ups_p]
        exact bval_bd _
      · rw [ups_n _ _ e]
        exact ih i
theorem apT_add (tp : Tp) (B : Nat → Int32) (n : Nat) : ∀ m : Nat, apT tp B (n + m) = apT (apT tp B n) (fun j => B (n + j)) m := by
  intro m
  induction m with
  | zero => rfl
  | succ m ih =>
    rw [← Nat.add_assoc, apT, apT, ih]
theorem apT_congr (tp : Tp) {B B' : Nat → Int32} : ∀ m : Nat, (∀ j, j < m → B j = B' j) → apT tp B m = apT tp B' m := by
  intro m
  induction m with
  | zero => intro _; rfl
  | succ m ih =>
    intro h
    rw [apT, apT, ih (fun j hj => h j (by omega)), h m (by omega)]
theorem cnB_add (B : Nat → Int32) (n : Nat) : ∀ m : Nat, cnB B ((n + m : Nat) : Int) = cnB B n + cnB (fun j => B (n + j)) m := by
  intro m
  induction m with
  | zero => show cnB B n = cnB B n + 0; omega
  | succ m ih =>
    rw [show ((n + (m + 1) : Nat) : Int) = ((n + m : Nat) : Int) + 1 by omega, cnB_s B (by omega), ih, show ((m + 1 : Nat) : Int) = (m : Int) + 1 by omega, cnB_s _ (by omega), Int.toNat_natCast, Int.toNat_natCast]
    omega
theorem cnB_congr {B B' : Nat → Int32} (m : Nat) (h : ∀ j, j < m → B j = B' j) : cnB B m = cnB B' m := by
  unfold cnB
  refine sm_congr (by omega) (fun i i1 i2 => ?_)
  show (if B i.toNat = iz 0 then (0 : Int) else 1) = _
  rw [h i.toNat (by omega)]
theorem sI_sI (w : Wd) (k : Nat) (v v' : Int32) : sI (sI w k v) k v' = sI w k v' := by
  unfold sI
  refine Prod.ext ?_ rfl
  funext j
  by_cases h : j = k
  · simp [h]
  · simp [h]
theorem sI_self (w : Wd) (k : Nat) : sI w k (gI w k) = w := by
  unfold sI gI
  refine Prod.ext ?_ rfl
  funext j
  by_cases h : j = k
  · simp [h]
  · simp [h]
/-- the word of the n-th byte, the byte -/
def wdO (a b c d e : Int32) (n : Nat) : Int32 := if n < 4 then a else if n < 8 then b else if n < 12 then c else if n < 16 then d else e
def byN (U : Nat → Int32) (n : Nat) : Int32 := byO (U n) (24 - 8 * ((n : Int) % 4))
section FE
variable {w : Wd} {Q : Int32 → Wd → Prop}
theorem x_byteOf {a b c d e : Int32} {k : Int} (k0 : 0 ≤ k) (k1 : k < 20) (q : Q (byN (wdO a b c d e) k.toNat) w) : wp_X1_byteOf a b c d e (iz k) w Q := by
  unfold wp_X1_byteOf
  have ek : ((k.toNat : Nat) : Int) = k := Int.toNat_of_nonneg k0
  unfold byN wdO at q
  rw [ek] at q
  have go : ∀ t : Int32, t = (if k.toNat < 4 then a else if k.toNat < 8 then b else if k.toNat < 12 then c else if k.toNat < 16 then d else e) → b_X1_byteOf_45 Q (iz k) t w := by
    intro t ht
    unfold b_X1_byteOf_45
    rw [iz_rem k0 (by omega) (by decide) (by decide), iz_mul, iz_sub, ht]
    exact q
  refine br (iz_le (by decide) (by decide) (by omega) (by omega)) (fun e1 => br (iz_le (by decide) (by decide) (by omega) (by omega)) (fun e2 => br (iz_le (by decide) (by decide) (by omega) (by omega)) (fun e3 => br (iz_le (by decide) (by decide) (by omega) (by omega)) (fun e4 => go _ ?_) (fun e4 => go _ ?_)) (fun e3 => go _ ?_)) (fun e2 => go _ ?_)) (fun e1 => go _ ?_)
  · rw [if_neg (by omega), if_neg (by omega), if_neg (by omega), if_neg (by omega)]
  · rw [if_neg (by omega), if_neg (by omega), if_neg (by omega), if_pos (by omega)]
  · rw [if_neg (by omega), if_neg (by omega), if_pos (by omega)]
  · rw [if_neg (by omega), if_pos (by omega)]
  · rw [if_pos (by omega)]
theorem x_feed {tp : Tp} (T : TpX tp w) (o : TpOK tp) (a b c d e : Int32) (f : tp.1 + cnB (byN (wdO a b c d e)) 20 ≤ 240 → ∀ g, (∀ i, 0 ≤ i → i < (apT tp (byN (wdO a b c d e)) 20).1 → g i = iz ((apT tp (byN (wdO a b c d e)) 20).2 i)) → Q (iz (apT tp (byN (wdO a b c d e)) 20).1) (sI (sB w 11 g) 12 (iz (apT tp (byN (wdO a b c d e)) 20).1))) (g : ¬ tp.1 + cnB (byN (wdO a b c d e)) 20 ≤ 240 → Q (iz (-1)) w) : wp_X1_feed a b c d e w Q := by
  unfold wp_X1_feed
  have o1 := o.1; have o2 := o.2.1
  generalize hB : byN (wdO a b c d e) = B at f g
  refine lpe (fun n (s : Int32 × Int32 × Wd) => lp_X1_feed_6 Q a b c d e n s.1 s.2.1 s.2.2) (fun R s => wl_X1_feed_6 Q a b c d e (fun x y z => R (x, y, z)) s.1 s.2.1 s.2.2) (fun _ _ h => h) (fun k s => 0 ≤ k ∧ s = (iz (cnB B k), iz k, w)) 20 0 (iz 0, iz 0, w) (by decide) ⟨by decide, rfl⟩ ?_
  rintro R _ k hk ⟨hk0, rfl⟩ kk
  have cb := cnB_bd B hk0
  refine br (iz_le (by decide) (by decide) (by omega) (by omega)) (fun e1 => ?_) (fun e1 => ?_)
  · obtain rfl : k = 20 := by omega
    rw [T.1, iz_add]
    refine br (iz_le (by omega) (by omega) (by decide) (by decide)) (fun e2 => ?_) (fun e2 => g e2)
    have f := f e2
    refine lpe (fun n (s : Int32 × Wd) => lp_X1_feed_55 Q a b c d e n s.1 s.2) (fun R s => wl_X1_feed_55 Q a b c d e (fun x y => R (x, y)) s.1 s.2) (fun _ _ h => h) (fun k s => 0 ≤ k ∧ ∃ g, s = (iz k, sI (sB w 11 g) 12 (iz (apT tp B k.toNat).1)) ∧ (∀ i, 0 ≤ i → i < (apT tp B k.toNat).1 → g i = iz ((apT tp B k.toNat).2 i))) 20 0 (iz 0, w) (by decide) ⟨by decide, gA w 11, ?_, T.2⟩ ?_
    · show (iz 0, w) = (iz 0, sI (sB w 11 (gA w 11)) 12 (iz tp.1))
      rw [sB_self, ← T.1, sI_self]
    rintro R2 _ k hk ⟨hk0, g, rfl, hg⟩ k2
    have e12 : gI (sI (sB w 11 g) 12 (iz (apT tp B k.toNat).1)) 12 = iz (apT tp B k.toNat).1 := by rw [gI_sI, if_pos rfl]
    refine br (iz_le (by decide) (by decide) (by omega) (by omega)) (fun e3 => ?_) (fun e3 => ?_)
    · obtain rfl : k = 20 := by omega
      rw [e12]
      exact f g hg
    · have k2 := k2 (by omega)
      have ek : (k + 1).toNat = k.toNat + 1 := by omega
      have en : ((k.toNat : Nat) : Int) = k := Int.toNat_of_nonneg hk0
      have L := apT_len tp B k.toNat
      rw [en] at L
      have cb := cnB_bd B hk0
      have mono : cnB B k + (if B k.toNat = iz 0 then 0 else 1) ≤ cnB B 20 := by
        rw [← cnB_s B hk0]
        have h1 := cnB_add B (k + 1).toNat (20 - (k + 1).toNat)
        rw [show ((k + 1).toNat + (20 - (k + 1).toNat) : Nat) = 20 by omega, Int.toNat_of_nonneg (by omega)] at h1
        have h2 := cnB_bd (fun j => B ((k + 1).toNat + j)) (i := ((20 - (k + 1).toNat : Nat) : Int)) (by omega)
        have h3 : cnB B ((20 : Nat) : Int) = cnB B 20 := rfl
        omega
      refine x_byteOf hk0 (by omega) ?_
      rw [hB, iz_add]
      rw [ek, apT] at k2
      refine ⟨fun e4 => ?_, fun e4 => ?_⟩
      · rw [if_pos e4] at k2
        exact k2 _ ⟨by omega, g, rfl, hg⟩
      · rw [if_neg e4] at k2 mono
        rintro w3 rfl
        rw [e12, iz_add]
        refine ⟨iz_inb (by omega) (by omega) (by omega), ?_⟩
        rintro w4 rfl
        have est : (B k.toNat).toInt8.toInt32.toInt8.toInt32 = iz (bval (B k.toNat)) := by
          rw [← hB]
          exact (storedB _ _).1
        rw [iz_toInt (by omega) (by omega), sI_sI, est]
        obtain ⟨g3, e5, p3, q3⟩ := sA_ex2 w 11 g (apT tp B k.toNat).1 (iz (bval (B k.toNat)))
        have e6 : sA (sI (sB w 11 g) 12 (iz ((apT tp B k.toNat).1 + 1))) 11 (apT tp B k.toNat).1 (iz (bval (B k.toNat))) = sI (sB w 11 g3) 12 (iz ((apT tp B k.toNat).1 + 1)) := by
          rw [← e5]
          rfl
        rw [e6]
        refine k2 _ ⟨by omega, g3, rfl, fun i i1 i2 => ?_⟩
        have i2 : i < (apT tp B k.toNat).1 + 1 := i2
        show g3 i = iz (ups _ _ _ i)
        by_cases e7 : i = (apT tp B k.toNat).1
        · rw [e7, p3, ups_p]
        · rw [ups_n _ _ e7, q3 _ e7]
          exact hg i i1 (by omega)
  · have kk := kk (by omega)
    refine x_byteOf hk0 (by omega) ?_
    rw [cnB_s B hk0] at kk
    rw [hB, iz_add, iz_add]
    refine ⟨fun e4 => ?_, fun e4 => ?_⟩
    · rw [if_pos e4, Int.add_zero] at kk
      exact kk _ ⟨by omega, rfl⟩
    · rw [if_neg e4] at kk
      exact kk _ ⟨by omega, rfl⟩
def byW (v : Int32) (j : Nat) : Int32 := byO v (24 - 8 * (j : Int))
theorem m_bytesIn {v : Int32} (q : Q (iz (cnB (byW v) 4)) w) : wp_X3_bytesIn v w Q := by
  unfold wp_X3_bytesIn
  refine lpe (fun n (s : Int32 × Int32 × Wd) => lp_X3_bytesIn_5 Q v n s.1 s.2.1 s.2.2) (fun R s => wl_X3_bytesIn_5 Q v (fun x y z => R (x, y, z)) s.1 s.2.1 s.2.2) (fun _ _ h => h) (fun k s => 0 ≤ k ∧ s = (iz (cnB (byW v) k), iz (24 - 8 * k), w)) 4 0 (iz 0, iz 24, w) (by decide) ⟨by decide, rfl⟩ ?_
  rintro R _ k hk ⟨hk0, rfl⟩ kk
  refine br (iz_lt (by omega) (by omega) (by decide) (by decide)) (fun e1 => ?_) (fun e1 => ?_)
  · obtain rfl : k = 4 := by omega
    exact q
  · have kk := kk (by omega)
    rw [cnB_s _ hk0] at kk
    have eB : ((v >>> (iz (24 - 8 * k) &&& 31)) &&& iz 255) = byW v k.toNat := by
      unfold byW byO
      rw [Int.toNat_of_nonneg hk0]
    rw [iz_add, iz_add, iz_add, show 24 - 8 * k + -8 = 24 - 8 * (k + 1) by omega]
    refine ⟨fun e4 => ?_, fun e4 => ?_⟩
    · have e4 : ((v >>> (iz (24 - 8 * k) &&& 31)) &&& iz 255) = iz 0 := e4
      rw [if_pos (by rw [← eB]; exact e4)] at kk
      exact kk _ ⟨by omega, rfl⟩
    · have e4 : ¬ ((v >>> (iz (24 - 8 * k) &&& 31)) &&& iz 255) = iz 0 := e4
      rw [if_neg (by rw [← eB]; exact e4)] at kk
      exact kk _ ⟨by omega, rfl⟩
theorem m_put {Q : Wd → Prop} {tp : Tp} (T : TpM tp w) (o1 : 0 ≤ tp.1) (v : Int32) (room : tp.1 + cnB (byW v) 4 ≤ 240) (q : ∀ g, TpM (apT tp (byW v) 4) (sI (sB w 61 g) 66 (iz (apT tp (byW v) 4).1)) → Q (sI (sB w 61 g) 66 (iz (apT tp (byW v) 4).1))) : wp_X3_put v w Q := by
  unfold wp_X3_put
  refine lpe (fun n (s : Int32 × Wd) => lp_X3_put_3 Q v n s.1 s.2) (fun R s => wl_X3_put_3 Q v (fun x y => R (x, y)) s.1 s.2) (fun _ _ h => h) (fun k s => 0 ≤ k ∧ ∃ g, s = (iz (24 - 8 * k), sI (sB w 61 g) 66 (iz (apT tp (byW v) k.toNat).1)) ∧ (∀ i, 0 ≤ i → i < (apT tp (byW v) k.toNat).1 → g i = iz ((apT tp (byW v) k.toNat).2 i))) 4 0 (iz 24, w) (by decide) ⟨by decide, gA w 61, ?_, T.2⟩ ?_
  · show (iz 24, w) = (iz (24 - 8 * 0), sI (sB w 61 (gA w 61)) 66 (iz tp.1))
    rw [sB_self, ← T.1, sI_self]
    rfl
  rintro R _ k hk ⟨hk0, g, rfl, hg⟩ kk
  have e66 : gI (sI (sB w 61 g) 66 (iz (apT tp (byW v) k.toNat).1)) 66 = iz (apT tp (byW v) k.toNat).1 := by rw [gI_sI, if_pos rfl]
  refine br (iz_lt (by omega) (by omega) (by decide) (by decide)) (fun e1 => ?_) (fun e1 => ?_)
  · obtain rfl : k = 4 := by omega
    refine q g ⟨by rw [gI_sI, if_pos rfl], fun i i1 i2 => ?_⟩
    rw [gA_sI, gA_r]
    exact hg i i1 i2
  · have kk := kk (by omega)
    have ek : (k + 1).toNat = k.toNat + 1 := by omega
    have en : ((k.toNat : Nat) : Int) = k := Int.toNat_of_nonneg hk0
    have L := apT_len tp (byW v) k.toNat
    rw [en] at L
    have cb := cnB_bd (byW v) hk0
    have mono : cnB (byW v) k + (if byW v k.toNat = iz 0 then 0 else 1) ≤ cnB (byW v) 4 := by
      rw [← cnB_s _ hk0]
      have h1 := cnB_add (byW v) (k + 1).toNat (4 - (k + 1).toNat)
      rw [show ((k + 1).toNat + (4 - (k + 1).toNat) : Nat) = 4 by omega, Int.toNat_of_nonneg (by omega)] at h1
      have h2 := cnB_bd (fun j => byW v ((k + 1).toNat + j)) (i := ((4 - (k + 1).toNat : Nat) : Int)) (by omega)
      have h3 : cnB (byW v) ((4 : Nat) : Int) = cnB (byW v) 4 := rfl
      omega
    have eB : ((v >>> (iz (24 - 8 * k) &&& 31)) &&& iz 255) = byW v k.toNat := by
      unfold byW byO
      rw [en]
    rw [ek, apT] at kk
    have f4 : iz (24 - 8 * k) + iz (-8) = iz (24 - 8 * (k + 1)) := by rw [iz_add, show 24 - 8 * k + -8 = 24 - 8 * (k + 1) by omega]
    refine ⟨fun e4 => ?_, fun e4 => ?_⟩
    · have e4 : ¬ ((v >>> (iz (24 - 8 * k) &&& 31)) &&& iz 255) = iz 0 := e4
      rw [eB] at e4
      rw [if_neg e4] at kk mono
      rw [e66]
      refine ⟨iz_inb (by omega) (by omega) (by omega), ?_⟩
      rintro w3 rfl w4 rfl
      rw [iz_toInt (by omega) (by omega), gI_sA, e66, f4, iz_add]
      have es : (v >>> (iz (24 - 8 * k) &&& 31)).toInt8.toInt32.toInt8.toInt32 = iz (bval (byW v k.toNat)) := by
        rw [(storedB v (24 - 8 * k)).2]
        unfold byW
        rw [en]
      obtain ⟨g3, e5, p3, q3⟩ := sA_ex2 w 61 g (apT tp (byW v) k.toNat).1 (iz (bval (byW v k.toNat)))
      have e6 : sI (sA (sI (sB w 61 g) 66 (iz (apT tp (byW v) k.toNat).1)) 61 (apT tp (byW v) k.toNat).1 (v >>> (iz (24 - 8 * k) &&& 31)).toInt8.toInt32.toInt8.toInt32) 66 (iz ((apT tp (byW v) k.toNat).1 + 1)) = sI (sB w 61 g3) 66 (iz ((apT tp (byW v) k.toNat).1 + 1)) := by
        rw [es]
        have : sA (sI (sB w 61 g) 66 (iz (apT tp (byW v) k.toNat).1)) 61 (apT tp (byW v) k.toNat).1 (iz (bval (byW v k.toNat))) = sI (sA (sB w 61 g) 61 (apT tp (byW v) k.toNat).1 (iz (bval (byW v k.toNat)))) 66 (iz (apT tp (byW v) k.toNat).1) := rfl
        rw [this, sI_sI, e5]
      rw [e6]
      refine kk _ ⟨by omega, g3, rfl, fun i i1 i2 => ?_⟩
      have i2 : i < (apT tp (byW v) k.toNat).1 + 1 := i2
      show g3 i = iz (ups _ _ _ i)
      by_cases e7 : i = (apT tp (byW v) k.toNat).1
      · rw [e7, p3, ups_p]
      · rw [ups_n _ _ e7, q3 _ e7]
        exact hg i i1 (by omega)
    · have e4 : ((v >>> (iz (24 - 8 * k) &&& 31)) &&& iz 255) = iz 0 := e4
      rw [eB] at e4
      rw [if_pos e4] at kk
      rw [f4]
      exact kk _ ⟨by omega, g, rfl, hg⟩
end FE
