set_option maxRecDepth 100000
def iz (n : Int) : Int32 := Int32.ofInt n
def lz (n : Int) : Int64 := Int64.ofInt n
def rv : Option Nat → Value
  | none => .null
  | some i => .ref i
def inb (i : Int32) (n : Nat) : Prop := 0 ≤ i.toInt ∧ i.toInt < n
theorem inb_vp {i : Int32} {n : Nat} (h : inb i n) : vp_in i n := vp_in_iff.mpr h
section RULES
variable {γ : GG} {d : Nat} {μ : MK} {pc : Nat} {ls : List (Option Value)} {st : List Value} {w : Wd} {Q : Option Value → Wd → Prop} {X : String → Wd → Prop}
theorem R.iconst {n : Int} (q : Nat) (hd : decode (kc μ) pc = .ok (.iconst n, 1)) (hq : pc + 1 = q) (k : Rch γ d μ q ls (.int (iz n) :: st) w Q X) : Rch γ d μ pc ls (st) w Q X := by
  subst hq
  intro p e R s m args below meth c QM hC hE H locs lsA hD hl
  exact lv_iconst hC.1 hC.2.1 hd rfl (k p e R s m args below meth c QM hC hE H locs lsA hD hl)
theorem R.bipush {n : Int} (q : Nat) (hd : decode (kc μ) pc = .ok (.bipush n, 2)) (hq : pc + 2 = q) (hv : (Int8.ofInt n).toInt32 = iz n) (k : Rch γ d μ q ls (.int (iz n) :: st) w Q X) : Rch γ d μ pc ls (st) w Q X := by
  subst hq
  intro p e R s m args below meth c QM hC hE H locs lsA hD hl
  exact lv_bipush hC.1 hC.2.1 hd hv (k p e R s m args below meth c QM hC hE H locs lsA hD hl)
theorem R.sipush {n : Int} (q : Nat) (hd : decode (kc μ) pc = .ok (.sipush n, 3)) (hq : pc + 3 = q) (hv : (Int16.ofInt n).toInt32 = iz n) (k : Rch γ d μ q ls (.int (iz n) :: st) w Q X) : Rch γ d μ pc ls (st) w Q X := by
  subst hq
  intro p e R s m args below meth c QM hC hE H locs lsA hD hl
  exact lv_sipush hC.1 hC.2.1 hd hv (k p e R s m args below meth c QM hC hE H locs lsA hD hl)
theorem R.lconst {n : Fin 2} {m0 : Int} (q : Nat) (hd : decode (kc μ) pc = .ok (.lconst n, 1)) (hq : pc + 1 = q) (hv : Int64.ofNat (n : Nat) = lz m0) (k : Rch γ d μ q ls (.long (lz m0) :: st) w Q X) : Rch γ d μ pc ls (st) w Q X := by
  subst hq
  intro p e R s m args below meth c QM hC hE H locs lsA hD hl
  exact lv_lconst hC.1 hC.2.1 hd hv (k p e R s m args below meth c QM hC hE H locs lsA hD hl)
theorem R.null (q : Nat) (hd : decode (kc μ) pc = .ok (.aconst_null, 1)) (hq : pc + 1 = q) (k : Rch γ d μ q ls (.null :: st) w Q X) : Rch γ d μ pc ls (st) w Q X := by
  subst hq
  intro p e R s m args below meth c QM hC hE H locs lsA hD hl
  exact lv_null hC.1 hC.2.1 hd (k p e R s m args below meth c QM hC hE H locs lsA hD hl)
theorem R.ldc {v : Int32} {n : Int} {idx : Nat} (q : Nat) (hd : decode (kc μ) pc = .ok (.ldc idx, 2)) (hq : pc + 2 = q) (hw : Cond.constant (kown μ) idx v ∈ lw_all) (hv : v = iz n) (k : Rch γ d μ q ls (.int (iz n) :: st) w Q X) : Rch γ d μ pc ls (st) w Q X := by
  subst hq
  intro p e R s m args below meth c QM hC hE H locs lsA hD hl
  exact lv_ldc hC.1 hC.2.1 hC.2.2.2.2.2.1 (hv ▸ hC.2.2.2.2.2.2.1 _ hw) hd (k p e R s m args below meth c QM hC hE H locs lsA hD hl)
theorem R.ldcw {v : Int32} {n : Int} {idx : Nat} (q : Nat) (hd : decode (kc μ) pc = .ok (.ldc_w idx, 3)) (hq : pc + 3 = q) (hw : Cond.constant (kown μ) idx v ∈ lw_all) (hv : v = iz n) (k : Rch γ d μ q ls (.int (iz n) :: st) w Q X) : Rch γ d μ pc ls (st) w Q X := by
  subst hq
  intro p e R s m args below meth c QM hC hE H locs lsA hD hl
  exact lv_ldcw hC.1 hC.2.1 hC.2.2.2.2.2.1 (hv ▸ hC.2.2.2.2.2.2.1 _ hw) hd (k p e R s m args below meth c QM hC hE H locs lsA hD hl)
theorem R.ldc2 {v : Int64} {n : Int} {idx : Nat} (q : Nat) (hd : decode (kc μ) pc = .ok (.ldc2_w idx, 3)) (hq : pc + 3 = q) (hw : Cond.constantLong (kown μ) idx v ∈ lw_all) (hv : v = lz n) (k : Rch γ d μ q ls (.long (lz n) :: st) w Q X) : Rch γ d μ pc ls (st) w Q X := by
  subst hq
  intro p e R s m args below meth c QM hC hE H locs lsA hD hl
  exact lv_ldc2 hC.1 hC.2.1 hC.2.2.2.2.2.1 (hv ▸ hC.2.2.2.2.2.2.1 _ hw) hd (k p e R s m args below meth c QM hC hE H locs lsA hD hl)
theorem R.iload_n {k0 : Fin 4} {x : Int32} (q : Nat) (hd : decode (kc μ) pc = .ok (.iload_n k0, 1)) (hq : pc + 1 = q) (hk : ls[(k0 : Nat)]? = some (some (.int x))) (k : Rch γ d μ q ls (.int x :: st) w Q X) : Rch γ d μ pc ls (st) w Q X := by
  subst hq
  intro p e R s m args below meth c QM hC hE H locs lsA hD hl
  exact lv_iload_n (k := k0) hC.1 hC.2.1 hd rfl (lk_get hl hk) (k p e R s m args below meth c QM hC hE H locs lsA hD hl)
theorem R.lload_n {k0 : Fin 4} {x : Int64} (q : Nat) (hd : decode (kc μ) pc = .ok (.lload_n k0, 1)) (hq : pc + 1 = q) (hk : ls[(k0 : Nat)]? = some (some (.long x))) (k : Rch γ d μ q ls (.long x :: st) w Q X) : Rch γ d μ pc ls (st) w Q X := by
  subst hq
  intro p e R s m args below meth c QM hC hE H locs lsA hD hl
  exact lv_lload_n (k := k0) hC.1 hC.2.1 hd rfl (lk_get hl hk) (k p e R s m args below meth c QM hC hE H locs lsA hD hl)
theorem R.aload_n {k0 : Fin 4} {x : Nat} (q : Nat) (hd : decode (kc μ) pc = .ok (.aload_n k0, 1)) (hq : pc + 1 = q) (hk : ls[(k0 : Nat)]? = some (some (.ref x))) (k : Rch γ d μ q ls (.ref x :: st) w Q X) : Rch γ d μ pc ls (st) w Q X := by
  subst hq
  intro p e R s m args below meth c QM hC hE H locs lsA hD hl
  exact lv_aload_n (k := k0) hC.1 hC.2.1 hd rfl (lk_get hl hk) (k p e R s m args below meth c QM hC hE H locs lsA hD hl)
theorem R.iload {i0 : Nat} {x : Int32} (q : Nat) (hd : decode (kc μ) pc = .ok (.iload i0, 2)) (hq : pc + 2 = q) (hk : ls[i0]? = some (some (.int x))) (k : Rch γ d μ q ls (.int x :: st) w Q X) : Rch γ d μ pc ls (st) w Q X := by
  subst hq
  intro p e R s m args below meth c QM hC hE H locs lsA hD hl
  exact lv_iload hC.1 hC.2.1 hd (lk_get hl hk) (k p e R s m args below meth c QM hC hE H locs lsA hD hl)
theorem R.lload {i0 : Nat} {x : Int64} (q : Nat) (hd : decode (kc μ) pc = .ok (.lload i0, 2)) (hq : pc + 2 = q) (hk : ls[i0]? = some (some (.long x))) (k : Rch γ d μ q ls (.long x :: st) w Q X) : Rch γ d μ pc ls (st) w Q X := by
  subst hq
  intro p e R s m args below meth c QM hC hE H locs lsA hD hl
  exact lv_lload hC.1 hC.2.1 hd (lk_get hl hk) (k p e R s m args below meth c QM hC hE H locs lsA hD hl)
theorem R.aload {i0 : Nat} {x : Nat} (q : Nat) (hd : decode (kc μ) pc = .ok (.aload i0, 2)) (hq : pc + 2 = q) (hk : ls[i0]? = some (some (.ref x))) (k : Rch γ d μ q ls (.ref x :: st) w Q X) : Rch γ d μ pc ls (st) w Q X := by
  subst hq
  intro p e R s m args below meth c QM hC hE H locs lsA hD hl
  exact lv_aload hC.1 hC.2.1 hd (lk_get hl hk) (k p e R s m args below meth c QM hC hE H locs lsA hD hl)
theorem R.aload_nQ {k0 : Fin 4} {x : Option Nat} (q : Nat) (hd : decode (kc μ) pc = .ok (.aload_n k0, 1)) (hq : pc + 1 = q) (hk : ls[(k0 : Nat)]? = some (some (rv x))) (k : Rch γ d μ q ls (rv x :: st) w Q X) : Rch γ d μ pc ls (st) w Q X := by
  cases x with
  | some i => exact R.aload_n q hd hq hk k
  | none =>
    subst hq
    intro p e R s m args below meth c QM hC hE H locs lsA hD hl
    exact lv_aload_nN (k := k0) hC.1 hC.2.1 hd rfl (lk_get hl hk) (k p e R s m args below meth c QM hC hE H locs lsA hD hl)
theorem R.aloadQ {i0 : Nat} {x : Option Nat} (q : Nat) (hd : decode (kc μ) pc = .ok (.aload i0, 2)) (hq : pc + 2 = q) (hk : ls[i0]? = some (some (rv x))) (k : Rch γ d μ q ls (rv x :: st) w Q X) : Rch γ d μ pc ls (st) w Q X := by
  cases x with
  | some i => exact R.aload q hd hq hk k
  | none =>
    subst hq
    intro p e R s m args below meth c QM hC hE H locs lsA hD hl
    exact lv_aloadN hC.1 hC.2.1 hd (lk_get hl hk) (k p e R s m args below meth c QM hC hE H locs lsA hD hl)
theorem R.iadd {x y : Int32} (q : Nat) (hd : decode (kc μ) pc = .ok (.iadd, 1)) (hq : pc + 1 = q) (k : Rch γ d μ q ls (.int (x + y) :: st) w Q X) : Rch γ d μ pc ls (.int y :: .int x :: st) w Q X := by
  subst hq
  intro p e R s m args below meth c QM hC hE H locs lsA hD hl
  exact lv_iadd hC.1 hC.2.1 hd (k p e R s m args below meth c QM hC hE H locs lsA hD hl)
theorem R.isub {x y : Int32} (q : Nat) (hd : decode (kc μ) pc = .ok (.isub, 1)) (hq : pc + 1 = q) (k : Rch γ d μ q ls (.int (x - y) :: st) w Q X) : Rch γ d μ pc ls (.int y :: .int x :: st) w Q X := by
  subst hq
  intro p e R s m args below meth c QM hC hE H locs lsA hD hl
  exact lv_isub hC.1 hC.2.1 hd (k p e R s m args below meth c QM hC hE H locs lsA hD hl)
theorem R.imul {x y : Int32} (q : Nat) (hd : decode (kc μ) pc = .ok (.imul, 1)) (hq : pc + 1 = q) (k : Rch γ d μ q ls (.int (x * y) :: st) w Q X) : Rch γ d μ pc ls (.int y :: .int x :: st) w Q X := by
  subst hq
  intro p e R s m args below meth c QM hC hE H locs lsA hD hl
  exact lv_imul hC.1 hC.2.1 hd (k p e R s m args below meth c QM hC hE H locs lsA hD hl)
theorem R.iand {x y : Int32} (q : Nat) (hd : decode (kc μ) pc = .ok (.iand, 1)) (hq : pc + 1 = q) (k : Rch γ d μ q ls (.int (x &&& y) :: st) w Q X) : Rch γ d μ pc ls (.int y :: .int x :: st) w Q X := by
  subst hq
  intro p e R s m args below meth c QM hC hE H locs lsA hD hl
  exact lv_iand hC.1 hC.2.1 hd (k p e R s m args below meth c QM hC hE H locs lsA hD hl)
theorem R.ior {x y : Int32} (q : Nat) (hd : decode (kc μ) pc = .ok (.ior, 1)) (hq : pc + 1 = q) (k : Rch γ d μ q ls (.int (x ||| y) :: st) w Q X) : Rch γ d μ pc ls (.int y :: .int x :: st) w Q X := by
  subst hq
  intro p e R s m args below meth c QM hC hE H locs lsA hD hl
  exact lv_ior hC.1 hC.2.1 hd (k p e R s m args below meth c QM hC hE H locs lsA hD hl)
theorem R.ixor {x y : Int32} (q : Nat) (hd : decode (kc μ) pc = .ok (.ixor, 1)) (hq : pc + 1 = q) (k : Rch γ d μ q ls (.int (x ^^^ y) :: st) w Q X) : Rch γ d μ pc ls (.int y :: .int x :: st) w Q X := by
  subst hq
  intro p e R s m args below meth c QM hC hE H locs lsA hD hl
  exact lv_ixor hC.1 hC.2.1 hd (k p e R s m args below meth c QM hC hE H locs lsA hD hl)
theorem R.idiv {x y : Int32} (q : Nat) (hd : decode (kc μ) pc = .ok (.idiv, 1)) (hq : pc + 1 = q) (hz : ¬ y = 0) (k : Rch γ d μ q ls (.int (x / y) :: st) w Q X) : Rch γ d μ pc ls (.int y :: .int x :: st) w Q X := by
  subst hq
  intro p e R s m args below meth c QM hC hE H locs lsA hD hl
  exact lv_idiv hC.1 hC.2.1 hd hz (k p e R s m args below meth c QM hC hE H locs lsA hD hl)
theorem R.irem {x y : Int32} (q : Nat) (hd : decode (kc μ) pc = .ok (.irem, 1)) (hq : pc + 1 = q) (hz : ¬ y = 0) (k : Rch γ d μ q ls (.int (x - x / y * y) :: st) w Q X) : Rch γ d μ pc ls (.int y :: .int x :: st) w Q X := by
  subst hq
  intro p e R s m args below meth c QM hC hE H locs lsA hD hl
  exact lv_irem hC.1 hC.2.1 hd hz (k p e R s m args below meth c QM hC hE H locs lsA hD hl)
theorem R.ishl {x y : Int32} (q : Nat) (hd : decode (kc μ) pc = .ok (.ishl, 1)) (hq : pc + 1 = q) (k : Rch γ d μ q ls (.int (x <<< (y &&& 31)) :: st) w Q X) : Rch γ d μ pc ls (.int y :: .int x :: st) w Q X := by
  subst hq
  intro p e R s m args below meth c QM hC hE H locs lsA hD hl
  exact lv_ishl hC.1 hC.2.1 hd (k p e R s m args below meth c QM hC hE H locs lsA hD hl)
theorem R.ishr {x y : Int32} (q : Nat) (hd : decode (kc μ) pc = .ok (.ishr, 1)) (hq : pc + 1 = q) (k : Rch γ d μ q ls (.int (x >>> (y &&& 31)) :: st) w Q X) : Rch γ d μ pc ls (.int y :: .int x :: st) w Q X := by
  subst hq
  intro p e R s m args below meth c QM hC hE H locs lsA hD hl
  exact lv_ishr hC.1 hC.2.1 hd (k p e R s m args below meth c QM hC hE H locs lsA hD hl)
theorem R.iushr {x y : Int32} (q : Nat) (hd : decode (kc μ) pc = .ok (.iushr, 1)) (hq : pc + 1 = q) (k : Rch γ d μ q ls (.int (x.toUInt32 >>> (y.toUInt32 &&& Int32.toUInt32 31)).toInt32 :: st) w Q X) : Rch γ d μ pc ls (.int y :: .int x :: st) w Q X := by
  subst hq
  intro p e R s m args below meth c QM hC hE H locs lsA hD hl
  exact lv_iushr hC.1 hC.2.1 hd rfl (k p e R s m args below meth c QM hC hE H locs lsA hD hl)
theorem R.ladd {x y : Int64} (q : Nat) (hd : decode (kc μ) pc = .ok (.ladd, 1)) (hq : pc + 1 = q) (k : Rch γ d μ q ls (.long (x + y) :: st) w Q X) : Rch γ d μ pc ls (.long y :: .long x :: st) w Q X := by
  subst hq
  intro p e R s m args below meth c QM hC hE H locs lsA hD hl
  exact lv_ladd hC.1 hC.2.1 hd (k p e R s m args below meth c QM hC hE H locs lsA hD hl)
theorem R.lsub {x y : Int64} (q : Nat) (hd : decode (kc μ) pc = .ok (.lsub, 1)) (hq : pc + 1 = q) (k : Rch γ d μ q ls (.long (x - y) :: st) w Q X) : Rch γ d μ pc ls (.long y :: .long x :: st) w Q X := by
  subst hq
  intro p e R s m args below meth c QM hC hE H locs lsA hD hl
  exact lv_lsub hC.1 hC.2.1 hd (k p e R s m args below meth c QM hC hE H locs lsA hD hl)
theorem R.lmul {x y : Int64} (q : Nat) (hd : decode (kc μ) pc = .ok (.lmul, 1)) (hq : pc + 1 = q) (k : Rch γ d μ q ls (.long (x * y) :: st) w Q X) : Rch γ d μ pc ls (.long y :: .long x :: st) w Q X := by
  subst hq
  intro p e R s m args below meth c QM hC hE H locs lsA hD hl
  exact lv_lmul hC.1 hC.2.1 hd (k p e R s m args below meth c QM hC hE H locs lsA hD hl)
theorem R.land {x y : Int64} (q : Nat) (hd : decode (kc μ) pc = .ok (.land, 1)) (hq : pc + 1 = q) (k : Rch γ d μ q ls (.long (x &&& y) :: st) w Q X) : Rch γ d μ pc ls (.long y :: .long x :: st) w Q X := by
  subst hq
  intro p e R s m args below meth c QM hC hE H locs lsA hD hl
  exact lv_land hC.1 hC.2.1 hd (k p e R s m args below meth c QM hC hE H locs lsA hD hl)
theorem R.lor {x y : Int64} (q : Nat) (hd : decode (kc μ) pc = .ok (.lor, 1)) (hq : pc + 1 = q) (k : Rch γ d μ q ls (.long (x ||| y) :: st) w Q X) : Rch γ d μ pc ls (.long y :: .long x :: st) w Q X := by
  subst hq
  intro p e R s m args below meth c QM hC hE H locs lsA hD hl
  exact lv_lor hC.1 hC.2.1 hd (k p e R s m args below meth c QM hC hE H locs lsA hD hl)
theorem R.ldiv {x y : Int64} (q : Nat) (hd : decode (kc μ) pc = .ok (.ldiv, 1)) (hq : pc + 1 = q) (hz : ¬ y = 0) (k : Rch γ d μ q ls (.long (x / y) :: st) w Q X) : Rch γ d μ pc ls (.long y :: .long x :: st) w Q X := by
  subst hq
  intro p e R s m args below meth c QM hC hE H locs lsA hD hl
  exact lv_ldiv hC.1 hC.2.1 hd hz (k p e R s m args below meth c QM hC hE H locs lsA hD hl)
theorem R.lrem {x y : Int64} (q : Nat) (hd : decode (kc μ) pc = .ok (.lrem, 1)) (hq : pc + 1 = q) (hz : ¬ y = 0) (k : Rch γ d μ q ls (.long (x - x / y * y) :: st) w Q X) : Rch γ d μ pc ls (.long y :: .long x :: st) w Q X := by
  subst hq
  intro p e R s m args below meth c QM hC hE H locs lsA hD hl
  exact lv_lrem hC.1 hC.2.1 hd hz (k p e R s m args below meth c QM hC hE H locs lsA hD hl)
theorem R.lshl {x : Int64} {y : Int32} (q : Nat) (hd : decode (kc μ) pc = .ok (.lshl, 1)) (hq : pc + 1 = q) (k : Rch γ d μ q ls (.long (x <<< (y.toInt64 &&& 63)) :: st) w Q X) : Rch γ d μ pc ls (.int y :: .long x :: st) w Q X := by
  subst hq
  intro p e R s m args below meth c QM hC hE H locs lsA hD hl
  exact lv_lshl hC.1 hC.2.1 hd rfl (k p e R s m args below meth c QM hC hE H locs lsA hD hl)
theorem R.lushr {x : Int64} {y : Int32} (q : Nat) (hd : decode (kc μ) pc = .ok (.lushr, 1)) (hq : pc + 1 = q) (k : Rch γ d μ q ls (.long (x.toUInt64 >>> (y.toInt64.toUInt64 &&& Int64.toUInt64 63)).toInt64 :: st) w Q X) : Rch γ d μ pc ls (.int y :: .long x :: st) w Q X := by
  subst hq
  intro p e R s m args below meth c QM hC hE H locs lsA hD hl
  exact lv_lushr hC.1 hC.2.1 hd rfl (k p e R s m args below meth c QM hC hE H locs lsA hD hl)
theorem R.i2l {x : Int32} (q : Nat) (hd : decode (kc μ) pc = .ok (.i2l, 1)) (hq : pc + 1 = q) (k : Rch γ d μ q ls (.long x.toInt64 :: st) w Q X) : Rch γ d μ pc ls (.int x :: st) w Q X := by
  subst hq
  intro p e R s m args below meth c QM hC hE H locs lsA hD hl
  exact lv_i2l hC.1 hC.2.1 hd rfl (k p e R s m args below meth c QM hC hE H locs lsA hD hl)
theorem R.l2i {x : Int64} (q : Nat) (hd : decode (kc μ) pc = .ok (.l2i, 1)) (hq : pc + 1 = q) (k : Rch γ d μ q ls (.int x.toInt32 :: st) w Q X) : Rch γ d μ pc ls (.long x :: st) w Q X := by
  subst hq
  intro p e R s m args below meth c QM hC hE H locs lsA hD hl
  exact lv_l2i hC.1 hC.2.1 hd rfl (k p e R s m args below meth c QM hC hE H locs lsA hD hl)
theorem R.i2b {x : Int32} (q : Nat) (hd : decode (kc μ) pc = .ok (.i2b, 1)) (hq : pc + 1 = q) (k : Rch γ d μ q ls (.int x.toInt8.toInt32 :: st) w Q X) : Rch γ d μ pc ls (.int x :: st) w Q X := by
  subst hq
  intro p e R s m args below meth c QM hC hE H locs lsA hD hl
  exact lv_i2b hC.1 hC.2.1 hd rfl (k p e R s m args below meth c QM hC hE H locs lsA hD hl)
theorem R.i2c {x : Int32} (q : Nat) (hd : decode (kc μ) pc = .ok (.i2c, 1)) (hq : pc + 1 = q) (k : Rch γ d μ q ls (.int (x.toUInt32 % 65536).toInt32 :: st) w Q X) : Rch γ d μ pc ls (.int x :: st) w Q X := by
  subst hq
  intro p e R s m args below meth c QM hC hE H locs lsA hD hl
  exact lv_i2c hC.1 hC.2.1 hd rfl (k p e R s m args below meth c QM hC hE H locs lsA hD hl)
theorem R.lcmp {x y : Int64} (q : Nat) (hd : decode (kc μ) pc = .ok (.lcmp, 1)) (hq : pc + 1 = q) (k : Rch γ d μ q ls (.int (lg_cmp x y) :: st) w Q X) : Rch γ d μ pc ls (.long y :: .long x :: st) w Q X := by
  subst hq
  intro p e R s m args below meth c QM hC hE H locs lsA hD hl
  exact W.lcmp hC.1 hC.2.1 hd (k p e R s m args below meth c QM hC hE H locs lsA hD hl)
theorem R.dup {x : Int32} (q : Nat) (hd : decode (kc μ) pc = .ok (.dup, 1)) (hq : pc + 1 = q) (k : Rch γ d μ q ls (.int x :: .int x :: st) w Q X) : Rch γ d μ pc ls (.int x :: st) w Q X := by
  subst hq
  intro p e R s m args below meth c QM hC hE H locs lsA hD hl
  exact lv_dup hC.1 hC.2.1 hd rfl (k p e R s m args below meth c QM hC hE H locs lsA hD hl)
theorem R.pop {x : Int32} (q : Nat) (hd : decode (kc μ) pc = .ok (.pop, 1)) (hq : pc + 1 = q) (k : Rch γ d μ q ls (st) w Q X) : Rch γ d μ pc ls (.int x :: st) w Q X := by
  subst hq
  intro p e R s m args below meth c QM hC hE H locs lsA hD hl
  exact lv_pop hC.1 hC.2.1 hd rfl (k p e R s m args below meth c QM hC hE H locs lsA hD hl)
theorem R.dupR {x : Nat} (q : Nat) (hd : decode (kc μ) pc = .ok (.dup, 1)) (hq : pc + 1 = q) (k : Rch γ d μ q ls (.ref x :: .ref x :: st) w Q X) : Rch γ d μ pc ls (.ref x :: st) w Q X := by
  subst hq
  intro p e R s m args below meth c QM hC hE H locs lsA hD hl
  exact lv_dup hC.1 hC.2.1 hd rfl (k p e R s m args below meth c QM hC hE H locs lsA hD hl)
theorem R.popR {x : Nat} (q : Nat) (hd : decode (kc μ) pc = .ok (.pop, 1)) (hq : pc + 1 = q) (k : Rch γ d μ q ls (st) w Q X) : Rch γ d μ pc ls (.ref x :: st) w Q X := by
  subst hq
  intro p e R s m args below meth c QM hC hE H locs lsA hD hl
  exact lv_pop hC.1 hC.2.1 hd rfl (k p e R s m args below meth c QM hC hE H locs lsA hD hl)
theorem rv_cat (γ : GG) (x : Option Nat) : (cv γ (rv x)).category = 1 := by cases x <;> rfl
theorem R.popQ {x : Option Nat} (q : Nat) (hd : decode (kc μ) pc = .ok (.pop, 1)) (hq : pc + 1 = q) (k : Rch γ d μ q ls (st) w Q X) : Rch γ d μ pc ls (rv x :: st) w Q X := by
  subst hq
  intro p e R s m args below meth c QM hC hE H locs lsA hD hl
  exact lv_pop hC.1 hC.2.1 hd (rv_cat γ x) (k p e R s m args below meth c QM hC hE H locs lsA hD hl)
theorem R.dup2 {x : Int32} {y : Nat} (q : Nat) (hd : decode (kc μ) pc = .ok (.dup2, 1)) (hq : pc + 1 = q) (k : Rch γ d μ q ls (.int x :: .ref y :: .int x :: .ref y :: st) w Q X) : Rch γ d μ pc ls (.int x :: .ref y :: st) w Q X := by
  subst hq
  intro p e R s m args below meth c QM hC hE H locs lsA hD hl
  exact lv_dup2_11 hC.1 hC.2.1 hd rfl rfl (k p e R s m args below meth c QM hC hE H locs lsA hD hl)
theorem R.dup_x1 {x : Int32} {y : Nat} (q : Nat) (hd : decode (kc μ) pc = .ok (.dup_x1, 1)) (hq : pc + 1 = q) (k : Rch γ d μ q ls (.int x :: .ref y :: .int x :: st) w Q X) : Rch γ d μ pc ls (.int x :: .ref y :: st) w Q X := by
  subst hq
  intro p e R s m args below meth c QM hC hE H locs lsA hD hl
  exact lv_dup_x1 hC.1 hC.2.1 hd rfl rfl (k p e R s m args below meth c QM hC hE H locs lsA hD hl)
theorem R.goto {off : Int} (q : Nat) (hd : decode (kc μ) pc = .ok (.goto off, 3)) (hq : (pc : Int) + off = (q : Int)) (k : Rch γ d μ q ls st w Q X) : Rch γ d μ pc ls st w Q X := by
  intro p e R s m args below meth c QM hC hE H locs lsA hD hl
  exact lv_goto hC.1 hC.2.1 hd hq (k p e R s m args below meth c QM hC hE H locs lsA hD hl)
theorem R.if_eq {x : Int32} {off : Int} (t q : Nat) (hd : decode (kc μ) pc = .ok (.ifCond .eq off, 3)) (ht : (pc : Int) + off = (t : Int)) (hq : pc + 3 = q) (kt : x = iz 0 → Rch γ d μ t ls st w Q X) (kf : ¬ x = iz 0 → Rch γ d μ q ls st w Q X) : Rch γ d μ pc ls (.int x :: st) w Q X := by
  subst hq
  intro p e R s m args below meth c QM hC hE H locs lsA hD hl
  exact lv_if_eq hC.1 hC.2.1 hd ht (fun h => kt h p e R s m args below meth c QM hC hE H locs lsA hD hl) (fun h => kf h p e R s m args below meth c QM hC hE H locs lsA hD hl)
theorem R.icmp_eq {x y : Int32} {off : Int} (t q : Nat) (hd : decode (kc μ) pc = .ok (.if_icmp .eq off, 3)) (ht : (pc : Int) + off = (t : Int)) (hq : pc + 3 = q) (kt : x = y → Rch γ d μ t ls st w Q X) (kf : ¬ x = y → Rch γ d μ q ls st w Q X) : Rch γ d μ pc ls (.int y :: .int x :: st) w Q X := by
  subst hq
  intro p e R s m args below meth c QM hC hE H locs lsA hD hl
  exact lv_icmp_eq hC.1 hC.2.1 hd ht (fun h => kt h p e R s m args below meth c QM hC hE H locs lsA hD hl) (fun h => kf h p e R s m args below meth c QM hC hE H locs lsA hD hl)
theorem R.if_ne {x : Int32} {off : Int} (t q : Nat) (hd : decode (kc μ) pc = .ok (.ifCond .ne off, 3)) (ht : (pc : Int) + off = (t : Int)) (hq : pc + 3 = q) (kt : ¬ x = iz 0 → Rch γ d μ t ls st w Q X) (kf : x = iz 0 → Rch γ d μ q ls st w Q X) : Rch γ d μ pc ls (.int x :: st) w Q X := by
  subst hq
  intro p e R s m args below meth c QM hC hE H locs lsA hD hl
  exact lv_if_ne hC.1 hC.2.1 hd ht (fun h => kt h p e R s m args below meth c QM hC hE H locs lsA hD hl) (fun h => kf h p e R s m args below meth c QM hC hE H locs lsA hD hl)
theorem R.icmp_ne {x y : Int32} {off : Int} (t q : Nat) (hd : decode (kc μ) pc = .ok (.if_icmp .ne off, 3)) (ht : (pc : Int) + off = (t : Int)) (hq : pc + 3 = q) (kt : ¬ x = y → Rch γ d μ t ls st w Q X) (kf : x = y → Rch γ d μ q ls st w Q X) : Rch γ d μ pc ls (.int y :: .int x :: st) w Q X := by
  subst hq
  intro p e R s m args below meth c QM hC hE H locs lsA hD hl
  exact lv_icmp_ne hC.1 hC.2.1 hd ht (fun h => kt h p e R s m args below meth c QM hC hE H locs lsA hD hl) (fun h => kf h p e R s m args below meth c QM hC hE H locs lsA hD hl)
theorem R.if_lt {x : Int32} {off : Int} (t q : Nat) (hd : decode (kc μ) pc = .ok (.ifCond .lt off, 3)) (ht : (pc : Int) + off = (t : Int)) (hq : pc + 3 = q) (kt : x < iz 0 → Rch γ d μ t ls st w Q X) (kf : ¬ x < iz 0 → Rch γ d μ q ls st w Q X) : Rch γ d μ pc ls (.int x :: st) w Q X := by
  subst hq
  intro p e R s m args below meth c QM hC hE H locs lsA hD hl
  exact lv_if_lt hC.1 hC.2.1 hd ht (fun h => kt h p e R s m args below meth c QM hC hE H locs lsA hD hl) (fun h => kf h p e R s m args below meth c QM hC hE H locs lsA hD hl)
theorem R.icmp_lt {x y : Int32} {off : Int} (t q : Nat) (hd : decode (kc μ) pc = .ok (.if_icmp .lt off, 3)) (ht : (pc : Int) + off = (t : Int)) (hq : pc + 3 = q) (kt : x < y → Rch γ d μ t ls st w Q X) (kf : ¬ x < y → Rch γ d μ q ls st w Q X) : Rch γ d μ pc ls (.int y :: .int x :: st) w Q X := by
  subst hq
  intro p e R s m args below meth c QM hC hE H locs lsA hD hl
  exact lv_icmp_lt hC.1 hC.2.1 hd ht (fun h => kt h p e R s m args below meth c QM hC hE H locs lsA hD hl) (fun h => kf h p e R s m args below meth c QM hC hE H locs lsA hD hl)
theorem R.if_ge {x : Int32} {off : Int} (t q : Nat) (hd : decode (kc μ) pc = .ok (.ifCond .ge off, 3)) (ht : (pc : Int) + off = (t : Int)) (hq : pc + 3 = q) (kt : iz 0 ≤ x → Rch γ d μ t ls st w Q X) (kf : ¬ iz 0 ≤ x → Rch γ d μ q ls st w Q X) : Rch γ d μ pc ls (.int x :: st) w Q X := by
  subst hq
  intro p e R s m args below meth c QM hC hE H locs lsA hD hl
  exact lv_if_ge hC.1 hC.2.1 hd ht (fun h => kt h p e R s m args below meth c QM hC hE H locs lsA hD hl) (fun h => kf h p e R s m args below meth c QM hC hE H locs lsA hD hl)
theorem R.icmp_ge {x y : Int32} {off : Int} (t q : Nat) (hd : decode (kc μ) pc = .ok (.if_icmp .ge off, 3)) (ht : (pc : Int) + off = (t : Int)) (hq : pc + 3 = q) (kt : y ≤ x → Rch γ d μ t ls st w Q X) (kf : ¬ y ≤ x → Rch γ d μ q ls st w Q X) : Rch γ d μ pc ls (.int y :: .int x :: st) w Q X := by
  subst hq
  intro p e R s m args below meth c QM hC hE H locs lsA hD hl
  exact lv_icmp_ge hC.1 hC.2.1 hd ht (fun h => kt h p e R s m args below meth c QM hC hE H locs lsA hD hl) (fun h => kf h p e R s m args below meth c QM hC hE H locs lsA hD hl)
theorem R.if_gt {x : Int32} {off : Int} (t q : Nat) (hd : decode (kc μ) pc = .ok (.ifCond .gt off, 3)) (ht : (pc : Int) + off = (t : Int)) (hq : pc + 3 = q) (kt : iz 0 < x → Rch γ d μ t ls st w Q X) (kf : ¬ iz 0 < x → Rch γ d μ q ls st w Q X) : Rch γ d μ pc ls (.int x :: st) w Q X := by
  subst hq
  intro p e R s m args below meth c QM hC hE H locs lsA hD hl
  exact lv_if_gt hC.1 hC.2.1 hd ht (fun h => kt h p e R s m args below meth c QM hC hE H locs lsA hD hl) (fun h => kf h p e R s m args below meth c QM hC hE H locs lsA hD hl)
theorem R.icmp_gt {x y : Int32} {off : Int} (t q : Nat) (hd : decode (kc μ) pc = .ok (.if_icmp .gt off, 3)) (ht : (pc : Int) + off = (t : Int)) (hq : pc + 3 = q) (kt : y < x → Rch γ d μ t ls st w Q X) (kf : ¬ y < x → Rch γ d μ q ls st w Q X) : Rch γ d μ pc ls (.int y :: .int x :: st) w Q X := by
  subst hq
  intro p e R s m args below meth c QM hC hE H locs lsA hD hl
  exact lv_icmp_gt hC.1 hC.2.1 hd ht (fun h => kt h p e R s m args below meth c QM hC hE H locs lsA hD hl) (fun h => kf h p e R s m args below meth c QM hC hE H locs lsA hD hl)
theorem R.if_le {x : Int32} {off : Int} (t q : Nat) (hd : decode (kc μ) pc = .ok (.ifCond .le off, 3)) (ht : (pc : Int) + off = (t : Int)) (hq : pc + 3 = q) (kt : x ≤ iz 0 → Rch γ d μ t ls st w Q X) (kf : ¬ x ≤ iz 0 → Rch γ d μ q ls st w Q X) : Rch γ d μ pc ls (.int x :: st) w Q X := by
  subst hq
  intro p e R s m args below meth c QM hC hE H locs lsA hD hl
  exact lv_if_le hC.1 hC.2.1 hd ht (fun h => kt h p e R s m args below meth c QM hC hE H locs lsA hD hl) (fun h => kf h p e R s m args below meth c QM hC hE H locs lsA hD hl)
theorem R.icmp_le {x y : Int32} {off : Int} (t q : Nat) (hd : decode (kc μ) pc = .ok (.if_icmp .le off, 3)) (ht : (pc : Int) + off = (t : Int)) (hq : pc + 3 = q) (kt : x ≤ y → Rch γ d μ t ls st w Q X) (kf : ¬ x ≤ y → Rch γ d μ q ls st w Q X) : Rch γ d μ pc ls (.int y :: .int x :: st) w Q X := by
  subst hq
  intro p e R s m args below meth c QM hC hE H locs lsA hD hl
  exact lv_icmp_le hC.1 hC.2.1 hd ht (fun h => kt h p e R s m args below meth c QM hC hE H locs lsA hD hl) (fun h => kf h p e R s m args below meth c QM hC hE H locs lsA hD hl)
theorem R.ifnull {x : Option Nat} {off : Int} (t q : Nat) (hd : decode (kc μ) pc = .ok (.ifnull off, 3)) (ht : (pc : Int) + off = (t : Int)) (hq : pc + 3 = q) (kt : x = none → Rch γ d μ t ls st w Q X) (kf : ∀ i, x = some i → Rch γ d μ q ls st w Q X) : Rch γ d μ pc ls (rv x :: st) w Q X := by
  subst hq
  intro p e R s m args below meth c QM hC hE H locs lsA hD hl
  cases x with
  | none => exact lv_ifnullN hC.1 hC.2.1 hd ht (kt rfl p e R s m args below meth c QM hC hE H locs lsA hD hl)
  | some i => exact lv_ifnull hC.1 hC.2.1 hd (kf i rfl p e R s m args below meth c QM hC hE H locs lsA hD hl)
theorem R.ifnonnull {x : Option Nat} {off : Int} (t q : Nat) (hd : decode (kc μ) pc = .ok (.ifnonnull off, 3)) (ht : (pc : Int) + off = (t : Int)) (hq : pc + 3 = q) (kt : ∀ i, x = some i → Rch γ d μ t ls st w Q X) (kf : x = none → Rch γ d μ q ls st w Q X) : Rch γ d μ pc ls (rv x :: st) w Q X := by
  subst hq
  intro p e R s m args below meth c QM hC hE H locs lsA hD hl
  cases x with
  | none => exact lv_ifnonnullN hC.1 hC.2.1 hd (kf rfl p e R s m args below meth c QM hC hE H locs lsA hD hl)
  | some i => exact lv_ifnonnull hC.1 hC.2.1 hd ht (kt i rfl p e R s m args below meth c QM hC hE H locs lsA hD hl)
theorem R.tswIn {x : Int32} {dflt lo hi off : Int} {offs : Array Int} {len : Nat} (v : Int) (t : Nat) (hd : decode (kc μ) pc = .ok (.tableswitch dflt lo hi offs, len)) (hx : x.toInt = v) (h1 : ¬ v < lo) (h2 : ¬ hi < v) (ho : offs[(v - lo).toNat]? = some off) (ht : (pc : Int) + off = (t : Int)) (k : Rch γ d μ t ls st w Q X) : Rch γ d μ pc ls (.int x :: st) w Q X := by
  subst hx
  intro p e R s m args below meth c QM hC hE H locs lsA hD hl
  exact lv_tableIn hC.1 hC.2.1 hd h1 h2 ho ht (k p e R s m args below meth c QM hC hE H locs lsA hD hl)
theorem R.tswOut {x : Int32} {dflt lo hi : Int} {offs : Array Int} {len : Nat} (t : Nat) (hd : decode (kc μ) pc = .ok (.tableswitch dflt lo hi offs, len)) (h : x.toInt < lo ∨ hi < x.toInt) (ht : (pc : Int) + dflt = (t : Int)) (k : Rch γ d μ t ls st w Q X) : Rch γ d μ pc ls (.int x :: st) w Q X := by
  intro p e R s m args below meth c QM hC hE H locs lsA hD hl
  exact lv_tableOut hC.1 hC.2.1 hd h ht (k p e R s m args below meth c QM hC hE H locs lsA hD hl)
theorem R.lsw {x : Int32} {dflt : Int} {ps : Array (Int × Int)} {len : Nat} {off : Int} (t : Nat) (hd : decode (kc μ) pc = .ok (.lookupswitch dflt ps, len)) (hp : (ps.toList.zip (ps.toList.drop 1)).all (fun (a, next) => a.1 < next.1) = true) (ho : Op.lookupswitch.offset ps.toList dflt x.toInt = off) (ht : (pc : Int) + off = (t : Int)) (k : Rch γ d μ t ls st w Q X) : Rch γ d μ pc ls (.int x :: st) w Q X := by
  intro p e R s m args below meth c QM hC hE H locs lsA hD hl
  exact lv_lookup hC.1 hC.2.1 hd hp ho ht (k p e R s m args below meth c QM hC hE H locs lsA hD hl)
theorem hpS {ls : List (Option Value)} {i : Nat} {a : Option Value} (h : ls[i]? = some a) (hc : c1 a = true) : ∀ j, j + 1 = i + 1 → ∀ u, ls[j]? = some u → c1 u = true := by
  intro j e u hu
  obtain rfl : j = i := by omega
  rw [h] at hu
  cases hu
  exact hc
theorem R.istore_n {k0 : Fin 4} {i0 : Nat} {x : Int32} (q : Nat) (hd : decode (kc μ) pc = .ok (.istore_n k0, 1)) (hq : pc + 1 = q) (hi : (k0 : Nat) = i0) (hn : i0 < knL μ) (hp : ∀ j, j + 1 = i0 → ∀ u, ls[j]? = some u → c1 u = true) (k : Rch γ d μ q (ls.set i0 (some (.int x))) st w Q X) : Rch γ d μ pc ls (.int x :: st) w Q X := by
  subst hq
  intro p e R s m args below meth c QM hC hE H locs lsA hD hl
  exact lv_istore_n hC.1 hC.2.1 hd hi hl hn rfl (fun ls' h => k p e R s m args below meth c QM hC hE H locs ls' hD (lk_set1 hp h))
theorem R.istore {i0 : Nat} {x : Int32} (q : Nat) (hd : decode (kc μ) pc = .ok (.istore i0, 2)) (hq : pc + 2 = q) (hn : i0 < knL μ) (hp : ∀ j, j + 1 = i0 → ∀ u, ls[j]? = some u → c1 u = true) (k : Rch γ d μ q (ls.set i0 (some (.int x))) st w Q X) : Rch γ d μ pc ls (.int x :: st) w Q X := by
  subst hq
  intro p e R s m args below meth c QM hC hE H locs lsA hD hl
  exact lv_istore hC.1 hC.2.1 hd hl hn rfl (fun ls' h => k p e R s m args below meth c QM hC hE H locs ls' hD (lk_set1 hp h))
theorem R.lstore_n {k0 : Fin 4} {i0 : Nat} {x : Int64} (q : Nat) (hd : decode (kc μ) pc = .ok (.lstore_n k0, 1)) (hq : pc + 1 = q) (hi : (k0 : Nat) = i0) (hn : i0 + 1 < knL μ) (hp : ∀ j, j + 1 = i0 → ∀ u, ls[j]? = some u → c1 u = true) (k : Rch γ d μ q ((ls.set i0 (some (.long x))).set (i0 + 1) none) st w Q X) : Rch γ d μ pc ls (.long x :: st) w Q X := by
  subst hq
  intro p e R s m args below meth c QM hC hE H locs lsA hD hl
  exact lv_lstore_n hC.1 hC.2.1 hd hi hl hn rfl (fun ls' h => k p e R s m args below meth c QM hC hE H locs ls' hD (lk_set2 hp h))
theorem R.lstore {i0 : Nat} {x : Int64} (q : Nat) (hd : decode (kc μ) pc = .ok (.lstore i0, 2)) (hq : pc + 2 = q) (hn : i0 + 1 < knL μ) (hp : ∀ j, j + 1 = i0 → ∀ u, ls[j]? = some u → c1 u = true) (k : Rch γ d μ q ((ls.set i0 (some (.long x))).set (i0 + 1) none) st w Q X) : Rch γ d μ pc ls (.long x :: st) w Q X := by
  subst hq
  intro p e R s m args below meth c QM hC hE H locs lsA hD hl
  exact lv_lstore hC.1 hC.2.1 hd hl hn rfl (fun ls' h => k p e R s m args below meth c QM hC hE H locs ls' hD (lk_set2 hp h))
theorem R.astore_n {k0 : Fin 4} {i0 : Nat} {x : Nat} (q : Nat) (hd : decode (kc μ) pc = .ok (.astore_n k0, 1)) (hq : pc + 1 = q) (hi : (k0 : Nat) = i0) (hn : i0 < knL μ) (hp : ∀ j, j + 1 = i0 → ∀ u, ls[j]? = some u → c1 u = true) (k : Rch γ d μ q (ls.set i0 (some (.ref x))) st w Q X) : Rch γ d μ pc ls (.ref x :: st) w Q X := by
  subst hq
  intro p e R s m args below meth c QM hC hE H locs lsA hD hl
  exact lv_astore_n hC.1 hC.2.1 hd hi hl hn rfl (fun ls' h => k p e R s m args below meth c QM hC hE H locs ls' hD (lk_set1 hp h))
theorem R.astore {i0 : Nat} {x : Nat} (q : Nat) (hd : decode (kc μ) pc = .ok (.astore i0, 2)) (hq : pc + 2 = q) (hn : i0 < knL μ) (hp : ∀ j, j + 1 = i0 → ∀ u, ls[j]? = some u → c1 u = true) (k : Rch γ d μ q (ls.set i0 (some (.ref x))) st w Q X) : Rch γ d μ pc ls (.ref x :: st) w Q X := by
  subst hq
  intro p e R s m args below meth c QM hC hE H locs lsA hD hl
  exact lv_astore hC.1 hC.2.1 hd hl hn rfl (fun ls' h => k p e R s m args below meth c QM hC hE H locs ls' hD (lk_set1 hp h))
theorem R.astore_nN {k0 : Fin 4} {i0 : Nat} (q : Nat) (hd : decode (kc μ) pc = .ok (.astore_n k0, 1)) (hq : pc + 1 = q) (hi : (k0 : Nat) = i0) (hn : i0 < knL μ) (hp : ∀ j, j + 1 = i0 → ∀ u, ls[j]? = some u → c1 u = true) (k : Rch γ d μ q (ls.set i0 (some .null)) st w Q X) : Rch γ d μ pc ls (.null :: st) w Q X := by
  subst hq
  intro p e R s m args below meth c QM hC hE H locs lsA hD hl
  exact lv_astore_nN hC.1 hC.2.1 hd hi hl hn rfl (fun ls' h => k p e R s m args below meth c QM hC hE H locs ls' hD (lk_set1 (v := .null) hp h))
theorem R.astoreN {i0 : Nat} (q : Nat) (hd : decode (kc μ) pc = .ok (.astore i0, 2)) (hq : pc + 2 = q) (hn : i0 < knL μ) (hp : ∀ j, j + 1 = i0 → ∀ u, ls[j]? = some u → c1 u = true) (k : Rch γ d μ q (ls.set i0 (some .null)) st w Q X) : Rch γ d μ pc ls (.null :: st) w Q X := by
  subst hq
  intro p e R s m args below meth c QM hC hE H locs lsA hD hl
  exact lv_astoreN hC.1 hC.2.1 hd hl hn rfl (fun ls' h => k p e R s m args below meth c QM hC hE H locs ls' hD (lk_set1 (v := .null) hp h))
theorem R.astore_nQ {k0 : Fin 4} {i0 : Nat} {x : Option Nat} (q : Nat) (hd : decode (kc μ) pc = .ok (.astore_n k0, 1)) (hq : pc + 1 = q) (hi : (k0 : Nat) = i0) (hn : i0 < knL μ) (hp : ∀ j, j + 1 = i0 → ∀ u, ls[j]? = some u → c1 u = true) (k : Rch γ d μ q (ls.set i0 (some (rv x))) st w Q X) : Rch γ d μ pc ls (rv x :: st) w Q X := by
  cases x with
  | none => exact R.astore_nN q hd hq hi hn hp k
  | some i => exact R.astore_n q hd hq hi hn hp k
theorem R.astoreQ {i0 : Nat} {x : Option Nat} (q : Nat) (hd : decode (kc μ) pc = .ok (.astore i0, 2)) (hq : pc + 2 = q) (hn : i0 < knL μ) (hp : ∀ j, j + 1 = i0 → ∀ u, ls[j]? = some u → c1 u = true) (k : Rch γ d μ q (ls.set i0 (some (rv x))) st w Q X) : Rch γ d μ pc ls (rv x :: st) w Q X := by
  cases x with
  | none => exact R.astoreN q hd hq hn hp k
  | some i => exact R.astore q hd hq hn hp k
theorem R.iinc {i0 : Nat} {n : Int} {x : Int32} (q : Nat) (hd : decode (kc μ) pc = .ok (.iinc i0 n, 3)) (hq : pc + 3 = q) (hk : ls[i0]? = some (some (.int x))) (hn : i0 < knL μ) (hp : ∀ j, j + 1 = i0 → ∀ u, ls[j]? = some u → c1 u = true) (k : Rch γ d μ q (ls.set i0 (some (.int (x + iz n)))) st w Q X) : Rch γ d μ pc ls st w Q X := by
  subst hq
  intro p e R s m args below meth c QM hC hE H locs lsA hD hl
  obtain ⟨j, hj⟩ := List.getElem?_of_mem (lvl_mem.mpr (show ∃ v, 0 ≤ i0 ∧ ls[i0 - 0]? = some (some v) ∧ (Value.int x) = cv γ v from ⟨.int x, Nat.zero_le _, hk, rfl⟩) : (i0, Value.int x) ∈ lvl γ 0 ls)
  exact lv_iinc (k := j) hC.1 hC.2.1 hd hl hj rfl hn rfl (fun ls' h => k p e R s m args below meth c QM hC hE H locs ls' hD (lk_set1 (v := .int (x + iz n)) hp h))
theorem R.ist0n {a0 : Option Value} {t : List (Option Value)} {x : Int32} (q : Nat) (hd : decode (kc μ) pc = .ok (.istore_n 0, 1)) (hq : pc + 1 = q) (hn : 0 < knL μ) (k : Rch γ d μ q (some (.int x) :: t) st w Q X) : Rch γ d μ pc (a0 :: t) (.int x :: st) w Q X :=
  R.istore_n q hd hq rfl hn (fun j e => nomatch e) k
theorem R.ist0 {a0 : Option Value} {t : List (Option Value)} {x : Int32} (q : Nat) (hd : decode (kc μ) pc = .ok (.istore 0, 2)) (hq : pc + 2 = q) (hn : 0 < knL μ) (k : Rch γ d μ q (some (.int x) :: t) st w Q X) : Rch γ d μ pc (a0 :: t) (.int x :: st) w Q X :=
  R.istore q hd hq hn (fun j e => nomatch e) k
theorem R.ast0n {a0 : Option Value} {t : List (Option Value)} {x : Nat} (q : Nat) (hd : decode (kc μ) pc = .ok (.astore_n 0, 1)) (hq : pc + 1 = q) (hn : 0 < knL μ) (k : Rch γ d μ q (some (.ref x) :: t) st w Q X) : Rch γ d μ pc (a0 :: t) (.ref x :: st) w Q X :=
  R.astore_n q hd hq rfl hn (fun j e => nomatch e) k
theorem R.ast0 {a0 : Option Value} {t : List (Option Value)} {x : Nat} (q : Nat) (hd : decode (kc μ) pc = .ok (.astore 0, 2)) (hq : pc + 2 = q) (hn : 0 < knL μ) (k : Rch γ d μ q (some (.ref x) :: t) st w Q X) : Rch γ d μ pc (a0 :: t) (.ref x :: st) w Q X :=
  R.astore q hd hq hn (fun j e => nomatch e) k
theorem R.qst0n {a0 : Option Value} {t : List (Option Value)} {x : Option Nat} (q : Nat) (hd : decode (kc μ) pc = .ok (.astore_n 0, 1)) (hq : pc + 1 = q) (hn : 0 < knL μ) (k : Rch γ d μ q (some (rv x) :: t) st w Q X) : Rch γ d μ pc (a0 :: t) (rv x :: st) w Q X :=
  R.astore_nQ q hd hq rfl hn (fun j e => nomatch e) k
theorem R.qst0 {a0 : Option Value} {t : List (Option Value)} {x : Option Nat} (q : Nat) (hd : decode (kc μ) pc = .ok (.astore 0, 2)) (hq : pc + 2 = q) (hn : 0 < knL μ) (k : Rch γ d μ q (some (rv x) :: t) st w Q X) : Rch γ d μ pc (a0 :: t) (rv x :: st) w Q X :=
  R.astoreQ q hd hq hn (fun j e => nomatch e) k
theorem R.lst0n {a0 a1 : Option Value} {t : List (Option Value)} {x : Int64} (q : Nat) (hd : decode (kc μ) pc = .ok (.lstore_n 0, 1)) (hq : pc + 1 = q) (hn : 1 < knL μ) (k : Rch γ d μ q (some (.long x) :: none :: t) st w Q X) : Rch γ d μ pc (a0 :: a1 :: t) (.long x :: st) w Q X :=
  R.lstore_n q hd hq rfl hn (fun j e => nomatch e) k
theorem R.lst0 {a0 a1 : Option Value} {t : List (Option Value)} {x : Int64} (q : Nat) (hd : decode (kc μ) pc = .ok (.lstore 0, 2)) (hq : pc + 2 = q) (hn : 1 < knL μ) (k : Rch γ d μ q (some (.long x) :: none :: t) st w Q X) : Rch γ d μ pc (a0 :: a1 :: t) (.long x :: st) w Q X :=
  R.lstore q hd hq hn (fun j e => nomatch e) k
theorem R.inc0 {t : List (Option Value)} {x : Int32} {n : Int} (q : Nat) (hd : decode (kc μ) pc = .ok (.iinc 0 n, 3)) (hq : pc + 3 = q) (hn : 0 < knL μ) (k : Rch γ d μ q (some (.int (x + iz n)) :: t) st w Q X) : Rch γ d μ pc (some (.int x) :: t) st w Q X :=
  R.iinc q hd hq rfl hn (fun j e => nomatch e) k
theorem R.ist1n {a0 a1 : Option Value} {t : List (Option Value)} {x : Int32} (q : Nat) (hd : decode (kc μ) pc = .ok (.istore_n 1, 1)) (hq : pc + 1 = q) (hn : 1 < knL μ) (hc : c1 a0 = true) (k : Rch γ d μ q (a0 :: some (.int x) :: t) st w Q X) : Rch γ d μ pc (a0 :: a1 :: t) (.int x :: st) w Q X :=
  R.istore_n q hd hq rfl hn (hpS (i := 0) rfl hc) k
theorem R.ist1 {a0 a1 : Option Value} {t : List (Option Value)} {x : Int32} (q : Nat) (hd : decode (kc μ) pc = .ok (.istore 1, 2)) (hq : pc + 2 = q) (hn : 1 < knL μ) (hc : c1 a0 = true) (k : Rch γ d μ q (a0 :: some (.int x) :: t) st w Q X) : Rch γ d μ pc (a0 :: a1 :: t) (.int x :: st) w Q X :=
  R.istore q hd hq hn (hpS (i := 0) rfl hc) k
theorem R.ast1n {a0 a1 : Option Value} {t : List (Option Value)} {x : Nat} (q : Nat) (hd : decode (kc μ) pc = .ok (.astore_n 1, 1)) (hq : pc + 1 = q) (hn : 1 < knL μ) (hc : c1 a0 = true) (k : Rch γ d μ q (a0 :: some (.ref x) :: t) st w Q X) : Rch γ d μ pc (a0 :: a1 :: t) (.ref x :: st) w Q X :=
  R.astore_n q hd hq rfl hn (hpS (i := 0) rfl hc) k
theorem R.ast1 {a0 a1 : Option Value} {t : List (Option Value)} {x : Nat} (q : Nat) (hd : decode (kc μ) pc = .ok (.astore 1, 2)) (hq : pc + 2 = q) (hn : 1 < knL μ) (hc : c1 a0 = true) (k : Rch γ d μ q (a0 :: some (.ref x) :: t) st w Q X) : Rch γ d μ pc (a0 :: a1 :: t) (.ref x :: st) w Q X :=
  R.astore q hd hq hn (hpS (i := 0) rfl hc) k
theorem R.qst1n {a0 a1 : Option Value} {t : List (Option Value)} {x : Option Nat} (q : Nat) (hd : decode (kc μ) pc = .ok (.astore_n 1, 1)) (hq : pc + 1 = q) (hn : 1 < knL μ) (hc : c1 a0 = true) (k : Rch γ d μ q (a0 :: some (rv x) :: t) st w Q X) : Rch γ d μ pc (a0 :: a1 :: t) (rv x :: st) w Q X :=
  R.astore_nQ q hd hq rfl hn (hpS (i := 0) rfl hc) k
theorem R.qst1 {a0 a1 : Option Value} {t : List (Option Value)} {x : Option Nat} (q : Nat) (hd : decode (kc μ) pc = .ok (.astore 1, 2)) (hq : pc + 2 = q) (hn : 1 < knL μ) (hc : c1 a0 = true) (k : Rch γ d μ q (a0 :: some (rv x) :: t) st w Q X) : Rch γ d μ pc (a0 :: a1 :: t) (rv x :: st) w Q X :=
  R.astoreQ q hd hq hn (hpS (i := 0) rfl hc) k
theorem R.lst1n {a0 a1 a2 : Option Value} {t : List (Option Value)} {x : Int64} (q : Nat) (hd : decode (kc μ) pc = .ok (.lstore_n 1, 1)) (hq : pc + 1 = q) (hn : 2 < knL μ) (hc : c1 a0 = true) (k : Rch γ d μ q (a0 :: some (.long x) :: none :: t) st w Q X) : Rch γ d μ pc (a0 :: a1 :: a2 :: t) (.long x :: st) w Q X :=
  R.lstore_n q hd hq rfl hn (hpS (i := 0) rfl hc) k
theorem R.lst1 {a0 a1 a2 : Option Value} {t : List (Option Value)} {x : Int64} (q : Nat) (hd : decode (kc μ) pc = .ok (.lstore 1, 2)) (hq : pc + 2 = q) (hn : 2 < knL μ) (hc : c1 a0 = true) (k : Rch γ d μ q (a0 :: some (.long x) :: none :: t) st w Q X) : Rch γ d μ pc (a0 :: a1 :: a2 :: t) (.long x :: st) w Q X :=
  R.lstore q hd hq hn (hpS (i := 0) rfl hc) k
theorem R.inc1 {a0 : Option Value} {t : List (Option Value)} {x : Int32} {n : Int} (q : Nat) (hd : decode (kc μ) pc = .ok (.iinc 1 n, 3)) (hq : pc + 3 = q) (hn : 1 < knL μ) (hc : c1 a0 = true) (k : Rch γ d μ q (a0 :: some (.int (x + iz n)) :: t) st w Q X) : Rch γ d μ pc (a0 :: some (.int x) :: t) st w Q X :=
  R.iinc q hd hq rfl hn (hpS (i := 0) rfl hc) k
theorem R.ist2n {a0 a1 a2 : Option Value} {t : List (Option Value)} {x : Int32} (q : Nat) (hd : decode (kc μ) pc = .ok (.istore_n 2, 1)) (hq : pc + 1 = q) (hn : 2 < knL μ) (hc : c1 a1 = true) (k : Rch γ d μ q (a0 :: a1 :: some (.int x) :: t) st w Q X) : Rch γ d μ pc (a0 :: a1 :: a2 :: t) (.int x :: st) w Q X :=
  R.istore_n q hd hq rfl hn (hpS (i := 1) rfl hc) k
theorem R.ist2 {a0 a1 a2 : Option Value} {t : List (Option Value)} {x : Int32} (q : Nat) (hd : decode (kc μ) pc = .ok (.istore 2, 2)) (hq : pc + 2 = q) (hn : 2 < knL μ) (hc : c1 a1 = true) (k : Rch γ d μ q (a0 :: a1 :: some (.int x) :: t) st w Q X) : Rch γ d μ pc (a0 :: a1 :: a2 :: t) (.int x :: st) w Q X :=
  R.istore q hd hq hn (hpS (i := 1) rfl hc) k
theorem R.ast2n {a0 a1 a2 : Option Value} {t : List (Option Value)} {x : Nat} (q : Nat) (hd : decode (kc μ) pc = .ok (.astore_n 2, 1)) (hq : pc + 1 = q) (hn : 2 < knL μ) (hc : c1 a1 = true) (k : Rch γ d μ q (a0 :: a1 :: some (.ref x) :: t) st w Q X) : Rch γ d μ pc (a0 :: a1 :: a2 :: t) (.ref x :: st) w Q X :=
  R.astore_n q hd hq rfl hn (hpS (i := 1) rfl hc) k
theorem R.ast2 {a0 a1 a2 : Option Value} {t : List (Option Value)} {x : Nat} (q : Nat) (hd : decode (kc μ) pc = .ok (.astore 2, 2)) (hq : pc + 2 = q) (hn : 2 < knL μ) (hc : c1 a1 = true) (k : Rch γ d μ q (a0 :: a1 :: some (.ref x) :: t) st w Q X) : Rch γ d μ pc (a0 :: a1 :: a2 :: t) (.ref x :: st) w Q X :=
  R.astore q hd hq hn (hpS (i := 1) rfl hc) k
theorem R.qst2n {a0 a1 a2 : Option Value} {t : List (Option Value)} {x : Option Nat} (q : Nat) (hd : decode (kc μ) pc = .ok (.astore_n 2, 1)) (hq : pc + 1 = q) (hn : 2 < knL μ) (hc : c1 a1 = true) (k : Rch γ d μ q (a0 :: a1 :: some (rv x) :: t) st w Q X) : Rch γ d μ pc (a0 :: a1 :: a2 :: t) (rv x :: st) w Q X :=
  R.astore_nQ q hd hq rfl hn (hpS (i := 1) rfl hc) k
theorem R.qst2 {a0 a1 a2 : Option Value} {t : List (Option Value)} {x : Option Nat} (q : Nat) (hd : decode (kc μ) pc = .ok (.astore 2, 2)) (hq : pc + 2 = q) (hn : 2 < knL μ) (hc : c1 a1 = true) (k : Rch γ d μ q (a0 :: a1 :: some (rv x) :: t) st w Q X) : Rch γ d μ pc (a0 :: a1 :: a2 :: t) (rv x :: st) w Q X :=
  R.astoreQ q hd hq hn (hpS (i := 1) rfl hc) k
theorem R.lst2n {a0 a1 a2 a3 : Option Value} {t : List (Option Value)} {x : Int64} (q : Nat) (hd : decode (kc μ) pc = .ok (.lstore_n 2, 1)) (hq : pc + 1 = q) (hn : 3 < knL μ) (hc : c1 a1 = true) (k : Rch γ d μ q (a0 :: a1 :: some (.long x) :: none :: t) st w Q X) : Rch γ d μ pc (a0 :: a1 :: a2 :: a3 :: t) (.long x :: st) w Q X :=
  R.lstore_n q hd hq rfl hn (hpS (i := 1) rfl hc) k
theorem R.lst2 {a0 a1 a2 a3 : Option Value} {t : List (Option Value)} {x : Int64} (q : Nat) (hd : decode (kc μ) pc = .ok (.lstore 2, 2)) (hq : pc + 2 = q) (hn : 3 < knL μ) (hc : c1 a1 = true) (k : Rch γ d μ q (a0 :: a1 :: some (.long x) :: none :: t) st w Q X) : Rch γ d μ pc (a0 :: a1 :: a2 :: a3 :: t) (.long x :: st) w Q X :=
  R.lstore q hd hq hn (hpS (i := 1) rfl hc) k
theorem R.inc2 {a0 a1 : Option Value} {t : List (Option Value)} {x : Int32} {n : Int} (q : Nat) (hd : decode (kc μ) pc = .ok (.iinc 2 n, 3)) (hq : pc + 3 = q) (hn : 2 < knL μ) (hc : c1 a1 = true) (k : Rch γ d μ q (a0 :: a1 :: some (.int (x + iz n)) :: t) st w Q X) : Rch γ d μ pc (a0 :: a1 :: some (.int x) :: t) st w Q X :=
  R.iinc q hd hq rfl hn (hpS (i := 1) rfl hc) k
theorem R.ist3n {a0 a1 a2 a3 : Option Value} {t : List (Option Value)} {x : Int32} (q : Nat) (hd : decode (kc μ) pc = .ok (.istore_n 3, 1)) (hq : pc + 1 = q) (hn : 3 < knL μ) (hc : c1 a2 = true) (k : Rch γ d μ q (a0 :: a1 :: a2 :: some (.int x) :: t) st w Q X) : Rch γ d μ pc (a0 :: a1 :: a2 :: a3 :: t) (.int x :: st) w Q X :=
  R.istore_n q hd hq rfl hn (hpS (i := 2) rfl hc) k
theorem R.ist3 {a0 a1 a2 a3 : Option Value} {t : List (Option Value)} {x : Int32} (q : Nat) (hd : decode (kc μ) pc = .ok (.istore 3, 2)) (hq : pc + 2 = q) (hn : 3 < knL μ) (hc : c1 a2 = true) (k : Rch γ d μ q (a0 :: a1 :: a2 :: some (.int x) :: t) st w Q X) : Rch γ d μ pc (a0 :: a1 :: a2 :: a3 :: t) (.int x :: st) w Q X :=
  R.istore q hd hq hn (hpS (i := 2) rfl hc) k
theorem R.ast3n {a0 a1 a2 a3 : Option Value} {t : List (Option Value)} {x : Nat} (q : Nat) (hd : decode (kc μ) pc = .ok (.astore_n 3, 1)) (hq : pc + 1 = q) (hn : 3 < knL μ) (hc : c1 a2 = true) (k : Rch γ d μ q (a0 :: a1 :: a2 :: some (.ref x) :: t) st w Q X) : Rch γ d μ pc (a0 :: a1 :: a2 :: a3 :: t) (.ref x :: st) w Q X :=
  R.astore_n q hd hq rfl hn (hpS (i := 2) rfl hc) k
theorem R.ast3 {a0 a1 a2 a3 : Option Value} {t : List (Option Value)} {x : Nat} (q : Nat) (hd : decode (kc μ) pc = .ok (.astore 3, 2)) (hq : pc + 2 = q) (hn : 3 < knL μ) (hc : c1 a2 = true) (k : Rch γ d μ q (a0 :: a1 :: a2 :: some (.ref x) :: t) st w Q X) : Rch γ d μ pc (a0 :: a1 :: a2 :: a3 :: t) (.ref x :: st) w Q X :=
  R.astore q hd hq hn (hpS (i := 2) rfl hc) k
theorem R.qst3n {a0 a1 a2 a3 : Option Value} {t : List (Option Value)} {x : Option Nat} (q : Nat) (hd : decode (kc μ) pc = .ok (.astore_n 3, 1)) (hq : pc + 1 = q) (hn : 3 < knL μ) (hc : c1 a2 = true) (k : Rch γ d μ q (a0 :: a1 :: a2 :: some (rv x) :: t) st w Q X) : Rch γ d μ pc (a0 :: a1 :: a2 :: a3 :: t) (rv x :: st) w Q X :=
  R.astore_nQ q hd hq rfl hn (hpS (i := 2) rfl hc) k
theorem R.qst3 {a0 a1 a2 a3 : Option Value} {t : List (Option Value)} {x : Option Nat} (q : Nat) (hd : decode (kc μ) pc = .ok (.astore 3, 2)) (hq : pc + 2 = q) (hn : 3 < knL μ) (hc : c1 a2 = true) (k : Rch γ d μ q (a0 :: a1 :: a2 :: some (rv x) :: t) st w Q X) : Rch γ d μ pc (a0 :: a1 :: a2 :: a3 :: t) (rv x :: st) w Q X :=
  R.astoreQ q hd hq hn (hpS (i := 2) rfl hc) k
theorem R.lst3n {a0 a1 a2 a3 a4 : Option Value} {t : List (Option Value)} {x : Int64} (q : Nat) (hd : decode (kc μ) pc = .ok (.lstore_n 3, 1)) (hq : pc + 1 = q) (hn : 4 < knL μ) (hc : c1 a2 = true) (k : Rch γ d μ q (a0 :: a1 :: a2 :: some (.long x) :: none :: t) st w Q X) : Rch γ d μ pc (a0 :: a1 :: a2 :: a3 :: a4 :: t) (.long x :: st) w Q X :=
  R.lstore_n q hd hq rfl hn (hpS (i := 2) rfl hc) k
theorem R.lst3 {a0 a1 a2 a3 a4 : Option Value} {t : List (Option Value)} {x : Int64} (q : Nat) (hd : decode (kc μ) pc = .ok (.lstore 3, 2)) (hq : pc + 2 = q) (hn : 4 < knL μ) (hc : c1 a2 = true) (k : Rch γ d μ q (a0 :: a1 :: a2 :: some (.long x) :: none :: t) st w Q X) : Rch γ d μ pc (a0 :: a1 :: a2 :: a3 :: a4 :: t) (.long x :: st) w Q X :=
  R.lstore q hd hq hn (hpS (i := 2) rfl hc) k
theorem R.inc3 {a0 a1 a2 : Option Value} {t : List (Option Value)} {x : Int32} {n : Int} (q : Nat) (hd : decode (kc μ) pc = .ok (.iinc 3 n, 3)) (hq : pc + 3 = q) (hn : 3 < knL μ) (hc : c1 a2 = true) (k : Rch γ d μ q (a0 :: a1 :: a2 :: some (.int (x + iz n)) :: t) st w Q X) : Rch γ d μ pc (a0 :: a1 :: a2 :: some (.int x) :: t) st w Q X :=
  R.iinc q hd hq rfl hn (hpS (i := 2) rfl hc) k
theorem R.ist4 {a0 a1 a2 a3 a4 : Option Value} {t : List (Option Value)} {x : Int32} (q : Nat) (hd : decode (kc μ) pc = .ok (.istore 4, 2)) (hq : pc + 2 = q) (hn : 4 < knL μ) (hc : c1 a3 = true) (k : Rch γ d μ q (a0 :: a1 :: a2 :: a3 :: some (.int x) :: t) st w Q X) : Rch γ d μ pc (a0 :: a1 :: a2 :: a3 :: a4 :: t) (.int x :: st) w Q X :=
  R.istore q hd hq hn (hpS (i := 3) rfl hc) k
theorem R.ast4 {a0 a1 a2 a3 a4 : Option Value} {t : List (Option Value)} {x : Nat} (q : Nat) (hd : decode (kc μ) pc = .ok (.astore 4, 2)) (hq : pc + 2 = q) (hn : 4 < knL μ) (hc : c1 a3 = true) (k : Rch γ d μ q (a0 :: a1 :: a2 :: a3 :: some (.ref x) :: t) st w Q X) : Rch γ d μ pc (a0 :: a1 :: a2 :: a3 :: a4 :: t) (.ref x :: st) w Q X :=
  R.astore q hd hq hn (hpS (i := 3) rfl hc) k
theorem R.qst4 {a0 a1 a2 a3 a4 : Option Value} {t : List (Option Value)} {x : Option Nat} (q : Nat) (hd : decode (kc μ) pc = .ok (.astore 4, 2)) (hq : pc + 2 = q) (hn : 4 < knL μ) (hc : c1 a3 = true) (k : Rch γ d μ q (a0 :: a1 :: a2 :: a3 :: some (rv x) :: t) st w Q X) : Rch γ d μ pc (a0 :: a1 :: a2 :: a3 :: a4 :: t) (rv x :: st) w Q X :=
  R.astoreQ q hd hq hn (hpS (i := 3) rfl hc) k
theorem R.lst4 {a0 a1 a2 a3 a4 a5 : Option Value} {t : List (Option Value)} {x : Int64} (q : Nat) (hd : decode (kc μ) pc = .ok (.lstore 4, 2)) (hq : pc + 2 = q) (hn : 5 < knL μ) (hc : c1 a3 = true) (k : Rch γ d μ q (a0 :: a1 :: a2 :: a3 :: some (.long x) :: none :: t) st w Q X) : Rch γ d μ pc (a0 :: a1 :: a2 :: a3 :: a4 :: a5 :: t) (.long x :: st) w Q X :=
  R.lstore q hd hq hn (hpS (i := 3) rfl hc) k
theorem R.inc4 {a0 a1 a2 a3 : Option Value} {t : List (Option Value)} {x : Int32} {n : Int} (q : Nat) (hd : decode (kc μ) pc = .ok (.iinc 4 n, 3)) (hq : pc + 3 = q) (hn : 4 < knL μ) (hc : c1 a3 = true) (k : Rch γ d μ q (a0 :: a1 :: a2 :: a3 :: some (.int (x + iz n)) :: t) st w Q X) : Rch γ d μ pc (a0 :: a1 :: a2 :: a3 :: some (.int x) :: t) st w Q X :=
  R.iinc q hd hq rfl hn (hpS (i := 3) rfl hc) k
theorem R.ist5 {a0 a1 a2 a3 a4 a5 : Option Value} {t : List (Option Value)} {x : Int32} (q : Nat) (hd : decode (kc μ) pc = .ok (.istore 5, 2)) (hq : pc + 2 = q) (hn : 5 < knL μ) (hc : c1 a4 = true) (k : Rch γ d μ q (a0 :: a1 :: a2 :: a3 :: a4 :: some (.int x) :: t) st w Q X) : Rch γ d μ pc (a0 :: a1 :: a2 :: a3 :: a4 :: a5 :: t) (.int x :: st) w Q X :=
  R.istore q hd hq hn (hpS (i := 4) rfl hc) k
theorem R.ast5 {a0 a1 a2 a3 a4 a5 : Option Value} {t : List (Option Value)} {x : Nat} (q : Nat) (hd : decode (kc μ) pc = .ok (.astore 5, 2)) (hq : pc + 2 = q) (hn : 5 < knL μ) (hc : c1 a4 = true) (k : Rch γ d μ q (a0 :: a1 :: a2 :: a3 :: a4 :: some (.ref x) :: t) st w Q X) : Rch γ d μ pc (a0 :: a1 :: a2 :: a3 :: a4 :: a5 :: t) (.ref x :: st) w Q X :=
  R.astore q hd hq hn (hpS (i := 4) rfl hc) k
theorem R.qst5 {a0 a1 a2 a3 a4 a5 : Option Value} {t : List (Option Value)} {x : Option Nat} (q : Nat) (hd : decode (kc μ) pc = .ok (.astore 5, 2)) (hq : pc + 2 = q) (hn : 5 < knL μ) (hc : c1 a4 = true) (k : Rch γ d μ q (a0 :: a1 :: a2 :: a3 :: a4 :: some (rv x) :: t) st w Q X) : Rch γ d μ pc (a0 :: a1 :: a2 :: a3 :: a4 :: a5 :: t) (rv x :: st) w Q X :=
  R.astoreQ q hd hq hn (hpS (i := 4) rfl hc) k
theorem R.lst5 {a0 a1 a2 a3 a4 a5 a6 : Option Value} {t : List (Option Value)} {x : Int64} (q : Nat) (hd : decode (kc μ) pc = .ok (.lstore 5, 2)) (hq : pc + 2 = q) (hn : 6 < knL μ) (hc : c1 a4 = true) (k : Rch γ d μ q (a0 :: a1 :: a2 :: a3 :: a4 :: some (.long x) :: none :: t) st w Q X) : Rch γ d μ pc (a0 :: a1 :: a2 :: a3 :: a4 :: a5 :: a6 :: t) (.long x :: st) w Q X :=
  R.lstore q hd hq hn (hpS (i := 4) rfl hc) k
theorem R.inc5 {a0 a1 a2 a3 a4 : Option Value} {t : List (Option Value)} {x : Int32} {n : Int} (q : Nat) (hd : decode (kc μ) pc = .ok (.iinc 5 n, 3)) (hq : pc + 3 = q) (hn : 5 < knL μ) (hc : c1 a4 = true) (k : Rch γ d μ q (a0 :: a1 :: a2 :: a3 :: a4 :: some (.int (x + iz n)) :: t) st w Q X) : Rch γ d μ pc (a0 :: a1 :: a2 :: a3 :: a4 :: some (.int x) :: t) st w Q X :=
  R.iinc q hd hq rfl hn (hpS (i := 4) rfl hc) k
theorem R.ist6 {a0 a1 a2 a3 a4 a5 a6 : Option Value} {t : List (Option Value)} {x : Int32} (q : Nat) (hd : decode (kc μ) pc = .ok (.istore 6, 2)) (hq : pc + 2 = q) (hn : 6 < knL μ) (hc : c1 a5 = true) (k : Rch γ d μ q (a0 :: a1 :: a2 :: a3 :: a4 :: a5 :: some (.int x) :: t) st w Q X) : Rch γ d μ pc (a0 :: a1 :: a2 :: a3 :: a4 :: a5 :: a6 :: t) (.int x :: st) w Q X :=
  R.istore q hd hq hn (hpS (i := 5) rfl hc) k
theorem R.ast6 {a0 a1 a2 a3 a4 a5 a6 : Option Value} {t : List (Option Value)} {x : Nat} (q : Nat) (hd : decode (kc μ) pc = .ok (.astore 6, 2)) (hq : pc + 2 = q) (hn : 6 < knL μ) (hc : c1 a5 = true) (k : Rch γ d μ q (a0 :: a1 :: a2 :: a3 :: a4 :: a5 :: some (.ref x) :: t) st w Q X) : Rch γ d μ pc (a0 :: a1 :: a2 :: a3 :: a4 :: a5 :: a6 :: t) (.ref x :: st) w Q X :=
  R.astore q hd hq hn (hpS (i := 5) rfl hc) k
theorem R.qst6 {a0 a1 a2 a3 a4 a5 a6 : Option Value} {t : List (Option Value)} {x : Option Nat} (q : Nat) (hd : decode (kc μ) pc = .ok (.astore 6, 2)) (hq : pc + 2 = q) (hn : 6 < knL μ) (hc : c1 a5 = true) (k : Rch γ d μ q (a0 :: a1 :: a2 :: a3 :: a4 :: a5 :: some (rv x) :: t) st w Q X) : Rch γ d μ pc (a0 :: a1 :: a2 :: a3 :: a4 :: a5 :: a6 :: t) (rv x :: st) w Q X :=
  R.astoreQ q hd hq hn (hpS (i := 5) rfl hc) k
theorem R.lst6 {a0 a1 a2 a3 a4 a5 a6 a7 : Option Value} {t : List (Option Value)} {x : Int64} (q : Nat) (hd : decode (kc μ) pc = .ok (.lstore 6, 2)) (hq : pc + 2 = q) (hn : 7 < knL μ) (hc : c1 a5 = true) (k : Rch γ d μ q (a0 :: a1 :: a2 :: a3 :: a4 :: a5 :: some (.long x) :: none :: t) st w Q X) : Rch γ d μ pc (a0 :: a1 :: a2 :: a3 :: a4 :: a5 :: a6 :: a7 :: t) (.long x :: st) w Q X :=
  R.lstore q hd hq hn (hpS (i := 5) rfl hc) k
theorem R.inc6 {a0 a1 a2 a3 a4 a5 : Option Value} {t : List (Option Value)} {x : Int32} {n : Int} (q : Nat) (hd : decode (kc μ) pc = .ok (.iinc 6 n, 3)) (hq : pc + 3 = q) (hn : 6 < knL μ) (hc : c1 a5 = true) (k : Rch γ d μ q (a0 :: a1 :: a2 :: a3 :: a4 :: a5 :: some (.int (x + iz n)) :: t) st w Q X) : Rch γ d μ pc (a0 :: a1 :: a2 :: a3 :: a4 :: a5 :: some (.int x) :: t) st w Q X :=
  R.iinc q hd hq rfl hn (hpS (i := 5) rfl hc) k
theorem R.ist7 {a0 a1 a2 a3 a4 a5 a6 a7 : Option Value} {t : List (Option Value)} {x : Int32} (q : Nat) (hd : decode (kc μ) pc = .ok (.istore 7, 2)) (hq : pc + 2 = q) (hn : 7 < knL μ) (hc : c1 a6 = true) (k : Rch γ d μ q (a0 :: a1 :: a2 :: a3 :: a4 :: a5 :: a6 :: some (.int x) :: t) st w Q X) : Rch γ d μ pc (a0 :: a1 :: a2 :: a3 :: a4 :: a5 :: a6 :: a7 :: t) (.int x :: st) w Q X :=
  R.istore q hd hq hn (hpS (i := 6) rfl hc) k
theorem R.ast7 {a0 a1 a2 a3 a4 a5 a6 a7 : Option Value} {t : List (Option Value)} {x : Nat} (q : Nat) (hd : decode (kc μ) pc = .ok (.astore 7, 2)) (hq : pc + 2 = q) (hn : 7 < knL μ) (hc : c1 a6 = true) (k : Rch γ d μ q (a0 :: a1 :: a2 :: a3 :: a4 :: a5 :: a6 :: some (.ref x) :: t) st w Q X) : Rch γ d μ pc (a0 :: a1 :: a2 :: a3 :: a4 :: a5 :: a6 :: a7 :: t) (.ref x :: st) w Q X :=
  R.astore q hd hq hn (hpS (i := 6) rfl hc) k
theorem R.qst7 {a0 a1 a2 a3 a4 a5 a6 a7 : Option Value} {t : List (Option Value)} {x : Option Nat} (q : Nat) (hd : decode (kc μ) pc = .ok (.astore 7, 2)) (hq : pc + 2 = q) (hn : 7 < knL μ) (hc : c1 a6 = true) (k : Rch γ d μ q (a0 :: a1 :: a2 :: a3 :: a4 :: a5 :: a6 :: some (rv x) :: t) st w Q X) : Rch γ d μ pc (a0 :: a1 :: a2 :: a3 :: a4 :: a5 :: a6 :: a7 :: t) (rv x :: st) w Q X :=
  R.astoreQ q hd hq hn (hpS (i := 6) rfl hc) k
theorem R.lst7 {a0 a1 a2 a3 a4 a5 a6 a7 a8 : Option Value} {t : List (Option Value)} {x : Int64} (q : Nat) (hd : decode (kc μ) pc = .ok (.lstore 7, 2)) (hq : pc + 2 = q) (hn : 8 < knL μ) (hc : c1 a6 = true) (k : Rch γ d μ q (a0 :: a1 :: a2 :: a3 :: a4 :: a5 :: a6 :: some (.long x) :: none :: t) st w Q X) : Rch γ d μ pc (a0 :: a1 :: a2 :: a3 :: a4 :: a5 :: a6 :: a7 :: a8 :: t) (.long x :: st) w Q X :=
  R.lstore q hd hq hn (hpS (i := 6) rfl hc) k
theorem R.inc7 {a0 a1 a2 a3 a4 a5 a6 : Option Value} {t : List (Option Value)} {x : Int32} {n : Int} (q : Nat) (hd : decode (kc μ) pc = .ok (.iinc 7 n, 3)) (hq : pc + 3 = q) (hn : 7 < knL μ) (hc : c1 a6 = true) (k : Rch γ d μ q (a0 :: a1 :: a2 :: a3 :: a4 :: a5 :: a6 :: some (.int (x + iz n)) :: t) st w Q X) : Rch γ d μ pc (a0 :: a1 :: a2 :: a3 :: a4 :: a5 :: a6 :: some (.int x) :: t) st w Q X :=
  R.iinc q hd hq rfl hn (hpS (i := 6) rfl hc) k
theorem R.ist8 {a0 a1 a2 a3 a4 a5 a6 a7 a8 : Option Value} {t : List (Option Value)} {x : Int32} (q : Nat) (hd : decode (kc μ) pc = .ok (.istore 8, 2)) (hq : pc + 2 = q) (hn : 8 < knL μ) (hc : c1 a7 = true) (k : Rch γ d μ q (a0 :: a1 :: a2 :: a3 :: a4 :: a5 :: a6 :: a7 :: some (.int x) :: t) st w Q X) : Rch γ d μ pc (a0 :: a1 :: a2 :: a3 :: a4 :: a5 :: a6 :: a7 :: a8 :: t) (.int x :: st) w Q X :=
  R.istore q hd hq hn (hpS (i := 7) rfl hc) k
theorem R.ast8 {a0 a1 a2 a3 a4 a5 a6 a7 a8 : Option Value} {t : List (Option Value)} {x : Nat} (q : Nat) (hd : decode (kc μ) pc = .ok (.astore 8, 2)) (hq : pc + 2 = q) (hn : 8 < knL μ) (hc : c1 a7 = true) (k : Rch γ d μ q (a0 :: a1 :: a2 :: a3 :: a4 :: a5 :: a6 :: a7 :: some (.ref x) :: t) st w Q X) : Rch γ d μ pc (a0 :: a1 :: a2 :: a3 :: a4 :: a5 :: a6 :: a7 :: a8 :: t) (.ref x :: st) w Q X :=
  R.astore q hd hq hn (hpS (i := 7) rfl hc) k
theorem R.qst8 {a0 a1 a2 a3 a4 a5 a6 a7 a8 : Option Value} {t : List (Option Value)} {x : Option Nat} (q : Nat) (hd : decode (kc μ) pc = .ok (.astore 8, 2)) (hq : pc + 2 = q) (hn : 8 < knL μ) (hc : c1 a7 = true) (k : Rch γ d μ q (a0 :: a1 :: a2 :: a3 :: a4 :: a5 :: a6 :: a7 :: some (rv x) :: t) st w Q X) : Rch γ d μ pc (a0 :: a1 :: a2 :: a3 :: a4 :: a5 :: a6 :: a7 :: a8 :: t) (rv x :: st) w Q X :=
  R.astoreQ q hd hq hn (hpS (i := 7) rfl hc) k
theorem R.lst8 {a0 a1 a2 a3 a4 a5 a6 a7 a8 a9 : Option Value} {t : List (Option Value)} {x : Int64} (q : Nat) (hd : decode (kc μ) pc = .ok (.lstore 8, 2)) (hq : pc + 2 = q) (hn : 9 < knL μ) (hc : c1 a7 = true) (k : Rch γ d μ q (a0 :: a1 :: a2 :: a3 :: a4 :: a5 :: a6 :: a7 :: some (.long x) :: none :: t) st w Q X) : Rch γ d μ pc (a0 :: a1 :: a2 :: a3 :: a4 :: a5 :: a6 :: a7 :: a8 :: a9 :: t) (.long x :: st) w Q X :=
  R.lstore q hd hq hn (hpS (i := 7) rfl hc) k
theorem R.inc8 {a0 a1 a2 a3 a4 a5 a6 a7 : Option Value} {t : List (Option Value)} {x : Int32} {n : Int} (q : Nat) (hd : decode (kc μ) pc = .ok (.iinc 8 n, 3)) (hq : pc + 3 = q) (hn : 8 < knL μ) (hc : c1 a7 = true) (k : Rch γ d μ q (a0 :: a1 :: a2 :: a3 :: a4 :: a5 :: a6 :: a7 :: some (.int (x + iz n)) :: t) st w Q X) : Rch γ d μ pc (a0 :: a1 :: a2 :: a3 :: a4 :: a5 :: a6 :: a7 :: some (.int x) :: t) st w Q X :=
  R.iinc q hd hq rfl hn (hpS (i := 7) rfl hc) k
theorem R.ist9 {a0 a1 a2 a3 a4 a5 a6 a7 a8 a9 : Option Value} {t : List (Option Value)} {x : Int32} (q : Nat) (hd : decode (kc μ) pc = .ok (.istore 9, 2)) (hq : pc + 2 = q) (hn : 9 < knL μ) (hc : c1 a8 = true) (k : Rch γ d μ q (a0 :: a1 :: a2 :: a3 :: a4 :: a5 :: a6 :: a7 :: a8 :: some (.int x) :: t) st w Q X) : Rch γ d μ pc (a0 :: a1 :: a2 :: a3 :: a4 :: a5 :: a6 :: a7 :: a8 :: a9 :: t) (.int x :: st) w Q X :=
  R.istore q hd hq hn (hpS (i := 8) rfl hc) k
theorem R.ast9 {a0 a1 a2 a3 a4 a5 a6 a7 a8 a9 : Option Value} {t : List (Option Value)} {x : Nat} (q : Nat) (hd : decode (kc μ) pc = .ok (.astore 9, 2)) (hq : pc + 2 = q) (hn : 9 < knL μ) (hc : c1 a8 = true) (k : Rch γ d μ q (a0 :: a1 :: a2 :: a3 :: a4 :: a5 :: a6 :: a7 :: a8 :: some (.ref x) :: t) st w Q X) : Rch γ d μ pc (a0 :: a1 :: a2 :: a3 :: a4 :: a5 :: a6 :: a7 :: a8 :: a9 :: t) (.ref x :: st) w Q X :=
  R.astore q hd hq hn (hpS (i := 8) rfl hc) k
theorem R.qst9 {a0 a1 a2 a3 a4 a5 a6 a7 a8 a9 : Option Value} {t : List (Option Value)} {x : Option Nat} (q : Nat) (hd : decode (kc μ) pc = .ok (.astore 9, 2)) (hq : pc + 2 = q) (hn : 9 < knL μ) (hc : c1 a8 = true) (k : Rch γ d μ q (a0 :: a1 :: a2 :: a3 :: a4 :: a5 :: a6 :: a7 :: a8 :: some (rv x) :: t) st w Q X) : Rch γ d μ pc (a0 :: a1 :: a2 :: a3 :: a4 :: a5 :: a6 :: a7 :: a8 :: a9 :: t) (rv x :: st) w Q X :=
  R.astoreQ q hd hq hn (hpS (i := 8) rfl hc) k
theorem R.lst9 {a0 a1 a2 a3 a4 a5 a6 a7 a8 a9 a10 : Option Value} {t : List (Option Value)} {x : Int64} (q : Nat) (hd : decode (kc μ) pc = .ok (.lstore 9, 2)) (hq : pc + 2 = q) (hn : 10 < knL μ) (hc : c1 a8 = true) (k : Rch γ d μ q (a0 :: a1 :: a2 :: a3 :: a4 :: a5 :: a6 :: a7 :: a8 :: some (.long x) :: none :: t) st w Q X) : Rch γ d μ pc (a0 :: a1 :: a2 :: a3 :: a4 :: a5 :: a6 :: a7 :: a8 :: a9 :: a10 :: t) (.long x :: st) w Q X :=
  R.lstore q hd hq hn (hpS (i := 8) rfl hc) k
theorem R.inc9 {a0 a1 a2 a3 a4 a5 a6 a7 a8 : Option Value} {t : List (Option Value)} {x : Int32} {n : Int} (q : Nat) (hd : decode (kc μ) pc = .ok (.iinc 9 n, 3)) (hq : pc + 3 = q) (hn : 9 < knL μ) (hc : c1 a8 = true) (k : Rch γ d μ q (a0 :: a1 :: a2 :: a3 :: a4 :: a5 :: a6 :: a7 :: a8 :: some (.int (x + iz n)) :: t) st w Q X) : Rch γ d μ pc (a0 :: a1 :: a2 :: a3 :: a4 :: a5 :: a6 :: a7 :: a8 :: some (.int x) :: t) st w Q X :=
  R.iinc q hd hq rfl hn (hpS (i := 8) rfl hc) k
theorem R.ist10 {a0 a1 a2 a3 a4 a5 a6 a7 a8 a9 a10 : Option Value} {t : List (Option Value)} {x : Int32} (q : Nat) (hd : decode (kc μ) pc = .ok (.istore 10, 2)) (hq : pc + 2 = q) (hn : 10 < knL μ) (hc : c1 a9 = true) (k : Rch γ d μ q (a0 :: a1 :: a2 :: a3 :: a4 :: a5 :: a6 :: a7 :: a8 :: a9 :: some (.int x) :: t) st w Q X) : Rch γ d μ pc (a0 :: a1 :: a2 :: a3 :: a4 :: a5 :: a6 :: a7 :: a8 :: a9 :: a10 :: t) (.int x :: st) w Q X :=
  R.istore q hd hq hn (hpS (i := 9) rfl hc) k
theorem R.ast10 {a0 a1 a2 a3 a4 a5 a6 a7 a8 a9 a10 : Option Value} {t : List (Option Value)} {x : Nat} (q : Nat) (hd : decode (kc μ) pc = .ok (.astore 10, 2)) (hq : pc + 2 = q) (hn : 10 < knL μ) (hc : c1 a9 = true) (k : Rch γ d μ q (a0 :: a1 :: a2 :: a3 :: a4 :: a5 :: a6 :: a7 :: a8 :: a9 :: some (.ref x) :: t) st w Q X) : Rch γ d μ pc (a0 :: a1 :: a2 :: a3 :: a4 :: a5 :: a6 :: a7 :: a8 :: a9 :: a10 :: t) (.ref x :: st) w Q X :=
  R.astore q hd hq hn (hpS (i := 9) rfl hc) k
theorem R.qst10 {a0 a1 a2 a3 a4 a5 a6 a7 a8 a9 a10 : Option Value} {t : List (Option Value)} {x : Option Nat} (q : Nat) (hd : decode (kc μ) pc = .ok (.astore 10, 2)) (hq : pc + 2 = q) (hn : 10 < knL μ) (hc : c1 a9 = true) (k : Rch γ d μ q (a0 :: a1 :: a2 :: a3 :: a4 :: a5 :: a6 :: a7 :: a8 :: a9 :: some (rv x) :: t) st w Q X) : Rch γ d μ pc (a0 :: a1 :: a2 :: a3 :: a4 :: a5 :: a6 :: a7 :: a8 :: a9 :: a10 :: t) (rv x :: st) w Q X :=
  R.astoreQ q hd hq hn (hpS (i := 9) rfl hc) k
theorem R.lst10 {a0 a1 a2 a3 a4 a5 a6 a7 a8 a9 a10 a11 : Option Value} {t : List (Option Value)} {x : Int64} (q : Nat) (hd : decode (kc μ) pc = .ok (.lstore 10, 2)) (hq : pc + 2 = q) (hn : 11 < knL μ) (hc : c1 a9 = true) (k : Rch γ d μ q (a0 :: a1 :: a2 :: a3 :: a4 :: a5 :: a6 :: a7 :: a8 :: a9 :: some (.long x) :: none :: t) st w Q X) : Rch γ d μ pc (a0 :: a1 :: a2 :: a3 :: a4 :: a5 :: a6 :: a7 :: a8 :: a9 :: a10 :: a11 :: t) (.long x :: st) w Q X :=
  R.lstore q hd hq hn (hpS (i := 9) rfl hc) k
theorem R.inc10 {a0 a1 a2 a3 a4 a5 a6 a7 a8 a9 : Option Value} {t : List (Option Value)} {x : Int32} {n : Int} (q : Nat) (hd : decode (kc μ) pc = .ok (.iinc 10 n, 3)) (hq : pc + 3 = q) (hn : 10 < knL μ) (hc : c1 a9 = true) (k : Rch γ d μ q (a0 :: a1 :: a2 :: a3 :: a4 :: a5 :: a6 :: a7 :: a8 :: a9 :: some (.int (x + iz n)) :: t) st w Q X) : Rch γ d μ pc (a0 :: a1 :: a2 :: a3 :: a4 :: a5 :: a6 :: a7 :: a8 :: a9 :: some (.int x) :: t) st w Q X :=
  R.iinc q hd hq rfl hn (hpS (i := 9) rfl hc) k
theorem R.ist11 {a0 a1 a2 a3 a4 a5 a6 a7 a8 a9 a10 a11 : Option Value} {t : List (Option Value)} {x : Int32} (q : Nat) (hd : decode (kc μ) pc = .ok (.istore 11, 2)) (hq : pc + 2 = q) (hn : 11 < knL μ) (hc : c1 a10 = true) (k : Rch γ d μ q (a0 :: a1 :: a2 :: a3 :: a4 :: a5 :: a6 :: a7 :: a8 :: a9 :: a10 :: some (.int x) :: t) st w Q X) : Rch γ d μ pc (a0 :: a1 :: a2 :: a3 :: a4 :: a5 :: a6 :: a7 :: a8 :: a9 :: a10 :: a11 :: t) (.int x :: st) w Q X :=
  R.istore q hd hq hn (hpS (i := 10) rfl hc) k
theorem R.ast11 {a0 a1 a2 a3 a4 a5 a6 a7 a8 a9 a10 a11 : Option Value} {t : List (Option Value)} {x : Nat} (q : Nat) (hd : decode (kc μ) pc = .ok (.astore 11, 2)) (hq : pc + 2 = q) (hn : 11 < knL μ) (hc : c1 a10 = true) (k : Rch γ d μ q (a0 :: a1 :: a2 :: a3 :: a4 :: a5 :: a6 :: a7 :: a8 :: a9 :: a10 :: some (.ref x) :: t) st w Q X) : Rch γ d μ pc (a0 :: a1 :: a2 :: a3 :: a4 :: a5 :: a6 :: a7 :: a8 :: a9 :: a10 :: a11 :: t) (.ref x :: st) w Q X :=
  R.astore q hd hq hn (hpS (i := 10) rfl hc) k
theorem R.qst11 {a0 a1 a2 a3 a4 a5 a6 a7 a8 a9 a10 a11 : Option Value} {t : List (Option Value)} {x : Option Nat} (q : Nat) (hd : decode (kc μ) pc = .ok (.astore 11, 2)) (hq : pc + 2 = q) (hn : 11 < knL μ) (hc : c1 a10 = true) (k : Rch γ d μ q (a0 :: a1 :: a2 :: a3 :: a4 :: a5 :: a6 :: a7 :: a8 :: a9 :: a10 :: some (rv x) :: t) st w Q X) : Rch γ d μ pc (a0 :: a1 :: a2 :: a3 :: a4 :: a5 :: a6 :: a7 :: a8 :: a9 :: a10 :: a11 :: t) (rv x :: st) w Q X :=
  R.astoreQ q hd hq hn (hpS (i := 10) rfl hc) k
theorem R.lst11 {a0 a1 a2 a3 a4 a5 a6 a7 a8 a9 a10 a11 a12 : Option Value} {t : List (Option Value)} {x : Int64} (q : Nat) (hd : decode (kc μ) pc = .ok (.lstore 11, 2)) (hq : pc + 2 = q) (hn : 12 < knL μ) (hc : c1 a10 = true) (k : Rch γ d μ q (a0 :: a1 :: a2 :: a3 :: a4 :: a5 :: a6 :: a7 :: a8 :: a9 :: a10 :: some (.long x) :: none :: t) st w Q X) : Rch γ d μ pc (a0 :: a1 :: a2 :: a3 :: a4 :: a5 :: a6 :: a7 :: a8 :: a9 :: a10 :: a11 :: a12 :: t) (.long x :: st) w Q X :=
  R.lstore q hd hq hn (hpS (i := 10) rfl hc) k
theorem R.inc11 {a0 a1 a2 a3 a4 a5 a6 a7 a8 a9 a10 : Option Value} {t : List (Option Value)} {x : Int32} {n : Int} (q : Nat) (hd : decode (kc μ) pc = .ok (.iinc 11 n, 3)) (hq : pc + 3 = q) (hn : 11 < knL μ) (hc : c1 a10 = true) (k : Rch γ d μ q (a0 :: a1 :: a2 :: a3 :: a4 :: a5 :: a6 :: a7 :: a8 :: a9 :: a10 :: some (.int (x + iz n)) :: t) st w Q X) : Rch γ d μ pc (a0 :: a1 :: a2 :: a3 :: a4 :: a5 :: a6 :: a7 :: a8 :: a9 :: a10 :: some (.int x) :: t) st w Q X :=
  R.iinc q hd hq rfl hn (hpS (i := 10) rfl hc) k
theorem R.ist12 {a0 a1 a2 a3 a4 a5 a6 a7 a8 a9 a10 a11 a12 : Option Value} {t : List (Option Value)} {x : Int32} (q : Nat) (hd : decode (kc μ) pc = .ok (.istore 12, 2)) (hq : pc + 2 = q) (hn : 12 < knL μ) (hc : c1 a11 = true) (k : Rch γ d μ q (a0 :: a1 :: a2 :: a3 :: a4 :: a5 :: a6 :: a7 :: a8 :: a9 :: a10 :: a11 :: some (.int x) :: t) st w Q X) : Rch γ d μ pc (a0 :: a1 :: a2 :: a3 :: a4 :: a5 :: a6 :: a7 :: a8 :: a9 :: a10 :: a11 :: a12 :: t) (.int x :: st) w Q X :=
  R.istore q hd hq hn (hpS (i := 11) rfl hc) k
theorem R.ast12 {a0 a1 a2 a3 a4 a5 a6 a7 a8 a9 a10 a11 a12 : Option Value} {t : List (Option Value)} {x : Nat} (q : Nat) (hd : decode (kc μ) pc = .ok (.astore 12, 2)) (hq : pc + 2 = q) (hn : 12 < knL μ) (hc : c1 a11 = true) (k : Rch γ d μ q (a0 :: a1 :: a2 :: a3 :: a4 :: a5 :: a6 :: a7 :: a8 :: a9 :: a10 :: a11 :: some (.ref x) :: t) st w Q X) : Rch γ d μ pc (a0 :: a1 :: a2 :: a3 :: a4 :: a5 :: a6 :: a7 :: a8 :: a9 :: a10 :: a11 :: a12 :: t) (.ref x :: st) w Q X :=
  R.astore q hd hq hn (hpS (i := 11) rfl hc) k
theorem R.qst12 {a0 a1 a2 a3 a4 a5 a6 a7 a8 a9 a10 a11 a12 : Option Value} {t : List (Option Value)} {x : Option Nat} (q : Nat) (hd : decode (kc μ) pc = .ok (.astore 12, 2)) (hq : pc + 2 = q) (hn : 12 < knL μ) (hc : c1 a11 = true) (k : Rch γ d μ q (a0 :: a1 :: a2 :: a3 :: a4 :: a5 :: a6 :: a7 :: a8 :: a9 :: a10 :: a11 :: some (rv x) :: t) st w Q X) : Rch γ d μ pc (a0 :: a1 :: a2 :: a3 :: a4 :: a5 :: a6 :: a7 :: a8 :: a9 :: a10 :: a11 :: a12 :: t) (rv x :: st) w Q X :=
  R.astoreQ q hd hq hn (hpS (i := 11) rfl hc) k
theorem R.inc12 {a0 a1 a2 a3 a4 a5 a6 a7 a8 a9 a10 a11 : Option Value} {t : List (Option Value)} {x : Int32} {n : Int} (q : Nat) (hd : decode (kc μ) pc = .ok (.iinc 12 n, 3)) (hq : pc + 3 = q) (hn : 12 < knL μ) (hc : c1 a11 = true) (k : Rch γ d μ q (a0 :: a1 :: a2 :: a3 :: a4 :: a5 :: a6 :: a7 :: a8 :: a9 :: a10 :: a11 :: some (.int (x + iz n)) :: t) st w Q X) : Rch γ d μ pc (a0 :: a1 :: a2 :: a3 :: a4 :: a5 :: a6 :: a7 :: a8 :: a9 :: a10 :: a11 :: some (.int x) :: t) st w Q X :=
  R.iinc q hd hq rfl hn (hpS (i := 11) rfl hc) k
end RULES
