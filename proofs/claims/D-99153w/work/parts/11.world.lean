set_option maxRecDepth 100000
abbrev vwCl : List vw_C := [(RX1, TX1, 42), (RX3, TX3, 56), (RX5, TX5, 1), (RX6, TX6, 1), (RX7, TX7, 3), (RX8, TX8, 3), (RX9, TX9, 4), (RX11, TX11, 2), (RX12, TX12, 4), (RX13, TX13, 4), ("java/util/NoSuchElementException", fun _ => ("", "", "", false), 0), ("FrostBox$Fault", fun _ => ("", "", "", false), 0)]
def gtys (γ : GG) : List (ClassId × FieldType) := [(gtc γ 0, .int), (gtc γ 1, .byte), (gtc γ 2, .boolean), (gtc γ 3, .long), (gtc γ 4, .object "FrostBox$Clause")]
def xF (w : Wd) : List Value := [.ref 4, .ref 11, .int (gI w 12), .int (gI w 13), .int (gI w 14), .ref 15, .ref 16, .ref 17, .ref 18, .ref 19, .ref 20, .int (gI w 21), .int (gI w 22), .int (gI w 23), .ref 24, .ref 25, .int (gI w 26), .ref 27, .int (gI w 28), .int (gI w 29), .int (gI w 30), .ref 31, .ref 32, .int (gI w 33), .long (gJ w 34), .ref 35, .ref 36, .ref 37, .ref 38, .int (gI w 39), .ref 40, .ref 41, .ref 42, .int (gI w 43), .ref 44, .ref 45, .ref 46, .int (gI w 47), .int (gI w 48), .int (gI w 49), .ref 50, .int (gI w 51)]
def mF (w : Wd) : List Value := [.int (gI w 60), .ref 61, .ref 62, .ref 63, .ref 64, .ref (gT w), .int (gI w 66), .int (gI w 67), .int (gI w 68), .int (gI w 69), .int (gI w 70), .int (gI w 71), .int (gI w 72), .int (gI w 73), .int (gI w 74), .ref 120, .ref 121, .int (gI w 77), .ref 78, .ref 79, .ref 80, .ref 81, .ref 82, .ref 83, .ref 84, .int (gI w 85), .int (gI w 86), .int (gI w 87), .int (gI w 88), .int (gI w 89), .ref 90, .ref 91, .int (gI w 92), .int (gI w 93), .ref 94, .ref 95, .ref 96, .int (gI w 97), .long (gJ w 98), .int (gI w 99), .int (gI w 100), .ref 101, .ref 102, .int (gI w 103), .ref 104, .ref 105, .ref 106, .ref 107, .ref 108, .ref 109, .int (gI w 110), .int (gI w 111), .int (gI w 112), .int (gI w 113), .ref 114, .int (gI w 115)]
def fixL (γ : GG) (w : Wd) : va_W := [(gad γ 1, .inr (0, (xF w).map (cv γ))), (gad γ 2, .inr (1, (mF w).map (cv γ))), (gad γ 3, .inl (gtc γ 3, 1, .inr (.inl (fun j => gL w 3 j)))), (gad γ 11, .inl (gtc γ 1, 240, .inl (fun j => gA w 11 j))), (gad γ 15, .inl (gtc γ 0, 128, .inl (fun j => gA w 15 j))), (gad γ 16, .inl (gtc γ 0, 4, .inl (fun j => gA w 16 j))), (gad γ 17, .inl (gtc γ 0, 30, .inl (fun j => gA w 17 j))), (gad γ 18, .inl (gtc γ 0, 32, .inl (fun j => gA w 18 j))), (gad γ 19, .inl (gtc γ 0, 4, .inl (fun j => gA w 19 j))), (gad γ 20, .inl (gtc γ 0, 30, .inl (fun j => gA w 20 j))), (gad γ 24, .inl (gtc γ 0, 320, .inl (fun j => gA w 24 j))), (gad γ 25, .inl (gtc γ 0, 5, .inl (fun j => gA w 25 j))), (gad γ 27, .inl (gtc γ 4, 4, .inr (.inr (.inr (.inr (fun j => (gC w j).map (gad γ))))))), (gad γ 31, .inl (gtc γ 0, 275, .inl (fun j => gA w 31 j))), (gad γ 32, .inl (gtc γ 0, 11000, .inl (fun j => gA w 32 j))), (gad γ 35, .inl (gtc γ 0, 275, .inl (fun j => gA w 35 j))), (gad γ 36, .inl (gtc γ 0, 256, .inl (fun j => gA w 36 j))), (gad γ 37, .inl (gtc γ 0, 12, .inl (fun j => gA w 37 j))), (gad γ 38, .inl (gtc γ 0, 12, .inl (fun j => gA w 38 j))), (gad γ 40, .inl (gtc γ 0, 10, .inl (fun j => gA w 40 j))), (gad γ 41, .inl (gtc γ 0, 10, .inl (fun j => gA w 41 j))), (gad γ 42, .inl (gtc γ 2, 10, .inl (fun j => gA w 42 j))), (gad γ 44, .inl (gtc γ 0, 6, .inl (fun j => gA w 44 j))), (gad γ 45, .inl (gtc γ 0, 6, .inl (fun j => gA w 45 j))), (gad γ 46, .inl (gtc γ 0, 6, .inl (fun j => gA w 46 j))), (gad γ 50, .inl (gtc γ 0, 275, .inl (fun j => gA w 50 j))), (gad γ 61, .inl (gtc γ 1, 240, .inl (fun j => gA w 61 j))), (gad γ 62, .inl (gtc γ 1, 960, .inl (fun j => gA w 62 j))), (gad γ 63, .inl (gtc γ 0, 4, .inl (fun j => gA w 63 j))), (gad γ 64, .inl (gtc γ 0, 128, .inl (fun j => gA w 64 j))), (gad γ 78, .inl (gtc γ 0, 4, .inl (fun j => gA w 78 j))), (gad γ 79, .inl (gtc γ 0, 4, .inl (fun j => gA w 79 j))), (gad γ 80, .inl (gtc γ 0, 30, .inl (fun j => gA w 80 j))), (gad γ 81, .inl (gtc γ 0, 30, .inl (fun j => gA w 81 j))), (gad γ 82, .inl (gtc γ 0, 32, .inl (fun j => gA w 82 j))), (gad γ 83, .inl (gtc γ 0, 320, .inl (fun j => gA w 83 j))), (gad γ 84, .inl (gtc γ 0, 5, .inl (fun j => gA w 84 j))), (gad γ 90, .inl (gtc γ 0, 283, .inl (fun j => gA w 90 j))), (gad γ 91, .inl (gtc γ 0, 283, .inl (fun j => gA w 91 j))), (gad γ 94, .inl (gtc γ 3, 8191, .inr (.inl (fun j => gL w 94 j)))), (gad γ 95, .inl (gtc γ 0, 8191, .inl (fun j => gA w 95 j))), (gad γ 96, .inl (gtc γ 0, 11320, .inl (fun j => gA w 96 j))), (gad γ 101, .inl (gtc γ 0, 12, .inl (fun j => gA w 101 j))), (gad γ 102, .inl (gtc γ 0, 12, .inl (fun j => gA w 102 j))), (gad γ 104, .inl (gtc γ 0, 10, .inl (fun j => gA w 104 j))), (gad γ 105, .inl (gtc γ 0, 10, .inl (fun j => gA w 105 j))), (gad γ 106, .inl (gtc γ 0, 6, .inl (fun j => gA w 106 j))), (gad γ 107, .inl (gtc γ 0, 6, .inl (fun j => gA w 107 j))), (gad γ 108, .inl (gtc γ 0, 6, .inl (fun j => gA w 108 j))), (gad γ 109, .inl (gtc γ 2, 10, .inl (fun j => gA w 109 j))), (gad γ 114, .inl (gtc γ 0, 283, .inl (fun j => gA w 114 j)))]
def nds (γ : GG) (w : Wd) (K : List Nat) : va_W := K.map (fun q => (q, .inr (match gF w (200 + q) with
  | some n => (n.1, n.2.map (cv γ))
  | none => (0, []))))
def cells (γ : GG) (w : Wd) (K : List Nat) : va_W := fixL γ w ++ nds γ w K
theorem fixL_len (γ : GG) (w : Wd) : (fixL γ w).length = 51 := rfl
theorem clampI {i : Int32} (h : 0 ≤ i.toInt) : ((i.toNatClampNeg : Nat) : Int) = i.toInt := by
  show ((i.toInt.toNat : Nat) : Int) = i.toInt
  omega
theorem upd_sA (w : Wd) (a : Nat) {i : Int32} (x : Int32) (h : 0 ≤ i.toInt) : upd (fun j : Nat => gA w a j) i.toNatClampNeg x = fun j : Nat => gA (sA w a i.toInt x) a j := by
  have e := clampI h
  funext j
  by_cases hj : j = i.toNatClampNeg
  · subst hj
    simp [upd, gA, sA, e]
  · have : ¬ (j : Int) = i.toInt := by omega
    simp [upd, gA, sA, hj, this]
theorem upd_sL (w : Wd) (a : Nat) {i : Int32} (x : Int64) (h : 0 ≤ i.toInt) : vp_updL (fun j : Nat => gL w a j) i.toNatClampNeg x = fun j : Nat => gL (sL w a i.toInt x) a j := by
  have e := clampI h
  funext j
  by_cases hj : j = i.toNatClampNeg
  · subst hj
    simp [vp_updL, gL, sL, e]
  · have : ¬ (j : Int) = i.toInt := by omega
    simp [vp_updL, gL, sL, hj, this]
theorem upd_sC (γ : GG) (w : Wd) {i : Int32} (x : Nat) (h : 0 ≤ i.toInt) : va_up (fun j : Nat => (gC w j).map (gad γ)) i.toNatClampNeg (some (gad γ x)) = fun j : Nat => (gC (sC w i.toInt (some x)) j).map (gad γ) := by
  have e := clampI h
  funext j
  by_cases hj : j = i.toNatClampNeg
  · subst hj
    simp [va_up, gC, sC, e]
  · have : ¬ (j : Int) = i.toInt := by omega
    simp [va_up, gC, sC, hj, this]
/-- an array of ints (bytes, booleans: t) of n places, numbered a, at the place q of the world -/
def AI (a q n t : Nat) : Prop := ∀ (γ : GG) (w : Wd), (fixL γ w)[q]? = some (gad γ a, .inl (gtc γ t, n, .inl (fun j => gA w a j))) ∧ ∀ (i x : Int32), 0 ≤ i.toInt → (fixL γ w).set q (gad γ a, .inl (gtc γ t, n, .inl (upd (fun j => gA w a j) i.toNatClampNeg x))) = fixL γ (sA w a i.toInt x)
def AL (a q n : Nat) : Prop := ∀ (γ : GG) (w : Wd), (fixL γ w)[q]? = some (gad γ a, .inl (gtc γ 3, n, .inr (.inl (fun j => gL w a j)))) ∧ ∀ (i : Int32) (x : Int64), 0 ≤ i.toInt → (fixL γ w).set q (gad γ a, .inl (gtc γ 3, n, .inr (.inl (vp_updL (fun j => gL w a j) i.toNatClampNeg x)))) = fixL γ (sL w a i.toInt x)
theorem ar_3 : AL 3 2 1 := fun γ w => ⟨rfl, fun i x h => by rw [upd_sL w 3 x h]; rfl⟩
theorem ar_11 : AI 11 3 240 1 := fun γ w => ⟨rfl, fun i x h => by rw [upd_sA w 11 x h]; rfl⟩
theorem ar_15 : AI 15 4 128 0 := fun γ w => ⟨rfl, fun i x h => by rw [upd_sA w 15 x h]; rfl⟩
theorem ar_16 : AI 16 5 4 0 := fun γ w => ⟨rfl, fun i x h => by rw [upd_sA w 16 x h]; rfl⟩
theorem ar_17 : AI 17 6 30 0 := fun γ w => ⟨rfl, fun i x h => by rw [upd_sA w 17 x h]; rfl⟩
theorem ar_18 : AI 18 7 32 0 := fun γ w => ⟨rfl, fun i x h => by rw [upd_sA w 18 x h]; rfl⟩
theorem ar_19 : AI 19 8 4 0 := fun γ w => ⟨rfl, fun i x h => by rw [upd_sA w 19 x h]; rfl⟩
theorem ar_20 : AI 20 9 30 0 := fun γ w => ⟨rfl, fun i x h => by rw [upd_sA w 20 x h]; rfl⟩
theorem ar_24 : AI 24 10 320 0 := fun γ w => ⟨rfl, fun i x h => by rw [upd_sA w 24 x h]; rfl⟩
theorem ar_25 : AI 25 11 5 0 := fun γ w => ⟨rfl, fun i x h => by rw [upd_sA w 25 x h]; rfl⟩
theorem ar_27 (γ : GG) (w : Wd) : (fixL γ w)[12]? = some (gad γ 27, .inl (gtc γ 4, 4, .inr (.inr (.inr (.inr (fun j => (gC w j).map (gad γ))))))) ∧ ∀ (i : Int32) (x : Nat), 0 ≤ i.toInt → (fixL γ w).set 12 (gad γ 27, .inl (gtc γ 4, 4, .inr (.inr (.inr (.inr (va_up (fun j => (gC w j).map (gad γ)) i.toNatClampNeg (some (gad γ x)))))))) = fixL γ (sC w i.toInt (some x)) := ⟨rfl, fun i x h => by rw [upd_sC γ w x h]; rfl⟩
theorem ar_31 : AI 31 13 275 0 := fun γ w => ⟨rfl, fun i x h => by rw [upd_sA w 31 x h]; rfl⟩
theorem ar_32 : AI 32 14 11000 0 := fun γ w => ⟨rfl, fun i x h => by rw [upd_sA w 32 x h]; rfl⟩
theorem ar_35 : AI 35 15 275 0 := fun γ w => ⟨rfl, fun i x h => by rw [upd_sA w 35 x h]; rfl⟩
theorem ar_36 : AI 36 16 256 0 := fun γ w => ⟨rfl, fun i x h => by rw [upd_sA w 36 x h]; rfl⟩
theorem ar_37 : AI 37 17 12 0 := fun γ w => ⟨rfl, fun i x h => by rw [upd_sA w 37 x h]; rfl⟩
theorem ar_38 : AI 38 18 12 0 := fun γ w => ⟨rfl, fun i x h => by rw [upd_sA w 38 x h]; rfl⟩
theorem ar_40 : AI 40 19 10 0 := fun γ w => ⟨rfl, fun i x h => by rw [upd_sA w 40 x h]; rfl⟩
theorem ar_41 : AI 41 20 10 0 := fun γ w => ⟨rfl, fun i x h => by rw [upd_sA w 41 x h]; rfl⟩
theorem ar_42 : AI 42 21 10 2 := fun γ w => ⟨rfl, fun i x h => by rw [upd_sA w 42 x h]; rfl⟩
theorem ar_44 : AI 44 22 6 0 := fun γ w => ⟨rfl, fun i x h => by rw [upd_sA w 44 x h]; rfl⟩
theorem ar_45 : AI 45 23 6 0 := fun γ w => ⟨rfl, fun i x h => by rw [upd_sA w 45 x h]; rfl⟩
theorem ar_46 : AI 46 24 6 0 := fun γ w => ⟨rfl, fun i x h => by rw [upd_sA w 46 x h]; rfl⟩
theorem ar_50 : AI 50 25 275 0 := fun γ w => ⟨rfl, fun i x h => by rw [upd_sA w 50 x h]; rfl⟩
theorem ar_61 : AI 61 26 240 1 := fun γ w => ⟨rfl, fun i x h => by rw [upd_sA w 61 x h]; rfl⟩
theorem ar_62 : AI 62 27 960 1 := fun γ w => ⟨rfl, fun i x h => by rw [upd_sA w 62 x h]; rfl⟩
theorem ar_63 : AI 63 28 4 0 := fun γ w => ⟨rfl, fun i x h => by rw [upd_sA w 63 x h]; rfl⟩
theorem ar_64 : AI 64 29 128 0 := fun γ w => ⟨rfl, fun i x h => by rw [upd_sA w 64 x h]; rfl⟩
theorem ar_78 : AI 78 30 4 0 := fun γ w => ⟨rfl, fun i x h => by rw [upd_sA w 78 x h]; rfl⟩
theorem ar_79 : AI 79 31 4 0 := fun γ w => ⟨rfl, fun i x h => by rw [upd_sA w 79 x h]; rfl⟩
theorem ar_80 : AI 80 32 30 0 := fun γ w => ⟨rfl, fun i x h => by rw [upd_sA w 80 x h]; rfl⟩
theorem ar_81 : AI 81 33 30 0 := fun γ w => ⟨rfl, fun i x h => by rw [upd_sA w 81 x h]; rfl⟩
theorem ar_82 : AI 82 34 32 0 := fun γ w => ⟨rfl, fun i x h => by rw [upd_sA w 82 x h]; rfl⟩
theorem ar_83 : AI 83 35 320 0 := fun γ w => ⟨rfl, fun i x h => by rw [upd_sA w 83 x h]; rfl⟩
theorem ar_84 : AI 84 36 5 0 := fun γ w => ⟨rfl, fun i x h => by rw [upd_sA w 84 x h]; rfl⟩
theorem ar_90 : AI 90 37 283 0 := fun γ w => ⟨rfl, fun i x h => by rw [upd_sA w 90 x h]; rfl⟩
theorem ar_91 : AI 91 38 283 0 := fun γ w => ⟨rfl, fun i x h => by rw [upd_sA w 91 x h]; rfl⟩
theorem ar_94 : AL 94 39 8191 := fun γ w => ⟨rfl, fun i x h => by rw [upd_sL w 94 x h]; rfl⟩
theorem ar_95 : AI 95 40 8191 0 := fun γ w => ⟨rfl, fun i x h => by rw [upd_sA w 95 x h]; rfl⟩
theorem ar_96 : AI 96 41 11320 0 := fun γ w => ⟨rfl, fun i x h => by rw [upd_sA w 96 x h]; rfl⟩
theorem ar_101 : AI 101 42 12 0 := fun γ w => ⟨rfl, fun i x h => by rw [upd_sA w 101 x h]; rfl⟩
theorem ar_102 : AI 102 43 12 0 := fun γ w => ⟨rfl, fun i x h => by rw [upd_sA w 102 x h]; rfl⟩
theorem ar_104 : AI 104 44 10 0 := fun γ w => ⟨rfl, fun i x h => by rw [upd_sA w 104 x h]; rfl⟩
theorem ar_105 : AI 105 45 10 0 := fun γ w => ⟨rfl, fun i x h => by rw [upd_sA w 105 x h]; rfl⟩
theorem ar_106 : AI 106 46 6 0 := fun γ w => ⟨rfl, fun i x h => by rw [upd_sA w 106 x h]; rfl⟩
theorem ar_107 : AI 107 47 6 0 := fun γ w => ⟨rfl, fun i x h => by rw [upd_sA w 107 x h]; rfl⟩
theorem ar_108 : AI 108 48 6 0 := fun γ w => ⟨rfl, fun i x h => by rw [upd_sA w 108 x h]; rfl⟩
theorem ar_109 : AI 109 49 10 2 := fun γ w => ⟨rfl, fun i x h => by rw [upd_sA w 109 x h]; rfl⟩
theorem ar_114 : AI 114 50 283 0 := fun γ w => ⟨rfl, fun i x h => by rw [upd_sA w 114 x h]; rfl⟩
/-- a field of the objects: k-th of the class at the place c, its value's word after a write -/
def FX (c k : Nat) (F : Wd → List Value) (v : Value) (S : Wd → Wd) : Prop := ∀ (γ : GG) (w : Wd), (fixL γ w).set c (gad γ (c + 1), .inr (c, ((F w).map (cv γ)).set k (cv γ v))) = fixL γ (S w)
theorem fx_12 (v : Int32) : FX 0 2 xF (.int v) (fun w => sI w 12 v) := fun γ w => rfl
theorem fx_13 (v : Int32) : FX 0 3 xF (.int v) (fun w => sI w 13 v) := fun γ w => rfl
theorem fx_14 (v : Int32) : FX 0 4 xF (.int v) (fun w => sI w 14 v) := fun γ w => rfl
theorem fx_21 (v : Int32) : FX 0 11 xF (.int v) (fun w => sI w 21 v) := fun γ w => rfl
theorem fx_22 (v : Int32) : FX 0 12 xF (.int v) (fun w => sI w 22 v) := fun γ w => rfl
theorem fx_23 (v : Int32) : FX 0 13 xF (.int v) (fun w => sI w 23 v) := fun γ w => rfl
theorem fx_26 (v : Int32) : FX 0 16 xF (.int v) (fun w => sI w 26 v) := fun γ w => rfl
theorem fx_28 (v : Int32) : FX 0 18 xF (.int v) (fun w => sI w 28 v) := fun γ w => rfl
theorem fx_29 (v : Int32) : FX 0 19 xF (.int v) (fun w => sI w 29 v) := fun γ w => rfl
theorem fx_30 (v : Int32) : FX 0 20 xF (.int v) (fun w => sI w 30 v) := fun γ w => rfl
theorem fx_33 (v : Int32) : FX 0 23 xF (.int v) (fun w => sI w 33 v) := fun γ w => rfl
theorem fx_34 (v : Int64) : FX 0 24 xF (.long v) (fun w => sJ w 34 v) := fun γ w => rfl
theorem fx_39 (v : Int32) : FX 0 29 xF (.int v) (fun w => sI w 39 v) := fun γ w => rfl
theorem fx_43 (v : Int32) : FX 0 33 xF (.int v) (fun w => sI w 43 v) := fun γ w => rfl
theorem fx_47 (v : Int32) : FX 0 37 xF (.int v) (fun w => sI w 47 v) := fun γ w => rfl
theorem fx_48 (v : Int32) : FX 0 38 xF (.int v) (fun w => sI w 48 v) := fun γ w => rfl
theorem fx_49 (v : Int32) : FX 0 39 xF (.int v) (fun w => sI w 49 v) := fun γ w => rfl
theorem fx_51 (v : Int32) : FX 0 41 xF (.int v) (fun w => sI w 51 v) := fun γ w => rfl
theorem fx_60 (v : Int32) : FX 1 0 mF (.int v) (fun w => sI w 60 v) := fun γ w => rfl
theorem fx_65 (v : Nat) : FX 1 5 mF (.ref v) (fun w => sT w v) := fun γ w => rfl
theorem fx_66 (v : Int32) : FX 1 6 mF (.int v) (fun w => sI w 66 v) := fun γ w => rfl
theorem fx_67 (v : Int32) : FX 1 7 mF (.int v) (fun w => sI w 67 v) := fun γ w => rfl
theorem fx_68 (v : Int32) : FX 1 8 mF (.int v) (fun w => sI w 68 v) := fun γ w => rfl
theorem fx_69 (v : Int32) : FX 1 9 mF (.int v) (fun w => sI w 69 v) := fun γ w => rfl
theorem fx_70 (v : Int32) : FX 1 10 mF (.int v) (fun w => sI w 70 v) := fun γ w => rfl
theorem fx_71 (v : Int32) : FX 1 11 mF (.int v) (fun w => sI w 71 v) := fun γ w => rfl
theorem fx_72 (v : Int32) : FX 1 12 mF (.int v) (fun w => sI w 72 v) := fun γ w => rfl
theorem fx_73 (v : Int32) : FX 1 13 mF (.int v) (fun w => sI w 73 v) := fun γ w => rfl
theorem fx_74 (v : Int32) : FX 1 14 mF (.int v) (fun w => sI w 74 v) := fun γ w => rfl
theorem fx_77 (v : Int32) : FX 1 17 mF (.int v) (fun w => sI w 77 v) := fun γ w => rfl
theorem fx_85 (v : Int32) : FX 1 25 mF (.int v) (fun w => sI w 85 v) := fun γ w => rfl
theorem fx_86 (v : Int32) : FX 1 26 mF (.int v) (fun w => sI w 86 v) := fun γ w => rfl
theorem fx_87 (v : Int32) : FX 1 27 mF (.int v) (fun w => sI w 87 v) := fun γ w => rfl
theorem fx_88 (v : Int32) : FX 1 28 mF (.int v) (fun w => sI w 88 v) := fun γ w => rfl
theorem fx_89 (v : Int32) : FX 1 29 mF (.int v) (fun w => sI w 89 v) := fun γ w => rfl
theorem fx_92 (v : Int32) : FX 1 32 mF (.int v) (fun w => sI w 92 v) := fun γ w => rfl
theorem fx_93 (v : Int32) : FX 1 33 mF (.int v) (fun w => sI w 93 v) := fun γ w => rfl
theorem fx_97 (v : Int32) : FX 1 37 mF (.int v) (fun w => sI w 97 v) := fun γ w => rfl
theorem fx_98 (v : Int64) : FX 1 38 mF (.long v) (fun w => sJ w 98 v) := fun γ w => rfl
theorem fx_99 (v : Int32) : FX 1 39 mF (.int v) (fun w => sI w 99 v) := fun γ w => rfl
theorem fx_100 (v : Int32) : FX 1 40 mF (.int v) (fun w => sI w 100 v) := fun γ w => rfl
theorem fx_103 (v : Int32) : FX 1 43 mF (.int v) (fun w => sI w 103 v) := fun γ w => rfl
theorem fx_110 (v : Int32) : FX 1 50 mF (.int v) (fun w => sI w 110 v) := fun γ w => rfl
theorem fx_111 (v : Int32) : FX 1 51 mF (.int v) (fun w => sI w 111 v) := fun γ w => rfl
theorem fx_112 (v : Int32) : FX 1 52 mF (.int v) (fun w => sI w 112 v) := fun γ w => rfl
theorem fx_113 (v : Int32) : FX 1 53 mF (.int v) (fun w => sI w 113 v) := fun γ w => rfl
theorem fx_115 (v : Int32) : FX 1 55 mF (.int v) (fun w => sI w 115 v) := fun γ w => rfl
