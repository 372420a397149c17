/-! the usual numbers first -/
section US
variable {t : Int → Int} {n l p d o : Int} {a m : Nat} {w : Wd} {Q X : Wd → Prop}
theorem cnI_bd (h : KdI l) : 4 ≤ cnI l ∧ cnI l ≤ 5 := by rcases h with rfl | rfl | rfl <;> decide
theorem x_items (h : KdI l) (na : a ≠ 11) (rm : roI l a o) (S : PX t n p w) (x : ∀ w', fI p13 a o (cnI l) w w' → PX t n p w' → vaI l a o (usI l) w' → XiI l a o m (iz 0) w' Q X) : wp_X1_items (iz l) a (iz o) (iz (cnI l)) w Q X := by
  have cb := cnI_bd h
  have r1 := rm.1; have r2 := rm.2.1
  refine lpe (fun n (s : Int32 × Wd) => lp_X1_items_3 Q X (iz l) a (iz o) (iz (cnI l)) n s.1 s.2) (fun R s => wl_X1_items_3 Q X (iz l) a (iz o) (iz (cnI l)) (fun x y => R (x, y)) s.1 s.2) (fun _ _ h => h) (fun k s => 0 ≤ k ∧ ∃ w', s = (iz k, w') ∧ fI p13 a o (cnI l) w w' ∧ PX t n p w' ∧ ∀ i, 0 ≤ i → i < k → gA w' a (o + i) = iz (usI l i)) (cnI l) 0 (iz 0, w) (by omega) ⟨by decide, w, rfl, fI.refl w, S, fun i a b => by omega⟩ ?_
  rintro R _ k hk ⟨hk0, w', rfl, f, S', hv⟩ k2
  show wl_X1_items_3 Q X (iz l) a (iz o) (iz (cnI l)) (fun x y => R (x, y)) (iz k) w'
  unfold wl_X1_items_3
  refine br (iz_le (by omega) (by omega) (by omega) (by omega)) (fun e => ⟨_, x w' f S' (fun i i0 i1 => hv i i0 (by omega))⟩) (fun e => x_usualI h hk0 (by omega) ?_)
  rw [iz_add, iz_toInt (by omega) (by omega), iz_add]
  refine ⟨rm.2.2 k hk0 (by omega), ?_⟩
  rintro w4 rfl
  refine k2 (by omega) _ ⟨by omega, _, rfl, f.set ⟨by omega, by omega⟩ _, S'.set na _ _, fun i i0 i1 => ?_⟩
  rw [g24]
  by_cases ei : i = k
  · rw [if_pos (by omega), ei]
  · rw [if_neg (by omega)]
    exact hv i i0 (by omega)
theorem m_items (h : KdI l) (na : a ≠ 61) (nb : a ≠ 62) (rm : roI l a o) (S : MS0 t n p d w) (x : ∀ w', fI p70 a o (cnI l) w w' → MS0 t n p d w' → vaI l a o (usI l) w' → MiI l a o m (iz 0) w' Q) : wp_X3_readItems (iz l) a (iz o) (stI l) w Q := by
  have cb := cnI_bd h
  have r1 := rm.1; have r2 := rm.2.1
  have st : stI l < 6 := by rcases h with rfl | rfl | rfl <;> decide
  have sl : sLn (stI l) = cnI l := by rcases h with rfl | rfl | rfl <;> decide
  refine lpe (fun n (s : Int32 × Wd) => lp_X3_readItems_3 Q (iz l) a (iz o) (stI l) n s.1 s.2) (fun R s => wl_X3_readItems_3 Q (iz l) a (iz o) (stI l) (fun x y => R (x, y)) s.1 s.2) (fun _ _ h => h) (fun k s => 0 ≤ k ∧ ∃ w', s = (iz k, w') ∧ fI p70 a o (cnI l) w w' ∧ MS0 t n p d w' ∧ ∀ i, 0 ≤ i → i < k → gA w' a (o + i) = iz (usI l i)) (cnI l) 0 (iz 0, w) (by omega) ⟨by decide, w, rfl, fI.refl w, S, fun i a b => by omega⟩ ?_
  rintro R _ k hk ⟨hk0, w', rfl, f, S', hv⟩ k2
  show wl_X3_readItems_3 Q (iz l) a (iz o) (stI l) (fun x y => R (x, y)) (iz k) w'
  unfold wl_X3_readItems_3
  refine ⟨st, s_length st ?_⟩
  rw [sl]
  refine br (iz_le (by omega) (by omega) (by omega) (by omega)) (fun e => ?_) (fun e => m_usualI h hk0 (by omega) ?_)
  · have y := x w' f S' (fun i i0 i1 => hv i i0 (by omega))
    sorry
  rw [iz_add, iz_toInt (by omega) (by omega), iz_add]
  refine ⟨rm.2.2 k hk0 (by omega), ?_⟩
  rintro w4 rfl
  refine k2 (by omega) _ ⟨by omega, _, rfl, f.set ⟨by omega, by omega⟩ _, S'.set na nb _ _, fun i i0 i1 => ?_⟩
  rw [g24]
  by_cases ei : i = k
  · rw [if_pos (by omega), ei]
  · rw [if_neg (by omega)]
    exact hv i i0 (by omega)
end US
