set_option maxRecDepth 100000
section FL
variable {γ : GG} {d : Nat} {μ : MK} {pc : Nat} {ls : List (Option Value)} {st : List Value} {w : Wd} {Q : Option Value → Wd → Prop} {X : String → Wd → Prop}
theorem gf_10 (q : Nat) (hd : decode (kc μ) pc = .ok (.getfield 12, 3)) (hq : pc + 3 = q) (ho : kown μ = "FrostBox") (k : Rch γ d μ q ls (.ref 4 :: st) w Q X) : Rch γ d μ pc ls (.ref 1 :: st) w Q X := R.getX (k0 := 0) (nm := "fault") (ds := "LFrostBox$Fault;") q hd hq ho q233 rfl (by decide) rfl k
theorem gf_11 (q : Nat) (hd : decode (kc μ) pc = .ok (.getfield 16, 3)) (hq : pc + 3 = q) (ho : kown μ = "FrostBox") (k : Rch γ d μ q ls (.ref 11 :: st) w Q X) : Rch γ d μ pc ls (.ref 1 :: st) w Q X := R.getX (k0 := 1) (nm := "tape") (ds := "[B") q hd hq ho q234 rfl (by decide) rfl k
theorem gf_15 (q : Nat) (hd : decode (kc μ) pc = .ok (.getfield 20, 3)) (hq : pc + 3 = q) (ho : kown μ = "FrostBox") (k : Rch γ d μ q ls (.ref 15 :: st) w Q X) : Rch γ d μ pc ls (.ref 1 :: st) w Q X := R.getX (k0 := 5) (nm := "letters") (ds := "[I") q hd hq ho q238 rfl (by decide) rfl k
theorem gf_16 (q : Nat) (hd : decode (kc μ) pc = .ok (.getfield 24, 3)) (hq : pc + 3 = q) (ho : kown μ = "FrostBox") (k : Rch γ d μ q ls (.ref 16 :: st) w Q X) : Rch γ d μ pc ls (.ref 1 :: st) w Q X := R.getX (k0 := 6) (nm := "readRule") (ds := "[I") q hd hq ho q239 rfl (by decide) rfl k
theorem gf_17 (q : Nat) (hd : decode (kc μ) pc = .ok (.getfield 27, 3)) (hq : pc + 3 = q) (ho : kown μ = "FrostBox") (k : Rch γ d μ q ls (.ref 17 :: st) w Q X) : Rch γ d μ pc ls (.ref 1 :: st) w Q X := R.getX (k0 := 7) (nm := "readKind") (ds := "[I") q hd hq ho q240 rfl (by decide) rfl k
theorem gf_18 (q : Nat) (hd : decode (kc μ) pc = .ok (.getfield 30, 3)) (hq : pc + 3 = q) (ho : kown μ = "FrostBox") (k : Rch γ d μ q ls (.ref 18 :: st) w Q X) : Rch γ d μ pc ls (.ref 1 :: st) w Q X := R.getX (k0 := 8) (nm := "readBox") (ds := "[I") q hd hq ho q241 rfl (by decide) rfl k
theorem gf_19 (q : Nat) (hd : decode (kc μ) pc = .ok (.getfield 33, 3)) (hq : pc + 3 = q) (ho : kown μ = "FrostBox") (k : Rch γ d μ q ls (.ref 19 :: st) w Q X) : Rch γ d μ pc ls (.ref 1 :: st) w Q X := R.getX (k0 := 9) (nm := "rules") (ds := "[I") q hd hq ho q242 rfl (by decide) rfl k
theorem gf_20 (q : Nat) (hd : decode (kc μ) pc = .ok (.getfield 36, 3)) (hq : pc + 3 = q) (ho : kown μ = "FrostBox") (k : Rch γ d μ q ls (.ref 20 :: st) w Q X) : Rch γ d μ pc ls (.ref 1 :: st) w Q X := R.getX (k0 := 10) (nm := "kinds") (ds := "[I") q hd hq ho q243 rfl (by decide) rfl k
theorem gf_24 (q : Nat) (hd : decode (kc μ) pc = .ok (.getfield 39, 3)) (hq : pc + 3 = q) (ho : kown μ = "FrostBox") (k : Rch γ d μ q ls (.ref 24 :: st) w Q X) : Rch γ d μ pc ls (.ref 1 :: st) w Q X := R.getX (k0 := 14) (nm := "plans") (ds := "[I") q hd hq ho q247 rfl (by decide) rfl k
theorem gf_25 (q : Nat) (hd : decode (kc μ) pc = .ok (.getfield 42, 3)) (hq : pc + 3 = q) (ho : kown μ = "FrostBox") (k : Rch γ d μ q ls (.ref 25 :: st) w Q X) : Rch γ d μ pc ls (.ref 1 :: st) w Q X := R.getX (k0 := 15) (nm := "planLong") (ds := "[I") q hd hq ho q248 rfl (by decide) rfl k
theorem gf_27 (q : Nat) (hd : decode (kc μ) pc = .ok (.getfield 47, 3)) (hq : pc + 3 = q) (ho : kown μ = "FrostBox") (k : Rch γ d μ q ls (.ref 27 :: st) w Q X) : Rch γ d μ pc ls (.ref 1 :: st) w Q X := R.getX (k0 := 17) (nm := "laws") (ds := "[LFrostBox$Clause;") q hd hq ho q250 rfl (by decide) rfl k
theorem gf_29 (q : Nat) (hd : decode (kc μ) pc = .ok (.getfield 51, 3)) (hq : pc + 3 = q) (ho : kown μ = "FrostBox") (k : Rch γ d μ q ls (.int (gI w 29) :: st) w Q X) : Rch γ d μ pc ls (.ref 1 :: st) w Q X := R.getX (k0 := 19) (nm := "holding") (ds := "I") q hd hq ho q252 rfl (by decide) rfl k
theorem pf_29 (v : Int32) (q : Nat) (hd : decode (kc μ) pc = .ok (.putfield 51, 3)) (hq : pc + 3 = q) (ho : kown μ = "FrostBox") (k : Rch γ d μ q ls st (sI w 29 v) Q X) : Rch γ d μ pc ls (.int v :: .ref 1 :: st) w Q X := R.putX (k0 := 19) (nm := "holding") (ds := "I") (ty := .int) (S := fun w => sI w 29 v) q hd hq ho q252 rfl (by decide) (fx_29 v) (by decide +kernel) rfl rfl (fun _ => rfl) rfl rfl k
theorem gf_30 (q : Nat) (hd : decode (kc μ) pc = .ok (.getfield 55, 3)) (hq : pc + 3 = q) (ho : kown μ = "FrostBox") (k : Rch γ d μ q ls (.int (gI w 30) :: st) w Q X) : Rch γ d μ pc ls (.ref 1 :: st) w Q X := R.getX (k0 := 20) (nm := "habits") (ds := "I") q hd hq ho q253 rfl (by decide) rfl k
theorem pf_30 (v : Int32) (q : Nat) (hd : decode (kc μ) pc = .ok (.putfield 55, 3)) (hq : pc + 3 = q) (ho : kown μ = "FrostBox") (k : Rch γ d μ q ls st (sI w 30 v) Q X) : Rch γ d μ pc ls (.int v :: .ref 1 :: st) w Q X := R.putX (k0 := 20) (nm := "habits") (ds := "I") (ty := .int) (S := fun w => sI w 30 v) q hd hq ho q253 rfl (by decide) (fx_30 v) (by decide +kernel) rfl rfl (fun _ => rfl) rfl rfl k
theorem gf_31 (q : Nat) (hd : decode (kc μ) pc = .ok (.getfield 58, 3)) (hq : pc + 3 = q) (ho : kown μ = "FrostBox") (k : Rch γ d μ q ls (.ref 31 :: st) w Q X) : Rch γ d μ pc ls (.ref 1 :: st) w Q X := R.getX (k0 := 21) (nm := "now") (ds := "[I") q hd hq ho q254 rfl (by decide) rfl k
theorem gf_32 (q : Nat) (hd : decode (kc μ) pc = .ok (.getfield 61, 3)) (hq : pc + 3 = q) (ho : kown μ = "FrostBox") (k : Rch γ d μ q ls (.ref 32 :: st) w Q X) : Rch γ d μ pc ls (.ref 1 :: st) w Q X := R.getX (k0 := 22) (nm := "kept") (ds := "[I") q hd hq ho q255 rfl (by decide) rfl k
theorem gf_35 (q : Nat) (hd : decode (kc μ) pc = .ok (.getfield 64, 3)) (hq : pc + 3 = q) (ho : kown μ = "FrostBox") (k : Rch γ d μ q ls (.ref 35 :: st) w Q X) : Rch γ d μ pc ls (.ref 1 :: st) w Q X := R.getX (k0 := 25) (nm := "aside") (ds := "[I") q hd hq ho q258 rfl (by decide) rfl k
theorem gf_36 (q : Nat) (hd : decode (kc μ) pc = .ok (.getfield 67, 3)) (hq : pc + 3 = q) (ho : kown μ = "FrostBox") (k : Rch γ d μ q ls (.ref 36 :: st) w Q X) : Rch γ d μ pc ls (.ref 1 :: st) w Q X := R.getX (k0 := 26) (nm := "mostBy") (ds := "[I") q hd hq ho q259 rfl (by decide) rfl k
theorem gf_37 (q : Nat) (hd : decode (kc μ) pc = .ok (.getfield 70, 3)) (hq : pc + 3 = q) (ho : kown μ = "FrostBox") (k : Rch γ d μ q ls (.ref 37 :: st) w Q X) : Rch γ d μ pc ls (.ref 1 :: st) w Q X := R.getX (k0 := 27) (nm := "peekSort") (ds := "[I") q hd hq ho q260 rfl (by decide) rfl k
theorem gf_38 (q : Nat) (hd : decode (kc μ) pc = .ok (.getfield 73, 3)) (hq : pc + 3 = q) (ho : kown μ = "FrostBox") (k : Rch γ d μ q ls (.ref 38 :: st) w Q X) : Rch γ d μ pc ls (.ref 1 :: st) w Q X := R.getX (k0 := 28) (nm := "peekSeemed") (ds := "[I") q hd hq ho q261 rfl (by decide) rfl k
theorem gf_40 (q : Nat) (hd : decode (kc μ) pc = .ok (.getfield 76, 3)) (hq : pc + 3 = q) (ho : kown μ = "FrostBox") (k : Rch γ d μ q ls (.ref 40 :: st) w Q X) : Rch γ d μ pc ls (.ref 1 :: st) w Q X := R.getX (k0 := 30) (nm := "foundAt") (ds := "[I") q hd hq ho q263 rfl (by decide) rfl k
theorem gf_41 (q : Nat) (hd : decode (kc μ) pc = .ok (.getfield 79, 3)) (hq : pc + 3 = q) (ho : kown μ = "FrostBox") (k : Rch γ d μ q ls (.ref 41 :: st) w Q X) : Rch γ d μ pc ls (.ref 1 :: st) w Q X := R.getX (k0 := 31) (nm := "foundKind") (ds := "[I") q hd hq ho q264 rfl (by decide) rfl k
theorem gf_42 (q : Nat) (hd : decode (kc μ) pc = .ok (.getfield 82, 3)) (hq : pc + 3 = q) (ho : kown μ = "FrostBox") (k : Rch γ d μ q ls (.ref 42 :: st) w Q X) : Rch γ d μ pc ls (.ref 1 :: st) w Q X := R.getX (k0 := 32) (nm := "foundIs") (ds := "[Z") q hd hq ho q265 rfl (by decide) rfl k
theorem gf_44 (q : Nat) (hd : decode (kc μ) pc = .ok (.getfield 86, 3)) (hq : pc + 3 = q) (ho : kown μ = "FrostBox") (k : Rch γ d μ q ls (.ref 44 :: st) w Q X) : Rch γ d μ pc ls (.ref 1 :: st) w Q X := R.getX (k0 := 34) (nm := "leftOf") (ds := "[I") q hd hq ho q267 rfl (by decide) rfl k
theorem gf_45 (q : Nat) (hd : decode (kc μ) pc = .ok (.getfield 89, 3)) (hq : pc + 3 = q) (ho : kown μ = "FrostBox") (k : Rch γ d μ q ls (.ref 45 :: st) w Q X) : Rch γ d μ pc ls (.ref 1 :: st) w Q X := R.getX (k0 := 35) (nm := "rowOf") (ds := "[I") q hd hq ho q268 rfl (by decide) rfl k
theorem gf_46 (q : Nat) (hd : decode (kc μ) pc = .ok (.getfield 92, 3)) (hq : pc + 3 = q) (ho : kown μ = "FrostBox") (k : Rch γ d μ q ls (.ref 46 :: st) w Q X) : Rch γ d μ pc ls (.ref 1 :: st) w Q X := R.getX (k0 := 36) (nm := "shareOf") (ds := "[I") q hd hq ho q269 rfl (by decide) rfl k
theorem gf_50 (q : Nat) (hd : decode (kc μ) pc = .ok (.getfield 95, 3)) (hq : pc + 3 = q) (ho : kown μ = "FrostBox") (k : Rch γ d μ q ls (.ref 50 :: st) w Q X) : Rch γ d μ pc ls (.ref 1 :: st) w Q X := R.getX (k0 := 40) (nm := "image") (ds := "[I") q hd hq ho q273 rfl (by decide) rfl k
theorem gf_12 (q : Nat) (hd : decode (kc μ) pc = .ok (.getfield 102, 3)) (hq : pc + 3 = q) (ho : kown μ = "FrostBox") (k : Rch γ d μ q ls (.int (gI w 12) :: st) w Q X) : Rch γ d μ pc ls (.ref 1 :: st) w Q X := R.getX (k0 := 2) (nm := "taped") (ds := "I") q hd hq ho q235 rfl (by decide) rfl k
theorem pf_12 (v : Int32) (q : Nat) (hd : decode (kc μ) pc = .ok (.putfield 102, 3)) (hq : pc + 3 = q) (ho : kown μ = "FrostBox") (k : Rch γ d μ q ls st (sI w 12 v) Q X) : Rch γ d μ pc ls (.int v :: .ref 1 :: st) w Q X := R.putX (k0 := 2) (nm := "taped") (ds := "I") (ty := .int) (S := fun w => sI w 12 v) q hd hq ho q235 rfl (by decide) (fx_12 v) (by decide +kernel) rfl rfl (fun _ => rfl) rfl rfl k
theorem gf_13 (q : Nat) (hd : decode (kc μ) pc = .ok (.getfield 105, 3)) (hq : pc + 3 = q) (ho : kown μ = "FrostBox") (k : Rch γ d μ q ls (.int (gI w 13) :: st) w Q X) : Rch γ d μ pc ls (.ref 1 :: st) w Q X := R.getX (k0 := 3) (nm := "place") (ds := "I") q hd hq ho q236 rfl (by decide) rfl k
theorem pf_13 (v : Int32) (q : Nat) (hd : decode (kc μ) pc = .ok (.putfield 105, 3)) (hq : pc + 3 = q) (ho : kown μ = "FrostBox") (k : Rch γ d μ q ls st (sI w 13 v) Q X) : Rch γ d μ pc ls (.int v :: .ref 1 :: st) w Q X := R.putX (k0 := 3) (nm := "place") (ds := "I") (ty := .int) (S := fun w => sI w 13 v) q hd hq ho q236 rfl (by decide) (fx_13 v) (by decide +kernel) rfl rfl (fun _ => rfl) rfl rfl k
theorem gf_14 (q : Nat) (hd : decode (kc μ) pc = .ok (.getfield 108, 3)) (hq : pc + 3 = q) (ho : kown μ = "FrostBox") (k : Rch γ d μ q ls (.int (gI w 14) :: st) w Q X) : Rch γ d μ pc ls (.ref 1 :: st) w Q X := R.getX (k0 := 4) (nm := "deep") (ds := "I") q hd hq ho q237 rfl (by decide) rfl k
theorem pf_14 (v : Int32) (q : Nat) (hd : decode (kc μ) pc = .ok (.putfield 108, 3)) (hq : pc + 3 = q) (ho : kown μ = "FrostBox") (k : Rch γ d μ q ls st (sI w 14 v) Q X) : Rch γ d μ pc ls (.int v :: .ref 1 :: st) w Q X := R.putX (k0 := 4) (nm := "deep") (ds := "I") (ty := .int) (S := fun w => sI w 14 v) q hd hq ho q237 rfl (by decide) (fx_14 v) (by decide +kernel) rfl rfl (fun _ => rfl) rfl rfl k
theorem gf_21 (q : Nat) (hd : decode (kc μ) pc = .ok (.getfield 276, 3)) (hq : pc + 3 = q) (ho : kown μ = "FrostBox") (k : Rch γ d μ q ls (.int (gI w 21) :: st) w Q X) : Rch γ d μ pc ls (.ref 1 :: st) w Q X := R.getX (k0 := 11) (nm := "readKinds") (ds := "I") q hd hq ho q244 rfl (by decide) rfl k
theorem pf_21 (v : Int32) (q : Nat) (hd : decode (kc μ) pc = .ok (.putfield 276, 3)) (hq : pc + 3 = q) (ho : kown μ = "FrostBox") (k : Rch γ d μ q ls st (sI w 21 v) Q X) : Rch γ d μ pc ls (.int v :: .ref 1 :: st) w Q X := R.putX (k0 := 11) (nm := "readKinds") (ds := "I") (ty := .int) (S := fun w => sI w 21 v) q hd hq ho q244 rfl (by decide) (fx_21 v) (by decide +kernel) rfl rfl (fun _ => rfl) rfl rfl k
theorem gf_22 (q : Nat) (hd : decode (kc μ) pc = .ok (.getfield 279, 3)) (hq : pc + 3 = q) (ho : kown μ = "FrostBox") (k : Rch γ d μ q ls (.int (gI w 22) :: st) w Q X) : Rch γ d μ pc ls (.ref 1 :: st) w Q X := R.getX (k0 := 12) (nm := "readBoxes") (ds := "I") q hd hq ho q245 rfl (by decide) rfl k
theorem pf_22 (v : Int32) (q : Nat) (hd : decode (kc μ) pc = .ok (.putfield 279, 3)) (hq : pc + 3 = q) (ho : kown μ = "FrostBox") (k : Rch γ d μ q ls st (sI w 22 v) Q X) : Rch γ d μ pc ls (.int v :: .ref 1 :: st) w Q X := R.putX (k0 := 12) (nm := "readBoxes") (ds := "I") (ty := .int) (S := fun w => sI w 22 v) q hd hq ho q245 rfl (by decide) (fx_22 v) (by decide +kernel) rfl rfl (fun _ => rfl) rfl rfl k
theorem gf_28 (q : Nat) (hd : decode (kc μ) pc = .ok (.getfield 310, 3)) (hq : pc + 3 = q) (ho : kown μ = "FrostBox") (k : Rch γ d μ q ls (.int (gI w 28) :: st) w Q X) : Rch γ d μ pc ls (.ref 1 :: st) w Q X := R.getX (k0 := 18) (nm := "lawMany") (ds := "I") q hd hq ho q251 rfl (by decide) rfl k
theorem pf_28 (v : Int32) (q : Nat) (hd : decode (kc μ) pc = .ok (.putfield 310, 3)) (hq : pc + 3 = q) (ho : kown μ = "FrostBox") (k : Rch γ d μ q ls st (sI w 28 v) Q X) : Rch γ d μ pc ls (.int v :: .ref 1 :: st) w Q X := R.putX (k0 := 18) (nm := "lawMany") (ds := "I") (ty := .int) (S := fun w => sI w 28 v) q hd hq ho q251 rfl (by decide) (fx_28 v) (by decide +kernel) rfl rfl (fun _ => rfl) rfl rfl k
theorem gf_26 (q : Nat) (hd : decode (kc μ) pc = .ok (.getfield 313, 3)) (hq : pc + 3 = q) (ho : kown μ = "FrostBox") (k : Rch γ d μ q ls (.int (gI w 26) :: st) w Q X) : Rch γ d μ pc ls (.ref 1 :: st) w Q X := R.getX (k0 := 16) (nm := "planMany") (ds := "I") q hd hq ho q249 rfl (by decide) rfl k
theorem pf_26 (v : Int32) (q : Nat) (hd : decode (kc μ) pc = .ok (.putfield 313, 3)) (hq : pc + 3 = q) (ho : kown μ = "FrostBox") (k : Rch γ d μ q ls st (sI w 26 v) Q X) : Rch γ d μ pc ls (.int v :: .ref 1 :: st) w Q X := R.putX (k0 := 16) (nm := "planMany") (ds := "I") (ty := .int) (S := fun w => sI w 26 v) q hd hq ho q249 rfl (by decide) (fx_26 v) (by decide +kernel) rfl rfl (fun _ => rfl) rfl rfl k
theorem gf_23 (q : Nat) (hd : decode (kc μ) pc = .ok (.getfield 324, 3)) (hq : pc + 3 = q) (ho : kown μ = "FrostBox") (k : Rch γ d μ q ls (.int (gI w 23) :: st) w Q X) : Rch γ d μ pc ls (.ref 1 :: st) w Q X := R.getX (k0 := 13) (nm := "kindMany") (ds := "I") q hd hq ho q246 rfl (by decide) rfl k
theorem pf_23 (v : Int32) (q : Nat) (hd : decode (kc μ) pc = .ok (.putfield 324, 3)) (hq : pc + 3 = q) (ho : kown μ = "FrostBox") (k : Rch γ d μ q ls st (sI w 23 v) Q X) : Rch γ d μ pc ls (.int v :: .ref 1 :: st) w Q X := R.putX (k0 := 13) (nm := "kindMany") (ds := "I") (ty := .int) (S := fun w => sI w 23 v) q hd hq ho q246 rfl (by decide) (fx_23 v) (by decide +kernel) rfl rfl (fun _ => rfl) rfl rfl k
theorem gf_39 (q : Nat) (hd : decode (kc μ) pc = .ok (.getfield 327, 3)) (hq : pc + 3 = q) (ho : kown μ = "FrostBox") (k : Rch γ d μ q ls (.int (gI w 39) :: st) w Q X) : Rch γ d μ pc ls (.ref 1 :: st) w Q X := R.getX (k0 := 29) (nm := "peeks") (ds := "I") q hd hq ho q262 rfl (by decide) rfl k
theorem pf_39 (v : Int32) (q : Nat) (hd : decode (kc μ) pc = .ok (.putfield 327, 3)) (hq : pc + 3 = q) (ho : kown μ = "FrostBox") (k : Rch γ d μ q ls st (sI w 39 v) Q X) : Rch γ d μ pc ls (.int v :: .ref 1 :: st) w Q X := R.putX (k0 := 29) (nm := "peeks") (ds := "I") (ty := .int) (S := fun w => sI w 39 v) q hd hq ho q262 rfl (by decide) (fx_39 v) (by decide +kernel) rfl rfl (fun _ => rfl) rfl rfl k
theorem gf_43 (q : Nat) (hd : decode (kc μ) pc = .ok (.getfield 330, 3)) (hq : pc + 3 = q) (ho : kown μ = "FrostBox") (k : Rch γ d μ q ls (.int (gI w 43) :: st) w Q X) : Rch γ d μ pc ls (.ref 1 :: st) w Q X := R.getX (k0 := 33) (nm := "founds") (ds := "I") q hd hq ho q266 rfl (by decide) rfl k
theorem pf_43 (v : Int32) (q : Nat) (hd : decode (kc μ) pc = .ok (.putfield 330, 3)) (hq : pc + 3 = q) (ho : kown μ = "FrostBox") (k : Rch γ d μ q ls st (sI w 43 v) Q X) : Rch γ d μ pc ls (.int v :: .ref 1 :: st) w Q X := R.putX (k0 := 33) (nm := "founds") (ds := "I") (ty := .int) (S := fun w => sI w 43 v) q hd hq ho q266 rfl (by decide) (fx_43 v) (by decide +kernel) rfl rfl (fun _ => rfl) rfl rfl k
theorem gf_33 (q : Nat) (hd : decode (kc μ) pc = .ok (.getfield 333, 3)) (hq : pc + 3 = q) (ho : kown μ = "FrostBox") (k : Rch γ d μ q ls (.int (gI w 33) :: st) w Q X) : Rch γ d μ pc ls (.ref 1 :: st) w Q X := R.getX (k0 := 23) (nm := "acts") (ds := "I") q hd hq ho q256 rfl (by decide) rfl k
theorem pf_33 (v : Int32) (q : Nat) (hd : decode (kc μ) pc = .ok (.putfield 333, 3)) (hq : pc + 3 = q) (ho : kown μ = "FrostBox") (k : Rch γ d μ q ls st (sI w 33 v) Q X) : Rch γ d μ pc ls (.int v :: .ref 1 :: st) w Q X := R.putX (k0 := 23) (nm := "acts") (ds := "I") (ty := .int) (S := fun w => sI w 33 v) q hd hq ho q256 rfl (by decide) (fx_33 v) (by decide +kernel) rfl rfl (fun _ => rfl) rfl rfl k
theorem gf_51 (q : Nat) (hd : decode (kc μ) pc = .ok (.getfield 336, 3)) (hq : pc + 3 = q) (ho : kown μ = "FrostBox") (k : Rch γ d μ q ls (.int (gI w 51) :: st) w Q X) : Rch γ d μ pc ls (.ref 1 :: st) w Q X := R.getX (k0 := 41) (nm := "hasImage") (ds := "Z") q hd hq ho q274 rfl (by decide) rfl k
theorem pf_51 (v : Int32) (q : Nat) (hd : decode (kc μ) pc = .ok (.putfield 336, 3)) (hq : pc + 3 = q) (ho : kown μ = "FrostBox") (hz : zok v) (k : Rch γ d μ q ls st (sI w 51 v) Q X) : Rch γ d μ pc ls (.int v :: .ref 1 :: st) w Q X := R.putX (k0 := 41) (nm := "hasImage") (ds := "Z") (ty := .boolean) (S := fun w => sI w 51 v) q hd hq ho q274 rfl (by decide) (fx_51 v) (by decide +kernel) (zok_nar hz) (zok_fit hz) (fun _ => rfl) rfl rfl k
theorem gf_34 (q : Nat) (hd : decode (kc μ) pc = .ok (.getfield 442, 3)) (hq : pc + 3 = q) (ho : kown μ = "FrostBox") (k : Rch γ d μ q ls (.long (gJ w 34) :: st) w Q X) : Rch γ d μ pc ls (.ref 1 :: st) w Q X := R.getX (k0 := 24) (nm := "draws") (ds := "J") q hd hq ho q257 rfl (by decide) rfl k
theorem pf_34 (v : Int64) (q : Nat) (hd : decode (kc μ) pc = .ok (.putfield 442, 3)) (hq : pc + 3 = q) (ho : kown μ = "FrostBox") (k : Rch γ d μ q ls st (sJ w 34 v) Q X) : Rch γ d μ pc ls (.long v :: .ref 1 :: st) w Q X := R.putX (k0 := 24) (nm := "draws") (ds := "J") (ty := .long) (S := fun w => sJ w 34 v) q hd hq ho q257 rfl (by decide) (fx_34 v) (by decide +kernel) rfl rfl (fun _ => rfl) rfl rfl k
theorem gf_47 (q : Nat) (hd : decode (kc μ) pc = .ok (.getfield 532, 3)) (hq : pc + 3 = q) (ho : kown μ = "FrostBox") (k : Rch γ d μ q ls (.int (gI w 47) :: st) w Q X) : Rch γ d μ pc ls (.ref 1 :: st) w Q X := R.getX (k0 := 37) (nm := "rowMany") (ds := "I") q hd hq ho q270 rfl (by decide) rfl k
theorem pf_47 (v : Int32) (q : Nat) (hd : decode (kc μ) pc = .ok (.putfield 532, 3)) (hq : pc + 3 = q) (ho : kown μ = "FrostBox") (k : Rch γ d μ q ls st (sI w 47 v) Q X) : Rch γ d μ pc ls (.int v :: .ref 1 :: st) w Q X := R.putX (k0 := 37) (nm := "rowMany") (ds := "I") (ty := .int) (S := fun w => sI w 47 v) q hd hq ho q270 rfl (by decide) (fx_47 v) (by decide +kernel) rfl rfl (fun _ => rfl) rfl rfl k
theorem gf_48 (q : Nat) (hd : decode (kc μ) pc = .ok (.getfield 535, 3)) (hq : pc + 3 = q) (ho : kown μ = "FrostBox") (k : Rch γ d μ q ls (.int (gI w 48) :: st) w Q X) : Rch γ d μ pc ls (.ref 1 :: st) w Q X := R.getX (k0 := 38) (nm := "rowWanted") (ds := "I") q hd hq ho q271 rfl (by decide) rfl k
theorem pf_48 (v : Int32) (q : Nat) (hd : decode (kc μ) pc = .ok (.putfield 535, 3)) (hq : pc + 3 = q) (ho : kown μ = "FrostBox") (k : Rch γ d μ q ls st (sI w 48 v) Q X) : Rch γ d μ pc ls (.int v :: .ref 1 :: st) w Q X := R.putX (k0 := 38) (nm := "rowWanted") (ds := "I") (ty := .int) (S := fun w => sI w 48 v) q hd hq ho q271 rfl (by decide) (fx_48 v) (by decide +kernel) rfl rfl (fun _ => rfl) rfl rfl k
theorem gf_49 (q : Nat) (hd : decode (kc μ) pc = .ok (.getfield 538, 3)) (hq : pc + 3 = q) (ho : kown μ = "FrostBox") (k : Rch γ d μ q ls (.int (gI w 49) :: st) w Q X) : Rch γ d μ pc ls (.ref 1 :: st) w Q X := R.getX (k0 := 39) (nm := "rowFound") (ds := "I") q hd hq ho q272 rfl (by decide) rfl k
theorem pf_49 (v : Int32) (q : Nat) (hd : decode (kc μ) pc = .ok (.putfield 538, 3)) (hq : pc + 3 = q) (ho : kown μ = "FrostBox") (k : Rch γ d μ q ls st (sI w 49 v) Q X) : Rch γ d μ pc ls (.int v :: .ref 1 :: st) w Q X := R.putX (k0 := 39) (nm := "rowFound") (ds := "I") (ty := .int) (S := fun w => sI w 49 v) q hd hq ho q272 rfl (by decide) (fx_49 v) (by decide +kernel) rfl rfl (fun _ => rfl) rfl rfl k
theorem gf_61 (q : Nat) (hd : decode (kc μ) pc = .ok (.getfield 9, 3)) (hq : pc + 3 = q) (ho : kown μ = "FrostBoxModel") (k : Rch γ d μ q ls (.ref 61 :: st) w Q X) : Rch γ d μ pc ls (.ref 2 :: st) w Q X := R.getM (k0 := 1) (nm := "tape") (ds := "[B") q hd hq ho q1233 rfl (by decide) rfl k
theorem gf_62 (q : Nat) (hd : decode (kc μ) pc = .ok (.getfield 13, 3)) (hq : pc + 3 = q) (ho : kown μ = "FrostBoxModel") (k : Rch γ d μ q ls (.ref 62 :: st) w Q X) : Rch γ d μ pc ls (.ref 2 :: st) w Q X := R.getM (k0 := 2) (nm := "texts") (ds := "[B") q hd hq ho q1234 rfl (by decide) rfl k
theorem gf_63 (q : Nat) (hd : decode (kc μ) pc = .ok (.getfield 16, 3)) (hq : pc + 3 = q) (ho : kown μ = "FrostBoxModel") (k : Rch γ d μ q ls (.ref 63 :: st) w Q X) : Rch γ d μ pc ls (.ref 2 :: st) w Q X := R.getM (k0 := 3) (nm := "textLong") (ds := "[I") q hd hq ho q1235 rfl (by decide) rfl k
theorem gf_64 (q : Nat) (hd : decode (kc μ) pc = .ok (.getfield 20, 3)) (hq : pc + 3 = q) (ho : kown μ = "FrostBoxModel") (k : Rch γ d μ q ls (.ref 64 :: st) w Q X) : Rch γ d μ pc ls (.ref 2 :: st) w Q X := R.getM (k0 := 4) (nm := "letters") (ds := "[I") q hd hq ho q1236 rfl (by decide) rfl k
theorem gf_65 (q : Nat) (hd : decode (kc μ) pc = .ok (.getfield 23, 3)) (hq : pc + 3 = q) (ho : kown μ = "FrostBoxModel") (k : Rch γ d μ q ls (.ref (gT w) :: st) w Q X) : Rch γ d μ pc ls (.ref 2 :: st) w Q X := R.getM (k0 := 5) (nm := "text") (ds := "[B") q hd hq ho q1237 rfl (by decide) rfl k
theorem pf_65 (v : Nat) (q : Nat) (hd : decode (kc μ) pc = .ok (.putfield 23, 3)) (hq : pc + 3 = q) (ho : kown μ = "FrostBoxModel") (k : Rch γ d μ q ls st (sT w v) Q X) : Rch γ d μ pc ls (.ref v :: .ref 2 :: st) w Q X := R.putM (k0 := 5) (nm := "text") (ds := "[B") (ty := (.array .byte)) (S := fun w => sT w v) q hd hq ho q1237 rfl (by decide) (fx_65 v) (by decide +kernel) rfl rfl (fun _ => rfl) rfl rfl k
theorem gf_75 (q : Nat) (hd : decode (kc μ) pc = .ok (.getfield 28, 3)) (hq : pc + 3 = q) (ho : kown μ = "FrostBoxModel") (k : Rch γ d μ q ls (.ref 120 :: st) w Q X) : Rch γ d μ pc ls (.ref 2 :: st) w Q X := R.getM (k0 := 15) (nm := "labels") (ds := "Ljava/lang/String;") q hd hq ho q1247 rfl (by decide) rfl k
theorem gf_76 (q : Nat) (hd : decode (kc μ) pc = .ok (.getfield 34, 3)) (hq : pc + 3 = q) (ho : kown μ = "FrostBoxModel") (k : Rch γ d μ q ls (.ref 121 :: st) w Q X) : Rch γ d μ pc ls (.ref 2 :: st) w Q X := R.getM (k0 := 16) (nm := "allowed") (ds := "Ljava/lang/String;") q hd hq ho q1248 rfl (by decide) rfl k
theorem gf_78 (q : Nat) (hd : decode (kc μ) pc = .ok (.getfield 37, 3)) (hq : pc + 3 = q) (ho : kown μ = "FrostBoxModel") (k : Rch γ d μ q ls (.ref 78 :: st) w Q X) : Rch γ d μ pc ls (.ref 2 :: st) w Q X := R.getM (k0 := 18) (nm := "rule") (ds := "[I") q hd hq ho q1250 rfl (by decide) rfl k
theorem gf_79 (q : Nat) (hd : decode (kc μ) pc = .ok (.getfield 40, 3)) (hq : pc + 3 = q) (ho : kown μ = "FrostBoxModel") (k : Rch γ d μ q ls (.ref 79 :: st) w Q X) : Rch γ d μ pc ls (.ref 2 :: st) w Q X := R.getM (k0 := 19) (nm := "ruleRead") (ds := "[I") q hd hq ho q1251 rfl (by decide) rfl k
theorem gf_80 (q : Nat) (hd : decode (kc μ) pc = .ok (.getfield 43, 3)) (hq : pc + 3 = q) (ho : kown μ = "FrostBoxModel") (k : Rch γ d μ q ls (.ref 80 :: st) w Q X) : Rch γ d μ pc ls (.ref 2 :: st) w Q X := R.getM (k0 := 20) (nm := "kind") (ds := "[I") q hd hq ho q1252 rfl (by decide) rfl k
theorem gf_81 (q : Nat) (hd : decode (kc μ) pc = .ok (.getfield 46, 3)) (hq : pc + 3 = q) (ho : kown μ = "FrostBoxModel") (k : Rch γ d μ q ls (.ref 81 :: st) w Q X) : Rch γ d μ pc ls (.ref 2 :: st) w Q X := R.getM (k0 := 21) (nm := "kindRead") (ds := "[I") q hd hq ho q1253 rfl (by decide) rfl k
theorem gf_82 (q : Nat) (hd : decode (kc μ) pc = .ok (.getfield 49, 3)) (hq : pc + 3 = q) (ho : kown μ = "FrostBoxModel") (k : Rch γ d μ q ls (.ref 82 :: st) w Q X) : Rch γ d μ pc ls (.ref 2 :: st) w Q X := R.getM (k0 := 22) (nm := "boxRead") (ds := "[I") q hd hq ho q1254 rfl (by decide) rfl k
theorem gf_83 (q : Nat) (hd : decode (kc μ) pc = .ok (.getfield 52, 3)) (hq : pc + 3 = q) (ho : kown μ = "FrostBoxModel") (k : Rch γ d μ q ls (.ref 83 :: st) w Q X) : Rch γ d μ pc ls (.ref 2 :: st) w Q X := R.getM (k0 := 23) (nm := "plan") (ds := "[I") q hd hq ho q1255 rfl (by decide) rfl k
theorem gf_84 (q : Nat) (hd : decode (kc μ) pc = .ok (.getfield 55, 3)) (hq : pc + 3 = q) (ho : kown μ = "FrostBoxModel") (k : Rch γ d μ q ls (.ref 84 :: st) w Q X) : Rch γ d μ pc ls (.ref 2 :: st) w Q X := R.getM (k0 := 24) (nm := "planLong") (ds := "[I") q hd hq ho q1256 rfl (by decide) rfl k
theorem gf_90 (q : Nat) (hd : decode (kc μ) pc = .ok (.getfield 58, 3)) (hq : pc + 3 = q) (ho : kown μ = "FrostBoxModel") (k : Rch γ d μ q ls (.ref 90 :: st) w Q X) : Rch γ d μ pc ls (.ref 2 :: st) w Q X := R.getM (k0 := 30) (nm := "now") (ds := "[I") q hd hq ho q1262 rfl (by decide) rfl k
theorem gf_91 (q : Nat) (hd : decode (kc μ) pc = .ok (.getfield 61, 3)) (hq : pc + 3 = q) (ho : kown μ = "FrostBoxModel") (k : Rch γ d μ q ls (.ref 91 :: st) w Q X) : Rch γ d μ pc ls (.ref 2 :: st) w Q X := R.getM (k0 := 31) (nm := "trial") (ds := "[I") q hd hq ho q1263 rfl (by decide) rfl k
theorem gf_92 (q : Nat) (hd : decode (kc μ) pc = .ok (.getfield 64, 3)) (hq : pc + 3 = q) (ho : kown μ = "FrostBoxModel") (k : Rch γ d μ q ls (.int (gI w 92) :: st) w Q X) : Rch γ d μ pc ls (.ref 2 :: st) w Q X := R.getM (k0 := 32) (nm := "law") (ds := "I") q hd hq ho q1264 rfl (by decide) rfl k
theorem pf_92 (v : Int32) (q : Nat) (hd : decode (kc μ) pc = .ok (.putfield 64, 3)) (hq : pc + 3 = q) (ho : kown μ = "FrostBoxModel") (k : Rch γ d μ q ls st (sI w 92 v) Q X) : Rch γ d μ pc ls (.int v :: .ref 2 :: st) w Q X := R.putM (k0 := 32) (nm := "law") (ds := "I") (ty := .int) (S := fun w => sI w 92 v) q hd hq ho q1264 rfl (by decide) (fx_92 v) (by decide +kernel) rfl rfl (fun _ => rfl) rfl rfl k
theorem gf_93 (q : Nat) (hd : decode (kc μ) pc = .ok (.getfield 68, 3)) (hq : pc + 3 = q) (ho : kown μ = "FrostBoxModel") (k : Rch γ d μ q ls (.int (gI w 93) :: st) w Q X) : Rch γ d μ pc ls (.ref 2 :: st) w Q X := R.getM (k0 := 33) (nm := "habit") (ds := "I") q hd hq ho q1265 rfl (by decide) rfl k
theorem pf_93 (v : Int32) (q : Nat) (hd : decode (kc μ) pc = .ok (.putfield 68, 3)) (hq : pc + 3 = q) (ho : kown μ = "FrostBoxModel") (k : Rch γ d μ q ls st (sI w 93 v) Q X) : Rch γ d μ pc ls (.int v :: .ref 2 :: st) w Q X := R.putM (k0 := 33) (nm := "habit") (ds := "I") (ty := .int) (S := fun w => sI w 93 v) q hd hq ho q1265 rfl (by decide) (fx_93 v) (by decide +kernel) rfl rfl (fun _ => rfl) rfl rfl k
theorem gf_94 (q : Nat) (hd : decode (kc μ) pc = .ok (.getfield 71, 3)) (hq : pc + 3 = q) (ho : kown μ = "FrostBoxModel") (k : Rch γ d μ q ls (.ref 94 :: st) w Q X) : Rch γ d μ pc ls (.ref 2 :: st) w Q X := R.getM (k0 := 34) (nm := "memoKey") (ds := "[J") q hd hq ho q1266 rfl (by decide) rfl k
theorem gf_95 (q : Nat) (hd : decode (kc μ) pc = .ok (.getfield 75, 3)) (hq : pc + 3 = q) (ho : kown μ = "FrostBoxModel") (k : Rch γ d μ q ls (.ref 95 :: st) w Q X) : Rch γ d μ pc ls (.ref 2 :: st) w Q X := R.getM (k0 := 35) (nm := "memoWorth") (ds := "[I") q hd hq ho q1267 rfl (by decide) rfl k
theorem gf_96 (q : Nat) (hd : decode (kc μ) pc = .ok (.getfield 78, 3)) (hq : pc + 3 = q) (ho : kown μ = "FrostBoxModel") (k : Rch γ d μ q ls (.ref 96 :: st) w Q X) : Rch γ d μ pc ls (.ref 2 :: st) w Q X := R.getM (k0 := 36) (nm := "undoRow") (ds := "[I") q hd hq ho q1268 rfl (by decide) rfl k
theorem gf_101 (q : Nat) (hd : decode (kc μ) pc = .ok (.getfield 81, 3)) (hq : pc + 3 = q) (ho : kown μ = "FrostBoxModel") (k : Rch γ d μ q ls (.ref 101 :: st) w Q X) : Rch γ d μ pc ls (.ref 2 :: st) w Q X := R.getM (k0 := 41) (nm := "lookSort") (ds := "[I") q hd hq ho q1273 rfl (by decide) rfl k
theorem gf_102 (q : Nat) (hd : decode (kc μ) pc = .ok (.getfield 84, 3)) (hq : pc + 3 = q) (ho : kown μ = "FrostBoxModel") (k : Rch γ d μ q ls (.ref 102 :: st) w Q X) : Rch γ d μ pc ls (.ref 2 :: st) w Q X := R.getM (k0 := 42) (nm := "lookSeemed") (ds := "[I") q hd hq ho q1274 rfl (by decide) rfl k
theorem gf_104 (q : Nat) (hd : decode (kc μ) pc = .ok (.getfield 87, 3)) (hq : pc + 3 = q) (ho : kown μ = "FrostBoxModel") (k : Rch γ d μ q ls (.ref 104 :: st) w Q X) : Rch γ d μ pc ls (.ref 2 :: st) w Q X := R.getM (k0 := 44) (nm := "foundBox") (ds := "[I") q hd hq ho q1276 rfl (by decide) rfl k
theorem gf_105 (q : Nat) (hd : decode (kc μ) pc = .ok (.getfield 90, 3)) (hq : pc + 3 = q) (ho : kown μ = "FrostBoxModel") (k : Rch γ d μ q ls (.ref 105 :: st) w Q X) : Rch γ d μ pc ls (.ref 2 :: st) w Q X := R.getM (k0 := 45) (nm := "foundKind") (ds := "[I") q hd hq ho q1277 rfl (by decide) rfl k
theorem gf_106 (q : Nat) (hd : decode (kc μ) pc = .ok (.getfield 93, 3)) (hq : pc + 3 = q) (ho : kown μ = "FrostBoxModel") (k : Rch γ d μ q ls (.ref 106 :: st) w Q X) : Rch γ d μ pc ls (.ref 2 :: st) w Q X := R.getM (k0 := 46) (nm := "often") (ds := "[I") q hd hq ho q1278 rfl (by decide) rfl k
theorem gf_107 (q : Nat) (hd : decode (kc μ) pc = .ok (.getfield 96, 3)) (hq : pc + 3 = q) (ho : kown μ = "FrostBoxModel") (k : Rch γ d μ q ls (.ref 107 :: st) w Q X) : Rch γ d μ pc ls (.ref 2 :: st) w Q X := R.getM (k0 := 47) (nm := "historyRow") (ds := "[I") q hd hq ho q1279 rfl (by decide) rfl k
theorem gf_108 (q : Nat) (hd : decode (kc μ) pc = .ok (.getfield 99, 3)) (hq : pc + 3 = q) (ho : kown μ = "FrostBoxModel") (k : Rch γ d μ q ls (.ref 108 :: st) w Q X) : Rch γ d μ pc ls (.ref 2 :: st) w Q X := R.getM (k0 := 48) (nm := "shared") (ds := "[I") q hd hq ho q1280 rfl (by decide) rfl k
theorem gf_109 (q : Nat) (hd : decode (kc μ) pc = .ok (.getfield 102, 3)) (hq : pc + 3 = q) (ho : kown μ = "FrostBoxModel") (k : Rch γ d μ q ls (.ref 109 :: st) w Q X) : Rch γ d μ pc ls (.ref 2 :: st) w Q X := R.getM (k0 := 49) (nm := "foundIs") (ds := "[Z") q hd hq ho q1281 rfl (by decide) rfl k
theorem gf_114 (q : Nat) (hd : decode (kc μ) pc = .ok (.getfield 106, 3)) (hq : pc + 3 = q) (ho : kown μ = "FrostBoxModel") (k : Rch γ d μ q ls (.ref 114 :: st) w Q X) : Rch γ d μ pc ls (.ref 2 :: st) w Q X := R.getM (k0 := 54) (nm := "imageRow") (ds := "[I") q hd hq ho q1286 rfl (by decide) rfl k
theorem gf_60 (q : Nat) (hd : decode (kc μ) pc = .ok (.getfield 109, 3)) (hq : pc + 3 = q) (ho : kown μ = "FrostBoxModel") (k : Rch γ d μ q ls (.int (gI w 60) :: st) w Q X) : Rch γ d μ pc ls (.ref 2 :: st) w Q X := R.getM (k0 := 0) (nm := "thrown") (ds := "I") q hd hq ho q1232 rfl (by decide) rfl k
theorem pf_60 (v : Int32) (q : Nat) (hd : decode (kc μ) pc = .ok (.putfield 109, 3)) (hq : pc + 3 = q) (ho : kown μ = "FrostBoxModel") (k : Rch γ d μ q ls st (sI w 60 v) Q X) : Rch γ d μ pc ls (.int v :: .ref 2 :: st) w Q X := R.putM (k0 := 0) (nm := "thrown") (ds := "I") (ty := .int) (S := fun w => sI w 60 v) q hd hq ho q1232 rfl (by decide) (fx_60 v) (by decide +kernel) rfl rfl (fun _ => rfl) rfl rfl k
theorem gf_66 (q : Nat) (hd : decode (kc μ) pc = .ok (.getfield 122, 3)) (hq : pc + 3 = q) (ho : kown μ = "FrostBoxModel") (k : Rch γ d μ q ls (.int (gI w 66) :: st) w Q X) : Rch γ d μ pc ls (.ref 2 :: st) w Q X := R.getM (k0 := 6) (nm := "length") (ds := "I") q hd hq ho q1238 rfl (by decide) rfl k
theorem pf_66 (v : Int32) (q : Nat) (hd : decode (kc μ) pc = .ok (.putfield 122, 3)) (hq : pc + 3 = q) (ho : kown μ = "FrostBoxModel") (k : Rch γ d μ q ls st (sI w 66 v) Q X) : Rch γ d μ pc ls (.int v :: .ref 2 :: st) w Q X := R.putM (k0 := 6) (nm := "length") (ds := "I") (ty := .int) (S := fun w => sI w 66 v) q hd hq ho q1238 rfl (by decide) (fx_66 v) (by decide +kernel) rfl rfl (fun _ => rfl) rfl rfl k
theorem gf_70 (q : Nat) (hd : decode (kc μ) pc = .ok (.getfield 132, 3)) (hq : pc + 3 = q) (ho : kown μ = "FrostBoxModel") (k : Rch γ d μ q ls (.int (gI w 70) :: st) w Q X) : Rch γ d μ pc ls (.ref 2 :: st) w Q X := R.getM (k0 := 10) (nm := "at") (ds := "I") q hd hq ho q1242 rfl (by decide) rfl k
theorem pf_70 (v : Int32) (q : Nat) (hd : decode (kc μ) pc = .ok (.putfield 132, 3)) (hq : pc + 3 = q) (ho : kown μ = "FrostBoxModel") (k : Rch γ d μ q ls st (sI w 70 v) Q X) : Rch γ d μ pc ls (.int v :: .ref 2 :: st) w Q X := R.putM (k0 := 10) (nm := "at") (ds := "I") (ty := .int) (S := fun w => sI w 70 v) q hd hq ho q1242 rfl (by decide) (fx_70 v) (by decide +kernel) rfl rfl (fun _ => rfl) rfl rfl k
theorem gf_69 (q : Nat) (hd : decode (kc μ) pc = .ok (.getfield 135, 3)) (hq : pc + 3 = q) (ho : kown μ = "FrostBoxModel") (k : Rch γ d μ q ls (.int (gI w 69) :: st) w Q X) : Rch γ d μ pc ls (.ref 2 :: st) w Q X := R.getM (k0 := 9) (nm := "ends") (ds := "I") q hd hq ho q1241 rfl (by decide) rfl k
theorem pf_69 (v : Int32) (q : Nat) (hd : decode (kc μ) pc = .ok (.putfield 135, 3)) (hq : pc + 3 = q) (ho : kown μ = "FrostBoxModel") (k : Rch γ d μ q ls st (sI w 69 v) Q X) : Rch γ d μ pc ls (.int v :: .ref 2 :: st) w Q X := R.putM (k0 := 9) (nm := "ends") (ds := "I") (ty := .int) (S := fun w => sI w 69 v) q hd hq ho q1241 rfl (by decide) (fx_69 v) (by decide +kernel) rfl rfl (fun _ => rfl) rfl rfl k
theorem gf_68 (q : Nat) (hd : decode (kc μ) pc = .ok (.getfield 138, 3)) (hq : pc + 3 = q) (ho : kown μ = "FrostBoxModel") (k : Rch γ d μ q ls (.int (gI w 68) :: st) w Q X) : Rch γ d μ pc ls (.ref 2 :: st) w Q X := R.getM (k0 := 8) (nm := "begins") (ds := "I") q hd hq ho q1240 rfl (by decide) rfl k
theorem pf_68 (v : Int32) (q : Nat) (hd : decode (kc μ) pc = .ok (.putfield 138, 3)) (hq : pc + 3 = q) (ho : kown μ = "FrostBoxModel") (k : Rch γ d μ q ls st (sI w 68 v) Q X) : Rch γ d μ pc ls (.int v :: .ref 2 :: st) w Q X := R.putM (k0 := 8) (nm := "begins") (ds := "I") (ty := .int) (S := fun w => sI w 68 v) q hd hq ho q1240 rfl (by decide) (fx_68 v) (by decide +kernel) rfl rfl (fun _ => rfl) rfl rfl k
theorem gf_71 (q : Nat) (hd : decode (kc μ) pc = .ok (.getfield 141, 3)) (hq : pc + 3 = q) (ho : kown μ = "FrostBoxModel") (k : Rch γ d μ q ls (.int (gI w 71) :: st) w Q X) : Rch γ d μ pc ls (.ref 2 :: st) w Q X := R.getM (k0 := 11) (nm := "fault") (ds := "I") q hd hq ho q1243 rfl (by decide) rfl k
theorem pf_71 (v : Int32) (q : Nat) (hd : decode (kc μ) pc = .ok (.putfield 141, 3)) (hq : pc + 3 = q) (ho : kown μ = "FrostBoxModel") (k : Rch γ d μ q ls st (sI w 71 v) Q X) : Rch γ d μ pc ls (.int v :: .ref 2 :: st) w Q X := R.putM (k0 := 11) (nm := "fault") (ds := "I") (ty := .int) (S := fun w => sI w 71 v) q hd hq ho q1243 rfl (by decide) (fx_71 v) (by decide +kernel) rfl rfl (fun _ => rfl) rfl rfl k
theorem gf_72 (q : Nat) (hd : decode (kc μ) pc = .ok (.getfield 144, 3)) (hq : pc + 3 = q) (ho : kown μ = "FrostBoxModel") (k : Rch γ d μ q ls (.int (gI w 72) :: st) w Q X) : Rch γ d μ pc ls (.ref 2 :: st) w Q X := R.getM (k0 := 12) (nm := "deep") (ds := "I") q hd hq ho q1244 rfl (by decide) rfl k
theorem pf_72 (v : Int32) (q : Nat) (hd : decode (kc μ) pc = .ok (.putfield 144, 3)) (hq : pc + 3 = q) (ho : kown μ = "FrostBoxModel") (k : Rch γ d μ q ls st (sI w 72 v) Q X) : Rch γ d μ pc ls (.int v :: .ref 2 :: st) w Q X := R.putM (k0 := 12) (nm := "deep") (ds := "I") (ty := .int) (S := fun w => sI w 72 v) q hd hq ho q1244 rfl (by decide) (fx_72 v) (by decide +kernel) rfl rfl (fun _ => rfl) rfl rfl k
theorem gf_77 (q : Nat) (hd : decode (kc μ) pc = .ok (.getfield 210, 3)) (hq : pc + 3 = q) (ho : kown μ = "FrostBoxModel") (k : Rch γ d μ q ls (.int (gI w 77) :: st) w Q X) : Rch γ d μ pc ls (.ref 2 :: st) w Q X := R.getM (k0 := 17) (nm := "hasFound") (ds := "Z") q hd hq ho q1249 rfl (by decide) rfl k
theorem pf_77 (v : Int32) (q : Nat) (hd : decode (kc μ) pc = .ok (.putfield 210, 3)) (hq : pc + 3 = q) (ho : kown μ = "FrostBoxModel") (hz : zok v) (k : Rch γ d μ q ls st (sI w 77 v) Q X) : Rch γ d μ pc ls (.int v :: .ref 2 :: st) w Q X := R.putM (k0 := 17) (nm := "hasFound") (ds := "Z") (ty := .boolean) (S := fun w => sI w 77 v) q hd hq ho q1249 rfl (by decide) (fx_77 v) (by decide +kernel) (zok_nar hz) (zok_fit hz) (fun _ => rfl) rfl rfl k
theorem gf_73 (q : Nat) (hd : decode (kc μ) pc = .ok (.getfield 214, 3)) (hq : pc + 3 = q) (ho : kown μ = "FrostBoxModel") (k : Rch γ d μ q ls (.int (gI w 73) :: st) w Q X) : Rch γ d μ pc ls (.ref 2 :: st) w Q X := R.getM (k0 := 13) (nm := "label") (ds := "I") q hd hq ho q1245 rfl (by decide) rfl k
theorem pf_73 (v : Int32) (q : Nat) (hd : decode (kc μ) pc = .ok (.putfield 214, 3)) (hq : pc + 3 = q) (ho : kown μ = "FrostBoxModel") (k : Rch γ d μ q ls st (sI w 73 v) Q X) : Rch γ d μ pc ls (.int v :: .ref 2 :: st) w Q X := R.putM (k0 := 13) (nm := "label") (ds := "I") (ty := .int) (S := fun w => sI w 73 v) q hd hq ho q1245 rfl (by decide) (fx_73 v) (by decide +kernel) rfl rfl (fun _ => rfl) rfl rfl k
theorem gf_74 (q : Nat) (hd : decode (kc μ) pc = .ok (.getfield 217, 3)) (hq : pc + 3 = q) (ho : kown μ = "FrostBoxModel") (k : Rch γ d μ q ls (.int (gI w 74) :: st) w Q X) : Rch γ d μ pc ls (.ref 2 :: st) w Q X := R.getM (k0 := 14) (nm := "found") (ds := "I") q hd hq ho q1246 rfl (by decide) rfl k
theorem pf_74 (v : Int32) (q : Nat) (hd : decode (kc μ) pc = .ok (.putfield 217, 3)) (hq : pc + 3 = q) (ho : kown μ = "FrostBoxModel") (k : Rch γ d μ q ls st (sI w 74 v) Q X) : Rch γ d μ pc ls (.int v :: .ref 2 :: st) w Q X := R.putM (k0 := 14) (nm := "found") (ds := "I") (ty := .int) (S := fun w => sI w 74 v) q hd hq ho q1246 rfl (by decide) (fx_74 v) (by decide +kernel) rfl rfl (fun _ => rfl) rfl rfl k
theorem gf_89 (q : Nat) (hd : decode (kc μ) pc = .ok (.getfield 255, 3)) (hq : pc + 3 = q) (ho : kown μ = "FrostBoxModel") (k : Rch γ d μ q ls (.int (gI w 89) :: st) w Q X) : Rch γ d μ pc ls (.ref 2 :: st) w Q X := R.getM (k0 := 29) (nm := "hasRules") (ds := "Z") q hd hq ho q1261 rfl (by decide) rfl k
theorem pf_89 (v : Int32) (q : Nat) (hd : decode (kc μ) pc = .ok (.putfield 255, 3)) (hq : pc + 3 = q) (ho : kown μ = "FrostBoxModel") (hz : zok v) (k : Rch γ d μ q ls st (sI w 89 v) Q X) : Rch γ d μ pc ls (.int v :: .ref 2 :: st) w Q X := R.putM (k0 := 29) (nm := "hasRules") (ds := "Z") (ty := .boolean) (S := fun w => sI w 89 v) q hd hq ho q1261 rfl (by decide) (fx_89 v) (by decide +kernel) (zok_nar hz) (zok_fit hz) (fun _ => rfl) rfl rfl k
theorem gf_86 (q : Nat) (hd : decode (kc μ) pc = .ok (.getfield 258, 3)) (hq : pc + 3 = q) (ho : kown μ = "FrostBoxModel") (k : Rch γ d μ q ls (.int (gI w 86) :: st) w Q X) : Rch γ d μ pc ls (.ref 2 :: st) w Q X := R.getM (k0 := 26) (nm := "kindsRead") (ds := "I") q hd hq ho q1258 rfl (by decide) rfl k
theorem pf_86 (v : Int32) (q : Nat) (hd : decode (kc μ) pc = .ok (.putfield 258, 3)) (hq : pc + 3 = q) (ho : kown μ = "FrostBoxModel") (k : Rch γ d μ q ls st (sI w 86 v) Q X) : Rch γ d μ pc ls (.int v :: .ref 2 :: st) w Q X := R.putM (k0 := 26) (nm := "kindsRead") (ds := "I") (ty := .int) (S := fun w => sI w 86 v) q hd hq ho q1258 rfl (by decide) (fx_86 v) (by decide +kernel) rfl rfl (fun _ => rfl) rfl rfl k
theorem gf_87 (q : Nat) (hd : decode (kc μ) pc = .ok (.getfield 261, 3)) (hq : pc + 3 = q) (ho : kown μ = "FrostBoxModel") (k : Rch γ d μ q ls (.int (gI w 87) :: st) w Q X) : Rch γ d μ pc ls (.ref 2 :: st) w Q X := R.getM (k0 := 27) (nm := "boxesRead") (ds := "I") q hd hq ho q1259 rfl (by decide) rfl k
theorem pf_87 (v : Int32) (q : Nat) (hd : decode (kc μ) pc = .ok (.putfield 261, 3)) (hq : pc + 3 = q) (ho : kown μ = "FrostBoxModel") (k : Rch γ d μ q ls st (sI w 87 v) Q X) : Rch γ d μ pc ls (.int v :: .ref 2 :: st) w Q X := R.putM (k0 := 27) (nm := "boxesRead") (ds := "I") (ty := .int) (S := fun w => sI w 87 v) q hd hq ho q1259 rfl (by decide) (fx_87 v) (by decide +kernel) rfl rfl (fun _ => rfl) rfl rfl k
theorem gf_67 (q : Nat) (hd : decode (kc μ) pc = .ok (.getfield 299, 3)) (hq : pc + 3 = q) (ho : kown μ = "FrostBoxModel") (k : Rch γ d μ q ls (.int (gI w 67) :: st) w Q X) : Rch γ d μ pc ls (.ref 2 :: st) w Q X := R.getM (k0 := 7) (nm := "lawMany") (ds := "I") q hd hq ho q1239 rfl (by decide) rfl k
theorem pf_67 (v : Int32) (q : Nat) (hd : decode (kc μ) pc = .ok (.putfield 299, 3)) (hq : pc + 3 = q) (ho : kown μ = "FrostBoxModel") (k : Rch γ d μ q ls st (sI w 67 v) Q X) : Rch γ d μ pc ls (.int v :: .ref 2 :: st) w Q X := R.putM (k0 := 7) (nm := "lawMany") (ds := "I") (ty := .int) (S := fun w => sI w 67 v) q hd hq ho q1239 rfl (by decide) (fx_67 v) (by decide +kernel) rfl rfl (fun _ => rfl) rfl rfl k
theorem gf_88 (q : Nat) (hd : decode (kc μ) pc = .ok (.getfield 302, 3)) (hq : pc + 3 = q) (ho : kown μ = "FrostBoxModel") (k : Rch γ d μ q ls (.int (gI w 88) :: st) w Q X) : Rch γ d μ pc ls (.ref 2 :: st) w Q X := R.getM (k0 := 28) (nm := "plans") (ds := "I") q hd hq ho q1260 rfl (by decide) rfl k
theorem pf_88 (v : Int32) (q : Nat) (hd : decode (kc μ) pc = .ok (.putfield 302, 3)) (hq : pc + 3 = q) (ho : kown μ = "FrostBoxModel") (k : Rch γ d μ q ls st (sI w 88 v) Q X) : Rch γ d μ pc ls (.int v :: .ref 2 :: st) w Q X := R.putM (k0 := 28) (nm := "plans") (ds := "I") (ty := .int) (S := fun w => sI w 88 v) q hd hq ho q1260 rfl (by decide) (fx_88 v) (by decide +kernel) rfl rfl (fun _ => rfl) rfl rfl k
theorem gf_85 (q : Nat) (hd : decode (kc μ) pc = .ok (.getfield 307, 3)) (hq : pc + 3 = q) (ho : kown μ = "FrostBoxModel") (k : Rch γ d μ q ls (.int (gI w 85) :: st) w Q X) : Rch γ d μ pc ls (.ref 2 :: st) w Q X := R.getM (k0 := 25) (nm := "kinds") (ds := "I") q hd hq ho q1257 rfl (by decide) rfl k
theorem pf_85 (v : Int32) (q : Nat) (hd : decode (kc μ) pc = .ok (.putfield 307, 3)) (hq : pc + 3 = q) (ho : kown μ = "FrostBoxModel") (k : Rch γ d μ q ls st (sI w 85 v) Q X) : Rch γ d μ pc ls (.int v :: .ref 2 :: st) w Q X := R.putM (k0 := 25) (nm := "kinds") (ds := "I") (ty := .int) (S := fun w => sI w 85 v) q hd hq ho q1257 rfl (by decide) (fx_85 v) (by decide +kernel) rfl rfl (fun _ => rfl) rfl rfl k
theorem gf_103 (q : Nat) (hd : decode (kc μ) pc = .ok (.getfield 310, 3)) (hq : pc + 3 = q) (ho : kown μ = "FrostBoxModel") (k : Rch γ d μ q ls (.int (gI w 103) :: st) w Q X) : Rch γ d μ pc ls (.ref 2 :: st) w Q X := R.getM (k0 := 43) (nm := "looks") (ds := "I") q hd hq ho q1275 rfl (by decide) rfl k
theorem pf_103 (v : Int32) (q : Nat) (hd : decode (kc μ) pc = .ok (.putfield 310, 3)) (hq : pc + 3 = q) (ho : kown μ = "FrostBoxModel") (k : Rch γ d μ q ls st (sI w 103 v) Q X) : Rch γ d μ pc ls (.int v :: .ref 2 :: st) w Q X := R.putM (k0 := 43) (nm := "looks") (ds := "I") (ty := .int) (S := fun w => sI w 103 v) q hd hq ho q1275 rfl (by decide) (fx_103 v) (by decide +kernel) rfl rfl (fun _ => rfl) rfl rfl k
theorem gf_110 (q : Nat) (hd : decode (kc μ) pc = .ok (.getfield 313, 3)) (hq : pc + 3 = q) (ho : kown μ = "FrostBoxModel") (k : Rch γ d μ q ls (.int (gI w 110) :: st) w Q X) : Rch γ d μ pc ls (.ref 2 :: st) w Q X := R.getM (k0 := 50) (nm := "founds") (ds := "I") q hd hq ho q1282 rfl (by decide) rfl k
theorem pf_110 (v : Int32) (q : Nat) (hd : decode (kc μ) pc = .ok (.putfield 313, 3)) (hq : pc + 3 = q) (ho : kown μ = "FrostBoxModel") (k : Rch γ d μ q ls st (sI w 110 v) Q X) : Rch γ d μ pc ls (.int v :: .ref 2 :: st) w Q X := R.putM (k0 := 50) (nm := "founds") (ds := "I") (ty := .int) (S := fun w => sI w 110 v) q hd hq ho q1282 rfl (by decide) (fx_110 v) (by decide +kernel) rfl rfl (fun _ => rfl) rfl rfl k
theorem gf_97 (q : Nat) (hd : decode (kc μ) pc = .ok (.getfield 316, 3)) (hq : pc + 3 = q) (ho : kown μ = "FrostBoxModel") (k : Rch γ d μ q ls (.int (gI w 97) :: st) w Q X) : Rch γ d μ pc ls (.ref 2 :: st) w Q X := R.getM (k0 := 37) (nm := "acts") (ds := "I") q hd hq ho q1269 rfl (by decide) rfl k
theorem pf_97 (v : Int32) (q : Nat) (hd : decode (kc μ) pc = .ok (.putfield 316, 3)) (hq : pc + 3 = q) (ho : kown μ = "FrostBoxModel") (k : Rch γ d μ q ls st (sI w 97 v) Q X) : Rch γ d μ pc ls (.int v :: .ref 2 :: st) w Q X := R.putM (k0 := 37) (nm := "acts") (ds := "I") (ty := .int) (S := fun w => sI w 97 v) q hd hq ho q1269 rfl (by decide) (fx_97 v) (by decide +kernel) rfl rfl (fun _ => rfl) rfl rfl k
theorem gf_115 (q : Nat) (hd : decode (kc μ) pc = .ok (.getfield 319, 3)) (hq : pc + 3 = q) (ho : kown μ = "FrostBoxModel") (k : Rch γ d μ q ls (.int (gI w 115) :: st) w Q X) : Rch γ d μ pc ls (.ref 2 :: st) w Q X := R.getM (k0 := 55) (nm := "hasImage") (ds := "Z") q hd hq ho q1287 rfl (by decide) rfl k
theorem pf_115 (v : Int32) (q : Nat) (hd : decode (kc μ) pc = .ok (.putfield 319, 3)) (hq : pc + 3 = q) (ho : kown μ = "FrostBoxModel") (hz : zok v) (k : Rch γ d μ q ls st (sI w 115 v) Q X) : Rch γ d μ pc ls (.int v :: .ref 2 :: st) w Q X := R.putM (k0 := 55) (nm := "hasImage") (ds := "Z") (ty := .boolean) (S := fun w => sI w 115 v) q hd hq ho q1287 rfl (by decide) (fx_115 v) (by decide +kernel) (zok_nar hz) (zok_fit hz) (fun _ => rfl) rfl rfl k
theorem gf_98 (q : Nat) (hd : decode (kc μ) pc = .ok (.getfield 418, 3)) (hq : pc + 3 = q) (ho : kown μ = "FrostBoxModel") (k : Rch γ d μ q ls (.long (gJ w 98) :: st) w Q X) : Rch γ d μ pc ls (.ref 2 :: st) w Q X := R.getM (k0 := 38) (nm := "x") (ds := "J") q hd hq ho q1270 rfl (by decide) rfl k
theorem pf_98 (v : Int64) (q : Nat) (hd : decode (kc μ) pc = .ok (.putfield 418, 3)) (hq : pc + 3 = q) (ho : kown μ = "FrostBoxModel") (k : Rch γ d μ q ls st (sJ w 98 v) Q X) : Rch γ d μ pc ls (.long v :: .ref 2 :: st) w Q X := R.putM (k0 := 38) (nm := "x") (ds := "J") (ty := .long) (S := fun w => sJ w 98 v) q hd hq ho q1270 rfl (by decide) (fx_98 v) (by decide +kernel) rfl rfl (fun _ => rfl) rfl rfl k
theorem gf_99 (q : Nat) (hd : decode (kc μ) pc = .ok (.getfield 462, 3)) (hq : pc + 3 = q) (ho : kown μ = "FrostBoxModel") (k : Rch γ d μ q ls (.int (gI w 99) :: st) w Q X) : Rch γ d μ pc ls (.ref 2 :: st) w Q X := R.getM (k0 := 39) (nm := "eatMost") (ds := "I") q hd hq ho q1271 rfl (by decide) rfl k
theorem pf_99 (v : Int32) (q : Nat) (hd : decode (kc μ) pc = .ok (.putfield 462, 3)) (hq : pc + 3 = q) (ho : kown μ = "FrostBoxModel") (k : Rch γ d μ q ls st (sI w 99 v) Q X) : Rch γ d μ pc ls (.int v :: .ref 2 :: st) w Q X := R.putM (k0 := 39) (nm := "eatMost") (ds := "I") (ty := .int) (S := fun w => sI w 99 v) q hd hq ho q1271 rfl (by decide) (fx_99 v) (by decide +kernel) rfl rfl (fun _ => rfl) rfl rfl k
theorem gf_100 (q : Nat) (hd : decode (kc μ) pc = .ok (.getfield 465, 3)) (hq : pc + 3 = q) (ho : kown μ = "FrostBoxModel") (k : Rch γ d μ q ls (.int (gI w 100) :: st) w Q X) : Rch γ d μ pc ls (.ref 2 :: st) w Q X := R.getM (k0 := 40) (nm := "eatDigits") (ds := "I") q hd hq ho q1272 rfl (by decide) rfl k
theorem pf_100 (v : Int32) (q : Nat) (hd : decode (kc μ) pc = .ok (.putfield 465, 3)) (hq : pc + 3 = q) (ho : kown μ = "FrostBoxModel") (k : Rch γ d μ q ls st (sI w 100 v) Q X) : Rch γ d μ pc ls (.int v :: .ref 2 :: st) w Q X := R.putM (k0 := 40) (nm := "eatDigits") (ds := "I") (ty := .int) (S := fun w => sI w 100 v) q hd hq ho q1272 rfl (by decide) (fx_100 v) (by decide +kernel) rfl rfl (fun _ => rfl) rfl rfl k
theorem gf_111 (q : Nat) (hd : decode (kc μ) pc = .ok (.getfield 493, 3)) (hq : pc + 3 = q) (ho : kown μ = "FrostBoxModel") (k : Rch γ d μ q ls (.int (gI w 111) :: st) w Q X) : Rch γ d μ pc ls (.ref 2 :: st) w Q X := R.getM (k0 := 51) (nm := "rows") (ds := "I") q hd hq ho q1283 rfl (by decide) rfl k
theorem pf_111 (v : Int32) (q : Nat) (hd : decode (kc μ) pc = .ok (.putfield 493, 3)) (hq : pc + 3 = q) (ho : kown μ = "FrostBoxModel") (k : Rch γ d μ q ls st (sI w 111 v) Q X) : Rch γ d μ pc ls (.int v :: .ref 2 :: st) w Q X := R.putM (k0 := 51) (nm := "rows") (ds := "I") (ty := .int) (S := fun w => sI w 111 v) q hd hq ho q1283 rfl (by decide) (fx_111 v) (by decide +kernel) rfl rfl (fun _ => rfl) rfl rfl k
theorem gf_112 (q : Nat) (hd : decode (kc μ) pc = .ok (.getfield 496, 3)) (hq : pc + 3 = q) (ho : kown μ = "FrostBoxModel") (k : Rch γ d μ q ls (.int (gI w 112) :: st) w Q X) : Rch γ d μ pc ls (.ref 2 :: st) w Q X := R.getM (k0 := 52) (nm := "rowFound") (ds := "I") q hd hq ho q1284 rfl (by decide) rfl k
theorem pf_112 (v : Int32) (q : Nat) (hd : decode (kc μ) pc = .ok (.putfield 496, 3)) (hq : pc + 3 = q) (ho : kown μ = "FrostBoxModel") (k : Rch γ d μ q ls st (sI w 112 v) Q X) : Rch γ d μ pc ls (.int v :: .ref 2 :: st) w Q X := R.putM (k0 := 52) (nm := "rowFound") (ds := "I") (ty := .int) (S := fun w => sI w 112 v) q hd hq ho q1284 rfl (by decide) (fx_112 v) (by decide +kernel) rfl rfl (fun _ => rfl) rfl rfl k
theorem gf_113 (q : Nat) (hd : decode (kc μ) pc = .ok (.getfield 499, 3)) (hq : pc + 3 = q) (ho : kown μ = "FrostBoxModel") (k : Rch γ d μ q ls (.int (gI w 113) :: st) w Q X) : Rch γ d μ pc ls (.ref 2 :: st) w Q X := R.getM (k0 := 53) (nm := "sharedBits") (ds := "I") q hd hq ho q1285 rfl (by decide) rfl k
theorem pf_113 (v : Int32) (q : Nat) (hd : decode (kc μ) pc = .ok (.putfield 499, 3)) (hq : pc + 3 = q) (ho : kown μ = "FrostBoxModel") (k : Rch γ d μ q ls st (sI w 113 v) Q X) : Rch γ d μ pc ls (.int v :: .ref 2 :: st) w Q X := R.putM (k0 := 53) (nm := "sharedBits") (ds := "I") (ty := .int) (S := fun w => sI w 113 v) q hd hq ho q1285 rfl (by decide) (fx_113 v) (by decide +kernel) rfl rfl (fun _ => rfl) rfl rfl k
def ndI (w : Wd) (r ci k : Nat) (x : Int32) : Prop := ∃ fs, gF w r = some (ci, fs) ∧ fs[k]? = some (.int x)
def ndO (w : Wd) (r ci k : Nat) (x : Option Nat) : Prop := ∃ fs, gF w r = some (ci, fs) ∧ fs[k]? = some (rv x)
def ndT (w : Wd) (r : Nat) (x : Option Nat) : Prop := ∃ ci fs, (ci = 7 ∨ ci = 8 ∨ ci = 9) ∧ gF w r = some (ci, fs) ∧ fs[0]? = some (rv x)
theorem rvc (o : Option Nat) : (rv o).category = 1 := by cases o <;> rfl
theorem rmZ : (([] : List Value).map fun v => v.category).sum ≤ 0 := Nat.le_refl 0
theorem rmO {o : Option Nat} {st : List Value} {n : Nat} (h : (st.map fun v => v.category).sum ≤ n) : ((rv o :: st).map fun v => v.category).sum ≤ n + 1 := by
  rw [List.map_cons, List.sum_cons, rvc]
  omega
theorem rmI {x : Int32} {st : List Value} {n : Nat} (h : (st.map fun v => v.category).sum ≤ n) : ((Value.int x :: st).map fun v => v.category).sum ≤ n + 1 := by
  rw [List.map_cons, List.sum_cons]
  show 1 + _ ≤ _
  omega
theorem rmR {x : Nat} {st : List Value} {n : Nat} (h : (st.map fun v => v.category).sum ≤ n) : ((Value.ref x :: st).map fun v => v.category).sum ≤ n + 1 := by
  rw [List.map_cons, List.sum_cons]
  show 1 + _ ≤ _
  omega
theorem rmJ {x : Int64} {st : List Value} {n : Nat} (h : (st.map fun v => v.category).sum ≤ n) : ((Value.long x :: st).map fun v => v.category).sum ≤ n + 2 := by
  rw [List.map_cons, List.sum_cons]
  show 2 + _ ≤ _
  omega
theorem c1_rv (o : Option Nat) : c1 (some (rv o)) = true := by cases o <;> rfl
theorem gNext (q : Nat) (hd : decode (kc μ) pc = .ok (.getfield 20, 3)) (hq : pc + 3 = q) (ho : kown μ = "FrostBox$Several") {r : Nat} {x : Option Nat} (h : ndT w r x) (k : Rch γ d μ q ls (rv x :: st) w Q X) : Rch γ d μ pc ls (.ref r :: st) w Q X := by
  obtain ⟨ci, fs, hc, h1, h2⟩ := h
  rcases hc with rfl | rfl | rfl
  · exact R.getNN (k0 := 0) (T := TX11) q hd hq ho rfl in_X11 (List.mem_of_getElem? (i := 1) rfl) rfl (by decide) h1 h2 k
  · exact R.getNN (k0 := 0) (T := TX12) q hd hq ho rfl in_X12 (List.mem_of_getElem? (i := 1) rfl) rfl (by decide) h1 h2 k
  · exact R.getNN (k0 := 0) (T := TX13) q hd hq ho rfl in_X13 (List.mem_of_getElem? (i := 1) rfl) rfl (by decide) h1 h2 k
theorem pNext (q : Nat) (hd : decode (kc μ) pc = .ok (.putfield 20, 3)) (hq : pc + 3 = q) (ho : kown μ = "FrostBox$Several") {r ci : Nat} {fs : List Value} {x : Option Nat} (hc : ci = 7 ∨ ci = 8 ∨ ci = 9) (h1 : gF w r = some (ci, fs)) (hl : 0 < fs.length) (k : Rch γ d μ q ls st (sF w r (ci, fs.set 0 (rv x))) Q X) : Rch γ d μ pc ls (rv x :: .ref r :: st) w Q X := by
  rcases hc with rfl | rfl | rfl
  · exact R.putNN (k0 := 0) (T := TX11) (ty := .object "FrostBox$Test") q hd hq ho rfl in_X11 tyX11_ok nmX11 (List.mem_of_getElem? (i := 1) rfl) rfl (by decide) (by decide +kernel) (nar_o γ _ x) (fit_o γ _ x) hl h1 k
  · exact R.putNN (k0 := 0) (T := TX12) (ty := .object "FrostBox$Test") q hd hq ho rfl in_X12 tyX12_ok nmX12 (List.mem_of_getElem? (i := 1) rfl) rfl (by decide) (by decide +kernel) (nar_o γ _ x) (fit_o γ _ x) hl h1 k
  · exact R.putNN (k0 := 0) (T := TX13) (ty := .object "FrostBox$Test") q hd hq ho rfl in_X13 tyX13_ok nmX13 (List.mem_of_getElem? (i := 1) rfl) rfl (by decide) (by decide +kernel) (nar_o γ _ x) (fit_o γ _ x) hl h1 k
end FL
/-- a method's own contract, chosen by the receiver -/
def VCt (γ : GG) (d : Nat) (x : MethodName) (i : Nat) (as : List Value) (w : Wd) (Q : Option Value → Wd → Prop) : Prop := ∃ (C : String) (y : MethodName) (b : ByteArray) (L : Nat) (r : Option FieldType), L ≤ 21 ∧ Ctr γ d y (ws_ y b L r) (.ref i :: as) w Q xN ∧ RcO γ w i C ∧ Cond.selects C x y ∈ lw_all ∧ Cond.instanceMethod y ∈ lw_all ∧ Cond.initialized y.cls ∈ lw_all ∧ Cond.code y b L r ∈ lw_all
theorem Rch.callVir {γ : GG} {d d' : Nat} {μ : MK} {pc : Nat} {ls : List (Option Value)} {st0 st as : List Value} {w : Wd} {Q Qc : Option Value → Wd → Prop} {X : String → Wd → Prop} {x : MethodName} {idx i n : Nat} {owner : String} (hV : VCt γ d' x i as w Qc) (hd : decode (kc μ) pc = .ok (.invokevirtual idx, 3)) (hl : Cond.methodLink (kown μ) idx x ∈ lw_all) (hsm : Cond.sameMethod x.cls owner x.name x.desc ∈ lw_all) (hz : Cond.declares ⟨owner, x.name, x.desc⟩ ∈ nestD) (hn : owner ≠ "java/lang/invoke/MethodHandle" ∧ owner ≠ "java/lang/invoke/VarHandle" ∧ (parseMethodDescriptor x.desc).map (fun d => d.parameters.length) = some n) (hdd : d' < d) (hna : as.length = n) (hst : st0 = as.reverse ++ .ref i :: st) (hrm : (st.map fun v => v.category).sum ≤ 8)
    (kk : ∀ r w', Qc r w' → Rch γ d μ (pc + 3) ls (r.toList ++ st) w' Q X) : Rch γ d μ pc ls st0 w Q X := by
  obtain ⟨C, y, b, L, r, hL, hM, hr, h1, h2, h3, h4⟩ := hV
  exact Rch.callU hM hd (lw_U hl hsm h1 h2 h3 h4) hz hn hr hdd hL hna hst hrm kk kN
theorem dk_X0_box : DescOk yX0_box 4 := by decide +kernel
theorem dk_X2_init : DescOk yX2_init 0 := by decide +kernel
theorem dk_X4_init : DescOk yX4_init 0 := by decide +kernel
theorem dk_X5_init : DescOk yX5_init 1 := by decide +kernel
theorem dk_X5_value : DescOk yX5_value 1 := by decide +kernel
theorem dk_X6_init : DescOk yX6_init 1 := by decide +kernel
theorem dk_X6_value : DescOk yX6_value 1 := by decide +kernel
theorem dk_X7_init : DescOk yX7_init 1 := by decide +kernel
theorem dk_X7_add : DescOk yX7_add 2 := by decide +kernel
theorem dk_X7_value : DescOk yX7_value 1 := by decide +kernel
theorem dk_X8_init : DescOk yX8_init 2 := by decide +kernel
theorem dk_X8_on : DescOk yX8_on 2 := by decide +kernel
theorem dk_X9_init : DescOk yX9_init 3 := by decide +kernel
theorem dk_X10_init : DescOk yX10_init 0 := by decide +kernel
theorem dk_X11_init : DescOk yX11_init 1 := by decide +kernel
theorem dk_X11_holds : DescOk yX11_holds 1 := by decide +kernel
theorem dk_X12_init : DescOk yX12_init 3 := by decide +kernel
theorem dk_X12_holds : DescOk yX12_holds 1 := by decide +kernel
theorem dk_X13_init : DescOk yX13_init 2 := by decide +kernel
theorem dk_X13_add : DescOk yX13_add 1 := by decide +kernel
theorem dk_X13_holds : DescOk yX13_holds 1 := by decide +kernel
theorem dk_J0_init : DescOk yJ0_init 0 := by decide +kernel
theorem dk_J1_init : DescOk yJ1_init 0 := by decide +kernel
theorem dk_J2_indexOf : DescOk yJ2_indexOf 1 := by decide +kernel
theorem dk_J2_indexOf_2 : DescOk yJ2_indexOf_2 2 := by decide +kernel
theorem dk_J2_isLatin1 : DescOk yJ2_isLatin1 0 := by decide +kernel
theorem dk_J2_length : DescOk yJ2_length 0 := by decide +kernel
theorem dk_J2_coder : DescOk yJ2_coder 0 := by decide +kernel
theorem dk_J2_checkBoundsBeginEnd : DescOk yJ2_checkBoundsBeginEnd 3 := by decide +kernel
theorem dk_J2_charAt : DescOk yJ2_charAt 1 := by decide +kernel
theorem dk_J2_checkIndex : DescOk yJ2_checkIndex 2 := by decide +kernel
theorem dk_J3_indexOf : DescOk yJ3_indexOf 4 := by decide +kernel
theorem dk_J3_canEncode : DescOk yJ3_canEncode 1 := by decide +kernel
theorem dk_J3_indexOfChar : DescOk yJ3_indexOfChar 4 := by decide +kernel
theorem dk_J3_charAt : DescOk yJ3_charAt 2 := by decide +kernel
theorem dk_J4_max : DescOk yJ4_max 2 := by decide +kernel
theorem dk_J4_min : DescOk yJ4_min 2 := by decide +kernel
theorem dk_J4_min_2 : DescOk yJ4_min_2 2 := by decide +kernel
theorem dk_J4_max_2 : DescOk yJ4_max_2 2 := by decide +kernel
theorem dk_J5_indexOf : DescOk yJ5_indexOf 4 := by decide +kernel
theorem dk_J5_indexOfChar : DescOk yJ5_indexOfChar 4 := by decide +kernel
theorem dk_J5_checkBoundsBeginEnd : DescOk yJ5_checkBoundsBeginEnd 3 := by decide +kernel
theorem dk_J5_length : DescOk yJ5_length 1 := by decide +kernel
theorem dk_J5_indexOfCharUnsafe : DescOk yJ5_indexOfCharUnsafe 4 := by decide +kernel
theorem dk_J5_getChar : DescOk yJ5_getChar 2 := by decide +kernel
theorem dk_J5_indexOfSupplementary : DescOk yJ5_indexOfSupplementary 4 := by decide +kernel
theorem dk_J5_charAt : DescOk yJ5_charAt 2 := by decide +kernel
theorem dk_J5_checkIndex : DescOk yJ5_checkIndex 2 := by decide +kernel
theorem dk_J6_checkFromToIndex : DescOk yJ6_checkFromToIndex 4 := by decide +kernel
theorem dk_J6_checkIndex : DescOk yJ6_checkIndex 3 := by decide +kernel
theorem dk_J7_isValidCodePoint : DescOk yJ7_isValidCodePoint 1 := by decide +kernel
theorem dk_J7_highSurrogate : DescOk yJ7_highSurrogate 1 := by decide +kernel
theorem dk_J7_lowSurrogate : DescOk yJ7_lowSurrogate 1 := by decide +kernel
theorem dk_J8_init : DescOk yJ8_init 0 := by decide +kernel
theorem dk_J9_init : DescOk yJ9_init 0 := by decide +kernel
theorem dk_J10_numberOfTrailingZeros : DescOk yJ10_numberOfTrailingZeros 1 := by decide +kernel
theorem dk_J10_numberOfLeadingZeros : DescOk yJ10_numberOfLeadingZeros 1 := by decide +kernel
theorem dk_J10_bitCount : DescOk yJ10_bitCount 1 := by decide +kernel
theorem dk_J11_init : DescOk yJ11_init 0 := by decide +kernel
theorem dk_X1_init : DescOk yX1_init 0 := by decide +kernel
theorem dk_X1_feed : DescOk yX1_feed 5 := by decide +kernel
theorem dk_X1_byteOf : DescOk yX1_byteOf 6 := by decide +kernel
theorem dk_X1_end : DescOk yX1_end 1 := by decide +kernel
theorem dk_X1_fault : DescOk yX1_fault 1 := by decide +kernel
theorem dk_X1_lawFault : DescOk yX1_lawFault 0 := by decide +kernel
theorem dk_X1_wholeLaw : DescOk yX1_wholeLaw 0 := by decide +kernel
theorem dk_X1_clause : DescOk yX1_clause 0 := by decide +kernel
theorem dk_X1_look : DescOk yX1_look 0 := by decide +kernel
theorem dk_X1_need : DescOk yX1_need 1 := by decide +kernel
theorem dk_X1_sum : DescOk yX1_sum 0 := by decide +kernel
theorem dk_X1_term : DescOk yX1_term 0 := by decide +kernel
theorem dk_X1_atom : DescOk yX1_atom 0 := by decide +kernel
theorem dk_X1_opens : DescOk yX1_opens 0 := by decide +kernel
theorem dk_X1_closes : DescOk yX1_closes 1 := by decide +kernel
theorem dk_X1_isDigit : DescOk yX1_isDigit 1 := by decide +kernel
theorem dk_X1_isSign : DescOk yX1_isSign 1 := by decide +kernel
theorem dk_X1_condition : DescOk yX1_condition 1 := by decide +kernel
theorem dk_X1_part : DescOk yX1_part 1 := by decide +kernel
theorem dk_X1_unit : DescOk yX1_unit 0 := by decide +kernel
theorem dk_X1_compare : DescOk yX1_compare 1 := by decide +kernel
theorem dk_X1_readAs : DescOk yX1_readAs 1 := by decide +kernel
theorem dk_X1_wholeHouse : DescOk yX1_wholeHouse 0 := by decide +kernel
theorem dk_X1_usual : DescOk yX1_usual 2 := by decide +kernel
theorem dk_X1_items : DescOk yX1_items 4 := by decide +kernel
theorem dk_X1_there : DescOk yX1_there 0 := by decide +kernel
theorem dk_X1_item : DescOk yX1_item 2 := by decide +kernel
theorem dk_X1_has : DescOk yX1_has 2 := by decide +kernel
theorem dk_X1_lowest : DescOk yX1_lowest 2 := by decide +kernel
theorem dk_X1_highest : DescOk yX1_highest 2 := by decide +kernel
theorem dk_X1_number : DescOk yX1_number 2 := by decide +kernel
theorem dk_X1_in : DescOk yX1_in 3 := by decide +kernel
theorem dk_X1_isWhole : DescOk yX1_isWhole 0 := by decide +kernel
theorem dk_X1_wholePlan : DescOk yX1_wholePlan 1 := by decide +kernel
theorem dk_X1_stepRead : DescOk yX1_stepRead 1 := by decide +kernel
theorem dk_X1_digit : DescOk yX1_digit 1 := by decide +kernel
theorem dk_X1_text : DescOk yX1_text 1 := by decide +kernel
theorem dk_X1_lawRead : DescOk yX1_lawRead 0 := by decide +kernel
theorem dk_X1_planRead : DescOk yX1_planRead 0 := by decide +kernel
theorem dk_X1_rule : DescOk yX1_rule 1 := by decide +kernel
theorem dk_X1_isHouse : DescOk yX1_isHouse 0 := by decide +kernel
theorem dk_X1_kind : DescOk yX1_kind 2 := by decide +kernel
theorem dk_X1_isKind : DescOk yX1_isKind 1 := by decide +kernel
theorem dk_X1_goesWith : DescOk yX1_goesWith 1 := by decide +kernel
theorem dk_X1_ofKind : DescOk yX1_ofKind 2 := by decide +kernel
theorem dk_X1_law : DescOk yX1_law 1 := by decide +kernel
theorem dk_X1_habit : DescOk yX1_habit 1 := by decide +kernel
theorem dk_X1_put : DescOk yX1_put 3 := by decide +kernel
theorem dk_X1_canPut : DescOk yX1_canPut 2 := by decide +kernel
theorem dk_X1_boxMany : DescOk yX1_boxMany 0 := by decide +kernel
theorem dk_X1_portionsAll : DescOk yX1_portionsAll 0 := by decide +kernel
theorem dk_X1_portionsOf : DescOk yX1_portionsOf 1 := by decide +kernel
theorem dk_X1_of : DescOk yX1_of 2 := by decide +kernel
theorem dk_X1_turned : DescOk yX1_turned 1 := by decide +kernel
theorem dk_X1_act : DescOk yX1_act 0 := by decide +kernel
theorem dk_X1_putNow : DescOk yX1_putNow 3 := by decide +kernel
theorem dk_X1_take : DescOk yX1_take 1 := by decide +kernel
theorem dk_X1_isBox : DescOk yX1_isBox 1 := by decide +kernel
theorem dk_X1_takeNow : DescOk yX1_takeNow 1 := by decide +kernel
theorem dk_X1_valueOf : DescOk yX1_valueOf 1 := by decide +kernel
theorem dk_X1_valueAt : DescOk yX1_valueAt 3 := by decide +kernel
theorem dk_X1_aged : DescOk yX1_aged 2 := by decide +kernel
theorem dk_X1_worthAt : DescOk yX1_worthAt 4 := by decide +kernel
theorem dk_X1_forget : DescOk yX1_forget 0 := by decide +kernel
theorem dk_X1_worth : DescOk yX1_worth 3 := by decide +kernel
theorem dk_X1_label : DescOk yX1_label 1 := by decide +kernel
theorem dk_X1_canLabel : DescOk yX1_canLabel 1 := by decide +kernel
theorem dk_X1_isLabelled : DescOk yX1_isLabelled 1 := by decide +kernel
theorem dk_X1_labelNow : DescOk yX1_labelNow 1 := by decide +kernel
theorem dk_X1_months : DescOk yX1_months 1 := by decide +kernel
theorem dk_X1_canPass : DescOk yX1_canPass 1 := by decide +kernel
theorem dk_X1_pass : DescOk yX1_pass 0 := by decide +kernel
theorem dk_X1_older : DescOk yX1_older 1 := by decide +kernel
theorem dk_X1_off : DescOk yX1_off 1 := by decide +kernel
theorem dk_X1_isOff : DescOk yX1_isOff 1 := by decide +kernel
theorem dk_X1_tooMany : DescOk yX1_tooMany 1 := by decide +kernel
theorem dk_X1_years : DescOk yX1_years 2 := by decide +kernel
theorem dk_X1_draw : DescOk yX1_draw 1 := by decide +kernel
theorem dk_X1_undo : DescOk yX1_undo 0 := by decide +kernel
theorem dk_X1_log : DescOk yX1_log 2 := by decide +kernel
theorem dk_X1_step : DescOk yX1_step 3 := by decide +kernel
theorem dk_X1_isPlan : DescOk yX1_isPlan 1 := by decide +kernel
theorem dk_X1_run : DescOk yX1_run 2 := by decide +kernel
theorem dk_X1_putAside : DescOk yX1_putAside 0 := by decide +kernel
theorem dk_X1_canStep : DescOk yX1_canStep 1 := by decide +kernel
theorem dk_X1_doStep : DescOk yX1_doStep 1 := by decide +kernel
theorem dk_X1_takeBack : DescOk yX1_takeBack 0 := by decide +kernel
theorem dk_X1_perform : DescOk yX1_perform 1 := by decide +kernel
theorem dk_X1_dinner : DescOk yX1_dinner 2 := by decide +kernel
theorem dk_X1_isMeal : DescOk yX1_isMeal 1 := by decide +kernel
theorem dk_X1_isWith : DescOk yX1_isWith 2 := by decide +kernel
theorem dk_X1_valueOfSet : DescOk yX1_valueOfSet 1 := by decide +kernel
theorem dk_X1_eat : DescOk yX1_eat 1 := by decide +kernel
theorem dk_X1_eatingFrom : DescOk yX1_eatingFrom 1 := by decide +kernel
theorem dk_X1_eatenNow : DescOk yX1_eatenNow 2 := by decide +kernel
theorem dk_X1_belowIn : DescOk yX1_belowIn 2 := by decide +kernel
theorem dk_X1_layEating : DescOk yX1_layEating 0 := by decide +kernel
theorem dk_X1_eatingRow : DescOk yX1_eatingRow 0 := by decide +kernel
theorem dk_X1_costs : DescOk yX1_costs 1 := by decide +kernel
theorem dk_X1_valueAll : DescOk yX1_valueAll 0 := by decide +kernel
theorem dk_X1_full : DescOk yX1_full 1 := by decide +kernel
theorem dk_X1_keep : DescOk yX1_keep 2 := by decide +kernel
theorem dk_X1_spans : DescOk yX1_spans 2 := by decide +kernel
theorem dk_X1_couldHold : DescOk yX1_couldHold 2 := by decide +kernel
theorem dk_X1_weighs : DescOk yX1_weighs 1 := by decide +kernel
theorem dk_X1_nameless : DescOk yX1_nameless 0 := by decide +kernel
theorem dk_X1_namelessNow : DescOk yX1_namelessNow 0 := by decide +kernel
theorem dk_X1_doubles : DescOk yX1_doubles 1 := by decide +kernel
theorem dk_X1_areDouble : DescOk yX1_areDouble 2 := by decide +kernel
theorem dk_X1_peek : DescOk yX1_peek 2 := by decide +kernel
theorem dk_X1_what : DescOk yX1_what 1 := by decide +kernel
theorem dk_X1_mostHeld : DescOk yX1_mostHeld 1 := by decide +kernel
theorem dk_X1_heldOf : DescOk yX1_heldOf 1 := by decide +kernel
theorem dk_X1_found : DescOk yX1_found 3 := by decide +kernel
theorem dk_X1_history : DescOk yX1_history 2 := by decide +kernel
theorem dk_X1_layRows : DescOk yX1_layRows 2 := by decide +kernel
theorem dk_X1_tryRows : DescOk yX1_tryRows 2 := by decide +kernel
theorem dk_X1_mayBe : DescOk yX1_mayBe 2 := by decide +kernel
theorem dk_X1_share : DescOk yX1_share 1 := by decide +kernel
theorem dk_X1_lot : DescOk yX1_lot 1 := by decide +kernel
theorem dk_X1_labels : DescOk yX1_labels 2 := by decide +kernel
theorem dk_X1_labelsOf : DescOk yX1_labelsOf 2 := by decide +kernel
theorem dk_X1_rests : DescOk yX1_rests 1 := by decide +kernel
theorem dk_X1_most : DescOk yX1_most 1 := by decide +kernel
theorem dk_X1_spoilt : DescOk yX1_spoilt 0 := by decide +kernel
theorem dk_X1_buried : DescOk yX1_buried 1 := by decide +kernel
theorem dk_X1_goes : DescOk yX1_goes 1 := by decide +kernel
theorem dk_X1_soonest : DescOk yX1_soonest 1 := by decide +kernel
theorem dk_X1_monthly : DescOk yX1_monthly 1 := by decide +kernel
theorem dk_X1_make : DescOk yX1_make 2 := by decide +kernel
theorem dk_X1_image : DescOk yX1_image 0 := by decide +kernel
theorem dk_X1_back : DescOk yX1_back 0 := by decide +kernel
theorem dk_X1_count : DescOk yX1_count 1 := by decide +kernel
theorem dk_X1_eatenAll : DescOk yX1_eatenAll 0 := by decide +kernel
theorem dk_X1_box : DescOk yX1_box 2 := by decide +kernel
theorem dk_X3_init : DescOk yX3_init 0 := by decide +kernel
theorem dk_X3_thrown : DescOk yX3_thrown 0 := by decide +kernel
theorem dk_X3_feed : DescOk yX3_feed 5 := by decide +kernel
theorem dk_X3_bytesIn : DescOk yX3_bytesIn 1 := by decide +kernel
theorem dk_X3_put : DescOk yX3_put 1 := by decide +kernel
theorem dk_X3_end : DescOk yX3_end 1 := by decide +kernel
theorem dk_X3_fault : DescOk yX3_fault 1 := by decide +kernel
theorem dk_X3_isIn : DescOk yX3_isIn 3 := by decide +kernel
theorem dk_X3_readHouse : DescOk yX3_readHouse 0 := by decide +kernel
theorem dk_X3_starts : DescOk yX3_starts 3 := by decide +kernel
theorem dk_X3_usual : DescOk yX3_usual 2 := by decide +kernel
theorem dk_X3_readClause : DescOk yX3_readClause 0 := by decide +kernel
theorem dk_X3_look : DescOk yX3_look 0 := by decide +kernel
theorem dk_X3_fails : DescOk yX3_fails 0 := by decide +kernel
theorem dk_X3_readItems : DescOk yX3_readItems 4 := by decide +kernel
theorem dk_X3_spotOf : DescOk yX3_spotOf 2 := by decide +kernel
theorem dk_X3_has : DescOk yX3_has 2 := by decide +kernel
theorem dk_X3_leastOf : DescOk yX3_leastOf 2 := by decide +kernel
theorem dk_X3_mostOf : DescOk yX3_mostOf 2 := by decide +kernel
theorem dk_X3_number : DescOk yX3_number 2 := by decide +kernel
theorem dk_X3_isDigit : DescOk yX3_isDigit 0 := by decide +kernel
theorem dk_X3_here : DescOk yX3_here 0 := by decide +kernel
theorem dk_X3_isWhole : DescOk yX3_isWhole 0 := by decide +kernel
theorem dk_X3_goThrough : DescOk yX3_goThrough 3 := by decide +kernel
theorem dk_X3_clause : DescOk yX3_clause 0 := by decide +kernel
theorem dk_X3_isAmong : DescOk yX3_isAmong 2 := by decide +kernel
theorem dk_X3_takes : DescOk yX3_takes 1 := by decide +kernel
theorem dk_X3_condition : DescOk yX3_condition 2 := by decide +kernel
theorem dk_X3_part : DescOk yX3_part 2 := by decide +kernel
theorem dk_X3_compares : DescOk yX3_compares 2 := by decide +kernel
theorem dk_X3_sum : DescOk yX3_sum 0 := by decide +kernel
theorem dk_X3_term : DescOk yX3_term 0 := by decide +kernel
theorem dk_X3_atom : DescOk yX3_atom 0 := by decide +kernel
theorem dk_X3_goesIn : DescOk yX3_goesIn 0 := by decide +kernel
theorem dk_X3_within : DescOk yX3_within 1 := by decide +kernel
theorem dk_X3_isSign : DescOk yX3_isSign 1 := by decide +kernel
theorem dk_X3_unit : DescOk yX3_unit 0 := by decide +kernel
theorem dk_X3_readPlan : DescOk yX3_readPlan 0 := by decide +kernel
theorem dk_X3_readStep : DescOk yX3_readStep 1 := by decide +kernel
theorem dk_X3_digit : DescOk yX3_digit 1 := by decide +kernel
theorem dk_X3_text : DescOk yX3_text 1 := by decide +kernel
theorem dk_X3_rule : DescOk yX3_rule 1 := by decide +kernel
theorem dk_X3_kind : DescOk yX3_kind 2 := by decide +kernel
theorem dk_X3_isKind : DescOk yX3_isKind 1 := by decide +kernel
theorem dk_X3_told : DescOk yX3_told 2 := by decide +kernel
theorem dk_X3_box : DescOk yX3_box 2 := by decide +kernel
theorem dk_X3_isBox : DescOk yX3_isBox 2 := by decide +kernel
theorem dk_X3_valueOf : DescOk yX3_valueOf 2 := by decide +kernel
theorem dk_X3_valueOn : DescOk yX3_valueOn 4 := by decide +kernel
theorem dk_X3_portionOf : DescOk yX3_portionOf 5 := by decide +kernel
theorem dk_X3_worthNow : DescOk yX3_worthNow 0 := by decide +kernel
theorem dk_X3_weightOf : DescOk yX3_weightOf 2 := by decide +kernel
theorem dk_X3_law : DescOk yX3_law 1 := by decide +kernel
theorem dk_X3_habit : DescOk yX3_habit 1 := by decide +kernel
theorem dk_X3_put_2 : DescOk yX3_put_2 3 := by decide +kernel
theorem dk_X3_canPut : DescOk yX3_canPut 3 := by decide +kernel
theorem dk_X3_sumIn : DescOk yX3_sumIn 1 := by decide +kernel
theorem dk_X3_remember : DescOk yX3_remember 0 := by decide +kernel
theorem dk_X3_puts : DescOk yX3_puts 4 := by decide +kernel
theorem dk_X3_take : DescOk yX3_take 1 := by decide +kernel
theorem dk_X3_eats : DescOk yX3_eats 2 := by decide +kernel
theorem dk_X3_drops : DescOk yX3_drops 2 := by decide +kernel
theorem dk_X3_label : DescOk yX3_label 1 := by decide +kernel
theorem dk_X3_canLabel : DescOk yX3_canLabel 2 := by decide +kernel
theorem dk_X3_names : DescOk yX3_names 2 := by decide +kernel
theorem dk_X3_months : DescOk yX3_months 1 := by decide +kernel
theorem dk_X3_mayPass : DescOk yX3_mayPass 3 := by decide +kernel
theorem dk_X3_goMonth : DescOk yX3_goMonth 1 := by decide +kernel
theorem dk_X3_ages : DescOk yX3_ages 2 := by decide +kernel
theorem dk_X3_off : DescOk yX3_off 1 := by decide +kernel
theorem dk_X3_isHours : DescOk yX3_isHours 1 := by decide +kernel
theorem dk_X3_moreThanBorne : DescOk yX3_moreThanBorne 2 := by decide +kernel
theorem dk_X3_years : DescOk yX3_years 2 := by decide +kernel
theorem dk_X3_draw : DescOk yX3_draw 1 := by decide +kernel
theorem dk_X3_undo : DescOk yX3_undo 0 := by decide +kernel
theorem dk_X3_log : DescOk yX3_log 2 := by decide +kernel
theorem dk_X3_step : DescOk yX3_step 3 := by decide +kernel
theorem dk_X3_isPlan : DescOk yX3_isPlan 1 := by decide +kernel
theorem dk_X3_run : DescOk yX3_run 2 := by decide +kernel
theorem dk_X3_copy : DescOk yX3_copy 2 := by decide +kernel
theorem dk_X3_canStep : DescOk yX3_canStep 2 := by decide +kernel
theorem dk_X3_timesOf : DescOk yX3_timesOf 1 := by decide +kernel
theorem dk_X3_steps : DescOk yX3_steps 2 := by decide +kernel
theorem dk_X3_perform : DescOk yX3_perform 1 := by decide +kernel
theorem dk_X3_dinner : DescOk yX3_dinner 2 := by decide +kernel
theorem dk_X3_isDinner : DescOk yX3_isDinner 1 := by decide +kernel
theorem dk_X3_kindIn : DescOk yX3_kindIn 1 := by decide +kernel
theorem dk_X3_fit : DescOk yX3_fit 2 := by decide +kernel
theorem dk_X3_eat : DescOk yX3_eat 1 := by decide +kernel
theorem dk_X3_goEat : DescOk yX3_goEat 4 := by decide +kernel
theorem dk_X3_belowOf : DescOk yX3_belowOf 2 := by decide +kernel
theorem dk_X3_costs : DescOk yX3_costs 1 := by decide +kernel
theorem dk_X3_valueIn : DescOk yX3_valueIn 1 := by decide +kernel
theorem dk_X3_full : DescOk yX3_full 1 := by decide +kernel
theorem dk_X3_keep : DescOk yX3_keep 2 := by decide +kernel
theorem dk_X3_spans : DescOk yX3_spans 2 := by decide +kernel
theorem dk_X3_isNameless : DescOk yX3_isNameless 1 := by decide +kernel
theorem dk_X3_couldBe : DescOk yX3_couldBe 2 := by decide +kernel
theorem dk_X3_nameless : DescOk yX3_nameless 0 := by decide +kernel
theorem dk_X3_doubles : DescOk yX3_doubles 1 := by decide +kernel
theorem dk_X3_peek : DescOk yX3_peek 2 := by decide +kernel
theorem dk_X3_what : DescOk yX3_what 1 := by decide +kernel
theorem dk_X3_greatestBy : DescOk yX3_greatestBy 1 := by decide +kernel
theorem dk_X3_heldBy : DescOk yX3_heldBy 1 := by decide +kernel
theorem dk_X3_found : DescOk yX3_found 3 := by decide +kernel
theorem dk_X3_history : DescOk yX3_history 2 := by decide +kernel
theorem dk_X3_layHistory : DescOk yX3_layHistory 2 := by decide +kernel
theorem dk_X3_goHistory : DescOk yX3_goHistory 3 := by decide +kernel
theorem dk_X3_mayBe : DescOk yX3_mayBe 2 := by decide +kernel
theorem dk_X3_share : DescOk yX3_share 1 := by decide +kernel
theorem dk_X3_lot : DescOk yX3_lot 1 := by decide +kernel
theorem dk_X3_labels : DescOk yX3_labels 2 := by decide +kernel
theorem dk_X3_labelsOf : DescOk yX3_labelsOf 2 := by decide +kernel
theorem dk_X3_rests : DescOk yX3_rests 1 := by decide +kernel
theorem dk_X3_most : DescOk yX3_most 1 := by decide +kernel
theorem dk_X3_spoilt : DescOk yX3_spoilt 0 := by decide +kernel
theorem dk_X3_buried : DescOk yX3_buried 1 := by decide +kernel
theorem dk_X3_goes : DescOk yX3_goes 1 := by decide +kernel
theorem dk_X3_soonest : DescOk yX3_soonest 1 := by decide +kernel
theorem dk_X3_monthly : DescOk yX3_monthly 1 := by decide +kernel
theorem dk_X3_make : DescOk yX3_make 2 := by decide +kernel
theorem dk_X3_image : DescOk yX3_image 0 := by decide +kernel
theorem dk_X3_back : DescOk yX3_back 0 := by decide +kernel
theorem dk_X3_count : DescOk yX3_count 1 := by decide +kernel
theorem bl_X5 : ∀ j, j < 1 → defaultValue (tyX5 j) = vp_V [.int 0] j := by
  intro j hj
  match j, hj with
  | 0, _ => rfl
  | k + 1, h => exact absurd h (by omega)
theorem bl_X6 : ∀ j, j < 1 → defaultValue (tyX6 j) = vp_V [.int 0] j := by
  intro j hj
  match j, hj with
  | 0, _ => rfl
  | k + 1, h => exact absurd h (by omega)
theorem bl_X7 : ∀ j, j < 3 → defaultValue (tyX7 j) = vp_V [.null, .null, .null] j := by
  intro j hj
  match j, hj with
  | 0, _ => rfl
  | 1, _ => rfl
  | 2, _ => rfl
  | k + 3, h => exact absurd h (by omega)
theorem bl_X8 : ∀ j, j < 3 → defaultValue (tyX8 j) = vp_V [.int 0, .null, .null] j := by
  intro j hj
  match j, hj with
  | 0, _ => rfl
  | 1, _ => rfl
  | 2, _ => rfl
  | k + 3, h => exact absurd h (by omega)
theorem bl_X9 : ∀ j, j < 4 → defaultValue (tyX9 j) = vp_V [.int 0, .null, .null, .null] j := by
  intro j hj
  match j, hj with
  | 0, _ => rfl
  | 1, _ => rfl
  | 2, _ => rfl
  | 3, _ => rfl
  | k + 4, h => exact absurd h (by omega)
theorem bl_X11 : ∀ j, j < 2 → defaultValue (tyX11 j) = vp_V [.null, .null] j := by
  intro j hj
  match j, hj with
  | 0, _ => rfl
  | 1, _ => rfl
  | k + 2, h => exact absurd h (by omega)
theorem bl_X12 : ∀ j, j < 4 → defaultValue (tyX12 j) = vp_V [.null, .int 0, .null, .null] j := by
  intro j hj
  match j, hj with
  | 0, _ => rfl
  | 1, _ => rfl
  | 2, _ => rfl
  | 3, _ => rfl
  | k + 4, h => exact absurd h (by omega)
theorem bl_X13 : ∀ j, j < 4 → defaultValue (tyX13 j) = vp_V [.null, .int 0, .null, .null] j := by
  intro j hj
  match j, hj with
  | 0, _ => rfl
  | 1, _ => rfl
  | 2, _ => rfl
  | 3, _ => rfl
  | k + 4, h => exact absurd h (by omega)
