set_option maxRecDepth 100000

abbrev k_law : MK := ("FrostBoxLaw", cL_law, 7, (some .boolean), [], "law")
def b_law_595 (L0 : Nat) (xs : Nat → Int32) (Q : Int32 → Wd → Prop) (R23 : Int32 → Wd → Prop) (l4 : Int32) (t0 : Int32) (t1 : Int32) (t2 : Int32) (w : Wd) : Prop := wp_X1_put t2 t1 t0 w (fun r1 w2 => inb (l4 + (iz 1)) L0 ∧ inb (l4 + (iz 2)) L0 ∧ inb (l4 + (iz 3)) L0 ∧ ((xs (l4 + (iz 3)).toNatClampNeg) = iz 0 → wp_X3_put_2 (xs (l4 + (iz 1)).toNatClampNeg) (xs (l4 + (iz 2)).toNatClampNeg) (iz 0) w2 (fun r3 w4 => (r1 = r3 → R23 (l4 + iz 6) w4) ∧ (¬ r1 = r3 → Q (iz 0) w4))) ∧ (¬ (xs (l4 + (iz 3)).toNatClampNeg) = iz 0 → wp_X3_put_2 (xs (l4 + (iz 1)).toNatClampNeg) (xs (l4 + (iz 2)).toNatClampNeg) (iz 1) w2 (fun r5 w6 => (r1 = r5 → R23 (l4 + iz 6) w6) ∧ (¬ r1 = r5 → Q (iz 0) w6))))
def b_law_1276 (L0 : Nat) (xs : Nat → Int32) (Q : Int32 → Wd → Prop) (R23 : Int32 → Wd → Prop) (l4 : Int32) (t0 : Int32) (t1 : Int32) (t2 : Int32) (w : Wd) : Prop := wp_X1_found t2 t1 t0 w (fun r1 w2 => inb (l4 + (iz 1)) L0 ∧ inb (l4 + (iz 2)) L0 ∧ inb (l4 + (iz 3)) L0 ∧ ((xs (l4 + (iz 3)).toNatClampNeg) = iz 0 → wp_X3_found (xs (l4 + (iz 1)).toNatClampNeg) (xs (l4 + (iz 2)).toNatClampNeg) (iz 0) w2 (fun r3 w4 => (r1 = r3 → R23 (l4 + iz 6) w4) ∧ (¬ r1 = r3 → Q (iz 0) w4))) ∧ (¬ (xs (l4 + (iz 3)).toNatClampNeg) = iz 0 → wp_X3_found (xs (l4 + (iz 1)).toNatClampNeg) (xs (l4 + (iz 2)).toNatClampNeg) (iz 1) w2 (fun r5 w6 => (r1 = r5 → R23 (l4 + iz 6) w6) ∧ (¬ r1 = r5 → Q (iz 0) w6))))
def wl_law_23 (L0 : Nat) (xs : Nat → Int32) (Q : Int32 → Wd → Prop) (R23 : Int32 → Wd → Prop) (l4 : Int32) (w : Wd) : Prop := (((iz L0) - (iz 6)) < l4 → Q (iz 1) w) ∧ (¬ ((iz L0) - (iz 6)) < l4 → inb l4 L0 ∧ (((xs l4.toNatClampNeg) &&& (iz 63)).toInt = 0 → inb (l4 + (iz 1)) L0 ∧ inb (l4 + (iz 2)) L0 ∧ inb (l4 + (iz 3)) L0 ∧ inb (l4 + (iz 4)) L0 ∧ inb (l4 + (iz 5)) L0 ∧ wp_X1_feed (xs (l4 + (iz 1)).toNatClampNeg) (xs (l4 + (iz 2)).toNatClampNeg) (xs (l4 + (iz 3)).toNatClampNeg) (xs (l4 + (iz 4)).toNatClampNeg) (xs (l4 + (iz 5)).toNatClampNeg) w (fun r1 w2 => inb (l4 + (iz 1)) L0 ∧ inb (l4 + (iz 2)) L0 ∧ inb (l4 + (iz 3)) L0 ∧ inb (l4 + (iz 4)) L0 ∧ inb (l4 + (iz 5)) L0 ∧ wp_X3_feed (xs (l4 + (iz 1)).toNatClampNeg) (xs (l4 + (iz 2)).toNatClampNeg) (xs (l4 + (iz 3)).toNatClampNeg) (xs (l4 + (iz 4)).toNatClampNeg) (xs (l4 + (iz 5)).toNatClampNeg) w2 (fun r3 w4 => (r1 = r3 → R23 (l4 + iz 6) w4) ∧ (¬ r1 = r3 → Q (iz 0) w4)))) ∧ (((xs l4.toNatClampNeg) &&& (iz 63)).toInt = 1 → inb (l4 + (iz 1)) L0 ∧ wp_X1_end (xs (l4 + (iz 1)).toNatClampNeg) w (fun r5 w6 => inb (l4 + (iz 1)) L0 ∧ wp_X3_end (xs (l4 + (iz 1)).toNatClampNeg) w6 (fun r7 w8 => (r5 = r7 → R23 (l4 + iz 6) w8) ∧ (¬ r5 = r7 → Q (iz 0) w8)))) ∧ (((xs l4.toNatClampNeg) &&& (iz 63)).toInt = 2 → inb (l4 + (iz 1)) L0 ∧ wp_X1_fault (xs (l4 + (iz 1)).toNatClampNeg) w (fun r9 w10 => inb (l4 + (iz 1)) L0 ∧ wp_X3_fault (xs (l4 + (iz 1)).toNatClampNeg) w10 (fun r11 w12 => (r9 = r11 → R23 (l4 + iz 6) w12) ∧ (¬ r9 = r11 → Q (iz 0) w12)))) ∧ (((xs l4.toNatClampNeg) &&& (iz 63)).toInt = 3 → inb (l4 + (iz 1)) L0 ∧ wp_X1_text (xs (l4 + (iz 1)).toNatClampNeg) w (fun r13 w14 => inb (l4 + (iz 1)) L0 ∧ wp_X3_text (xs (l4 + (iz 1)).toNatClampNeg) w14 (fun r15 w16 => (r13 = r15 → R23 (l4 + iz 6) w16) ∧ (¬ r13 = r15 → Q (iz 0) w16)))) ∧ (((xs l4.toNatClampNeg) &&& (iz 63)).toInt = 4 → inb (l4 + (iz 1)) L0 ∧ wp_X1_rule (xs (l4 + (iz 1)).toNatClampNeg) w (fun r17 w18 => inb (l4 + (iz 1)) L0 ∧ wp_X3_rule (xs (l4 + (iz 1)).toNatClampNeg) w18 (fun r19 w20 => (r17 = r19 → R23 (l4 + iz 6) w20) ∧ (¬ r17 = r19 → Q (iz 0) w20)))) ∧ (((xs l4.toNatClampNeg) &&& (iz 63)).toInt = 5 → inb (l4 + (iz 1)) L0 ∧ inb (l4 + (iz 2)) L0 ∧ wp_X1_kind (xs (l4 + (iz 1)).toNatClampNeg) (xs (l4 + (iz 2)).toNatClampNeg) w (fun r21 w22 => inb (l4 + (iz 1)) L0 ∧ inb (l4 + (iz 2)) L0 ∧ wp_X3_kind (xs (l4 + (iz 1)).toNatClampNeg) (xs (l4 + (iz 2)).toNatClampNeg) w22 (fun r23 w24 => (r21 = r23 → R23 (l4 + iz 6) w24) ∧ (¬ r21 = r23 → Q (iz 0) w24)))) ∧ (((xs l4.toNatClampNeg) &&& (iz 63)).toInt = 6 → inb (l4 + (iz 1)) L0 ∧ inb (l4 + (iz 2)) L0 ∧ wp_X0_box (xs (l4 + (iz 1)).toNatClampNeg) (xs (l4 + (iz 2)).toNatClampNeg) w (fun r25 w26 => inb (l4 + (iz 1)) L0 ∧ inb (l4 + (iz 2)) L0 ∧ wp_X3_box (xs (l4 + (iz 1)).toNatClampNeg) (xs (l4 + (iz 2)).toNatClampNeg) w26 (fun r27 w28 => wp_X3_thrown w28 (fun r29 w30 => (r29 = r25 → (¬ r25 = iz 0 → R23 (l4 + iz 6) w30) ∧ (r25 = iz 0 → inb (iz 0) 1 ∧ ((lg_cmp (gL w30 3 (iz 0).toInt) (r27).toInt64) = iz 0 → R23 (l4 + iz 6) w30) ∧ (¬ (lg_cmp (gL w30 3 (iz 0).toInt) (r27).toInt64) = iz 0 → Q (iz 0) w30))) ∧ (¬ r29 = r25 → Q (iz 0) w30))))) ∧ (((xs l4.toNatClampNeg) &&& (iz 63)).toInt = 7 → inb (l4 + (iz 1)) L0 ∧ wp_X1_law (xs (l4 + (iz 1)).toNatClampNeg) w (fun r31 w32 => inb (l4 + (iz 1)) L0 ∧ wp_X3_law (xs (l4 + (iz 1)).toNatClampNeg) w32 (fun r33 w34 => (r31 = r33 → R23 (l4 + iz 6) w34) ∧ (¬ r31 = r33 → Q (iz 0) w34)))) ∧ (((xs l4.toNatClampNeg) &&& (iz 63)).toInt = 8 → inb (l4 + (iz 1)) L0 ∧ wp_X1_habit (xs (l4 + (iz 1)).toNatClampNeg) w (fun r35 w36 => inb (l4 + (iz 1)) L0 ∧ wp_X3_habit (xs (l4 + (iz 1)).toNatClampNeg) w36 (fun r37 w38 => (r35 = r37 → R23 (l4 + iz 6) w38) ∧ (¬ r35 = r37 → Q (iz 0) w38)))) ∧ (((xs l4.toNatClampNeg) &&& (iz 63)).toInt = 9 → inb (l4 + (iz 1)) L0 ∧ inb (l4 + (iz 2)) L0 ∧ inb (l4 + (iz 3)) L0 ∧ ((xs (l4 + (iz 3)).toNatClampNeg) = iz 0 → b_law_595 L0 xs Q R23 l4 (iz 0) (xs (l4 + (iz 2)).toNatClampNeg) (xs (l4 + (iz 1)).toNatClampNeg) w) ∧ (¬ (xs (l4 + (iz 3)).toNatClampNeg) = iz 0 → b_law_595 L0 xs Q R23 l4 (iz 1) (xs (l4 + (iz 2)).toNatClampNeg) (xs (l4 + (iz 1)).toNatClampNeg) w)) ∧ (((xs l4.toNatClampNeg) &&& (iz 63)).toInt = 10 → inb (l4 + (iz 1)) L0 ∧ wp_X1_take (xs (l4 + (iz 1)).toNatClampNeg) w (fun r39 w40 => inb (l4 + (iz 1)) L0 ∧ wp_X3_take (xs (l4 + (iz 1)).toNatClampNeg) w40 (fun r41 w42 => (r39 = r41 → R23 (l4 + iz 6) w42) ∧ (¬ r39 = r41 → Q (iz 0) w42)))) ∧ (((xs l4.toNatClampNeg) &&& (iz 63)).toInt = 11 → inb (l4 + (iz 1)) L0 ∧ wp_X1_label (xs (l4 + (iz 1)).toNatClampNeg) w (fun r43 w44 => inb (l4 + (iz 1)) L0 ∧ wp_X3_label (xs (l4 + (iz 1)).toNatClampNeg) w44 (fun r45 w46 => (r43 = r45 → R23 (l4 + iz 6) w46) ∧ (¬ r43 = r45 → Q (iz 0) w46)))) ∧ (((xs l4.toNatClampNeg) &&& (iz 63)).toInt = 12 → inb (l4 + (iz 1)) L0 ∧ wp_X1_months (xs (l4 + (iz 1)).toNatClampNeg) w (fun r47 w48 => inb (l4 + (iz 1)) L0 ∧ wp_X3_months (xs (l4 + (iz 1)).toNatClampNeg) w48 (fun r49 w50 => (r47 = r49 → R23 (l4 + iz 6) w50) ∧ (¬ r47 = r49 → Q (iz 0) w50)))) ∧ (((xs l4.toNatClampNeg) &&& (iz 63)).toInt = 13 → inb (l4 + (iz 1)) L0 ∧ wp_X1_off (xs (l4 + (iz 1)).toNatClampNeg) w (fun r51 w52 => inb (l4 + (iz 1)) L0 ∧ wp_X3_off (xs (l4 + (iz 1)).toNatClampNeg) w52 (fun r53 w54 => (r51 = r53 → R23 (l4 + iz 6) w54) ∧ (¬ r51 = r53 → Q (iz 0) w54)))) ∧ (((xs l4.toNatClampNeg) &&& (iz 63)).toInt = 14 → inb (l4 + (iz 1)) L0 ∧ inb (l4 + (iz 2)) L0 ∧ inb (l4 + (iz 3)) L0 ∧ wp_X1_years (xs (l4 + (iz 1)).toNatClampNeg) ((((xs (l4 + (iz 2)).toNatClampNeg)).toInt64 <<< (((iz 32)).toInt64 &&& 63)) ||| (((xs (l4 + (iz 3)).toNatClampNeg)).toInt64 &&& (lz 4294967295))) w (fun r55 w56 => inb (l4 + (iz 1)) L0 ∧ inb (l4 + (iz 2)) L0 ∧ inb (l4 + (iz 3)) L0 ∧ wp_X3_years (xs (l4 + (iz 1)).toNatClampNeg) ((((xs (l4 + (iz 2)).toNatClampNeg)).toInt64 <<< (((iz 32)).toInt64 &&& 63)) ||| (((xs (l4 + (iz 3)).toNatClampNeg)).toInt64 &&& (lz 4294967295))) w56 (fun r57 w58 => (r55 = r57 → R23 (l4 + iz 6) w58) ∧ (¬ r55 = r57 → Q (iz 0) w58)))) ∧ (((xs l4.toNatClampNeg) &&& (iz 63)).toInt = 15 → wp_X1_undo w (fun r59 w60 => wp_X3_undo w60 (fun r61 w62 => (r59 = r61 → R23 (l4 + iz 6) w62) ∧ (¬ r59 = r61 → Q (iz 0) w62)))) ∧ (((xs l4.toNatClampNeg) &&& (iz 63)).toInt = 16 → inb (l4 + (iz 1)) L0 ∧ inb (l4 + (iz 2)) L0 ∧ wp_X1_log (xs (l4 + (iz 1)).toNatClampNeg) (xs (l4 + (iz 2)).toNatClampNeg) w (fun r63 w64 => inb (l4 + (iz 1)) L0 ∧ inb (l4 + (iz 2)) L0 ∧ wp_X3_log (xs (l4 + (iz 1)).toNatClampNeg) (xs (l4 + (iz 2)).toNatClampNeg) w64 (fun r65 w66 => (r63 = r65 → R23 (l4 + iz 6) w66) ∧ (¬ r63 = r65 → Q (iz 0) w66)))) ∧ (((xs l4.toNatClampNeg) &&& (iz 63)).toInt = 17 → inb (l4 + (iz 1)) L0 ∧ inb (l4 + (iz 2)) L0 ∧ inb (l4 + (iz 3)) L0 ∧ wp_X1_step (xs (l4 + (iz 1)).toNatClampNeg) (xs (l4 + (iz 2)).toNatClampNeg) (xs (l4 + (iz 3)).toNatClampNeg) w (fun r67 w68 => inb (l4 + (iz 1)) L0 ∧ inb (l4 + (iz 2)) L0 ∧ inb (l4 + (iz 3)) L0 ∧ wp_X3_step (xs (l4 + (iz 1)).toNatClampNeg) (xs (l4 + (iz 2)).toNatClampNeg) (xs (l4 + (iz 3)).toNatClampNeg) w68 (fun r69 w70 => (r67 = r69 → R23 (l4 + iz 6) w70) ∧ (¬ r67 = r69 → Q (iz 0) w70)))) ∧ (((xs l4.toNatClampNeg) &&& (iz 63)).toInt = 18 → inb (l4 + (iz 1)) L0 ∧ inb (l4 + (iz 2)) L0 ∧ wp_X1_run (xs (l4 + (iz 1)).toNatClampNeg) (xs (l4 + (iz 2)).toNatClampNeg) w (fun r71 w72 => inb (l4 + (iz 1)) L0 ∧ inb (l4 + (iz 2)) L0 ∧ wp_X3_run (xs (l4 + (iz 1)).toNatClampNeg) (xs (l4 + (iz 2)).toNatClampNeg) w72 (fun r73 w74 => (r71 = r73 → R23 (l4 + iz 6) w74) ∧ (¬ r71 = r73 → Q (iz 0) w74)))) ∧ (((xs l4.toNatClampNeg) &&& (iz 63)).toInt = 19 → inb (l4 + (iz 1)) L0 ∧ wp_X1_perform (xs (l4 + (iz 1)).toNatClampNeg) w (fun r75 w76 => inb (l4 + (iz 1)) L0 ∧ wp_X3_perform (xs (l4 + (iz 1)).toNatClampNeg) w76 (fun r77 w78 => (r75 = r77 → R23 (l4 + iz 6) w78) ∧ (¬ r75 = r77 → Q (iz 0) w78)))) ∧ (((xs l4.toNatClampNeg) &&& (iz 63)).toInt = 20 → inb (l4 + (iz 1)) L0 ∧ inb (l4 + (iz 2)) L0 ∧ wp_X1_dinner (xs (l4 + (iz 1)).toNatClampNeg) (xs (l4 + (iz 2)).toNatClampNeg) w (fun r79 w80 => inb (l4 + (iz 1)) L0 ∧ inb (l4 + (iz 2)) L0 ∧ wp_X3_dinner (xs (l4 + (iz 1)).toNatClampNeg) (xs (l4 + (iz 2)).toNatClampNeg) w80 (fun r81 w82 => (r79 = r81 → R23 (l4 + iz 6) w82) ∧ (¬ r79 = r81 → Q (iz 0) w82)))) ∧ (((xs l4.toNatClampNeg) &&& (iz 63)).toInt = 21 → inb (l4 + (iz 1)) L0 ∧ wp_X1_eat (xs (l4 + (iz 1)).toNatClampNeg) w (fun r83 w84 => inb (l4 + (iz 1)) L0 ∧ wp_X3_eat (xs (l4 + (iz 1)).toNatClampNeg) w84 (fun r85 w86 => (r83 = r85 → R23 (l4 + iz 6) w86) ∧ (¬ r83 = r85 → Q (iz 0) w86)))) ∧ (((xs l4.toNatClampNeg) &&& (iz 63)).toInt = 22 → inb (l4 + (iz 1)) L0 ∧ wp_X1_costs (xs (l4 + (iz 1)).toNatClampNeg) w (fun r87 w88 => inb (l4 + (iz 1)) L0 ∧ wp_X3_costs (xs (l4 + (iz 1)).toNatClampNeg) w88 (fun r89 w90 => (r87 = r89 → R23 (l4 + iz 6) w90) ∧ (¬ r87 = r89 → Q (iz 0) w90)))) ∧ (((xs l4.toNatClampNeg) &&& (iz 63)).toInt = 23 → inb (l4 + (iz 1)) L0 ∧ wp_X1_full (xs (l4 + (iz 1)).toNatClampNeg) w (fun r91 w92 => inb (l4 + (iz 1)) L0 ∧ wp_X3_full (xs (l4 + (iz 1)).toNatClampNeg) w92 (fun r93 w94 => (r91 = r93 → R23 (l4 + iz 6) w94) ∧ (¬ r91 = r93 → Q (iz 0) w94)))) ∧ (((xs l4.toNatClampNeg) &&& (iz 63)).toInt = 24 → inb (l4 + (iz 1)) L0 ∧ inb (l4 + (iz 2)) L0 ∧ wp_X1_keep (xs (l4 + (iz 1)).toNatClampNeg) (xs (l4 + (iz 2)).toNatClampNeg) w (fun r95 w96 => inb (l4 + (iz 1)) L0 ∧ inb (l4 + (iz 2)) L0 ∧ wp_X3_keep (xs (l4 + (iz 1)).toNatClampNeg) (xs (l4 + (iz 2)).toNatClampNeg) w96 (fun r97 w98 => (r95 = r97 → R23 (l4 + iz 6) w98) ∧ (¬ r95 = r97 → Q (iz 0) w98)))) ∧ (((xs l4.toNatClampNeg) &&& (iz 63)).toInt = 25 → inb (l4 + (iz 1)) L0 ∧ inb (l4 + (iz 2)) L0 ∧ wp_X1_spans (xs (l4 + (iz 1)).toNatClampNeg) (xs (l4 + (iz 2)).toNatClampNeg) w (fun r99 w100 => inb (l4 + (iz 1)) L0 ∧ inb (l4 + (iz 2)) L0 ∧ wp_X3_spans (xs (l4 + (iz 1)).toNatClampNeg) (xs (l4 + (iz 2)).toNatClampNeg) w100 (fun r101 w102 => (r99 = r101 → R23 (l4 + iz 6) w102) ∧ (¬ r99 = r101 → Q (iz 0) w102)))) ∧ (((xs l4.toNatClampNeg) &&& (iz 63)).toInt = 26 → wp_X1_nameless w (fun r103 w104 => wp_X3_nameless w104 (fun r105 w106 => (r103 = r105 → R23 (l4 + iz 6) w106) ∧ (¬ r103 = r105 → Q (iz 0) w106)))) ∧ (((xs l4.toNatClampNeg) &&& (iz 63)).toInt = 27 → inb (l4 + (iz 1)) L0 ∧ wp_X1_doubles (xs (l4 + (iz 1)).toNatClampNeg) w (fun r107 w108 => inb (l4 + (iz 1)) L0 ∧ wp_X3_doubles (xs (l4 + (iz 1)).toNatClampNeg) w108 (fun r109 w110 => (r107 = r109 → R23 (l4 + iz 6) w110) ∧ (¬ r107 = r109 → Q (iz 0) w110)))) ∧ (((xs l4.toNatClampNeg) &&& (iz 63)).toInt = 28 → inb (l4 + (iz 1)) L0 ∧ inb (l4 + (iz 2)) L0 ∧ wp_X1_peek (xs (l4 + (iz 1)).toNatClampNeg) (xs (l4 + (iz 2)).toNatClampNeg) w (fun r111 w112 => inb (l4 + (iz 1)) L0 ∧ inb (l4 + (iz 2)) L0 ∧ wp_X3_peek (xs (l4 + (iz 1)).toNatClampNeg) (xs (l4 + (iz 2)).toNatClampNeg) w112 (fun r113 w114 => (r111 = r113 → R23 (l4 + iz 6) w114) ∧ (¬ r111 = r113 → Q (iz 0) w114)))) ∧ (((xs l4.toNatClampNeg) &&& (iz 63)).toInt = 29 → inb (l4 + (iz 1)) L0 ∧ wp_X1_what (xs (l4 + (iz 1)).toNatClampNeg) w (fun r115 w116 => inb (l4 + (iz 1)) L0 ∧ wp_X3_what (xs (l4 + (iz 1)).toNatClampNeg) w116 (fun r117 w118 => (r115 = r117 → R23 (l4 + iz 6) w118) ∧ (¬ r115 = r117 → Q (iz 0) w118)))) ∧ (((xs l4.toNatClampNeg) &&& (iz 63)).toInt = 30 → inb (l4 + (iz 1)) L0 ∧ inb (l4 + (iz 2)) L0 ∧ inb (l4 + (iz 3)) L0 ∧ ((xs (l4 + (iz 3)).toNatClampNeg) = iz 0 → b_law_1276 L0 xs Q R23 l4 (iz 0) (xs (l4 + (iz 2)).toNatClampNeg) (xs (l4 + (iz 1)).toNatClampNeg) w) ∧ (¬ (xs (l4 + (iz 3)).toNatClampNeg) = iz 0 → b_law_1276 L0 xs Q R23 l4 (iz 1) (xs (l4 + (iz 2)).toNatClampNeg) (xs (l4 + (iz 1)).toNatClampNeg) w)) ∧ (((xs l4.toNatClampNeg) &&& (iz 63)).toInt = 31 → inb (l4 + (iz 1)) L0 ∧ inb (l4 + (iz 2)) L0 ∧ wp_X1_history (xs (l4 + (iz 1)).toNatClampNeg) (xs (l4 + (iz 2)).toNatClampNeg) w (fun r119 w120 => inb (l4 + (iz 1)) L0 ∧ inb (l4 + (iz 2)) L0 ∧ wp_X3_history (xs (l4 + (iz 1)).toNatClampNeg) (xs (l4 + (iz 2)).toNatClampNeg) w120 (fun r121 w122 => (r119 = r121 → R23 (l4 + iz 6) w122) ∧ (¬ r119 = r121 → Q (iz 0) w122)))) ∧ (((xs l4.toNatClampNeg) &&& (iz 63)).toInt = 32 → inb (l4 + (iz 1)) L0 ∧ wp_X1_share (xs (l4 + (iz 1)).toNatClampNeg) w (fun r123 w124 => inb (l4 + (iz 1)) L0 ∧ wp_X3_share (xs (l4 + (iz 1)).toNatClampNeg) w124 (fun r125 w126 => (r123 = r125 → R23 (l4 + iz 6) w126) ∧ (¬ r123 = r125 → Q (iz 0) w126)))) ∧ (((xs l4.toNatClampNeg) &&& (iz 63)).toInt = 33 → inb (l4 + (iz 1)) L0 ∧ wp_X1_lot (xs (l4 + (iz 1)).toNatClampNeg) w (fun r127 w128 => inb (l4 + (iz 1)) L0 ∧ wp_X3_lot (xs (l4 + (iz 1)).toNatClampNeg) w128 (fun r129 w130 => (r127 = r129 → R23 (l4 + iz 6) w130) ∧ (¬ r127 = r129 → Q (iz 0) w130)))) ∧ (((xs l4.toNatClampNeg) &&& (iz 63)).toInt = 34 → inb (l4 + (iz 1)) L0 ∧ inb (l4 + (iz 2)) L0 ∧ wp_X1_labels (xs (l4 + (iz 1)).toNatClampNeg) (xs (l4 + (iz 2)).toNatClampNeg) w (fun r131 w132 => inb (l4 + (iz 1)) L0 ∧ inb (l4 + (iz 2)) L0 ∧ wp_X3_labels (xs (l4 + (iz 1)).toNatClampNeg) (xs (l4 + (iz 2)).toNatClampNeg) w132 (fun r133 w134 => (r131 = r133 → R23 (l4 + iz 6) w134) ∧ (¬ r131 = r133 → Q (iz 0) w134)))) ∧ (((xs l4.toNatClampNeg) &&& (iz 63)).toInt = 35 → inb (l4 + (iz 1)) L0 ∧ wp_X1_rests (xs (l4 + (iz 1)).toNatClampNeg) w (fun r135 w136 => inb (l4 + (iz 1)) L0 ∧ wp_X3_rests (xs (l4 + (iz 1)).toNatClampNeg) w136 (fun r137 w138 => (r135 = r137 → R23 (l4 + iz 6) w138) ∧ (¬ r135 = r137 → Q (iz 0) w138)))) ∧ (((xs l4.toNatClampNeg) &&& (iz 63)).toInt = 36 → inb (l4 + (iz 1)) L0 ∧ wp_X1_most (xs (l4 + (iz 1)).toNatClampNeg) w (fun r139 w140 => inb (l4 + (iz 1)) L0 ∧ wp_X3_most (xs (l4 + (iz 1)).toNatClampNeg) w140 (fun r141 w142 => (r139 = r141 → R23 (l4 + iz 6) w142) ∧ (¬ r139 = r141 → Q (iz 0) w142)))) ∧ (((xs l4.toNatClampNeg) &&& (iz 63)).toInt = 37 → wp_X1_spoilt w (fun r143 w144 => wp_X3_spoilt w144 (fun r145 w146 => (r143 = r145 → R23 (l4 + iz 6) w146) ∧ (¬ r143 = r145 → Q (iz 0) w146)))) ∧ (((xs l4.toNatClampNeg) &&& (iz 63)).toInt = 38 → inb (l4 + (iz 1)) L0 ∧ wp_X1_buried (xs (l4 + (iz 1)).toNatClampNeg) w (fun r147 w148 => inb (l4 + (iz 1)) L0 ∧ wp_X3_buried (xs (l4 + (iz 1)).toNatClampNeg) w148 (fun r149 w150 => (r147 = r149 → R23 (l4 + iz 6) w150) ∧ (¬ r147 = r149 → Q (iz 0) w150)))) ∧ (((xs l4.toNatClampNeg) &&& (iz 63)).toInt = 39 → inb (l4 + (iz 1)) L0 ∧ wp_X1_goes (xs (l4 + (iz 1)).toNatClampNeg) w (fun r151 w152 => inb (l4 + (iz 1)) L0 ∧ wp_X3_goes (xs (l4 + (iz 1)).toNatClampNeg) w152 (fun r153 w154 => (r151 = r153 → R23 (l4 + iz 6) w154) ∧ (¬ r151 = r153 → Q (iz 0) w154)))) ∧ (((xs l4.toNatClampNeg) &&& (iz 63)).toInt = 40 → inb (l4 + (iz 1)) L0 ∧ wp_X1_soonest (xs (l4 + (iz 1)).toNatClampNeg) w (fun r155 w156 => inb (l4 + (iz 1)) L0 ∧ wp_X3_soonest (xs (l4 + (iz 1)).toNatClampNeg) w156 (fun r157 w158 => (r155 = r157 → R23 (l4 + iz 6) w158) ∧ (¬ r155 = r157 → Q (iz 0) w158)))) ∧ (((xs l4.toNatClampNeg) &&& (iz 63)).toInt = 41 → inb (l4 + (iz 1)) L0 ∧ wp_X1_monthly (xs (l4 + (iz 1)).toNatClampNeg) w (fun r159 w160 => inb (l4 + (iz 1)) L0 ∧ wp_X3_monthly (xs (l4 + (iz 1)).toNatClampNeg) w160 (fun r161 w162 => (r159 = r161 → R23 (l4 + iz 6) w162) ∧ (¬ r159 = r161 → Q (iz 0) w162)))) ∧ (((xs l4.toNatClampNeg) &&& (iz 63)).toInt = 42 → inb (l4 + (iz 1)) L0 ∧ inb (l4 + (iz 2)) L0 ∧ wp_X1_make (xs (l4 + (iz 1)).toNatClampNeg) (xs (l4 + (iz 2)).toNatClampNeg) w (fun r163 w164 => inb (l4 + (iz 1)) L0 ∧ inb (l4 + (iz 2)) L0 ∧ wp_X3_make (xs (l4 + (iz 1)).toNatClampNeg) (xs (l4 + (iz 2)).toNatClampNeg) w164 (fun r165 w166 => (r163 = r165 → R23 (l4 + iz 6) w166) ∧ (¬ r163 = r165 → Q (iz 0) w166)))) ∧ (((xs l4.toNatClampNeg) &&& (iz 63)).toInt = 43 → wp_X1_image w (fun r167 w168 => wp_X3_image w168 (fun r169 w170 => (r167 = r169 → R23 (l4 + iz 6) w170) ∧ (¬ r167 = r169 → Q (iz 0) w170)))) ∧ (((xs l4.toNatClampNeg) &&& (iz 63)).toInt = 44 → wp_X1_back w (fun r171 w172 => wp_X3_back w172 (fun r173 w174 => (r171 = r173 → R23 (l4 + iz 6) w174) ∧ (¬ r171 = r173 → Q (iz 0) w174)))) ∧ (((xs l4.toNatClampNeg) &&& (iz 63)).toInt = 45 → inb (l4 + (iz 1)) L0 ∧ wp_X1_count (xs (l4 + (iz 1)).toNatClampNeg) w (fun r175 w176 => inb (l4 + (iz 1)) L0 ∧ wp_X3_count (xs (l4 + (iz 1)).toNatClampNeg) w176 (fun r177 w178 => (r175 = r177 → R23 (l4 + iz 6) w178) ∧ (¬ r175 = r177 → Q (iz 0) w178)))) ∧ (((xs l4.toNatClampNeg) &&& (iz 63)).toInt < 0 ∨ 45 < ((xs l4.toNatClampNeg) &&& (iz 63)).toInt → R23 (l4 + iz 6) w))
def lp_law_23 (L0 : Nat) (xs : Nat → Int32) (Q : Int32 → Wd → Prop) : Nat → Int32 → Wd → Prop
  | 0, _, _ => False
  | n + 1, l4, w => wl_law_23 L0 xs Q (lp_law_23 L0 xs Q n) l4 w
def wp_law (L0 : Nat) (xs : Nat → Int32) (w : Wd) (Q : Int32 → Wd → Prop) : Prop := ∃ n1, lp_law_23 L0 xs Q n1 (iz 0) w
set_option maxRecDepth 100000 in
set_option maxHeartbeats 4000000 in
theorem s_law_595 {γ : GG} (Q : Int32 → Wd → Prop) (R23 : Int32 → Wd → Prop) (l4 : Int32) (t0 : Int32) (t1 : Int32) (t2 : Int32) (hR23 : ∀ (l4 : Int32) (w : Wd), R23 l4 w → Rch γ 100 k_law 23 [some (.ref 5), some (.ref 1), some (.ref 2), some (.ref 3), some (.int l4), none, none] [] w (qI Q) xN) : ∀ (w : Wd), b_law_595 (gsn γ) (gxs γ) Q R23 l4 t0 t1 t2 w → Rch γ 100 k_law 595 [some (.ref 5), some (.ref 1), some (.ref 2), some (.ref 3), some (.int l4), none, none] [.int t0, .int t1, .int t2, .ref 1] w (qI Q) xN := by
  intro w h
  unfold b_law_595 at h
  refine Rch.callv (sd_X1_put _ _ _ _ _ h) dL_law_595 (lw_V q765 q766 q767 q142 q768) dk_X1_put rcX (by decide) (Nat.le_of_ble_eq_true rfl) rfl rfl (Nat.le_of_ble_eq_true rfl) (kI 598 rfl fun r1 w2 h => ?_) kN
  refine R.aload_n 599 dL_law_598 rfl rfl ?_
  refine R.aload_n 600 dL_law_599 rfl rfl ?_
  refine R.iload 602 dL_law_600 rfl rfl ?_
  refine R.iconst 603 dL_law_602 rfl ?_
  refine R.iadd 604 dL_law_603 rfl ?_
  obtain ⟨hb, h⟩ := h
  refine R.scald 605 dL_law_604 rfl hb ?_
  refine R.aload_n 606 dL_law_605 rfl rfl ?_
  refine R.iload 608 dL_law_606 rfl rfl ?_
  refine R.iconst 609 dL_law_608 rfl ?_
  refine R.iadd 610 dL_law_609 rfl ?_
  obtain ⟨hb, h⟩ := h
  refine R.scald 611 dL_law_610 rfl hb ?_
  refine R.aload_n 612 dL_law_611 rfl rfl ?_
  refine R.iload 614 dL_law_612 rfl rfl ?_
  refine R.iconst 615 dL_law_614 rfl ?_
  refine R.iadd 616 dL_law_615 rfl ?_
  obtain ⟨hb, h⟩ := h
  refine R.scald 617 dL_law_616 rfl hb ?_
  refine R.if_eq 624 620 dL_law_617 (by decide) rfl (fun hc => ?_) (fun hc => ?_)
  · replace h := h.1 hc
    refine R.iconst 625 dL_law_624 rfl ?_
    refine Rch.callv (sd_X3_put_2 _ _ _ _ _ h) dL_law_625 (lw_V q1627 q1628 q1629 q146 q1630) dk_X3_put_2 rcM (by decide) (Nat.le_of_ble_eq_true rfl) rfl rfl (Nat.le_of_ble_eq_true rfl) (kI 628 rfl fun r3 w4 h => ?_) kN
    refine R.icmp_eq 1689 631 dL_law_628 (by decide) rfl (fun hc => ?_) (fun hc => ?_)
    · replace h := h.1 hc
      refine R.inc4 1692 dL_law_1689 rfl (Nat.le_of_ble_eq_true rfl) rfl ?_
      refine R.goto 23 dL_law_1692 (by decide) ?_
      exact Rch.dropk (hR23 _ _ h) ⟨rfl, ⟨rfl, ⟨rfl, ⟨rfl, ⟨rfl, trivial⟩⟩⟩⟩⟩
    · replace h := h.2 hc
      refine R.iconst 632 dL_law_631 rfl ?_
      exact R.retZ dL_law_632 rfl zok0 h
  · replace h := h.2 hc
    refine R.iconst 621 dL_law_620 rfl ?_
    refine R.goto 625 dL_law_621 (by decide) ?_
    refine Rch.callv (sd_X3_put_2 _ _ _ _ _ h) dL_law_625 (lw_V q1627 q1628 q1629 q146 q1630) dk_X3_put_2 rcM (by decide) (Nat.le_of_ble_eq_true rfl) rfl rfl (Nat.le_of_ble_eq_true rfl) (kI 628 rfl fun r5 w6 h => ?_) kN
    refine R.icmp_eq 1689 631 dL_law_628 (by decide) rfl (fun hc => ?_) (fun hc => ?_)
    · replace h := h.1 hc
      refine R.inc4 1692 dL_law_1689 rfl (Nat.le_of_ble_eq_true rfl) rfl ?_
      refine R.goto 23 dL_law_1692 (by decide) ?_
      exact Rch.dropk (hR23 _ _ h) ⟨rfl, ⟨rfl, ⟨rfl, ⟨rfl, ⟨rfl, trivial⟩⟩⟩⟩⟩
    · replace h := h.2 hc
      refine R.iconst 632 dL_law_631 rfl ?_
      exact R.retZ dL_law_632 rfl zok0 h
set_option maxRecDepth 100000 in
set_option maxHeartbeats 4000000 in
theorem s_law_1276 {γ : GG} (Q : Int32 → Wd → Prop) (R23 : Int32 → Wd → Prop) (l4 : Int32) (t0 : Int32) (t1 : Int32) (t2 : Int32) (hR23 : ∀ (l4 : Int32) (w : Wd), R23 l4 w → Rch γ 100 k_law 23 [some (.ref 5), some (.ref 1), some (.ref 2), some (.ref 3), some (.int l4), none, none] [] w (qI Q) xN) : ∀ (w : Wd), b_law_1276 (gsn γ) (gxs γ) Q R23 l4 t0 t1 t2 w → Rch γ 100 k_law 1276 [some (.ref 5), some (.ref 1), some (.ref 2), some (.ref 3), some (.int l4), none, none] [.int t0, .int t1, .int t2, .ref 1] w (qI Q) xN := by
  intro w h
  unfold b_law_1276 at h
  refine Rch.callv (sd_X1_found _ _ _ _ _ h) dL_law_1276 (lw_V q1111 q1112 q1113 q142 q1114) dk_X1_found rcX (by decide) (Nat.le_of_ble_eq_true rfl) rfl rfl (Nat.le_of_ble_eq_true rfl) (kI 1279 rfl fun r1 w2 h => ?_) kN
  refine R.aload_n 1280 dL_law_1279 rfl rfl ?_
  refine R.aload_n 1281 dL_law_1280 rfl rfl ?_
  refine R.iload 1283 dL_law_1281 rfl rfl ?_
  refine R.iconst 1284 dL_law_1283 rfl ?_
  refine R.iadd 1285 dL_law_1284 rfl ?_
  obtain ⟨hb, h⟩ := h
  refine R.scald 1286 dL_law_1285 rfl hb ?_
  refine R.aload_n 1287 dL_law_1286 rfl rfl ?_
  refine R.iload 1289 dL_law_1287 rfl rfl ?_
  refine R.iconst 1290 dL_law_1289 rfl ?_
  refine R.iadd 1291 dL_law_1290 rfl ?_
  obtain ⟨hb, h⟩ := h
  refine R.scald 1292 dL_law_1291 rfl hb ?_
  refine R.aload_n 1293 dL_law_1292 rfl rfl ?_
  refine R.iload 1295 dL_law_1293 rfl rfl ?_
  refine R.iconst 1296 dL_law_1295 rfl ?_
  refine R.iadd 1297 dL_law_1296 rfl ?_
  obtain ⟨hb, h⟩ := h
  refine R.scald 1298 dL_law_1297 rfl hb ?_
  refine R.if_eq 1305 1301 dL_law_1298 (by decide) rfl (fun hc => ?_) (fun hc => ?_)
  · replace h := h.1 hc
    refine R.iconst 1306 dL_law_1305 rfl ?_
    refine Rch.callv (sd_X3_found _ _ _ _ _ h) dL_law_1306 (lw_V q1830 q1831 q1832 q146 q1833) dk_X3_found rcM (by decide) (Nat.le_of_ble_eq_true rfl) rfl rfl (Nat.le_of_ble_eq_true rfl) (kI 1309 rfl fun r3 w4 h => ?_) kN
    refine R.icmp_eq 1689 1312 dL_law_1309 (by decide) rfl (fun hc => ?_) (fun hc => ?_)
    · replace h := h.1 hc
      refine R.inc4 1692 dL_law_1689 rfl (Nat.le_of_ble_eq_true rfl) rfl ?_
      refine R.goto 23 dL_law_1692 (by decide) ?_
      exact Rch.dropk (hR23 _ _ h) ⟨rfl, ⟨rfl, ⟨rfl, ⟨rfl, ⟨rfl, trivial⟩⟩⟩⟩⟩
    · replace h := h.2 hc
      refine R.iconst 1313 dL_law_1312 rfl ?_
      exact R.retZ dL_law_1313 rfl zok0 h
  · replace h := h.2 hc
    refine R.iconst 1302 dL_law_1301 rfl ?_
    refine R.goto 1306 dL_law_1302 (by decide) ?_
    refine Rch.callv (sd_X3_found _ _ _ _ _ h) dL_law_1306 (lw_V q1830 q1831 q1832 q146 q1833) dk_X3_found rcM (by decide) (Nat.le_of_ble_eq_true rfl) rfl rfl (Nat.le_of_ble_eq_true rfl) (kI 1309 rfl fun r5 w6 h => ?_) kN
    refine R.icmp_eq 1689 1312 dL_law_1309 (by decide) rfl (fun hc => ?_) (fun hc => ?_)
    · replace h := h.1 hc
      refine R.inc4 1692 dL_law_1689 rfl (Nat.le_of_ble_eq_true rfl) rfl ?_
      refine R.goto 23 dL_law_1692 (by decide) ?_
      exact Rch.dropk (hR23 _ _ h) ⟨rfl, ⟨rfl, ⟨rfl, ⟨rfl, ⟨rfl, trivial⟩⟩⟩⟩⟩
    · replace h := h.2 hc
      refine R.iconst 1313 dL_law_1312 rfl ?_
      exact R.retZ dL_law_1313 rfl zok0 h
set_option maxRecDepth 100000 in
set_option maxHeartbeats 4000000 in
theorem sl_law_23 {γ : GG} (Q : Int32 → Wd → Prop) : ∀ (n : Nat) (l4 : Int32) (w : Wd), lp_law_23 (gsn γ) (gxs γ) Q n l4 w → Rch γ 100 k_law 23 [some (.ref 5), some (.ref 1), some (.ref 2), some (.ref 3), some (.int l4), none, none] [] w (qI Q) xN := by
  intro n
  induction n with
  | zero => intro _ _ h; exact h.elim
  | succ n hR23 =>
    intro l4 w h
    have h : wl_law_23 (gsn γ) (gxs γ) Q (lp_law_23 (gsn γ) (gxs γ) Q n) l4 w := h
    unfold wl_law_23 at h
    refine R.iload 25 dL_law_23 rfl rfl ?_
    refine R.aload_n 26 dL_law_25 rfl rfl ?_
    refine R.sclen 27 dL_law_26 rfl ?_
    refine R.bipush 29 dL_law_27 rfl (by decide +kernel) ?_
    refine R.isub 30 dL_law_29 rfl ?_
    refine R.icmp_gt 1695 33 dL_law_30 (by decide) rfl (fun hc => ?_) (fun hc => ?_)
    · replace h := h.1 hc
      refine R.iconst 1696 dL_law_1695 rfl ?_
      exact R.retZ dL_law_1696 rfl zok1 h
    · replace h := h.2 hc
      refine R.aload_n 34 dL_law_33 rfl rfl ?_
      refine R.iload 36 dL_law_34 rfl rfl ?_
      obtain ⟨hb, h⟩ := h
      refine R.scald 37 dL_law_36 rfl hb ?_
      refine R.bipush 39 dL_law_37 rfl (by decide +kernel) ?_
      refine R.iand 40 dL_law_39 rfl ?_
      by_cases c0 : ((gxs γ l4.toNatClampNeg) &&& (iz 63)).toInt = 0
      · replace h := h.1 c0
        refine R.tswIn 0 240 dL_law_40 c0 (by decide) (by decide) rfl (by decide) ?_
        refine R.aload_n 241 dL_law_240 rfl rfl ?_
        refine R.aload_n 242 dL_law_241 rfl rfl ?_
        refine R.iload 244 dL_law_242 rfl rfl ?_
        refine R.iconst 245 dL_law_244 rfl ?_
        refine R.iadd 246 dL_law_245 rfl ?_
        obtain ⟨hb, h⟩ := h
        refine R.scald 247 dL_law_246 rfl hb ?_
        refine R.aload_n 248 dL_law_247 rfl rfl ?_
        refine R.iload 250 dL_law_248 rfl rfl ?_
        refine R.iconst 251 dL_law_250 rfl ?_
        refine R.iadd 252 dL_law_251 rfl ?_
        obtain ⟨hb, h⟩ := h
        refine R.scald 253 dL_law_252 rfl hb ?_
        refine R.aload_n 254 dL_law_253 rfl rfl ?_
        refine R.iload 256 dL_law_254 rfl rfl ?_
        refine R.iconst 257 dL_law_256 rfl ?_
        refine R.iadd 258 dL_law_257 rfl ?_
        obtain ⟨hb, h⟩ := h
        refine R.scald 259 dL_law_258 rfl hb ?_
        refine R.aload_n 260 dL_law_259 rfl rfl ?_
        refine R.iload 262 dL_law_260 rfl rfl ?_
        refine R.iconst 263 dL_law_262 rfl ?_
        refine R.iadd 264 dL_law_263 rfl ?_
        obtain ⟨hb, h⟩ := h
        refine R.scald 265 dL_law_264 rfl hb ?_
        refine R.aload_n 266 dL_law_265 rfl rfl ?_
        refine R.iload 268 dL_law_266 rfl rfl ?_
        refine R.iconst 269 dL_law_268 rfl ?_
        refine R.iadd 270 dL_law_269 rfl ?_
        obtain ⟨hb, h⟩ := h
        refine R.scald 271 dL_law_270 rfl hb ?_
        refine Rch.callv (sd_X1_feed _ _ _ _ _ _ _ h) dL_law_271 (lw_V q363 q364 q365 q142 q366) dk_X1_feed rcX (by decide) (Nat.le_of_ble_eq_true rfl) rfl rfl (Nat.le_of_ble_eq_true rfl) (kI 274 rfl fun r1 w2 h => ?_) kN
        refine R.aload_n 275 dL_law_274 rfl rfl ?_
        refine R.aload_n 276 dL_law_275 rfl rfl ?_
        refine R.iload 278 dL_law_276 rfl rfl ?_
        refine R.iconst 279 dL_law_278 rfl ?_
        refine R.iadd 280 dL_law_279 rfl ?_
        obtain ⟨hb, h⟩ := h
        refine R.scald 281 dL_law_280 rfl hb ?_
        refine R.aload_n 282 dL_law_281 rfl rfl ?_
        refine R.iload 284 dL_law_282 rfl rfl ?_
        refine R.iconst 285 dL_law_284 rfl ?_
        refine R.iadd 286 dL_law_285 rfl ?_
        obtain ⟨hb, h⟩ := h
        refine R.scald 287 dL_law_286 rfl hb ?_
        refine R.aload_n 288 dL_law_287 rfl rfl ?_
        refine R.iload 290 dL_law_288 rfl rfl ?_
        refine R.iconst 291 dL_law_290 rfl ?_
        refine R.iadd 292 dL_law_291 rfl ?_
        obtain ⟨hb, h⟩ := h
        refine R.scald 293 dL_law_292 rfl hb ?_
        refine R.aload_n 294 dL_law_293 rfl rfl ?_
        refine R.iload 296 dL_law_294 rfl rfl ?_
        refine R.iconst 297 dL_law_296 rfl ?_
        refine R.iadd 298 dL_law_297 rfl ?_
        obtain ⟨hb, h⟩ := h
        refine R.scald 299 dL_law_298 rfl hb ?_
        refine R.aload_n 300 dL_law_299 rfl rfl ?_
        refine R.iload 302 dL_law_300 rfl rfl ?_
        refine R.iconst 303 dL_law_302 rfl ?_
        refine R.iadd 304 dL_law_303 rfl ?_
        obtain ⟨hb, h⟩ := h
        refine R.scald 305 dL_law_304 rfl hb ?_
        refine Rch.callv (sd_X3_feed _ _ _ _ _ _ _ h) dL_law_305 (lw_V q1406 q1407 q1408 q146 q1409) dk_X3_feed rcM (by decide) (Nat.le_of_ble_eq_true rfl) rfl rfl (Nat.le_of_ble_eq_true rfl) (kI 308 rfl fun r3 w4 h => ?_) kN
        refine R.icmp_eq 1689 311 dL_law_308 (by decide) rfl (fun hc => ?_) (fun hc => ?_)
        · replace h := h.1 hc
          refine R.inc4 1692 dL_law_1689 rfl (Nat.le_of_ble_eq_true rfl) rfl ?_
          refine R.goto 23 dL_law_1692 (by decide) ?_
          exact Rch.dropk (hR23 _ _ h) ⟨rfl, ⟨rfl, ⟨rfl, ⟨rfl, ⟨rfl, trivial⟩⟩⟩⟩⟩
        · replace h := h.2 hc
          refine R.iconst 312 dL_law_311 rfl ?_
          exact R.retZ dL_law_312 rfl zok0 h
      replace h := h.2
      by_cases c1 : ((gxs γ l4.toNatClampNeg) &&& (iz 63)).toInt = 1
      · replace h := h.1 c1
        refine R.tswIn 1 313 dL_law_40 c1 (by decide) (by decide) rfl (by decide) ?_
        refine R.aload_n 314 dL_law_313 rfl rfl ?_
        refine R.aload_n 315 dL_law_314 rfl rfl ?_
        refine R.iload 317 dL_law_315 rfl rfl ?_
        refine R.iconst 318 dL_law_317 rfl ?_
        refine R.iadd 319 dL_law_318 rfl ?_
        obtain ⟨hb, h⟩ := h
        refine R.scald 320 dL_law_319 rfl hb ?_
        refine Rch.callv (sd_X1_end _ _ _ h) dL_law_320 (lw_V q370 q371 q372 q142 q373) dk_X1_end rcX (by decide) (Nat.le_of_ble_eq_true rfl) rfl rfl (Nat.le_of_ble_eq_true rfl) (kI 323 rfl fun r5 w6 h => ?_) kN
        refine R.aload_n 324 dL_law_323 rfl rfl ?_
        refine R.aload_n 325 dL_law_324 rfl rfl ?_
        refine R.iload 327 dL_law_325 rfl rfl ?_
        refine R.iconst 328 dL_law_327 rfl ?_
        refine R.iadd 329 dL_law_328 rfl ?_
        obtain ⟨hb, h⟩ := h
        refine R.scald 330 dL_law_329 rfl hb ?_
        refine Rch.callv (sd_X3_end _ _ _ h) dL_law_330 (lw_V q1417 q1418 q1419 q146 q1420) dk_X3_end rcM (by decide) (Nat.le_of_ble_eq_true rfl) rfl rfl (Nat.le_of_ble_eq_true rfl) (kI 333 rfl fun r7 w8 h => ?_) kN
        refine R.icmp_eq 1689 336 dL_law_333 (by decide) rfl (fun hc => ?_) (fun hc => ?_)
        · replace h := h.1 hc
          refine R.inc4 1692 dL_law_1689 rfl (Nat.le_of_ble_eq_true rfl) rfl ?_
          refine R.goto 23 dL_law_1692 (by decide) ?_
          exact Rch.dropk (hR23 _ _ h) ⟨rfl, ⟨rfl, ⟨rfl, ⟨rfl, ⟨rfl, trivial⟩⟩⟩⟩⟩
        · replace h := h.2 hc
          refine R.iconst 337 dL_law_336 rfl ?_
          exact R.retZ dL_law_337 rfl zok0 h
      replace h := h.2
      by_cases c2 : ((gxs γ l4.toNatClampNeg) &&& (iz 63)).toInt = 2
      · replace h := h.1 c2
        refine R.tswIn 2 338 dL_law_40 c2 (by decide) (by decide) rfl (by decide) ?_
        refine R.aload_n 339 dL_law_338 rfl rfl ?_
        refine R.aload_n 340 dL_law_339 rfl rfl ?_
        refine R.iload 342 dL_law_340 rfl rfl ?_
        refine R.iconst 343 dL_law_342 rfl ?_
        refine R.iadd 344 dL_law_343 rfl ?_
        obtain ⟨hb, h⟩ := h
        refine R.scald 345 dL_law_344 rfl hb ?_
        refine Rch.callvH (sd_X1_fault _ _ _ h) dL_law_345 (lw_VW q374 q375 q376 q142 q377) dk_X1_fault rcX (by decide) (Nat.le_of_ble_eq_true rfl) rfl rfl (Nat.le_of_ble_eq_true rfl) (kI 348 rfl fun r9 w10 h => ?_) kN
        refine R.aload_n 349 dL_law_348 rfl rfl ?_
        refine R.aload_n 350 dL_law_349 rfl rfl ?_
        refine R.iload 352 dL_law_350 rfl rfl ?_
        refine R.iconst 353 dL_law_352 rfl ?_
        refine R.iadd 354 dL_law_353 rfl ?_
        obtain ⟨hb, h⟩ := h
        refine R.scald 355 dL_law_354 rfl hb ?_
        refine Rch.callv (sd_X3_fault _ _ _ h) dL_law_355 (lw_V q1421 q1422 q1423 q146 q1424) dk_X3_fault rcM (by decide) (Nat.le_of_ble_eq_true rfl) rfl rfl (Nat.le_of_ble_eq_true rfl) (kI 358 rfl fun r11 w12 h => ?_) kN
        refine R.icmp_eq 1689 361 dL_law_358 (by decide) rfl (fun hc => ?_) (fun hc => ?_)
        · replace h := h.1 hc
          refine R.inc4 1692 dL_law_1689 rfl (Nat.le_of_ble_eq_true rfl) rfl ?_
          refine R.goto 23 dL_law_1692 (by decide) ?_
          exact Rch.dropk (hR23 _ _ h) ⟨rfl, ⟨rfl, ⟨rfl, ⟨rfl, ⟨rfl, trivial⟩⟩⟩⟩⟩
        · replace h := h.2 hc
          refine R.iconst 362 dL_law_361 rfl ?_
          exact R.retZ dL_law_362 rfl zok0 h
      replace h := h.2
      by_cases c3 : ((gxs γ l4.toNatClampNeg) &&& (iz 63)).toInt = 3
      · replace h := h.1 c3
        refine R.tswIn 3 363 dL_law_40 c3 (by decide) (by decide) rfl (by decide) ?_
        refine R.aload_n 364 dL_law_363 rfl rfl ?_
        refine R.aload_n 365 dL_law_364 rfl rfl ?_
        refine R.iload 367 dL_law_365 rfl rfl ?_
        refine R.iconst 368 dL_law_367 rfl ?_
        refine R.iadd 369 dL_law_368 rfl ?_
        obtain ⟨hb, h⟩ := h
        refine R.scald 370 dL_law_369 rfl hb ?_
        refine Rch.callv (sd_X1_text _ _ _ h) dL_law_370 (lw_V q720 q721 q722 q142 q723) dk_X1_text rcX (by decide) (Nat.le_of_ble_eq_true rfl) rfl rfl (Nat.le_of_ble_eq_true rfl) (kI 373 rfl fun r13 w14 h => ?_) kN
        refine R.aload_n 374 dL_law_373 rfl rfl ?_
        refine R.aload_n 375 dL_law_374 rfl rfl ?_
        refine R.iload 377 dL_law_375 rfl rfl ?_
        refine R.iconst 378 dL_law_377 rfl ?_
        refine R.iadd 379 dL_law_378 rfl ?_
        obtain ⟨hb, h⟩ := h
        refine R.scald 380 dL_law_379 rfl hb ?_
        refine Rch.callv (sd_X3_text _ _ _ h) dL_law_380 (lw_V q1559 q1560 q1561 q146 q1562) dk_X3_text rcM (by decide) (Nat.le_of_ble_eq_true rfl) rfl rfl (Nat.le_of_ble_eq_true rfl) (kI 383 rfl fun r15 w16 h => ?_) kN
        refine R.icmp_eq 1689 386 dL_law_383 (by decide) rfl (fun hc => ?_) (fun hc => ?_)
        · replace h := h.1 hc
          refine R.inc4 1692 dL_law_1689 rfl (Nat.le_of_ble_eq_true rfl) rfl ?_
          refine R.goto 23 dL_law_1692 (by decide) ?_
          exact Rch.dropk (hR23 _ _ h) ⟨rfl, ⟨rfl, ⟨rfl, ⟨rfl, ⟨rfl, trivial⟩⟩⟩⟩⟩
        · replace h := h.2 hc
          refine R.iconst 387 dL_law_386 rfl ?_
          exact R.retZ dL_law_387 rfl zok0 h
      replace h := h.2
      by_cases c4 : ((gxs γ l4.toNatClampNeg) &&& (iz 63)).toInt = 4
      · replace h := h.1 c4
        refine R.tswIn 4 388 dL_law_40 c4 (by decide) (by decide) rfl (by decide) ?_
        refine R.aload_n 389 dL_law_388 rfl rfl ?_
        refine R.aload_n 390 dL_law_389 rfl rfl ?_
        refine R.iload 392 dL_law_390 rfl rfl ?_
        refine R.iconst 393 dL_law_392 rfl ?_
        refine R.iadd 394 dL_law_393 rfl ?_
        obtain ⟨hb, h⟩ := h
        refine R.scald 395 dL_law_394 rfl hb ?_
        refine Rch.callv (sd_X1_rule _ _ _ h) dL_law_395 (lw_V q733 q734 q735 q142 q736) dk_X1_rule rcX (by decide) (Nat.le_of_ble_eq_true rfl) rfl rfl (Nat.le_of_ble_eq_true rfl) (kI 398 rfl fun r17 w18 h => ?_) kN
        refine R.aload_n 399 dL_law_398 rfl rfl ?_
        refine R.aload_n 400 dL_law_399 rfl rfl ?_
        refine R.iload 402 dL_law_400 rfl rfl ?_
        refine R.iconst 403 dL_law_402 rfl ?_
        refine R.iadd 404 dL_law_403 rfl ?_
        obtain ⟨hb, h⟩ := h
        refine R.scald 405 dL_law_404 rfl hb ?_
        refine Rch.callv (sd_X3_rule _ _ _ h) dL_law_405 (lw_V q1564 q1565 q1566 q146 q1567) dk_X3_rule rcM (by decide) (Nat.le_of_ble_eq_true rfl) rfl rfl (Nat.le_of_ble_eq_true rfl) (kI 408 rfl fun r19 w20 h => ?_) kN
        refine R.icmp_eq 1689 411 dL_law_408 (by decide) rfl (fun hc => ?_) (fun hc => ?_)
        · replace h := h.1 hc
          refine R.inc4 1692 dL_law_1689 rfl (Nat.le_of_ble_eq_true rfl) rfl ?_
          refine R.goto 23 dL_law_1692 (by decide) ?_
          exact Rch.dropk (hR23 _ _ h) ⟨rfl, ⟨rfl, ⟨rfl, ⟨rfl, ⟨rfl, trivial⟩⟩⟩⟩⟩
        · replace h := h.2 hc
          refine R.iconst 412 dL_law_411 rfl ?_
          exact R.retZ dL_law_412 rfl zok0 h
      replace h := h.2
      by_cases c5 : ((gxs γ l4.toNatClampNeg) &&& (iz 63)).toInt = 5
      · replace h := h.1 c5
        refine R.tswIn 5 413 dL_law_40 c5 (by decide) (by decide) rfl (by decide) ?_
        refine R.aload_n 414 dL_law_413 rfl rfl ?_
        refine R.aload_n 415 dL_law_414 rfl rfl ?_
        refine R.iload 417 dL_law_415 rfl rfl ?_
        refine R.iconst 418 dL_law_417 rfl ?_
        refine R.iadd 419 dL_law_418 rfl ?_
        obtain ⟨hb, h⟩ := h
        refine R.scald 420 dL_law_419 rfl hb ?_
        refine R.aload_n 421 dL_law_420 rfl rfl ?_
        refine R.iload 423 dL_law_421 rfl rfl ?_
        refine R.iconst 424 dL_law_423 rfl ?_
        refine R.iadd 425 dL_law_424 rfl ?_
        obtain ⟨hb, h⟩ := h
        refine R.scald 426 dL_law_425 rfl hb ?_
        refine Rch.callv (sd_X1_kind _ _ _ _ h) dL_law_426 (lw_V q741 q742 q743 q142 q744) dk_X1_kind rcX (by decide) (Nat.le_of_ble_eq_true rfl) rfl rfl (Nat.le_of_ble_eq_true rfl) (kI 429 rfl fun r21 w22 h => ?_) kN
        refine R.aload_n 430 dL_law_429 rfl rfl ?_
        refine R.aload_n 431 dL_law_430 rfl rfl ?_
        refine R.iload 433 dL_law_431 rfl rfl ?_
        refine R.iconst 434 dL_law_433 rfl ?_
        refine R.iadd 435 dL_law_434 rfl ?_
        obtain ⟨hb, h⟩ := h
        refine R.scald 436 dL_law_435 rfl hb ?_
        refine R.aload_n 437 dL_law_436 rfl rfl ?_
        refine R.iload 439 dL_law_437 rfl rfl ?_
        refine R.iconst 440 dL_law_439 rfl ?_
        refine R.iadd 441 dL_law_440 rfl ?_
        obtain ⟨hb, h⟩ := h
        refine R.scald 442 dL_law_441 rfl hb ?_
        refine Rch.callv (sd_X3_kind _ _ _ _ h) dL_law_442 (lw_V q1569 q1570 q1571 q146 q1572) dk_X3_kind rcM (by decide) (Nat.le_of_ble_eq_true rfl) rfl rfl (Nat.le_of_ble_eq_true rfl) (kI 445 rfl fun r23 w24 h => ?_) kN
        refine R.icmp_eq 1689 448 dL_law_445 (by decide) rfl (fun hc => ?_) (fun hc => ?_)
        · replace h := h.1 hc
          refine R.inc4 1692 dL_law_1689 rfl (Nat.le_of_ble_eq_true rfl) rfl ?_
          refine R.goto 23 dL_law_1692 (by decide) ?_
          exact Rch.dropk (hR23 _ _ h) ⟨rfl, ⟨rfl, ⟨rfl, ⟨rfl, ⟨rfl, trivial⟩⟩⟩⟩⟩
        · replace h := h.2 hc
          refine R.iconst 449 dL_law_448 rfl ?_
          exact R.retZ dL_law_449 rfl zok0 h
      replace h := h.2
      by_cases c6 : ((gxs γ l4.toNatClampNeg) &&& (iz 63)).toInt = 6
      · replace h := h.1 c6
        refine R.tswIn 6 450 dL_law_40 c6 (by decide) (by decide) rfl (by decide) ?_
        refine R.aload_n 451 dL_law_450 rfl rfl ?_
        refine R.aload_n 452 dL_law_451 rfl rfl ?_
        refine R.iload 454 dL_law_452 rfl rfl ?_
        refine R.iconst 455 dL_law_454 rfl ?_
        refine R.iadd 456 dL_law_455 rfl ?_
        obtain ⟨hb, h⟩ := h
        refine R.scald 457 dL_law_456 rfl hb ?_
        refine R.aload_n 458 dL_law_457 rfl rfl ?_
        refine R.iload 460 dL_law_458 rfl rfl ?_
        refine R.iconst 461 dL_law_460 rfl ?_
        refine R.iadd 462 dL_law_461 rfl ?_
        obtain ⟨hb, h⟩ := h
        refine R.scald 463 dL_law_462 rfl hb ?_
        refine R.aload_n 464 dL_law_463 rfl rfl ?_
        refine Rch.callsH (sd_X0_box _ _ _ _ h) dL_law_464 (lw_SW q1196 q1197 q141 q1198) dk_X0_box (by decide) (Nat.le_of_ble_eq_true rfl) rfl rfl (Nat.le_of_ble_eq_true rfl) (kI 467 rfl fun r25 w26 h => ?_) kN
        refine R.ist5 469 dL_law_467 rfl (Nat.le_of_ble_eq_true rfl) rfl ?_
        refine R.aload_n 470 dL_law_469 rfl rfl ?_
        refine R.aload_n 471 dL_law_470 rfl rfl ?_
        refine R.iload 473 dL_law_471 rfl rfl ?_
        refine R.iconst 474 dL_law_473 rfl ?_
        refine R.iadd 475 dL_law_474 rfl ?_
        obtain ⟨hb, h⟩ := h
        refine R.scald 476 dL_law_475 rfl hb ?_
        refine R.aload_n 477 dL_law_476 rfl rfl ?_
        refine R.iload 479 dL_law_477 rfl rfl ?_
        refine R.iconst 480 dL_law_479 rfl ?_
        refine R.iadd 481 dL_law_480 rfl ?_
        obtain ⟨hb, h⟩ := h
        refine R.scald 482 dL_law_481 rfl hb ?_
        refine Rch.callv (sd_X3_box _ _ _ _ h) dL_law_482 (lw_V q1582 q1583 q1584 q146 q1585) dk_X3_box rcM (by decide) (Nat.le_of_ble_eq_true rfl) rfl rfl (Nat.le_of_ble_eq_true rfl) (kI 485 rfl fun r27 w28 h => ?_) kN
        refine R.ist6 487 dL_law_485 rfl (Nat.le_of_ble_eq_true rfl) rfl ?_
        refine R.aload_n 488 dL_law_487 rfl rfl ?_
        refine Rch.callv (sd_X3_thrown _ _ h) dL_law_488 (lw_V q1402 q1403 q1404 q146 q1405) dk_X3_thrown rcM (by decide) (Nat.le_of_ble_eq_true rfl) rfl rfl (Nat.le_of_ble_eq_true rfl) (kI 491 rfl fun r29 w30 h => ?_) kN
        refine R.iload 493 dL_law_491 rfl rfl ?_
        refine R.icmp_eq 498 496 dL_law_493 (by decide) rfl (fun hc => ?_) (fun hc => ?_)
        · replace h := h.1 hc
          refine R.iload 500 dL_law_498 rfl rfl ?_
          refine R.if_ne 515 503 dL_law_500 (by decide) rfl (fun hc => ?_) (fun hc => ?_)
          · replace h := h.1 hc
            refine R.goto 1689 dL_law_515 (by decide) ?_
            refine R.inc4 1692 dL_law_1689 rfl (Nat.le_of_ble_eq_true rfl) rfl ?_
            refine R.goto 23 dL_law_1692 (by decide) ?_
            exact Rch.dropk (hR23 _ _ h) ⟨rfl, ⟨rfl, ⟨rfl, ⟨rfl, ⟨rfl, trivial⟩⟩⟩⟩⟩
          · replace h := h.2 hc
            refine R.aload_n 504 dL_law_503 rfl rfl ?_
            refine R.iconst 505 dL_law_504 rfl ?_
            obtain ⟨hb, h⟩ := h
            refine R.lald ar_3 506 dL_law_505 rfl hb ?_
            refine R.iload 508 dL_law_506 rfl rfl ?_
            refine R.i2l 509 dL_law_508 rfl ?_
            refine R.lcmp 510 dL_law_509 rfl ?_
            refine R.if_eq 515 513 dL_law_510 (by decide) rfl (fun hc => ?_) (fun hc => ?_)
            · replace h := h.1 hc
              refine R.goto 1689 dL_law_515 (by decide) ?_
              refine R.inc4 1692 dL_law_1689 rfl (Nat.le_of_ble_eq_true rfl) rfl ?_
              refine R.goto 23 dL_law_1692 (by decide) ?_
              exact Rch.dropk (hR23 _ _ h) ⟨rfl, ⟨rfl, ⟨rfl, ⟨rfl, ⟨rfl, trivial⟩⟩⟩⟩⟩
            · replace h := h.2 hc
              refine R.iconst 514 dL_law_513 rfl ?_
              exact R.retZ dL_law_514 rfl zok0 h
        · replace h := h.2 hc
          refine R.iconst 497 dL_law_496 rfl ?_
          exact R.retZ dL_law_497 rfl zok0 h
      replace h := h.2
      by_cases c7 : ((gxs γ l4.toNatClampNeg) &&& (iz 63)).toInt = 7
      · replace h := h.1 c7
        refine R.tswIn 7 518 dL_law_40 c7 (by decide) (by decide) rfl (by decide) ?_
        refine R.aload_n 519 dL_law_518 rfl rfl ?_
        refine R.aload_n 520 dL_law_519 rfl rfl ?_
        refine R.iload 522 dL_law_520 rfl rfl ?_
        refine R.iconst 523 dL_law_522 rfl ?_
        refine R.iadd 524 dL_law_523 rfl ?_
        obtain ⟨hb, h⟩ := h
        refine R.scald 525 dL_law_524 rfl hb ?_
        refine Rch.callv (sd_X1_law _ _ _ h) dL_law_525 (lw_V q757 q758 q759 q142 q760) dk_X1_law rcX (by decide) (Nat.le_of_ble_eq_true rfl) rfl rfl (Nat.le_of_ble_eq_true rfl) (kI 528 rfl fun r31 w32 h => ?_) kN
        refine R.aload_n 529 dL_law_528 rfl rfl ?_
        refine R.aload_n 530 dL_law_529 rfl rfl ?_
        refine R.iload 532 dL_law_530 rfl rfl ?_
        refine R.iconst 533 dL_law_532 rfl ?_
        refine R.iadd 534 dL_law_533 rfl ?_
        obtain ⟨hb, h⟩ := h
        refine R.scald 535 dL_law_534 rfl hb ?_
        refine Rch.callv (sd_X3_law _ _ _ h) dL_law_535 (lw_V q1618 q1619 q1620 q146 q1621) dk_X3_law rcM (by decide) (Nat.le_of_ble_eq_true rfl) rfl rfl (Nat.le_of_ble_eq_true rfl) (kI 538 rfl fun r33 w34 h => ?_) kN
        refine R.icmp_eq 1689 541 dL_law_538 (by decide) rfl (fun hc => ?_) (fun hc => ?_)
        · replace h := h.1 hc
          refine R.inc4 1692 dL_law_1689 rfl (Nat.le_of_ble_eq_true rfl) rfl ?_
          refine R.goto 23 dL_law_1692 (by decide) ?_
          exact Rch.dropk (hR23 _ _ h) ⟨rfl, ⟨rfl, ⟨rfl, ⟨rfl, ⟨rfl, trivial⟩⟩⟩⟩⟩
        · replace h := h.2 hc
          refine R.iconst 542 dL_law_541 rfl ?_
          exact R.retZ dL_law_542 rfl zok0 h
      replace h := h.2
      by_cases c8 : ((gxs γ l4.toNatClampNeg) &&& (iz 63)).toInt = 8
      · replace h := h.1 c8
        refine R.tswIn 8 543 dL_law_40 c8 (by decide) (by decide) rfl (by decide) ?_
        refine R.aload_n 544 dL_law_543 rfl rfl ?_
        refine R.aload_n 545 dL_law_544 rfl rfl ?_
        refine R.iload 547 dL_law_545 rfl rfl ?_
        refine R.iconst 548 dL_law_547 rfl ?_
        refine R.iadd 549 dL_law_548 rfl ?_
        obtain ⟨hb, h⟩ := h
        refine R.scald 550 dL_law_549 rfl hb ?_
        refine Rch.callv (sd_X1_habit _ _ _ h) dL_law_550 (lw_V q761 q762 q763 q142 q764) dk_X1_habit rcX (by decide) (Nat.le_of_ble_eq_true rfl) rfl rfl (Nat.le_of_ble_eq_true rfl) (kI 553 rfl fun r35 w36 h => ?_) kN
        refine R.aload_n 554 dL_law_553 rfl rfl ?_
        refine R.aload_n 555 dL_law_554 rfl rfl ?_
        refine R.iload 557 dL_law_555 rfl rfl ?_
        refine R.iconst 558 dL_law_557 rfl ?_
        refine R.iadd 559 dL_law_558 rfl ?_
        obtain ⟨hb, h⟩ := h
        refine R.scald 560 dL_law_559 rfl hb ?_
        refine Rch.callv (sd_X3_habit _ _ _ h) dL_law_560 (lw_V q1622 q1623 q1624 q146 q1625) dk_X3_habit rcM (by decide) (Nat.le_of_ble_eq_true rfl) rfl rfl (Nat.le_of_ble_eq_true rfl) (kI 563 rfl fun r37 w38 h => ?_) kN
        refine R.icmp_eq 1689 566 dL_law_563 (by decide) rfl (fun hc => ?_) (fun hc => ?_)
        · replace h := h.1 hc
          refine R.inc4 1692 dL_law_1689 rfl (Nat.le_of_ble_eq_true rfl) rfl ?_
          refine R.goto 23 dL_law_1692 (by decide) ?_
          exact Rch.dropk (hR23 _ _ h) ⟨rfl, ⟨rfl, ⟨rfl, ⟨rfl, ⟨rfl, trivial⟩⟩⟩⟩⟩
        · replace h := h.2 hc
          refine R.iconst 567 dL_law_566 rfl ?_
          exact R.retZ dL_law_567 rfl zok0 h
      replace h := h.2
      by_cases c9 : ((gxs γ l4.toNatClampNeg) &&& (iz 63)).toInt = 9
      · replace h := h.1 c9
        refine R.tswIn 9 568 dL_law_40 c9 (by decide) (by decide) rfl (by decide) ?_
        refine R.aload_n 569 dL_law_568 rfl rfl ?_
        refine R.aload_n 570 dL_law_569 rfl rfl ?_
        refine R.iload 572 dL_law_570 rfl rfl ?_
        refine R.iconst 573 dL_law_572 rfl ?_
        refine R.iadd 574 dL_law_573 rfl ?_
        obtain ⟨hb, h⟩ := h
        refine R.scald 575 dL_law_574 rfl hb ?_
        refine R.aload_n 576 dL_law_575 rfl rfl ?_
        refine R.iload 578 dL_law_576 rfl rfl ?_
        refine R.iconst 579 dL_law_578 rfl ?_
        refine R.iadd 580 dL_law_579 rfl ?_
        obtain ⟨hb, h⟩ := h
        refine R.scald 581 dL_law_580 rfl hb ?_
        refine R.aload_n 582 dL_law_581 rfl rfl ?_
        refine R.iload 584 dL_law_582 rfl rfl ?_
        refine R.iconst 585 dL_law_584 rfl ?_
        refine R.iadd 586 dL_law_585 rfl ?_
        obtain ⟨hb, h⟩ := h
        refine R.scald 587 dL_law_586 rfl hb ?_
        refine R.if_eq 594 590 dL_law_587 (by decide) rfl (fun hc => ?_) (fun hc => ?_)
        · replace h := h.1 hc
          refine R.iconst 595 dL_law_594 rfl ?_
          exact Rch.dropk (s_law_595 Q _ _ _ _ _ hR23 _ h) ⟨rfl, ⟨rfl, ⟨rfl, ⟨rfl, ⟨rfl, trivial⟩⟩⟩⟩⟩
        · replace h := h.2 hc
          refine R.iconst 591 dL_law_590 rfl ?_
          refine R.goto 595 dL_law_591 (by decide) ?_
          exact Rch.dropk (s_law_595 Q _ _ _ _ _ hR23 _ h) ⟨rfl, ⟨rfl, ⟨rfl, ⟨rfl, ⟨rfl, trivial⟩⟩⟩⟩⟩
      replace h := h.2
      by_cases c10 : ((gxs γ l4.toNatClampNeg) &&& (iz 63)).toInt = 10
      · replace h := h.1 c10
        refine R.tswIn 10 633 dL_law_40 c10 (by decide) (by decide) rfl (by decide) ?_
        refine R.aload_n 634 dL_law_633 rfl rfl ?_
        refine R.aload_n 635 dL_law_634 rfl rfl ?_
        refine R.iload 637 dL_law_635 rfl rfl ?_
        refine R.iconst 638 dL_law_637 rfl ?_
        refine R.iadd 639 dL_law_638 rfl ?_
        obtain ⟨hb, h⟩ := h
        refine R.scald 640 dL_law_639 rfl hb ?_
        refine Rch.callv (sd_X1_take _ _ _ h) dL_law_640 (lw_V q801 q802 q803 q142 q804) dk_X1_take rcX (by decide) (Nat.le_of_ble_eq_true rfl) rfl rfl (Nat.le_of_ble_eq_true rfl) (kI 643 rfl fun r39 w40 h => ?_) kN
        refine R.aload_n 644 dL_law_643 rfl rfl ?_
        refine R.aload_n 645 dL_law_644 rfl rfl ?_
        refine R.iload 647 dL_law_645 rfl rfl ?_
        refine R.iconst 648 dL_law_647 rfl ?_
        refine R.iadd 649 dL_law_648 rfl ?_
        obtain ⟨hb, h⟩ := h
        refine R.scald 650 dL_law_649 rfl hb ?_
        refine Rch.callv (sd_X3_take _ _ _ h) dL_law_650 (lw_V q1646 q1647 q1648 q146 q1649) dk_X3_take rcM (by decide) (Nat.le_of_ble_eq_true rfl) rfl rfl (Nat.le_of_ble_eq_true rfl) (kI 653 rfl fun r41 w42 h => ?_) kN
        refine R.icmp_eq 1689 656 dL_law_653 (by decide) rfl (fun hc => ?_) (fun hc => ?_)
        · replace h := h.1 hc
          refine R.inc4 1692 dL_law_1689 rfl (Nat.le_of_ble_eq_true rfl) rfl ?_
          refine R.goto 23 dL_law_1692 (by decide) ?_
          exact Rch.dropk (hR23 _ _ h) ⟨rfl, ⟨rfl, ⟨rfl, ⟨rfl, ⟨rfl, trivial⟩⟩⟩⟩⟩
        · replace h := h.2 hc
          refine R.iconst 657 dL_law_656 rfl ?_
          exact R.retZ dL_law_657 rfl zok0 h
      replace h := h.2
      by_cases c11 : ((gxs γ l4.toNatClampNeg) &&& (iz 63)).toInt = 11
      · replace h := h.1 c11
        refine R.tswIn 11 658 dL_law_40 c11 (by decide) (by decide) rfl (by decide) ?_
        refine R.aload_n 659 dL_law_658 rfl rfl ?_
        refine R.aload_n 660 dL_law_659 rfl rfl ?_
        refine R.iload 662 dL_law_660 rfl rfl ?_
        refine R.iconst 663 dL_law_662 rfl ?_
        refine R.iadd 664 dL_law_663 rfl ?_
        obtain ⟨hb, h⟩ := h
        refine R.scald 665 dL_law_664 rfl hb ?_
        refine Rch.callv (sd_X1_label _ _ _ h) dL_law_665 (lw_V q900 q901 q902 q142 q903) dk_X1_label rcX (by decide) (Nat.le_of_ble_eq_true rfl) rfl rfl (Nat.le_of_ble_eq_true rfl) (kI 668 rfl fun r43 w44 h => ?_) kN
        refine R.aload_n 669 dL_law_668 rfl rfl ?_
        refine R.aload_n 670 dL_law_669 rfl rfl ?_
        refine R.iload 672 dL_law_670 rfl rfl ?_
        refine R.iconst 673 dL_law_672 rfl ?_
        refine R.iadd 674 dL_law_673 rfl ?_
        obtain ⟨hb, h⟩ := h
        refine R.scald 675 dL_law_674 rfl hb ?_
        refine Rch.callv (sd_X3_label _ _ _ h) dL_law_675 (lw_V q1657 q1658 q1659 q146 q1660) dk_X3_label rcM (by decide) (Nat.le_of_ble_eq_true rfl) rfl rfl (Nat.le_of_ble_eq_true rfl) (kI 678 rfl fun r45 w46 h => ?_) kN
        refine R.icmp_eq 1689 681 dL_law_678 (by decide) rfl (fun hc => ?_) (fun hc => ?_)
        · replace h := h.1 hc
          refine R.inc4 1692 dL_law_1689 rfl (Nat.le_of_ble_eq_true rfl) rfl ?_
          refine R.goto 23 dL_law_1692 (by decide) ?_
          exact Rch.dropk (hR23 _ _ h) ⟨rfl, ⟨rfl, ⟨rfl, ⟨rfl, ⟨rfl, trivial⟩⟩⟩⟩⟩
        · replace h := h.2 hc
          refine R.iconst 682 dL_law_681 rfl ?_
          exact R.retZ dL_law_682 rfl zok0 h
      replace h := h.2
      by_cases c12 : ((gxs γ l4.toNatClampNeg) &&& (iz 63)).toInt = 12
      · replace h := h.1 c12
        refine R.tswIn 12 683 dL_law_40 c12 (by decide) (by decide) rfl (by decide) ?_
        refine R.aload_n 684 dL_law_683 rfl rfl ?_
        refine R.aload_n 685 dL_law_684 rfl rfl ?_
        refine R.iload 687 dL_law_685 rfl rfl ?_
        refine R.iconst 688 dL_law_687 rfl ?_
        refine R.iadd 689 dL_law_688 rfl ?_
        obtain ⟨hb, h⟩ := h
        refine R.scald 690 dL_law_689 rfl hb ?_
        refine Rch.callv (sd_X1_months _ _ _ h) dL_law_690 (lw_V q916 q917 q918 q142 q919) dk_X1_months rcX (by decide) (Nat.le_of_ble_eq_true rfl) rfl rfl (Nat.le_of_ble_eq_true rfl) (kI 693 rfl fun r47 w48 h => ?_) kN
        refine R.aload_n 694 dL_law_693 rfl rfl ?_
        refine R.aload_n 695 dL_law_694 rfl rfl ?_
        refine R.iload 697 dL_law_695 rfl rfl ?_
        refine R.iconst 698 dL_law_697 rfl ?_
        refine R.iadd 699 dL_law_698 rfl ?_
        obtain ⟨hb, h⟩ := h
        refine R.scald 700 dL_law_699 rfl hb ?_
        refine Rch.callv (sd_X3_months _ _ _ h) dL_law_700 (lw_V q1668 q1669 q1670 q146 q1671) dk_X3_months rcM (by decide) (Nat.le_of_ble_eq_true rfl) rfl rfl (Nat.le_of_ble_eq_true rfl) (kI 703 rfl fun r49 w50 h => ?_) kN
        refine R.icmp_eq 1689 706 dL_law_703 (by decide) rfl (fun hc => ?_) (fun hc => ?_)
        · replace h := h.1 hc
          refine R.inc4 1692 dL_law_1689 rfl (Nat.le_of_ble_eq_true rfl) rfl ?_
          refine R.goto 23 dL_law_1692 (by decide) ?_
          exact Rch.dropk (hR23 _ _ h) ⟨rfl, ⟨rfl, ⟨rfl, ⟨rfl, ⟨rfl, trivial⟩⟩⟩⟩⟩
        · replace h := h.2 hc
          refine R.iconst 707 dL_law_706 rfl ?_
          exact R.retZ dL_law_707 rfl zok0 h
      replace h := h.2
      by_cases c13 : ((gxs γ l4.toNatClampNeg) &&& (iz 63)).toInt = 13
      · replace h := h.1 c13
        refine R.tswIn 13 708 dL_law_40 c13 (by decide) (by decide) rfl (by decide) ?_
        refine R.aload_n 709 dL_law_708 rfl rfl ?_
        refine R.aload_n 710 dL_law_709 rfl rfl ?_
        refine R.iload 712 dL_law_710 rfl rfl ?_
        refine R.iconst 713 dL_law_712 rfl ?_
        refine R.iadd 714 dL_law_713 rfl ?_
        obtain ⟨hb, h⟩ := h
        refine R.scald 715 dL_law_714 rfl hb ?_
        refine Rch.callv (sd_X1_off _ _ _ h) dL_law_715 (lw_V q932 q933 q934 q142 q935) dk_X1_off rcX (by decide) (Nat.le_of_ble_eq_true rfl) rfl rfl (Nat.le_of_ble_eq_true rfl) (kI 718 rfl fun r51 w52 h => ?_) kN
        refine R.aload_n 719 dL_law_718 rfl rfl ?_
        refine R.aload_n 720 dL_law_719 rfl rfl ?_
        refine R.iload 722 dL_law_720 rfl rfl ?_
        refine R.iconst 723 dL_law_722 rfl ?_
        refine R.iadd 724 dL_law_723 rfl ?_
        obtain ⟨hb, h⟩ := h
        refine R.scald 725 dL_law_724 rfl hb ?_
        refine Rch.callv (sd_X3_off _ _ _ h) dL_law_725 (lw_V q1684 q1685 q1686 q146 q1687) dk_X3_off rcM (by decide) (Nat.le_of_ble_eq_true rfl) rfl rfl (Nat.le_of_ble_eq_true rfl) (kI 728 rfl fun r53 w54 h => ?_) kN
        refine R.icmp_eq 1689 731 dL_law_728 (by decide) rfl (fun hc => ?_) (fun hc => ?_)
        · replace h := h.1 hc
          refine R.inc4 1692 dL_law_1689 rfl (Nat.le_of_ble_eq_true rfl) rfl ?_
          refine R.goto 23 dL_law_1692 (by decide) ?_
          exact Rch.dropk (hR23 _ _ h) ⟨rfl, ⟨rfl, ⟨rfl, ⟨rfl, ⟨rfl, trivial⟩⟩⟩⟩⟩
        · replace h := h.2 hc
          refine R.iconst 732 dL_law_731 rfl ?_
          exact R.retZ dL_law_732 rfl zok0 h
      replace h := h.2
      by_cases c14 : ((gxs γ l4.toNatClampNeg) &&& (iz 63)).toInt = 14
      · replace h := h.1 c14
        refine R.tswIn 14 733 dL_law_40 c14 (by decide) (by decide) rfl (by decide) ?_
        refine R.aload_n 734 dL_law_733 rfl rfl ?_
        refine R.aload_n 735 dL_law_734 rfl rfl ?_
        refine R.iload 737 dL_law_735 rfl rfl ?_
        refine R.iconst 738 dL_law_737 rfl ?_
        refine R.iadd 739 dL_law_738 rfl ?_
        obtain ⟨hb, h⟩ := h
        refine R.scald 740 dL_law_739 rfl hb ?_
        refine R.aload_n 741 dL_law_740 rfl rfl ?_
        refine R.iload 743 dL_law_741 rfl rfl ?_
        refine R.iconst 744 dL_law_743 rfl ?_
        refine R.iadd 745 dL_law_744 rfl ?_
        obtain ⟨hb, h⟩ := h
        refine R.scald 746 dL_law_745 rfl hb ?_
        refine R.i2l 747 dL_law_746 rfl ?_
        refine R.bipush 749 dL_law_747 rfl (by decide +kernel) ?_
        refine R.lshl 750 dL_law_749 rfl ?_
        refine R.aload_n 751 dL_law_750 rfl rfl ?_
        refine R.iload 753 dL_law_751 rfl rfl ?_
        refine R.iconst 754 dL_law_753 rfl ?_
        refine R.iadd 755 dL_law_754 rfl ?_
        obtain ⟨hb, h⟩ := h
        refine R.scald 756 dL_law_755 rfl hb ?_
        refine R.i2l 757 dL_law_756 rfl ?_
        refine R.ldc2 (n := 4294967295) 760 dL_law_757 rfl q1914 (by decide +kernel) ?_
        refine R.land 761 dL_law_760 rfl ?_
        refine R.lor 762 dL_law_761 rfl ?_
        refine Rch.callv (sd_X1_years _ _ _ _ h) dL_law_762 (lw_V q944 q945 q946 q142 q947) dk_X1_years rcX (by decide) (Nat.le_of_ble_eq_true rfl) rfl rfl (Nat.le_of_ble_eq_true rfl) (kI 765 rfl fun r55 w56 h => ?_) kN
        refine R.aload_n 766 dL_law_765 rfl rfl ?_
        refine R.aload_n 767 dL_law_766 rfl rfl ?_
        refine R.iload 769 dL_law_767 rfl rfl ?_
        refine R.iconst 770 dL_law_769 rfl ?_
        refine R.iadd 771 dL_law_770 rfl ?_
        obtain ⟨hb, h⟩ := h
        refine R.scald 772 dL_law_771 rfl hb ?_
        refine R.aload_n 773 dL_law_772 rfl rfl ?_
        refine R.iload 775 dL_law_773 rfl rfl ?_
        refine R.iconst 776 dL_law_775 rfl ?_
        refine R.iadd 777 dL_law_776 rfl ?_
        obtain ⟨hb, h⟩ := h
        refine R.scald 778 dL_law_777 rfl hb ?_
        refine R.i2l 779 dL_law_778 rfl ?_
        refine R.bipush 781 dL_law_779 rfl (by decide +kernel) ?_
        refine R.lshl 782 dL_law_781 rfl ?_
        refine R.aload_n 783 dL_law_782 rfl rfl ?_
        refine R.iload 785 dL_law_783 rfl rfl ?_
        refine R.iconst 786 dL_law_785 rfl ?_
        refine R.iadd 787 dL_law_786 rfl ?_
        obtain ⟨hb, h⟩ := h
        refine R.scald 788 dL_law_787 rfl hb ?_
        refine R.i2l 789 dL_law_788 rfl ?_
        refine R.ldc2 (n := 4294967295) 792 dL_law_789 rfl q1914 (by decide +kernel) ?_
        refine R.land 793 dL_law_792 rfl ?_
        refine R.lor 794 dL_law_793 rfl ?_
        refine Rch.callv (sd_X3_years _ _ _ _ h) dL_law_794 (lw_V q1697 q1698 q1699 q146 q1700) dk_X3_years rcM (by decide) (Nat.le_of_ble_eq_true rfl) rfl rfl (Nat.le_of_ble_eq_true rfl) (kI 797 rfl fun r57 w58 h => ?_) kN
        refine R.icmp_eq 1689 800 dL_law_797 (by decide) rfl (fun hc => ?_) (fun hc => ?_)
        · replace h := h.1 hc
          refine R.inc4 1692 dL_law_1689 rfl (Nat.le_of_ble_eq_true rfl) rfl ?_
          refine R.goto 23 dL_law_1692 (by decide) ?_
          exact Rch.dropk (hR23 _ _ h) ⟨rfl, ⟨rfl, ⟨rfl, ⟨rfl, ⟨rfl, trivial⟩⟩⟩⟩⟩
        · replace h := h.2 hc
          refine R.iconst 801 dL_law_800 rfl ?_
          exact R.retZ dL_law_801 rfl zok0 h
      replace h := h.2
      by_cases c15 : ((gxs γ l4.toNatClampNeg) &&& (iz 63)).toInt = 15
      · replace h := h.1 c15
        refine R.tswIn 15 802 dL_law_40 c15 (by decide) (by decide) rfl (by decide) ?_
        refine R.aload_n 803 dL_law_802 rfl rfl ?_
        refine Rch.callv (sd_X1_undo _ _ h) dL_law_803 (lw_V q954 q955 q956 q142 q957) dk_X1_undo rcX (by decide) (Nat.le_of_ble_eq_true rfl) rfl rfl (Nat.le_of_ble_eq_true rfl) (kI 806 rfl fun r59 w60 h => ?_) kN
        refine R.aload_n 807 dL_law_806 rfl rfl ?_
        refine Rch.callv (sd_X3_undo _ _ h) dL_law_807 (lw_V q1707 q1708 q1709 q146 q1710) dk_X3_undo rcM (by decide) (Nat.le_of_ble_eq_true rfl) rfl rfl (Nat.le_of_ble_eq_true rfl) (kI 810 rfl fun r61 w62 h => ?_) kN
        refine R.icmp_eq 1689 813 dL_law_810 (by decide) rfl (fun hc => ?_) (fun hc => ?_)
        · replace h := h.1 hc
          refine R.inc4 1692 dL_law_1689 rfl (Nat.le_of_ble_eq_true rfl) rfl ?_
          refine R.goto 23 dL_law_1692 (by decide) ?_
          exact Rch.dropk (hR23 _ _ h) ⟨rfl, ⟨rfl, ⟨rfl, ⟨rfl, ⟨rfl, trivial⟩⟩⟩⟩⟩
        · replace h := h.2 hc
          refine R.iconst 814 dL_law_813 rfl ?_
          exact R.retZ dL_law_814 rfl zok0 h
      replace h := h.2
      by_cases c16 : ((gxs γ l4.toNatClampNeg) &&& (iz 63)).toInt = 16
      · replace h := h.1 c16
        refine R.tswIn 16 815 dL_law_40 c16 (by decide) (by decide) rfl (by decide) ?_
        refine R.aload_n 816 dL_law_815 rfl rfl ?_
        refine R.aload_n 817 dL_law_816 rfl rfl ?_
        refine R.iload 819 dL_law_817 rfl rfl ?_
        refine R.iconst 820 dL_law_819 rfl ?_
        refine R.iadd 821 dL_law_820 rfl ?_
        obtain ⟨hb, h⟩ := h
        refine R.scald 822 dL_law_821 rfl hb ?_
        refine R.aload_n 823 dL_law_822 rfl rfl ?_
        refine R.iload 825 dL_law_823 rfl rfl ?_
        refine R.iconst 826 dL_law_825 rfl ?_
        refine R.iadd 827 dL_law_826 rfl ?_
        obtain ⟨hb, h⟩ := h
        refine R.scald 828 dL_law_827 rfl hb ?_
        refine Rch.callv (sd_X1_log _ _ _ _ h) dL_law_828 (lw_V q958 q959 q960 q142 q961) dk_X1_log rcX (by decide) (Nat.le_of_ble_eq_true rfl) rfl rfl (Nat.le_of_ble_eq_true rfl) (kI 831 rfl fun r63 w64 h => ?_) kN
        refine R.aload_n 832 dL_law_831 rfl rfl ?_
        refine R.aload_n 833 dL_law_832 rfl rfl ?_
        refine R.iload 835 dL_law_833 rfl rfl ?_
        refine R.iconst 836 dL_law_835 rfl ?_
        refine R.iadd 837 dL_law_836 rfl ?_
        obtain ⟨hb, h⟩ := h
        refine R.scald 838 dL_law_837 rfl hb ?_
        refine R.aload_n 839 dL_law_838 rfl rfl ?_
        refine R.iload 841 dL_law_839 rfl rfl ?_
        refine R.iconst 842 dL_law_841 rfl ?_
        refine R.iadd 843 dL_law_842 rfl ?_
        obtain ⟨hb, h⟩ := h
        refine R.scald 844 dL_law_843 rfl hb ?_
        refine Rch.callv (sd_X3_log _ _ _ _ h) dL_law_844 (lw_V q1711 q1712 q1713 q146 q1714) dk_X3_log rcM (by decide) (Nat.le_of_ble_eq_true rfl) rfl rfl (Nat.le_of_ble_eq_true rfl) (kI 847 rfl fun r65 w66 h => ?_) kN
        refine R.icmp_eq 1689 850 dL_law_847 (by decide) rfl (fun hc => ?_) (fun hc => ?_)
        · replace h := h.1 hc
          refine R.inc4 1692 dL_law_1689 rfl (Nat.le_of_ble_eq_true rfl) rfl ?_
          refine R.goto 23 dL_law_1692 (by decide) ?_
          exact Rch.dropk (hR23 _ _ h) ⟨rfl, ⟨rfl, ⟨rfl, ⟨rfl, ⟨rfl, trivial⟩⟩⟩⟩⟩
        · replace h := h.2 hc
          refine R.iconst 851 dL_law_850 rfl ?_
          exact R.retZ dL_law_851 rfl zok0 h
      replace h := h.2
      by_cases c17 : ((gxs γ l4.toNatClampNeg) &&& (iz 63)).toInt = 17
      · replace h := h.1 c17
        refine R.tswIn 17 852 dL_law_40 c17 (by decide) (by decide) rfl (by decide) ?_
        refine R.aload_n 853 dL_law_852 rfl rfl ?_
        refine R.aload_n 854 dL_law_853 rfl rfl ?_
        refine R.iload 856 dL_law_854 rfl rfl ?_
        refine R.iconst 857 dL_law_856 rfl ?_
        refine R.iadd 858 dL_law_857 rfl ?_
        obtain ⟨hb, h⟩ := h
        refine R.scald 859 dL_law_858 rfl hb ?_
        refine R.aload_n 860 dL_law_859 rfl rfl ?_
        refine R.iload 862 dL_law_860 rfl rfl ?_
        refine R.iconst 863 dL_law_862 rfl ?_
        refine R.iadd 864 dL_law_863 rfl ?_
        obtain ⟨hb, h⟩ := h
        refine R.scald 865 dL_law_864 rfl hb ?_
        refine R.aload_n 866 dL_law_865 rfl rfl ?_
        refine R.iload 868 dL_law_866 rfl rfl ?_
        refine R.iconst 869 dL_law_868 rfl ?_
        refine R.iadd 870 dL_law_869 rfl ?_
        obtain ⟨hb, h⟩ := h
        refine R.scald 871 dL_law_870 rfl hb ?_
        refine Rch.callv (sd_X1_step _ _ _ _ _ h) dL_law_871 (lw_V q962 q963 q964 q142 q965) dk_X1_step rcX (by decide) (Nat.le_of_ble_eq_true rfl) rfl rfl (Nat.le_of_ble_eq_true rfl) (kI 874 rfl fun r67 w68 h => ?_) kN
        refine R.aload_n 875 dL_law_874 rfl rfl ?_
        refine R.aload_n 876 dL_law_875 rfl rfl ?_
        refine R.iload 878 dL_law_876 rfl rfl ?_
        refine R.iconst 879 dL_law_878 rfl ?_
        refine R.iadd 880 dL_law_879 rfl ?_
        obtain ⟨hb, h⟩ := h
        refine R.scald 881 dL_law_880 rfl hb ?_
        refine R.aload_n 882 dL_law_881 rfl rfl ?_
        refine R.iload 884 dL_law_882 rfl rfl ?_
        refine R.iconst 885 dL_law_884 rfl ?_
        refine R.iadd 886 dL_law_885 rfl ?_
        obtain ⟨hb, h⟩ := h
        refine R.scald 887 dL_law_886 rfl hb ?_
        refine R.aload_n 888 dL_law_887 rfl rfl ?_
        refine R.iload 890 dL_law_888 rfl rfl ?_
        refine R.iconst 891 dL_law_890 rfl ?_
        refine R.iadd 892 dL_law_891 rfl ?_
        obtain ⟨hb, h⟩ := h
        refine R.scald 893 dL_law_892 rfl hb ?_
        refine Rch.callv (sd_X3_step _ _ _ _ _ h) dL_law_893 (lw_V q1715 q1716 q1717 q146 q1718) dk_X3_step rcM (by decide) (Nat.le_of_ble_eq_true rfl) rfl rfl (Nat.le_of_ble_eq_true rfl) (kI 896 rfl fun r69 w70 h => ?_) kN
        refine R.icmp_eq 1689 899 dL_law_896 (by decide) rfl (fun hc => ?_) (fun hc => ?_)
        · replace h := h.1 hc
          refine R.inc4 1692 dL_law_1689 rfl (Nat.le_of_ble_eq_true rfl) rfl ?_
          refine R.goto 23 dL_law_1692 (by decide) ?_
          exact Rch.dropk (hR23 _ _ h) ⟨rfl, ⟨rfl, ⟨rfl, ⟨rfl, ⟨rfl, trivial⟩⟩⟩⟩⟩
        · replace h := h.2 hc
          refine R.iconst 900 dL_law_899 rfl ?_
          exact R.retZ dL_law_900 rfl zok0 h
      replace h := h.2
      by_cases c18 : ((gxs γ l4.toNatClampNeg) &&& (iz 63)).toInt = 18
      · replace h := h.1 c18
        refine R.tswIn 18 901 dL_law_40 c18 (by decide) (by decide) rfl (by decide) ?_
        refine R.aload_n 902 dL_law_901 rfl rfl ?_
        refine R.aload_n 903 dL_law_902 rfl rfl ?_
        refine R.iload 905 dL_law_903 rfl rfl ?_
        refine R.iconst 906 dL_law_905 rfl ?_
        refine R.iadd 907 dL_law_906 rfl ?_
        obtain ⟨hb, h⟩ := h
        refine R.scald 908 dL_law_907 rfl hb ?_
        refine R.aload_n 909 dL_law_908 rfl rfl ?_
        refine R.iload 911 dL_law_909 rfl rfl ?_
        refine R.iconst 912 dL_law_911 rfl ?_
        refine R.iadd 913 dL_law_912 rfl ?_
        obtain ⟨hb, h⟩ := h
        refine R.scald 914 dL_law_913 rfl hb ?_
        refine Rch.callv (sd_X1_run _ _ _ _ h) dL_law_914 (lw_V q971 q972 q973 q142 q974) dk_X1_run rcX (by decide) (Nat.le_of_ble_eq_true rfl) rfl rfl (Nat.le_of_ble_eq_true rfl) (kI 917 rfl fun r71 w72 h => ?_) kN
        refine R.aload_n 918 dL_law_917 rfl rfl ?_
        refine R.aload_n 919 dL_law_918 rfl rfl ?_
        refine R.iload 921 dL_law_919 rfl rfl ?_
        refine R.iconst 922 dL_law_921 rfl ?_
        refine R.iadd 923 dL_law_922 rfl ?_
        obtain ⟨hb, h⟩ := h
        refine R.scald 924 dL_law_923 rfl hb ?_
        refine R.aload_n 925 dL_law_924 rfl rfl ?_
        refine R.iload 927 dL_law_925 rfl rfl ?_
        refine R.iconst 928 dL_law_927 rfl ?_
        refine R.iadd 929 dL_law_928 rfl ?_
        obtain ⟨hb, h⟩ := h
        refine R.scald 930 dL_law_929 rfl hb ?_
        refine Rch.callv (sd_X3_run _ _ _ _ h) dL_law_930 (lw_V q1724 q1725 q1726 q146 q1727) dk_X3_run rcM (by decide) (Nat.le_of_ble_eq_true rfl) rfl rfl (Nat.le_of_ble_eq_true rfl) (kI 933 rfl fun r73 w74 h => ?_) kN
        refine R.icmp_eq 1689 936 dL_law_933 (by decide) rfl (fun hc => ?_) (fun hc => ?_)
        · replace h := h.1 hc
          refine R.inc4 1692 dL_law_1689 rfl (Nat.le_of_ble_eq_true rfl) rfl ?_
          refine R.goto 23 dL_law_1692 (by decide) ?_
          exact Rch.dropk (hR23 _ _ h) ⟨rfl, ⟨rfl, ⟨rfl, ⟨rfl, ⟨rfl, trivial⟩⟩⟩⟩⟩
        · replace h := h.2 hc
          refine R.iconst 937 dL_law_936 rfl ?_
          exact R.retZ dL_law_937 rfl zok0 h
      replace h := h.2
      by_cases c19 : ((gxs γ l4.toNatClampNeg) &&& (iz 63)).toInt = 19
      · replace h := h.1 c19
        refine R.tswIn 19 938 dL_law_40 c19 (by decide) (by decide) rfl (by decide) ?_
        refine R.aload_n 939 dL_law_938 rfl rfl ?_
        refine R.aload_n 940 dL_law_939 rfl rfl ?_
        refine R.iload 942 dL_law_940 rfl rfl ?_
        refine R.iconst 943 dL_law_942 rfl ?_
        refine R.iadd 944 dL_law_943 rfl ?_
        obtain ⟨hb, h⟩ := h
        refine R.scald 945 dL_law_944 rfl hb ?_
        refine Rch.callv (sd_X1_perform _ _ _ h) dL_law_945 (lw_V q991 q992 q993 q142 q994) dk_X1_perform rcX (by decide) (Nat.le_of_ble_eq_true rfl) rfl rfl (Nat.le_of_ble_eq_true rfl) (kI 948 rfl fun r75 w76 h => ?_) kN
        refine R.aload_n 949 dL_law_948 rfl rfl ?_
        refine R.aload_n 950 dL_law_949 rfl rfl ?_
        refine R.iload 952 dL_law_950 rfl rfl ?_
        refine R.iconst 953 dL_law_952 rfl ?_
        refine R.iadd 954 dL_law_953 rfl ?_
        obtain ⟨hb, h⟩ := h
        refine R.scald 955 dL_law_954 rfl hb ?_
        refine Rch.callv (sd_X3_perform _ _ _ h) dL_law_955 (lw_V q1743 q1744 q1745 q146 q1746) dk_X3_perform rcM (by decide) (Nat.le_of_ble_eq_true rfl) rfl rfl (Nat.le_of_ble_eq_true rfl) (kI 958 rfl fun r77 w78 h => ?_) kN
        refine R.icmp_eq 1689 961 dL_law_958 (by decide) rfl (fun hc => ?_) (fun hc => ?_)
        · replace h := h.1 hc
          refine R.inc4 1692 dL_law_1689 rfl (Nat.le_of_ble_eq_true rfl) rfl ?_
          refine R.goto 23 dL_law_1692 (by decide) ?_
          exact Rch.dropk (hR23 _ _ h) ⟨rfl, ⟨rfl, ⟨rfl, ⟨rfl, ⟨rfl, trivial⟩⟩⟩⟩⟩
        · replace h := h.2 hc
          refine R.iconst 962 dL_law_961 rfl ?_
          exact R.retZ dL_law_962 rfl zok0 h
      replace h := h.2
      by_cases c20 : ((gxs γ l4.toNatClampNeg) &&& (iz 63)).toInt = 20
      · replace h := h.1 c20
        refine R.tswIn 20 963 dL_law_40 c20 (by decide) (by decide) rfl (by decide) ?_
        refine R.aload_n 964 dL_law_963 rfl rfl ?_
        refine R.aload_n 965 dL_law_964 rfl rfl ?_
        refine R.iload 967 dL_law_965 rfl rfl ?_
        refine R.iconst 968 dL_law_967 rfl ?_
        refine R.iadd 969 dL_law_968 rfl ?_
        obtain ⟨hb, h⟩ := h
        refine R.scald 970 dL_law_969 rfl hb ?_
        refine R.aload_n 971 dL_law_970 rfl rfl ?_
        refine R.iload 973 dL_law_971 rfl rfl ?_
        refine R.iconst 974 dL_law_973 rfl ?_
        refine R.iadd 975 dL_law_974 rfl ?_
        obtain ⟨hb, h⟩ := h
        refine R.scald 976 dL_law_975 rfl hb ?_
        refine Rch.callv (sd_X1_dinner _ _ _ _ h) dL_law_976 (lw_V q996 q997 q998 q142 q999) dk_X1_dinner rcX (by decide) (Nat.le_of_ble_eq_true rfl) rfl rfl (Nat.le_of_ble_eq_true rfl) (kI 979 rfl fun r79 w80 h => ?_) kN
        refine R.aload_n 980 dL_law_979 rfl rfl ?_
        refine R.aload_n 981 dL_law_980 rfl rfl ?_
        refine R.iload 983 dL_law_981 rfl rfl ?_
        refine R.iconst 984 dL_law_983 rfl ?_
        refine R.iadd 985 dL_law_984 rfl ?_
        obtain ⟨hb, h⟩ := h
        refine R.scald 986 dL_law_985 rfl hb ?_
        refine R.aload_n 987 dL_law_986 rfl rfl ?_
        refine R.iload 989 dL_law_987 rfl rfl ?_
        refine R.iconst 990 dL_law_989 rfl ?_
        refine R.iadd 991 dL_law_990 rfl ?_
        obtain ⟨hb, h⟩ := h
        refine R.scald 992 dL_law_991 rfl hb ?_
        refine Rch.callv (sd_X3_dinner _ _ _ _ h) dL_law_992 (lw_V q1747 q1748 q1749 q146 q1750) dk_X3_dinner rcM (by decide) (Nat.le_of_ble_eq_true rfl) rfl rfl (Nat.le_of_ble_eq_true rfl) (kI 995 rfl fun r81 w82 h => ?_) kN
        refine R.icmp_eq 1689 998 dL_law_995 (by decide) rfl (fun hc => ?_) (fun hc => ?_)
        · replace h := h.1 hc
          refine R.inc4 1692 dL_law_1689 rfl (Nat.le_of_ble_eq_true rfl) rfl ?_
          refine R.goto 23 dL_law_1692 (by decide) ?_
          exact Rch.dropk (hR23 _ _ h) ⟨rfl, ⟨rfl, ⟨rfl, ⟨rfl, ⟨rfl, trivial⟩⟩⟩⟩⟩
        · replace h := h.2 hc
          refine R.iconst 999 dL_law_998 rfl ?_
          exact R.retZ dL_law_999 rfl zok0 h
      replace h := h.2
      by_cases c21 : ((gxs γ l4.toNatClampNeg) &&& (iz 63)).toInt = 21
      · replace h := h.1 c21
        refine R.tswIn 21 1000 dL_law_40 c21 (by decide) (by decide) rfl (by decide) ?_
        refine R.aload_n 1001 dL_law_1000 rfl rfl ?_
        refine R.aload_n 1002 dL_law_1001 rfl rfl ?_
        refine R.iload 1004 dL_law_1002 rfl rfl ?_
        refine R.iconst 1005 dL_law_1004 rfl ?_
        refine R.iadd 1006 dL_law_1005 rfl ?_
        obtain ⟨hb, h⟩ := h
        refine R.scald 1007 dL_law_1006 rfl hb ?_
        refine Rch.callv (sd_X1_eat _ _ _ h) dL_law_1007 (lw_V q1012 q1013 q1014 q142 q1015) dk_X1_eat rcX (by decide) (Nat.le_of_ble_eq_true rfl) rfl rfl (Nat.le_of_ble_eq_true rfl) (kI 1010 rfl fun r83 w84 h => ?_) kN
        refine R.aload_n 1011 dL_law_1010 rfl rfl ?_
        refine R.aload_n 1012 dL_law_1011 rfl rfl ?_
        refine R.iload 1014 dL_law_1012 rfl rfl ?_
        refine R.iconst 1015 dL_law_1014 rfl ?_
        refine R.iadd 1016 dL_law_1015 rfl ?_
        obtain ⟨hb, h⟩ := h
        refine R.scald 1017 dL_law_1016 rfl hb ?_
        refine Rch.callv (sd_X3_eat _ _ _ h) dL_law_1017 (lw_V q1764 q1765 q1766 q146 q1767) dk_X3_eat rcM (by decide) (Nat.le_of_ble_eq_true rfl) rfl rfl (Nat.le_of_ble_eq_true rfl) (kI 1020 rfl fun r85 w86 h => ?_) kN
        refine R.icmp_eq 1689 1023 dL_law_1020 (by decide) rfl (fun hc => ?_) (fun hc => ?_)
        · replace h := h.1 hc
          refine R.inc4 1692 dL_law_1689 rfl (Nat.le_of_ble_eq_true rfl) rfl ?_
          refine R.goto 23 dL_law_1692 (by decide) ?_
          exact Rch.dropk (hR23 _ _ h) ⟨rfl, ⟨rfl, ⟨rfl, ⟨rfl, ⟨rfl, trivial⟩⟩⟩⟩⟩
        · replace h := h.2 hc
          refine R.iconst 1024 dL_law_1023 rfl ?_
          exact R.retZ dL_law_1024 rfl zok0 h
      replace h := h.2
      by_cases c22 : ((gxs γ l4.toNatClampNeg) &&& (iz 63)).toInt = 22
      · replace h := h.1 c22
        refine R.tswIn 22 1025 dL_law_40 c22 (by decide) (by decide) rfl (by decide) ?_
        refine R.aload_n 1026 dL_law_1025 rfl rfl ?_
        refine R.aload_n 1027 dL_law_1026 rfl rfl ?_
        refine R.iload 1029 dL_law_1027 rfl rfl ?_
        refine R.iconst 1030 dL_law_1029 rfl ?_
        refine R.iadd 1031 dL_law_1030 rfl ?_
        obtain ⟨hb, h⟩ := h
        refine R.scald 1032 dL_law_1031 rfl hb ?_
        refine Rch.callv (sd_X1_costs _ _ _ h) dL_law_1032 (lw_V q1049 q1050 q1051 q142 q1052) dk_X1_costs rcX (by decide) (Nat.le_of_ble_eq_true rfl) rfl rfl (Nat.le_of_ble_eq_true rfl) (kI 1035 rfl fun r87 w88 h => ?_) kN
        refine R.aload_n 1036 dL_law_1035 rfl rfl ?_
        refine R.aload_n 1037 dL_law_1036 rfl rfl ?_
        refine R.iload 1039 dL_law_1037 rfl rfl ?_
        refine R.iconst 1040 dL_law_1039 rfl ?_
        refine R.iadd 1041 dL_law_1040 rfl ?_
        obtain ⟨hb, h⟩ := h
        refine R.scald 1042 dL_law_1041 rfl hb ?_
        refine Rch.callv (sd_X3_costs _ _ _ h) dL_law_1042 (lw_V q1777 q1778 q1779 q146 q1780) dk_X3_costs rcM (by decide) (Nat.le_of_ble_eq_true rfl) rfl rfl (Nat.le_of_ble_eq_true rfl) (kI 1045 rfl fun r89 w90 h => ?_) kN
        refine R.icmp_eq 1689 1048 dL_law_1045 (by decide) rfl (fun hc => ?_) (fun hc => ?_)
        · replace h := h.1 hc
          refine R.inc4 1692 dL_law_1689 rfl (Nat.le_of_ble_eq_true rfl) rfl ?_
          refine R.goto 23 dL_law_1692 (by decide) ?_
          exact Rch.dropk (hR23 _ _ h) ⟨rfl, ⟨rfl, ⟨rfl, ⟨rfl, ⟨rfl, trivial⟩⟩⟩⟩⟩
        · replace h := h.2 hc
          refine R.iconst 1049 dL_law_1048 rfl ?_
          exact R.retZ dL_law_1049 rfl zok0 h
      replace h := h.2
      by_cases c23 : ((gxs γ l4.toNatClampNeg) &&& (iz 63)).toInt = 23
      · replace h := h.1 c23
        refine R.tswIn 23 1050 dL_law_40 c23 (by decide) (by decide) rfl (by decide) ?_
        refine R.aload_n 1051 dL_law_1050 rfl rfl ?_
        refine R.aload_n 1052 dL_law_1051 rfl rfl ?_
        refine R.iload 1054 dL_law_1052 rfl rfl ?_
        refine R.iconst 1055 dL_law_1054 rfl ?_
        refine R.iadd 1056 dL_law_1055 rfl ?_
        obtain ⟨hb, h⟩ := h
        refine R.scald 1057 dL_law_1056 rfl hb ?_
        refine Rch.callv (sd_X1_full _ _ _ h) dL_law_1057 (lw_V q1057 q1058 q1059 q142 q1060) dk_X1_full rcX (by decide) (Nat.le_of_ble_eq_true rfl) rfl rfl (Nat.le_of_ble_eq_true rfl) (kI 1060 rfl fun r91 w92 h => ?_) kN
        refine R.aload_n 1061 dL_law_1060 rfl rfl ?_
        refine R.aload_n 1062 dL_law_1061 rfl rfl ?_
        refine R.iload 1064 dL_law_1062 rfl rfl ?_
        refine R.iconst 1065 dL_law_1064 rfl ?_
        refine R.iadd 1066 dL_law_1065 rfl ?_
        obtain ⟨hb, h⟩ := h
        refine R.scald 1067 dL_law_1066 rfl hb ?_
        refine Rch.callv (sd_X3_full _ _ _ h) dL_law_1067 (lw_V q1785 q1786 q1787 q146 q1788) dk_X3_full rcM (by decide) (Nat.le_of_ble_eq_true rfl) rfl rfl (Nat.le_of_ble_eq_true rfl) (kI 1070 rfl fun r93 w94 h => ?_) kN
        refine R.icmp_eq 1689 1073 dL_law_1070 (by decide) rfl (fun hc => ?_) (fun hc => ?_)
        · replace h := h.1 hc
          refine R.inc4 1692 dL_law_1689 rfl (Nat.le_of_ble_eq_true rfl) rfl ?_
          refine R.goto 23 dL_law_1692 (by decide) ?_
          exact Rch.dropk (hR23 _ _ h) ⟨rfl, ⟨rfl, ⟨rfl, ⟨rfl, ⟨rfl, trivial⟩⟩⟩⟩⟩
        · replace h := h.2 hc
          refine R.iconst 1074 dL_law_1073 rfl ?_
          exact R.retZ dL_law_1074 rfl zok0 h
      replace h := h.2
      by_cases c24 : ((gxs γ l4.toNatClampNeg) &&& (iz 63)).toInt = 24
      · replace h := h.1 c24
        refine R.tswIn 24 1075 dL_law_40 c24 (by decide) (by decide) rfl (by decide) ?_
        refine R.aload_n 1076 dL_law_1075 rfl rfl ?_
        refine R.aload_n 1077 dL_law_1076 rfl rfl ?_
        refine R.iload 1079 dL_law_1077 rfl rfl ?_
        refine R.iconst 1080 dL_law_1079 rfl ?_
        refine R.iadd 1081 dL_law_1080 rfl ?_
        obtain ⟨hb, h⟩ := h
        refine R.scald 1082 dL_law_1081 rfl hb ?_
        refine R.aload_n 1083 dL_law_1082 rfl rfl ?_
        refine R.iload 1085 dL_law_1083 rfl rfl ?_
        refine R.iconst 1086 dL_law_1085 rfl ?_
        refine R.iadd 1087 dL_law_1086 rfl ?_
        obtain ⟨hb, h⟩ := h
        refine R.scald 1088 dL_law_1087 rfl hb ?_
        refine Rch.callv (sd_X1_keep _ _ _ _ h) dL_law_1088 (lw_V q1061 q1062 q1063 q142 q1064) dk_X1_keep rcX (by decide) (Nat.le_of_ble_eq_true rfl) rfl rfl (Nat.le_of_ble_eq_true rfl) (kI 1091 rfl fun r95 w96 h => ?_) kN
        refine R.aload_n 1092 dL_law_1091 rfl rfl ?_
        refine R.aload_n 1093 dL_law_1092 rfl rfl ?_
        refine R.iload 1095 dL_law_1093 rfl rfl ?_
        refine R.iconst 1096 dL_law_1095 rfl ?_
        refine R.iadd 1097 dL_law_1096 rfl ?_
        obtain ⟨hb, h⟩ := h
        refine R.scald 1098 dL_law_1097 rfl hb ?_
        refine R.aload_n 1099 dL_law_1098 rfl rfl ?_
        refine R.iload 1101 dL_law_1099 rfl rfl ?_
        refine R.iconst 1102 dL_law_1101 rfl ?_
        refine R.iadd 1103 dL_law_1102 rfl ?_
        obtain ⟨hb, h⟩ := h
        refine R.scald 1104 dL_law_1103 rfl hb ?_
        refine Rch.callv (sd_X3_keep _ _ _ _ h) dL_law_1104 (lw_V q1789 q1790 q1791 q146 q1792) dk_X3_keep rcM (by decide) (Nat.le_of_ble_eq_true rfl) rfl rfl (Nat.le_of_ble_eq_true rfl) (kI 1107 rfl fun r97 w98 h => ?_) kN
        refine R.icmp_eq 1689 1110 dL_law_1107 (by decide) rfl (fun hc => ?_) (fun hc => ?_)
        · replace h := h.1 hc
          refine R.inc4 1692 dL_law_1689 rfl (Nat.le_of_ble_eq_true rfl) rfl ?_
          refine R.goto 23 dL_law_1692 (by decide) ?_
          exact Rch.dropk (hR23 _ _ h) ⟨rfl, ⟨rfl, ⟨rfl, ⟨rfl, ⟨rfl, trivial⟩⟩⟩⟩⟩
        · replace h := h.2 hc
          refine R.iconst 1111 dL_law_1110 rfl ?_
          exact R.retZ dL_law_1111 rfl zok0 h
      replace h := h.2
      by_cases c25 : ((gxs γ l4.toNatClampNeg) &&& (iz 63)).toInt = 25
      · replace h := h.1 c25
        refine R.tswIn 25 1112 dL_law_40 c25 (by decide) (by decide) rfl (by decide) ?_
        refine R.aload_n 1113 dL_law_1112 rfl rfl ?_
        refine R.aload_n 1114 dL_law_1113 rfl rfl ?_
        refine R.iload 1116 dL_law_1114 rfl rfl ?_
        refine R.iconst 1117 dL_law_1116 rfl ?_
        refine R.iadd 1118 dL_law_1117 rfl ?_
        obtain ⟨hb, h⟩ := h
        refine R.scald 1119 dL_law_1118 rfl hb ?_
        refine R.aload_n 1120 dL_law_1119 rfl rfl ?_
        refine R.iload 1122 dL_law_1120 rfl rfl ?_
        refine R.iconst 1123 dL_law_1122 rfl ?_
        refine R.iadd 1124 dL_law_1123 rfl ?_
        obtain ⟨hb, h⟩ := h
        refine R.scald 1125 dL_law_1124 rfl hb ?_
        refine Rch.callv (sd_X1_spans _ _ _ _ h) dL_law_1125 (lw_V q1065 q1066 q1067 q142 q1068) dk_X1_spans rcX (by decide) (Nat.le_of_ble_eq_true rfl) rfl rfl (Nat.le_of_ble_eq_true rfl) (kI 1128 rfl fun r99 w100 h => ?_) kN
        refine R.aload_n 1129 dL_law_1128 rfl rfl ?_
        refine R.aload_n 1130 dL_law_1129 rfl rfl ?_
        refine R.iload 1132 dL_law_1130 rfl rfl ?_
        refine R.iconst 1133 dL_law_1132 rfl ?_
        refine R.iadd 1134 dL_law_1133 rfl ?_
        obtain ⟨hb, h⟩ := h
        refine R.scald 1135 dL_law_1134 rfl hb ?_
        refine R.aload_n 1136 dL_law_1135 rfl rfl ?_
        refine R.iload 1138 dL_law_1136 rfl rfl ?_
        refine R.iconst 1139 dL_law_1138 rfl ?_
        refine R.iadd 1140 dL_law_1139 rfl ?_
        obtain ⟨hb, h⟩ := h
        refine R.scald 1141 dL_law_1140 rfl hb ?_
        refine Rch.callv (sd_X3_spans _ _ _ _ h) dL_law_1141 (lw_V q1793 q1794 q1795 q146 q1796) dk_X3_spans rcM (by decide) (Nat.le_of_ble_eq_true rfl) rfl rfl (Nat.le_of_ble_eq_true rfl) (kI 1144 rfl fun r101 w102 h => ?_) kN
        refine R.icmp_eq 1689 1147 dL_law_1144 (by decide) rfl (fun hc => ?_) (fun hc => ?_)
        · replace h := h.1 hc
          refine R.inc4 1692 dL_law_1689 rfl (Nat.le_of_ble_eq_true rfl) rfl ?_
          refine R.goto 23 dL_law_1692 (by decide) ?_
          exact Rch.dropk (hR23 _ _ h) ⟨rfl, ⟨rfl, ⟨rfl, ⟨rfl, ⟨rfl, trivial⟩⟩⟩⟩⟩
        · replace h := h.2 hc
          refine R.iconst 1148 dL_law_1147 rfl ?_
          exact R.retZ dL_law_1148 rfl zok0 h
      replace h := h.2
      by_cases c26 : ((gxs γ l4.toNatClampNeg) &&& (iz 63)).toInt = 26
      · replace h := h.1 c26
        refine R.tswIn 26 1149 dL_law_40 c26 (by decide) (by decide) rfl (by decide) ?_
        refine R.aload_n 1150 dL_law_1149 rfl rfl ?_
        refine Rch.callv (sd_X1_nameless _ _ h) dL_law_1150 (lw_V q1077 q1078 q1079 q142 q1080) dk_X1_nameless rcX (by decide) (Nat.le_of_ble_eq_true rfl) rfl rfl (Nat.le_of_ble_eq_true rfl) (kI 1153 rfl fun r103 w104 h => ?_) kN
        refine R.aload_n 1154 dL_law_1153 rfl rfl ?_
        refine Rch.callv (sd_X3_nameless _ _ h) dL_law_1154 (lw_V q1805 q1806 q1807 q146 q1808) dk_X3_nameless rcM (by decide) (Nat.le_of_ble_eq_true rfl) rfl rfl (Nat.le_of_ble_eq_true rfl) (kI 1157 rfl fun r105 w106 h => ?_) kN
        refine R.icmp_eq 1689 1160 dL_law_1157 (by decide) rfl (fun hc => ?_) (fun hc => ?_)
        · replace h := h.1 hc
          refine R.inc4 1692 dL_law_1689 rfl (Nat.le_of_ble_eq_true rfl) rfl ?_
          refine R.goto 23 dL_law_1692 (by decide) ?_
          exact Rch.dropk (hR23 _ _ h) ⟨rfl, ⟨rfl, ⟨rfl, ⟨rfl, ⟨rfl, trivial⟩⟩⟩⟩⟩
        · replace h := h.2 hc
          refine R.iconst 1161 dL_law_1160 rfl ?_
          exact R.retZ dL_law_1161 rfl zok0 h
      replace h := h.2
      by_cases c27 : ((gxs γ l4.toNatClampNeg) &&& (iz 63)).toInt = 27
      · replace h := h.1 c27
        refine R.tswIn 27 1162 dL_law_40 c27 (by decide) (by decide) rfl (by decide) ?_
        refine R.aload_n 1163 dL_law_1162 rfl rfl ?_
        refine R.aload_n 1164 dL_law_1163 rfl rfl ?_
        refine R.iload 1166 dL_law_1164 rfl rfl ?_
        refine R.iconst 1167 dL_law_1166 rfl ?_
        refine R.iadd 1168 dL_law_1167 rfl ?_
        obtain ⟨hb, h⟩ := h
        refine R.scald 1169 dL_law_1168 rfl hb ?_
        refine Rch.callv (sd_X1_doubles _ _ _ h) dL_law_1169 (lw_V q1085 q1086 q1087 q142 q1088) dk_X1_doubles rcX (by decide) (Nat.le_of_ble_eq_true rfl) rfl rfl (Nat.le_of_ble_eq_true rfl) (kI 1172 rfl fun r107 w108 h => ?_) kN
        refine R.aload_n 1173 dL_law_1172 rfl rfl ?_
        refine R.aload_n 1174 dL_law_1173 rfl rfl ?_
        refine R.iload 1176 dL_law_1174 rfl rfl ?_
        refine R.iconst 1177 dL_law_1176 rfl ?_
        refine R.iadd 1178 dL_law_1177 rfl ?_
        obtain ⟨hb, h⟩ := h
        refine R.scald 1179 dL_law_1178 rfl hb ?_
        refine Rch.callv (sd_X3_doubles _ _ _ h) dL_law_1179 (lw_V q1809 q1810 q1811 q146 q1812) dk_X3_doubles rcM (by decide) (Nat.le_of_ble_eq_true rfl) rfl rfl (Nat.le_of_ble_eq_true rfl) (kI 1182 rfl fun r109 w110 h => ?_) kN
        refine R.icmp_eq 1689 1185 dL_law_1182 (by decide) rfl (fun hc => ?_) (fun hc => ?_)
        · replace h := h.1 hc
          refine R.inc4 1692 dL_law_1689 rfl (Nat.le_of_ble_eq_true rfl) rfl ?_
          refine R.goto 23 dL_law_1692 (by decide) ?_
          exact Rch.dropk (hR23 _ _ h) ⟨rfl, ⟨rfl, ⟨rfl, ⟨rfl, ⟨rfl, trivial⟩⟩⟩⟩⟩
        · replace h := h.2 hc
          refine R.iconst 1186 dL_law_1185 rfl ?_
          exact R.retZ dL_law_1186 rfl zok0 h
      replace h := h.2
      by_cases c28 : ((gxs γ l4.toNatClampNeg) &&& (iz 63)).toInt = 28
      · replace h := h.1 c28
        refine R.tswIn 28 1187 dL_law_40 c28 (by decide) (by decide) rfl (by decide) ?_
        refine R.aload_n 1188 dL_law_1187 rfl rfl ?_
        refine R.aload_n 1189 dL_law_1188 rfl rfl ?_
        refine R.iload 1191 dL_law_1189 rfl rfl ?_
        refine R.iconst 1192 dL_law_1191 rfl ?_
        refine R.iadd 1193 dL_law_1192 rfl ?_
        obtain ⟨hb, h⟩ := h
        refine R.scald 1194 dL_law_1193 rfl hb ?_
        refine R.aload_n 1195 dL_law_1194 rfl rfl ?_
        refine R.iload 1197 dL_law_1195 rfl rfl ?_
        refine R.iconst 1198 dL_law_1197 rfl ?_
        refine R.iadd 1199 dL_law_1198 rfl ?_
        obtain ⟨hb, h⟩ := h
        refine R.scald 1200 dL_law_1199 rfl hb ?_
        refine Rch.callv (sd_X1_peek _ _ _ _ h) dL_law_1200 (lw_V q1093 q1094 q1095 q142 q1096) dk_X1_peek rcX (by decide) (Nat.le_of_ble_eq_true rfl) rfl rfl (Nat.le_of_ble_eq_true rfl) (kI 1203 rfl fun r111 w112 h => ?_) kN
        refine R.aload_n 1204 dL_law_1203 rfl rfl ?_
        refine R.aload_n 1205 dL_law_1204 rfl rfl ?_
        refine R.iload 1207 dL_law_1205 rfl rfl ?_
        refine R.iconst 1208 dL_law_1207 rfl ?_
        refine R.iadd 1209 dL_law_1208 rfl ?_
        obtain ⟨hb, h⟩ := h
        refine R.scald 1210 dL_law_1209 rfl hb ?_
        refine R.aload_n 1211 dL_law_1210 rfl rfl ?_
        refine R.iload 1213 dL_law_1211 rfl rfl ?_
        refine R.iconst 1214 dL_law_1213 rfl ?_
        refine R.iadd 1215 dL_law_1214 rfl ?_
        obtain ⟨hb, h⟩ := h
        refine R.scald 1216 dL_law_1215 rfl hb ?_
        refine Rch.callv (sd_X3_peek _ _ _ _ h) dL_law_1216 (lw_V q1813 q1814 q1815 q146 q1816) dk_X3_peek rcM (by decide) (Nat.le_of_ble_eq_true rfl) rfl rfl (Nat.le_of_ble_eq_true rfl) (kI 1219 rfl fun r113 w114 h => ?_) kN
        refine R.icmp_eq 1689 1222 dL_law_1219 (by decide) rfl (fun hc => ?_) (fun hc => ?_)
        · replace h := h.1 hc
          refine R.inc4 1692 dL_law_1689 rfl (Nat.le_of_ble_eq_true rfl) rfl ?_
          refine R.goto 23 dL_law_1692 (by decide) ?_
          exact Rch.dropk (hR23 _ _ h) ⟨rfl, ⟨rfl, ⟨rfl, ⟨rfl, ⟨rfl, trivial⟩⟩⟩⟩⟩
        · replace h := h.2 hc
          refine R.iconst 1223 dL_law_1222 rfl ?_
          exact R.retZ dL_law_1223 rfl zok0 h
      replace h := h.2
      by_cases c29 : ((gxs γ l4.toNatClampNeg) &&& (iz 63)).toInt = 29
      · replace h := h.1 c29
        refine R.tswIn 29 1224 dL_law_40 c29 (by decide) (by decide) rfl (by decide) ?_
        refine R.aload_n 1225 dL_law_1224 rfl rfl ?_
        refine R.aload_n 1226 dL_law_1225 rfl rfl ?_
        refine R.iload 1228 dL_law_1226 rfl rfl ?_
        refine R.iconst 1229 dL_law_1228 rfl ?_
        refine R.iadd 1230 dL_law_1229 rfl ?_
        obtain ⟨hb, h⟩ := h
        refine R.scald 1231 dL_law_1230 rfl hb ?_
        refine Rch.callv (sd_X1_what _ _ _ h) dL_law_1231 (lw_V q1097 q1098 q1099 q142 q1100) dk_X1_what rcX (by decide) (Nat.le_of_ble_eq_true rfl) rfl rfl (Nat.le_of_ble_eq_true rfl) (kI 1234 rfl fun r115 w116 h => ?_) kN
        refine R.aload_n 1235 dL_law_1234 rfl rfl ?_
        refine R.aload_n 1236 dL_law_1235 rfl rfl ?_
        refine R.iload 1238 dL_law_1236 rfl rfl ?_
        refine R.iconst 1239 dL_law_1238 rfl ?_
        refine R.iadd 1240 dL_law_1239 rfl ?_
        obtain ⟨hb, h⟩ := h
        refine R.scald 1241 dL_law_1240 rfl hb ?_
        refine Rch.callv (sd_X3_what _ _ _ h) dL_law_1241 (lw_V q1817 q1818 q1819 q146 q1820) dk_X3_what rcM (by decide) (Nat.le_of_ble_eq_true rfl) rfl rfl (Nat.le_of_ble_eq_true rfl) (kI 1244 rfl fun r117 w118 h => ?_) kN
        refine R.icmp_eq 1689 1247 dL_law_1244 (by decide) rfl (fun hc => ?_) (fun hc => ?_)
        · replace h := h.1 hc
          refine R.inc4 1692 dL_law_1689 rfl (Nat.le_of_ble_eq_true rfl) rfl ?_
          refine R.goto 23 dL_law_1692 (by decide) ?_
          exact Rch.dropk (hR23 _ _ h) ⟨rfl, ⟨rfl, ⟨rfl, ⟨rfl, ⟨rfl, trivial⟩⟩⟩⟩⟩
        · replace h := h.2 hc
          refine R.iconst 1248 dL_law_1247 rfl ?_
          exact R.retZ dL_law_1248 rfl zok0 h
      replace h := h.2
      by_cases c30 : ((gxs γ l4.toNatClampNeg) &&& (iz 63)).toInt = 30
      · replace h := h.1 c30
        refine R.tswIn 30 1249 dL_law_40 c30 (by decide) (by decide) rfl (by decide) ?_
        refine R.aload_n 1250 dL_law_1249 rfl rfl ?_
        refine R.aload_n 1251 dL_law_1250 rfl rfl ?_
        refine R.iload 1253 dL_law_1251 rfl rfl ?_
        refine R.iconst 1254 dL_law_1253 rfl ?_
        refine R.iadd 1255 dL_law_1254 rfl ?_
        obtain ⟨hb, h⟩ := h
        refine R.scald 1256 dL_law_1255 rfl hb ?_
        refine R.aload_n 1257 dL_law_1256 rfl rfl ?_
        refine R.iload 1259 dL_law_1257 rfl rfl ?_
        refine R.iconst 1260 dL_law_1259 rfl ?_
        refine R.iadd 1261 dL_law_1260 rfl ?_
        obtain ⟨hb, h⟩ := h
        refine R.scald 1262 dL_law_1261 rfl hb ?_
        refine R.aload_n 1263 dL_law_1262 rfl rfl ?_
        refine R.iload 1265 dL_law_1263 rfl rfl ?_
        refine R.iconst 1266 dL_law_1265 rfl ?_
        refine R.iadd 1267 dL_law_1266 rfl ?_
        obtain ⟨hb, h⟩ := h
        refine R.scald 1268 dL_law_1267 rfl hb ?_
        refine R.if_eq 1275 1271 dL_law_1268 (by decide) rfl (fun hc => ?_) (fun hc => ?_)
        · replace h := h.1 hc
          refine R.iconst 1276 dL_law_1275 rfl ?_
          exact Rch.dropk (s_law_1276 Q _ _ _ _ _ hR23 _ h) ⟨rfl, ⟨rfl, ⟨rfl, ⟨rfl, ⟨rfl, trivial⟩⟩⟩⟩⟩
        · replace h := h.2 hc
          refine R.iconst 1272 dL_law_1271 rfl ?_
          refine R.goto 1276 dL_law_1272 (by decide) ?_
          exact Rch.dropk (s_law_1276 Q _ _ _ _ _ hR23 _ h) ⟨rfl, ⟨rfl, ⟨rfl, ⟨rfl, ⟨rfl, trivial⟩⟩⟩⟩⟩
      replace h := h.2
      by_cases c31 : ((gxs γ l4.toNatClampNeg) &&& (iz 63)).toInt = 31
      · replace h := h.1 c31
        refine R.tswIn 31 1314 dL_law_40 c31 (by decide) (by decide) rfl (by decide) ?_
        refine R.aload_n 1315 dL_law_1314 rfl rfl ?_
        refine R.aload_n 1316 dL_law_1315 rfl rfl ?_
        refine R.iload 1318 dL_law_1316 rfl rfl ?_
        refine R.iconst 1319 dL_law_1318 rfl ?_
        refine R.iadd 1320 dL_law_1319 rfl ?_
        obtain ⟨hb, h⟩ := h
        refine R.scald 1321 dL_law_1320 rfl hb ?_
        refine R.aload_n 1322 dL_law_1321 rfl rfl ?_
        refine R.iload 1324 dL_law_1322 rfl rfl ?_
        refine R.iconst 1325 dL_law_1324 rfl ?_
        refine R.iadd 1326 dL_law_1325 rfl ?_
        obtain ⟨hb, h⟩ := h
        refine R.scald 1327 dL_law_1326 rfl hb ?_
        refine Rch.callv (sd_X1_history _ _ _ _ h) dL_law_1327 (lw_V q1115 q1116 q1117 q142 q1118) dk_X1_history rcX (by decide) (Nat.le_of_ble_eq_true rfl) rfl rfl (Nat.le_of_ble_eq_true rfl) (kI 1330 rfl fun r119 w120 h => ?_) kN
        refine R.aload_n 1331 dL_law_1330 rfl rfl ?_
        refine R.aload_n 1332 dL_law_1331 rfl rfl ?_
        refine R.iload 1334 dL_law_1332 rfl rfl ?_
        refine R.iconst 1335 dL_law_1334 rfl ?_
        refine R.iadd 1336 dL_law_1335 rfl ?_
        obtain ⟨hb, h⟩ := h
        refine R.scald 1337 dL_law_1336 rfl hb ?_
        refine R.aload_n 1338 dL_law_1337 rfl rfl ?_
        refine R.iload 1340 dL_law_1338 rfl rfl ?_
        refine R.iconst 1341 dL_law_1340 rfl ?_
        refine R.iadd 1342 dL_law_1341 rfl ?_
        obtain ⟨hb, h⟩ := h
        refine R.scald 1343 dL_law_1342 rfl hb ?_
        refine Rch.callv (sd_X3_history _ _ _ _ h) dL_law_1343 (lw_V q1834 q1835 q1836 q146 q1837) dk_X3_history rcM (by decide) (Nat.le_of_ble_eq_true rfl) rfl rfl (Nat.le_of_ble_eq_true rfl) (kI 1346 rfl fun r121 w122 h => ?_) kN
        refine R.icmp_eq 1689 1349 dL_law_1346 (by decide) rfl (fun hc => ?_) (fun hc => ?_)
        · replace h := h.1 hc
          refine R.inc4 1692 dL_law_1689 rfl (Nat.le_of_ble_eq_true rfl) rfl ?_
          refine R.goto 23 dL_law_1692 (by decide) ?_
          exact Rch.dropk (hR23 _ _ h) ⟨rfl, ⟨rfl, ⟨rfl, ⟨rfl, ⟨rfl, trivial⟩⟩⟩⟩⟩
        · replace h := h.2 hc
          refine R.iconst 1350 dL_law_1349 rfl ?_
          exact R.retZ dL_law_1350 rfl zok0 h
      replace h := h.2
      by_cases c32 : ((gxs γ l4.toNatClampNeg) &&& (iz 63)).toInt = 32
      · replace h := h.1 c32
        refine R.tswIn 32 1351 dL_law_40 c32 (by decide) (by decide) rfl (by decide) ?_
        refine R.aload_n 1352 dL_law_1351 rfl rfl ?_
        refine R.aload_n 1353 dL_law_1352 rfl rfl ?_
        refine R.iload 1355 dL_law_1353 rfl rfl ?_
        refine R.iconst 1356 dL_law_1355 rfl ?_
        refine R.iadd 1357 dL_law_1356 rfl ?_
        obtain ⟨hb, h⟩ := h
        refine R.scald 1358 dL_law_1357 rfl hb ?_
        refine Rch.callv (sd_X1_share _ _ _ h) dL_law_1358 (lw_V q1132 q1133 q1134 q142 q1135) dk_X1_share rcX (by decide) (Nat.le_of_ble_eq_true rfl) rfl rfl (Nat.le_of_ble_eq_true rfl) (kI 1361 rfl fun r123 w124 h => ?_) kN
        refine R.aload_n 1362 dL_law_1361 rfl rfl ?_
        refine R.aload_n 1363 dL_law_1362 rfl rfl ?_
        refine R.iload 1365 dL_law_1363 rfl rfl ?_
        refine R.iconst 1366 dL_law_1365 rfl ?_
        refine R.iadd 1367 dL_law_1366 rfl ?_
        obtain ⟨hb, h⟩ := h
        refine R.scald 1368 dL_law_1367 rfl hb ?_
        refine Rch.callv (sd_X3_share _ _ _ h) dL_law_1368 (lw_V q1851 q1852 q1853 q146 q1854) dk_X3_share rcM (by decide) (Nat.le_of_ble_eq_true rfl) rfl rfl (Nat.le_of_ble_eq_true rfl) (kI 1371 rfl fun r125 w126 h => ?_) kN
        refine R.icmp_eq 1689 1374 dL_law_1371 (by decide) rfl (fun hc => ?_) (fun hc => ?_)
        · replace h := h.1 hc
          refine R.inc4 1692 dL_law_1689 rfl (Nat.le_of_ble_eq_true rfl) rfl ?_
          refine R.goto 23 dL_law_1692 (by decide) ?_
          exact Rch.dropk (hR23 _ _ h) ⟨rfl, ⟨rfl, ⟨rfl, ⟨rfl, ⟨rfl, trivial⟩⟩⟩⟩⟩
        · replace h := h.2 hc
          refine R.iconst 1375 dL_law_1374 rfl ?_
          exact R.retZ dL_law_1375 rfl zok0 h
      replace h := h.2
      by_cases c33 : ((gxs γ l4.toNatClampNeg) &&& (iz 63)).toInt = 33
      · replace h := h.1 c33
        refine R.tswIn 33 1376 dL_law_40 c33 (by decide) (by decide) rfl (by decide) ?_
        refine R.aload_n 1377 dL_law_1376 rfl rfl ?_
        refine R.aload_n 1378 dL_law_1377 rfl rfl ?_
        refine R.iload 1380 dL_law_1378 rfl rfl ?_
        refine R.iconst 1381 dL_law_1380 rfl ?_
        refine R.iadd 1382 dL_law_1381 rfl ?_
        obtain ⟨hb, h⟩ := h
        refine R.scald 1383 dL_law_1382 rfl hb ?_
        refine Rch.callv (sd_X1_lot _ _ _ h) dL_law_1383 (lw_V q1136 q1137 q1138 q142 q1139) dk_X1_lot rcX (by decide) (Nat.le_of_ble_eq_true rfl) rfl rfl (Nat.le_of_ble_eq_true rfl) (kI 1386 rfl fun r127 w128 h => ?_) kN
        refine R.aload_n 1387 dL_law_1386 rfl rfl ?_
        refine R.aload_n 1388 dL_law_1387 rfl rfl ?_
        refine R.iload 1390 dL_law_1388 rfl rfl ?_
        refine R.iconst 1391 dL_law_1390 rfl ?_
        refine R.iadd 1392 dL_law_1391 rfl ?_
        obtain ⟨hb, h⟩ := h
        refine R.scald 1393 dL_law_1392 rfl hb ?_
        refine Rch.callv (sd_X3_lot _ _ _ h) dL_law_1393 (lw_V q1855 q1856 q1857 q146 q1858) dk_X3_lot rcM (by decide) (Nat.le_of_ble_eq_true rfl) rfl rfl (Nat.le_of_ble_eq_true rfl) (kI 1396 rfl fun r129 w130 h => ?_) kN
        refine R.icmp_eq 1689 1399 dL_law_1396 (by decide) rfl (fun hc => ?_) (fun hc => ?_)
        · replace h := h.1 hc
          refine R.inc4 1692 dL_law_1689 rfl (Nat.le_of_ble_eq_true rfl) rfl ?_
          refine R.goto 23 dL_law_1692 (by decide) ?_
          exact Rch.dropk (hR23 _ _ h) ⟨rfl, ⟨rfl, ⟨rfl, ⟨rfl, ⟨rfl, trivial⟩⟩⟩⟩⟩
        · replace h := h.2 hc
          refine R.iconst 1400 dL_law_1399 rfl ?_
          exact R.retZ dL_law_1400 rfl zok0 h
      replace h := h.2
      by_cases c34 : ((gxs γ l4.toNatClampNeg) &&& (iz 63)).toInt = 34
      · replace h := h.1 c34
        refine R.tswIn 34 1401 dL_law_40 c34 (by decide) (by decide) rfl (by decide) ?_
        refine R.aload_n 1402 dL_law_1401 rfl rfl ?_
        refine R.aload_n 1403 dL_law_1402 rfl rfl ?_
        refine R.iload 1405 dL_law_1403 rfl rfl ?_
        refine R.iconst 1406 dL_law_1405 rfl ?_
        refine R.iadd 1407 dL_law_1406 rfl ?_
        obtain ⟨hb, h⟩ := h
        refine R.scald 1408 dL_law_1407 rfl hb ?_
        refine R.aload_n 1409 dL_law_1408 rfl rfl ?_
        refine R.iload 1411 dL_law_1409 rfl rfl ?_
        refine R.iconst 1412 dL_law_1411 rfl ?_
        refine R.iadd 1413 dL_law_1412 rfl ?_
        obtain ⟨hb, h⟩ := h
        refine R.scald 1414 dL_law_1413 rfl hb ?_
        refine Rch.callv (sd_X1_labels _ _ _ _ h) dL_law_1414 (lw_V q1140 q1141 q1142 q142 q1143) dk_X1_labels rcX (by decide) (Nat.le_of_ble_eq_true rfl) rfl rfl (Nat.le_of_ble_eq_true rfl) (kI 1417 rfl fun r131 w132 h => ?_) kN
        refine R.aload_n 1418 dL_law_1417 rfl rfl ?_
        refine R.aload_n 1419 dL_law_1418 rfl rfl ?_
        refine R.iload 1421 dL_law_1419 rfl rfl ?_
        refine R.iconst 1422 dL_law_1421 rfl ?_
        refine R.iadd 1423 dL_law_1422 rfl ?_
        obtain ⟨hb, h⟩ := h
        refine R.scald 1424 dL_law_1423 rfl hb ?_
        refine R.aload_n 1425 dL_law_1424 rfl rfl ?_
        refine R.iload 1427 dL_law_1425 rfl rfl ?_
        refine R.iconst 1428 dL_law_1427 rfl ?_
        refine R.iadd 1429 dL_law_1428 rfl ?_
        obtain ⟨hb, h⟩ := h
        refine R.scald 1430 dL_law_1429 rfl hb ?_
        refine Rch.callv (sd_X3_labels _ _ _ _ h) dL_law_1430 (lw_V q1859 q1860 q1861 q146 q1862) dk_X3_labels rcM (by decide) (Nat.le_of_ble_eq_true rfl) rfl rfl (Nat.le_of_ble_eq_true rfl) (kI 1433 rfl fun r133 w134 h => ?_) kN
        refine R.icmp_eq 1689 1436 dL_law_1433 (by decide) rfl (fun hc => ?_) (fun hc => ?_)
        · replace h := h.1 hc
          refine R.inc4 1692 dL_law_1689 rfl (Nat.le_of_ble_eq_true rfl) rfl ?_
          refine R.goto 23 dL_law_1692 (by decide) ?_
          exact Rch.dropk (hR23 _ _ h) ⟨rfl, ⟨rfl, ⟨rfl, ⟨rfl, ⟨rfl, trivial⟩⟩⟩⟩⟩
        · replace h := h.2 hc
          refine R.iconst 1437 dL_law_1436 rfl ?_
          exact R.retZ dL_law_1437 rfl zok0 h
      replace h := h.2
      by_cases c35 : ((gxs γ l4.toNatClampNeg) &&& (iz 63)).toInt = 35
      · replace h := h.1 c35
        refine R.tswIn 35 1438 dL_law_40 c35 (by decide) (by decide) rfl (by decide) ?_
        refine R.aload_n 1439 dL_law_1438 rfl rfl ?_
        refine R.aload_n 1440 dL_law_1439 rfl rfl ?_
        refine R.iload 1442 dL_law_1440 rfl rfl ?_
        refine R.iconst 1443 dL_law_1442 rfl ?_
        refine R.iadd 1444 dL_law_1443 rfl ?_
        obtain ⟨hb, h⟩ := h
        refine R.scald 1445 dL_law_1444 rfl hb ?_
        refine Rch.callv (sd_X1_rests _ _ _ h) dL_law_1445 (lw_V q1148 q1149 q1150 q142 q1151) dk_X1_rests rcX (by decide) (Nat.le_of_ble_eq_true rfl) rfl rfl (Nat.le_of_ble_eq_true rfl) (kI 1448 rfl fun r135 w136 h => ?_) kN
        refine R.aload_n 1449 dL_law_1448 rfl rfl ?_
        refine R.aload_n 1450 dL_law_1449 rfl rfl ?_
        refine R.iload 1452 dL_law_1450 rfl rfl ?_
        refine R.iconst 1453 dL_law_1452 rfl ?_
        refine R.iadd 1454 dL_law_1453 rfl ?_
        obtain ⟨hb, h⟩ := h
        refine R.scald 1455 dL_law_1454 rfl hb ?_
        refine Rch.callv (sd_X3_rests _ _ _ h) dL_law_1455 (lw_V q1868 q1869 q1870 q146 q1871) dk_X3_rests rcM (by decide) (Nat.le_of_ble_eq_true rfl) rfl rfl (Nat.le_of_ble_eq_true rfl) (kI 1458 rfl fun r137 w138 h => ?_) kN
        refine R.icmp_eq 1689 1461 dL_law_1458 (by decide) rfl (fun hc => ?_) (fun hc => ?_)
        · replace h := h.1 hc
          refine R.inc4 1692 dL_law_1689 rfl (Nat.le_of_ble_eq_true rfl) rfl ?_
          refine R.goto 23 dL_law_1692 (by decide) ?_
          exact Rch.dropk (hR23 _ _ h) ⟨rfl, ⟨rfl, ⟨rfl, ⟨rfl, ⟨rfl, trivial⟩⟩⟩⟩⟩
        · replace h := h.2 hc
          refine R.iconst 1462 dL_law_1461 rfl ?_
          exact R.retZ dL_law_1462 rfl zok0 h
      replace h := h.2
      by_cases c36 : ((gxs γ l4.toNatClampNeg) &&& (iz 63)).toInt = 36
      · replace h := h.1 c36
        refine R.tswIn 36 1463 dL_law_40 c36 (by decide) (by decide) rfl (by decide) ?_
        refine R.aload_n 1464 dL_law_1463 rfl rfl ?_
        refine R.aload_n 1465 dL_law_1464 rfl rfl ?_
        refine R.iload 1467 dL_law_1465 rfl rfl ?_
        refine R.iconst 1468 dL_law_1467 rfl ?_
        refine R.iadd 1469 dL_law_1468 rfl ?_
        obtain ⟨hb, h⟩ := h
        refine R.scald 1470 dL_law_1469 rfl hb ?_
        refine Rch.callv (sd_X1_most _ _ _ h) dL_law_1470 (lw_V q1152 q1153 q1154 q142 q1155) dk_X1_most rcX (by decide) (Nat.le_of_ble_eq_true rfl) rfl rfl (Nat.le_of_ble_eq_true rfl) (kI 1473 rfl fun r139 w140 h => ?_) kN
        refine R.aload_n 1474 dL_law_1473 rfl rfl ?_
        refine R.aload_n 1475 dL_law_1474 rfl rfl ?_
        refine R.iload 1477 dL_law_1475 rfl rfl ?_
        refine R.iconst 1478 dL_law_1477 rfl ?_
        refine R.iadd 1479 dL_law_1478 rfl ?_
        obtain ⟨hb, h⟩ := h
        refine R.scald 1480 dL_law_1479 rfl hb ?_
        refine Rch.callv (sd_X3_most _ _ _ h) dL_law_1480 (lw_V q1872 q1873 q1874 q146 q1875) dk_X3_most rcM (by decide) (Nat.le_of_ble_eq_true rfl) rfl rfl (Nat.le_of_ble_eq_true rfl) (kI 1483 rfl fun r141 w142 h => ?_) kN
        refine R.icmp_eq 1689 1486 dL_law_1483 (by decide) rfl (fun hc => ?_) (fun hc => ?_)
        · replace h := h.1 hc
          refine R.inc4 1692 dL_law_1689 rfl (Nat.le_of_ble_eq_true rfl) rfl ?_
          refine R.goto 23 dL_law_1692 (by decide) ?_
          exact Rch.dropk (hR23 _ _ h) ⟨rfl, ⟨rfl, ⟨rfl, ⟨rfl, ⟨rfl, trivial⟩⟩⟩⟩⟩
        · replace h := h.2 hc
          refine R.iconst 1487 dL_law_1486 rfl ?_
          exact R.retZ dL_law_1487 rfl zok0 h
      replace h := h.2
      by_cases c37 : ((gxs γ l4.toNatClampNeg) &&& (iz 63)).toInt = 37
      · replace h := h.1 c37
        refine R.tswIn 37 1488 dL_law_40 c37 (by decide) (by decide) rfl (by decide) ?_
        refine R.aload_n 1489 dL_law_1488 rfl rfl ?_
        refine Rch.callv (sd_X1_spoilt _ _ h) dL_law_1489 (lw_V q1156 q1157 q1158 q142 q1159) dk_X1_spoilt rcX (by decide) (Nat.le_of_ble_eq_true rfl) rfl rfl (Nat.le_of_ble_eq_true rfl) (kI 1492 rfl fun r143 w144 h => ?_) kN
        refine R.aload_n 1493 dL_law_1492 rfl rfl ?_
        refine Rch.callv (sd_X3_spoilt _ _ h) dL_law_1493 (lw_V q1876 q1877 q1878 q146 q1879) dk_X3_spoilt rcM (by decide) (Nat.le_of_ble_eq_true rfl) rfl rfl (Nat.le_of_ble_eq_true rfl) (kI 1496 rfl fun r145 w146 h => ?_) kN
        refine R.icmp_eq 1689 1499 dL_law_1496 (by decide) rfl (fun hc => ?_) (fun hc => ?_)
        · replace h := h.1 hc
          refine R.inc4 1692 dL_law_1689 rfl (Nat.le_of_ble_eq_true rfl) rfl ?_
          refine R.goto 23 dL_law_1692 (by decide) ?_
          exact Rch.dropk (hR23 _ _ h) ⟨rfl, ⟨rfl, ⟨rfl, ⟨rfl, ⟨rfl, trivial⟩⟩⟩⟩⟩
        · replace h := h.2 hc
          refine R.iconst 1500 dL_law_1499 rfl ?_
          exact R.retZ dL_law_1500 rfl zok0 h
      replace h := h.2
      by_cases c38 : ((gxs γ l4.toNatClampNeg) &&& (iz 63)).toInt = 38
      · replace h := h.1 c38
        refine R.tswIn 38 1501 dL_law_40 c38 (by decide) (by decide) rfl (by decide) ?_
        refine R.aload_n 1502 dL_law_1501 rfl rfl ?_
        refine R.aload_n 1503 dL_law_1502 rfl rfl ?_
        refine R.iload 1505 dL_law_1503 rfl rfl ?_
        refine R.iconst 1506 dL_law_1505 rfl ?_
        refine R.iadd 1507 dL_law_1506 rfl ?_
        obtain ⟨hb, h⟩ := h
        refine R.scald 1508 dL_law_1507 rfl hb ?_
        refine Rch.callv (sd_X1_buried _ _ _ h) dL_law_1508 (lw_V q1160 q1161 q1162 q142 q1163) dk_X1_buried rcX (by decide) (Nat.le_of_ble_eq_true rfl) rfl rfl (Nat.le_of_ble_eq_true rfl) (kI 1511 rfl fun r147 w148 h => ?_) kN
        refine R.aload_n 1512 dL_law_1511 rfl rfl ?_
        refine R.aload_n 1513 dL_law_1512 rfl rfl ?_
        refine R.iload 1515 dL_law_1513 rfl rfl ?_
        refine R.iconst 1516 dL_law_1515 rfl ?_
        refine R.iadd 1517 dL_law_1516 rfl ?_
        obtain ⟨hb, h⟩ := h
        refine R.scald 1518 dL_law_1517 rfl hb ?_
        refine Rch.callv (sd_X3_buried _ _ _ h) dL_law_1518 (lw_V q1880 q1881 q1882 q146 q1883) dk_X3_buried rcM (by decide) (Nat.le_of_ble_eq_true rfl) rfl rfl (Nat.le_of_ble_eq_true rfl) (kI 1521 rfl fun r149 w150 h => ?_) kN
        refine R.icmp_eq 1689 1524 dL_law_1521 (by decide) rfl (fun hc => ?_) (fun hc => ?_)
        · replace h := h.1 hc
          refine R.inc4 1692 dL_law_1689 rfl (Nat.le_of_ble_eq_true rfl) rfl ?_
          refine R.goto 23 dL_law_1692 (by decide) ?_
          exact Rch.dropk (hR23 _ _ h) ⟨rfl, ⟨rfl, ⟨rfl, ⟨rfl, ⟨rfl, trivial⟩⟩⟩⟩⟩
        · replace h := h.2 hc
          refine R.iconst 1525 dL_law_1524 rfl ?_
          exact R.retZ dL_law_1525 rfl zok0 h
      replace h := h.2
      by_cases c39 : ((gxs γ l4.toNatClampNeg) &&& (iz 63)).toInt = 39
      · replace h := h.1 c39
        refine R.tswIn 39 1526 dL_law_40 c39 (by decide) (by decide) rfl (by decide) ?_
        refine R.aload_n 1527 dL_law_1526 rfl rfl ?_
        refine R.aload_n 1528 dL_law_1527 rfl rfl ?_
        refine R.iload 1530 dL_law_1528 rfl rfl ?_
        refine R.iconst 1531 dL_law_1530 rfl ?_
        refine R.iadd 1532 dL_law_1531 rfl ?_
        obtain ⟨hb, h⟩ := h
        refine R.scald 1533 dL_law_1532 rfl hb ?_
        refine Rch.callv (sd_X1_goes _ _ _ h) dL_law_1533 (lw_V q1164 q1165 q1166 q142 q1167) dk_X1_goes rcX (by decide) (Nat.le_of_ble_eq_true rfl) rfl rfl (Nat.le_of_ble_eq_true rfl) (kI 1536 rfl fun r151 w152 h => ?_) kN
        refine R.aload_n 1537 dL_law_1536 rfl rfl ?_
        refine R.aload_n 1538 dL_law_1537 rfl rfl ?_
        refine R.iload 1540 dL_law_1538 rfl rfl ?_
        refine R.iconst 1541 dL_law_1540 rfl ?_
        refine R.iadd 1542 dL_law_1541 rfl ?_
        obtain ⟨hb, h⟩ := h
        refine R.scald 1543 dL_law_1542 rfl hb ?_
        refine Rch.callv (sd_X3_goes _ _ _ h) dL_law_1543 (lw_V q1884 q1885 q1886 q146 q1887) dk_X3_goes rcM (by decide) (Nat.le_of_ble_eq_true rfl) rfl rfl (Nat.le_of_ble_eq_true rfl) (kI 1546 rfl fun r153 w154 h => ?_) kN
        refine R.icmp_eq 1689 1549 dL_law_1546 (by decide) rfl (fun hc => ?_) (fun hc => ?_)
        · replace h := h.1 hc
          refine R.inc4 1692 dL_law_1689 rfl (Nat.le_of_ble_eq_true rfl) rfl ?_
          refine R.goto 23 dL_law_1692 (by decide) ?_
          exact Rch.dropk (hR23 _ _ h) ⟨rfl, ⟨rfl, ⟨rfl, ⟨rfl, ⟨rfl, trivial⟩⟩⟩⟩⟩
        · replace h := h.2 hc
          refine R.iconst 1550 dL_law_1549 rfl ?_
          exact R.retZ dL_law_1550 rfl zok0 h
      replace h := h.2
      by_cases c40 : ((gxs γ l4.toNatClampNeg) &&& (iz 63)).toInt = 40
      · replace h := h.1 c40
        refine R.tswIn 40 1551 dL_law_40 c40 (by decide) (by decide) rfl (by decide) ?_
        refine R.aload_n 1552 dL_law_1551 rfl rfl ?_
        refine R.aload_n 1553 dL_law_1552 rfl rfl ?_
        refine R.iload 1555 dL_law_1553 rfl rfl ?_
        refine R.iconst 1556 dL_law_1555 rfl ?_
        refine R.iadd 1557 dL_law_1556 rfl ?_
        obtain ⟨hb, h⟩ := h
        refine R.scald 1558 dL_law_1557 rfl hb ?_
        refine Rch.callv (sd_X1_soonest _ _ _ h) dL_law_1558 (lw_V q1168 q1169 q1170 q142 q1171) dk_X1_soonest rcX (by decide) (Nat.le_of_ble_eq_true rfl) rfl rfl (Nat.le_of_ble_eq_true rfl) (kI 1561 rfl fun r155 w156 h => ?_) kN
        refine R.aload_n 1562 dL_law_1561 rfl rfl ?_
        refine R.aload_n 1563 dL_law_1562 rfl rfl ?_
        refine R.iload 1565 dL_law_1563 rfl rfl ?_
        refine R.iconst 1566 dL_law_1565 rfl ?_
        refine R.iadd 1567 dL_law_1566 rfl ?_
        obtain ⟨hb, h⟩ := h
        refine R.scald 1568 dL_law_1567 rfl hb ?_
        refine Rch.callv (sd_X3_soonest _ _ _ h) dL_law_1568 (lw_V q1888 q1889 q1890 q146 q1891) dk_X3_soonest rcM (by decide) (Nat.le_of_ble_eq_true rfl) rfl rfl (Nat.le_of_ble_eq_true rfl) (kI 1571 rfl fun r157 w158 h => ?_) kN
        refine R.icmp_eq 1689 1574 dL_law_1571 (by decide) rfl (fun hc => ?_) (fun hc => ?_)
        · replace h := h.1 hc
          refine R.inc4 1692 dL_law_1689 rfl (Nat.le_of_ble_eq_true rfl) rfl ?_
          refine R.goto 23 dL_law_1692 (by decide) ?_
          exact Rch.dropk (hR23 _ _ h) ⟨rfl, ⟨rfl, ⟨rfl, ⟨rfl, ⟨rfl, trivial⟩⟩⟩⟩⟩
        · replace h := h.2 hc
          refine R.iconst 1575 dL_law_1574 rfl ?_
          exact R.retZ dL_law_1575 rfl zok0 h
      replace h := h.2
      by_cases c41 : ((gxs γ l4.toNatClampNeg) &&& (iz 63)).toInt = 41
      · replace h := h.1 c41
        refine R.tswIn 41 1576 dL_law_40 c41 (by decide) (by decide) rfl (by decide) ?_
        refine R.aload_n 1577 dL_law_1576 rfl rfl ?_
        refine R.aload_n 1578 dL_law_1577 rfl rfl ?_
        refine R.iload 1580 dL_law_1578 rfl rfl ?_
        refine R.iconst 1581 dL_law_1580 rfl ?_
        refine R.iadd 1582 dL_law_1581 rfl ?_
        obtain ⟨hb, h⟩ := h
        refine R.scald 1583 dL_law_1582 rfl hb ?_
        refine Rch.callv (sd_X1_monthly _ _ _ h) dL_law_1583 (lw_V q1172 q1173 q1174 q142 q1175) dk_X1_monthly rcX (by decide) (Nat.le_of_ble_eq_true rfl) rfl rfl (Nat.le_of_ble_eq_true rfl) (kI 1586 rfl fun r159 w160 h => ?_) kN
        refine R.aload_n 1587 dL_law_1586 rfl rfl ?_
        refine R.aload_n 1588 dL_law_1587 rfl rfl ?_
        refine R.iload 1590 dL_law_1588 rfl rfl ?_
        refine R.iconst 1591 dL_law_1590 rfl ?_
        refine R.iadd 1592 dL_law_1591 rfl ?_
        obtain ⟨hb, h⟩ := h
        refine R.scald 1593 dL_law_1592 rfl hb ?_
        refine Rch.callv (sd_X3_monthly _ _ _ h) dL_law_1593 (lw_V q1892 q1893 q1894 q146 q1895) dk_X3_monthly rcM (by decide) (Nat.le_of_ble_eq_true rfl) rfl rfl (Nat.le_of_ble_eq_true rfl) (kI 1596 rfl fun r161 w162 h => ?_) kN
        refine R.icmp_eq 1689 1599 dL_law_1596 (by decide) rfl (fun hc => ?_) (fun hc => ?_)
        · replace h := h.1 hc
          refine R.inc4 1692 dL_law_1689 rfl (Nat.le_of_ble_eq_true rfl) rfl ?_
          refine R.goto 23 dL_law_1692 (by decide) ?_
          exact Rch.dropk (hR23 _ _ h) ⟨rfl, ⟨rfl, ⟨rfl, ⟨rfl, ⟨rfl, trivial⟩⟩⟩⟩⟩
        · replace h := h.2 hc
          refine R.iconst 1600 dL_law_1599 rfl ?_
          exact R.retZ dL_law_1600 rfl zok0 h
      replace h := h.2
      by_cases c42 : ((gxs γ l4.toNatClampNeg) &&& (iz 63)).toInt = 42
      · replace h := h.1 c42
        refine R.tswIn 42 1601 dL_law_40 c42 (by decide) (by decide) rfl (by decide) ?_
        refine R.aload_n 1602 dL_law_1601 rfl rfl ?_
        refine R.aload_n 1603 dL_law_1602 rfl rfl ?_
        refine R.iload 1605 dL_law_1603 rfl rfl ?_
        refine R.iconst 1606 dL_law_1605 rfl ?_
        refine R.iadd 1607 dL_law_1606 rfl ?_
        obtain ⟨hb, h⟩ := h
        refine R.scald 1608 dL_law_1607 rfl hb ?_
        refine R.aload_n 1609 dL_law_1608 rfl rfl ?_
        refine R.iload 1611 dL_law_1609 rfl rfl ?_
        refine R.iconst 1612 dL_law_1611 rfl ?_
        refine R.iadd 1613 dL_law_1612 rfl ?_
        obtain ⟨hb, h⟩ := h
        refine R.scald 1614 dL_law_1613 rfl hb ?_
        refine Rch.callv (sd_X1_make _ _ _ _ h) dL_law_1614 (lw_V q1176 q1177 q1178 q142 q1179) dk_X1_make rcX (by decide) (Nat.le_of_ble_eq_true rfl) rfl rfl (Nat.le_of_ble_eq_true rfl) (kI 1617 rfl fun r163 w164 h => ?_) kN
        refine R.aload_n 1618 dL_law_1617 rfl rfl ?_
        refine R.aload_n 1619 dL_law_1618 rfl rfl ?_
        refine R.iload 1621 dL_law_1619 rfl rfl ?_
        refine R.iconst 1622 dL_law_1621 rfl ?_
        refine R.iadd 1623 dL_law_1622 rfl ?_
        obtain ⟨hb, h⟩ := h
        refine R.scald 1624 dL_law_1623 rfl hb ?_
        refine R.aload_n 1625 dL_law_1624 rfl rfl ?_
        refine R.iload 1627 dL_law_1625 rfl rfl ?_
        refine R.iconst 1628 dL_law_1627 rfl ?_
        refine R.iadd 1629 dL_law_1628 rfl ?_
        obtain ⟨hb, h⟩ := h
        refine R.scald 1630 dL_law_1629 rfl hb ?_
        refine Rch.callv (sd_X3_make _ _ _ _ h) dL_law_1630 (lw_V q1897 q1898 q1899 q146 q1900) dk_X3_make rcM (by decide) (Nat.le_of_ble_eq_true rfl) rfl rfl (Nat.le_of_ble_eq_true rfl) (kI 1633 rfl fun r165 w166 h => ?_) kN
        refine R.icmp_eq 1689 1636 dL_law_1633 (by decide) rfl (fun hc => ?_) (fun hc => ?_)
        · replace h := h.1 hc
          refine R.inc4 1692 dL_law_1689 rfl (Nat.le_of_ble_eq_true rfl) rfl ?_
          refine R.goto 23 dL_law_1692 (by decide) ?_
          exact Rch.dropk (hR23 _ _ h) ⟨rfl, ⟨rfl, ⟨rfl, ⟨rfl, ⟨rfl, trivial⟩⟩⟩⟩⟩
        · replace h := h.2 hc
          refine R.iconst 1637 dL_law_1636 rfl ?_
          exact R.retZ dL_law_1637 rfl zok0 h
      replace h := h.2
      by_cases c43 : ((gxs γ l4.toNatClampNeg) &&& (iz 63)).toInt = 43
      · replace h := h.1 c43
        refine R.tswIn 43 1638 dL_law_40 c43 (by decide) (by decide) rfl (by decide) ?_
        refine R.aload_n 1639 dL_law_1638 rfl rfl ?_
        refine Rch.callv (sd_X1_image _ _ h) dL_law_1639 (lw_V q1180 q1181 q1182 q142 q1183) dk_X1_image rcX (by decide) (Nat.le_of_ble_eq_true rfl) rfl rfl (Nat.le_of_ble_eq_true rfl) (kI 1642 rfl fun r167 w168 h => ?_) kN
        refine R.aload_n 1643 dL_law_1642 rfl rfl ?_
        refine Rch.callv (sd_X3_image _ _ h) dL_law_1643 (lw_V q1902 q1903 q1904 q146 q1905) dk_X3_image rcM (by decide) (Nat.le_of_ble_eq_true rfl) rfl rfl (Nat.le_of_ble_eq_true rfl) (kI 1646 rfl fun r169 w170 h => ?_) kN
        refine R.icmp_eq 1689 1649 dL_law_1646 (by decide) rfl (fun hc => ?_) (fun hc => ?_)
        · replace h := h.1 hc
          refine R.inc4 1692 dL_law_1689 rfl (Nat.le_of_ble_eq_true rfl) rfl ?_
          refine R.goto 23 dL_law_1692 (by decide) ?_
          exact Rch.dropk (hR23 _ _ h) ⟨rfl, ⟨rfl, ⟨rfl, ⟨rfl, ⟨rfl, trivial⟩⟩⟩⟩⟩
        · replace h := h.2 hc
          refine R.iconst 1650 dL_law_1649 rfl ?_
          exact R.retZ dL_law_1650 rfl zok0 h
      replace h := h.2
      by_cases c44 : ((gxs γ l4.toNatClampNeg) &&& (iz 63)).toInt = 44
      · replace h := h.1 c44
        refine R.tswIn 44 1651 dL_law_40 c44 (by decide) (by decide) rfl (by decide) ?_
        refine R.aload_n 1652 dL_law_1651 rfl rfl ?_
        refine Rch.callv (sd_X1_back _ _ h) dL_law_1652 (lw_V q1184 q1185 q1186 q142 q1187) dk_X1_back rcX (by decide) (Nat.le_of_ble_eq_true rfl) rfl rfl (Nat.le_of_ble_eq_true rfl) (kI 1655 rfl fun r171 w172 h => ?_) kN
        refine R.aload_n 1656 dL_law_1655 rfl rfl ?_
        refine Rch.callv (sd_X3_back _ _ h) dL_law_1656 (lw_V q1906 q1907 q1908 q146 q1909) dk_X3_back rcM (by decide) (Nat.le_of_ble_eq_true rfl) rfl rfl (Nat.le_of_ble_eq_true rfl) (kI 1659 rfl fun r173 w174 h => ?_) kN
        refine R.icmp_eq 1689 1662 dL_law_1659 (by decide) rfl (fun hc => ?_) (fun hc => ?_)
        · replace h := h.1 hc
          refine R.inc4 1692 dL_law_1689 rfl (Nat.le_of_ble_eq_true rfl) rfl ?_
          refine R.goto 23 dL_law_1692 (by decide) ?_
          exact Rch.dropk (hR23 _ _ h) ⟨rfl, ⟨rfl, ⟨rfl, ⟨rfl, ⟨rfl, trivial⟩⟩⟩⟩⟩
        · replace h := h.2 hc
          refine R.iconst 1663 dL_law_1662 rfl ?_
          exact R.retZ dL_law_1663 rfl zok0 h
      replace h := h.2
      by_cases c45 : ((gxs γ l4.toNatClampNeg) &&& (iz 63)).toInt = 45
      · replace h := h.1 c45
        refine R.tswIn 45 1664 dL_law_40 c45 (by decide) (by decide) rfl (by decide) ?_
        refine R.aload_n 1665 dL_law_1664 rfl rfl ?_
        refine R.aload_n 1666 dL_law_1665 rfl rfl ?_
        refine R.iload 1668 dL_law_1666 rfl rfl ?_
        refine R.iconst 1669 dL_law_1668 rfl ?_
        refine R.iadd 1670 dL_law_1669 rfl ?_
        obtain ⟨hb, h⟩ := h
        refine R.scald 1671 dL_law_1670 rfl hb ?_
        refine Rch.callv (sd_X1_count _ _ _ h) dL_law_1671 (lw_V q1188 q1189 q1190 q142 q1191) dk_X1_count rcX (by decide) (Nat.le_of_ble_eq_true rfl) rfl rfl (Nat.le_of_ble_eq_true rfl) (kI 1674 rfl fun r175 w176 h => ?_) kN
        refine R.aload_n 1675 dL_law_1674 rfl rfl ?_
        refine R.aload_n 1676 dL_law_1675 rfl rfl ?_
        refine R.iload 1678 dL_law_1676 rfl rfl ?_
        refine R.iconst 1679 dL_law_1678 rfl ?_
        refine R.iadd 1680 dL_law_1679 rfl ?_
        obtain ⟨hb, h⟩ := h
        refine R.scald 1681 dL_law_1680 rfl hb ?_
        refine Rch.callv (sd_X3_count _ _ _ h) dL_law_1681 (lw_V q1910 q1911 q1912 q146 q1913) dk_X3_count rcM (by decide) (Nat.le_of_ble_eq_true rfl) rfl rfl (Nat.le_of_ble_eq_true rfl) (kI 1684 rfl fun r177 w178 h => ?_) kN
        refine R.icmp_eq 1689 1687 dL_law_1684 (by decide) rfl (fun hc => ?_) (fun hc => ?_)
        · replace h := h.1 hc
          refine R.inc4 1692 dL_law_1689 rfl (Nat.le_of_ble_eq_true rfl) rfl ?_
          refine R.goto 23 dL_law_1692 (by decide) ?_
          exact Rch.dropk (hR23 _ _ h) ⟨rfl, ⟨rfl, ⟨rfl, ⟨rfl, ⟨rfl, trivial⟩⟩⟩⟩⟩
        · replace h := h.2 hc
          refine R.iconst 1688 dL_law_1687 rfl ?_
          exact R.retZ dL_law_1688 rfl zok0 h
      replace h := h.2
      have cd : ((gxs γ l4.toNatClampNeg) &&& (iz 63)).toInt < 0 ∨ 45 < ((gxs γ l4.toNatClampNeg) &&& (iz 63)).toInt := by omega
      replace h := h cd
      refine R.tswOut 1689 dL_law_40 cd (by decide) ?_
      refine R.inc4 1692 dL_law_1689 rfl (Nat.le_of_ble_eq_true rfl) rfl ?_
      refine R.goto 23 dL_law_1692 (by decide) ?_
      exact Rch.dropk (hR23 _ _ h) ⟨rfl, ⟨rfl, ⟨rfl, ⟨rfl, ⟨rfl, trivial⟩⟩⟩⟩⟩
set_option maxRecDepth 100000 in
set_option maxHeartbeats 4000000 in
theorem sd_law {γ : GG} (w : Wd) (Q : Int32 → Wd → Prop) : wp_law (gsn γ) (gxs γ) w Q → Rch γ 100 k_law 20 [some (.ref 5), some (.ref 1), some (.ref 2), some (.ref 3), none, none, none] [] w (qI Q) xN := by
  intro h
  unfold wp_law at h
  refine R.iconst 21 dL_law_20 rfl ?_
  refine R.ist4 23 dL_law_21 rfl (Nat.le_of_ble_eq_true rfl) rfl ?_
  obtain ⟨n1, h⟩ := h
  exact Rch.dropk (sl_law_23 Q n1 _ _ h) ⟨rfl, ⟨rfl, ⟨rfl, ⟨rfl, ⟨rfl, trivial⟩⟩⟩⟩⟩
