/-! printed by tools/gen.py -/
set_option maxRecDepth 100000
theorem al_560 : Int32.ofNat 560 = (560 : Int32) := rfl
theorem yg_X0_85_wCS0 {G : Gx} {K : Kx} {cc : ByteArray} {rm : Room} {nL : Nat} {ret : Option FieldType} {k n pc : Nat} {A : Nat → Nat} {L : Lx} {S : St} {lv : List (Nat × Value)} {st : List Value} (C : KOk G K RX0 cc rm nL ret) (hdg : decode cc pc = .ok (.getfield 85, 3)) (kk : Y G K k n (wCS L G A S) (pc + 3) lv (.ref (A 30) :: st)) : Y G K k n (wCS L G A S) pc lv (.ref (A 0) :: st) := y_get C (ref := "OverHill") (Cn := RX0) (T := TX0) (N := 34) in_X0 (wCS_0 ..) rfl 32 (by decide) q441 (fun _ _ h => h) (fs_C0_f32 A S) hdg kk
theorem yg_X0_57_wCS0 {G : Gx} {K : Kx} {cc : ByteArray} {rm : Room} {nL : Nat} {ret : Option FieldType} {k n pc : Nat} {A : Nat → Nat} {L : Lx} {S : St} {lv : List (Nat × Value)} {st : List Value} (C : KOk G K RX0 cc rm nL ret) (hdg : decode cc pc = .ok (.getfield 57, 3)) (kk : Y G K k n (wCS L G A S) (pc + 3) lv (.ref (A 7) :: st)) : Y G K k n (wCS L G A S) pc lv (.ref (A 0) :: st) := y_get C (ref := "OverHill") (Cn := RX0) (T := TX0) (N := 34) in_X0 (wCS_0 ..) rfl 10 (by decide) q419 (fun _ _ h => h) (fs_C0_f10 A S) hdg kk
theorem yg_X0_70_wCS0 {G : Gx} {K : Kx} {cc : ByteArray} {rm : Room} {nL : Nat} {ret : Option FieldType} {k n pc : Nat} {A : Nat → Nat} {L : Lx} {S : St} {lv : List (Nat × Value)} {st : List Value} (C : KOk G K RX0 cc rm nL ret) (hdg : decode cc pc = .ok (.getfield 70, 3)) (kk : Y G K k n (wCS L G A S) (pc + 3) lv (.ref (A 11) :: st)) : Y G K k n (wCS L G A S) pc lv (.ref (A 0) :: st) := y_get C (ref := "OverHill") (Cn := RX0) (T := TX0) (N := 34) in_X0 (wCS_0 ..) rfl 21 (by decide) q430 (fun _ _ h => h) (fs_C0_f21 A S) hdg kk
theorem yp_X0_291_wCS0 {G : Gx} {K : Kx} {cc : ByteArray} {rm : Room} {nL : Nat} {ret : Option FieldType} {k n pc : Nat} {B : Nat → Prop} {A : Nat → Nat} {L : Lx} {S : St} {lv : List (Nat × Value)} {st : List Value} {v : Int32} (C : KOk G K RX0 cc rm nL ret) (M : KM G K B) (hdg : decode cc pc = .ok (.putfield 291, 3)) (kk : Y G K k n (wCS L G A (sI S 0 13 v)) (pc + 3) lv st) : Y G K k n (wCS L G A S) pc lv (.int v :: .ref (A 0) :: st) := y_put C M (ref := "OverHill") (Cn := RX0) (T := TX0) (N := 34) in_X0 (wCS_0 ..) rfl 13 (by decide) tyX0 tyX0_ok (by decide +kernel) q422 (fun _ _ h => h) rfl (ty := .int) (by decide +kernel) rfl rfl (Nat.le_of_ble_eq_true rfl) (wCS_p0_13 ..) hdg kk
theorem yp_X0_294_wCS0 {G : Gx} {K : Kx} {cc : ByteArray} {rm : Room} {nL : Nat} {ret : Option FieldType} {k n pc : Nat} {B : Nat → Prop} {A : Nat → Nat} {L : Lx} {S : St} {lv : List (Nat × Value)} {st : List Value} {v : Int32} (C : KOk G K RX0 cc rm nL ret) (M : KM G K B) (hdg : decode cc pc = .ok (.putfield 294, 3)) (kk : Y G K k n (wCS L G A (sI S 0 14 v)) (pc + 3) lv st) : Y G K k n (wCS L G A S) pc lv (.int v :: .ref (A 0) :: st) := y_put C M (ref := "OverHill") (Cn := RX0) (T := TX0) (N := 34) in_X0 (wCS_0 ..) rfl 14 (by decide) tyX0 tyX0_ok (by decide +kernel) q423 (fun _ _ h => h) rfl (ty := .int) (by decide +kernel) rfl rfl (Nat.le_of_ble_eq_true rfl) (wCS_p0_14 ..) hdg kk
theorem yp_X0_297_wCS0 {G : Gx} {K : Kx} {cc : ByteArray} {rm : Room} {nL : Nat} {ret : Option FieldType} {k n pc : Nat} {B : Nat → Prop} {A : Nat → Nat} {L : Lx} {S : St} {lv : List (Nat × Value)} {st : List Value} {v : Int64} (C : KOk G K RX0 cc rm nL ret) (M : KM G K B) (hdg : decode cc pc = .ok (.putfield 297, 3)) (kk : Y G K k n (wCS L G A (sL S 0 15 v)) (pc + 3) lv st) : Y G K k n (wCS L G A S) pc lv (.long v :: .ref (A 0) :: st) := y_put C M (ref := "OverHill") (Cn := RX0) (T := TX0) (N := 34) in_X0 (wCS_0 ..) rfl 15 (by decide) tyX0 tyX0_ok (by decide +kernel) q424 (fun _ _ h => h) rfl (ty := .long) (by decide +kernel) rfl rfl (Nat.le_of_ble_eq_true rfl) (wCS_p0_15 ..) hdg kk
theorem yg_X0_61_wCS0 {G : Gx} {K : Kx} {cc : ByteArray} {rm : Room} {nL : Nat} {ret : Option FieldType} {k n pc : Nat} {A : Nat → Nat} {L : Lx} {S : St} {lv : List (Nat × Value)} {st : List Value} (C : KOk G K RX0 cc rm nL ret) (hdg : decode cc pc = .ok (.getfield 61, 3)) (kk : Y G K k n (wCS L G A S) (pc + 3) lv (.ref (A 8) :: st)) : Y G K k n (wCS L G A S) pc lv (.ref (A 0) :: st) := y_get C (ref := "OverHill") (Cn := RX0) (T := TX0) (N := 34) in_X0 (wCS_0 ..) rfl 16 (by decide) q425 (fun _ _ h => h) (fs_C0_f16 A S) hdg kk
theorem yp_X0_301_wCS7 {G : Gx} {K : Kx} {cc : ByteArray} {rm : Room} {nL : Nat} {ret : Option FieldType} {k n pc : Nat} {B : Nat → Prop} {A : Nat → Nat} {L : Lx} {S : St} {lv : List (Nat × Value)} {st : List Value} {v : Int32} (C : KOk G K RX0 cc rm nL ret) (M : KM G K B) (hdg : decode cc pc = .ok (.putfield 301, 3)) (kk : Y G K k n (wCS L G A (sI S 7 2 v)) (pc + 3) lv st) : Y G K k n (wCS L G A S) pc lv (.int v :: .ref (A 7) :: st) := y_putN C M (ref := "OverHill$Thought") (Cn := RX6) (T := TX6) (N := 4) in_X6 (wCS_7 ..) rfl 2 (by decide) tyX6 tyX6_ok (by decide +kernel) q355 (fun _ _ h => h) rfl (ty := .int) (by decide +kernel) rfl rfl (Nat.le_of_ble_eq_true rfl) (wCS_p7_2 ..) hdg kk
theorem yg_X0_291_wCS0 {G : Gx} {K : Kx} {cc : ByteArray} {rm : Room} {nL : Nat} {ret : Option FieldType} {k n pc : Nat} {A : Nat → Nat} {L : Lx} {S : St} {lv : List (Nat × Value)} {st : List Value} (C : KOk G K RX0 cc rm nL ret) (hdg : decode cc pc = .ok (.getfield 291, 3)) (kk : Y G K k n (wCS L G A S) (pc + 3) lv (.int (S.1 0 13) :: st)) : Y G K k n (wCS L G A S) pc lv (.ref (A 0) :: st) := y_get C (ref := "OverHill") (Cn := RX0) (T := TX0) (N := 34) in_X0 (wCS_0 ..) rfl 13 (by decide) q422 (fun _ _ h => h) (fs_C0_f13 A S) hdg kk
theorem yg_X0_294_wCS0 {G : Gx} {K : Kx} {cc : ByteArray} {rm : Room} {nL : Nat} {ret : Option FieldType} {k n pc : Nat} {A : Nat → Nat} {L : Lx} {S : St} {lv : List (Nat × Value)} {st : List Value} (C : KOk G K RX0 cc rm nL ret) (hdg : decode cc pc = .ok (.getfield 294, 3)) (kk : Y G K k n (wCS L G A S) (pc + 3) lv (.int (S.1 0 14) :: st)) : Y G K k n (wCS L G A S) pc lv (.ref (A 0) :: st) := y_get C (ref := "OverHill") (Cn := RX0) (T := TX0) (N := 34) in_X0 (wCS_0 ..) rfl 14 (by decide) q423 (fun _ _ h => h) (fs_C0_f14 A S) hdg kk
theorem yg_X0_297_wCS0 {G : Gx} {K : Kx} {cc : ByteArray} {rm : Room} {nL : Nat} {ret : Option FieldType} {k n pc : Nat} {A : Nat → Nat} {L : Lx} {S : St} {lv : List (Nat × Value)} {st : List Value} (C : KOk G K RX0 cc rm nL ret) (hdg : decode cc pc = .ok (.getfield 297, 3)) (kk : Y G K k n (wCS L G A S) (pc + 3) lv (.long (S.2 0 15) :: st)) : Y G K k n (wCS L G A S) pc lv (.ref (A 0) :: st) := y_get C (ref := "OverHill") (Cn := RX0) (T := TX0) (N := 34) in_X0 (wCS_0 ..) rfl 15 (by decide) q424 (fun _ _ h => h) (fs_C0_f15 A S) hdg kk
theorem yp_X0_315_wCS0 {G : Gx} {K : Kx} {cc : ByteArray} {rm : Room} {nL : Nat} {ret : Option FieldType} {k n pc : Nat} {B : Nat → Prop} {A : Nat → Nat} {L : Lx} {S : St} {lv : List (Nat × Value)} {st : List Value} {v : Int32} (C : KOk G K RX0 cc rm nL ret) (M : KM G K B) (hdg : decode cc pc = .ok (.putfield 315, 3)) (kk : Y G K k n (wCS L G A (sI S 0 17 v)) (pc + 3) lv st) : Y G K k n (wCS L G A S) pc lv (.int v :: .ref (A 0) :: st) := y_put C M (ref := "OverHill") (Cn := RX0) (T := TX0) (N := 34) in_X0 (wCS_0 ..) rfl 17 (by decide) tyX0 tyX0_ok (by decide +kernel) q426 (fun _ _ h => h) rfl (ty := .int) (by decide +kernel) rfl rfl (Nat.le_of_ble_eq_true rfl) (wCS_p0_17 ..) hdg kk
theorem yg_X0_315_wCS0 {G : Gx} {K : Kx} {cc : ByteArray} {rm : Room} {nL : Nat} {ret : Option FieldType} {k n pc : Nat} {A : Nat → Nat} {L : Lx} {S : St} {lv : List (Nat × Value)} {st : List Value} (C : KOk G K RX0 cc rm nL ret) (hdg : decode cc pc = .ok (.getfield 315, 3)) (kk : Y G K k n (wCS L G A S) (pc + 3) lv (.int (S.1 0 17) :: st)) : Y G K k n (wCS L G A S) pc lv (.ref (A 0) :: st) := y_get C (ref := "OverHill") (Cn := RX0) (T := TX0) (N := 34) in_X0 (wCS_0 ..) rfl 17 (by decide) q426 (fun _ _ h => h) (fs_C0_f17 A S) hdg kk
theorem cs_X0_270 : CsV RX0 270 yX7_at cX7_at 2 (some .long) 1 := ⟨lw_V q1128 q1129 q1130 q146 q1131, by decide +kernel⟩
theorem co_X0_288_X6 : CsO RX0 288 RX6 "OverHill$Plain" ⟨"OverHill$Thought", "goes", "(I)V"⟩ yX2_goes cX2_goes 5 none 1 := ⟨lw_O q1141 q1142 q874 q1144 q874 q141 q880, ⟨_, _, _, q880⟩, by decide +kernel⟩
theorem cs_X0_277 : CsV RX0 277 yX7_size cX7_size 1 (some .int) 0 := ⟨lw_V q1116 q1117 q1118 q146 q1119, by decide +kernel⟩
theorem cs_X0_280 : CsV RX0 280 yX0_number cX0_number 3 (some .long) 2 := ⟨lw_V q1124 q1126 qs44 q139 q1127, by decide +kernel⟩
theorem cs_X0_347 : CsV RX0 347 yX0_fitsLength cX0_fitsLength 5 (some .boolean) 2 := ⟨lw_V q1220 q1222 qs55 q139 q1223, by decide +kernel⟩
theorem cs_X0_303 : CsV RX0 303 yX0_isHeard cX0_isHeard 4 (some .boolean) 2 := ⟨lw_V q1137 q1139 qs46 q139 q1140, by decide +kernel⟩
theorem cs_X0_309 : CsV RX0 309 yX0_findsStumbles cX0_findsStumbles 5 none 2 := ⟨lw_V q1133 q1135 qs45 q139 q1136, by decide +kernel⟩
theorem cs_X0_318 : CsV RX0 318 yX0_worstOf cX0_worstOf 4 (some .int) 1 := ⟨lw_V q1161 q1163 qs48 q139 q1164, by decide +kernel⟩
/-! OverHill number(II)J: o_number -/
abbrev rm_o_number : Room := { frames := 2, cells := 0, slots := 0, locals := 61 }
def wp_o_number (L : Lx) (S : St) (x1 : Int32) (x2 : Int32) (Q : Int64 → Prop) : Prop :=
  (vp_in x1 4 ∧ (¬ L.1 (x1).toNatClampNeg = 0 ∧ (vp_in x2 (L.2.1 (x1).toNatClampNeg) ∧ Q (lval L (x1).toNatClampNeg (x2).toNatClampNeg))))
set_option maxRecDepth 100000 in
theorem met_o_number (G : Gx) (A : Nat → Nat) (L : Lx) (S : St) (x1 : Int32) (x2 : Int32) (Q : Int64 → Prop) (h : wp_o_number L S x1 x2 Q) : Rl G yX0_number (ws_ yX0_number cX0_number 3 (some .long)) rm_o_number (wCS L G A S) [.ref (A 0), .int (x1), .int (x2)] Q := by
  refine ent_Rl (by decide +kernel) rfl (Nat.le_of_ble_eq_true rfl) [(0, .ref (A 0)), (1, .int (x1)), (2, .int (x2))] rfl (fun K C N => ?_)
  refine y_aload_n C dX0_number_0 0 rfl rfl ?_
  refine yg_X0_85_wCS0 C dX0_number_1 ?_
  refine y_iload_n C dX0_number_4 1 rfl rfl ?_
  refine y_aaldS C (h).1 dX0_number_5 ?_
  refine y_iload_n C dX0_number_6 2 rfl rfl ?_
  refine y_slotAt C (h).1 ((h).2).1 ((h).2).2.1 cs_X0_270 ⟨rfl, rfl, Nat.le_of_ble_eq_true rfl, Nat.le_of_ble_eq_true rfl⟩ (Nat.le_of_ble_eq_true rfl) dX0_number_7 ⟨Nat.zero_le _, Nat.zero_le _⟩ ?_
  exact y_lretR C N rfl (((h).2).2.2) dX0_number_10
/-! OverHill isHeard(II)Z: o_isHeard -/
abbrev rm_o_isHeard : Room := { frames := 5, cells := 0, slots := 0, locals := 132 }
def wp_o_isHeard_b12 (L : Lx) (Q : Int32 → St → Prop) (x1 : Int32) (x2 : Int32) : Nat → St → Int32 → Prop
  | 0 => fun _ _ => False
  | n + 1 => fun S x3 => (vp_in x1 4 ∧ (¬ L.1 (x1).toNatClampNeg = 0 ∧ (((nI (L.2.1 (x1).toNatClampNeg)) ≤ x3 → Q 1 S) ∧ (¬ (nI (L.2.1 (x1).toNatClampNeg)) ≤ x3 → wp_o_number L S (x1) (x3) (fun r_9 => wp_o_heardIn S (x2) ((r_9).toInt32) (fun r_12 => wp_o_number L S (x1) ((x3 + 1)) (fun r_15 => (((lg_cmp (r_12).toInt64 r_15) = 0 → wp_o_isHeard_b12 L Q x1 x2 n S ((x3 + 2))) ∧ (¬ (lg_cmp (r_12).toInt64 r_15) = 0 → Q 0 S)))))))))
def wp_o_isHeard (L : Lx) (S : St) (x1 : Int32) (x2 : Int32) (Q : Int32 → St → Prop) : Prop :=
  wp_p_goes_7 S ((1 - x2)) (fun S_3 => (∃ z, wp_o_isHeard_b12 L Q (x1) (x2) z S_3 (0)))
set_option maxRecDepth 100000 in
theorem wk_o_isHeard_b12 {G : Gx} {K : Kx} {L : Lx} {A : Nat → Nat} (C : KOk G K RX0 cX0_isHeard rm_o_isHeard 4 (some .boolean)) {B : Nat → Prop} (M : KM G K B) {Q : Int32 → St → Prop} (N : KQi G K B (wCS L G A) Q) (x1 : Int32) (x2 : Int32) : ∀ (n : Nat), ∀ (S : St) (x3 : Int32), wp_o_isHeard_b12 L Q x1 x2 n S x3 → Y G K 0 0 (wCS L G A S) 12 [(0, .ref (A 0)), (1, .int (x1)), (2, .int (x2)), (3, .int (x3))] [] := by
  intro n
  induction n with
  | zero => intro S x3 h; exact h.elim
  | succ n ih =>
    intro S x3 h
    dsimp only [wp_o_isHeard_b12] at h
    refine y_iload_n C dX0_isHeard_12 3 rfl rfl ?_
    refine y_aload_n C dX0_isHeard_13 0 rfl rfl ?_
    refine yg_X0_85_wCS0 C dX0_isHeard_14 ?_
    refine y_iload_n C dX0_isHeard_17 1 rfl rfl ?_
    refine y_aaldS C (h).1 dX0_isHeard_18 ?_
    refine y_slotSize C (h).1 ((h).2).1 cs_X0_277 ⟨rfl, rfl, Nat.le_of_ble_eq_true rfl, Nat.le_of_ble_eq_true rfl⟩ (Nat.le_of_ble_eq_true rfl) dX0_isHeard_19 ⟨Nat.zero_le _, Nat.zero_le _⟩ ?_
    refine y_icmp_ge C (tgt := 58) dX0_isHeard_22 rfl (fun c_6 => ?_) (fun c_6 => ?_)
    · have h_7 := (((h).2).2).1 c_6
      refine y_iconst C dX0_isHeard_58 ic_1 ?_
      exact y_zretM C M N rfl rfl (S := S) rfl (h_7) dX0_isHeard_59
    · have h_8 := (((h).2).2).2 c_6
      refine y_aload_n C dX0_isHeard_25 0 rfl rfl ?_
      refine y_iload_n C dX0_isHeard_26 2 rfl rfl ?_
      refine y_aload_n C dX0_isHeard_27 0 rfl rfl ?_
      refine y_iload_n C dX0_isHeard_28 1 rfl rfl ?_
      refine y_iload_n C dX0_isHeard_29 3 rfl rfl ?_
      refine y_callRlV (As := [.int (x1), .int (x3)]) (rest := [.int (x2), .ref (A 0)]) C cs_X0_280 (met_o_number G A L S (x1) (x3) _ (h_8)) (fun _ h => h) (wCS_0 ..) rfl rfl ⟨rfl, rfl, Nat.le_of_ble_eq_true rfl, Nat.le_of_ble_eq_true rfl⟩ rfl rfl (Nat.le_of_ble_eq_true rfl) dX0_isHeard_30 ⟨Nat.zero_le _, Nat.zero_le _⟩ (fun r_9 h_10 => ?_)
      refine y_l2i C dX0_isHeard_33 ?_
      refine y_callRiV (As := [.int (x2), .int ((r_9).toInt32)]) (rest := []) C cs_X0_194 (met_o_heardIn G A S (x2) ((r_9).toInt32) _ (h_10)) (fun _ h => wCS_C h) (wCS_0 ..) rfl rfl ⟨rfl, rfl, Nat.le_of_ble_eq_true rfl, Nat.le_of_ble_eq_true rfl⟩ rfl rfl (Nat.le_of_ble_eq_true rfl) dX0_isHeard_34 ⟨Nat.zero_le _, Nat.zero_le _⟩ (fun r_12 h_13 => ?_)
      refine y_i2l C dX0_isHeard_37 rfl ?_
      refine y_aload_n C dX0_isHeard_38 0 rfl rfl ?_
      refine y_iload_n C dX0_isHeard_39 1 rfl rfl ?_
      refine y_iload_n C dX0_isHeard_40 3 rfl rfl ?_
      refine y_iconst C dX0_isHeard_41 ic_1 ?_
      refine y_iadd C dX0_isHeard_42 ?_
      refine y_callRlV (As := [.int (x1), .int ((x3 + 1))]) (rest := [.long ((r_12).toInt64)]) C cs_X0_280 (met_o_number G A L S (x1) ((x3 + 1)) _ (h_13)) (fun _ h => h) (wCS_0 ..) rfl rfl ⟨rfl, rfl, Nat.le_of_ble_eq_true rfl, Nat.le_of_ble_eq_true rfl⟩ rfl rfl (Nat.le_of_ble_eq_true rfl) dX0_isHeard_43 ⟨Nat.zero_le _, Nat.zero_le _⟩ (fun r_15 h_16 => ?_)
      refine y_lcmp C dX0_isHeard_46 ?_
      refine y_if_eq C (tgt := 52) dX0_isHeard_47 rfl (fun c_18 => ?_) (fun c_18 => ?_)
      · have h_19 := (h_16).1 c_18
        refine y_iinc C dX0_isHeard_52 3 rfl (Nat.le_of_ble_eq_true rfl) (ii_2 _) [(3, .int ((x3 + 2))), (0, .ref (A 0)), (1, .int (x1)), (2, .int (x2))] rfl ?_
        refine y_goto C (tgt := 12) dX0_isHeard_55 rfl ?_
        exact Y.sub (ih S ((x3 + 2)) (h_19)) [1, 2, 3, 0] rfl
      · have h_20 := (h_16).2 c_18
        refine y_iconst C dX0_isHeard_50 ic_0 ?_
        exact y_zretM C M N rfl rfl (S := S) rfl (h_20) dX0_isHeard_51
set_option maxRecDepth 100000 in
theorem met_o_isHeard (G : Gx) (A : Nat → Nat) (L : Lx) (S : St) (x1 : Int32) (x2 : Int32) (Q : Int32 → St → Prop) (h : wp_o_isHeard L S x1 x2 Q) : Mi G yX0_isHeard (ws_ yX0_isHeard cX0_isHeard 4 (some .boolean)) rm_o_isHeard (wCS L G A S) [.ref (A 0), .int (x1), .int (x2)] (wCS L G A) Q := by
  refine ent_Mi (by decide +kernel) rfl (Nat.le_of_ble_eq_true rfl) [(0, .ref (A 0)), (1, .int (x1)), (2, .int (x2))] rfl (fun K B C M N => ?_)
  refine y_aload_n C dX0_isHeard_0 0 rfl rfl ?_
  refine yg_X0_57_wCS0 C dX0_isHeard_1 ?_
  refine y_iconst C dX0_isHeard_4 ic_1 ?_
  refine y_iload_n C dX0_isHeard_5 2 rfl rfl ?_
  refine y_isub C dX0_isHeard_6 ?_
  refine y_callMvOP (k' := 0) (n' := 0) (As := [.int ((1 - x2))]) (rest := []) C M (w2 := slW G A L) co_X0_288_X6 (met_p_goes_7 G A S ((1 - x2)) _ (h)) rfl (wC_7 ..) rfl rfl ⟨rfl, rfl, Nat.le_of_ble_eq_true rfl, Nat.le_of_ble_eq_true rfl⟩ rfl rfl (Nat.le_of_ble_eq_true rfl) dX0_isHeard_7 ⟨Nat.zero_le _, Nat.zero_le _⟩ rfl rfl (fun S_3 h_2 => ?_)
  refine y_iconst C dX0_isHeard_10 ic_0 ?_
  refine y_istore_n C dX0_isHeard_11 rfl (Nat.le_of_ble_eq_true rfl) [(3, .int (0)), (0, .ref (A 0)), (1, .int (x1)), (2, .int (x2))] rfl ?_
  obtain ⟨n_4, h_5⟩ := h_2
  exact Y.sub (wk_o_isHeard_b12 C M N (x1) (x2) n_4 S_3 (0) h_5) [1, 2, 3, 0] rfl
/-! OverHill fitsLength(II)Z: o_fitsLength -/
abbrev rm_o_fitsLength : Room := { frames := 3, cells := 0, slots := 0, locals := 83 }
def wp_o_fitsLength_b81 (L : Lx) (Q : Int32 → St → Prop) (x1 : Int32) (x2 : Int32) (K23 : St → Int32 → Prop) (S : St) (x3 : Int32) (x4 : Int32) : Prop :=
  (¬ x2 = 0 ∧ (vp_in (irm x3 x2) 12 ∧ K23 (sI S 11 ((irm x3 x2)).toNatClampNeg x4) ((x3 + 1))))
def wp_o_fitsLength_b23 (L : Lx) (Q : Int32 → St → Prop) (x1 : Int32) (x2 : Int32) : Nat → St → Int32 → Prop
  | 0 => fun _ _ => False
  | n + 1 => fun S x3 => (vp_in x1 4 ∧ (¬ L.1 (x1).toNatClampNeg = 0 ∧ (((nI (L.2.1 (x1).toNatClampNeg)) ≤ x3 → Q 1 S) ∧ (¬ (nI (L.2.1 (x1).toNatClampNeg)) ≤ x3 → wp_o_number L S (x1) (x3) (fun r_11 => ((¬ (r_11).toInt32 = (-1) → (¬ x2 = 0 ∧ (vp_in (irm x3 x2) 12 ∧ (((S.1 11 ((irm x3 x2)).toNatClampNeg) = (-1) → wp_o_fitsLength_b81 L Q (x1) (x2) (fun Sy y3 => wp_o_fitsLength_b23 L Q x1 x2 n Sy y3) S (x3) ((r_11).toInt32)) ∧ (¬ (S.1 11 ((irm x3 x2)).toNatClampNeg) = (-1) → (¬ x2 = 0 ∧ (vp_in (irm x3 x2) 12 ∧ (((S.1 11 ((irm x3 x2)).toNatClampNeg) = (r_11).toInt32 → wp_o_fitsLength_b81 L Q (x1) (x2) (fun Sy y3 => wp_o_fitsLength_b23 L Q x1 x2 n Sy y3) S (x3) ((r_11).toInt32)) ∧ (¬ (S.1 11 ((irm x3 x2)).toNatClampNeg) = (r_11).toInt32 → Q 0 S))))))))) ∧ ((r_11).toInt32 = (-1) → wp_o_fitsLength_b23 L Q x1 x2 n S ((x3 + 1)))))))))
def wp_o_fitsLength_b2 (L : Lx) (Q : Int32 → St → Prop) (x1 : Int32) (x2 : Int32) : Nat → St → Int32 → Prop
  | 0 => fun _ _ => False
  | n + 1 => fun S x3 => ((12 ≤ x3 → (∃ z, wp_o_fitsLength_b23 L Q (x1) (x2) z S (0))) ∧ (¬ 12 ≤ x3 → (vp_in x3 12 ∧ wp_o_fitsLength_b2 L Q x1 x2 n (sI S 11 (x3).toNatClampNeg (-1)) ((x3 + 1)))))
def wp_o_fitsLength (L : Lx) (S : St) (x1 : Int32) (x2 : Int32) (Q : Int32 → St → Prop) : Prop :=
  (∃ z, wp_o_fitsLength_b2 L Q (x1) (x2) z S (0))
set_option maxRecDepth 100000 in
theorem wk_o_fitsLength_b81 {G : Gx} {K : Kx} {L : Lx} {A : Nat → Nat} (C : KOk G K RX0 cX0_fitsLength rm_o_fitsLength 5 (some .boolean)) {B : Nat → Prop} (M : KM G K B) {Q : Int32 → St → Prop} (N : KQi G K B (wCS L G A) Q) (x1 : Int32) (x2 : Int32) (K23 : St → Int32 → Prop) (hK23 : ∀ (S : St) (x3 : Int32), K23 S x3 → Y G K 0 0 (wCS L G A S) 23 [(0, .ref (A 0)), (1, .int (x1)), (2, .int (x2)), (3, .int (x3))] []) (S : St) (x3 : Int32) (x4 : Int32) (h : wp_o_fitsLength_b81 L Q x1 x2 K23 S x3 x4) : Y G K 0 0 (wCS L G A S) 81 [(0, .ref (A 0)), (1, .int (x1)), (2, .int (x2)), (3, .int (x3)), (4, .int (x4))] [] := by
  refine y_aload_n C dX0_fitsLength_81 0 rfl rfl ?_
  refine yg_X0_70_wCS0 C dX0_fitsLength_82 ?_
  refine y_iload_n C dX0_fitsLength_85 3 rfl rfl ?_
  refine y_iload_n C dX0_fitsLength_86 2 rfl rfl ?_
  refine y_irem C dX0_fitsLength_87 (h).1 ?_
  refine y_iload C dX0_fitsLength_88 4 rfl ?_
  refine y_iast C M (wCS_11 ..) rfl (wCS_s11 ..) ((h).2).1 dX0_fitsLength_90 ?_
  refine y_iinc C dX0_fitsLength_91 3 rfl (Nat.le_of_ble_eq_true rfl) (ii_1 _) [(3, .int ((x3 + 1))), (0, .ref (A 0)), (1, .int (x1)), (2, .int (x2)), (4, .int (x4))] rfl ?_
  refine y_goto C (tgt := 23) dX0_fitsLength_94 rfl ?_
  exact Y.sub (hK23 (sI S 11 ((irm x3 x2)).toNatClampNeg x4) ((x3 + 1)) (((h).2).2)) [1, 2, 3, 0] rfl
set_option maxRecDepth 100000 in
theorem wk_o_fitsLength_b23 {G : Gx} {K : Kx} {L : Lx} {A : Nat → Nat} (C : KOk G K RX0 cX0_fitsLength rm_o_fitsLength 5 (some .boolean)) {B : Nat → Prop} (M : KM G K B) {Q : Int32 → St → Prop} (N : KQi G K B (wCS L G A) Q) (x1 : Int32) (x2 : Int32) : ∀ (n : Nat), ∀ (S : St) (x3 : Int32), wp_o_fitsLength_b23 L Q x1 x2 n S x3 → Y G K 0 0 (wCS L G A S) 23 [(0, .ref (A 0)), (1, .int (x1)), (2, .int (x2)), (3, .int (x3))] [] := by
  intro n
  induction n with
  | zero => intro S x3 h; exact h.elim
  | succ n ih =>
    intro S x3 h
    dsimp only [wp_o_fitsLength_b23] at h
    refine y_iload_n C dX0_fitsLength_23 3 rfl rfl ?_
    refine y_aload_n C dX0_fitsLength_24 0 rfl rfl ?_
    refine yg_X0_85_wCS0 C dX0_fitsLength_25 ?_
    refine y_iload_n C dX0_fitsLength_28 1 rfl rfl ?_
    refine y_aaldS C (h).1 dX0_fitsLength_29 ?_
    refine y_slotSize C (h).1 ((h).2).1 cs_X0_277 ⟨rfl, rfl, Nat.le_of_ble_eq_true rfl, Nat.le_of_ble_eq_true rfl⟩ (Nat.le_of_ble_eq_true rfl) dX0_fitsLength_30 ⟨Nat.zero_le _, Nat.zero_le _⟩ ?_
    refine y_icmp_ge C (tgt := 97) dX0_fitsLength_33 rfl (fun c_8 => ?_) (fun c_8 => ?_)
    · have h_9 := (((h).2).2).1 c_8
      refine y_iconst C dX0_fitsLength_97 ic_1 ?_
      exact y_zretM C M N rfl rfl (S := S) rfl (h_9) dX0_fitsLength_98
    · have h_10 := (((h).2).2).2 c_8
      refine y_aload_n C dX0_fitsLength_36 0 rfl rfl ?_
      refine y_iload_n C dX0_fitsLength_37 1 rfl rfl ?_
      refine y_iload_n C dX0_fitsLength_38 3 rfl rfl ?_
      refine y_callRlV (As := [.int (x1), .int (x3)]) (rest := []) C cs_X0_280 (met_o_number G A L S (x1) (x3) _ (h_10)) (fun _ h => h) (wCS_0 ..) rfl rfl ⟨rfl, rfl, Nat.le_of_ble_eq_true rfl, Nat.le_of_ble_eq_true rfl⟩ rfl rfl (Nat.le_of_ble_eq_true rfl) dX0_fitsLength_39 ⟨Nat.zero_le _, Nat.zero_le _⟩ (fun r_11 h_12 => ?_)
      refine y_l2i C dX0_fitsLength_42 ?_
      refine y_istore C dX0_fitsLength_43 (Nat.le_of_ble_eq_true rfl) [(4, .int ((r_11).toInt32)), (0, .ref (A 0)), (1, .int (x1)), (2, .int (x2)), (3, .int (x3))] rfl ?_
      refine y_iload C dX0_fitsLength_45 0 rfl ?_
      refine y_iconst C dX0_fitsLength_47 icm1 ?_
      refine y_icmp_ne C (tgt := 54) dX0_fitsLength_48 rfl (fun c_14 => ?_) (fun c_14 => ?_)
      · have h_15 := (h_12).1 c_14
        refine y_aload_n C dX0_fitsLength_54 1 rfl rfl ?_
        refine yg_X0_70_wCS0 C dX0_fitsLength_55 ?_
        refine y_iload_n C dX0_fitsLength_58 4 rfl rfl ?_
        refine y_iload_n C dX0_fitsLength_59 3 rfl rfl ?_
        refine y_irem C dX0_fitsLength_60 (h_15).1 ?_
        refine y_iald C (wCS_11 ..) rfl ((h_15).2).1 dX0_fitsLength_61 ?_
        refine y_iconst C dX0_fitsLength_62 icm1 ?_
        refine y_icmp_eq C (tgt := 81) dX0_fitsLength_63 rfl (fun c_16 => ?_) (fun c_16 => ?_)
        · have h_17 := (((h_15).2).2).1 c_16
          exact Y.sub (wk_o_fitsLength_b81 C M N (x1) (x2) (fun Sy y3 => wp_o_fitsLength_b23 L Q x1 x2 n Sy y3) ih S (x3) ((r_11).toInt32) (h_17)) [1, 2, 3, 4, 0] rfl
        · have h_18 := (((h_15).2).2).2 c_16
          refine y_aload_n C dX0_fitsLength_66 1 rfl rfl ?_
          refine yg_X0_70_wCS0 C dX0_fitsLength_67 ?_
          refine y_iload_n C dX0_fitsLength_70 4 rfl rfl ?_
          refine y_iload_n C dX0_fitsLength_71 3 rfl rfl ?_
          refine y_irem C dX0_fitsLength_72 (h_18).1 ?_
          refine y_iald C (wCS_11 ..) rfl ((h_18).2).1 dX0_fitsLength_73 ?_
          refine y_iload C dX0_fitsLength_74 0 rfl ?_
          refine y_icmp_eq C (tgt := 81) dX0_fitsLength_76 rfl (fun c_19 => ?_) (fun c_19 => ?_)
          · have h_20 := (((h_18).2).2).1 c_19
            exact Y.sub (wk_o_fitsLength_b81 C M N (x1) (x2) (fun Sy y3 => wp_o_fitsLength_b23 L Q x1 x2 n Sy y3) ih S (x3) ((r_11).toInt32) (h_20)) [1, 2, 3, 4, 0] rfl
          · have h_21 := (((h_18).2).2).2 c_19
            refine y_iconst C dX0_fitsLength_79 ic_0 ?_
            exact y_zretM C M N rfl rfl (S := S) rfl (h_21) dX0_fitsLength_80
      · have h_22 := (h_12).2 c_14
        refine y_goto C (tgt := 91) dX0_fitsLength_51 rfl ?_
        refine y_iinc C dX0_fitsLength_91 4 rfl (Nat.le_of_ble_eq_true rfl) (ii_1 _) [(3, .int ((x3 + 1))), (4, .int ((r_11).toInt32)), (0, .ref (A 0)), (1, .int (x1)), (2, .int (x2))] rfl ?_
        refine y_goto C (tgt := 23) dX0_fitsLength_94 rfl ?_
        exact Y.sub (ih S ((x3 + 1)) (h_22)) [2, 3, 4, 0] rfl
set_option maxRecDepth 100000 in
theorem wk_o_fitsLength_b2 {G : Gx} {K : Kx} {L : Lx} {A : Nat → Nat} (C : KOk G K RX0 cX0_fitsLength rm_o_fitsLength 5 (some .boolean)) {B : Nat → Prop} (M : KM G K B) {Q : Int32 → St → Prop} (N : KQi G K B (wCS L G A) Q) (x1 : Int32) (x2 : Int32) : ∀ (n : Nat), ∀ (S : St) (x3 : Int32), wp_o_fitsLength_b2 L Q x1 x2 n S x3 → Y G K 0 0 (wCS L G A S) 2 [(0, .ref (A 0)), (1, .int (x1)), (2, .int (x2)), (3, .int (x3))] [] := by
  intro n
  induction n with
  | zero => intro S x3 h; exact h.elim
  | succ n ih =>
    intro S x3 h
    dsimp only [wp_o_fitsLength_b2] at h
    refine y_iload_n C dX0_fitsLength_2 3 rfl rfl ?_
    refine y_bipush C dX0_fitsLength_3 bp_12 ?_
    refine y_icmp_ge C (tgt := 21) dX0_fitsLength_5 rfl (fun c_3 => ?_) (fun c_3 => ?_)
    · have h_4 := (h).1 c_3
      refine y_iconst C dX0_fitsLength_21 ic_0 ?_
      refine y_istore_n C dX0_fitsLength_22 rfl (Nat.le_of_ble_eq_true rfl) [(3, .int (0)), (0, .ref (A 0)), (1, .int (x1)), (2, .int (x2))] rfl ?_
      obtain ⟨n_5, h_6⟩ := h_4
      exact Y.sub (wk_o_fitsLength_b23 C M N (x1) (x2) n_5 S (0) h_6) [1, 2, 3, 0] rfl
    · have h_7 := (h).2 c_3
      refine y_aload_n C dX0_fitsLength_8 0 rfl rfl ?_
      refine yg_X0_70_wCS0 C dX0_fitsLength_9 ?_
      refine y_iload_n C dX0_fitsLength_12 3 rfl rfl ?_
      refine y_iconst C dX0_fitsLength_13 icm1 ?_
      refine y_iast C M (wCS_11 ..) rfl (wCS_s11 ..) (h_7).1 dX0_fitsLength_14 ?_
      refine y_iinc C dX0_fitsLength_15 3 rfl (Nat.le_of_ble_eq_true rfl) (ii_1 _) [(3, .int ((x3 + 1))), (0, .ref (A 0)), (1, .int (x1)), (2, .int (x2))] rfl ?_
      refine y_goto C (tgt := 2) dX0_fitsLength_18 rfl ?_
      exact Y.sub (ih (sI S 11 (x3).toNatClampNeg (-1)) ((x3 + 1)) ((h_7).2)) [1, 2, 3, 0] rfl
set_option maxRecDepth 100000 in
theorem met_o_fitsLength (G : Gx) (A : Nat → Nat) (L : Lx) (S : St) (x1 : Int32) (x2 : Int32) (Q : Int32 → St → Prop) (h : wp_o_fitsLength L S x1 x2 Q) : Mi G yX0_fitsLength (ws_ yX0_fitsLength cX0_fitsLength 5 (some .boolean)) rm_o_fitsLength (wCS L G A S) [.ref (A 0), .int (x1), .int (x2)] (wCS L G A) Q := by
  refine ent_Mi (by decide +kernel) rfl (Nat.le_of_ble_eq_true rfl) [(0, .ref (A 0)), (1, .int (x1)), (2, .int (x2))] rfl (fun K B C M N => ?_)
  refine y_iconst C dX0_fitsLength_0 ic_0 ?_
  refine y_istore_n C dX0_fitsLength_1 rfl (Nat.le_of_ble_eq_true rfl) [(3, .int (0)), (0, .ref (A 0)), (1, .int (x1)), (2, .int (x2))] rfl ?_
  obtain ⟨n_1, h_2⟩ := h
  exact Y.sub (wk_o_fitsLength_b2 C M N (x1) (x2) n_1 S (0) h_2) [1, 2, 3, 0] rfl
/-! OverHill halfOf(I)I: o_halfOf -/
abbrev rm_o_halfOf : Room := { frames := 4, cells := 0, slots := 0, locals := 107 }
def wp_o_halfOf_b2 (L : Lx) (Q : Int32 → St → Prop) (x1 : Int32) : Nat → St → Int32 → Prop
  | 0 => fun _ _ => False
  | n + 1 => fun S x2 => ((12 < x2 → Q (-1) S) ∧ (¬ 12 < x2 → wp_o_fitsLength L S (x1) (x2) (fun r_6 S_8 => ((r_6 = 0 → wp_o_halfOf_b2 L Q x1 n S_8 ((x2 + 1))) ∧ (¬ r_6 = 0 → Q x2 S_8)))))
def wp_o_halfOf (L : Lx) (S : St) (x1 : Int32) (Q : Int32 → St → Prop) : Prop :=
  (∃ z, wp_o_halfOf_b2 L Q (x1) z S (1))
set_option maxRecDepth 100000 in
theorem wk_o_halfOf_b2 {G : Gx} {K : Kx} {L : Lx} {A : Nat → Nat} (C : KOk G K RX0 cX0_halfOf rm_o_halfOf 3 (some .int)) {B : Nat → Prop} (M : KM G K B) {Q : Int32 → St → Prop} (N : KQi G K B (wCS L G A) Q) (x1 : Int32) : ∀ (n : Nat), ∀ (S : St) (x2 : Int32), wp_o_halfOf_b2 L Q x1 n S x2 → Y G K 0 0 (wCS L G A S) 2 [(0, .ref (A 0)), (1, .int (x1)), (2, .int (x2))] [] := by
  intro n
  induction n with
  | zero => intro S x2 h; exact h.elim
  | succ n ih =>
    intro S x2 h
    dsimp only [wp_o_halfOf_b2] at h
    refine y_iload_n C dX0_halfOf_2 2 rfl rfl ?_
    refine y_bipush C dX0_halfOf_3 bp_12 ?_
    refine y_icmp_gt C (tgt := 25) dX0_halfOf_5 rfl (fun c_3 => ?_) (fun c_3 => ?_)
    · have h_4 := (h).1 c_3
      refine y_iconst C dX0_halfOf_25 icm1 ?_
      exact y_iretM C M N rfl (S := S) rfl (h_4) dX0_halfOf_26
    · have h_5 := (h).2 c_3
      refine y_aload_n C dX0_halfOf_8 0 rfl rfl ?_
      refine y_iload_n C dX0_halfOf_9 1 rfl rfl ?_
      refine y_iload_n C dX0_halfOf_10 2 rfl rfl ?_
      refine y_callMiV (k' := 0) (n' := 0) (As := [.int (x1), .int (x2)]) (rest := []) C M cs_X0_347 (met_o_fitsLength G A L S (x1) (x2) _ (h_5)) (wCS_0 ..) rfl rfl ⟨rfl, rfl, Nat.le_of_ble_eq_true rfl, Nat.le_of_ble_eq_true rfl⟩ rfl rfl (Nat.le_of_ble_eq_true rfl) dX0_halfOf_11 ⟨Nat.zero_le _, Nat.zero_le _⟩ rfl rfl (fun r_6 S_8 h_7 => ?_)
      refine y_if_eq C (tgt := 19) dX0_halfOf_14 rfl (fun c_9 => ?_) (fun c_9 => ?_)
      · have h_10 := (h_7).1 c_9
        refine y_iinc C dX0_halfOf_19 2 rfl (Nat.le_of_ble_eq_true rfl) (ii_1 _) [(2, .int ((x2 + 1))), (0, .ref (A 0)), (1, .int (x1))] rfl ?_
        refine y_goto C (tgt := 2) dX0_halfOf_22 rfl ?_
        exact Y.sub (ih S_8 ((x2 + 1)) (h_10)) [1, 2, 0] rfl
      · have h_11 := (h_7).2 c_9
        refine y_iload_n C dX0_halfOf_17 2 rfl rfl ?_
        exact y_iretM C M N rfl (S := S_8) rfl (h_11) dX0_halfOf_18
set_option maxRecDepth 100000 in
theorem met_o_halfOf (G : Gx) (A : Nat → Nat) (L : Lx) (S : St) (x1 : Int32) (Q : Int32 → St → Prop) (h : wp_o_halfOf L S x1 Q) : Mi G yX0_halfOf (ws_ yX0_halfOf cX0_halfOf 3 (some .int)) rm_o_halfOf (wCS L G A S) [.ref (A 0), .int (x1)] (wCS L G A) Q := by
  refine ent_Mi (by decide +kernel) rfl (Nat.le_of_ble_eq_true rfl) [(0, .ref (A 0)), (1, .int (x1))] rfl (fun K B C M N => ?_)
  refine y_iconst C dX0_halfOf_0 ic_1 ?_
  refine y_istore_n C dX0_halfOf_1 rfl (Nat.le_of_ble_eq_true rfl) [(2, .int (1)), (0, .ref (A 0)), (1, .int (x1))] rfl ?_
  obtain ⟨n_1, h_2⟩ := h
  exact Y.sub (wk_o_halfOf_b2 C M N (x1) n_1 S (1) h_2) [1, 2, 0] rfl
/-! OverHill findsStumbles(II)V: o_findsStumbles -/
abbrev rm_o_findsStumbles : Room := { frames := 6, cells := 0, slots := 0, locals := 155 }
def wp_o_findsStumbles_b126 (L : Lx) (Q : St → Prop) (x1 : Int32) (x2 : Int32) (K41 : St → Int32 → Prop) : Nat → St → Int32 → Int32 → Prop
  | 0 => fun _ _ _ => False
  | n + 1 => fun S x3 x4 => ((80 ≤ x4 → K41 S ((x3 + 1))) ∧ (¬ 80 ≤ x4 → wp_o_heardIn S (x2) (x4) (fun r_30 => (vp_in (((7 * x4) + r_30) + 1) 560 ∧ (vp_in (((7 * x4) + r_30) + 1) 560 ∧ wp_o_findsStumbles_b126 L Q x1 x2 K41 n (sI S 8 ((((7 * x4) + r_30) + 1)).toNatClampNeg ((S.1 8 ((((7 * x4) + r_30) + 1)).toNatClampNeg) + 1)) (x3) ((x4 + 1)))))))
def wp_o_findsStumbles_b95 (L : Lx) (Q : St → Prop) (x1 : Int32) (x2 : Int32) (K41 : St → Int32 → Prop) (S : St) (x3 : Int32) (s0 : Int32) : Prop :=
  ((¬ x3 = 0 → (∃ z, wp_o_findsStumbles_b126 L Q (x1) (x2) K41 z (sL (sI S 0 14 s0) 0 15 (((sI S 0 14 s0).2 0 15) ||| (1 <<< ((((x3 - 1) / 60)).toInt64 &&& 63)))) (x3) (0))) ∧ (x3 = 0 → (∃ z, wp_o_findsStumbles_b126 L Q (x1) (x2) K41 z (sL (sI S 0 14 s0) 0 15 (((sI S 0 14 s0).2 0 15) ||| 0)) (x3) (0))))
def wp_o_findsStumbles_b41 (L : Lx) (Q : St → Prop) (x1 : Int32) (x2 : Int32) : Nat → St → Int32 → Prop
  | 0 => fun _ _ => False
  | n + 1 => fun S x3 => ((3601 ≤ x3 → Q S) ∧ (¬ 3601 ≤ x3 → wp_o_isHeard L (sI S 7 2 x3) (x1) (x2) (fun r_11 S_13 => ((¬ r_11 = 0 → ((¬ ((sI S_13 0 13 ((S_13.1 0 13) + 1)).1 0 14) = (-1) → wp_o_findsStumbles_b95 L Q (x1) (x2) (fun Sy y3 => wp_o_findsStumbles_b41 L Q x1 x2 n Sy y3) (sI S_13 0 13 ((S_13.1 0 13) + 1)) (x3) (((sI S_13 0 13 ((S_13.1 0 13) + 1)).1 0 14))) ∧ (((sI S_13 0 13 ((S_13.1 0 13) + 1)).1 0 14) = (-1) → wp_o_findsStumbles_b95 L Q (x1) (x2) (fun Sy y3 => wp_o_findsStumbles_b41 L Q x1 x2 n Sy y3) (sI S_13 0 13 ((S_13.1 0 13) + 1)) (x3) (x3)))) ∧ (r_11 = 0 → wp_o_findsStumbles_b41 L Q x1 x2 n S_13 ((x3 + 1)))))))
def wp_o_findsStumbles_b17 (L : Lx) (Q : St → Prop) (x1 : Int32) (x2 : Int32) : Nat → St → Int32 → Prop
  | 0 => fun _ _ => False
  | n + 1 => fun S x3 => ((560 ≤ x3 → (∃ z, wp_o_findsStumbles_b41 L Q (x1) (x2) z S (0))) ∧ (¬ 560 ≤ x3 → (vp_in x3 560 ∧ wp_o_findsStumbles_b17 L Q x1 x2 n (sI S 8 (x3).toNatClampNeg 0) ((x3 + 1)))))
def wp_o_findsStumbles (L : Lx) (S : St) (x1 : Int32) (x2 : Int32) (Q : St → Prop) : Prop :=
  (∃ z, wp_o_findsStumbles_b17 L Q (x1) (x2) z (sL (sI (sI S 0 13 0) 0 14 (-1)) 0 15 0) (0))
set_option maxRecDepth 100000 in
theorem wk_o_findsStumbles_b126 {G : Gx} {K : Kx} {L : Lx} {A : Nat → Nat} (C : KOk G K RX0 cX0_findsStumbles rm_o_findsStumbles 5 none) {B : Nat → Prop} (M : KM G K B) {Q : St → Prop} (N : KQv G K B (wCS L G A) Q) (x1 : Int32) (x2 : Int32) (K41 : St → Int32 → Prop) (hK41 : ∀ (S : St) (x3 : Int32), K41 S x3 → Y G K 0 0 (wCS L G A S) 41 [(0, .ref (A 0)), (1, .int (x1)), (2, .int (x2)), (3, .int (x3))] []) : ∀ (n : Nat), ∀ (S : St) (x3 : Int32) (x4 : Int32), wp_o_findsStumbles_b126 L Q x1 x2 K41 n S x3 x4 → Y G K 0 0 (wCS L G A S) 126 [(0, .ref (A 0)), (1, .int (x1)), (2, .int (x2)), (3, .int (x3)), (4, .int (x4))] [] := by
  intro n
  induction n with
  | zero => intro S x3 x4 h; exact h.elim
  | succ n ih =>
    intro S x3 x4 h
    dsimp only [wp_o_findsStumbles_b126] at h
    refine y_iload C dX0_findsStumbles_126 4 rfl ?_
    refine y_bipush C dX0_findsStumbles_128 bp_80 ?_
    refine y_icmp_ge C (tgt := 163) dX0_findsStumbles_130 rfl (fun c_27 => ?_) (fun c_27 => ?_)
    · have h_28 := (h).1 c_27
      refine y_iinc C dX0_findsStumbles_163 3 rfl (Nat.le_of_ble_eq_true rfl) (ii_1 _) [(3, .int ((x3 + 1))), (0, .ref (A 0)), (1, .int (x1)), (2, .int (x2)), (4, .int (x4))] rfl ?_
      refine y_goto C (tgt := 41) dX0_findsStumbles_166 rfl ?_
      exact Y.sub (hK41 S ((x3 + 1)) (h_28)) [1, 2, 3, 0] rfl
    · have h_29 := (h).2 c_27
      refine y_aload_n C dX0_findsStumbles_133 0 rfl rfl ?_
      refine yg_X0_61_wCS0 C dX0_findsStumbles_134 ?_
      refine y_bipush C dX0_findsStumbles_137 bp_7 ?_
      refine y_iload C dX0_findsStumbles_139 4 rfl ?_
      refine y_imul C dX0_findsStumbles_141 ?_
      refine y_aload_n C dX0_findsStumbles_142 0 rfl rfl ?_
      refine y_iload_n C dX0_findsStumbles_143 2 rfl rfl ?_
      refine y_iload C dX0_findsStumbles_144 4 rfl ?_
      refine y_callRiV (As := [.int (x2), .int (x4)]) (rest := [.int ((7 * x4)), .ref (A 8)]) C cs_X0_194 (met_o_heardIn G A S (x2) (x4) _ (h_29)) (fun _ h => wCS_C h) (wCS_0 ..) rfl rfl ⟨rfl, rfl, Nat.le_of_ble_eq_true rfl, Nat.le_of_ble_eq_true rfl⟩ rfl rfl (Nat.le_of_ble_eq_true rfl) dX0_findsStumbles_146 ⟨Nat.zero_le _, Nat.zero_le _⟩ (fun r_30 h_31 => ?_)
      refine y_iadd C dX0_findsStumbles_149 ?_
      refine y_iconst C dX0_findsStumbles_150 ic_1 ?_
      refine y_iadd C dX0_findsStumbles_151 ?_
      refine y_dup2 C dX0_findsStumbles_152 rfl rfl ?_
      refine y_iald C (wCS_8 ..) rfl (h_31).1 dX0_findsStumbles_153 ?_
      refine y_iconst C dX0_findsStumbles_154 ic_1 ?_
      refine y_iadd C dX0_findsStumbles_155 ?_
      refine y_iast C M (wCS_8 ..) rfl (wCS_s8 ..) ((h_31).2).1 dX0_findsStumbles_156 ?_
      refine y_iinc C dX0_findsStumbles_157 4 rfl (Nat.le_of_ble_eq_true rfl) (ii_1 _) [(4, .int ((x4 + 1))), (0, .ref (A 0)), (1, .int (x1)), (2, .int (x2)), (3, .int (x3))] rfl ?_
      refine y_goto C (tgt := 126) dX0_findsStumbles_160 rfl ?_
      exact Y.sub (ih (sI S 8 ((((7 * x4) + r_30) + 1)).toNatClampNeg ((S.1 8 ((((7 * x4) + r_30) + 1)).toNatClampNeg) + 1)) (x3) ((x4 + 1)) (((h_31).2).2)) [1, 2, 3, 4, 0] rfl
set_option maxRecDepth 100000 in
theorem wk_o_findsStumbles_b95 {G : Gx} {K : Kx} {L : Lx} {A : Nat → Nat} (C : KOk G K RX0 cX0_findsStumbles rm_o_findsStumbles 5 none) {B : Nat → Prop} (M : KM G K B) {Q : St → Prop} (N : KQv G K B (wCS L G A) Q) (x1 : Int32) (x2 : Int32) (K41 : St → Int32 → Prop) (hK41 : ∀ (S : St) (x3 : Int32), K41 S x3 → Y G K 0 0 (wCS L G A S) 41 [(0, .ref (A 0)), (1, .int (x1)), (2, .int (x2)), (3, .int (x3))] []) (S : St) (x3 : Int32) (s0 : Int32) (h : wp_o_findsStumbles_b95 L Q x1 x2 K41 S x3 s0) : Y G K 0 0 (wCS L G A S) 95 [(0, .ref (A 0)), (1, .int (x1)), (2, .int (x2)), (3, .int (x3))] [.int (s0), .ref (A 0)] := by
  refine yp_X0_294_wCS0 C M dX0_findsStumbles_95 ?_
  refine y_aload_n C dX0_findsStumbles_98 0 rfl rfl ?_
  refine y_dup C dX0_findsStumbles_99 rfl ?_
  refine yg_X0_297_wCS0 C dX0_findsStumbles_100 ?_
  refine y_iload_n C dX0_findsStumbles_103 3 rfl rfl ?_
  refine y_if_ne C (tgt := 111) dX0_findsStumbles_104 rfl (fun c_20 => ?_) (fun c_20 => ?_)
  · have h_21 := (h).1 c_20
    refine y_lconst C dX0_findsStumbles_111 lc_1 ?_
    refine y_iload_n C dX0_findsStumbles_112 3 rfl rfl ?_
    refine y_iconst C dX0_findsStumbles_113 ic_1 ?_
    refine y_isub C dX0_findsStumbles_114 ?_
    refine y_bipush C dX0_findsStumbles_115 bp_60 ?_
    refine y_idiv C dX0_findsStumbles_117 nz_I_60 ?_
    refine y_lshl C dX0_findsStumbles_118 ?_
    refine y_lor C dX0_findsStumbles_119 ?_
    refine yp_X0_297_wCS0 C M dX0_findsStumbles_120 ?_
    refine y_iconst C dX0_findsStumbles_123 ic_0 ?_
    refine y_istore C dX0_findsStumbles_124 (Nat.le_of_ble_eq_true rfl) [(4, .int (0)), (0, .ref (A 0)), (1, .int (x1)), (2, .int (x2)), (3, .int (x3))] rfl ?_
    obtain ⟨n_22, h_23⟩ := h_21
    exact Y.sub (wk_o_findsStumbles_b126 C M N (x1) (x2) K41 hK41 n_22 (sL (sI S 0 14 s0) 0 15 (((sI S 0 14 s0).2 0 15) ||| (1 <<< ((((x3 - 1) / 60)).toInt64 &&& 63)))) (x3) (0) h_23) [1, 2, 3, 4, 0] rfl
  · have h_24 := (h).2 c_20
    refine y_lconst C dX0_findsStumbles_107 lc_0 ?_
    refine y_goto C (tgt := 119) dX0_findsStumbles_108 rfl ?_
    refine y_lor C dX0_findsStumbles_119 ?_
    refine yp_X0_297_wCS0 C M dX0_findsStumbles_120 ?_
    refine y_iconst C dX0_findsStumbles_123 ic_0 ?_
    refine y_istore C dX0_findsStumbles_124 (Nat.le_of_ble_eq_true rfl) [(4, .int (0)), (0, .ref (A 0)), (1, .int (x1)), (2, .int (x2)), (3, .int (x3))] rfl ?_
    obtain ⟨n_25, h_26⟩ := h_24
    exact Y.sub (wk_o_findsStumbles_b126 C M N (x1) (x2) K41 hK41 n_25 (sL (sI S 0 14 s0) 0 15 (((sI S 0 14 s0).2 0 15) ||| 0)) (x3) (0) h_26) [1, 2, 3, 4, 0] rfl
set_option maxRecDepth 100000 in
theorem wk_o_findsStumbles_b41 {G : Gx} {K : Kx} {L : Lx} {A : Nat → Nat} (C : KOk G K RX0 cX0_findsStumbles rm_o_findsStumbles 5 none) {B : Nat → Prop} (M : KM G K B) {Q : St → Prop} (N : KQv G K B (wCS L G A) Q) (x1 : Int32) (x2 : Int32) : ∀ (n : Nat), ∀ (S : St) (x3 : Int32), wp_o_findsStumbles_b41 L Q x1 x2 n S x3 → Y G K 0 0 (wCS L G A S) 41 [(0, .ref (A 0)), (1, .int (x1)), (2, .int (x2)), (3, .int (x3))] [] := by
  intro n
  induction n with
  | zero => intro S x3 h; exact h.elim
  | succ n ih =>
    intro S x3 h
    dsimp only [wp_o_findsStumbles_b41] at h
    refine y_iload_n C dX0_findsStumbles_41 3 rfl rfl ?_
    refine y_sipush C dX0_findsStumbles_42 sp_3601 ?_
    refine y_icmp_ge C (tgt := 169) dX0_findsStumbles_45 rfl (fun c_8 => ?_) (fun c_8 => ?_)
    · have h_9 := (h).1 c_8
      exact y_vretM C M N rfl (S := S) rfl (h_9) dX0_findsStumbles_169
    · have h_10 := (h).2 c_8
      refine y_aload_n C dX0_findsStumbles_48 0 rfl rfl ?_
      refine yg_X0_57_wCS0 C dX0_findsStumbles_49 ?_
      refine y_iload_n C dX0_findsStumbles_52 3 rfl rfl ?_
      refine yp_X0_301_wCS7 C M dX0_findsStumbles_53 ?_
      refine y_aload_n C dX0_findsStumbles_56 0 rfl rfl ?_
      refine y_iload_n C dX0_findsStumbles_57 1 rfl rfl ?_
      refine y_iload_n C dX0_findsStumbles_58 2 rfl rfl ?_
      refine y_callMiV (k' := 0) (n' := 0) (As := [.int (x1), .int (x2)]) (rest := []) C M cs_X0_303 (met_o_isHeard G A L (sI S 7 2 x3) (x1) (x2) _ (h_10)) (wCS_0 ..) rfl rfl ⟨rfl, rfl, Nat.le_of_ble_eq_true rfl, Nat.le_of_ble_eq_true rfl⟩ rfl rfl (Nat.le_of_ble_eq_true rfl) dX0_findsStumbles_59 ⟨Nat.zero_le _, Nat.zero_le _⟩ rfl rfl (fun r_11 S_13 h_12 => ?_)
      refine y_if_ne C (tgt := 68) dX0_findsStumbles_62 rfl (fun c_14 => ?_) (fun c_14 => ?_)
      · have h_15 := (h_12).1 c_14
        refine y_aload_n C dX0_findsStumbles_68 0 rfl rfl ?_
        refine y_dup C dX0_findsStumbles_69 rfl ?_
        refine yg_X0_291_wCS0 C dX0_findsStumbles_70 ?_
        refine y_iconst C dX0_findsStumbles_73 ic_1 ?_
        refine y_iadd C dX0_findsStumbles_74 ?_
        refine yp_X0_291_wCS0 C M dX0_findsStumbles_75 ?_
        refine y_aload_n C dX0_findsStumbles_78 0 rfl rfl ?_
        refine y_aload_n C dX0_findsStumbles_79 0 rfl rfl ?_
        refine yg_X0_294_wCS0 C dX0_findsStumbles_80 ?_
        refine y_iconst C dX0_findsStumbles_83 icm1 ?_
        refine y_icmp_ne C (tgt := 91) dX0_findsStumbles_84 rfl (fun c_16 => ?_) (fun c_16 => ?_)
        · have h_17 := (h_15).1 c_16
          refine y_aload_n C dX0_findsStumbles_91 0 rfl rfl ?_
          refine yg_X0_294_wCS0 C dX0_findsStumbles_92 ?_
          exact Y.sub (wk_o_findsStumbles_b95 C M N (x1) (x2) (fun Sy y3 => wp_o_findsStumbles_b41 L Q x1 x2 n Sy y3) ih (sI S_13 0 13 ((S_13.1 0 13) + 1)) (x3) (((sI S_13 0 13 ((S_13.1 0 13) + 1)).1 0 14)) (h_17)) [0, 1, 2, 3] rfl
        · have h_18 := (h_15).2 c_16
          refine y_iload_n C dX0_findsStumbles_87 3 rfl rfl ?_
          refine y_goto C (tgt := 95) dX0_findsStumbles_88 rfl ?_
          exact Y.sub (wk_o_findsStumbles_b95 C M N (x1) (x2) (fun Sy y3 => wp_o_findsStumbles_b41 L Q x1 x2 n Sy y3) ih (sI S_13 0 13 ((S_13.1 0 13) + 1)) (x3) (x3) (h_18)) [0, 1, 2, 3] rfl
      · have h_19 := (h_12).2 c_14
        refine y_goto C (tgt := 163) dX0_findsStumbles_65 rfl ?_
        refine y_iinc C dX0_findsStumbles_163 3 rfl (Nat.le_of_ble_eq_true rfl) (ii_1 _) [(3, .int ((x3 + 1))), (0, .ref (A 0)), (1, .int (x1)), (2, .int (x2))] rfl ?_
        refine y_goto C (tgt := 41) dX0_findsStumbles_166 rfl ?_
        exact Y.sub (ih S_13 ((x3 + 1)) (h_19)) [1, 2, 3, 0] rfl
set_option maxRecDepth 100000 in
theorem wk_o_findsStumbles_b17 {G : Gx} {K : Kx} {L : Lx} {A : Nat → Nat} (C : KOk G K RX0 cX0_findsStumbles rm_o_findsStumbles 5 none) {B : Nat → Prop} (M : KM G K B) {Q : St → Prop} (N : KQv G K B (wCS L G A) Q) (x1 : Int32) (x2 : Int32) : ∀ (n : Nat), ∀ (S : St) (x3 : Int32), wp_o_findsStumbles_b17 L Q x1 x2 n S x3 → Y G K 0 0 (wCS L G A S) 17 [(0, .ref (A 0)), (1, .int (x1)), (2, .int (x2)), (3, .int (x3))] [] := by
  intro n
  induction n with
  | zero => intro S x3 h; exact h.elim
  | succ n ih =>
    intro S x3 h
    dsimp only [wp_o_findsStumbles_b17] at h
    refine y_iload_n C dX0_findsStumbles_17 3 rfl rfl ?_
    refine y_aload_n C dX0_findsStumbles_18 0 rfl rfl ?_
    refine yg_X0_61_wCS0 C dX0_findsStumbles_19 ?_
    refine y_alen C 0 (wCS_8 ..) rfl al_560 dX0_findsStumbles_22 ?_
    refine y_icmp_ge C (tgt := 39) dX0_findsStumbles_23 rfl (fun c_3 => ?_) (fun c_3 => ?_)
    · have h_4 := (h).1 c_3
      refine y_iconst C dX0_findsStumbles_39 ic_0 ?_
      refine y_istore_n C dX0_findsStumbles_40 rfl (Nat.le_of_ble_eq_true rfl) [(3, .int (0)), (0, .ref (A 0)), (1, .int (x1)), (2, .int (x2))] rfl ?_
      obtain ⟨n_5, h_6⟩ := h_4
      exact Y.sub (wk_o_findsStumbles_b41 C M N (x1) (x2) n_5 S (0) h_6) [1, 2, 3, 0] rfl
    · have h_7 := (h).2 c_3
      refine y_aload_n C dX0_findsStumbles_26 0 rfl rfl ?_
      refine yg_X0_61_wCS0 C dX0_findsStumbles_27 ?_
      refine y_iload_n C dX0_findsStumbles_30 3 rfl rfl ?_
      refine y_iconst C dX0_findsStumbles_31 ic_0 ?_
      refine y_iast C M (wCS_8 ..) rfl (wCS_s8 ..) (h_7).1 dX0_findsStumbles_32 ?_
      refine y_iinc C dX0_findsStumbles_33 3 rfl (Nat.le_of_ble_eq_true rfl) (ii_1 _) [(3, .int ((x3 + 1))), (0, .ref (A 0)), (1, .int (x1)), (2, .int (x2))] rfl ?_
      refine y_goto C (tgt := 17) dX0_findsStumbles_36 rfl ?_
      exact Y.sub (ih (sI S 8 (x3).toNatClampNeg 0) ((x3 + 1)) ((h_7).2)) [1, 2, 3, 0] rfl
set_option maxRecDepth 100000 in
theorem met_o_findsStumbles (G : Gx) (A : Nat → Nat) (L : Lx) (S : St) (x1 : Int32) (x2 : Int32) (Q : St → Prop) (h : wp_o_findsStumbles L S x1 x2 Q) : Mv G yX0_findsStumbles (ws_ yX0_findsStumbles cX0_findsStumbles 5 none) rm_o_findsStumbles (wCS L G A S) [.ref (A 0), .int (x1), .int (x2)] (wCS L G A) Q := by
  refine ent_Mv (by decide +kernel) rfl (Nat.le_of_ble_eq_true rfl) [(0, .ref (A 0)), (1, .int (x1)), (2, .int (x2))] rfl (fun K B C M N => ?_)
  refine y_aload_n C dX0_findsStumbles_0 0 rfl rfl ?_
  refine y_iconst C dX0_findsStumbles_1 ic_0 ?_
  refine yp_X0_291_wCS0 C M dX0_findsStumbles_2 ?_
  refine y_aload_n C dX0_findsStumbles_5 0 rfl rfl ?_
  refine y_iconst C dX0_findsStumbles_6 icm1 ?_
  refine yp_X0_294_wCS0 C M dX0_findsStumbles_7 ?_
  refine y_aload_n C dX0_findsStumbles_10 0 rfl rfl ?_
  refine y_lconst C dX0_findsStumbles_11 lc_0 ?_
  refine yp_X0_297_wCS0 C M dX0_findsStumbles_12 ?_
  refine y_iconst C dX0_findsStumbles_15 ic_0 ?_
  refine y_istore_n C dX0_findsStumbles_16 rfl (Nat.le_of_ble_eq_true rfl) [(3, .int (0)), (0, .ref (A 0)), (1, .int (x1)), (2, .int (x2))] rfl ?_
  obtain ⟨n_1, h_2⟩ := h
  exact Y.sub (wk_o_findsStumbles_b17 C M N (x1) (x2) n_1 (sL (sI (sI S 0 13 0) 0 14 (-1)) 0 15 0) (0) h_2) [1, 2, 3, 0] rfl
/-! OverHill listensTo(II)I: o_listensTo -/
abbrev rm_o_listensTo : Room := { frames := 7, cells := 0, slots := 0, locals := 179 }
def wp_o_listensTo_b19 (L : Lx) (Q : Int32 → St → Prop) : Nat → St → Int32 → Int32 → Prop
  | 0 => fun _ _ _ => False
  | n + 1 => fun S x3 x4 => ((80 ≤ x4 → Q x3 S) ∧ (¬ 80 ≤ x4 → wp_o_worstOf S (x4) (fun r_9 => ((r_9 < (S.1 0 17) → wp_o_worstOf S (x4) (fun r_14 => wp_o_listensTo_b19 L Q n (sI S 0 17 r_14) (x4) ((x4 + 1)))) ∧ (¬ r_9 < (S.1 0 17) → wp_o_listensTo_b19 L Q n S (x3) ((x4 + 1)))))))
def wp_o_listensTo (L : Lx) (S : St) (x1 : Int32) (x2 : Int32) (Q : Int32 → St → Prop) : Prop :=
  wp_o_findsStumbles L S (x1) (x2) (fun S_3 => (∃ z, wp_o_listensTo_b19 L Q z (sI S_3 0 17 (S_3.1 0 13)) ((-1)) (0)))
set_option maxRecDepth 100000 in
theorem wk_o_listensTo_b19 {G : Gx} {K : Kx} {L : Lx} {A : Nat → Nat} (C : KOk G K RX0 cX0_listensTo rm_o_listensTo 5 (some .int)) {B : Nat → Prop} (M : KM G K B) {Q : Int32 → St → Prop} (N : KQi G K B (wCS L G A) Q) : ∀ (n : Nat), ∀ (S : St) (x3 : Int32) (x4 : Int32), wp_o_listensTo_b19 L Q n S x3 x4 → Y G K 0 0 (wCS L G A S) 19 [(0, .ref (A 0)), (3, .int (x3)), (4, .int (x4))] [] := by
  intro n
  induction n with
  | zero => intro S x3 x4 h; exact h.elim
  | succ n ih =>
    intro S x3 x4 h
    dsimp only [wp_o_listensTo_b19] at h
    refine y_iload C dX0_listensTo_19 2 rfl ?_
    refine y_bipush C dX0_listensTo_21 bp_80 ?_
    refine y_icmp_ge C (tgt := 61) dX0_listensTo_23 rfl (fun c_6 => ?_) (fun c_6 => ?_)
    · have h_7 := (h).1 c_6
      refine y_iload_n C dX0_listensTo_61 1 rfl rfl ?_
      exact y_iretM C M N rfl (S := S) rfl (h_7) dX0_listensTo_62
    · have h_8 := (h).2 c_6
      refine y_aload_n C dX0_listensTo_26 0 rfl rfl ?_
      refine y_iload C dX0_listensTo_27 2 rfl ?_
      refine y_callRiV (As := [.int (x4)]) (rest := []) C cs_X0_318 (met_o_worstOf G A S (x4) _ (h_8)) (fun _ h => wCS_C h) (wCS_0 ..) rfl rfl ⟨rfl, rfl, Nat.le_of_ble_eq_true rfl, Nat.le_of_ble_eq_true rfl⟩ rfl rfl (Nat.le_of_ble_eq_true rfl) dX0_listensTo_29 ⟨Nat.zero_le _, Nat.zero_le _⟩ (fun r_9 h_10 => ?_)
      refine y_aload_n C dX0_listensTo_32 0 rfl rfl ?_
      refine yg_X0_315_wCS0 C dX0_listensTo_33 ?_
      refine y_icmp_lt C (tgt := 42) dX0_listensTo_36 rfl (fun c_12 => ?_) (fun c_12 => ?_)
      · have h_13 := (h_10).1 c_12
        refine y_aload_n C dX0_listensTo_42 0 rfl rfl ?_
        refine y_aload_n C dX0_listensTo_43 0 rfl rfl ?_
        refine y_iload C dX0_listensTo_44 2 rfl ?_
        refine y_callRiV (As := [.int (x4)]) (rest := [.ref (A 0)]) C cs_X0_318 (met_o_worstOf G A S (x4) _ (h_13)) (fun _ h => wCS_C h) (wCS_0 ..) rfl rfl ⟨rfl, rfl, Nat.le_of_ble_eq_true rfl, Nat.le_of_ble_eq_true rfl⟩ rfl rfl (Nat.le_of_ble_eq_true rfl) dX0_listensTo_46 ⟨Nat.zero_le _, Nat.zero_le _⟩ (fun r_14 h_15 => ?_)
        refine yp_X0_315_wCS0 C M dX0_listensTo_49 ?_
        refine y_iload C dX0_listensTo_52 2 rfl ?_
        refine y_istore_n C dX0_listensTo_54 rfl (Nat.le_of_ble_eq_true rfl) [(3, .int (x4)), (0, .ref (A 0)), (4, .int (x4))] rfl ?_
        refine y_iinc C dX0_listensTo_55 2 rfl (Nat.le_of_ble_eq_true rfl) (ii_1 _) [(4, .int ((x4 + 1))), (3, .int (x4)), (0, .ref (A 0))] rfl ?_
        refine y_goto C (tgt := 19) dX0_listensTo_58 rfl ?_
        exact Y.sub (ih (sI S 0 17 r_14) (x4) ((x4 + 1)) (h_15)) [2, 1, 0] rfl
      · have h_17 := (h_10).2 c_12
        refine y_goto C (tgt := 55) dX0_listensTo_39 rfl ?_
        refine y_iinc C dX0_listensTo_55 2 rfl (Nat.le_of_ble_eq_true rfl) (ii_1 _) [(4, .int ((x4 + 1))), (0, .ref (A 0)), (3, .int (x3))] rfl ?_
        refine y_goto C (tgt := 19) dX0_listensTo_58 rfl ?_
        exact Y.sub (ih S (x3) ((x4 + 1)) (h_17)) [1, 2, 0] rfl
set_option maxRecDepth 100000 in
theorem met_o_listensTo (G : Gx) (A : Nat → Nat) (L : Lx) (S : St) (x1 : Int32) (x2 : Int32) (Q : Int32 → St → Prop) (h : wp_o_listensTo L S x1 x2 Q) : Mi G yX0_listensTo (ws_ yX0_listensTo cX0_listensTo 5 (some .int)) rm_o_listensTo (wCS L G A S) [.ref (A 0), .int (x1), .int (x2)] (wCS L G A) Q := by
  refine ent_Mi (by decide +kernel) rfl (Nat.le_of_ble_eq_true rfl) [(0, .ref (A 0)), (1, .int (x1)), (2, .int (x2))] rfl (fun K B C M N => ?_)
  refine y_aload_n C dX0_listensTo_0 0 rfl rfl ?_
  refine y_iload_n C dX0_listensTo_1 1 rfl rfl ?_
  refine y_iload_n C dX0_listensTo_2 2 rfl rfl ?_
  refine y_callMvV (k' := 0) (n' := 0) (As := [.int (x1), .int (x2)]) (rest := []) C M cs_X0_309 (met_o_findsStumbles G A L S (x1) (x2) _ (h)) (wCS_0 ..) rfl rfl ⟨rfl, rfl, Nat.le_of_ble_eq_true rfl, Nat.le_of_ble_eq_true rfl⟩ rfl rfl (Nat.le_of_ble_eq_true rfl) dX0_listensTo_3 ⟨Nat.zero_le _, Nat.zero_le _⟩ rfl rfl (fun S_3 h_2 => ?_)
  refine y_aload_n C dX0_listensTo_6 0 rfl rfl ?_
  refine y_aload_n C dX0_listensTo_7 0 rfl rfl ?_
  refine yg_X0_291_wCS0 C dX0_listensTo_8 ?_
  refine yp_X0_315_wCS0 C M dX0_listensTo_11 ?_
  refine y_iconst C dX0_listensTo_14 icm1 ?_
  refine y_istore_n C dX0_listensTo_15 rfl (Nat.le_of_ble_eq_true rfl) [(3, .int ((-1))), (0, .ref (A 0)), (1, .int (x1)), (2, .int (x2))] rfl ?_
  refine y_iconst C dX0_listensTo_16 ic_0 ?_
  refine y_istore C dX0_listensTo_17 (Nat.le_of_ble_eq_true rfl) [(4, .int (0)), (3, .int ((-1))), (0, .ref (A 0)), (1, .int (x1)), (2, .int (x2))] rfl ?_
  obtain ⟨n_4, h_5⟩ := h_2
  exact Y.sub (wk_o_listensTo_b19 C M N n_4 (sI S_3 0 17 (S_3.1 0 13)) ((-1)) (0) h_5) [2, 1, 0] rfl
