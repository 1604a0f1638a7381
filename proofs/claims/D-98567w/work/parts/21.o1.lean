/-! printed by tools/gen.py -/
set_option maxRecDepth 100000
theorem vi_0_2 : vp_in 0 2 := by unfold vp_in; decide
theorem vi_1_2 : vp_in 1 2 := by unfold vp_in; decide
theorem iim1 (x : Int32) : x + Int32.ofInt (-1) = x + (-1) := by rw [show Int32.ofInt (-1) = (-1) from by decide]
theorem yp_X0_224_wC0 {G : Gx} {K : Kx} {cc : ByteArray} {rm : Room} {nL : Nat} {ret : Option FieldType} {k n pc : Nat} {B : Nat → Prop} {A : Nat → Nat} {S : St} {lv : List (Nat × Value)} {st : List Value} {v : Int32} (C : KOk G K RX0 cc rm nL ret) (M : KM G K B) (hdg : decode cc pc = .ok (.putfield 224, 3)) (kk : Y G K k n (wC G A (sI S 0 11 v)) (pc + 3) lv st) : Y G K k n (wC G A S) pc lv (.int v :: .ref (A 0) :: st) := y_put C M (ref := "OverHill") (Cn := RX0) (T := TX0) (N := 34) in_X0 (wC_0 ..) rfl 11 (by decide) tyX0 tyX0_ok (by decide +kernel) q420 (fun _ _ h => h) rfl (ty := .int) (by decide +kernel) rfl rfl (Nat.le_of_ble_eq_true rfl) (wC_p0_11 ..) hdg kk
theorem yp_X0_227_wC0 {G : Gx} {K : Kx} {cc : ByteArray} {rm : Room} {nL : Nat} {ret : Option FieldType} {k n pc : Nat} {B : Nat → Prop} {A : Nat → Nat} {S : St} {lv : List (Nat × Value)} {st : List Value} {v : Int32} (C : KOk G K RX0 cc rm nL ret) (M : KM G K B) (hdg : decode cc pc = .ok (.putfield 227, 3)) (kk : Y G K k n (wC G A (sI S 0 12 v)) (pc + 3) lv st) : Y G K k n (wC G A S) pc lv (.int v :: .ref (A 0) :: st) := y_put C M (ref := "OverHill") (Cn := RX0) (T := TX0) (N := 34) in_X0 (wC_0 ..) rfl 12 (by decide) tyX0 tyX0_ok (by decide +kernel) q421 (fun _ _ h => h) rfl (ty := .int) (by decide +kernel) rfl rfl (Nat.le_of_ble_eq_true rfl) (wC_p0_12 ..) hdg kk
theorem yg_X0_224_wC0 {G : Gx} {K : Kx} {cc : ByteArray} {rm : Room} {nL : Nat} {ret : Option FieldType} {k n pc : Nat} {A : Nat → Nat} {S : St} {lv : List (Nat × Value)} {st : List Value} (C : KOk G K RX0 cc rm nL ret) (hdg : decode cc pc = .ok (.getfield 224, 3)) (kk : Y G K k n (wC G A S) (pc + 3) lv (.int (S.1 0 11) :: st)) : Y G K k n (wC G A S) pc lv (.ref (A 0) :: st) := y_get C (ref := "OverHill") (Cn := RX0) (T := TX0) (N := 34) in_X0 (wC_0 ..) rfl 11 (by decide) q420 (fun _ _ h => h) (fs_C0_f11 A S) hdg kk
theorem yg_X0_227_wC0 {G : Gx} {K : Kx} {cc : ByteArray} {rm : Room} {nL : Nat} {ret : Option FieldType} {k n pc : Nat} {A : Nat → Nat} {S : St} {lv : List (Nat × Value)} {st : List Value} (C : KOk G K RX0 cc rm nL ret) (hdg : decode cc pc = .ok (.getfield 227, 3)) (kk : Y G K k n (wC G A S) (pc + 3) lv (.int (S.1 0 12) :: st)) : Y G K k n (wC G A S) pc lv (.ref (A 0) :: st) := y_get C (ref := "OverHill") (Cn := RX0) (T := TX0) (N := 34) in_X0 (wC_0 ..) rfl 12 (by decide) q421 (fun _ _ h => h) (fs_C0_f12 A S) hdg kk
theorem yg_X0_50_wC0 {G : Gx} {K : Kx} {cc : ByteArray} {rm : Room} {nL : Nat} {ret : Option FieldType} {k n pc : Nat} {A : Nat → Nat} {S : St} {lv : List (Nat × Value)} {st : List Value} (C : KOk G K RX0 cc rm nL ret) (hdg : decode cc pc = .ok (.getfield 50, 3)) (kk : Y G K k n (wC G A S) (pc + 3) lv (.ref (A 6) :: st)) : Y G K k n (wC G A S) pc lv (.ref (A 0) :: st) := y_get C (ref := "OverHill") (Cn := RX0) (T := TX0) (N := 34) in_X0 (wC_0 ..) rfl 9 (by decide) q418 (fun _ _ h => h) (fs_C0_f9 A S) hdg kk
theorem yp_X0_238_wC6 {G : Gx} {K : Kx} {cc : ByteArray} {rm : Room} {nL : Nat} {ret : Option FieldType} {k n pc : Nat} {B : Nat → Prop} {A : Nat → Nat} {S : St} {lv : List (Nat × Value)} {st : List Value} {v : Int32} (C : KOk G K RX0 cc rm nL ret) (M : KM G K B) (hdg : decode cc pc = .ok (.putfield 238, 3)) (kk : Y G K k n (wC G A (sI S 6 3 v)) (pc + 3) lv st) : Y G K k n (wC G A S) pc lv (.int v :: .ref (A 6) :: st) := y_putN C M (ref := "OverHill$Without") (Cn := RX5) (T := TX5) (N := 5) in_X5 (wC_6 ..) rfl 3 (by decide) tyX5 tyX5_ok (by decide +kernel) q338 (fun _ _ h => h) rfl (ty := .int) (by decide +kernel) rfl rfl (Nat.le_of_ble_eq_true rfl) (wC_p6_3 ..) hdg kk
theorem yg_X0_61_wC0 {G : Gx} {K : Kx} {cc : ByteArray} {rm : Room} {nL : Nat} {ret : Option FieldType} {k n pc : Nat} {A : Nat → Nat} {S : St} {lv : List (Nat × Value)} {st : List Value} (C : KOk G K RX0 cc rm nL ret) (hdg : decode cc pc = .ok (.getfield 61, 3)) (kk : Y G K k n (wC G A S) (pc + 3) lv (.ref (A 8) :: st)) : Y G K k n (wC G A S) pc lv (.ref (A 0) :: st) := y_get C (ref := "OverHill") (Cn := RX0) (T := TX0) (N := 34) in_X0 (wC_0 ..) rfl 16 (by decide) q425 (fun _ _ h => h) (fs_C0_f16 A S) hdg kk
theorem yg_X0_324_wC15 {G : Gx} {K : Kx} {cc : ByteArray} {rm : Room} {nL : Nat} {ret : Option FieldType} {k n pc : Nat} {A : Nat → Nat} {S : St} {lv : List (Nat × Value)} {st : List Value} (C : KOk G K RX0 cc rm nL ret) (hdg : decode cc pc = .ok (.getfield 324, 3)) (kk : Y G K k n (wC G A S) (pc + 3) lv (.ref (A 24) :: st)) : Y G K k n (wC G A S) pc lv (.ref (A 15) :: st) := y_getN C (ref := "OverHill$Dance") (Cn := RX1) (T := TX1) (N := 22) in_X1 (wC_15 ..) rfl 16 (by decide) q240 (fun _ _ h => h) (fs_C15_f16 A S) hdg kk
theorem yg_X0_327_wC15 {G : Gx} {K : Kx} {cc : ByteArray} {rm : Room} {nL : Nat} {ret : Option FieldType} {k n pc : Nat} {A : Nat → Nat} {S : St} {lv : List (Nat × Value)} {st : List Value} (C : KOk G K RX0 cc rm nL ret) (hdg : decode cc pc = .ok (.getfield 327, 3)) (kk : Y G K k n (wC G A S) (pc + 3) lv (.ref (A 25) :: st)) : Y G K k n (wC G A S) pc lv (.ref (A 15) :: st) := y_getN C (ref := "OverHill$Dance") (Cn := RX1) (T := TX1) (N := 22) in_X1 (wC_15 ..) rfl 17 (by decide) q243 (fun _ _ h => h) (fs_C15_f17 A S) hdg kk
theorem yg_X0_329_wC15 {G : Gx} {K : Kx} {cc : ByteArray} {rm : Room} {nL : Nat} {ret : Option FieldType} {k n pc : Nat} {A : Nat → Nat} {S : St} {lv : List (Nat × Value)} {st : List Value} (C : KOk G K RX0 cc rm nL ret) (hdg : decode cc pc = .ok (.getfield 329, 3)) (kk : Y G K k n (wC G A S) (pc + 3) lv (.int (S.1 15 5) :: st)) : Y G K k n (wC G A S) pc lv (.ref (A 15) :: st) := y_getN C (ref := "OverHill$Dance") (Cn := RX1) (T := TX1) (N := 22) in_X1 (wC_15 ..) rfl 5 (by decide) q204 (fun _ _ h => h) (fs_C15_f5 A S) hdg kk
theorem yg_X0_64_wC0 {G : Gx} {K : Kx} {cc : ByteArray} {rm : Room} {nL : Nat} {ret : Option FieldType} {k n pc : Nat} {A : Nat → Nat} {S : St} {lv : List (Nat × Value)} {st : List Value} (C : KOk G K RX0 cc rm nL ret) (hdg : decode cc pc = .ok (.getfield 64, 3)) (kk : Y G K k n (wC G A S) (pc + 3) lv (.ref (A 9) :: st)) : Y G K k n (wC G A S) pc lv (.ref (A 0) :: st) := y_get C (ref := "OverHill") (Cn := RX0) (T := TX0) (N := 34) in_X0 (wC_0 ..) rfl 18 (by decide) q427 (fun _ _ h => h) (fs_C0_f18 A S) hdg kk
theorem yg_X0_67_wC0 {G : Gx} {K : Kx} {cc : ByteArray} {rm : Room} {nL : Nat} {ret : Option FieldType} {k n pc : Nat} {A : Nat → Nat} {S : St} {lv : List (Nat × Value)} {st : List Value} (C : KOk G K RX0 cc rm nL ret) (hdg : decode cc pc = .ok (.getfield 67, 3)) (kk : Y G K k n (wC G A S) (pc + 3) lv (.ref (A 10) :: st)) : Y G K k n (wC G A S) pc lv (.ref (A 0) :: st) := y_get C (ref := "OverHill") (Cn := RX0) (T := TX0) (N := 34) in_X0 (wC_0 ..) rfl 19 (by decide) q428 (fun _ _ h => h) (fs_C0_f19 A S) hdg kk
theorem yp_X0_341_wC0 {G : Gx} {K : Kx} {cc : ByteArray} {rm : Room} {nL : Nat} {ret : Option FieldType} {k n pc : Nat} {B : Nat → Prop} {A : Nat → Nat} {S : St} {lv : List (Nat × Value)} {st : List Value} {v : Int32} (C : KOk G K RX0 cc rm nL ret) (M : KM G K B) (hdg : decode cc pc = .ok (.putfield 341, 3)) (kk : Y G K k n (wC G A (sI S 0 20 v)) (pc + 3) lv st) : Y G K k n (wC G A S) pc lv (.int v :: .ref (A 0) :: st) := y_put C M (ref := "OverHill") (Cn := RX0) (T := TX0) (N := 34) in_X0 (wC_0 ..) rfl 20 (by decide) tyX0 tyX0_ok (by decide +kernel) q429 (fun _ _ h => h) rfl (ty := .int) (by decide +kernel) rfl rfl (Nat.le_of_ble_eq_true rfl) (wC_p0_20 ..) hdg kk
theorem yg_X0_341_wC0 {G : Gx} {K : Kx} {cc : ByteArray} {rm : Room} {nL : Nat} {ret : Option FieldType} {k n pc : Nat} {A : Nat → Nat} {S : St} {lv : List (Nat × Value)} {st : List Value} (C : KOk G K RX0 cc rm nL ret) (hdg : decode cc pc = .ok (.getfield 341, 3)) (kk : Y G K k n (wC G A S) (pc + 3) lv (.int (S.1 0 20) :: st)) : Y G K k n (wC G A S) pc lv (.ref (A 0) :: st) := y_get C (ref := "OverHill") (Cn := RX0) (T := TX0) (N := 34) in_X0 (wC_0 ..) rfl 20 (by decide) q429 (fun _ _ h => h) (fs_C0_f20 A S) hdg kk
theorem yg_X0_362_wC15 {G : Gx} {K : Kx} {cc : ByteArray} {rm : Room} {nL : Nat} {ret : Option FieldType} {k n pc : Nat} {A : Nat → Nat} {S : St} {lv : List (Nat × Value)} {st : List Value} (C : KOk G K RX0 cc rm nL ret) (hdg : decode cc pc = .ok (.getfield 362, 3)) (kk : Y G K k n (wC G A S) (pc + 3) lv (.int (S.1 15 6) :: st)) : Y G K k n (wC G A S) pc lv (.ref (A 15) :: st) := y_getN C (ref := "OverHill$Dance") (Cn := RX1) (T := TX1) (N := 22) in_X1 (wC_15 ..) rfl 6 (by decide) q207 (fun _ _ h => h) (fs_C15_f6 A S) hdg kk
theorem cs_X0_200 : CsV RX0 200 yX0_isHole cX0_isHole 3 (some .boolean) 2 := ⟨lw_V q960 q962 qs30 q139 q963, by decide +kernel⟩
theorem cs_X0_217 : CsV RX0 217 yX0_isSpan cX0_isSpan 3 (some .boolean) 2 := ⟨lw_V q975 q977 qs31 q139 q978, by decide +kernel⟩
theorem cs_X0_220 : CsV RX0 220 yX0_holesOf cX0_holesOf 6 (some .int) 3 := ⟨lw_V q979 q981 qs32 q139 q982, by decide +kernel⟩
theorem cs_X0_230 : CsV RX0 230 yX0_findsRun cX0_findsRun 5 none 2 := ⟨lw_V q987 q989 qs33 q139 q990, by decide +kernel⟩
theorem cs_X0_234 : CsV RX0 234 yX0_allHoles cX0_allHoles 1 (some .int) 0 := ⟨lw_V q999 q1001 qs34 q139 q1002, by decide +kernel⟩
theorem co_X0_240_X5 : CsO RX0 240 RX5 "OverHill$Plain" ⟨"OverHill$Without", "goesBoth", "()V"⟩ yX2_goesBoth cX2_goesBoth 1 none 0 := ⟨lw_O q1003 q1004 q871 q1005 q871 q141 q872, ⟨_, _, _, q872⟩, by decide +kernel⟩
theorem cs_X0_241 : CsS RX0 241 yX0_divisor cX0_divisor 5 (some .int) 2 := ⟨lw_S q1022 q1023 q139 q1024, by decide +kernel⟩
theorem cs_X0_244 : CsV RX0 244 yX0_areRounds cX0_areRounds 1 (some .boolean) 0 := ⟨lw_V q1014 q1016 qs35 q139 q1017, by decide +kernel⟩
theorem cs_X0_247 : CsV RX0 247 yX0_periodOf cX0_periodOf 1 (some .int) 0 := ⟨lw_V q1018 q1020 qs36 q139 q1021, by decide +kernel⟩
theorem cs_X0_250 : CsV RX0 250 yX0_placeBy cX0_placeBy 3 (some .int) 2 := ⟨lw_V q1029 q1031 qs37 q139 q1032, by decide +kernel⟩
theorem cs_X0_253 : CsV RX0 253 yX0_clashes cX0_clashes 3 (some .boolean) 2 := ⟨lw_V q1041 q1043 qs39 q139 q1044, by decide +kernel⟩
theorem cs_X0_256 : CsV RX0 256 yX0_shiftedBy cX0_shiftedBy 6 (some .int) 1 := ⟨lw_V q1037 q1039 qs38 q139 q1040, by decide +kernel⟩
theorem cs_X0_260 : CsV RX0 260 yX0_mayBe cX0_mayBe 6 (some .boolean) 3 := ⟨lw_V q1065 q1067 qs42 q139 q1068, by decide +kernel⟩
theorem cs_X0_264 : CsV RX0 264 yX0_mendedAt cX0_mendedAt 4 (some .int) 2 := ⟨lw_V q1061 q1063 qs41 q139 q1064, by decide +kernel⟩
theorem cs_X0_267 : CsV RX0 267 yX0_stuckAt cX0_stuckAt 3 (some .int) 1 := ⟨lw_V q1057 q1059 qs40 q139 q1060, by decide +kernel⟩
theorem cs_X0_312 : CsS RX0 312 yJ3_max cJ3_max 2 (some .int) 2 := ⟨lw_S q1165 q1166 q154 q1167, by decide +kernel⟩
theorem cs_X0_332 : CsV RX0 332 yX0_entered cX0_entered 4 (some .int) 2 := ⟨lw_V q1180 q1182 qs50 q139 q1183, by decide +kernel⟩
theorem cs_X0_335 : CsV RX0 335 yX0_goesOver cX0_goesOver 4 (some .int) 1 := ⟨lw_V q1176 q1178 qs49 q139 q1179, by decide +kernel⟩
theorem cs_X0_338 : CsV RX0 338 yX0_goesBack cX0_goesBack 4 (some .int) 1 := ⟨lw_V q1188 q1190 qs51 q139 q1191, by decide +kernel⟩
theorem cs_X0_344 : CsV RX0 344 yX0_meetCell cX0_meetCell 6 (some .int) 2 := ⟨lw_V q1196 q1198 qs52 q139 q1199, by decide +kernel⟩
/-! OverHill hole(II)I: o_hole -/
abbrev rm_o_hole : Room := { frames := 6, cells := 0, slots := 0, locals := 152 }
def wp_o_hole (S : St) (x1 : Int32) (x2 : Int32) (Q : Int32 → St → Prop) : Prop :=
  wp_o_isAsked S (x1) (x2) (fun r_1 => ((¬ r_1 = 0 → wp_p_goesBoth_5 S (fun S_8 => wp_o_isHole S_8 (x1) (x2) (fun r_9 => ((r_9 = 0 → Q 0 S_8) ∧ (¬ r_9 = 0 → Q 1 S_8))))) ∧ (r_1 = 0 → Q (-2) S)))
set_option maxRecDepth 100000 in
theorem met_o_hole (G : Gx) (A : Nat → Nat) (S : St) (x1 : Int32) (x2 : Int32) (Q : Int32 → St → Prop) (h : wp_o_hole S x1 x2 Q) : Mi G yX0_hole (ws_ yX0_hole cX0_hole 3 (some .int)) rm_o_hole (wC G A S) [.ref (A 0), .int (x1), .int (x2)] (wC G A) Q := by
  refine ent_Mi (by decide +kernel) rfl (Nat.le_of_ble_eq_true rfl) [(0, .ref (A 0)), (1, .int (x1)), (2, .int (x2))] rfl (fun K B C M N => ?_)
  refine y_aload_n C dX0_hole_0 0 rfl rfl ?_
  refine y_iload_n C dX0_hole_1 1 rfl rfl ?_
  refine y_iload_n C dX0_hole_2 2 rfl rfl ?_
  refine y_callRiV (As := [.int (x1), .int (x2)]) (rest := []) C cs_X0_203 (met_o_isAsked G A S (x1) (x2) _ (h)) (fun _ h => h) (wC_0 ..) rfl rfl ⟨rfl, rfl, Nat.le_of_ble_eq_true rfl, Nat.le_of_ble_eq_true rfl⟩ rfl rfl (Nat.le_of_ble_eq_true rfl) dX0_hole_3 ⟨Nat.zero_le _, Nat.zero_le _⟩ (fun r_1 h_2 => ?_)
  refine y_if_ne C (tgt := 12) dX0_hole_6 rfl (fun c_4 => ?_) (fun c_4 => ?_)
  · have h_5 := (h_2).1 c_4
    refine y_aload_n C dX0_hole_12 0 rfl rfl ?_
    refine yg_X0_43_wC0 C dX0_hole_13 ?_
    refine y_callMvO (k' := 0) (n' := 0) (As := []) (rest := []) C M co_X0_206_X4 (met_p_goesBoth_5 G A S _ (h_5)) (wC_5 ..) rfl rfl ⟨rfl, rfl, Nat.le_of_ble_eq_true rfl, Nat.le_of_ble_eq_true rfl⟩ rfl rfl (Nat.le_of_ble_eq_true rfl) dX0_hole_16 ⟨Nat.zero_le _, Nat.zero_le _⟩ rfl rfl (fun S_8 h_7 => ?_)
    refine y_aload_n C dX0_hole_19 0 rfl rfl ?_
    refine y_iload_n C dX0_hole_20 1 rfl rfl ?_
    refine y_iload_n C dX0_hole_21 2 rfl rfl ?_
    refine y_callRiV (As := [.int (x1), .int (x2)]) (rest := []) C cs_X0_200 (met_o_isHole G A S_8 (x1) (x2) _ (h_7)) (fun _ h => h) (wC_0 ..) rfl rfl ⟨rfl, rfl, Nat.le_of_ble_eq_true rfl, Nat.le_of_ble_eq_true rfl⟩ rfl rfl (Nat.le_of_ble_eq_true rfl) dX0_hole_22 ⟨Nat.zero_le _, Nat.zero_le _⟩ (fun r_9 h_10 => ?_)
    refine y_if_eq C (tgt := 32) dX0_hole_25 rfl (fun c_12 => ?_) (fun c_12 => ?_)
    · have h_13 := (h_10).1 c_12
      refine y_iconst C dX0_hole_32 ic_0 ?_
      exact y_iretM C M N rfl (S := S_8) rfl (h_13) dX0_hole_33
    · have h_14 := (h_10).2 c_12
      refine y_iconst C dX0_hole_28 ic_1 ?_
      refine y_goto C (tgt := 33) dX0_hole_29 rfl ?_
      exact y_iretM C M N rfl (S := S_8) rfl (h_14) dX0_hole_33
  · have h_15 := (h_2).2 c_4
    refine y_bipush C dX0_hole_9 bpm2 ?_
    exact y_iretM C M N rfl (S := S) rfl (h_15) dX0_hole_11
/-! OverHill next(II)I: o_next -/
abbrev rm_o_next : Room := { frames := 6, cells := 0, slots := 0, locals := 152 }
def wp_o_next_b21 (Q : Int32 → St → Prop) (x1 : Int32) : Nat → St → Int32 → Prop
  | 0 => fun _ _ => False
  | n + 1 => fun S x3 => ((200 ≤ x3 → Q (-1) S) ∧ (¬ 200 ≤ x3 → wp_o_isHole S (x1) (x3) (fun r_15 => ((r_15 = 0 → wp_o_next_b21 Q x1 n S ((x3 + 1))) ∧ (¬ r_15 = 0 → Q x3 S)))))
def wp_o_next (S : St) (x1 : Int32) (x2 : Int32) (Q : Int32 → St → Prop) : Prop :=
  wp_o_isAsked S (x1) (x2) (fun r_1 => ((¬ r_1 = 0 → wp_p_goesBoth_5 S (fun S_8 => (∃ z, wp_o_next_b21 Q (x1) z S_8 (x2)))) ∧ (r_1 = 0 → Q (-2) S)))
set_option maxRecDepth 100000 in
theorem wk_o_next_b21 {G : Gx} {K : Kx} {A : Nat → Nat} (C : KOk G K RX0 cX0_next rm_o_next 4 (some .int)) {B : Nat → Prop} (M : KM G K B) {Q : Int32 → St → Prop} (N : KQi G K B (wC G A) Q) (x1 : Int32) : ∀ (n : Nat), ∀ (S : St) (x3 : Int32), wp_o_next_b21 Q x1 n S x3 → Y G K 0 0 (wC G A S) 21 [(0, .ref (A 0)), (1, .int (x1)), (3, .int (x3))] [] := by
  intro n
  induction n with
  | zero => intro S x3 h; exact h.elim
  | succ n ih =>
    intro S x3 h
    dsimp only [wp_o_next_b21] at h
    refine y_iload_n C dX0_next_21 2 rfl rfl ?_
    refine y_sipush C dX0_next_22 sp_200 ?_
    refine y_icmp_ge C (tgt := 45) dX0_next_25 rfl (fun c_12 => ?_) (fun c_12 => ?_)
    · have h_13 := (h).1 c_12
      refine y_iconst C dX0_next_45 icm1 ?_
      exact y_iretM C M N rfl (S := S) rfl (h_13) dX0_next_46
    · have h_14 := (h).2 c_12
      refine y_aload_n C dX0_next_28 0 rfl rfl ?_
      refine y_iload_n C dX0_next_29 1 rfl rfl ?_
      refine y_iload_n C dX0_next_30 2 rfl rfl ?_
      refine y_callRiV (As := [.int (x1), .int (x3)]) (rest := []) C cs_X0_200 (met_o_isHole G A S (x1) (x3) _ (h_14)) (fun _ h => h) (wC_0 ..) rfl rfl ⟨rfl, rfl, Nat.le_of_ble_eq_true rfl, Nat.le_of_ble_eq_true rfl⟩ rfl rfl (Nat.le_of_ble_eq_true rfl) dX0_next_31 ⟨Nat.zero_le _, Nat.zero_le _⟩ (fun r_15 h_16 => ?_)
      refine y_if_eq C (tgt := 39) dX0_next_34 rfl (fun c_18 => ?_) (fun c_18 => ?_)
      · have h_19 := (h_16).1 c_18
        refine y_iinc C dX0_next_39 2 rfl (Nat.le_of_ble_eq_true rfl) (ii_1 _) [(3, .int ((x3 + 1))), (0, .ref (A 0)), (1, .int (x1))] rfl ?_
        refine y_goto C (tgt := 21) dX0_next_42 rfl ?_
        exact Y.sub (ih S ((x3 + 1)) (h_19)) [1, 2, 0] rfl
      · have h_20 := (h_16).2 c_18
        refine y_iload_n C dX0_next_37 2 rfl rfl ?_
        exact y_iretM C M N rfl (S := S) rfl (h_20) dX0_next_38
set_option maxRecDepth 100000 in
theorem met_o_next (G : Gx) (A : Nat → Nat) (S : St) (x1 : Int32) (x2 : Int32) (Q : Int32 → St → Prop) (h : wp_o_next S x1 x2 Q) : Mi G yX0_next (ws_ yX0_next cX0_next 4 (some .int)) rm_o_next (wC G A S) [.ref (A 0), .int (x1), .int (x2)] (wC G A) Q := by
  refine ent_Mi (by decide +kernel) rfl (Nat.le_of_ble_eq_true rfl) [(0, .ref (A 0)), (1, .int (x1)), (2, .int (x2))] rfl (fun K B C M N => ?_)
  refine y_aload_n C dX0_next_0 0 rfl rfl ?_
  refine y_iload_n C dX0_next_1 1 rfl rfl ?_
  refine y_iload_n C dX0_next_2 2 rfl rfl ?_
  refine y_callRiV (As := [.int (x1), .int (x2)]) (rest := []) C cs_X0_203 (met_o_isAsked G A S (x1) (x2) _ (h)) (fun _ h => h) (wC_0 ..) rfl rfl ⟨rfl, rfl, Nat.le_of_ble_eq_true rfl, Nat.le_of_ble_eq_true rfl⟩ rfl rfl (Nat.le_of_ble_eq_true rfl) dX0_next_3 ⟨Nat.zero_le _, Nat.zero_le _⟩ (fun r_1 h_2 => ?_)
  refine y_if_ne C (tgt := 12) dX0_next_6 rfl (fun c_4 => ?_) (fun c_4 => ?_)
  · have h_5 := (h_2).1 c_4
    refine y_aload_n C dX0_next_12 0 rfl rfl ?_
    refine yg_X0_43_wC0 C dX0_next_13 ?_
    refine y_callMvO (k' := 0) (n' := 0) (As := []) (rest := []) C M co_X0_206_X4 (met_p_goesBoth_5 G A S _ (h_5)) (wC_5 ..) rfl rfl ⟨rfl, rfl, Nat.le_of_ble_eq_true rfl, Nat.le_of_ble_eq_true rfl⟩ rfl rfl (Nat.le_of_ble_eq_true rfl) dX0_next_16 ⟨Nat.zero_le _, Nat.zero_le _⟩ rfl rfl (fun S_8 h_7 => ?_)
    refine y_iload_n C dX0_next_19 2 rfl rfl ?_
    refine y_istore_n C dX0_next_20 rfl (Nat.le_of_ble_eq_true rfl) [(3, .int (x2)), (0, .ref (A 0)), (1, .int (x1)), (2, .int (x2))] rfl ?_
    obtain ⟨n_9, h_10⟩ := h_7
    exact Y.sub (wk_o_next_b21 C M N (x1) n_9 S_8 (x2) h_10) [1, 2, 0] rfl
  · have h_11 := (h_2).2 c_4
    refine y_bipush C dX0_next_9 bpm2 ?_
    exact y_iretM C M N rfl (S := S) rfl (h_11) dX0_next_11
/-! OverHill isSpan(II)Z: o_isSpan -/
abbrev rm_o_isSpan : Room := { frames := 3, cells := 0, slots := 0, locals := 87 }
def wp_o_isSpan (S : St) (x1 : Int32) (x2 : Int32) (Q : Int32 → Prop) : Prop :=
  wp_o_isBeat S ((x1).toInt64) (fun r_1 => ((r_1 = 0 → Q 0) ∧ (¬ r_1 = 0 → wp_o_isBeat S ((x2).toInt64) (fun r_7 => ((r_7 = 0 → Q 0) ∧ (¬ r_7 = 0 → ((x2 < x1 → Q 0) ∧ (¬ x2 < x1 → Q 1))))))))
set_option maxRecDepth 100000 in
theorem met_o_isSpan (G : Gx) (A : Nat → Nat) (S : St) (x1 : Int32) (x2 : Int32) (Q : Int32 → Prop) (h : wp_o_isSpan S x1 x2 Q) : Ri G yX0_isSpan (ws_ yX0_isSpan cX0_isSpan 3 (some .boolean)) rm_o_isSpan (wC G A S) [.ref (A 0), .int (x1), .int (x2)] Q := by
  refine ent_Ri (by decide +kernel) rfl (Nat.le_of_ble_eq_true rfl) [(0, .ref (A 0)), (1, .int (x1)), (2, .int (x2))] rfl (fun K C N => ?_)
  refine y_aload_n C dX0_isSpan_0 0 rfl rfl ?_
  refine y_iload_n C dX0_isSpan_1 1 rfl rfl ?_
  refine y_i2l C dX0_isSpan_2 rfl ?_
  refine y_callRiV (As := [.long ((x1).toInt64)]) (rest := []) C cs_X0_181 (met_o_isBeat G A S ((x1).toInt64) _ (h)) (fun _ h => h) (wC_0 ..) rfl rfl ⟨rfl, rfl, Nat.le_of_ble_eq_true rfl, Nat.le_of_ble_eq_true rfl⟩ rfl rfl (Nat.le_of_ble_eq_true rfl) dX0_isSpan_3 ⟨Nat.zero_le _, Nat.zero_le _⟩ (fun r_1 h_2 => ?_)
  refine y_if_eq C (tgt := 27) dX0_isSpan_6 rfl (fun c_4 => ?_) (fun c_4 => ?_)
  · have h_5 := (h_2).1 c_4
    refine y_iconst C dX0_isSpan_27 ic_0 ?_
    exact y_zretR C N rfl rfl (h_5) dX0_isSpan_28
  · have h_6 := (h_2).2 c_4
    refine y_aload_n C dX0_isSpan_9 0 rfl rfl ?_
    refine y_iload_n C dX0_isSpan_10 2 rfl rfl ?_
    refine y_i2l C dX0_isSpan_11 rfl ?_
    refine y_callRiV (As := [.long ((x2).toInt64)]) (rest := []) C cs_X0_181 (met_o_isBeat G A S ((x2).toInt64) _ (h_6)) (fun _ h => h) (wC_0 ..) rfl rfl ⟨rfl, rfl, Nat.le_of_ble_eq_true rfl, Nat.le_of_ble_eq_true rfl⟩ rfl rfl (Nat.le_of_ble_eq_true rfl) dX0_isSpan_12 ⟨Nat.zero_le _, Nat.zero_le _⟩ (fun r_7 h_8 => ?_)
    refine y_if_eq C (tgt := 27) dX0_isSpan_15 rfl (fun c_10 => ?_) (fun c_10 => ?_)
    · have h_11 := (h_8).1 c_10
      refine y_iconst C dX0_isSpan_27 ic_0 ?_
      exact y_zretR C N rfl rfl (h_11) dX0_isSpan_28
    · have h_12 := (h_8).2 c_10
      refine y_iload_n C dX0_isSpan_18 1 rfl rfl ?_
      refine y_iload_n C dX0_isSpan_19 2 rfl rfl ?_
      refine y_icmp_gt C (tgt := 27) dX0_isSpan_20 rfl (fun c_13 => ?_) (fun c_13 => ?_)
      · have h_14 := (h_12).1 c_13
        refine y_iconst C dX0_isSpan_27 ic_0 ?_
        exact y_zretR C N rfl rfl (h_14) dX0_isSpan_28
      · have h_15 := (h_12).2 c_13
        refine y_iconst C dX0_isSpan_23 ic_1 ?_
        refine y_goto C (tgt := 28) dX0_isSpan_24 rfl ?_
        exact y_zretR C N rfl rfl (h_15) dX0_isSpan_28
/-! OverHill holesOf(III)I: o_holesOf -/
abbrev rm_o_holesOf : Room := { frames := 4, cells := 0, slots := 0, locals := 106 }
def wp_o_holesOf_b6 (S : St) (Q : Int32 → Prop) (x1 : Int32) (x3 : Int32) : Nat → Int32 → Int32 → Prop
  | 0 => fun _ _ => False
  | n + 1 => fun x4 x5 => ((x3 < x5 → Q x4) ∧ (¬ x3 < x5 → wp_o_isHole S (x1) (x5) (fun r_6 => ((r_6 = 0 → wp_o_holesOf_b6 S Q x1 x3 n ((x4 + 0)) ((x5 + 1))) ∧ (¬ r_6 = 0 → wp_o_holesOf_b6 S Q x1 x3 n ((x4 + 1)) ((x5 + 1)))))))
def wp_o_holesOf (S : St) (x1 : Int32) (x2 : Int32) (x3 : Int32) (Q : Int32 → Prop) : Prop :=
  (∃ z, wp_o_holesOf_b6 S Q (x1) (x3) z (0) (x2))
set_option maxRecDepth 100000 in
theorem wk_o_holesOf_b6 {G : Gx} {K : Kx} {A : Nat → Nat} (C : KOk G K RX0 cX0_holesOf rm_o_holesOf 6 (some .int)) {S : St} {Q : Int32 → Prop} (N : KRi K Q) (x1 : Int32) (x3 : Int32) : ∀ (n : Nat), ∀ (x4 : Int32) (x5 : Int32), wp_o_holesOf_b6 S Q x1 x3 n x4 x5 → Y G K 0 0 (wC G A S) 6 [(0, .ref (A 0)), (1, .int (x1)), (3, .int (x3)), (4, .int (x4)), (5, .int (x5))] [] := by
  intro n
  induction n with
  | zero => intro x4 x5 h; exact h.elim
  | succ n ih =>
    intro x4 x5 h
    dsimp only [wp_o_holesOf_b6] at h
    refine y_iload C dX0_holesOf_6 4 rfl ?_
    refine y_iload_n C dX0_holesOf_8 2 rfl rfl ?_
    refine y_icmp_gt C (tgt := 38) dX0_holesOf_9 rfl (fun c_3 => ?_) (fun c_3 => ?_)
    · have h_4 := (h).1 c_3
      refine y_iload C dX0_holesOf_38 3 rfl ?_
      exact y_iretR C N rfl (h_4) dX0_holesOf_40
    · have h_5 := (h).2 c_3
      refine y_iload C dX0_holesOf_12 3 rfl ?_
      refine y_aload_n C dX0_holesOf_14 0 rfl rfl ?_
      refine y_iload_n C dX0_holesOf_15 1 rfl rfl ?_
      refine y_iload C dX0_holesOf_16 4 rfl ?_
      refine y_callRiV (As := [.int (x1), .int (x5)]) (rest := [.int (x4)]) C cs_X0_200 (met_o_isHole G A S (x1) (x5) _ (h_5)) (fun _ h => h) (wC_0 ..) rfl rfl ⟨rfl, rfl, Nat.le_of_ble_eq_true rfl, Nat.le_of_ble_eq_true rfl⟩ rfl rfl (Nat.le_of_ble_eq_true rfl) dX0_holesOf_18 ⟨Nat.zero_le _, Nat.zero_le _⟩ (fun r_6 h_7 => ?_)
      refine y_if_eq C (tgt := 28) dX0_holesOf_21 rfl (fun c_9 => ?_) (fun c_9 => ?_)
      · have h_10 := (h_7).1 c_9
        refine y_iconst C dX0_holesOf_28 ic_0 ?_
        refine y_iadd C dX0_holesOf_29 ?_
        refine y_istore C dX0_holesOf_30 (Nat.le_of_ble_eq_true rfl) [(4, .int ((x4 + 0))), (0, .ref (A 0)), (1, .int (x1)), (3, .int (x3)), (5, .int (x5))] rfl ?_
        refine y_iinc C dX0_holesOf_32 4 rfl (Nat.le_of_ble_eq_true rfl) (ii_1 _) [(5, .int ((x5 + 1))), (4, .int ((x4 + 0))), (0, .ref (A 0)), (1, .int (x1)), (3, .int (x3))] rfl ?_
        refine y_goto C (tgt := 6) dX0_holesOf_35 rfl ?_
        exact Y.sub (ih ((x4 + 0)) ((x5 + 1)) (h_10)) [2, 3, 4, 1, 0] rfl
      · have h_11 := (h_7).2 c_9
        refine y_iconst C dX0_holesOf_24 ic_1 ?_
        refine y_goto C (tgt := 29) dX0_holesOf_25 rfl ?_
        refine y_iadd C dX0_holesOf_29 ?_
        refine y_istore C dX0_holesOf_30 (Nat.le_of_ble_eq_true rfl) [(4, .int ((x4 + 1))), (0, .ref (A 0)), (1, .int (x1)), (3, .int (x3)), (5, .int (x5))] rfl ?_
        refine y_iinc C dX0_holesOf_32 4 rfl (Nat.le_of_ble_eq_true rfl) (ii_1 _) [(5, .int ((x5 + 1))), (4, .int ((x4 + 1))), (0, .ref (A 0)), (1, .int (x1)), (3, .int (x3))] rfl ?_
        refine y_goto C (tgt := 6) dX0_holesOf_35 rfl ?_
        exact Y.sub (ih ((x4 + 1)) ((x5 + 1)) (h_11)) [2, 3, 4, 1, 0] rfl
set_option maxRecDepth 100000 in
theorem met_o_holesOf (G : Gx) (A : Nat → Nat) (S : St) (x1 : Int32) (x2 : Int32) (x3 : Int32) (Q : Int32 → Prop) (h : wp_o_holesOf S x1 x2 x3 Q) : Ri G yX0_holesOf (ws_ yX0_holesOf cX0_holesOf 6 (some .int)) rm_o_holesOf (wC G A S) [.ref (A 0), .int (x1), .int (x2), .int (x3)] Q := by
  refine ent_Ri (by decide +kernel) rfl (Nat.le_of_ble_eq_true rfl) [(0, .ref (A 0)), (1, .int (x1)), (2, .int (x2)), (3, .int (x3))] rfl (fun K C N => ?_)
  refine y_iconst C dX0_holesOf_0 ic_0 ?_
  refine y_istore C dX0_holesOf_1 (Nat.le_of_ble_eq_true rfl) [(4, .int (0)), (0, .ref (A 0)), (1, .int (x1)), (2, .int (x2)), (3, .int (x3))] rfl ?_
  refine y_iload_n C dX0_holesOf_3 3 rfl rfl ?_
  refine y_istore C dX0_holesOf_4 (Nat.le_of_ble_eq_true rfl) [(5, .int (x2)), (4, .int (0)), (0, .ref (A 0)), (1, .int (x1)), (2, .int (x2)), (3, .int (x3))] rfl ?_
  obtain ⟨n_1, h_2⟩ := h
  exact Y.sub (wk_o_holesOf_b6 C N (x1) (x3) n_1 (0) (x2) h_2) [2, 3, 5, 1, 0] rfl
/-! OverHill holes(III)I: o_holes -/
abbrev rm_o_holes : Room := { frames := 6, cells := 0, slots := 0, locals := 152 }
def wp_o_holes (S : St) (x1 : Int32) (x2 : Int32) (x3 : Int32) (Q : Int32 → St → Prop) : Prop :=
  wp_o_isSide S (x1) (fun r_1 => ((r_1 = 0 → Q (-2) S) ∧ (¬ r_1 = 0 → wp_o_isSpan S (x2) (x3) (fun r_7 => ((¬ r_7 = 0 → wp_p_goesBoth_5 S (fun S_14 => wp_o_holesOf S_14 (x1) (x2) (x3) (fun r_15 => Q r_15 S_14))) ∧ (r_7 = 0 → Q (-2) S))))))
set_option maxRecDepth 100000 in
theorem met_o_holes (G : Gx) (A : Nat → Nat) (S : St) (x1 : Int32) (x2 : Int32) (x3 : Int32) (Q : Int32 → St → Prop) (h : wp_o_holes S x1 x2 x3 Q) : Mi G yX0_holes (ws_ yX0_holes cX0_holes 4 (some .int)) rm_o_holes (wC G A S) [.ref (A 0), .int (x1), .int (x2), .int (x3)] (wC G A) Q := by
  refine ent_Mi (by decide +kernel) rfl (Nat.le_of_ble_eq_true rfl) [(0, .ref (A 0)), (1, .int (x1)), (2, .int (x2)), (3, .int (x3))] rfl (fun K B C M N => ?_)
  refine y_aload_n C dX0_holes_0 0 rfl rfl ?_
  refine y_iload_n C dX0_holes_1 1 rfl rfl ?_
  refine y_callRiV (As := [.int (x1)]) (rest := []) C cs_X0_140 (met_o_isSide G A S (x1) _ (h)) (fun _ h => h) (wC_0 ..) rfl rfl ⟨rfl, rfl, Nat.le_of_ble_eq_true rfl, Nat.le_of_ble_eq_true rfl⟩ rfl rfl (Nat.le_of_ble_eq_true rfl) dX0_holes_2 ⟨Nat.zero_le _, Nat.zero_le _⟩ (fun r_1 h_2 => ?_)
  refine y_if_eq C (tgt := 17) dX0_holes_5 rfl (fun c_4 => ?_) (fun c_4 => ?_)
  · have h_5 := (h_2).1 c_4
    refine y_bipush C dX0_holes_17 bpm2 ?_
    exact y_iretM C M N rfl (S := S) rfl (h_5) dX0_holes_19
  · have h_6 := (h_2).2 c_4
    refine y_aload_n C dX0_holes_8 0 rfl rfl ?_
    refine y_iload_n C dX0_holes_9 2 rfl rfl ?_
    refine y_iload_n C dX0_holes_10 3 rfl rfl ?_
    refine y_callRiV (As := [.int (x2), .int (x3)]) (rest := []) C cs_X0_217 (met_o_isSpan G A S (x2) (x3) _ (h_6)) (fun _ h => h) (wC_0 ..) rfl rfl ⟨rfl, rfl, Nat.le_of_ble_eq_true rfl, Nat.le_of_ble_eq_true rfl⟩ rfl rfl (Nat.le_of_ble_eq_true rfl) dX0_holes_11 ⟨Nat.zero_le _, Nat.zero_le _⟩ (fun r_7 h_8 => ?_)
    refine y_if_ne C (tgt := 20) dX0_holes_14 rfl (fun c_10 => ?_) (fun c_10 => ?_)
    · have h_11 := (h_8).1 c_10
      refine y_aload_n C dX0_holes_20 0 rfl rfl ?_
      refine yg_X0_43_wC0 C dX0_holes_21 ?_
      refine y_callMvO (k' := 0) (n' := 0) (As := []) (rest := []) C M co_X0_206_X4 (met_p_goesBoth_5 G A S _ (h_11)) (wC_5 ..) rfl rfl ⟨rfl, rfl, Nat.le_of_ble_eq_true rfl, Nat.le_of_ble_eq_true rfl⟩ rfl rfl (Nat.le_of_ble_eq_true rfl) dX0_holes_24 ⟨Nat.zero_le _, Nat.zero_le _⟩ rfl rfl (fun S_14 h_13 => ?_)
      refine y_aload_n C dX0_holes_27 0 rfl rfl ?_
      refine y_iload_n C dX0_holes_28 1 rfl rfl ?_
      refine y_iload_n C dX0_holes_29 2 rfl rfl ?_
      refine y_iload_n C dX0_holes_30 3 rfl rfl ?_
      refine y_callRiV (As := [.int (x1), .int (x2), .int (x3)]) (rest := []) C cs_X0_220 (met_o_holesOf G A S_14 (x1) (x2) (x3) _ (h_13)) (fun _ h => h) (wC_0 ..) rfl rfl ⟨rfl, rfl, Nat.le_of_ble_eq_true rfl, Nat.le_of_ble_eq_true rfl⟩ rfl rfl (Nat.le_of_ble_eq_true rfl) dX0_holes_31 ⟨Nat.zero_le _, Nat.zero_le _⟩ (fun r_15 h_16 => ?_)
      exact y_iretM C M N rfl (S := S_14) rfl (h_16) dX0_holes_34
    · have h_18 := (h_8).2 c_10
      refine y_bipush C dX0_holes_17 bpm2 ?_
      exact y_iretM C M N rfl (S := S) rfl (h_18) dX0_holes_19
/-! OverHill findsRun(II)V: o_findsRun -/
abbrev rm_o_findsRun : Room := { frames := 6, cells := 0, slots := 0, locals := 152 }
def wp_o_findsRun_b55 (Q : St → Prop) (x2 : Int32) (K22 : St → Int32 → Int32 → Prop) (S : St) (x4 : Int32) (s0 : Int32) : Prop :=
  (((S.1 0 11) < s0 → K22 (sI (sI S 0 11 s0) 0 12 ((x4 - s0) + 1)) (s0) ((x4 + 1))) ∧ (¬ (S.1 0 11) < s0 → K22 S (s0) ((x4 + 1))))
def wp_o_findsRun_b48 (Q : St → Prop) (x2 : Int32) (K22 : St → Int32 → Int32 → Prop) (S : St) (x4 : Int32) : Prop :=
  wp_o_findsRun_b55 Q (x2) K22 S (x4) (0)
def wp_o_findsRun_b22 (Q : St → Prop) (x2 : Int32) : Nat → St → Int32 → Int32 → Prop
  | 0 => fun _ _ _ => False
  | n + 1 => fun S x3 x4 => ((x2 < x4 → Q S) ∧ (¬ x2 < x4 → wp_o_isHole S (0) (x4) (fun r_9 => ((¬ r_9 = 0 → wp_o_findsRun_b48 Q (x2) (fun Sy y3 y4 => wp_o_findsRun_b22 Q x2 n Sy y3 y4) S (x4)) ∧ (r_9 = 0 → wp_o_isHole S (1) (x4) (fun r_15 => ((r_15 = 0 → wp_o_findsRun_b55 Q (x2) (fun Sy y3 y4 => wp_o_findsRun_b22 Q x2 n Sy y3 y4) S (x4) ((x3 + 1))) ∧ (¬ r_15 = 0 → wp_o_findsRun_b48 Q (x2) (fun Sy y3 y4 => wp_o_findsRun_b22 Q x2 n Sy y3 y4) S (x4)))))))))
def wp_o_findsRun (S : St) (x1 : Int32) (x2 : Int32) (Q : St → Prop) : Prop :=
  wp_p_goesBoth_5 S (fun S_3 => (∃ z, wp_o_findsRun_b22 Q (x2) z (sI (sI S_3 0 11 0) 0 12 (-1)) (0) (x1)))
set_option maxRecDepth 100000 in
theorem wk_o_findsRun_b55 {G : Gx} {K : Kx} {A : Nat → Nat} (C : KOk G K RX0 cX0_findsRun rm_o_findsRun 5 none) {B : Nat → Prop} (M : KM G K B) {Q : St → Prop} (N : KQv G K B (wC G A) Q) (x2 : Int32) (K22 : St → Int32 → Int32 → Prop) (hK22 : ∀ (S : St) (x3 : Int32) (x4 : Int32), K22 S x3 x4 → Y G K 0 0 (wC G A S) 22 [(0, .ref (A 0)), (2, .int (x2)), (3, .int (x3)), (4, .int (x4))] []) (S : St) (x4 : Int32) (s0 : Int32) (h : wp_o_findsRun_b55 Q x2 K22 S x4 s0) : Y G K 0 0 (wC G A S) 55 [(0, .ref (A 0)), (2, .int (x2)), (4, .int (x4))] [.int (s0)] := by
  refine y_istore_n C dX0_findsRun_55 rfl (Nat.le_of_ble_eq_true rfl) [(3, .int (s0)), (0, .ref (A 0)), (2, .int (x2)), (4, .int (x4))] rfl ?_
  refine y_iload_n C dX0_findsRun_56 0 rfl rfl ?_
  refine y_aload_n C dX0_findsRun_57 1 rfl rfl ?_
  refine yg_X0_224_wC0 C dX0_findsRun_58 ?_
  refine y_icmp_gt C (tgt := 67) dX0_findsRun_61 rfl (fun c_21 => ?_) (fun c_21 => ?_)
  · have h_22 := (h).1 c_21
    refine y_aload_n C dX0_findsRun_67 1 rfl rfl ?_
    refine y_iload_n C dX0_findsRun_68 0 rfl rfl ?_
    refine yp_X0_224_wC0 C M dX0_findsRun_69 ?_
    refine y_aload_n C dX0_findsRun_72 1 rfl rfl ?_
    refine y_iload C dX0_findsRun_73 3 rfl ?_
    refine y_iload_n C dX0_findsRun_75 0 rfl rfl ?_
    refine y_isub C dX0_findsRun_76 ?_
    refine y_iconst C dX0_findsRun_77 ic_1 ?_
    refine y_iadd C dX0_findsRun_78 ?_
    refine yp_X0_227_wC0 C M dX0_findsRun_79 ?_
    refine y_iinc C dX0_findsRun_82 3 rfl (Nat.le_of_ble_eq_true rfl) (ii_1 _) [(4, .int ((x4 + 1))), (3, .int (s0)), (0, .ref (A 0)), (2, .int (x2))] rfl ?_
    refine y_goto C (tgt := 22) dX0_findsRun_85 rfl ?_
    exact Y.sub (hK22 (sI (sI S 0 11 s0) 0 12 ((x4 - s0) + 1)) (s0) ((x4 + 1)) (h_22)) [2, 3, 1, 0] rfl
  · have h_23 := (h).2 c_21
    refine y_goto C (tgt := 82) dX0_findsRun_64 rfl ?_
    refine y_iinc C dX0_findsRun_82 3 rfl (Nat.le_of_ble_eq_true rfl) (ii_1 _) [(4, .int ((x4 + 1))), (3, .int (s0)), (0, .ref (A 0)), (2, .int (x2))] rfl ?_
    refine y_goto C (tgt := 22) dX0_findsRun_85 rfl ?_
    exact Y.sub (hK22 S (s0) ((x4 + 1)) (h_23)) [2, 3, 1, 0] rfl
set_option maxRecDepth 100000 in
theorem wk_o_findsRun_b48 {G : Gx} {K : Kx} {A : Nat → Nat} (C : KOk G K RX0 cX0_findsRun rm_o_findsRun 5 none) {B : Nat → Prop} (M : KM G K B) {Q : St → Prop} (N : KQv G K B (wC G A) Q) (x2 : Int32) (K22 : St → Int32 → Int32 → Prop) (hK22 : ∀ (S : St) (x3 : Int32) (x4 : Int32), K22 S x3 x4 → Y G K 0 0 (wC G A S) 22 [(0, .ref (A 0)), (2, .int (x2)), (3, .int (x3)), (4, .int (x4))] []) (S : St) (x4 : Int32) (h : wp_o_findsRun_b48 Q x2 K22 S x4) : Y G K 0 0 (wC G A S) 48 [(0, .ref (A 0)), (2, .int (x2)), (4, .int (x4))] [] := by
  refine y_iconst C dX0_findsRun_48 ic_0 ?_
  refine y_goto C (tgt := 55) dX0_findsRun_49 rfl ?_
  exact Y.sub (wk_o_findsRun_b55 C M N (x2) K22 hK22 S (x4) (0) (h)) [0, 1, 2] rfl
set_option maxRecDepth 100000 in
theorem wk_o_findsRun_b22 {G : Gx} {K : Kx} {A : Nat → Nat} (C : KOk G K RX0 cX0_findsRun rm_o_findsRun 5 none) {B : Nat → Prop} (M : KM G K B) {Q : St → Prop} (N : KQv G K B (wC G A) Q) (x2 : Int32) : ∀ (n : Nat), ∀ (S : St) (x3 : Int32) (x4 : Int32), wp_o_findsRun_b22 Q x2 n S x3 x4 → Y G K 0 0 (wC G A S) 22 [(0, .ref (A 0)), (2, .int (x2)), (3, .int (x3)), (4, .int (x4))] [] := by
  intro n
  induction n with
  | zero => intro S x3 x4 h; exact h.elim
  | succ n ih =>
    intro S x3 x4 h
    dsimp only [wp_o_findsRun_b22] at h
    refine y_iload C dX0_findsRun_22 3 rfl ?_
    refine y_iload_n C dX0_findsRun_24 1 rfl rfl ?_
    refine y_icmp_gt C (tgt := 88) dX0_findsRun_25 rfl (fun c_6 => ?_) (fun c_6 => ?_)
    · have h_7 := (h).1 c_6
      exact y_vretM C M N rfl (S := S) rfl (h_7) dX0_findsRun_88
    · have h_8 := (h).2 c_6
      refine y_aload_n C dX0_findsRun_28 0 rfl rfl ?_
      refine y_iconst C dX0_findsRun_29 ic_0 ?_
      refine y_iload C dX0_findsRun_30 3 rfl ?_
      refine y_callRiV (As := [.int (0), .int (x4)]) (rest := []) C cs_X0_200 (met_o_isHole G A S (0) (x4) _ (h_8)) (fun _ h => h) (wC_0 ..) rfl rfl ⟨rfl, rfl, Nat.le_of_ble_eq_true rfl, Nat.le_of_ble_eq_true rfl⟩ rfl rfl (Nat.le_of_ble_eq_true rfl) dX0_findsRun_32 ⟨Nat.zero_le _, Nat.zero_le _⟩ (fun r_9 h_10 => ?_)
      refine y_if_ne C (tgt := 48) dX0_findsRun_35 rfl (fun c_12 => ?_) (fun c_12 => ?_)
      · have h_13 := (h_10).1 c_12
        exact Y.sub (wk_o_findsRun_b48 C M N (x2) (fun Sy y3 y4 => wp_o_findsRun_b22 Q x2 n Sy y3 y4) ih S (x4) (h_13)) [0, 1, 3] rfl
      · have h_14 := (h_10).2 c_12
        refine y_aload_n C dX0_findsRun_38 0 rfl rfl ?_
        refine y_iconst C dX0_findsRun_39 ic_1 ?_
        refine y_iload C dX0_findsRun_40 3 rfl ?_
        refine y_callRiV (As := [.int (1), .int (x4)]) (rest := []) C cs_X0_200 (met_o_isHole G A S (1) (x4) _ (h_14)) (fun _ h => h) (wC_0 ..) rfl rfl ⟨rfl, rfl, Nat.le_of_ble_eq_true rfl, Nat.le_of_ble_eq_true rfl⟩ rfl rfl (Nat.le_of_ble_eq_true rfl) dX0_findsRun_42 ⟨Nat.zero_le _, Nat.zero_le _⟩ (fun r_15 h_16 => ?_)
        refine y_if_eq C (tgt := 52) dX0_findsRun_45 rfl (fun c_18 => ?_) (fun c_18 => ?_)
        · have h_19 := (h_16).1 c_18
          refine y_iload_n C dX0_findsRun_52 2 rfl rfl ?_
          refine y_iconst C dX0_findsRun_53 ic_1 ?_
          refine y_iadd C dX0_findsRun_54 ?_
          exact Y.sub (wk_o_findsRun_b55 C M N (x2) (fun Sy y3 y4 => wp_o_findsRun_b22 Q x2 n Sy y3 y4) ih S (x4) ((x3 + 1)) (h_19)) [0, 1, 3] rfl
        · have h_20 := (h_16).2 c_18
          exact Y.sub (wk_o_findsRun_b48 C M N (x2) (fun Sy y3 y4 => wp_o_findsRun_b22 Q x2 n Sy y3 y4) ih S (x4) (h_20)) [0, 1, 3] rfl
set_option maxRecDepth 100000 in
theorem met_o_findsRun (G : Gx) (A : Nat → Nat) (S : St) (x1 : Int32) (x2 : Int32) (Q : St → Prop) (h : wp_o_findsRun S x1 x2 Q) : Mv G yX0_findsRun (ws_ yX0_findsRun cX0_findsRun 5 none) rm_o_findsRun (wC G A S) [.ref (A 0), .int (x1), .int (x2)] (wC G A) Q := by
  refine ent_Mv (by decide +kernel) rfl (Nat.le_of_ble_eq_true rfl) [(0, .ref (A 0)), (1, .int (x1)), (2, .int (x2))] rfl (fun K B C M N => ?_)
  refine y_aload_n C dX0_findsRun_0 0 rfl rfl ?_
  refine yg_X0_43_wC0 C dX0_findsRun_1 ?_
  refine y_callMvO (k' := 0) (n' := 0) (As := []) (rest := []) C M co_X0_206_X4 (met_p_goesBoth_5 G A S _ (h)) (wC_5 ..) rfl rfl ⟨rfl, rfl, Nat.le_of_ble_eq_true rfl, Nat.le_of_ble_eq_true rfl⟩ rfl rfl (Nat.le_of_ble_eq_true rfl) dX0_findsRun_4 ⟨Nat.zero_le _, Nat.zero_le _⟩ rfl rfl (fun S_3 h_2 => ?_)
  refine y_aload_n C dX0_findsRun_7 0 rfl rfl ?_
  refine y_iconst C dX0_findsRun_8 ic_0 ?_
  refine yp_X0_224_wC0 C M dX0_findsRun_9 ?_
  refine y_aload_n C dX0_findsRun_12 0 rfl rfl ?_
  refine y_iconst C dX0_findsRun_13 icm1 ?_
  refine yp_X0_227_wC0 C M dX0_findsRun_14 ?_
  refine y_iconst C dX0_findsRun_17 ic_0 ?_
  refine y_istore_n C dX0_findsRun_18 rfl (Nat.le_of_ble_eq_true rfl) [(3, .int (0)), (0, .ref (A 0)), (1, .int (x1)), (2, .int (x2))] rfl ?_
  refine y_iload_n C dX0_findsRun_19 2 rfl rfl ?_
  refine y_istore C dX0_findsRun_20 (Nat.le_of_ble_eq_true rfl) [(4, .int (x1)), (3, .int (0)), (0, .ref (A 0)), (1, .int (x1)), (2, .int (x2))] rfl ?_
  obtain ⟨n_4, h_5⟩ := h_2
  exact Y.sub (wk_o_findsRun_b22 C M N (x2) n_4 (sI (sI S_3 0 11 0) 0 12 (-1)) (0) (x1) h_5) [2, 4, 1, 0] rfl
/-! OverHill run(II)I: o_run -/
abbrev rm_o_run : Room := { frames := 7, cells := 0, slots := 0, locals := 176 }
def wp_o_run (S : St) (x1 : Int32) (x2 : Int32) (Q : Int32 → St → Prop) : Prop :=
  wp_o_isSpan S (x1) (x2) (fun r_1 => ((¬ r_1 = 0 → wp_o_findsRun S (x1) (x2) (fun S_8 => Q (S_8.1 0 11) S_8)) ∧ (r_1 = 0 → Q (-2) S)))
set_option maxRecDepth 100000 in
theorem met_o_run (G : Gx) (A : Nat → Nat) (S : St) (x1 : Int32) (x2 : Int32) (Q : Int32 → St → Prop) (h : wp_o_run S x1 x2 Q) : Mi G yX0_run (ws_ yX0_run cX0_run 3 (some .int)) rm_o_run (wC G A S) [.ref (A 0), .int (x1), .int (x2)] (wC G A) Q := by
  refine ent_Mi (by decide +kernel) rfl (Nat.le_of_ble_eq_true rfl) [(0, .ref (A 0)), (1, .int (x1)), (2, .int (x2))] rfl (fun K B C M N => ?_)
  refine y_aload_n C dX0_run_0 0 rfl rfl ?_
  refine y_iload_n C dX0_run_1 1 rfl rfl ?_
  refine y_iload_n C dX0_run_2 2 rfl rfl ?_
  refine y_callRiV (As := [.int (x1), .int (x2)]) (rest := []) C cs_X0_217 (met_o_isSpan G A S (x1) (x2) _ (h)) (fun _ h => h) (wC_0 ..) rfl rfl ⟨rfl, rfl, Nat.le_of_ble_eq_true rfl, Nat.le_of_ble_eq_true rfl⟩ rfl rfl (Nat.le_of_ble_eq_true rfl) dX0_run_3 ⟨Nat.zero_le _, Nat.zero_le _⟩ (fun r_1 h_2 => ?_)
  refine y_if_ne C (tgt := 12) dX0_run_6 rfl (fun c_4 => ?_) (fun c_4 => ?_)
  · have h_5 := (h_2).1 c_4
    refine y_aload_n C dX0_run_12 0 rfl rfl ?_
    refine y_iload_n C dX0_run_13 1 rfl rfl ?_
    refine y_iload_n C dX0_run_14 2 rfl rfl ?_
    refine y_callMvV (k' := 0) (n' := 0) (As := [.int (x1), .int (x2)]) (rest := []) C M cs_X0_230 (met_o_findsRun G A S (x1) (x2) _ (h_5)) (wC_0 ..) rfl rfl ⟨rfl, rfl, Nat.le_of_ble_eq_true rfl, Nat.le_of_ble_eq_true rfl⟩ rfl rfl (Nat.le_of_ble_eq_true rfl) dX0_run_15 ⟨Nat.zero_le _, Nat.zero_le _⟩ rfl rfl (fun S_8 h_7 => ?_)
    refine y_aload_n C dX0_run_18 0 rfl rfl ?_
    refine yg_X0_224_wC0 C dX0_run_19 ?_
    exact y_iretM C M N rfl (S := S_8) rfl (h_7) dX0_run_22
  · have h_9 := (h_2).2 c_4
    refine y_bipush C dX0_run_9 bpm2 ?_
    exact y_iretM C M N rfl (S := S) rfl (h_9) dX0_run_11
/-! OverHill begins(II)I: o_begins -/
abbrev rm_o_begins : Room := { frames := 7, cells := 0, slots := 0, locals := 176 }
def wp_o_begins (S : St) (x1 : Int32) (x2 : Int32) (Q : Int32 → St → Prop) : Prop :=
  wp_o_isSpan S (x1) (x2) (fun r_1 => ((¬ r_1 = 0 → wp_o_findsRun S (x1) (x2) (fun S_8 => Q (S_8.1 0 12) S_8)) ∧ (r_1 = 0 → Q (-2) S)))
set_option maxRecDepth 100000 in
theorem met_o_begins (G : Gx) (A : Nat → Nat) (S : St) (x1 : Int32) (x2 : Int32) (Q : Int32 → St → Prop) (h : wp_o_begins S x1 x2 Q) : Mi G yX0_begins (ws_ yX0_begins cX0_begins 3 (some .int)) rm_o_begins (wC G A S) [.ref (A 0), .int (x1), .int (x2)] (wC G A) Q := by
  refine ent_Mi (by decide +kernel) rfl (Nat.le_of_ble_eq_true rfl) [(0, .ref (A 0)), (1, .int (x1)), (2, .int (x2))] rfl (fun K B C M N => ?_)
  refine y_aload_n C dX0_begins_0 0 rfl rfl ?_
  refine y_iload_n C dX0_begins_1 1 rfl rfl ?_
  refine y_iload_n C dX0_begins_2 2 rfl rfl ?_
  refine y_callRiV (As := [.int (x1), .int (x2)]) (rest := []) C cs_X0_217 (met_o_isSpan G A S (x1) (x2) _ (h)) (fun _ h => h) (wC_0 ..) rfl rfl ⟨rfl, rfl, Nat.le_of_ble_eq_true rfl, Nat.le_of_ble_eq_true rfl⟩ rfl rfl (Nat.le_of_ble_eq_true rfl) dX0_begins_3 ⟨Nat.zero_le _, Nat.zero_le _⟩ (fun r_1 h_2 => ?_)
  refine y_if_ne C (tgt := 12) dX0_begins_6 rfl (fun c_4 => ?_) (fun c_4 => ?_)
  · have h_5 := (h_2).1 c_4
    refine y_aload_n C dX0_begins_12 0 rfl rfl ?_
    refine y_iload_n C dX0_begins_13 1 rfl rfl ?_
    refine y_iload_n C dX0_begins_14 2 rfl rfl ?_
    refine y_callMvV (k' := 0) (n' := 0) (As := [.int (x1), .int (x2)]) (rest := []) C M cs_X0_230 (met_o_findsRun G A S (x1) (x2) _ (h_5)) (wC_0 ..) rfl rfl ⟨rfl, rfl, Nat.le_of_ble_eq_true rfl, Nat.le_of_ble_eq_true rfl⟩ rfl rfl (Nat.le_of_ble_eq_true rfl) dX0_begins_15 ⟨Nat.zero_le _, Nat.zero_le _⟩ rfl rfl (fun S_8 h_7 => ?_)
    refine y_aload_n C dX0_begins_18 0 rfl rfl ?_
    refine yg_X0_227_wC0 C dX0_begins_19 ?_
    exact y_iretM C M N rfl (S := S_8) rfl (h_7) dX0_begins_22
  · have h_9 := (h_2).2 c_4
    refine y_bipush C dX0_begins_9 bpm2 ?_
    exact y_iretM C M N rfl (S := S) rfl (h_9) dX0_begins_11
/-! OverHill allHoles()I: o_allHoles -/
abbrev rm_o_allHoles : Room := { frames := 5, cells := 0, slots := 0, locals := 131 }
def wp_o_allHoles (S : St) (Q : Int32 → Prop) : Prop :=
  wp_o_holesOf S (0) (0) (199) (fun r_1 => wp_o_holesOf S (1) (0) (199) (fun r_4 => Q (r_1 + r_4)))
set_option maxRecDepth 100000 in
theorem met_o_allHoles (G : Gx) (A : Nat → Nat) (S : St) (Q : Int32 → Prop) (h : wp_o_allHoles S Q) : Ri G yX0_allHoles (ws_ yX0_allHoles cX0_allHoles 1 (some .int)) rm_o_allHoles (wC G A S) [.ref (A 0)] Q := by
  refine ent_Ri (by decide +kernel) rfl (Nat.le_of_ble_eq_true rfl) [(0, .ref (A 0))] rfl (fun K C N => ?_)
  refine y_aload_n C dX0_allHoles_0 0 rfl rfl ?_
  refine y_iconst C dX0_allHoles_1 ic_0 ?_
  refine y_iconst C dX0_allHoles_2 ic_0 ?_
  refine y_sipush C dX0_allHoles_3 sp_199 ?_
  refine y_callRiV (As := [.int (0), .int (0), .int (199)]) (rest := []) C cs_X0_220 (met_o_holesOf G A S (0) (0) (199) _ (h)) (fun _ h => h) (wC_0 ..) rfl rfl ⟨rfl, rfl, Nat.le_of_ble_eq_true rfl, Nat.le_of_ble_eq_true rfl⟩ rfl rfl (Nat.le_of_ble_eq_true rfl) dX0_allHoles_6 ⟨Nat.zero_le _, Nat.zero_le _⟩ (fun r_1 h_2 => ?_)
  refine y_aload_n C dX0_allHoles_9 0 rfl rfl ?_
  refine y_iconst C dX0_allHoles_10 ic_1 ?_
  refine y_iconst C dX0_allHoles_11 ic_0 ?_
  refine y_sipush C dX0_allHoles_12 sp_199 ?_
  refine y_callRiV (As := [.int (1), .int (0), .int (199)]) (rest := [.int (r_1)]) C cs_X0_220 (met_o_holesOf G A S (1) (0) (199) _ (h_2)) (fun _ h => h) (wC_0 ..) rfl rfl ⟨rfl, rfl, Nat.le_of_ble_eq_true rfl, Nat.le_of_ble_eq_true rfl⟩ rfl rfl (Nat.le_of_ble_eq_true rfl) dX0_allHoles_15 ⟨Nat.zero_le _, Nat.zero_le _⟩ (fun r_4 h_5 => ?_)
  refine y_iadd C dX0_allHoles_18 ?_
  exact y_iretR C N rfl (h_5) dX0_allHoles_19
/-! OverHill undoes(I)I: o_undoes -/
abbrev rm_o_undoes : Room := { frames := 6, cells := 0, slots := 0, locals := 152 }
def wp_o_undoes (S : St) (x1 : Int32) (Q : Int32 → St → Prop) : Prop :=
  wp_o_isStumble S (x1) (fun r_1 => ((¬ r_1 = 0 → wp_p_goesBoth_5 S (fun S_8 => wp_o_allHoles S_8 (fun r_9 => wp_p_goesBoth_6 (sI S_8 6 3 x1) (fun S_14 => wp_o_allHoles S_14 (fun r_15 => Q (r_9 - r_15) S_14))))) ∧ (r_1 = 0 → Q (-1000) S)))
set_option maxRecDepth 100000 in
theorem met_o_undoes (G : Gx) (A : Nat → Nat) (S : St) (x1 : Int32) (Q : Int32 → St → Prop) (h : wp_o_undoes S x1 Q) : Mi G yX0_undoes (ws_ yX0_undoes cX0_undoes 3 (some .int)) rm_o_undoes (wC G A S) [.ref (A 0), .int (x1)] (wC G A) Q := by
  refine ent_Mi (by decide +kernel) rfl (Nat.le_of_ble_eq_true rfl) [(0, .ref (A 0)), (1, .int (x1))] rfl (fun K B C M N => ?_)
  refine y_aload_n C dX0_undoes_0 0 rfl rfl ?_
  refine y_iload_n C dX0_undoes_1 1 rfl rfl ?_
  refine y_callRiV (As := [.int (x1)]) (rest := []) C cs_X0_166 (met_o_isStumble G A S (x1) _ (h)) (fun _ h => h) (wC_0 ..) rfl rfl ⟨rfl, rfl, Nat.le_of_ble_eq_true rfl, Nat.le_of_ble_eq_true rfl⟩ rfl rfl (Nat.le_of_ble_eq_true rfl) dX0_undoes_2 ⟨Nat.zero_le _, Nat.zero_le _⟩ (fun r_1 h_2 => ?_)
  refine y_if_ne C (tgt := 12) dX0_undoes_5 rfl (fun c_4 => ?_) (fun c_4 => ?_)
  · have h_5 := (h_2).1 c_4
    refine y_aload_n C dX0_undoes_12 0 rfl rfl ?_
    refine yg_X0_43_wC0 C dX0_undoes_13 ?_
    refine y_callMvO (k' := 0) (n' := 0) (As := []) (rest := []) C M co_X0_206_X4 (met_p_goesBoth_5 G A S _ (h_5)) (wC_5 ..) rfl rfl ⟨rfl, rfl, Nat.le_of_ble_eq_true rfl, Nat.le_of_ble_eq_true rfl⟩ rfl rfl (Nat.le_of_ble_eq_true rfl) dX0_undoes_16 ⟨Nat.zero_le _, Nat.zero_le _⟩ rfl rfl (fun S_8 h_7 => ?_)
    refine y_aload_n C dX0_undoes_19 0 rfl rfl ?_
    refine y_callRiV (As := []) (rest := []) C cs_X0_234 (met_o_allHoles G A S_8 _ (h_7)) (fun _ h => h) (wC_0 ..) rfl rfl ⟨rfl, rfl, Nat.le_of_ble_eq_true rfl, Nat.le_of_ble_eq_true rfl⟩ rfl rfl (Nat.le_of_ble_eq_true rfl) dX0_undoes_20 ⟨Nat.zero_le _, Nat.zero_le _⟩ (fun r_9 h_10 => ?_)
    refine y_istore_n C dX0_undoes_23 rfl (Nat.le_of_ble_eq_true rfl) [(2, .int (r_9)), (0, .ref (A 0)), (1, .int (x1))] rfl ?_
    refine y_aload_n C dX0_undoes_24 1 rfl rfl ?_
    refine yg_X0_50_wC0 C dX0_undoes_25 ?_
    refine y_iload_n C dX0_undoes_28 2 rfl rfl ?_
    refine yp_X0_238_wC6 C M dX0_undoes_29 ?_
    refine y_aload_n C dX0_undoes_32 1 rfl rfl ?_
    refine yg_X0_50_wC0 C dX0_undoes_33 ?_
    refine y_callMvO (k' := 0) (n' := 0) (As := []) (rest := []) C M co_X0_240_X5 (met_p_goesBoth_6 G A (sI S_8 6 3 x1) _ (h_10)) (wC_6 ..) rfl rfl ⟨rfl, rfl, Nat.le_of_ble_eq_true rfl, Nat.le_of_ble_eq_true rfl⟩ rfl rfl (Nat.le_of_ble_eq_true rfl) dX0_undoes_36 ⟨Nat.zero_le _, Nat.zero_le _⟩ rfl rfl (fun S_14 h_13 => ?_)
    refine y_iload_n C dX0_undoes_39 0 rfl rfl ?_
    refine y_aload_n C dX0_undoes_40 1 rfl rfl ?_
    refine y_callRiV (As := []) (rest := [.int (r_9)]) C cs_X0_234 (met_o_allHoles G A S_14 _ (h_13)) (fun _ h => h) (wC_0 ..) rfl rfl ⟨rfl, rfl, Nat.le_of_ble_eq_true rfl, Nat.le_of_ble_eq_true rfl⟩ rfl rfl (Nat.le_of_ble_eq_true rfl) dX0_undoes_41 ⟨Nat.zero_le _, Nat.zero_le _⟩ (fun r_15 h_16 => ?_)
    refine y_isub C dX0_undoes_44 ?_
    exact y_iretM C M N rfl (S := S_14) rfl (h_16) dX0_undoes_45
  · have h_18 := (h_2).2 c_4
    refine y_sipush C dX0_undoes_8 spm1000 ?_
    exact y_iretM C M N rfl (S := S) rfl (h_18) dX0_undoes_11
/-! OverHill causes(II)I: o_causes -/
abbrev rm_o_causes : Room := { frames := 6, cells := 0, slots := 0, locals := 152 }
def wp_o_causes_b35 (Q : Int32 → St → Prop) (x1 : Int32) (x2 : Int32) : Nat → St → Int32 → Int32 → Prop
  | 0 => fun _ _ _ => False
  | n + 1 => fun S x3 x4 => (((S.1 15 4) ≤ x4 → Q x3 S) ∧ (¬ (S.1 15 4) ≤ x4 → wp_p_goesBoth_6 (sI S 6 3 x4) (fun S_23 => wp_o_isHole S_23 (x1) (x2) (fun r_24 => ((r_24 = 0 → wp_o_causes_b35 Q x1 x2 n S_23 ((x3 ||| (1 <<< (x4 &&& 31)))) ((x4 + 1))) ∧ (¬ r_24 = 0 → wp_o_causes_b35 Q x1 x2 n S_23 ((x3 ||| 0)) ((x4 + 1))))))))
def wp_o_causes (S : St) (x1 : Int32) (x2 : Int32) (Q : Int32 → St → Prop) : Prop :=
  wp_o_isAsked S (x1) (x2) (fun r_1 => ((¬ r_1 = 0 → wp_p_goesBoth_5 S (fun S_8 => wp_o_isHole S_8 (x1) (x2) (fun r_9 => ((¬ r_9 = 0 → (∃ z, wp_o_causes_b35 Q (x1) (x2) z S_8 (0) (0))) ∧ (r_9 = 0 → Q 0 S_8))))) ∧ (r_1 = 0 → Q (-2) S)))
set_option maxRecDepth 100000 in
theorem wk_o_causes_b35 {G : Gx} {K : Kx} {A : Nat → Nat} (C : KOk G K RX0 cX0_causes rm_o_causes 5 (some .int)) {B : Nat → Prop} (M : KM G K B) {Q : Int32 → St → Prop} (N : KQi G K B (wC G A) Q) (x1 : Int32) (x2 : Int32) : ∀ (n : Nat), ∀ (S : St) (x3 : Int32) (x4 : Int32), wp_o_causes_b35 Q x1 x2 n S x3 x4 → Y G K 0 0 (wC G A S) 35 [(0, .ref (A 0)), (1, .int (x1)), (2, .int (x2)), (3, .int (x3)), (4, .int (x4))] [] := by
  intro n
  induction n with
  | zero => intro S x3 x4 h; exact h.elim
  | succ n ih =>
    intro S x3 x4 h
    dsimp only [wp_o_causes_b35] at h
    refine y_iload C dX0_causes_35 4 rfl ?_
    refine y_aload_n C dX0_causes_37 0 rfl rfl ?_
    refine yg_X0_12_wC0 C dX0_causes_38 ?_
    refine yg_X0_147_wC15 C dX0_causes_41 ?_
    refine y_icmp_ge C (tgt := 89) dX0_causes_44 rfl (fun c_18 => ?_) (fun c_18 => ?_)
    · have h_19 := (h).1 c_18
      refine y_iload_n C dX0_causes_89 3 rfl rfl ?_
      exact y_iretM C M N rfl (S := S) rfl (h_19) dX0_causes_90
    · have h_20 := (h).2 c_18
      refine y_aload_n C dX0_causes_47 0 rfl rfl ?_
      refine yg_X0_50_wC0 C dX0_causes_48 ?_
      refine y_iload C dX0_causes_51 4 rfl ?_
      refine yp_X0_238_wC6 C M dX0_causes_53 ?_
      refine y_aload_n C dX0_causes_56 0 rfl rfl ?_
      refine yg_X0_50_wC0 C dX0_causes_57 ?_
      refine y_callMvO (k' := 0) (n' := 0) (As := []) (rest := []) C M co_X0_240_X5 (met_p_goesBoth_6 G A (sI S 6 3 x4) _ (h_20)) (wC_6 ..) rfl rfl ⟨rfl, rfl, Nat.le_of_ble_eq_true rfl, Nat.le_of_ble_eq_true rfl⟩ rfl rfl (Nat.le_of_ble_eq_true rfl) dX0_causes_60 ⟨Nat.zero_le _, Nat.zero_le _⟩ rfl rfl (fun S_23 h_22 => ?_)
      refine y_iload_n C dX0_causes_63 3 rfl rfl ?_
      refine y_aload_n C dX0_causes_64 0 rfl rfl ?_
      refine y_iload_n C dX0_causes_65 1 rfl rfl ?_
      refine y_iload_n C dX0_causes_66 2 rfl rfl ?_
      refine y_callRiV (As := [.int (x1), .int (x2)]) (rest := [.int (x3)]) C cs_X0_200 (met_o_isHole G A S_23 (x1) (x2) _ (h_22)) (fun _ h => h) (wC_0 ..) rfl rfl ⟨rfl, rfl, Nat.le_of_ble_eq_true rfl, Nat.le_of_ble_eq_true rfl⟩ rfl rfl (Nat.le_of_ble_eq_true rfl) dX0_causes_67 ⟨Nat.zero_le _, Nat.zero_le _⟩ (fun r_24 h_25 => ?_)
      refine y_if_eq C (tgt := 77) dX0_causes_70 rfl (fun c_27 => ?_) (fun c_27 => ?_)
      · have h_28 := (h_25).1 c_27
        refine y_iconst C dX0_causes_77 ic_1 ?_
        refine y_iload C dX0_causes_78 4 rfl ?_
        refine y_ishl C dX0_causes_80 ?_
        refine y_ior C dX0_causes_81 ?_
        refine y_istore_n C dX0_causes_82 rfl (Nat.le_of_ble_eq_true rfl) [(3, .int ((x3 ||| (1 <<< (x4 &&& 31))))), (0, .ref (A 0)), (1, .int (x1)), (2, .int (x2)), (4, .int (x4))] rfl ?_
        refine y_iinc C dX0_causes_83 4 rfl (Nat.le_of_ble_eq_true rfl) (ii_1 _) [(4, .int ((x4 + 1))), (3, .int ((x3 ||| (1 <<< (x4 &&& 31))))), (0, .ref (A 0)), (1, .int (x1)), (2, .int (x2))] rfl ?_
        refine y_goto C (tgt := 35) dX0_causes_86 rfl ?_
        exact Y.sub (ih S_23 ((x3 ||| (1 <<< (x4 &&& 31)))) ((x4 + 1)) (h_28)) [2, 3, 4, 1, 0] rfl
      · have h_29 := (h_25).2 c_27
        refine y_iconst C dX0_causes_73 ic_0 ?_
        refine y_goto C (tgt := 81) dX0_causes_74 rfl ?_
        refine y_ior C dX0_causes_81 ?_
        refine y_istore_n C dX0_causes_82 rfl (Nat.le_of_ble_eq_true rfl) [(3, .int ((x3 ||| 0))), (0, .ref (A 0)), (1, .int (x1)), (2, .int (x2)), (4, .int (x4))] rfl ?_
        refine y_iinc C dX0_causes_83 4 rfl (Nat.le_of_ble_eq_true rfl) (ii_1 _) [(4, .int ((x4 + 1))), (3, .int ((x3 ||| 0))), (0, .ref (A 0)), (1, .int (x1)), (2, .int (x2))] rfl ?_
        refine y_goto C (tgt := 35) dX0_causes_86 rfl ?_
        exact Y.sub (ih S_23 ((x3 ||| 0)) ((x4 + 1)) (h_29)) [2, 3, 4, 1, 0] rfl
set_option maxRecDepth 100000 in
theorem met_o_causes (G : Gx) (A : Nat → Nat) (S : St) (x1 : Int32) (x2 : Int32) (Q : Int32 → St → Prop) (h : wp_o_causes S x1 x2 Q) : Mi G yX0_causes (ws_ yX0_causes cX0_causes 5 (some .int)) rm_o_causes (wC G A S) [.ref (A 0), .int (x1), .int (x2)] (wC G A) Q := by
  refine ent_Mi (by decide +kernel) rfl (Nat.le_of_ble_eq_true rfl) [(0, .ref (A 0)), (1, .int (x1)), (2, .int (x2))] rfl (fun K B C M N => ?_)
  refine y_aload_n C dX0_causes_0 0 rfl rfl ?_
  refine y_iload_n C dX0_causes_1 1 rfl rfl ?_
  refine y_iload_n C dX0_causes_2 2 rfl rfl ?_
  refine y_callRiV (As := [.int (x1), .int (x2)]) (rest := []) C cs_X0_203 (met_o_isAsked G A S (x1) (x2) _ (h)) (fun _ h => h) (wC_0 ..) rfl rfl ⟨rfl, rfl, Nat.le_of_ble_eq_true rfl, Nat.le_of_ble_eq_true rfl⟩ rfl rfl (Nat.le_of_ble_eq_true rfl) dX0_causes_3 ⟨Nat.zero_le _, Nat.zero_le _⟩ (fun r_1 h_2 => ?_)
  refine y_if_ne C (tgt := 12) dX0_causes_6 rfl (fun c_4 => ?_) (fun c_4 => ?_)
  · have h_5 := (h_2).1 c_4
    refine y_aload_n C dX0_causes_12 0 rfl rfl ?_
    refine yg_X0_43_wC0 C dX0_causes_13 ?_
    refine y_callMvO (k' := 0) (n' := 0) (As := []) (rest := []) C M co_X0_206_X4 (met_p_goesBoth_5 G A S _ (h_5)) (wC_5 ..) rfl rfl ⟨rfl, rfl, Nat.le_of_ble_eq_true rfl, Nat.le_of_ble_eq_true rfl⟩ rfl rfl (Nat.le_of_ble_eq_true rfl) dX0_causes_16 ⟨Nat.zero_le _, Nat.zero_le _⟩ rfl rfl (fun S_8 h_7 => ?_)
    refine y_aload_n C dX0_causes_19 0 rfl rfl ?_
    refine y_iload_n C dX0_causes_20 1 rfl rfl ?_
    refine y_iload_n C dX0_causes_21 2 rfl rfl ?_
    refine y_callRiV (As := [.int (x1), .int (x2)]) (rest := []) C cs_X0_200 (met_o_isHole G A S_8 (x1) (x2) _ (h_7)) (fun _ h => h) (wC_0 ..) rfl rfl ⟨rfl, rfl, Nat.le_of_ble_eq_true rfl, Nat.le_of_ble_eq_true rfl⟩ rfl rfl (Nat.le_of_ble_eq_true rfl) dX0_causes_22 ⟨Nat.zero_le _, Nat.zero_le _⟩ (fun r_9 h_10 => ?_)
    refine y_if_ne C (tgt := 30) dX0_causes_25 rfl (fun c_12 => ?_) (fun c_12 => ?_)
    · have h_13 := (h_10).1 c_12
      refine y_iconst C dX0_causes_30 ic_0 ?_
      refine y_istore_n C dX0_causes_31 rfl (Nat.le_of_ble_eq_true rfl) [(3, .int (0)), (0, .ref (A 0)), (1, .int (x1)), (2, .int (x2))] rfl ?_
      refine y_iconst C dX0_causes_32 ic_0 ?_
      refine y_istore C dX0_causes_33 (Nat.le_of_ble_eq_true rfl) [(4, .int (0)), (3, .int (0)), (0, .ref (A 0)), (1, .int (x1)), (2, .int (x2))] rfl ?_
      obtain ⟨n_14, h_15⟩ := h_13
      exact Y.sub (wk_o_causes_b35 C M N (x1) (x2) n_14 S_8 (0) (0) h_15) [2, 3, 4, 1, 0] rfl
    · have h_16 := (h_10).2 c_12
      refine y_iconst C dX0_causes_28 ic_0 ?_
      exact y_iretM C M N rfl (S := S_8) rfl (h_16) dX0_causes_29
  · have h_17 := (h_2).2 c_4
    refine y_bipush C dX0_causes_9 bpm2 ?_
    exact y_iretM C M N rfl (S := S) rfl (h_17) dX0_causes_11
/-! OverHill areRounds()Z: o_areRounds -/
abbrev rm_o_areRounds : Room := { frames := 2, cells := 0, slots := 0, locals := 60 }
def wp_o_areRounds (S : St) (Q : Int32 → Prop) : Prop :=
  wp_o_isDance S (fun r_1 => ((r_1 = 0 → Q 0) ∧ (¬ r_1 = 0 → (((S.1 16 0) ≤ 0 → Q 0) ∧ (¬ (S.1 16 0) ≤ 0 → (((S.1 16 1) ≤ 0 → Q 0) ∧ (¬ (S.1 16 1) ≤ 0 → Q 1)))))))
set_option maxRecDepth 100000 in
theorem met_o_areRounds (G : Gx) (A : Nat → Nat) (S : St) (Q : Int32 → Prop) (h : wp_o_areRounds S Q) : Ri G yX0_areRounds (ws_ yX0_areRounds cX0_areRounds 1 (some .boolean)) rm_o_areRounds (wC G A S) [.ref (A 0)] Q := by
  refine ent_Ri (by decide +kernel) rfl (Nat.le_of_ble_eq_true rfl) [(0, .ref (A 0))] rfl (fun K C N => ?_)
  refine y_aload_n C dX0_areRounds_0 0 rfl rfl ?_
  refine y_callRiV (As := []) (rest := []) C cs_X0_128 (met_o_isDance G A S _ (h)) (fun _ h => h) (wC_0 ..) rfl rfl ⟨rfl, rfl, Nat.le_of_ble_eq_true rfl, Nat.le_of_ble_eq_true rfl⟩ rfl rfl (Nat.le_of_ble_eq_true rfl) dX0_areRounds_1 ⟨Nat.zero_le _, Nat.zero_le _⟩ (fun r_1 h_2 => ?_)
  refine y_if_eq C (tgt := 35) dX0_areRounds_4 rfl (fun c_4 => ?_) (fun c_4 => ?_)
  · have h_5 := (h_2).1 c_4
    refine y_iconst C dX0_areRounds_35 ic_0 ?_
    exact y_zretR C N rfl rfl (h_5) dX0_areRounds_36
  · have h_6 := (h_2).2 c_4
    refine y_aload_n C dX0_areRounds_7 0 rfl rfl ?_
    refine yg_X0_12_wC0 C dX0_areRounds_8 ?_
    refine yg_X0_144_wC15 C dX0_areRounds_11 ?_
    refine y_iconst C dX0_areRounds_14 ic_0 ?_
    refine y_iald C (wC_16 ..) tn_0 vi_0_2 dX0_areRounds_15 ?_
    refine y_if_le C (tgt := 35) dX0_areRounds_16 rfl (fun c_7 => ?_) (fun c_7 => ?_)
    · have h_8 := (h_6).1 c_7
      refine y_iconst C dX0_areRounds_35 ic_0 ?_
      exact y_zretR C N rfl rfl (h_8) dX0_areRounds_36
    · have h_9 := (h_6).2 c_7
      refine y_aload_n C dX0_areRounds_19 0 rfl rfl ?_
      refine yg_X0_12_wC0 C dX0_areRounds_20 ?_
      refine yg_X0_144_wC15 C dX0_areRounds_23 ?_
      refine y_iconst C dX0_areRounds_26 ic_1 ?_
      refine y_iald C (wC_16 ..) tn_1 vi_1_2 dX0_areRounds_27 ?_
      refine y_if_le C (tgt := 35) dX0_areRounds_28 rfl (fun c_10 => ?_) (fun c_10 => ?_)
      · have h_11 := (h_9).1 c_10
        refine y_iconst C dX0_areRounds_35 ic_0 ?_
        exact y_zretR C N rfl rfl (h_11) dX0_areRounds_36
      · have h_12 := (h_9).2 c_10
        refine y_iconst C dX0_areRounds_31 ic_1 ?_
        refine y_goto C (tgt := 36) dX0_areRounds_32 rfl ?_
        exact y_zretR C N rfl rfl (h_12) dX0_areRounds_36
/-! OverHill divisor(II)I: o_divisor -/
abbrev rm_o_divisor : Room := { frames := 1, cells := 0, slots := 0, locals := 40 }
def wp_o_divisor_b4 (Q : Int32 → Prop) : Nat → Int32 → Int32 → Prop
  | 0 => fun _ _ => False
  | n + 1 => fun x2 x3 => ((x3 = 0 → Q x2) ∧ (¬ x3 = 0 → (¬ x3 = 0 ∧ wp_o_divisor_b4 Q n (x3) ((irm x2 x3)))))
def wp_o_divisor (x0 : Int32) (x1 : Int32) (Q : Int32 → Prop) : Prop :=
  (∃ z, wp_o_divisor_b4 Q z (x0) (x1))
set_option maxRecDepth 100000 in
theorem wk_o_divisor_b4 {G : Gx} {K : Kx} (C : KOk G K RX0 cX0_divisor rm_o_divisor 5 (some .int)) {Q : Int32 → Prop} (N : KRi K Q) : ∀ (n : Nat), ∀ (x2 : Int32) (x3 : Int32), wp_o_divisor_b4 Q n x2 x3 → Y G K 0 0 [] 4 [(2, .int (x2)), (3, .int (x3))] [] := by
  intro n
  induction n with
  | zero => intro x2 x3 h; exact h.elim
  | succ n ih =>
    intro x2 x3 h
    dsimp only [wp_o_divisor_b4] at h
    refine y_iload_n C dX0_divisor_4 1 rfl rfl ?_
    refine y_if_eq C (tgt := 21) dX0_divisor_5 rfl (fun c_3 => ?_) (fun c_3 => ?_)
    · have h_4 := (h).1 c_3
      refine y_iload_n C dX0_divisor_21 0 rfl rfl ?_
      exact y_iretR C N rfl (h_4) dX0_divisor_22
    · have h_5 := (h).2 c_3
      refine y_iload_n C dX0_divisor_8 0 rfl rfl ?_
      refine y_iload_n C dX0_divisor_9 1 rfl rfl ?_
      refine y_irem C dX0_divisor_10 (h_5).1 ?_
      refine y_istore C dX0_divisor_11 (Nat.le_of_ble_eq_true rfl) [(4, .int ((irm x2 x3))), (2, .int (x2)), (3, .int (x3))] rfl ?_
      refine y_iload_n C dX0_divisor_13 2 rfl rfl ?_
      refine y_istore_n C dX0_divisor_14 rfl (Nat.le_of_ble_eq_true rfl) [(2, .int (x3)), (4, .int ((irm x2 x3))), (3, .int (x3))] rfl ?_
      refine y_iload C dX0_divisor_15 1 rfl ?_
      refine y_istore_n C dX0_divisor_17 rfl (Nat.le_of_ble_eq_true rfl) [(3, .int ((irm x2 x3))), (2, .int (x3)), (4, .int ((irm x2 x3)))] rfl ?_
      refine y_goto C (tgt := 4) dX0_divisor_18 rfl ?_
      exact Y.sub (ih (x3) ((irm x2 x3)) ((h_5).2)) [1, 0] rfl
set_option maxRecDepth 100000 in
theorem met_o_divisor (G : Gx) (x0 : Int32) (x1 : Int32) (Q : Int32 → Prop) (h : wp_o_divisor x0 x1 Q) : Ri G yX0_divisor (ws_ yX0_divisor cX0_divisor 5 (some .int)) rm_o_divisor [] [.int (x0), .int (x1)] Q := by
  refine ent_Ri (by decide +kernel) rfl (Nat.le_of_ble_eq_true rfl) [(0, .int (x0)), (1, .int (x1))] rfl (fun K C N => ?_)
  refine y_iload_n C dX0_divisor_0 0 rfl rfl ?_
  refine y_istore_n C dX0_divisor_1 rfl (Nat.le_of_ble_eq_true rfl) [(2, .int (x0)), (0, .int (x0)), (1, .int (x1))] rfl ?_
  refine y_iload_n C dX0_divisor_2 2 rfl rfl ?_
  refine y_istore_n C dX0_divisor_3 rfl (Nat.le_of_ble_eq_true rfl) [(3, .int (x1)), (2, .int (x0)), (0, .int (x0)), (1, .int (x1))] rfl ?_
  obtain ⟨n_1, h_2⟩ := h
  exact Y.sub (wk_o_divisor_b4 C N n_1 (x0) (x1) h_2) [1, 0] rfl
/-! OverHill periodOf()I: o_periodOf -/
abbrev rm_o_periodOf : Room := { frames := 2, cells := 0, slots := 0, locals := 64 }
def wp_o_periodOf (S : St) (Q : Int32 → Prop) : Prop :=
  wp_o_divisor ((S.1 16 0)) ((S.1 16 1)) (fun r_1 => (¬ r_1 = 0 ∧ Q (((S.1 16 0) / r_1) * (S.1 16 1))))
set_option maxRecDepth 100000 in
theorem met_o_periodOf (G : Gx) (A : Nat → Nat) (S : St) (Q : Int32 → Prop) (h : wp_o_periodOf S Q) : Ri G yX0_periodOf (ws_ yX0_periodOf cX0_periodOf 1 (some .int)) rm_o_periodOf (wC G A S) [.ref (A 0)] Q := by
  refine ent_Ri (by decide +kernel) rfl (Nat.le_of_ble_eq_true rfl) [(0, .ref (A 0))] rfl (fun K C N => ?_)
  refine y_aload_n C dX0_periodOf_0 0 rfl rfl ?_
  refine yg_X0_12_wC0 C dX0_periodOf_1 ?_
  refine yg_X0_144_wC15 C dX0_periodOf_4 ?_
  refine y_iconst C dX0_periodOf_7 ic_0 ?_
  refine y_iald C (wC_16 ..) tn_0 vi_0_2 dX0_periodOf_8 ?_
  refine y_aload_n C dX0_periodOf_9 0 rfl rfl ?_
  refine yg_X0_12_wC0 C dX0_periodOf_10 ?_
  refine yg_X0_144_wC15 C dX0_periodOf_13 ?_
  refine y_iconst C dX0_periodOf_16 ic_0 ?_
  refine y_iald C (wC_16 ..) tn_0 vi_0_2 dX0_periodOf_17 ?_
  refine y_aload_n C dX0_periodOf_18 0 rfl rfl ?_
  refine yg_X0_12_wC0 C dX0_periodOf_19 ?_
  refine yg_X0_144_wC15 C dX0_periodOf_22 ?_
  refine y_iconst C dX0_periodOf_25 ic_1 ?_
  refine y_iald C (wC_16 ..) tn_1 vi_1_2 dX0_periodOf_26 ?_
  refine y_callRiS (As := [.int ((S.1 16 0)), .int ((S.1 16 1))]) (rest := [.int ((S.1 16 0))]) C cs_X0_241 (met_o_divisor G ((S.1 16 0)) ((S.1 16 1)) _ (h)) (fun _ _ => pw_nil) ⟨rfl, rfl, Nat.le_of_ble_eq_true rfl, Nat.le_of_ble_eq_true rfl⟩ rfl rfl (Nat.le_of_ble_eq_true rfl) dX0_periodOf_27 ⟨Nat.zero_le _, Nat.zero_le _⟩ (fun r_1 h_2 => ?_)
  refine y_idiv C dX0_periodOf_30 (h_2).1 ?_
  refine y_aload_n C dX0_periodOf_31 0 rfl rfl ?_
  refine yg_X0_12_wC0 C dX0_periodOf_32 ?_
  refine yg_X0_144_wC15 C dX0_periodOf_35 ?_
  refine y_iconst C dX0_periodOf_38 ic_1 ?_
  refine y_iald C (wC_16 ..) tn_1 vi_1_2 dX0_periodOf_39 ?_
  refine y_imul C dX0_periodOf_40 ?_
  exact y_iretR C N rfl ((h_2).2) dX0_periodOf_41
/-! OverHill period()I: o_period -/
abbrev rm_o_period : Room := { frames := 3, cells := 0, slots := 0, locals := 84 }
def wp_o_period (S : St) (Q : Int32 → Prop) : Prop :=
  wp_o_isDance S (fun r_1 => ((¬ r_1 = 0 → wp_o_areRounds S (fun r_6 => ((r_6 = 0 → Q (-1)) ∧ (¬ r_6 = 0 → wp_o_periodOf S (fun r_12 => Q r_12))))) ∧ (r_1 = 0 → Q (-2))))
set_option maxRecDepth 100000 in
theorem met_o_period (G : Gx) (A : Nat → Nat) (S : St) (Q : Int32 → Prop) (h : wp_o_period S Q) : Ri G yX0_period (ws_ yX0_period cX0_period 1 (some .int)) rm_o_period (wC G A S) [.ref (A 0)] Q := by
  refine ent_Ri (by decide +kernel) rfl (Nat.le_of_ble_eq_true rfl) [(0, .ref (A 0))] rfl (fun K C N => ?_)
  refine y_aload_n C dX0_period_0 0 rfl rfl ?_
  refine y_callRiV (As := []) (rest := []) C cs_X0_128 (met_o_isDance G A S _ (h)) (fun _ h => h) (wC_0 ..) rfl rfl ⟨rfl, rfl, Nat.le_of_ble_eq_true rfl, Nat.le_of_ble_eq_true rfl⟩ rfl rfl (Nat.le_of_ble_eq_true rfl) dX0_period_1 ⟨Nat.zero_le _, Nat.zero_le _⟩ (fun r_1 h_2 => ?_)
  refine y_if_ne C (tgt := 12) dX0_period_4 rfl (fun c_4 => ?_) (fun c_4 => ?_)
  · have h_5 := (h_2).1 c_4
    refine y_aload_n C dX0_period_12 0 rfl rfl ?_
    refine y_callRiV (As := []) (rest := []) C cs_X0_244 (met_o_areRounds G A S _ (h_5)) (fun _ h => h) (wC_0 ..) rfl rfl ⟨rfl, rfl, Nat.le_of_ble_eq_true rfl, Nat.le_of_ble_eq_true rfl⟩ rfl rfl (Nat.le_of_ble_eq_true rfl) dX0_period_13 ⟨Nat.zero_le _, Nat.zero_le _⟩ (fun r_6 h_7 => ?_)
    refine y_if_eq C (tgt := 26) dX0_period_16 rfl (fun c_9 => ?_) (fun c_9 => ?_)
    · have h_10 := (h_7).1 c_9
      refine y_iconst C dX0_period_26 icm1 ?_
      exact y_iretR C N rfl (h_10) dX0_period_27
    · have h_11 := (h_7).2 c_9
      refine y_aload_n C dX0_period_19 0 rfl rfl ?_
      refine y_callRiV (As := []) (rest := []) C cs_X0_247 (met_o_periodOf G A S _ (h_11)) (fun _ h => h) (wC_0 ..) rfl rfl ⟨rfl, rfl, Nat.le_of_ble_eq_true rfl, Nat.le_of_ble_eq_true rfl⟩ rfl rfl (Nat.le_of_ble_eq_true rfl) dX0_period_20 ⟨Nat.zero_le _, Nat.zero_le _⟩ (fun r_12 h_13 => ?_)
      refine y_goto C (tgt := 27) dX0_period_23 rfl ?_
      exact y_iretR C N rfl (h_13) dX0_period_27
  · have h_15 := (h_2).2 c_4
    refine y_bipush C dX0_period_7 bpm2 ?_
    refine y_goto C (tgt := 27) dX0_period_9 rfl ?_
    exact y_iretR C N rfl (h_15) dX0_period_27
/-! OverHill placeBy(II)I: o_placeBy -/
abbrev rm_o_placeBy : Room := { frames := 1, cells := 0, slots := 0, locals := 40 }
def wp_o_placeBy (S : St) (x1 : Int32) (x2 : Int32) (Q : Int32 → Prop) : Prop :=
  (vp_in x1 2 ∧ (vp_in x1 2 ∧ (¬ (S.1 16 (x1).toNatClampNeg) = 0 ∧ Q (irm ((S.1 17 (x1).toNatClampNeg) + x2) (S.1 16 (x1).toNatClampNeg)))))
set_option maxRecDepth 100000 in
theorem met_o_placeBy (G : Gx) (A : Nat → Nat) (S : St) (x1 : Int32) (x2 : Int32) (Q : Int32 → Prop) (h : wp_o_placeBy S x1 x2 Q) : Ri G yX0_placeBy (ws_ yX0_placeBy cX0_placeBy 3 (some .int)) rm_o_placeBy (wC G A S) [.ref (A 0), .int (x1), .int (x2)] Q := by
  refine ent_Ri (by decide +kernel) rfl (Nat.le_of_ble_eq_true rfl) [(0, .ref (A 0)), (1, .int (x1)), (2, .int (x2))] rfl (fun K C N => ?_)
  refine y_aload_n C dX0_placeBy_0 0 rfl rfl ?_
  refine yg_X0_12_wC0 C dX0_placeBy_1 ?_
  refine yg_X0_209_wC15 C dX0_placeBy_4 ?_
  refine y_iload_n C dX0_placeBy_7 1 rfl rfl ?_
  refine y_iald C (wC_17 ..) rfl (h).1 dX0_placeBy_8 ?_
  refine y_iload_n C dX0_placeBy_9 2 rfl rfl ?_
  refine y_iadd C dX0_placeBy_10 ?_
  refine y_aload_n C dX0_placeBy_11 0 rfl rfl ?_
  refine yg_X0_12_wC0 C dX0_placeBy_12 ?_
  refine yg_X0_144_wC15 C dX0_placeBy_15 ?_
  refine y_iload_n C dX0_placeBy_18 1 rfl rfl ?_
  refine y_iald C (wC_16 ..) rfl ((h).2).1 dX0_placeBy_19 ?_
  refine y_irem C dX0_placeBy_20 (((h).2).2).1 ?_
  exact y_iretR C N rfl ((((h).2).2).2) dX0_placeBy_21
/-! OverHill meets(III)I: o_meets -/
abbrev rm_o_meets : Room := { frames := 5, cells := 0, slots := 0, locals := 129 }
def wp_o_meets_b33 (S : St) (Q : Int32 → Prop) (x1 : Int32) (x2 : Int32) (x3 : Int32) : Nat → Int32 → Prop
  | 0 => fun _ => False
  | n + 1 => fun x4 => wp_o_periodOf S (fun r_21 => (((x3 + r_21) ≤ x4 → Q (-1)) ∧ (¬ (x3 + r_21) ≤ x4 → wp_o_placeBy S (0) (x4) (fun r_27 => ((¬ r_27 = x1 → wp_o_meets_b33 S Q x1 x2 x3 n ((x4 + 1))) ∧ (r_27 = x1 → wp_o_placeBy S (1) (x4) (fun r_33 => ((¬ r_33 = x2 → wp_o_meets_b33 S Q x1 x2 x3 n ((x4 + 1))) ∧ (r_33 = x2 → Q x4)))))))))
def wp_o_meets (S : St) (x1 : Int32) (x2 : Int32) (x3 : Int32) (Q : Int32 → Prop) : Prop :=
  wp_o_isPlace S (0) (x1) (fun r_1 => ((r_1 = 0 → Q (-2)) ∧ (¬ r_1 = 0 → wp_o_isPlace S (1) (x2) (fun r_7 => ((r_7 = 0 → Q (-2)) ∧ (¬ r_7 = 0 → wp_o_isBeat S ((x3).toInt64) (fun r_13 => ((¬ r_13 = 0 → (∃ z, wp_o_meets_b33 S Q (x1) (x2) (x3) z (x3))) ∧ (r_13 = 0 → Q (-2))))))))))
set_option maxRecDepth 100000 in
theorem wk_o_meets_b33 {G : Gx} {K : Kx} {A : Nat → Nat} (C : KOk G K RX0 cX0_meets rm_o_meets 5 (some .int)) {S : St} {Q : Int32 → Prop} (N : KRi K Q) (x1 : Int32) (x2 : Int32) (x3 : Int32) : ∀ (n : Nat), ∀ (x4 : Int32), wp_o_meets_b33 S Q x1 x2 x3 n x4 → Y G K 0 0 (wC G A S) 33 [(0, .ref (A 0)), (1, .int (x1)), (2, .int (x2)), (3, .int (x3)), (4, .int (x4))] [] := by
  intro n
  induction n with
  | zero => intro x4 h; exact h.elim
  | succ n ih =>
    intro x4 h
    dsimp only [wp_o_meets_b33] at h
    refine y_iload C dX0_meets_33 4 rfl ?_
    refine y_iload_n C dX0_meets_35 3 rfl rfl ?_
    refine y_aload_n C dX0_meets_36 0 rfl rfl ?_
    refine y_callRiV (As := []) (rest := [.int (x3), .int (x4)]) C cs_X0_247 (met_o_periodOf G A S _ (h)) (fun _ h => h) (wC_0 ..) rfl rfl ⟨rfl, rfl, Nat.le_of_ble_eq_true rfl, Nat.le_of_ble_eq_true rfl⟩ rfl rfl (Nat.le_of_ble_eq_true rfl) dX0_meets_37 ⟨Nat.zero_le _, Nat.zero_le _⟩ (fun r_21 h_22 => ?_)
    refine y_iadd C dX0_meets_40 ?_
    refine y_icmp_ge C (tgt := 75) dX0_meets_41 rfl (fun c_24 => ?_) (fun c_24 => ?_)
    · have h_25 := (h_22).1 c_24
      refine y_iconst C dX0_meets_75 icm1 ?_
      exact y_iretR C N rfl (h_25) dX0_meets_76
    · have h_26 := (h_22).2 c_24
      refine y_aload_n C dX0_meets_44 0 rfl rfl ?_
      refine y_iconst C dX0_meets_45 ic_0 ?_
      refine y_iload C dX0_meets_46 4 rfl ?_
      refine y_callRiV (As := [.int (0), .int (x4)]) (rest := []) C cs_X0_250 (met_o_placeBy G A S (0) (x4) _ (h_26)) (fun _ h => h) (wC_0 ..) rfl rfl ⟨rfl, rfl, Nat.le_of_ble_eq_true rfl, Nat.le_of_ble_eq_true rfl⟩ rfl rfl (Nat.le_of_ble_eq_true rfl) dX0_meets_48 ⟨Nat.zero_le _, Nat.zero_le _⟩ (fun r_27 h_28 => ?_)
      refine y_iload_n C dX0_meets_51 1 rfl rfl ?_
      refine y_icmp_ne C (tgt := 69) dX0_meets_52 rfl (fun c_30 => ?_) (fun c_30 => ?_)
      · have h_31 := (h_28).1 c_30
        refine y_iinc C dX0_meets_69 4 rfl (Nat.le_of_ble_eq_true rfl) (ii_1 _) [(4, .int ((x4 + 1))), (0, .ref (A 0)), (1, .int (x1)), (2, .int (x2)), (3, .int (x3))] rfl ?_
        refine y_goto C (tgt := 33) dX0_meets_72 rfl ?_
        exact Y.sub (ih ((x4 + 1)) (h_31)) [1, 2, 3, 4, 0] rfl
      · have h_32 := (h_28).2 c_30
        refine y_aload_n C dX0_meets_55 0 rfl rfl ?_
        refine y_iconst C dX0_meets_56 ic_1 ?_
        refine y_iload C dX0_meets_57 4 rfl ?_
        refine y_callRiV (As := [.int (1), .int (x4)]) (rest := []) C cs_X0_250 (met_o_placeBy G A S (1) (x4) _ (h_32)) (fun _ h => h) (wC_0 ..) rfl rfl ⟨rfl, rfl, Nat.le_of_ble_eq_true rfl, Nat.le_of_ble_eq_true rfl⟩ rfl rfl (Nat.le_of_ble_eq_true rfl) dX0_meets_59 ⟨Nat.zero_le _, Nat.zero_le _⟩ (fun r_33 h_34 => ?_)
        refine y_iload_n C dX0_meets_62 2 rfl rfl ?_
        refine y_icmp_ne C (tgt := 69) dX0_meets_63 rfl (fun c_36 => ?_) (fun c_36 => ?_)
        · have h_37 := (h_34).1 c_36
          refine y_iinc C dX0_meets_69 4 rfl (Nat.le_of_ble_eq_true rfl) (ii_1 _) [(4, .int ((x4 + 1))), (0, .ref (A 0)), (1, .int (x1)), (2, .int (x2)), (3, .int (x3))] rfl ?_
          refine y_goto C (tgt := 33) dX0_meets_72 rfl ?_
          exact Y.sub (ih ((x4 + 1)) (h_37)) [1, 2, 3, 4, 0] rfl
        · have h_38 := (h_34).2 c_36
          refine y_iload C dX0_meets_66 4 rfl ?_
          exact y_iretR C N rfl (h_38) dX0_meets_68
set_option maxRecDepth 100000 in
theorem met_o_meets (G : Gx) (A : Nat → Nat) (S : St) (x1 : Int32) (x2 : Int32) (x3 : Int32) (Q : Int32 → Prop) (h : wp_o_meets S x1 x2 x3 Q) : Ri G yX0_meets (ws_ yX0_meets cX0_meets 5 (some .int)) rm_o_meets (wC G A S) [.ref (A 0), .int (x1), .int (x2), .int (x3)] Q := by
  refine ent_Ri (by decide +kernel) rfl (Nat.le_of_ble_eq_true rfl) [(0, .ref (A 0)), (1, .int (x1)), (2, .int (x2)), (3, .int (x3))] rfl (fun K C N => ?_)
  refine y_aload_n C dX0_meets_0 0 rfl rfl ?_
  refine y_iconst C dX0_meets_1 ic_0 ?_
  refine y_iload_n C dX0_meets_2 1 rfl rfl ?_
  refine y_callRiV (As := [.int (0), .int (x1)]) (rest := []) C cs_X0_152 (met_o_isPlace G A S (0) (x1) _ (h)) (fun _ h => h) (wC_0 ..) rfl rfl ⟨rfl, rfl, Nat.le_of_ble_eq_true rfl, Nat.le_of_ble_eq_true rfl⟩ rfl rfl (Nat.le_of_ble_eq_true rfl) dX0_meets_3 ⟨Nat.zero_le _, Nat.zero_le _⟩ (fun r_1 h_2 => ?_)
  refine y_if_eq C (tgt := 27) dX0_meets_6 rfl (fun c_4 => ?_) (fun c_4 => ?_)
  · have h_5 := (h_2).1 c_4
    refine y_bipush C dX0_meets_27 bpm2 ?_
    exact y_iretR C N rfl (h_5) dX0_meets_29
  · have h_6 := (h_2).2 c_4
    refine y_aload_n C dX0_meets_9 0 rfl rfl ?_
    refine y_iconst C dX0_meets_10 ic_1 ?_
    refine y_iload_n C dX0_meets_11 2 rfl rfl ?_
    refine y_callRiV (As := [.int (1), .int (x2)]) (rest := []) C cs_X0_152 (met_o_isPlace G A S (1) (x2) _ (h_6)) (fun _ h => h) (wC_0 ..) rfl rfl ⟨rfl, rfl, Nat.le_of_ble_eq_true rfl, Nat.le_of_ble_eq_true rfl⟩ rfl rfl (Nat.le_of_ble_eq_true rfl) dX0_meets_12 ⟨Nat.zero_le _, Nat.zero_le _⟩ (fun r_7 h_8 => ?_)
    refine y_if_eq C (tgt := 27) dX0_meets_15 rfl (fun c_10 => ?_) (fun c_10 => ?_)
    · have h_11 := (h_8).1 c_10
      refine y_bipush C dX0_meets_27 bpm2 ?_
      exact y_iretR C N rfl (h_11) dX0_meets_29
    · have h_12 := (h_8).2 c_10
      refine y_aload_n C dX0_meets_18 0 rfl rfl ?_
      refine y_iload_n C dX0_meets_19 3 rfl rfl ?_
      refine y_i2l C dX0_meets_20 rfl ?_
      refine y_callRiV (As := [.long ((x3).toInt64)]) (rest := []) C cs_X0_181 (met_o_isBeat G A S ((x3).toInt64) _ (h_12)) (fun _ h => h) (wC_0 ..) rfl rfl ⟨rfl, rfl, Nat.le_of_ble_eq_true rfl, Nat.le_of_ble_eq_true rfl⟩ rfl rfl (Nat.le_of_ble_eq_true rfl) dX0_meets_21 ⟨Nat.zero_le _, Nat.zero_le _⟩ (fun r_13 h_14 => ?_)
      refine y_if_ne C (tgt := 30) dX0_meets_24 rfl (fun c_16 => ?_) (fun c_16 => ?_)
      · have h_17 := (h_14).1 c_16
        refine y_iload_n C dX0_meets_30 3 rfl rfl ?_
        refine y_istore C dX0_meets_31 (Nat.le_of_ble_eq_true rfl) [(4, .int (x3)), (0, .ref (A 0)), (1, .int (x1)), (2, .int (x2)), (3, .int (x3))] rfl ?_
        obtain ⟨n_18, h_19⟩ := h_17
        exact Y.sub (wk_o_meets_b33 C N (x1) (x2) (x3) n_18 (x3) h_19) [1, 2, 3, 4, 0] rfl
      · have h_20 := (h_14).2 c_16
        refine y_bipush C dX0_meets_27 bpm2 ?_
        exact y_iretR C N rfl (h_20) dX0_meets_29
/-! OverHill clashes(II)Z: o_clashes -/
abbrev rm_o_clashes : Room := { frames := 2, cells := 0, slots := 0, locals := 61 }
def wp_o_clashes (S : St) (x1 : Int32) (x2 : Int32) (Q : Int32 → Prop) : Prop :=
  (vp_in x1 6 ∧ wp_o_has ((S.1 19 (x1).toNatClampNeg)) (x2) (fun r_1 => ((¬ r_1 = 0 → Q 0) ∧ (r_1 = 0 → Q 1))))
set_option maxRecDepth 100000 in
theorem met_o_clashes (G : Gx) (A : Nat → Nat) (S : St) (x1 : Int32) (x2 : Int32) (Q : Int32 → Prop) (h : wp_o_clashes S x1 x2 Q) : Ri G yX0_clashes (ws_ yX0_clashes cX0_clashes 3 (some .boolean)) rm_o_clashes (wC G A S) [.ref (A 0), .int (x1), .int (x2)] Q := by
  refine ent_Ri (by decide +kernel) rfl (Nat.le_of_ble_eq_true rfl) [(0, .ref (A 0)), (1, .int (x1)), (2, .int (x2))] rfl (fun K C N => ?_)
  refine y_aload_n C dX0_clashes_0 0 rfl rfl ?_
  refine yg_X0_12_wC0 C dX0_clashes_1 ?_
  refine yg_X0_163_wC15 C dX0_clashes_4 ?_
  refine y_iload_n C dX0_clashes_7 1 rfl rfl ?_
  refine y_iald C (wC_19 ..) rfl (h).1 dX0_clashes_8 ?_
  refine y_iload_n C dX0_clashes_9 2 rfl rfl ?_
  refine y_callRiS (As := [.int ((S.1 19 (x1).toNatClampNeg)), .int (x2)]) (rest := []) C cs_X0_197 (met_o_has G ((S.1 19 (x1).toNatClampNeg)) (x2) _ ((h).2)) (fun _ _ => pw_nil) ⟨rfl, rfl, Nat.le_of_ble_eq_true rfl, Nat.le_of_ble_eq_true rfl⟩ rfl rfl (Nat.le_of_ble_eq_true rfl) dX0_clashes_10 ⟨Nat.zero_le _, Nat.zero_le _⟩ (fun r_1 h_2 => ?_)
  refine y_if_ne C (tgt := 20) dX0_clashes_13 rfl (fun c_4 => ?_) (fun c_4 => ?_)
  · have h_5 := (h_2).1 c_4
    refine y_iconst C dX0_clashes_20 ic_0 ?_
    exact y_zretR C N rfl rfl (h_5) dX0_clashes_21
  · have h_6 := (h_2).2 c_4
    refine y_iconst C dX0_clashes_16 ic_1 ?_
    refine y_goto C (tgt := 21) dX0_clashes_17 rfl ?_
    exact y_zretR C N rfl rfl (h_6) dX0_clashes_21
/-! OverHill shiftedBy(I)I: o_shiftedBy -/
abbrev rm_o_shiftedBy : Room := { frames := 3, cells := 0, slots := 0, locals := 84 }
def wp_o_shiftedBy_b99 (S : St) (Q : Int32 → Prop) (x1 : Int32) (K10 : Int32 → Int32 → Prop) (x3 : Int32) (x5 : Int32) (s0 : Int32) (s1 : Int32) : Prop :=
  wp_o_placeBy S (0) ((x3 - (S.1 15 0))) (fun r_33 => wp_d_step S (0) (r_33) (fun r_36 => wp_o_clashes S (x5) (r_36) (fun r_39 => ((r_39 = 0 → K10 (((s1 + s0) + 0)) ((x3 + 1))) ∧ (¬ r_39 = 0 → K10 (((s1 + s0) + 1)) ((x3 + 1)))))))
def wp_o_shiftedBy_b10 (S : St) (Q : Int32 → Prop) (x1 : Int32) : Nat → Int32 → Int32 → Prop
  | 0 => fun _ _ => False
  | n + 1 => fun x2 x3 => wp_o_periodOf S (fun r_3 => ((((S.1 15 0) + r_3) ≤ x3 → Q x2) ∧ (¬ ((S.1 15 0) + r_3) ≤ x3 → wp_o_placeBy S (0) (x3) (fun r_9 => wp_d_step S (0) (r_9) (fun r_12 => wp_o_placeBy S (1) ((x3 + x1)) (fun r_15 => wp_d_step S (1) (r_15) (fun r_18 => wp_o_placeBy S (1) (((x3 - (S.1 15 0)) + x1)) (fun r_21 => wp_d_step S (1) (r_21) (fun r_24 => wp_o_clashes S (r_12) (r_24) (fun r_27 => ((r_27 = 0 → wp_o_shiftedBy_b99 S Q (x1) (fun y2 y3 => wp_o_shiftedBy_b10 S Q x1 n y2 y3) (x3) (r_18) (0) (x2)) ∧ (¬ r_27 = 0 → wp_o_shiftedBy_b99 S Q (x1) (fun y2 y3 => wp_o_shiftedBy_b10 S Q x1 n y2 y3) (x3) (r_18) (1) (x2)))))))))))))
def wp_o_shiftedBy (S : St) (x1 : Int32) (Q : Int32 → Prop) : Prop :=
  (∃ z, wp_o_shiftedBy_b10 S Q (x1) z (0) ((S.1 15 0)))
set_option maxRecDepth 100000 in
theorem wk_o_shiftedBy_b99 {G : Gx} {K : Kx} {A : Nat → Nat} (C : KOk G K RX0 cX0_shiftedBy rm_o_shiftedBy 6 (some .int)) {S : St} {Q : Int32 → Prop} (N : KRi K Q) (x1 : Int32) (K10 : Int32 → Int32 → Prop) (hK10 : ∀ (x2 : Int32) (x3 : Int32), K10 x2 x3 → Y G K 0 0 (wC G A S) 10 [(0, .ref (A 0)), (1, .int (x1)), (2, .int (x2)), (3, .int (x3))] []) (x3 : Int32) (x5 : Int32) (s0 : Int32) (s1 : Int32) (h : wp_o_shiftedBy_b99 S Q x1 K10 x3 x5 s0 s1) : Y G K 0 0 (wC G A S) 99 [(0, .ref (A 0)), (1, .int (x1)), (3, .int (x3)), (5, .int (x5))] [.int (s0), .int (s1)] := by
  refine y_iadd C dX0_shiftedBy_99 ?_
  refine y_istore_n C dX0_shiftedBy_100 rfl (Nat.le_of_ble_eq_true rfl) [(2, .int ((s1 + s0))), (0, .ref (A 0)), (1, .int (x1)), (3, .int (x3)), (5, .int (x5))] rfl ?_
  refine y_iload_n C dX0_shiftedBy_101 0 rfl rfl ?_
  refine y_aload_n C dX0_shiftedBy_102 1 rfl rfl ?_
  refine y_iload C dX0_shiftedBy_103 4 rfl ?_
  refine y_aload_n C dX0_shiftedBy_105 1 rfl rfl ?_
  refine yg_X0_12_wC0 C dX0_shiftedBy_106 ?_
  refine y_iconst C dX0_shiftedBy_109 ic_0 ?_
  refine y_aload_n C dX0_shiftedBy_110 1 rfl rfl ?_
  refine y_iconst C dX0_shiftedBy_111 ic_0 ?_
  refine y_iload_n C dX0_shiftedBy_112 3 rfl rfl ?_
  refine y_aload_n C dX0_shiftedBy_113 1 rfl rfl ?_
  refine yg_X0_12_wC0 C dX0_shiftedBy_114 ?_
  refine yg_X0_188_wC15 C dX0_shiftedBy_117 ?_
  refine y_isub C dX0_shiftedBy_120 ?_
  refine y_callRiV (As := [.int (0), .int ((x3 - (S.1 15 0)))]) (rest := [.int (0), .ref (A 15), .int (x5), .ref (A 0), .int ((s1 + s0))]) C cs_X0_250 (met_o_placeBy G A S (0) ((x3 - (S.1 15 0))) _ (h)) (fun _ h => h) (wC_0 ..) rfl rfl ⟨rfl, rfl, Nat.le_of_ble_eq_true rfl, Nat.le_of_ble_eq_true rfl⟩ rfl rfl (Nat.le_of_ble_eq_true rfl) dX0_shiftedBy_121 ⟨Nat.zero_le _, Nat.zero_le _⟩ (fun r_33 h_34 => ?_)
  refine y_callRiV (As := [.int (0), .int (r_33)]) (rest := [.int (x5), .ref (A 0), .int ((s1 + s0))]) C cs_X0_155 (met_d_step G A S (0) (r_33) _ (h_34)) (fun _ h => wC_D h) (wC_15 ..) rfl rfl ⟨rfl, rfl, Nat.le_of_ble_eq_true rfl, Nat.le_of_ble_eq_true rfl⟩ rfl rfl (Nat.le_of_ble_eq_true rfl) dX0_shiftedBy_124 ⟨Nat.zero_le _, Nat.zero_le _⟩ (fun r_36 h_37 => ?_)
  refine y_callRiV (As := [.int (x5), .int (r_36)]) (rest := [.int ((s1 + s0))]) C cs_X0_253 (met_o_clashes G A S (x5) (r_36) _ (h_37)) (fun _ h => h) (wC_0 ..) rfl rfl ⟨rfl, rfl, Nat.le_of_ble_eq_true rfl, Nat.le_of_ble_eq_true rfl⟩ rfl rfl (Nat.le_of_ble_eq_true rfl) dX0_shiftedBy_127 ⟨Nat.zero_le _, Nat.zero_le _⟩ (fun r_39 h_40 => ?_)
  refine y_if_eq C (tgt := 137) dX0_shiftedBy_130 rfl (fun c_42 => ?_) (fun c_42 => ?_)
  · have h_43 := (h_40).1 c_42
    refine y_iconst C dX0_shiftedBy_137 ic_0 ?_
    refine y_iadd C dX0_shiftedBy_138 ?_
    refine y_istore_n C dX0_shiftedBy_139 rfl (Nat.le_of_ble_eq_true rfl) [(2, .int (((s1 + s0) + 0))), (0, .ref (A 0)), (1, .int (x1)), (3, .int (x3)), (5, .int (x5))] rfl ?_
    refine y_iinc C dX0_shiftedBy_140 3 rfl (Nat.le_of_ble_eq_true rfl) (ii_1 _) [(3, .int ((x3 + 1))), (2, .int (((s1 + s0) + 0))), (0, .ref (A 0)), (1, .int (x1)), (5, .int (x5))] rfl ?_
    refine y_goto C (tgt := 10) dX0_shiftedBy_143 rfl ?_
    exact Y.sub (hK10 (((s1 + s0) + 0)) ((x3 + 1)) (h_43)) [2, 3, 1, 0] rfl
  · have h_44 := (h_40).2 c_42
    refine y_iconst C dX0_shiftedBy_133 ic_1 ?_
    refine y_goto C (tgt := 138) dX0_shiftedBy_134 rfl ?_
    refine y_iadd C dX0_shiftedBy_138 ?_
    refine y_istore_n C dX0_shiftedBy_139 rfl (Nat.le_of_ble_eq_true rfl) [(2, .int (((s1 + s0) + 1))), (0, .ref (A 0)), (1, .int (x1)), (3, .int (x3)), (5, .int (x5))] rfl ?_
    refine y_iinc C dX0_shiftedBy_140 3 rfl (Nat.le_of_ble_eq_true rfl) (ii_1 _) [(3, .int ((x3 + 1))), (2, .int (((s1 + s0) + 1))), (0, .ref (A 0)), (1, .int (x1)), (5, .int (x5))] rfl ?_
    refine y_goto C (tgt := 10) dX0_shiftedBy_143 rfl ?_
    exact Y.sub (hK10 (((s1 + s0) + 1)) ((x3 + 1)) (h_44)) [2, 3, 1, 0] rfl
set_option maxRecDepth 100000 in
theorem wk_o_shiftedBy_b10 {G : Gx} {K : Kx} {A : Nat → Nat} (C : KOk G K RX0 cX0_shiftedBy rm_o_shiftedBy 6 (some .int)) {S : St} {Q : Int32 → Prop} (N : KRi K Q) (x1 : Int32) : ∀ (n : Nat), ∀ (x2 : Int32) (x3 : Int32), wp_o_shiftedBy_b10 S Q x1 n x2 x3 → Y G K 0 0 (wC G A S) 10 [(0, .ref (A 0)), (1, .int (x1)), (2, .int (x2)), (3, .int (x3))] [] := by
  intro n
  induction n with
  | zero => intro x2 x3 h; exact h.elim
  | succ n ih =>
    intro x2 x3 h
    dsimp only [wp_o_shiftedBy_b10] at h
    refine y_iload_n C dX0_shiftedBy_10 3 rfl rfl ?_
    refine y_aload_n C dX0_shiftedBy_11 0 rfl rfl ?_
    refine yg_X0_12_wC0 C dX0_shiftedBy_12 ?_
    refine yg_X0_188_wC15 C dX0_shiftedBy_15 ?_
    refine y_aload_n C dX0_shiftedBy_18 0 rfl rfl ?_
    refine y_callRiV (As := []) (rest := [.int ((S.1 15 0)), .int (x3)]) C cs_X0_247 (met_o_periodOf G A S _ (h)) (fun _ h => h) (wC_0 ..) rfl rfl ⟨rfl, rfl, Nat.le_of_ble_eq_true rfl, Nat.le_of_ble_eq_true rfl⟩ rfl rfl (Nat.le_of_ble_eq_true rfl) dX0_shiftedBy_19 ⟨Nat.zero_le _, Nat.zero_le _⟩ (fun r_3 h_4 => ?_)
    refine y_iadd C dX0_shiftedBy_22 ?_
    refine y_icmp_ge C (tgt := 146) dX0_shiftedBy_23 rfl (fun c_6 => ?_) (fun c_6 => ?_)
    · have h_7 := (h_4).1 c_6
      refine y_iload_n C dX0_shiftedBy_146 2 rfl rfl ?_
      exact y_iretR C N rfl (h_7) dX0_shiftedBy_147
    · have h_8 := (h_4).2 c_6
      refine y_aload_n C dX0_shiftedBy_26 0 rfl rfl ?_
      refine yg_X0_12_wC0 C dX0_shiftedBy_27 ?_
      refine y_iconst C dX0_shiftedBy_30 ic_0 ?_
      refine y_aload_n C dX0_shiftedBy_31 0 rfl rfl ?_
      refine y_iconst C dX0_shiftedBy_32 ic_0 ?_
      refine y_iload_n C dX0_shiftedBy_33 3 rfl rfl ?_
      refine y_callRiV (As := [.int (0), .int (x3)]) (rest := [.int (0), .ref (A 15)]) C cs_X0_250 (met_o_placeBy G A S (0) (x3) _ (h_8)) (fun _ h => h) (wC_0 ..) rfl rfl ⟨rfl, rfl, Nat.le_of_ble_eq_true rfl, Nat.le_of_ble_eq_true rfl⟩ rfl rfl (Nat.le_of_ble_eq_true rfl) dX0_shiftedBy_34 ⟨Nat.zero_le _, Nat.zero_le _⟩ (fun r_9 h_10 => ?_)
      refine y_callRiV (As := [.int (0), .int (r_9)]) (rest := []) C cs_X0_155 (met_d_step G A S (0) (r_9) _ (h_10)) (fun _ h => wC_D h) (wC_15 ..) rfl rfl ⟨rfl, rfl, Nat.le_of_ble_eq_true rfl, Nat.le_of_ble_eq_true rfl⟩ rfl rfl (Nat.le_of_ble_eq_true rfl) dX0_shiftedBy_37 ⟨Nat.zero_le _, Nat.zero_le _⟩ (fun r_12 h_13 => ?_)
      refine y_istore C dX0_shiftedBy_40 (Nat.le_of_ble_eq_true rfl) [(4, .int (r_12)), (0, .ref (A 0)), (1, .int (x1)), (2, .int (x2)), (3, .int (x3))] rfl ?_
      refine y_aload_n C dX0_shiftedBy_42 1 rfl rfl ?_
      refine yg_X0_12_wC0 C dX0_shiftedBy_43 ?_
      refine y_iconst C dX0_shiftedBy_46 ic_1 ?_
      refine y_aload_n C dX0_shiftedBy_47 1 rfl rfl ?_
      refine y_iconst C dX0_shiftedBy_48 ic_1 ?_
      refine y_iload_n C dX0_shiftedBy_49 4 rfl rfl ?_
      refine y_iload_n C dX0_shiftedBy_50 2 rfl rfl ?_
      refine y_iadd C dX0_shiftedBy_51 ?_
      refine y_callRiV (As := [.int (1), .int ((x3 + x1))]) (rest := [.int (1), .ref (A 15)]) C cs_X0_250 (met_o_placeBy G A S (1) ((x3 + x1)) _ (h_13)) (fun _ h => h) (wC_0 ..) rfl rfl ⟨rfl, rfl, Nat.le_of_ble_eq_true rfl, Nat.le_of_ble_eq_true rfl⟩ rfl rfl (Nat.le_of_ble_eq_true rfl) dX0_shiftedBy_52 ⟨Nat.zero_le _, Nat.zero_le _⟩ (fun r_15 h_16 => ?_)
      refine y_callRiV (As := [.int (1), .int (r_15)]) (rest := []) C cs_X0_155 (met_d_step G A S (1) (r_15) _ (h_16)) (fun _ h => wC_D h) (wC_15 ..) rfl rfl ⟨rfl, rfl, Nat.le_of_ble_eq_true rfl, Nat.le_of_ble_eq_true rfl⟩ rfl rfl (Nat.le_of_ble_eq_true rfl) dX0_shiftedBy_55 ⟨Nat.zero_le _, Nat.zero_le _⟩ (fun r_18 h_19 => ?_)
      refine y_istore C dX0_shiftedBy_58 (Nat.le_of_ble_eq_true rfl) [(5, .int (r_18)), (4, .int (r_12)), (0, .ref (A 0)), (1, .int (x1)), (2, .int (x2)), (3, .int (x3))] rfl ?_
      refine y_iload_n C dX0_shiftedBy_60 4 rfl rfl ?_
      refine y_aload_n C dX0_shiftedBy_61 2 rfl rfl ?_
      refine y_iload C dX0_shiftedBy_62 1 rfl ?_
      refine y_aload_n C dX0_shiftedBy_64 2 rfl rfl ?_
      refine yg_X0_12_wC0 C dX0_shiftedBy_65 ?_
      refine y_iconst C dX0_shiftedBy_68 ic_1 ?_
      refine y_aload_n C dX0_shiftedBy_69 2 rfl rfl ?_
      refine y_iconst C dX0_shiftedBy_70 ic_1 ?_
      refine y_iload_n C dX0_shiftedBy_71 5 rfl rfl ?_
      refine y_aload_n C dX0_shiftedBy_72 2 rfl rfl ?_
      refine yg_X0_12_wC0 C dX0_shiftedBy_73 ?_
      refine yg_X0_188_wC15 C dX0_shiftedBy_76 ?_
      refine y_isub C dX0_shiftedBy_79 ?_
      refine y_iload_n C dX0_shiftedBy_80 3 rfl rfl ?_
      refine y_iadd C dX0_shiftedBy_81 ?_
      refine y_callRiV (As := [.int (1), .int (((x3 - (S.1 15 0)) + x1))]) (rest := [.int (1), .ref (A 15), .int (r_12), .ref (A 0), .int (x2)]) C cs_X0_250 (met_o_placeBy G A S (1) (((x3 - (S.1 15 0)) + x1)) _ (h_19)) (fun _ h => h) (wC_0 ..) rfl rfl ⟨rfl, rfl, Nat.le_of_ble_eq_true rfl, Nat.le_of_ble_eq_true rfl⟩ rfl rfl (Nat.le_of_ble_eq_true rfl) dX0_shiftedBy_82 ⟨Nat.zero_le _, Nat.zero_le _⟩ (fun r_21 h_22 => ?_)
      refine y_callRiV (As := [.int (1), .int (r_21)]) (rest := [.int (r_12), .ref (A 0), .int (x2)]) C cs_X0_155 (met_d_step G A S (1) (r_21) _ (h_22)) (fun _ h => wC_D h) (wC_15 ..) rfl rfl ⟨rfl, rfl, Nat.le_of_ble_eq_true rfl, Nat.le_of_ble_eq_true rfl⟩ rfl rfl (Nat.le_of_ble_eq_true rfl) dX0_shiftedBy_85 ⟨Nat.zero_le _, Nat.zero_le _⟩ (fun r_24 h_25 => ?_)
      refine y_callRiV (As := [.int (r_12), .int (r_24)]) (rest := [.int (x2)]) C cs_X0_253 (met_o_clashes G A S (r_12) (r_24) _ (h_25)) (fun _ h => h) (wC_0 ..) rfl rfl ⟨rfl, rfl, Nat.le_of_ble_eq_true rfl, Nat.le_of_ble_eq_true rfl⟩ rfl rfl (Nat.le_of_ble_eq_true rfl) dX0_shiftedBy_88 ⟨Nat.zero_le _, Nat.zero_le _⟩ (fun r_27 h_28 => ?_)
      refine y_if_eq C (tgt := 98) dX0_shiftedBy_91 rfl (fun c_30 => ?_) (fun c_30 => ?_)
      · have h_31 := (h_28).1 c_30
        refine y_iconst C dX0_shiftedBy_98 ic_0 ?_
        exact Y.sub (wk_o_shiftedBy_b99 C N (x1) (fun y2 y3 => wp_o_shiftedBy_b10 S Q x1 n y2 y3) ih (x3) (r_18) (0) (x2) (h_31)) [2, 3, 5, 0] rfl
      · have h_32 := (h_28).2 c_30
        refine y_iconst C dX0_shiftedBy_94 ic_1 ?_
        refine y_goto C (tgt := 99) dX0_shiftedBy_95 rfl ?_
        exact Y.sub (wk_o_shiftedBy_b99 C N (x1) (fun y2 y3 => wp_o_shiftedBy_b10 S Q x1 n y2 y3) ih (x3) (r_18) (1) (x2) (h_32)) [2, 3, 5, 0] rfl
set_option maxRecDepth 100000 in
theorem met_o_shiftedBy (G : Gx) (A : Nat → Nat) (S : St) (x1 : Int32) (Q : Int32 → Prop) (h : wp_o_shiftedBy S x1 Q) : Ri G yX0_shiftedBy (ws_ yX0_shiftedBy cX0_shiftedBy 6 (some .int)) rm_o_shiftedBy (wC G A S) [.ref (A 0), .int (x1)] Q := by
  refine ent_Ri (by decide +kernel) rfl (Nat.le_of_ble_eq_true rfl) [(0, .ref (A 0)), (1, .int (x1))] rfl (fun K C N => ?_)
  refine y_iconst C dX0_shiftedBy_0 ic_0 ?_
  refine y_istore_n C dX0_shiftedBy_1 rfl (Nat.le_of_ble_eq_true rfl) [(2, .int (0)), (0, .ref (A 0)), (1, .int (x1))] rfl ?_
  refine y_aload_n C dX0_shiftedBy_2 1 rfl rfl ?_
  refine yg_X0_12_wC0 C dX0_shiftedBy_3 ?_
  refine yg_X0_188_wC15 C dX0_shiftedBy_6 ?_
  refine y_istore_n C dX0_shiftedBy_9 rfl (Nat.le_of_ble_eq_true rfl) [(3, .int ((S.1 15 0))), (2, .int (0)), (0, .ref (A 0)), (1, .int (x1))] rfl ?_
  obtain ⟨n_1, h_2⟩ := h
  exact Y.sub (wk_o_shiftedBy_b10 C N (x1) n_1 (0) ((S.1 15 0)) h_2) [2, 3, 1, 0] rfl
/-! OverHill shifted(I)I: o_shifted -/
abbrev rm_o_shifted : Room := { frames := 5, cells := 0, slots := 0, locals := 129 }
def wp_o_shifted (S : St) (x1 : Int32) (Q : Int32 → Prop) : Prop :=
  wp_o_areRounds S (fun r_1 => ((r_1 = 0 → Q (-2)) ∧ (¬ r_1 = 0 → wp_o_isPlace S (1) (x1) (fun r_7 => ((r_7 = 0 → Q (-2)) ∧ (¬ r_7 = 0 → wp_o_shiftedBy S (x1) (fun r_13 => Q r_13)))))))
set_option maxRecDepth 100000 in
theorem met_o_shifted (G : Gx) (A : Nat → Nat) (S : St) (x1 : Int32) (Q : Int32 → Prop) (h : wp_o_shifted S x1 Q) : Ri G yX0_shifted (ws_ yX0_shifted cX0_shifted 2 (some .int)) rm_o_shifted (wC G A S) [.ref (A 0), .int (x1)] Q := by
  refine ent_Ri (by decide +kernel) rfl (Nat.le_of_ble_eq_true rfl) [(0, .ref (A 0)), (1, .int (x1))] rfl (fun K C N => ?_)
  refine y_aload_n C dX0_shifted_0 0 rfl rfl ?_
  refine y_callRiV (As := []) (rest := []) C cs_X0_244 (met_o_areRounds G A S _ (h)) (fun _ h => h) (wC_0 ..) rfl rfl ⟨rfl, rfl, Nat.le_of_ble_eq_true rfl, Nat.le_of_ble_eq_true rfl⟩ rfl rfl (Nat.le_of_ble_eq_true rfl) dX0_shifted_1 ⟨Nat.zero_le _, Nat.zero_le _⟩ (fun r_1 h_2 => ?_)
  refine y_if_eq C (tgt := 24) dX0_shifted_4 rfl (fun c_4 => ?_) (fun c_4 => ?_)
  · have h_5 := (h_2).1 c_4
    refine y_bipush C dX0_shifted_24 bpm2 ?_
    exact y_iretR C N rfl (h_5) dX0_shifted_26
  · have h_6 := (h_2).2 c_4
    refine y_aload_n C dX0_shifted_7 0 rfl rfl ?_
    refine y_iconst C dX0_shifted_8 ic_1 ?_
    refine y_iload_n C dX0_shifted_9 1 rfl rfl ?_
    refine y_callRiV (As := [.int (1), .int (x1)]) (rest := []) C cs_X0_152 (met_o_isPlace G A S (1) (x1) _ (h_6)) (fun _ h => h) (wC_0 ..) rfl rfl ⟨rfl, rfl, Nat.le_of_ble_eq_true rfl, Nat.le_of_ble_eq_true rfl⟩ rfl rfl (Nat.le_of_ble_eq_true rfl) dX0_shifted_10 ⟨Nat.zero_le _, Nat.zero_le _⟩ (fun r_7 h_8 => ?_)
    refine y_if_eq C (tgt := 24) dX0_shifted_13 rfl (fun c_10 => ?_) (fun c_10 => ?_)
    · have h_11 := (h_8).1 c_10
      refine y_bipush C dX0_shifted_24 bpm2 ?_
      exact y_iretR C N rfl (h_11) dX0_shifted_26
    · have h_12 := (h_8).2 c_10
      refine y_aload_n C dX0_shifted_16 0 rfl rfl ?_
      refine y_iload_n C dX0_shifted_17 1 rfl rfl ?_
      refine y_callRiV (As := [.int (x1)]) (rest := []) C cs_X0_256 (met_o_shiftedBy G A S (x1) _ (h_12)) (fun _ h => h) (wC_0 ..) rfl rfl ⟨rfl, rfl, Nat.le_of_ble_eq_true rfl, Nat.le_of_ble_eq_true rfl⟩ rfl rfl (Nat.le_of_ble_eq_true rfl) dX0_shifted_18 ⟨Nat.zero_le _, Nat.zero_le _⟩ (fun r_13 h_14 => ?_)
      refine y_goto C (tgt := 26) dX0_shifted_21 rfl ?_
      exact y_iretR C N rfl (h_14) dX0_shifted_26
/-! OverHill shift()I: o_shift -/
abbrev rm_o_shift : Room := { frames := 4, cells := 0, slots := 0, locals := 109 }
def wp_o_shift_b12 (S : St) (Q : Int32 → Prop) : Nat → Int32 → Prop
  | 0 => fun _ => False
  | n + 1 => fun x1 => (((S.1 16 1) ≤ x1 → Q (-1)) ∧ (¬ (S.1 16 1) ≤ x1 → wp_o_shiftedBy S (x1) (fun r_12 => ((¬ r_12 = 0 → wp_o_shift_b12 S Q n ((x1 + 1))) ∧ (r_12 = 0 → Q x1)))))
def wp_o_shift (S : St) (Q : Int32 → Prop) : Prop :=
  wp_o_areRounds S (fun r_1 => ((¬ r_1 = 0 → (∃ z, wp_o_shift_b12 S Q z (0))) ∧ (r_1 = 0 → Q (-2))))
set_option maxRecDepth 100000 in
theorem wk_o_shift_b12 {G : Gx} {K : Kx} {A : Nat → Nat} (C : KOk G K RX0 cX0_shift rm_o_shift 2 (some .int)) {S : St} {Q : Int32 → Prop} (N : KRi K Q) : ∀ (n : Nat), ∀ (x1 : Int32), wp_o_shift_b12 S Q n x1 → Y G K 0 0 (wC G A S) 12 [(0, .ref (A 0)), (1, .int (x1))] [] := by
  intro n
  induction n with
  | zero => intro x1 h; exact h.elim
  | succ n ih =>
    intro x1 h
    dsimp only [wp_o_shift_b12] at h
    refine y_iload_n C dX0_shift_12 1 rfl rfl ?_
    refine y_aload_n C dX0_shift_13 0 rfl rfl ?_
    refine yg_X0_12_wC0 C dX0_shift_14 ?_
    refine yg_X0_144_wC15 C dX0_shift_17 ?_
    refine y_iconst C dX0_shift_20 ic_1 ?_
    refine y_iald C (wC_16 ..) tn_1 vi_1_2 dX0_shift_21 ?_
    refine y_icmp_ge C (tgt := 41) dX0_shift_22 rfl (fun c_9 => ?_) (fun c_9 => ?_)
    · have h_10 := (h).1 c_9
      refine y_iconst C dX0_shift_41 icm1 ?_
      exact y_iretR C N rfl (h_10) dX0_shift_42
    · have h_11 := (h).2 c_9
      refine y_aload_n C dX0_shift_25 0 rfl rfl ?_
      refine y_iload_n C dX0_shift_26 1 rfl rfl ?_
      refine y_callRiV (As := [.int (x1)]) (rest := []) C cs_X0_256 (met_o_shiftedBy G A S (x1) _ (h_11)) (fun _ h => h) (wC_0 ..) rfl rfl ⟨rfl, rfl, Nat.le_of_ble_eq_true rfl, Nat.le_of_ble_eq_true rfl⟩ rfl rfl (Nat.le_of_ble_eq_true rfl) dX0_shift_27 ⟨Nat.zero_le _, Nat.zero_le _⟩ (fun r_12 h_13 => ?_)
      refine y_if_ne C (tgt := 35) dX0_shift_30 rfl (fun c_15 => ?_) (fun c_15 => ?_)
      · have h_16 := (h_13).1 c_15
        refine y_iinc C dX0_shift_35 1 rfl (Nat.le_of_ble_eq_true rfl) (ii_1 _) [(1, .int ((x1 + 1))), (0, .ref (A 0))] rfl ?_
        refine y_goto C (tgt := 12) dX0_shift_38 rfl ?_
        exact Y.sub (ih ((x1 + 1)) (h_16)) [1, 0] rfl
      · have h_17 := (h_13).2 c_15
        refine y_iload_n C dX0_shift_33 1 rfl rfl ?_
        exact y_iretR C N rfl (h_17) dX0_shift_34
set_option maxRecDepth 100000 in
theorem met_o_shift (G : Gx) (A : Nat → Nat) (S : St) (Q : Int32 → Prop) (h : wp_o_shift S Q) : Ri G yX0_shift (ws_ yX0_shift cX0_shift 2 (some .int)) rm_o_shift (wC G A S) [.ref (A 0)] Q := by
  refine ent_Ri (by decide +kernel) rfl (Nat.le_of_ble_eq_true rfl) [(0, .ref (A 0))] rfl (fun K C N => ?_)
  refine y_aload_n C dX0_shift_0 0 rfl rfl ?_
  refine y_callRiV (As := []) (rest := []) C cs_X0_244 (met_o_areRounds G A S _ (h)) (fun _ h => h) (wC_0 ..) rfl rfl ⟨rfl, rfl, Nat.le_of_ble_eq_true rfl, Nat.le_of_ble_eq_true rfl⟩ rfl rfl (Nat.le_of_ble_eq_true rfl) dX0_shift_1 ⟨Nat.zero_le _, Nat.zero_le _⟩ (fun r_1 h_2 => ?_)
  refine y_if_ne C (tgt := 10) dX0_shift_4 rfl (fun c_4 => ?_) (fun c_4 => ?_)
  · have h_5 := (h_2).1 c_4
    refine y_iconst C dX0_shift_10 ic_0 ?_
    refine y_istore_n C dX0_shift_11 rfl (Nat.le_of_ble_eq_true rfl) [(1, .int (0)), (0, .ref (A 0))] rfl ?_
    obtain ⟨n_6, h_7⟩ := h_5
    exact Y.sub (wk_o_shift_b12 C N n_6 (0) h_7) [1, 0] rfl
  · have h_8 := (h_2).2 c_4
    refine y_bipush C dX0_shift_7 bpm2 ?_
    exact y_iretR C N rfl (h_8) dX0_shift_9
/-! OverHill least()I: o_least -/
abbrev rm_o_least : Room := { frames := 4, cells := 0, slots := 0, locals := 109 }
def wp_o_least_b14 (S : St) (Q : Int32 → Prop) : Nat → Int32 → Int32 → Prop
  | 0 => fun _ _ => False
  | n + 1 => fun x1 x2 => (((S.1 16 1) ≤ x2 → Q x1) ∧ (¬ (S.1 16 1) ≤ x2 → wp_o_shiftedBy S (x2) (fun r_12 => wp_o_shiftedBy S (x1) (fun r_15 => ((r_15 ≤ r_12 → wp_o_least_b14 S Q n (x1) ((x2 + 1))) ∧ (¬ r_15 ≤ r_12 → wp_o_least_b14 S Q n (x2) ((x2 + 1))))))))
def wp_o_least (S : St) (Q : Int32 → Prop) : Prop :=
  wp_o_areRounds S (fun r_1 => ((¬ r_1 = 0 → (∃ z, wp_o_least_b14 S Q z (0) (1))) ∧ (r_1 = 0 → Q (-2))))
set_option maxRecDepth 100000 in
theorem wk_o_least_b14 {G : Gx} {K : Kx} {A : Nat → Nat} (C : KOk G K RX0 cX0_least rm_o_least 3 (some .int)) {S : St} {Q : Int32 → Prop} (N : KRi K Q) : ∀ (n : Nat), ∀ (x1 : Int32) (x2 : Int32), wp_o_least_b14 S Q n x1 x2 → Y G K 0 0 (wC G A S) 14 [(0, .ref (A 0)), (1, .int (x1)), (2, .int (x2))] [] := by
  intro n
  induction n with
  | zero => intro x1 x2 h; exact h.elim
  | succ n ih =>
    intro x1 x2 h
    dsimp only [wp_o_least_b14] at h
    refine y_iload_n C dX0_least_14 2 rfl rfl ?_
    refine y_aload_n C dX0_least_15 0 rfl rfl ?_
    refine yg_X0_12_wC0 C dX0_least_16 ?_
    refine yg_X0_144_wC15 C dX0_least_19 ?_
    refine y_iconst C dX0_least_22 ic_1 ?_
    refine y_iald C (wC_16 ..) tn_1 vi_1_2 dX0_least_23 ?_
    refine y_icmp_ge C (tgt := 52) dX0_least_24 rfl (fun c_9 => ?_) (fun c_9 => ?_)
    · have h_10 := (h).1 c_9
      refine y_iload_n C dX0_least_52 1 rfl rfl ?_
      exact y_iretR C N rfl (h_10) dX0_least_53
    · have h_11 := (h).2 c_9
      refine y_aload_n C dX0_least_27 0 rfl rfl ?_
      refine y_iload_n C dX0_least_28 2 rfl rfl ?_
      refine y_callRiV (As := [.int (x2)]) (rest := []) C cs_X0_256 (met_o_shiftedBy G A S (x2) _ (h_11)) (fun _ h => h) (wC_0 ..) rfl rfl ⟨rfl, rfl, Nat.le_of_ble_eq_true rfl, Nat.le_of_ble_eq_true rfl⟩ rfl rfl (Nat.le_of_ble_eq_true rfl) dX0_least_29 ⟨Nat.zero_le _, Nat.zero_le _⟩ (fun r_12 h_13 => ?_)
      refine y_aload_n C dX0_least_32 0 rfl rfl ?_
      refine y_iload_n C dX0_least_33 1 rfl rfl ?_
      refine y_callRiV (As := [.int (x1)]) (rest := [.int (r_12)]) C cs_X0_256 (met_o_shiftedBy G A S (x1) _ (h_13)) (fun _ h => h) (wC_0 ..) rfl rfl ⟨rfl, rfl, Nat.le_of_ble_eq_true rfl, Nat.le_of_ble_eq_true rfl⟩ rfl rfl (Nat.le_of_ble_eq_true rfl) dX0_least_34 ⟨Nat.zero_le _, Nat.zero_le _⟩ (fun r_15 h_16 => ?_)
      refine y_icmp_ge C (tgt := 44) dX0_least_37 rfl (fun c_18 => ?_) (fun c_18 => ?_)
      · have h_19 := (h_16).1 c_18
        refine y_iload_n C dX0_least_44 1 rfl rfl ?_
        refine y_istore_n C dX0_least_45 rfl (Nat.le_of_ble_eq_true rfl) [(1, .int (x1)), (0, .ref (A 0)), (2, .int (x2))] rfl ?_
        refine y_iinc C dX0_least_46 2 rfl (Nat.le_of_ble_eq_true rfl) (ii_1 _) [(2, .int ((x2 + 1))), (1, .int (x1)), (0, .ref (A 0))] rfl ?_
        refine y_goto C (tgt := 14) dX0_least_49 rfl ?_
        exact Y.sub (ih (x1) ((x2 + 1)) (h_19)) [2, 1, 0] rfl
      · have h_20 := (h_16).2 c_18
        refine y_iload_n C dX0_least_40 2 rfl rfl ?_
        refine y_goto C (tgt := 45) dX0_least_41 rfl ?_
        refine y_istore_n C dX0_least_45 rfl (Nat.le_of_ble_eq_true rfl) [(1, .int (x2)), (0, .ref (A 0)), (2, .int (x2))] rfl ?_
        refine y_iinc C dX0_least_46 2 rfl (Nat.le_of_ble_eq_true rfl) (ii_1 _) [(2, .int ((x2 + 1))), (1, .int (x2)), (0, .ref (A 0))] rfl ?_
        refine y_goto C (tgt := 14) dX0_least_49 rfl ?_
        exact Y.sub (ih (x2) ((x2 + 1)) (h_20)) [2, 1, 0] rfl
set_option maxRecDepth 100000 in
theorem met_o_least (G : Gx) (A : Nat → Nat) (S : St) (Q : Int32 → Prop) (h : wp_o_least S Q) : Ri G yX0_least (ws_ yX0_least cX0_least 3 (some .int)) rm_o_least (wC G A S) [.ref (A 0)] Q := by
  refine ent_Ri (by decide +kernel) rfl (Nat.le_of_ble_eq_true rfl) [(0, .ref (A 0))] rfl (fun K C N => ?_)
  refine y_aload_n C dX0_least_0 0 rfl rfl ?_
  refine y_callRiV (As := []) (rest := []) C cs_X0_244 (met_o_areRounds G A S _ (h)) (fun _ h => h) (wC_0 ..) rfl rfl ⟨rfl, rfl, Nat.le_of_ble_eq_true rfl, Nat.le_of_ble_eq_true rfl⟩ rfl rfl (Nat.le_of_ble_eq_true rfl) dX0_least_1 ⟨Nat.zero_le _, Nat.zero_le _⟩ (fun r_1 h_2 => ?_)
  refine y_if_ne C (tgt := 10) dX0_least_4 rfl (fun c_4 => ?_) (fun c_4 => ?_)
  · have h_5 := (h_2).1 c_4
    refine y_iconst C dX0_least_10 ic_0 ?_
    refine y_istore_n C dX0_least_11 rfl (Nat.le_of_ble_eq_true rfl) [(1, .int (0)), (0, .ref (A 0))] rfl ?_
    refine y_iconst C dX0_least_12 ic_1 ?_
    refine y_istore_n C dX0_least_13 rfl (Nat.le_of_ble_eq_true rfl) [(2, .int (1)), (1, .int (0)), (0, .ref (A 0))] rfl ?_
    obtain ⟨n_6, h_7⟩ := h_5
    exact Y.sub (wk_o_least_b14 C N n_6 (0) (1) h_7) [2, 1, 0] rfl
  · have h_8 := (h_2).2 c_4
    refine y_bipush C dX0_least_7 bpm2 ?_
    exact y_iretR C N rfl (h_8) dX0_least_9
/-! OverHill mayBe(III)Z: o_mayBe -/
abbrev rm_o_mayBe : Room := { frames := 3, cells := 0, slots := 0, locals := 84 }
def wp_o_mayBe_b77 (S : St) (Q : Int32 → Prop) (x1 : Int32) (x2 : Int32) (x3 : Int32) (K14 : Int32 → Int32 → Prop) (x4 : Int32) (x5 : Int32) : Prop :=
  wp_o_placeBy S (x1) ((x5 - (S.1 15 0))) (fun r_27 => ((¬ r_27 = x2 → K14 (x4) ((x5 + 1))) ∧ (r_27 = x2 → wp_o_placeBy S (x4) (x5) (fun r_33 => wp_d_step S (x4) (r_33) (fun r_36 => wp_o_clashes S (r_36) (x3) (fun r_39 => ((r_39 = 0 → K14 (x4) ((x5 + 1))) ∧ (¬ r_39 = 0 → Q 0))))))))
def wp_o_mayBe_b14 (S : St) (Q : Int32 → Prop) (x1 : Int32) (x2 : Int32) (x3 : Int32) : Nat → Int32 → Int32 → Prop
  | 0 => fun _ _ => False
  | n + 1 => fun x4 x5 => wp_o_periodOf S (fun r_3 => ((((S.1 15 0) + r_3) ≤ x5 → Q 1) ∧ (¬ ((S.1 15 0) + r_3) ≤ x5 → wp_o_placeBy S (x1) (x5) (fun r_9 => ((¬ r_9 = x2 → wp_o_mayBe_b77 S Q (x1) (x2) (x3) (fun y4 y5 => wp_o_mayBe_b14 S Q x1 x2 x3 n y4 y5) (x4) (x5)) ∧ (r_9 = x2 → wp_o_placeBy S (x4) ((x5 - (S.1 15 0))) (fun r_15 => wp_d_step S (x4) (r_15) (fun r_18 => wp_o_clashes S (x3) (r_18) (fun r_21 => ((r_21 = 0 → wp_o_mayBe_b77 S Q (x1) (x2) (x3) (fun y4 y5 => wp_o_mayBe_b14 S Q x1 x2 x3 n y4 y5) (x4) (x5)) ∧ (¬ r_21 = 0 → Q 0)))))))))))
def wp_o_mayBe (S : St) (x1 : Int32) (x2 : Int32) (x3 : Int32) (Q : Int32 → Prop) : Prop :=
  (∃ z, wp_o_mayBe_b14 S Q (x1) (x2) (x3) z ((1 - x1)) ((S.1 15 0)))
set_option maxRecDepth 100000 in
theorem wk_o_mayBe_b77 {G : Gx} {K : Kx} {A : Nat → Nat} (C : KOk G K RX0 cX0_mayBe rm_o_mayBe 6 (some .boolean)) {S : St} {Q : Int32 → Prop} (N : KRi K Q) (x1 : Int32) (x2 : Int32) (x3 : Int32) (K14 : Int32 → Int32 → Prop) (hK14 : ∀ (x4 : Int32) (x5 : Int32), K14 x4 x5 → Y G K 0 0 (wC G A S) 14 [(0, .ref (A 0)), (1, .int (x1)), (2, .int (x2)), (3, .int (x3)), (4, .int (x4)), (5, .int (x5))] []) (x4 : Int32) (x5 : Int32) (h : wp_o_mayBe_b77 S Q x1 x2 x3 K14 x4 x5) : Y G K 0 0 (wC G A S) 77 [(0, .ref (A 0)), (1, .int (x1)), (2, .int (x2)), (3, .int (x3)), (4, .int (x4)), (5, .int (x5))] [] := by
  refine y_aload_n C dX0_mayBe_77 0 rfl rfl ?_
  refine y_iload_n C dX0_mayBe_78 1 rfl rfl ?_
  refine y_iload C dX0_mayBe_79 5 rfl ?_
  refine y_aload_n C dX0_mayBe_81 0 rfl rfl ?_
  refine yg_X0_12_wC0 C dX0_mayBe_82 ?_
  refine yg_X0_188_wC15 C dX0_mayBe_85 ?_
  refine y_isub C dX0_mayBe_88 ?_
  refine y_callRiV (As := [.int (x1), .int ((x5 - (S.1 15 0)))]) (rest := []) C cs_X0_250 (met_o_placeBy G A S (x1) ((x5 - (S.1 15 0))) _ (h)) (fun _ h => h) (wC_0 ..) rfl rfl ⟨rfl, rfl, Nat.le_of_ble_eq_true rfl, Nat.le_of_ble_eq_true rfl⟩ rfl rfl (Nat.le_of_ble_eq_true rfl) dX0_mayBe_89 ⟨Nat.zero_le _, Nat.zero_le _⟩ (fun r_27 h_28 => ?_)
  refine y_iload_n C dX0_mayBe_92 2 rfl rfl ?_
  refine y_icmp_ne C (tgt := 123) dX0_mayBe_93 rfl (fun c_30 => ?_) (fun c_30 => ?_)
  · have h_31 := (h_28).1 c_30
    refine y_iinc C dX0_mayBe_123 5 rfl (Nat.le_of_ble_eq_true rfl) (ii_1 _) [(5, .int ((x5 + 1))), (0, .ref (A 0)), (1, .int (x1)), (2, .int (x2)), (3, .int (x3)), (4, .int (x4))] rfl ?_
    refine y_goto C (tgt := 14) dX0_mayBe_126 rfl ?_
    exact Y.sub (hK14 (x4) ((x5 + 1)) (h_31)) [1, 2, 3, 4, 5, 0] rfl
  · have h_32 := (h_28).2 c_30
    refine y_aload_n C dX0_mayBe_96 0 rfl rfl ?_
    refine y_aload_n C dX0_mayBe_97 0 rfl rfl ?_
    refine yg_X0_12_wC0 C dX0_mayBe_98 ?_
    refine y_iload C dX0_mayBe_101 4 rfl ?_
    refine y_aload_n C dX0_mayBe_103 0 rfl rfl ?_
    refine y_iload C dX0_mayBe_104 4 rfl ?_
    refine y_iload C dX0_mayBe_106 5 rfl ?_
    refine y_callRiV (As := [.int (x4), .int (x5)]) (rest := [.int (x4), .ref (A 15), .ref (A 0)]) C cs_X0_250 (met_o_placeBy G A S (x4) (x5) _ (h_32)) (fun _ h => h) (wC_0 ..) rfl rfl ⟨rfl, rfl, Nat.le_of_ble_eq_true rfl, Nat.le_of_ble_eq_true rfl⟩ rfl rfl (Nat.le_of_ble_eq_true rfl) dX0_mayBe_108 ⟨Nat.zero_le _, Nat.zero_le _⟩ (fun r_33 h_34 => ?_)
    refine y_callRiV (As := [.int (x4), .int (r_33)]) (rest := [.ref (A 0)]) C cs_X0_155 (met_d_step G A S (x4) (r_33) _ (h_34)) (fun _ h => wC_D h) (wC_15 ..) rfl rfl ⟨rfl, rfl, Nat.le_of_ble_eq_true rfl, Nat.le_of_ble_eq_true rfl⟩ rfl rfl (Nat.le_of_ble_eq_true rfl) dX0_mayBe_111 ⟨Nat.zero_le _, Nat.zero_le _⟩ (fun r_36 h_37 => ?_)
    refine y_iload_n C dX0_mayBe_114 3 rfl rfl ?_
    refine y_callRiV (As := [.int (r_36), .int (x3)]) (rest := []) C cs_X0_253 (met_o_clashes G A S (r_36) (x3) _ (h_37)) (fun _ h => h) (wC_0 ..) rfl rfl ⟨rfl, rfl, Nat.le_of_ble_eq_true rfl, Nat.le_of_ble_eq_true rfl⟩ rfl rfl (Nat.le_of_ble_eq_true rfl) dX0_mayBe_115 ⟨Nat.zero_le _, Nat.zero_le _⟩ (fun r_39 h_40 => ?_)
    refine y_if_eq C (tgt := 123) dX0_mayBe_118 rfl (fun c_42 => ?_) (fun c_42 => ?_)
    · have h_43 := (h_40).1 c_42
      refine y_iinc C dX0_mayBe_123 5 rfl (Nat.le_of_ble_eq_true rfl) (ii_1 _) [(5, .int ((x5 + 1))), (0, .ref (A 0)), (1, .int (x1)), (2, .int (x2)), (3, .int (x3)), (4, .int (x4))] rfl ?_
      refine y_goto C (tgt := 14) dX0_mayBe_126 rfl ?_
      exact Y.sub (hK14 (x4) ((x5 + 1)) (h_43)) [1, 2, 3, 4, 5, 0] rfl
    · have h_44 := (h_40).2 c_42
      refine y_iconst C dX0_mayBe_121 ic_0 ?_
      exact y_zretR C N rfl rfl (h_44) dX0_mayBe_122
set_option maxRecDepth 100000 in
theorem wk_o_mayBe_b14 {G : Gx} {K : Kx} {A : Nat → Nat} (C : KOk G K RX0 cX0_mayBe rm_o_mayBe 6 (some .boolean)) {S : St} {Q : Int32 → Prop} (N : KRi K Q) (x1 : Int32) (x2 : Int32) (x3 : Int32) : ∀ (n : Nat), ∀ (x4 : Int32) (x5 : Int32), wp_o_mayBe_b14 S Q x1 x2 x3 n x4 x5 → Y G K 0 0 (wC G A S) 14 [(0, .ref (A 0)), (1, .int (x1)), (2, .int (x2)), (3, .int (x3)), (4, .int (x4)), (5, .int (x5))] [] := by
  intro n
  induction n with
  | zero => intro x4 x5 h; exact h.elim
  | succ n ih =>
    intro x4 x5 h
    dsimp only [wp_o_mayBe_b14] at h
    refine y_iload C dX0_mayBe_14 5 rfl ?_
    refine y_aload_n C dX0_mayBe_16 0 rfl rfl ?_
    refine yg_X0_12_wC0 C dX0_mayBe_17 ?_
    refine yg_X0_188_wC15 C dX0_mayBe_20 ?_
    refine y_aload_n C dX0_mayBe_23 0 rfl rfl ?_
    refine y_callRiV (As := []) (rest := [.int ((S.1 15 0)), .int (x5)]) C cs_X0_247 (met_o_periodOf G A S _ (h)) (fun _ h => h) (wC_0 ..) rfl rfl ⟨rfl, rfl, Nat.le_of_ble_eq_true rfl, Nat.le_of_ble_eq_true rfl⟩ rfl rfl (Nat.le_of_ble_eq_true rfl) dX0_mayBe_24 ⟨Nat.zero_le _, Nat.zero_le _⟩ (fun r_3 h_4 => ?_)
    refine y_iadd C dX0_mayBe_27 ?_
    refine y_icmp_ge C (tgt := 129) dX0_mayBe_28 rfl (fun c_6 => ?_) (fun c_6 => ?_)
    · have h_7 := (h_4).1 c_6
      refine y_iconst C dX0_mayBe_129 ic_1 ?_
      exact y_zretR C N rfl rfl (h_7) dX0_mayBe_130
    · have h_8 := (h_4).2 c_6
      refine y_aload_n C dX0_mayBe_31 0 rfl rfl ?_
      refine y_iload_n C dX0_mayBe_32 1 rfl rfl ?_
      refine y_iload C dX0_mayBe_33 5 rfl ?_
      refine y_callRiV (As := [.int (x1), .int (x5)]) (rest := []) C cs_X0_250 (met_o_placeBy G A S (x1) (x5) _ (h_8)) (fun _ h => h) (wC_0 ..) rfl rfl ⟨rfl, rfl, Nat.le_of_ble_eq_true rfl, Nat.le_of_ble_eq_true rfl⟩ rfl rfl (Nat.le_of_ble_eq_true rfl) dX0_mayBe_35 ⟨Nat.zero_le _, Nat.zero_le _⟩ (fun r_9 h_10 => ?_)
      refine y_iload_n C dX0_mayBe_38 2 rfl rfl ?_
      refine y_icmp_ne C (tgt := 77) dX0_mayBe_39 rfl (fun c_12 => ?_) (fun c_12 => ?_)
      · have h_13 := (h_10).1 c_12
        exact Y.sub (wk_o_mayBe_b77 C N (x1) (x2) (x3) (fun y4 y5 => wp_o_mayBe_b14 S Q x1 x2 x3 n y4 y5) ih (x4) (x5) (h_13)) [0, 1, 2, 3, 4, 5] rfl
      · have h_14 := (h_10).2 c_12
        refine y_aload_n C dX0_mayBe_42 0 rfl rfl ?_
        refine y_iload_n C dX0_mayBe_43 3 rfl rfl ?_
        refine y_aload_n C dX0_mayBe_44 0 rfl rfl ?_
        refine yg_X0_12_wC0 C dX0_mayBe_45 ?_
        refine y_iload C dX0_mayBe_48 4 rfl ?_
        refine y_aload_n C dX0_mayBe_50 0 rfl rfl ?_
        refine y_iload C dX0_mayBe_51 4 rfl ?_
        refine y_iload C dX0_mayBe_53 5 rfl ?_
        refine y_aload_n C dX0_mayBe_55 0 rfl rfl ?_
        refine yg_X0_12_wC0 C dX0_mayBe_56 ?_
        refine yg_X0_188_wC15 C dX0_mayBe_59 ?_
        refine y_isub C dX0_mayBe_62 ?_
        refine y_callRiV (As := [.int (x4), .int ((x5 - (S.1 15 0)))]) (rest := [.int (x4), .ref (A 15), .int (x3), .ref (A 0)]) C cs_X0_250 (met_o_placeBy G A S (x4) ((x5 - (S.1 15 0))) _ (h_14)) (fun _ h => h) (wC_0 ..) rfl rfl ⟨rfl, rfl, Nat.le_of_ble_eq_true rfl, Nat.le_of_ble_eq_true rfl⟩ rfl rfl (Nat.le_of_ble_eq_true rfl) dX0_mayBe_63 ⟨Nat.zero_le _, Nat.zero_le _⟩ (fun r_15 h_16 => ?_)
        refine y_callRiV (As := [.int (x4), .int (r_15)]) (rest := [.int (x3), .ref (A 0)]) C cs_X0_155 (met_d_step G A S (x4) (r_15) _ (h_16)) (fun _ h => wC_D h) (wC_15 ..) rfl rfl ⟨rfl, rfl, Nat.le_of_ble_eq_true rfl, Nat.le_of_ble_eq_true rfl⟩ rfl rfl (Nat.le_of_ble_eq_true rfl) dX0_mayBe_66 ⟨Nat.zero_le _, Nat.zero_le _⟩ (fun r_18 h_19 => ?_)
        refine y_callRiV (As := [.int (x3), .int (r_18)]) (rest := []) C cs_X0_253 (met_o_clashes G A S (x3) (r_18) _ (h_19)) (fun _ h => h) (wC_0 ..) rfl rfl ⟨rfl, rfl, Nat.le_of_ble_eq_true rfl, Nat.le_of_ble_eq_true rfl⟩ rfl rfl (Nat.le_of_ble_eq_true rfl) dX0_mayBe_69 ⟨Nat.zero_le _, Nat.zero_le _⟩ (fun r_21 h_22 => ?_)
        refine y_if_eq C (tgt := 77) dX0_mayBe_72 rfl (fun c_24 => ?_) (fun c_24 => ?_)
        · have h_25 := (h_22).1 c_24
          exact Y.sub (wk_o_mayBe_b77 C N (x1) (x2) (x3) (fun y4 y5 => wp_o_mayBe_b14 S Q x1 x2 x3 n y4 y5) ih (x4) (x5) (h_25)) [0, 1, 2, 3, 4, 5] rfl
        · have h_26 := (h_22).2 c_24
          refine y_iconst C dX0_mayBe_75 ic_0 ?_
          exact y_zretR C N rfl rfl (h_26) dX0_mayBe_76
set_option maxRecDepth 100000 in
theorem met_o_mayBe (G : Gx) (A : Nat → Nat) (S : St) (x1 : Int32) (x2 : Int32) (x3 : Int32) (Q : Int32 → Prop) (h : wp_o_mayBe S x1 x2 x3 Q) : Ri G yX0_mayBe (ws_ yX0_mayBe cX0_mayBe 6 (some .boolean)) rm_o_mayBe (wC G A S) [.ref (A 0), .int (x1), .int (x2), .int (x3)] Q := by
  refine ent_Ri (by decide +kernel) rfl (Nat.le_of_ble_eq_true rfl) [(0, .ref (A 0)), (1, .int (x1)), (2, .int (x2)), (3, .int (x3))] rfl (fun K C N => ?_)
  refine y_iconst C dX0_mayBe_0 ic_1 ?_
  refine y_iload_n C dX0_mayBe_1 1 rfl rfl ?_
  refine y_isub C dX0_mayBe_2 ?_
  refine y_istore C dX0_mayBe_3 (Nat.le_of_ble_eq_true rfl) [(4, .int ((1 - x1))), (0, .ref (A 0)), (1, .int (x1)), (2, .int (x2)), (3, .int (x3))] rfl ?_
  refine y_aload_n C dX0_mayBe_5 1 rfl rfl ?_
  refine yg_X0_12_wC0 C dX0_mayBe_6 ?_
  refine yg_X0_188_wC15 C dX0_mayBe_9 ?_
  refine y_istore C dX0_mayBe_12 (Nat.le_of_ble_eq_true rfl) [(5, .int ((S.1 15 0))), (4, .int ((1 - x1))), (0, .ref (A 0)), (1, .int (x1)), (2, .int (x2)), (3, .int (x3))] rfl ?_
  obtain ⟨n_1, h_2⟩ := h
  exact Y.sub (wk_o_mayBe_b14 C N (x1) (x2) (x3) n_1 ((1 - x1)) ((S.1 15 0)) h_2) [2, 3, 4, 5, 1, 0] rfl
/-! OverHill mendedAt(II)I: o_mendedAt -/
abbrev rm_o_mendedAt : Room := { frames := 4, cells := 0, slots := 0, locals := 109 }
def wp_o_mendedAt_b30 (S : St) (Q : Int32 → Prop) (x1 : Int32) (x2 : Int32) : Nat → Int32 → Prop
  | 0 => fun _ => False
  | n + 1 => fun x3 => ((6 ≤ x3 → Q (-1)) ∧ (¬ 6 ≤ x3 → wp_o_mayBe S (x1) (x2) (x3) (fun r_18 => ((r_18 = 0 → wp_o_mendedAt_b30 S Q x1 x2 n ((x3 + 1))) ∧ (¬ r_18 = 0 → Q x3)))))
def wp_o_mendedAt (S : St) (x1 : Int32) (x2 : Int32) (Q : Int32 → Prop) : Prop :=
  wp_d_step S (x1) (x2) (fun r_1 => wp_o_mayBe S (x1) (x2) (r_1) (fun r_4 => ((r_4 = 0 → (∃ z, wp_o_mendedAt_b30 S Q (x1) (x2) z (0))) ∧ (¬ r_4 = 0 → wp_d_step S (x1) (x2) (fun r_12 => Q r_12)))))
set_option maxRecDepth 100000 in
theorem wk_o_mendedAt_b30 {G : Gx} {K : Kx} {A : Nat → Nat} (C : KOk G K RX0 cX0_mendedAt rm_o_mendedAt 4 (some .int)) {S : St} {Q : Int32 → Prop} (N : KRi K Q) (x1 : Int32) (x2 : Int32) : ∀ (n : Nat), ∀ (x3 : Int32), wp_o_mendedAt_b30 S Q x1 x2 n x3 → Y G K 0 0 (wC G A S) 30 [(0, .ref (A 0)), (1, .int (x1)), (2, .int (x2)), (3, .int (x3))] [] := by
  intro n
  induction n with
  | zero => intro x3 h; exact h.elim
  | succ n ih =>
    intro x3 h
    dsimp only [wp_o_mendedAt_b30] at h
    refine y_iload_n C dX0_mendedAt_30 3 rfl rfl ?_
    refine y_bipush C dX0_mendedAt_31 bp_6 ?_
    refine y_icmp_ge C (tgt := 54) dX0_mendedAt_33 rfl (fun c_15 => ?_) (fun c_15 => ?_)
    · have h_16 := (h).1 c_15
      refine y_iconst C dX0_mendedAt_54 icm1 ?_
      exact y_iretR C N rfl (h_16) dX0_mendedAt_55
    · have h_17 := (h).2 c_15
      refine y_aload_n C dX0_mendedAt_36 0 rfl rfl ?_
      refine y_iload_n C dX0_mendedAt_37 1 rfl rfl ?_
      refine y_iload_n C dX0_mendedAt_38 2 rfl rfl ?_
      refine y_iload_n C dX0_mendedAt_39 3 rfl rfl ?_
      refine y_callRiV (As := [.int (x1), .int (x2), .int (x3)]) (rest := []) C cs_X0_260 (met_o_mayBe G A S (x1) (x2) (x3) _ (h_17)) (fun _ h => h) (wC_0 ..) rfl rfl ⟨rfl, rfl, Nat.le_of_ble_eq_true rfl, Nat.le_of_ble_eq_true rfl⟩ rfl rfl (Nat.le_of_ble_eq_true rfl) dX0_mendedAt_40 ⟨Nat.zero_le _, Nat.zero_le _⟩ (fun r_18 h_19 => ?_)
      refine y_if_eq C (tgt := 48) dX0_mendedAt_43 rfl (fun c_21 => ?_) (fun c_21 => ?_)
      · have h_22 := (h_19).1 c_21
        refine y_iinc C dX0_mendedAt_48 3 rfl (Nat.le_of_ble_eq_true rfl) (ii_1 _) [(3, .int ((x3 + 1))), (0, .ref (A 0)), (1, .int (x1)), (2, .int (x2))] rfl ?_
        refine y_goto C (tgt := 30) dX0_mendedAt_51 rfl ?_
        exact Y.sub (ih ((x3 + 1)) (h_22)) [1, 2, 3, 0] rfl
      · have h_23 := (h_19).2 c_21
        refine y_iload_n C dX0_mendedAt_46 3 rfl rfl ?_
        exact y_iretR C N rfl (h_23) dX0_mendedAt_47
set_option maxRecDepth 100000 in
theorem met_o_mendedAt (G : Gx) (A : Nat → Nat) (S : St) (x1 : Int32) (x2 : Int32) (Q : Int32 → Prop) (h : wp_o_mendedAt S x1 x2 Q) : Ri G yX0_mendedAt (ws_ yX0_mendedAt cX0_mendedAt 4 (some .int)) rm_o_mendedAt (wC G A S) [.ref (A 0), .int (x1), .int (x2)] Q := by
  refine ent_Ri (by decide +kernel) rfl (Nat.le_of_ble_eq_true rfl) [(0, .ref (A 0)), (1, .int (x1)), (2, .int (x2))] rfl (fun K C N => ?_)
  refine y_aload_n C dX0_mendedAt_0 0 rfl rfl ?_
  refine y_iload_n C dX0_mendedAt_1 1 rfl rfl ?_
  refine y_iload_n C dX0_mendedAt_2 2 rfl rfl ?_
  refine y_aload_n C dX0_mendedAt_3 0 rfl rfl ?_
  refine yg_X0_12_wC0 C dX0_mendedAt_4 ?_
  refine y_iload_n C dX0_mendedAt_7 1 rfl rfl ?_
  refine y_iload_n C dX0_mendedAt_8 2 rfl rfl ?_
  refine y_callRiV (As := [.int (x1), .int (x2)]) (rest := [.int (x2), .int (x1), .ref (A 0)]) C cs_X0_155 (met_d_step G A S (x1) (x2) _ (h)) (fun _ h => wC_D h) (wC_15 ..) rfl rfl ⟨rfl, rfl, Nat.le_of_ble_eq_true rfl, Nat.le_of_ble_eq_true rfl⟩ rfl rfl (Nat.le_of_ble_eq_true rfl) dX0_mendedAt_9 ⟨Nat.zero_le _, Nat.zero_le _⟩ (fun r_1 h_2 => ?_)
  refine y_callRiV (As := [.int (x1), .int (x2), .int (r_1)]) (rest := []) C cs_X0_260 (met_o_mayBe G A S (x1) (x2) (r_1) _ (h_2)) (fun _ h => h) (wC_0 ..) rfl rfl ⟨rfl, rfl, Nat.le_of_ble_eq_true rfl, Nat.le_of_ble_eq_true rfl⟩ rfl rfl (Nat.le_of_ble_eq_true rfl) dX0_mendedAt_12 ⟨Nat.zero_le _, Nat.zero_le _⟩ (fun r_4 h_5 => ?_)
  refine y_if_eq C (tgt := 28) dX0_mendedAt_15 rfl (fun c_7 => ?_) (fun c_7 => ?_)
  · have h_8 := (h_5).1 c_7
    refine y_iconst C dX0_mendedAt_28 ic_0 ?_
    refine y_istore_n C dX0_mendedAt_29 rfl (Nat.le_of_ble_eq_true rfl) [(3, .int (0)), (0, .ref (A 0)), (1, .int (x1)), (2, .int (x2))] rfl ?_
    obtain ⟨n_9, h_10⟩ := h_8
    exact Y.sub (wk_o_mendedAt_b30 C N (x1) (x2) n_9 (0) h_10) [1, 2, 3, 0] rfl
  · have h_11 := (h_5).2 c_7
    refine y_aload_n C dX0_mendedAt_18 0 rfl rfl ?_
    refine yg_X0_12_wC0 C dX0_mendedAt_19 ?_
    refine y_iload_n C dX0_mendedAt_22 1 rfl rfl ?_
    refine y_iload_n C dX0_mendedAt_23 2 rfl rfl ?_
    refine y_callRiV (As := [.int (x1), .int (x2)]) (rest := []) C cs_X0_155 (met_d_step G A S (x1) (x2) _ (h_11)) (fun _ h => wC_D h) (wC_15 ..) rfl rfl ⟨rfl, rfl, Nat.le_of_ble_eq_true rfl, Nat.le_of_ble_eq_true rfl⟩ rfl rfl (Nat.le_of_ble_eq_true rfl) dX0_mendedAt_24 ⟨Nat.zero_le _, Nat.zero_le _⟩ (fun r_12 h_13 => ?_)
    exact y_iretR C N rfl (h_13) dX0_mendedAt_27
/-! OverHill stuckAt(I)I: o_stuckAt -/
abbrev rm_o_stuckAt : Room := { frames := 5, cells := 0, slots := 0, locals := 132 }
def wp_o_stuckAt_b2 (S : St) (Q : Int32 → Prop) (x1 : Int32) : Nat → Int32 → Prop
  | 0 => fun _ => False
  | n + 1 => fun x2 => (vp_in x1 2 ∧ (((S.1 16 (x1).toNatClampNeg) ≤ x2 → Q (-1)) ∧ (¬ (S.1 16 (x1).toNatClampNeg) ≤ x2 → wp_o_mendedAt S (x1) (x2) (fun r_6 => ((¬ r_6 = (-1) → wp_o_stuckAt_b2 S Q x1 n ((x2 + 1))) ∧ (r_6 = (-1) → Q x2))))))
def wp_o_stuckAt (S : St) (x1 : Int32) (Q : Int32 → Prop) : Prop :=
  (∃ z, wp_o_stuckAt_b2 S Q (x1) z (0))
set_option maxRecDepth 100000 in
theorem wk_o_stuckAt_b2 {G : Gx} {K : Kx} {A : Nat → Nat} (C : KOk G K RX0 cX0_stuckAt rm_o_stuckAt 3 (some .int)) {S : St} {Q : Int32 → Prop} (N : KRi K Q) (x1 : Int32) : ∀ (n : Nat), ∀ (x2 : Int32), wp_o_stuckAt_b2 S Q x1 n x2 → Y G K 0 0 (wC G A S) 2 [(0, .ref (A 0)), (1, .int (x1)), (2, .int (x2))] [] := by
  intro n
  induction n with
  | zero => intro x2 h; exact h.elim
  | succ n ih =>
    intro x2 h
    dsimp only [wp_o_stuckAt_b2] at h
    refine y_iload_n C dX0_stuckAt_2 2 rfl rfl ?_
    refine y_aload_n C dX0_stuckAt_3 0 rfl rfl ?_
    refine yg_X0_12_wC0 C dX0_stuckAt_4 ?_
    refine yg_X0_144_wC15 C dX0_stuckAt_7 ?_
    refine y_iload_n C dX0_stuckAt_10 1 rfl rfl ?_
    refine y_iald C (wC_16 ..) rfl (h).1 dX0_stuckAt_11 ?_
    refine y_icmp_ge C (tgt := 33) dX0_stuckAt_12 rfl (fun c_3 => ?_) (fun c_3 => ?_)
    · have h_4 := ((h).2).1 c_3
      refine y_iconst C dX0_stuckAt_33 icm1 ?_
      exact y_iretR C N rfl (h_4) dX0_stuckAt_34
    · have h_5 := ((h).2).2 c_3
      refine y_aload_n C dX0_stuckAt_15 0 rfl rfl ?_
      refine y_iload_n C dX0_stuckAt_16 1 rfl rfl ?_
      refine y_iload_n C dX0_stuckAt_17 2 rfl rfl ?_
      refine y_callRiV (As := [.int (x1), .int (x2)]) (rest := []) C cs_X0_264 (met_o_mendedAt G A S (x1) (x2) _ (h_5)) (fun _ h => h) (wC_0 ..) rfl rfl ⟨rfl, rfl, Nat.le_of_ble_eq_true rfl, Nat.le_of_ble_eq_true rfl⟩ rfl rfl (Nat.le_of_ble_eq_true rfl) dX0_stuckAt_18 ⟨Nat.zero_le _, Nat.zero_le _⟩ (fun r_6 h_7 => ?_)
      refine y_iconst C dX0_stuckAt_21 icm1 ?_
      refine y_icmp_ne C (tgt := 27) dX0_stuckAt_22 rfl (fun c_9 => ?_) (fun c_9 => ?_)
      · have h_10 := (h_7).1 c_9
        refine y_iinc C dX0_stuckAt_27 2 rfl (Nat.le_of_ble_eq_true rfl) (ii_1 _) [(2, .int ((x2 + 1))), (0, .ref (A 0)), (1, .int (x1))] rfl ?_
        refine y_goto C (tgt := 2) dX0_stuckAt_30 rfl ?_
        exact Y.sub (ih ((x2 + 1)) (h_10)) [1, 2, 0] rfl
      · have h_11 := (h_7).2 c_9
        refine y_iload_n C dX0_stuckAt_25 2 rfl rfl ?_
        exact y_iretR C N rfl (h_11) dX0_stuckAt_26
set_option maxRecDepth 100000 in
theorem met_o_stuckAt (G : Gx) (A : Nat → Nat) (S : St) (x1 : Int32) (Q : Int32 → Prop) (h : wp_o_stuckAt S x1 Q) : Ri G yX0_stuckAt (ws_ yX0_stuckAt cX0_stuckAt 3 (some .int)) rm_o_stuckAt (wC G A S) [.ref (A 0), .int (x1)] Q := by
  refine ent_Ri (by decide +kernel) rfl (Nat.le_of_ble_eq_true rfl) [(0, .ref (A 0)), (1, .int (x1))] rfl (fun K C N => ?_)
  refine y_iconst C dX0_stuckAt_0 ic_0 ?_
  refine y_istore_n C dX0_stuckAt_1 rfl (Nat.le_of_ble_eq_true rfl) [(2, .int (0)), (0, .ref (A 0)), (1, .int (x1))] rfl ?_
  obtain ⟨n_1, h_2⟩ := h
  exact Y.sub (wk_o_stuckAt_b2 C N (x1) n_1 (0) h_2) [1, 2, 0] rfl
/-! OverHill mend(I)I: o_mend -/
abbrev rm_o_mend : Room := { frames := 6, cells := 0, slots := 0, locals := 154 }
def wp_o_mend_b33 (S : St) (Q : Int32 → Prop) (x1 : Int32) : Nat → Int32 → Int32 → Prop
  | 0 => fun _ _ => False
  | n + 1 => fun x2 x3 => (vp_in x1 2 ∧ (((S.1 16 (x1).toNatClampNeg) ≤ x3 → Q x2) ∧ (¬ (S.1 16 (x1).toNatClampNeg) ≤ x3 → wp_o_mendedAt S (x1) (x3) (fun r_24 => wp_d_step S (x1) (x3) (fun r_27 => ((r_24 = r_27 → wp_o_mend_b33 S Q x1 n ((x2 + 0)) ((x3 + 1))) ∧ (¬ r_24 = r_27 → wp_o_mend_b33 S Q x1 n ((x2 + 1)) ((x3 + 1)))))))))
def wp_o_mend (S : St) (x1 : Int32) (Q : Int32 → Prop) : Prop :=
  wp_o_isSide S (x1) (fun r_1 => ((r_1 = 0 → Q (-2)) ∧ (¬ r_1 = 0 → wp_o_areRounds S (fun r_7 => ((¬ r_7 = 0 → wp_o_stuckAt S (x1) (fun r_12 => ((r_12 = (-1) → (∃ z, wp_o_mend_b33 S Q (x1) z (0) (0))) ∧ (¬ r_12 = (-1) → Q (-1))))) ∧ (r_7 = 0 → Q (-2)))))))
set_option maxRecDepth 100000 in
theorem wk_o_mend_b33 {G : Gx} {K : Kx} {A : Nat → Nat} (C : KOk G K RX0 cX0_mend rm_o_mend 4 (some .int)) {S : St} {Q : Int32 → Prop} (N : KRi K Q) (x1 : Int32) : ∀ (n : Nat), ∀ (x2 : Int32) (x3 : Int32), wp_o_mend_b33 S Q x1 n x2 x3 → Y G K 0 0 (wC G A S) 33 [(0, .ref (A 0)), (1, .int (x1)), (2, .int (x2)), (3, .int (x3))] [] := by
  intro n
  induction n with
  | zero => intro x2 x3 h; exact h.elim
  | succ n ih =>
    intro x2 x3 h
    dsimp only [wp_o_mend_b33] at h
    refine y_iload_n C dX0_mend_33 3 rfl rfl ?_
    refine y_aload_n C dX0_mend_34 0 rfl rfl ?_
    refine yg_X0_12_wC0 C dX0_mend_35 ?_
    refine yg_X0_144_wC15 C dX0_mend_38 ?_
    refine y_iload_n C dX0_mend_41 1 rfl rfl ?_
    refine y_iald C (wC_16 ..) rfl (h).1 dX0_mend_42 ?_
    refine y_icmp_ge C (tgt := 78) dX0_mend_43 rfl (fun c_21 => ?_) (fun c_21 => ?_)
    · have h_22 := ((h).2).1 c_21
      refine y_iload_n C dX0_mend_78 2 rfl rfl ?_
      exact y_iretR C N rfl (h_22) dX0_mend_79
    · have h_23 := ((h).2).2 c_21
      refine y_iload_n C dX0_mend_46 2 rfl rfl ?_
      refine y_aload_n C dX0_mend_47 0 rfl rfl ?_
      refine y_iload_n C dX0_mend_48 1 rfl rfl ?_
      refine y_iload_n C dX0_mend_49 3 rfl rfl ?_
      refine y_callRiV (As := [.int (x1), .int (x3)]) (rest := [.int (x2)]) C cs_X0_264 (met_o_mendedAt G A S (x1) (x3) _ (h_23)) (fun _ h => h) (wC_0 ..) rfl rfl ⟨rfl, rfl, Nat.le_of_ble_eq_true rfl, Nat.le_of_ble_eq_true rfl⟩ rfl rfl (Nat.le_of_ble_eq_true rfl) dX0_mend_50 ⟨Nat.zero_le _, Nat.zero_le _⟩ (fun r_24 h_25 => ?_)
      refine y_aload_n C dX0_mend_53 0 rfl rfl ?_
      refine yg_X0_12_wC0 C dX0_mend_54 ?_
      refine y_iload_n C dX0_mend_57 1 rfl rfl ?_
      refine y_iload_n C dX0_mend_58 3 rfl rfl ?_
      refine y_callRiV (As := [.int (x1), .int (x3)]) (rest := [.int (r_24), .int (x2)]) C cs_X0_155 (met_d_step G A S (x1) (x3) _ (h_25)) (fun _ h => wC_D h) (wC_15 ..) rfl rfl ⟨rfl, rfl, Nat.le_of_ble_eq_true rfl, Nat.le_of_ble_eq_true rfl⟩ rfl rfl (Nat.le_of_ble_eq_true rfl) dX0_mend_59 ⟨Nat.zero_le _, Nat.zero_le _⟩ (fun r_27 h_28 => ?_)
      refine y_icmp_eq C (tgt := 69) dX0_mend_62 rfl (fun c_30 => ?_) (fun c_30 => ?_)
      · have h_31 := (h_28).1 c_30
        refine y_iconst C dX0_mend_69 ic_0 ?_
        refine y_iadd C dX0_mend_70 ?_
        refine y_istore_n C dX0_mend_71 rfl (Nat.le_of_ble_eq_true rfl) [(2, .int ((x2 + 0))), (0, .ref (A 0)), (1, .int (x1)), (3, .int (x3))] rfl ?_
        refine y_iinc C dX0_mend_72 3 rfl (Nat.le_of_ble_eq_true rfl) (ii_1 _) [(3, .int ((x3 + 1))), (2, .int ((x2 + 0))), (0, .ref (A 0)), (1, .int (x1))] rfl ?_
        refine y_goto C (tgt := 33) dX0_mend_75 rfl ?_
        exact Y.sub (ih ((x2 + 0)) ((x3 + 1)) (h_31)) [2, 3, 1, 0] rfl
      · have h_32 := (h_28).2 c_30
        refine y_iconst C dX0_mend_65 ic_1 ?_
        refine y_goto C (tgt := 70) dX0_mend_66 rfl ?_
        refine y_iadd C dX0_mend_70 ?_
        refine y_istore_n C dX0_mend_71 rfl (Nat.le_of_ble_eq_true rfl) [(2, .int ((x2 + 1))), (0, .ref (A 0)), (1, .int (x1)), (3, .int (x3))] rfl ?_
        refine y_iinc C dX0_mend_72 3 rfl (Nat.le_of_ble_eq_true rfl) (ii_1 _) [(3, .int ((x3 + 1))), (2, .int ((x2 + 1))), (0, .ref (A 0)), (1, .int (x1))] rfl ?_
        refine y_goto C (tgt := 33) dX0_mend_75 rfl ?_
        exact Y.sub (ih ((x2 + 1)) ((x3 + 1)) (h_32)) [2, 3, 1, 0] rfl
set_option maxRecDepth 100000 in
theorem met_o_mend (G : Gx) (A : Nat → Nat) (S : St) (x1 : Int32) (Q : Int32 → Prop) (h : wp_o_mend S x1 Q) : Ri G yX0_mend (ws_ yX0_mend cX0_mend 4 (some .int)) rm_o_mend (wC G A S) [.ref (A 0), .int (x1)] Q := by
  refine ent_Ri (by decide +kernel) rfl (Nat.le_of_ble_eq_true rfl) [(0, .ref (A 0)), (1, .int (x1))] rfl (fun K C N => ?_)
  refine y_aload_n C dX0_mend_0 0 rfl rfl ?_
  refine y_iload_n C dX0_mend_1 1 rfl rfl ?_
  refine y_callRiV (As := [.int (x1)]) (rest := []) C cs_X0_140 (met_o_isSide G A S (x1) _ (h)) (fun _ h => h) (wC_0 ..) rfl rfl ⟨rfl, rfl, Nat.le_of_ble_eq_true rfl, Nat.le_of_ble_eq_true rfl⟩ rfl rfl (Nat.le_of_ble_eq_true rfl) dX0_mend_2 ⟨Nat.zero_le _, Nat.zero_le _⟩ (fun r_1 h_2 => ?_)
  refine y_if_eq C (tgt := 15) dX0_mend_5 rfl (fun c_4 => ?_) (fun c_4 => ?_)
  · have h_5 := (h_2).1 c_4
    refine y_bipush C dX0_mend_15 bpm2 ?_
    exact y_iretR C N rfl (h_5) dX0_mend_17
  · have h_6 := (h_2).2 c_4
    refine y_aload_n C dX0_mend_8 0 rfl rfl ?_
    refine y_callRiV (As := []) (rest := []) C cs_X0_244 (met_o_areRounds G A S _ (h_6)) (fun _ h => h) (wC_0 ..) rfl rfl ⟨rfl, rfl, Nat.le_of_ble_eq_true rfl, Nat.le_of_ble_eq_true rfl⟩ rfl rfl (Nat.le_of_ble_eq_true rfl) dX0_mend_9 ⟨Nat.zero_le _, Nat.zero_le _⟩ (fun r_7 h_8 => ?_)
    refine y_if_ne C (tgt := 18) dX0_mend_12 rfl (fun c_10 => ?_) (fun c_10 => ?_)
    · have h_11 := (h_8).1 c_10
      refine y_aload_n C dX0_mend_18 0 rfl rfl ?_
      refine y_iload_n C dX0_mend_19 1 rfl rfl ?_
      refine y_callRiV (As := [.int (x1)]) (rest := []) C cs_X0_267 (met_o_stuckAt G A S (x1) _ (h_11)) (fun _ h => h) (wC_0 ..) rfl rfl ⟨rfl, rfl, Nat.le_of_ble_eq_true rfl, Nat.le_of_ble_eq_true rfl⟩ rfl rfl (Nat.le_of_ble_eq_true rfl) dX0_mend_20 ⟨Nat.zero_le _, Nat.zero_le _⟩ (fun r_12 h_13 => ?_)
      refine y_iconst C dX0_mend_23 icm1 ?_
      refine y_icmp_eq C (tgt := 29) dX0_mend_24 rfl (fun c_15 => ?_) (fun c_15 => ?_)
      · have h_16 := (h_13).1 c_15
        refine y_iconst C dX0_mend_29 ic_0 ?_
        refine y_istore_n C dX0_mend_30 rfl (Nat.le_of_ble_eq_true rfl) [(2, .int (0)), (0, .ref (A 0)), (1, .int (x1))] rfl ?_
        refine y_iconst C dX0_mend_31 ic_0 ?_
        refine y_istore_n C dX0_mend_32 rfl (Nat.le_of_ble_eq_true rfl) [(3, .int (0)), (2, .int (0)), (0, .ref (A 0)), (1, .int (x1))] rfl ?_
        obtain ⟨n_17, h_18⟩ := h_16
        exact Y.sub (wk_o_mend_b33 C N (x1) n_17 (0) (0) h_18) [2, 3, 1, 0] rfl
      · have h_19 := (h_13).2 c_15
        refine y_iconst C dX0_mend_27 icm1 ?_
        exact y_iretR C N rfl (h_19) dX0_mend_28
    · have h_20 := (h_8).2 c_10
      refine y_bipush C dX0_mend_15 bpm2 ?_
      exact y_iretR C N rfl (h_20) dX0_mend_17
/-! OverHill mended(II)I: o_mended -/
abbrev rm_o_mended : Room := { frames := 6, cells := 0, slots := 0, locals := 154 }
def wp_o_mended (S : St) (x1 : Int32) (x2 : Int32) (Q : Int32 → Prop) : Prop :=
  wp_o_isPlace S (x1) (x2) (fun r_1 => ((r_1 = 0 → Q (-2)) ∧ (¬ r_1 = 0 → wp_o_areRounds S (fun r_7 => ((¬ r_7 = 0 → wp_o_stuckAt S (x1) (fun r_12 => ((r_12 = (-1) → wp_o_mendedAt S (x1) (x2) (fun r_17 => Q r_17)) ∧ (¬ r_12 = (-1) → Q (-1))))) ∧ (r_7 = 0 → Q (-2)))))))
set_option maxRecDepth 100000 in
theorem met_o_mended (G : Gx) (A : Nat → Nat) (S : St) (x1 : Int32) (x2 : Int32) (Q : Int32 → Prop) (h : wp_o_mended S x1 x2 Q) : Ri G yX0_mended (ws_ yX0_mended cX0_mended 3 (some .int)) rm_o_mended (wC G A S) [.ref (A 0), .int (x1), .int (x2)] Q := by
  refine ent_Ri (by decide +kernel) rfl (Nat.le_of_ble_eq_true rfl) [(0, .ref (A 0)), (1, .int (x1)), (2, .int (x2))] rfl (fun K C N => ?_)
  refine y_aload_n C dX0_mended_0 0 rfl rfl ?_
  refine y_iload_n C dX0_mended_1 1 rfl rfl ?_
  refine y_iload_n C dX0_mended_2 2 rfl rfl ?_
  refine y_callRiV (As := [.int (x1), .int (x2)]) (rest := []) C cs_X0_152 (met_o_isPlace G A S (x1) (x2) _ (h)) (fun _ h => h) (wC_0 ..) rfl rfl ⟨rfl, rfl, Nat.le_of_ble_eq_true rfl, Nat.le_of_ble_eq_true rfl⟩ rfl rfl (Nat.le_of_ble_eq_true rfl) dX0_mended_3 ⟨Nat.zero_le _, Nat.zero_le _⟩ (fun r_1 h_2 => ?_)
  refine y_if_eq C (tgt := 16) dX0_mended_6 rfl (fun c_4 => ?_) (fun c_4 => ?_)
  · have h_5 := (h_2).1 c_4
    refine y_bipush C dX0_mended_16 bpm2 ?_
    exact y_iretR C N rfl (h_5) dX0_mended_18
  · have h_6 := (h_2).2 c_4
    refine y_aload_n C dX0_mended_9 0 rfl rfl ?_
    refine y_callRiV (As := []) (rest := []) C cs_X0_244 (met_o_areRounds G A S _ (h_6)) (fun _ h => h) (wC_0 ..) rfl rfl ⟨rfl, rfl, Nat.le_of_ble_eq_true rfl, Nat.le_of_ble_eq_true rfl⟩ rfl rfl (Nat.le_of_ble_eq_true rfl) dX0_mended_10 ⟨Nat.zero_le _, Nat.zero_le _⟩ (fun r_7 h_8 => ?_)
    refine y_if_ne C (tgt := 19) dX0_mended_13 rfl (fun c_10 => ?_) (fun c_10 => ?_)
    · have h_11 := (h_8).1 c_10
      refine y_aload_n C dX0_mended_19 0 rfl rfl ?_
      refine y_iload_n C dX0_mended_20 1 rfl rfl ?_
      refine y_callRiV (As := [.int (x1)]) (rest := []) C cs_X0_267 (met_o_stuckAt G A S (x1) _ (h_11)) (fun _ h => h) (wC_0 ..) rfl rfl ⟨rfl, rfl, Nat.le_of_ble_eq_true rfl, Nat.le_of_ble_eq_true rfl⟩ rfl rfl (Nat.le_of_ble_eq_true rfl) dX0_mended_21 ⟨Nat.zero_le _, Nat.zero_le _⟩ (fun r_12 h_13 => ?_)
      refine y_iconst C dX0_mended_24 icm1 ?_
      refine y_icmp_eq C (tgt := 32) dX0_mended_25 rfl (fun c_15 => ?_) (fun c_15 => ?_)
      · have h_16 := (h_13).1 c_15
        refine y_aload_n C dX0_mended_32 0 rfl rfl ?_
        refine y_iload_n C dX0_mended_33 1 rfl rfl ?_
        refine y_iload_n C dX0_mended_34 2 rfl rfl ?_
        refine y_callRiV (As := [.int (x1), .int (x2)]) (rest := []) C cs_X0_264 (met_o_mendedAt G A S (x1) (x2) _ (h_16)) (fun _ h => h) (wC_0 ..) rfl rfl ⟨rfl, rfl, Nat.le_of_ble_eq_true rfl, Nat.le_of_ble_eq_true rfl⟩ rfl rfl (Nat.le_of_ble_eq_true rfl) dX0_mended_35 ⟨Nat.zero_le _, Nat.zero_le _⟩ (fun r_17 h_18 => ?_)
        exact y_iretR C N rfl (h_18) dX0_mended_38
      · have h_20 := (h_13).2 c_15
        refine y_iconst C dX0_mended_28 icm1 ?_
        refine y_goto C (tgt := 38) dX0_mended_29 rfl ?_
        exact y_iretR C N rfl (h_20) dX0_mended_38
    · have h_21 := (h_8).2 c_10
      refine y_bipush C dX0_mended_16 bpm2 ?_
      exact y_iretR C N rfl (h_21) dX0_mended_18
/-! OverHill stuck(I)I: o_stuck -/
abbrev rm_o_stuck : Room := { frames := 6, cells := 0, slots := 0, locals := 154 }
def wp_o_stuck (S : St) (x1 : Int32) (Q : Int32 → Prop) : Prop :=
  wp_o_isSide S (x1) (fun r_1 => ((r_1 = 0 → Q (-2)) ∧ (¬ r_1 = 0 → wp_o_areRounds S (fun r_7 => ((r_7 = 0 → Q (-2)) ∧ (¬ r_7 = 0 → wp_o_stuckAt S (x1) (fun r_13 => Q r_13)))))))
set_option maxRecDepth 100000 in
theorem met_o_stuck (G : Gx) (A : Nat → Nat) (S : St) (x1 : Int32) (Q : Int32 → Prop) (h : wp_o_stuck S x1 Q) : Ri G yX0_stuck (ws_ yX0_stuck cX0_stuck 2 (some .int)) rm_o_stuck (wC G A S) [.ref (A 0), .int (x1)] Q := by
  refine ent_Ri (by decide +kernel) rfl (Nat.le_of_ble_eq_true rfl) [(0, .ref (A 0)), (1, .int (x1))] rfl (fun K C N => ?_)
  refine y_aload_n C dX0_stuck_0 0 rfl rfl ?_
  refine y_iload_n C dX0_stuck_1 1 rfl rfl ?_
  refine y_callRiV (As := [.int (x1)]) (rest := []) C cs_X0_140 (met_o_isSide G A S (x1) _ (h)) (fun _ h => h) (wC_0 ..) rfl rfl ⟨rfl, rfl, Nat.le_of_ble_eq_true rfl, Nat.le_of_ble_eq_true rfl⟩ rfl rfl (Nat.le_of_ble_eq_true rfl) dX0_stuck_2 ⟨Nat.zero_le _, Nat.zero_le _⟩ (fun r_1 h_2 => ?_)
  refine y_if_eq C (tgt := 23) dX0_stuck_5 rfl (fun c_4 => ?_) (fun c_4 => ?_)
  · have h_5 := (h_2).1 c_4
    refine y_bipush C dX0_stuck_23 bpm2 ?_
    exact y_iretR C N rfl (h_5) dX0_stuck_25
  · have h_6 := (h_2).2 c_4
    refine y_aload_n C dX0_stuck_8 0 rfl rfl ?_
    refine y_callRiV (As := []) (rest := []) C cs_X0_244 (met_o_areRounds G A S _ (h_6)) (fun _ h => h) (wC_0 ..) rfl rfl ⟨rfl, rfl, Nat.le_of_ble_eq_true rfl, Nat.le_of_ble_eq_true rfl⟩ rfl rfl (Nat.le_of_ble_eq_true rfl) dX0_stuck_9 ⟨Nat.zero_le _, Nat.zero_le _⟩ (fun r_7 h_8 => ?_)
    refine y_if_eq C (tgt := 23) dX0_stuck_12 rfl (fun c_10 => ?_) (fun c_10 => ?_)
    · have h_11 := (h_8).1 c_10
      refine y_bipush C dX0_stuck_23 bpm2 ?_
      exact y_iretR C N rfl (h_11) dX0_stuck_25
    · have h_12 := (h_8).2 c_10
      refine y_aload_n C dX0_stuck_15 0 rfl rfl ?_
      refine y_iload_n C dX0_stuck_16 1 rfl rfl ?_
      refine y_callRiV (As := [.int (x1)]) (rest := []) C cs_X0_267 (met_o_stuckAt G A S (x1) _ (h_12)) (fun _ h => h) (wC_0 ..) rfl rfl ⟨rfl, rfl, Nat.le_of_ble_eq_true rfl, Nat.le_of_ble_eq_true rfl⟩ rfl rfl (Nat.le_of_ble_eq_true rfl) dX0_stuck_17 ⟨Nat.zero_le _, Nat.zero_le _⟩ (fun r_13 h_14 => ?_)
      refine y_goto C (tgt := 25) dX0_stuck_20 rfl ?_
      exact y_iretR C N rfl (h_14) dX0_stuck_25
/-! OverHill isSlot(I)Z: o_isSlot -/
abbrev rm_o_isSlot : Room := { frames := 2, cells := 0, slots := 0, locals := 65 }
def wp_o_isSlot (x0 : Int32) (Q : Int32 → Prop) : Prop :=
  wp_o_isIn ((x0).toInt64) (0) (3) (fun r_1 => (narrow .boolean (.int r_1) = .int r_1 ∧ Q r_1))
set_option maxRecDepth 100000 in
theorem met_o_isSlot (G : Gx) (x0 : Int32) (Q : Int32 → Prop) (h : wp_o_isSlot x0 Q) : Ri G yX0_isSlot (ws_ yX0_isSlot cX0_isSlot 1 (some .boolean)) rm_o_isSlot [] [.int (x0)] Q := by
  refine ent_Ri (by decide +kernel) rfl (Nat.le_of_ble_eq_true rfl) [(0, .int (x0))] rfl (fun K C N => ?_)
  refine y_iload_n C dX0_isSlot_0 0 rfl rfl ?_
  refine y_i2l C dX0_isSlot_1 rfl ?_
  refine y_lconst C dX0_isSlot_2 lc_0 ?_
  refine y_ldc2 C dX0_isSlot_3 q1115 ?_
  refine y_callRiS (As := [.long ((x0).toInt64), .long (0), .long (3)]) (rest := []) C cs_X0_103 (met_o_isIn G ((x0).toInt64) (0) (3) _ (h)) (fun _ h => h) ⟨rfl, rfl, Nat.le_of_ble_eq_true rfl, Nat.le_of_ble_eq_true rfl⟩ rfl rfl (Nat.le_of_ble_eq_true rfl) dX0_isSlot_6 ⟨Nat.zero_le _, Nat.zero_le _⟩ (fun r_1 h_2 => ?_)
  exact y_zretR C N rfl (h_2).1 ((h_2).2) dX0_isSlot_9
/-! OverHill worstOf(I)I: o_worstOf -/
abbrev rm_o_worstOf : Room := { frames := 2, cells := 0, slots := 0, locals := 61 }
def wp_o_worstOf_b4 (S : St) (Q : Int32 → Prop) (x1 : Int32) : Nat → Int32 → Int32 → Prop
  | 0 => fun _ _ => False
  | n + 1 => fun x2 x3 => ((6 < x3 → Q x2) ∧ (¬ 6 < x3 → (vp_in ((7 * x1) + x3) 560 ∧ wp_jm_max (x2) ((S.1 8 (((7 * x1) + x3)).toNatClampNeg)) (fun r_6 => wp_o_worstOf_b4 S Q x1 n (r_6) ((x3 + 1))))))
def wp_o_worstOf (S : St) (x1 : Int32) (Q : Int32 → Prop) : Prop :=
  (∃ z, wp_o_worstOf_b4 S Q (x1) z (0) (0))
set_option maxRecDepth 100000 in
theorem wk_o_worstOf_b4 {G : Gx} {K : Kx} {A : Nat → Nat} (C : KOk G K RX0 cX0_worstOf rm_o_worstOf 4 (some .int)) {S : St} {Q : Int32 → Prop} (N : KRi K Q) (x1 : Int32) : ∀ (n : Nat), ∀ (x2 : Int32) (x3 : Int32), wp_o_worstOf_b4 S Q x1 n x2 x3 → Y G K 0 0 (wC G A S) 4 [(0, .ref (A 0)), (1, .int (x1)), (2, .int (x2)), (3, .int (x3))] [] := by
  intro n
  induction n with
  | zero => intro x2 x3 h; exact h.elim
  | succ n ih =>
    intro x2 x3 h
    dsimp only [wp_o_worstOf_b4] at h
    refine y_iload_n C dX0_worstOf_4 3 rfl rfl ?_
    refine y_bipush C dX0_worstOf_5 bp_6 ?_
    refine y_icmp_gt C (tgt := 32) dX0_worstOf_7 rfl (fun c_3 => ?_) (fun c_3 => ?_)
    · have h_4 := (h).1 c_3
      refine y_iload_n C dX0_worstOf_32 2 rfl rfl ?_
      exact y_iretR C N rfl (h_4) dX0_worstOf_33
    · have h_5 := (h).2 c_3
      refine y_iload_n C dX0_worstOf_10 2 rfl rfl ?_
      refine y_aload_n C dX0_worstOf_11 0 rfl rfl ?_
      refine yg_X0_61_wC0 C dX0_worstOf_12 ?_
      refine y_bipush C dX0_worstOf_15 bp_7 ?_
      refine y_iload_n C dX0_worstOf_17 1 rfl rfl ?_
      refine y_imul C dX0_worstOf_18 ?_
      refine y_iload_n C dX0_worstOf_19 3 rfl rfl ?_
      refine y_iadd C dX0_worstOf_20 ?_
      refine y_iald C (wC_8 ..) rfl (h_5).1 dX0_worstOf_21 ?_
      refine y_callRiS (As := [.int (x2), .int ((S.1 8 (((7 * x1) + x3)).toNatClampNeg))]) (rest := []) C cs_X0_312 (met_jm_max G (x2) ((S.1 8 (((7 * x1) + x3)).toNatClampNeg)) _ ((h_5).2)) (fun _ _ => pw_nil) ⟨rfl, rfl, Nat.le_of_ble_eq_true rfl, Nat.le_of_ble_eq_true rfl⟩ rfl rfl (Nat.le_of_ble_eq_true rfl) dX0_worstOf_22 ⟨Nat.zero_le _, Nat.zero_le _⟩ (fun r_6 h_7 => ?_)
      refine y_istore_n C dX0_worstOf_25 rfl (Nat.le_of_ble_eq_true rfl) [(2, .int (r_6)), (0, .ref (A 0)), (1, .int (x1)), (3, .int (x3))] rfl ?_
      refine y_iinc C dX0_worstOf_26 3 rfl (Nat.le_of_ble_eq_true rfl) (ii_1 _) [(3, .int ((x3 + 1))), (2, .int (r_6)), (0, .ref (A 0)), (1, .int (x1))] rfl ?_
      refine y_goto C (tgt := 4) dX0_worstOf_29 rfl ?_
      exact Y.sub (ih (r_6) ((x3 + 1)) (h_7)) [2, 3, 1, 0] rfl
set_option maxRecDepth 100000 in
theorem met_o_worstOf (G : Gx) (A : Nat → Nat) (S : St) (x1 : Int32) (Q : Int32 → Prop) (h : wp_o_worstOf S x1 Q) : Ri G yX0_worstOf (ws_ yX0_worstOf cX0_worstOf 4 (some .int)) rm_o_worstOf (wC G A S) [.ref (A 0), .int (x1)] Q := by
  refine ent_Ri (by decide +kernel) rfl (Nat.le_of_ble_eq_true rfl) [(0, .ref (A 0)), (1, .int (x1))] rfl (fun K C N => ?_)
  refine y_iconst C dX0_worstOf_0 ic_0 ?_
  refine y_istore_n C dX0_worstOf_1 rfl (Nat.le_of_ble_eq_true rfl) [(2, .int (0)), (0, .ref (A 0)), (1, .int (x1))] rfl ?_
  refine y_iconst C dX0_worstOf_2 ic_0 ?_
  refine y_istore_n C dX0_worstOf_3 rfl (Nat.le_of_ble_eq_true rfl) [(3, .int (0)), (2, .int (0)), (0, .ref (A 0)), (1, .int (x1))] rfl ?_
  obtain ⟨n_1, h_2⟩ := h
  exact Y.sub (wk_o_worstOf_b4 C N (x1) n_1 (0) (0) h_2) [2, 3, 1, 0] rfl
/-! OverHill entered(II)I: o_entered -/
abbrev rm_o_entered : Room := { frames := 1, cells := 0, slots := 0, locals := 40 }
def wp_o_entered_b2 (S : St) (Q : Int32 → Prop) (x2 : Int32) : Nat → Int32 → Prop
  | 0 => fun _ => False
  | n + 1 => fun x3 => (vp_in x2 12 ∧ (¬ (S.1 24 (x2).toNatClampNeg) = 0 ∧ (vp_in x2 12 ∧ (((irm x3 (S.1 24 (x2).toNatClampNeg)) = (S.1 25 (x2).toNatClampNeg) → Q (x3 + 1)) ∧ (¬ (irm x3 (S.1 24 (x2).toNatClampNeg)) = (S.1 25 (x2).toNatClampNeg) → wp_o_entered_b2 S Q x2 n ((x3 + 1)))))))
def wp_o_entered (S : St) (x1 : Int32) (x2 : Int32) (Q : Int32 → Prop) : Prop :=
  (∃ z, wp_o_entered_b2 S Q (x2) z (x1))
set_option maxRecDepth 100000 in
theorem wk_o_entered_b2 {G : Gx} {K : Kx} {A : Nat → Nat} (C : KOk G K RX0 cX0_entered rm_o_entered 4 (some .int)) {S : St} {Q : Int32 → Prop} (N : KRi K Q) (x2 : Int32) : ∀ (n : Nat), ∀ (x3 : Int32), wp_o_entered_b2 S Q x2 n x3 → Y G K 0 0 (wC G A S) 2 [(0, .ref (A 0)), (2, .int (x2)), (3, .int (x3))] [] := by
  intro n
  induction n with
  | zero => intro x3 h; exact h.elim
  | succ n ih =>
    intro x3 h
    dsimp only [wp_o_entered_b2] at h
    refine y_iload_n C dX0_entered_2 2 rfl rfl ?_
    refine y_aload_n C dX0_entered_3 0 rfl rfl ?_
    refine yg_X0_12_wC0 C dX0_entered_4 ?_
    refine yg_X0_324_wC15 C dX0_entered_7 ?_
    refine y_iload_n C dX0_entered_10 1 rfl rfl ?_
    refine y_iald C (wC_24 ..) rfl (h).1 dX0_entered_11 ?_
    refine y_irem C dX0_entered_12 ((h).2).1 ?_
    refine y_aload_n C dX0_entered_13 0 rfl rfl ?_
    refine yg_X0_12_wC0 C dX0_entered_14 ?_
    refine yg_X0_327_wC15 C dX0_entered_17 ?_
    refine y_iload_n C dX0_entered_20 1 rfl rfl ?_
    refine y_iald C (wC_25 ..) rfl (((h).2).2).1 dX0_entered_21 ?_
    refine y_icmp_eq C (tgt := 31) dX0_entered_22 rfl (fun c_3 => ?_) (fun c_3 => ?_)
    · have h_4 := ((((h).2).2).2).1 c_3
      refine y_iload_n C dX0_entered_31 2 rfl rfl ?_
      refine y_iconst C dX0_entered_32 ic_1 ?_
      refine y_iadd C dX0_entered_33 ?_
      exact y_iretR C N rfl (h_4) dX0_entered_34
    · have h_5 := ((((h).2).2).2).2 c_3
      refine y_iinc C dX0_entered_25 2 rfl (Nat.le_of_ble_eq_true rfl) (ii_1 _) [(3, .int ((x3 + 1))), (0, .ref (A 0)), (2, .int (x2))] rfl ?_
      refine y_goto C (tgt := 2) dX0_entered_28 rfl ?_
      exact Y.sub (ih ((x3 + 1)) (h_5)) [1, 2, 0] rfl
set_option maxRecDepth 100000 in
theorem met_o_entered (G : Gx) (A : Nat → Nat) (S : St) (x1 : Int32) (x2 : Int32) (Q : Int32 → Prop) (h : wp_o_entered S x1 x2 Q) : Ri G yX0_entered (ws_ yX0_entered cX0_entered 4 (some .int)) rm_o_entered (wC G A S) [.ref (A 0), .int (x1), .int (x2)] Q := by
  refine ent_Ri (by decide +kernel) rfl (Nat.le_of_ble_eq_true rfl) [(0, .ref (A 0)), (1, .int (x1)), (2, .int (x2))] rfl (fun K C N => ?_)
  refine y_iload_n C dX0_entered_0 1 rfl rfl ?_
  refine y_istore_n C dX0_entered_1 rfl (Nat.le_of_ble_eq_true rfl) [(3, .int (x1)), (0, .ref (A 0)), (1, .int (x1)), (2, .int (x2))] rfl ?_
  obtain ⟨n_1, h_2⟩ := h
  exact Y.sub (wk_o_entered_b2 C N (x2) n_1 (x1) h_2) [1, 3, 0] rfl
/-! OverHill goesOver(I)I: o_goesOver -/
abbrev rm_o_goesOver : Room := { frames := 2, cells := 0, slots := 0, locals := 63 }
def wp_o_goesOver_b4 (Q : Int32 → St → Prop) : Nat → St → Int32 → Int32 → Prop
  | 0 => fun _ _ _ => False
  | n + 1 => fun S x2 x3 => (((S.1 15 5) ≤ x3 → Q (x2 + 1) S) ∧ (¬ (S.1 15 5) ≤ x3 → wp_o_entered S (x2) (x3) (fun r_6 => (vp_in x3 12 ∧ wp_o_goesOver_b4 Q n (sI S 9 (x3).toNatClampNeg r_6) (r_6) ((x3 + 1))))))
def wp_o_goesOver (S : St) (x1 : Int32) (Q : Int32 → St → Prop) : Prop :=
  (∃ z, wp_o_goesOver_b4 Q z S (x1) (0))
set_option maxRecDepth 100000 in
theorem wk_o_goesOver_b4 {G : Gx} {K : Kx} {A : Nat → Nat} (C : KOk G K RX0 cX0_goesOver rm_o_goesOver 4 (some .int)) {B : Nat → Prop} (M : KM G K B) {Q : Int32 → St → Prop} (N : KQi G K B (wC G A) Q) : ∀ (n : Nat), ∀ (S : St) (x2 : Int32) (x3 : Int32), wp_o_goesOver_b4 Q n S x2 x3 → Y G K 0 0 (wC G A S) 4 [(0, .ref (A 0)), (2, .int (x2)), (3, .int (x3))] [] := by
  intro n
  induction n with
  | zero => intro S x2 x3 h; exact h.elim
  | succ n ih =>
    intro S x2 x3 h
    dsimp only [wp_o_goesOver_b4] at h
    refine y_iload_n C dX0_goesOver_4 2 rfl rfl ?_
    refine y_aload_n C dX0_goesOver_5 0 rfl rfl ?_
    refine yg_X0_12_wC0 C dX0_goesOver_6 ?_
    refine yg_X0_329_wC15 C dX0_goesOver_9 ?_
    refine y_icmp_ge C (tgt := 35) dX0_goesOver_12 rfl (fun c_3 => ?_) (fun c_3 => ?_)
    · have h_4 := (h).1 c_3
      refine y_iload_n C dX0_goesOver_35 1 rfl rfl ?_
      refine y_iconst C dX0_goesOver_36 ic_1 ?_
      refine y_iadd C dX0_goesOver_37 ?_
      exact y_iretM C M N rfl (S := S) rfl (h_4) dX0_goesOver_38
    · have h_5 := (h).2 c_3
      refine y_aload_n C dX0_goesOver_15 0 rfl rfl ?_
      refine y_iload_n C dX0_goesOver_16 1 rfl rfl ?_
      refine y_iload_n C dX0_goesOver_17 2 rfl rfl ?_
      refine y_callRiV (As := [.int (x2), .int (x3)]) (rest := []) C cs_X0_332 (met_o_entered G A S (x2) (x3) _ (h_5)) (fun _ h => h) (wC_0 ..) rfl rfl ⟨rfl, rfl, Nat.le_of_ble_eq_true rfl, Nat.le_of_ble_eq_true rfl⟩ rfl rfl (Nat.le_of_ble_eq_true rfl) dX0_goesOver_18 ⟨Nat.zero_le _, Nat.zero_le _⟩ (fun r_6 h_7 => ?_)
      refine y_istore_n C dX0_goesOver_21 rfl (Nat.le_of_ble_eq_true rfl) [(2, .int (r_6)), (0, .ref (A 0)), (3, .int (x3))] rfl ?_
      refine y_aload_n C dX0_goesOver_22 1 rfl rfl ?_
      refine yg_X0_64_wC0 C dX0_goesOver_23 ?_
      refine y_iload_n C dX0_goesOver_26 2 rfl rfl ?_
      refine y_iload_n C dX0_goesOver_27 0 rfl rfl ?_
      refine y_iast C M (wC_9 ..) rfl (wC_s9 ..) (h_7).1 dX0_goesOver_28 ?_
      refine y_iinc C dX0_goesOver_29 2 rfl (Nat.le_of_ble_eq_true rfl) (ii_1 _) [(3, .int ((x3 + 1))), (2, .int (r_6)), (0, .ref (A 0))] rfl ?_
      refine y_goto C (tgt := 4) dX0_goesOver_32 rfl ?_
      exact Y.sub (ih (sI S 9 (x3).toNatClampNeg r_6) (r_6) ((x3 + 1)) ((h_7).2)) [2, 1, 0] rfl
set_option maxRecDepth 100000 in
theorem met_o_goesOver (G : Gx) (A : Nat → Nat) (S : St) (x1 : Int32) (Q : Int32 → St → Prop) (h : wp_o_goesOver S x1 Q) : Mi G yX0_goesOver (ws_ yX0_goesOver cX0_goesOver 4 (some .int)) rm_o_goesOver (wC G A S) [.ref (A 0), .int (x1)] (wC G A) Q := by
  refine ent_Mi (by decide +kernel) rfl (Nat.le_of_ble_eq_true rfl) [(0, .ref (A 0)), (1, .int (x1))] rfl (fun K B C M N => ?_)
  refine y_iload_n C dX0_goesOver_0 1 rfl rfl ?_
  refine y_istore_n C dX0_goesOver_1 rfl (Nat.le_of_ble_eq_true rfl) [(2, .int (x1)), (0, .ref (A 0)), (1, .int (x1))] rfl ?_
  refine y_iconst C dX0_goesOver_2 ic_0 ?_
  refine y_istore_n C dX0_goesOver_3 rfl (Nat.le_of_ble_eq_true rfl) [(3, .int (0)), (2, .int (x1)), (0, .ref (A 0)), (1, .int (x1))] rfl ?_
  obtain ⟨n_1, h_2⟩ := h
  exact Y.sub (wk_o_goesOver_b4 C M N n_1 S (x1) (0) h_2) [2, 1, 0] rfl
/-! OverHill crosses(I)I: o_crosses -/
abbrev rm_o_crosses : Room := { frames := 3, cells := 0, slots := 0, locals := 87 }
def wp_o_crosses (S : St) (x1 : Int32) (Q : Int32 → St → Prop) : Prop :=
  wp_o_isBeat S ((x1).toInt64) (fun r_1 => ((r_1 = 0 → Q (-2) S) ∧ (¬ r_1 = 0 → wp_o_goesOver S (x1) (fun r_7 S_9 => Q r_7 S_9))))
set_option maxRecDepth 100000 in
theorem met_o_crosses (G : Gx) (A : Nat → Nat) (S : St) (x1 : Int32) (Q : Int32 → St → Prop) (h : wp_o_crosses S x1 Q) : Mi G yX0_crosses (ws_ yX0_crosses cX0_crosses 2 (some .int)) rm_o_crosses (wC G A S) [.ref (A 0), .int (x1)] (wC G A) Q := by
  refine ent_Mi (by decide +kernel) rfl (Nat.le_of_ble_eq_true rfl) [(0, .ref (A 0)), (1, .int (x1))] rfl (fun K B C M N => ?_)
  refine y_aload_n C dX0_crosses_0 0 rfl rfl ?_
  refine y_iload_n C dX0_crosses_1 1 rfl rfl ?_
  refine y_i2l C dX0_crosses_2 rfl ?_
  refine y_callRiV (As := [.long ((x1).toInt64)]) (rest := []) C cs_X0_181 (met_o_isBeat G A S ((x1).toInt64) _ (h)) (fun _ h => h) (wC_0 ..) rfl rfl ⟨rfl, rfl, Nat.le_of_ble_eq_true rfl, Nat.le_of_ble_eq_true rfl⟩ rfl rfl (Nat.le_of_ble_eq_true rfl) dX0_crosses_3 ⟨Nat.zero_le _, Nat.zero_le _⟩ (fun r_1 h_2 => ?_)
  refine y_if_eq C (tgt := 17) dX0_crosses_6 rfl (fun c_4 => ?_) (fun c_4 => ?_)
  · have h_5 := (h_2).1 c_4
    refine y_bipush C dX0_crosses_17 bpm2 ?_
    exact y_iretM C M N rfl (S := S) rfl (h_5) dX0_crosses_19
  · have h_6 := (h_2).2 c_4
    refine y_aload_n C dX0_crosses_9 0 rfl rfl ?_
    refine y_iload_n C dX0_crosses_10 1 rfl rfl ?_
    refine y_callMiV (k' := 0) (n' := 0) (As := [.int (x1)]) (rest := []) C M cs_X0_335 (met_o_goesOver G A S (x1) _ (h_6)) (wC_0 ..) rfl rfl ⟨rfl, rfl, Nat.le_of_ble_eq_true rfl, Nat.le_of_ble_eq_true rfl⟩ rfl rfl (Nat.le_of_ble_eq_true rfl) dX0_crosses_11 ⟨Nat.zero_le _, Nat.zero_le _⟩ rfl rfl (fun r_7 S_9 h_8 => ?_)
    refine y_goto C (tgt := 19) dX0_crosses_14 rfl ?_
    exact y_iretM C M N rfl (S := S_9) rfl (h_8) dX0_crosses_19
/-! OverHill goesBack(I)I: o_goesBack -/
abbrev rm_o_goesBack : Room := { frames := 2, cells := 0, slots := 0, locals := 63 }
def wp_o_goesBack_b12 (Q : Int32 → St → Prop) : Nat → St → Int32 → Int32 → Prop
  | 0 => fun _ _ _ => False
  | n + 1 => fun S x2 x3 => ((x3 < 0 → Q (x2 + 1) S) ∧ (¬ x3 < 0 → wp_o_entered S (x2) (x3) (fun r_6 => (vp_in x3 12 ∧ wp_o_goesBack_b12 Q n (sI S 10 (x3).toNatClampNeg r_6) (r_6) ((x3 + (-1)))))))
def wp_o_goesBack (S : St) (x1 : Int32) (Q : Int32 → St → Prop) : Prop :=
  (∃ z, wp_o_goesBack_b12 Q z S (x1) (((S.1 15 5) - 1)))
set_option maxRecDepth 100000 in
theorem wk_o_goesBack_b12 {G : Gx} {K : Kx} {A : Nat → Nat} (C : KOk G K RX0 cX0_goesBack rm_o_goesBack 4 (some .int)) {B : Nat → Prop} (M : KM G K B) {Q : Int32 → St → Prop} (N : KQi G K B (wC G A) Q) : ∀ (n : Nat), ∀ (S : St) (x2 : Int32) (x3 : Int32), wp_o_goesBack_b12 Q n S x2 x3 → Y G K 0 0 (wC G A S) 12 [(0, .ref (A 0)), (2, .int (x2)), (3, .int (x3))] [] := by
  intro n
  induction n with
  | zero => intro S x2 x3 h; exact h.elim
  | succ n ih =>
    intro S x2 x3 h
    dsimp only [wp_o_goesBack_b12] at h
    refine y_iload_n C dX0_goesBack_12 2 rfl rfl ?_
    refine y_if_lt C (tgt := 36) dX0_goesBack_13 rfl (fun c_3 => ?_) (fun c_3 => ?_)
    · have h_4 := (h).1 c_3
      refine y_iload_n C dX0_goesBack_36 1 rfl rfl ?_
      refine y_iconst C dX0_goesBack_37 ic_1 ?_
      refine y_iadd C dX0_goesBack_38 ?_
      exact y_iretM C M N rfl (S := S) rfl (h_4) dX0_goesBack_39
    · have h_5 := (h).2 c_3
      refine y_aload_n C dX0_goesBack_16 0 rfl rfl ?_
      refine y_iload_n C dX0_goesBack_17 1 rfl rfl ?_
      refine y_iload_n C dX0_goesBack_18 2 rfl rfl ?_
      refine y_callRiV (As := [.int (x2), .int (x3)]) (rest := []) C cs_X0_332 (met_o_entered G A S (x2) (x3) _ (h_5)) (fun _ h => h) (wC_0 ..) rfl rfl ⟨rfl, rfl, Nat.le_of_ble_eq_true rfl, Nat.le_of_ble_eq_true rfl⟩ rfl rfl (Nat.le_of_ble_eq_true rfl) dX0_goesBack_19 ⟨Nat.zero_le _, Nat.zero_le _⟩ (fun r_6 h_7 => ?_)
      refine y_istore_n C dX0_goesBack_22 rfl (Nat.le_of_ble_eq_true rfl) [(2, .int (r_6)), (0, .ref (A 0)), (3, .int (x3))] rfl ?_
      refine y_aload_n C dX0_goesBack_23 1 rfl rfl ?_
      refine yg_X0_67_wC0 C dX0_goesBack_24 ?_
      refine y_iload_n C dX0_goesBack_27 2 rfl rfl ?_
      refine y_iload_n C dX0_goesBack_28 0 rfl rfl ?_
      refine y_iast C M (wC_10 ..) rfl (wC_s10 ..) (h_7).1 dX0_goesBack_29 ?_
      refine y_iinc C dX0_goesBack_30 2 rfl (Nat.le_of_ble_eq_true rfl) (iim1 _) [(3, .int ((x3 + (-1)))), (2, .int (r_6)), (0, .ref (A 0))] rfl ?_
      refine y_goto C (tgt := 12) dX0_goesBack_33 rfl ?_
      exact Y.sub (ih (sI S 10 (x3).toNatClampNeg r_6) (r_6) ((x3 + (-1))) ((h_7).2)) [2, 1, 0] rfl
set_option maxRecDepth 100000 in
theorem met_o_goesBack (G : Gx) (A : Nat → Nat) (S : St) (x1 : Int32) (Q : Int32 → St → Prop) (h : wp_o_goesBack S x1 Q) : Mi G yX0_goesBack (ws_ yX0_goesBack cX0_goesBack 4 (some .int)) rm_o_goesBack (wC G A S) [.ref (A 0), .int (x1)] (wC G A) Q := by
  refine ent_Mi (by decide +kernel) rfl (Nat.le_of_ble_eq_true rfl) [(0, .ref (A 0)), (1, .int (x1))] rfl (fun K B C M N => ?_)
  refine y_iload_n C dX0_goesBack_0 1 rfl rfl ?_
  refine y_istore_n C dX0_goesBack_1 rfl (Nat.le_of_ble_eq_true rfl) [(2, .int (x1)), (0, .ref (A 0)), (1, .int (x1))] rfl ?_
  refine y_aload_n C dX0_goesBack_2 1 rfl rfl ?_
  refine yg_X0_12_wC0 C dX0_goesBack_3 ?_
  refine yg_X0_329_wC15 C dX0_goesBack_6 ?_
  refine y_iconst C dX0_goesBack_9 ic_1 ?_
  refine y_isub C dX0_goesBack_10 ?_
  refine y_istore_n C dX0_goesBack_11 rfl (Nat.le_of_ble_eq_true rfl) [(3, .int (((S.1 15 5) - 1))), (2, .int (x1)), (0, .ref (A 0)), (1, .int (x1))] rfl ?_
  obtain ⟨n_1, h_2⟩ := h
  exact Y.sub (wk_o_goesBack_b12 C M N n_1 S (x1) (((S.1 15 5) - 1)) h_2) [2, 1, 0] rfl
/-! OverHill returns(I)I: o_returns -/
abbrev rm_o_returns : Room := { frames := 3, cells := 0, slots := 0, locals := 87 }
def wp_o_returns (S : St) (x1 : Int32) (Q : Int32 → St → Prop) : Prop :=
  wp_o_isBeat S ((x1).toInt64) (fun r_1 => ((r_1 = 0 → Q (-2) S) ∧ (¬ r_1 = 0 → wp_o_goesBack S (x1) (fun r_7 S_9 => Q r_7 S_9))))
set_option maxRecDepth 100000 in
theorem met_o_returns (G : Gx) (A : Nat → Nat) (S : St) (x1 : Int32) (Q : Int32 → St → Prop) (h : wp_o_returns S x1 Q) : Mi G yX0_returns (ws_ yX0_returns cX0_returns 2 (some .int)) rm_o_returns (wC G A S) [.ref (A 0), .int (x1)] (wC G A) Q := by
  refine ent_Mi (by decide +kernel) rfl (Nat.le_of_ble_eq_true rfl) [(0, .ref (A 0)), (1, .int (x1))] rfl (fun K B C M N => ?_)
  refine y_aload_n C dX0_returns_0 0 rfl rfl ?_
  refine y_iload_n C dX0_returns_1 1 rfl rfl ?_
  refine y_i2l C dX0_returns_2 rfl ?_
  refine y_callRiV (As := [.long ((x1).toInt64)]) (rest := []) C cs_X0_181 (met_o_isBeat G A S ((x1).toInt64) _ (h)) (fun _ h => h) (wC_0 ..) rfl rfl ⟨rfl, rfl, Nat.le_of_ble_eq_true rfl, Nat.le_of_ble_eq_true rfl⟩ rfl rfl (Nat.le_of_ble_eq_true rfl) dX0_returns_3 ⟨Nat.zero_le _, Nat.zero_le _⟩ (fun r_1 h_2 => ?_)
  refine y_if_eq C (tgt := 17) dX0_returns_6 rfl (fun c_4 => ?_) (fun c_4 => ?_)
  · have h_5 := (h_2).1 c_4
    refine y_bipush C dX0_returns_17 bpm2 ?_
    exact y_iretM C M N rfl (S := S) rfl (h_5) dX0_returns_19
  · have h_6 := (h_2).2 c_4
    refine y_aload_n C dX0_returns_9 0 rfl rfl ?_
    refine y_iload_n C dX0_returns_10 1 rfl rfl ?_
    refine y_callMiV (k' := 0) (n' := 0) (As := [.int (x1)]) (rest := []) C M cs_X0_338 (met_o_goesBack G A S (x1) _ (h_6)) (wC_0 ..) rfl rfl ⟨rfl, rfl, Nat.le_of_ble_eq_true rfl, Nat.le_of_ble_eq_true rfl⟩ rfl rfl (Nat.le_of_ble_eq_true rfl) dX0_returns_11 ⟨Nat.zero_le _, Nat.zero_le _⟩ rfl rfl (fun r_7 S_9 h_8 => ?_)
    refine y_goto C (tgt := 19) dX0_returns_14 rfl ?_
    exact y_iretM C M N rfl (S := S_9) rfl (h_8) dX0_returns_19
/-! OverHill meetCell(II)I: o_meetCell -/
abbrev rm_o_meetCell : Room := { frames := 3, cells := 0, slots := 0, locals := 86 }
def wp_o_meetCell_b22 (Q : Int32 → St → Prop) : Nat → St → Int32 → Int32 → Prop
  | 0 => fun _ _ _ => False
  | n + 1 => fun S x3 x4 => (((S.1 15 5) ≤ x4 → Q x3 S) ∧ (¬ (S.1 15 5) ≤ x4 → (vp_in x4 12 ∧ (vp_in x4 12 ∧ wp_jm_max ((S.1 9 (x4).toNatClampNeg)) ((S.1 10 (x4).toNatClampNeg)) (fun r_12 => ((x3 = (-1) → wp_o_meetCell_b22 Q n (sI S 0 20 r_12) (x4) ((x4 + 1))) ∧ (¬ x3 = (-1) → ((r_12 < (S.1 0 20) → wp_o_meetCell_b22 Q n (sI S 0 20 r_12) (x4) ((x4 + 1))) ∧ (¬ r_12 < (S.1 0 20) → wp_o_meetCell_b22 Q n S (x3) ((x4 + 1)))))))))))
def wp_o_meetCell (S : St) (x1 : Int32) (x2 : Int32) (Q : Int32 → St → Prop) : Prop :=
  wp_o_goesOver S (x1) (fun r_1 S_3 => wp_o_goesBack S_3 (x2) (fun r_4 S_6 => (∃ z, wp_o_meetCell_b22 Q z (sI S_6 0 20 (-1)) ((-1)) (0))))
set_option maxRecDepth 100000 in
theorem wk_o_meetCell_b22 {G : Gx} {K : Kx} {A : Nat → Nat} (C : KOk G K RX0 cX0_meetCell rm_o_meetCell 6 (some .int)) {B : Nat → Prop} (M : KM G K B) {Q : Int32 → St → Prop} (N : KQi G K B (wC G A) Q) : ∀ (n : Nat), ∀ (S : St) (x3 : Int32) (x4 : Int32), wp_o_meetCell_b22 Q n S x3 x4 → Y G K 0 0 (wC G A S) 22 [(0, .ref (A 0)), (3, .int (x3)), (4, .int (x4))] [] := by
  intro n
  induction n with
  | zero => intro S x3 x4 h; exact h.elim
  | succ n ih =>
    intro S x3 x4 h
    dsimp only [wp_o_meetCell_b22] at h
    refine y_iload C dX0_meetCell_22 2 rfl ?_
    refine y_aload_n C dX0_meetCell_24 0 rfl rfl ?_
    refine yg_X0_12_wC0 C dX0_meetCell_25 ?_
    refine yg_X0_329_wC15 C dX0_meetCell_28 ?_
    refine y_icmp_ge C (tgt := 85) dX0_meetCell_31 rfl (fun c_9 => ?_) (fun c_9 => ?_)
    · have h_10 := (h).1 c_9
      refine y_iload_n C dX0_meetCell_85 1 rfl rfl ?_
      exact y_iretM C M N rfl (S := S) rfl (h_10) dX0_meetCell_86
    · have h_11 := (h).2 c_9
      refine y_aload_n C dX0_meetCell_34 0 rfl rfl ?_
      refine yg_X0_64_wC0 C dX0_meetCell_35 ?_
      refine y_iload C dX0_meetCell_38 2 rfl ?_
      refine y_iald C (wC_9 ..) rfl (h_11).1 dX0_meetCell_40 ?_
      refine y_aload_n C dX0_meetCell_41 0 rfl rfl ?_
      refine yg_X0_67_wC0 C dX0_meetCell_42 ?_
      refine y_iload C dX0_meetCell_45 2 rfl ?_
      refine y_iald C (wC_10 ..) rfl ((h_11).2).1 dX0_meetCell_47 ?_
      refine y_callRiS (As := [.int ((S.1 9 (x4).toNatClampNeg)), .int ((S.1 10 (x4).toNatClampNeg))]) (rest := []) C cs_X0_312 (met_jm_max G ((S.1 9 (x4).toNatClampNeg)) ((S.1 10 (x4).toNatClampNeg)) _ (((h_11).2).2)) (fun _ _ => pw_nil) ⟨rfl, rfl, Nat.le_of_ble_eq_true rfl, Nat.le_of_ble_eq_true rfl⟩ rfl rfl (Nat.le_of_ble_eq_true rfl) dX0_meetCell_48 ⟨Nat.zero_le _, Nat.zero_le _⟩ (fun r_12 h_13 => ?_)
      refine y_istore C dX0_meetCell_51 (Nat.le_of_ble_eq_true rfl) [(5, .int (r_12)), (0, .ref (A 0)), (3, .int (x3)), (4, .int (x4))] rfl ?_
      refine y_iload_n C dX0_meetCell_53 2 rfl rfl ?_
      refine y_iconst C dX0_meetCell_54 icm1 ?_
      refine y_icmp_eq C (tgt := 70) dX0_meetCell_55 rfl (fun c_15 => ?_) (fun c_15 => ?_)
      · have h_16 := (h_13).1 c_15
        refine y_aload_n C dX0_meetCell_70 1 rfl rfl ?_
        refine y_iload C dX0_meetCell_71 0 rfl ?_
        refine yp_X0_341_wC0 C M dX0_meetCell_73 ?_
        refine y_iload C dX0_meetCell_76 3 rfl ?_
        refine y_istore_n C dX0_meetCell_78 rfl (Nat.le_of_ble_eq_true rfl) [(3, .int (x4)), (5, .int (r_12)), (0, .ref (A 0)), (4, .int (x4))] rfl ?_
        refine y_iinc C dX0_meetCell_79 3 rfl (Nat.le_of_ble_eq_true rfl) (ii_1 _) [(4, .int ((x4 + 1))), (3, .int (x4)), (5, .int (r_12)), (0, .ref (A 0))] rfl ?_
        refine y_goto C (tgt := 22) dX0_meetCell_82 rfl ?_
        exact Y.sub (ih (sI S 0 20 r_12) (x4) ((x4 + 1)) (h_16)) [3, 1, 0] rfl
      · have h_17 := (h_13).2 c_15
        refine y_iload C dX0_meetCell_58 0 rfl ?_
        refine y_aload_n C dX0_meetCell_60 1 rfl rfl ?_
        refine yg_X0_341_wC0 C dX0_meetCell_61 ?_
        refine y_icmp_lt C (tgt := 70) dX0_meetCell_64 rfl (fun c_18 => ?_) (fun c_18 => ?_)
        · have h_19 := (h_17).1 c_18
          refine y_aload_n C dX0_meetCell_70 1 rfl rfl ?_
          refine y_iload C dX0_meetCell_71 0 rfl ?_
          refine yp_X0_341_wC0 C M dX0_meetCell_73 ?_
          refine y_iload C dX0_meetCell_76 3 rfl ?_
          refine y_istore_n C dX0_meetCell_78 rfl (Nat.le_of_ble_eq_true rfl) [(3, .int (x4)), (5, .int (r_12)), (0, .ref (A 0)), (4, .int (x4))] rfl ?_
          refine y_iinc C dX0_meetCell_79 3 rfl (Nat.le_of_ble_eq_true rfl) (ii_1 _) [(4, .int ((x4 + 1))), (3, .int (x4)), (5, .int (r_12)), (0, .ref (A 0))] rfl ?_
          refine y_goto C (tgt := 22) dX0_meetCell_82 rfl ?_
          exact Y.sub (ih (sI S 0 20 r_12) (x4) ((x4 + 1)) (h_19)) [3, 1, 0] rfl
        · have h_20 := (h_17).2 c_18
          refine y_goto C (tgt := 79) dX0_meetCell_67 rfl ?_
          refine y_iinc C dX0_meetCell_79 3 rfl (Nat.le_of_ble_eq_true rfl) (ii_1 _) [(4, .int ((x4 + 1))), (5, .int (r_12)), (0, .ref (A 0)), (3, .int (x3))] rfl ?_
          refine y_goto C (tgt := 22) dX0_meetCell_82 rfl ?_
          exact Y.sub (ih S (x3) ((x4 + 1)) (h_20)) [2, 3, 0] rfl
set_option maxRecDepth 100000 in
theorem met_o_meetCell (G : Gx) (A : Nat → Nat) (S : St) (x1 : Int32) (x2 : Int32) (Q : Int32 → St → Prop) (h : wp_o_meetCell S x1 x2 Q) : Mi G yX0_meetCell (ws_ yX0_meetCell cX0_meetCell 6 (some .int)) rm_o_meetCell (wC G A S) [.ref (A 0), .int (x1), .int (x2)] (wC G A) Q := by
  refine ent_Mi (by decide +kernel) rfl (Nat.le_of_ble_eq_true rfl) [(0, .ref (A 0)), (1, .int (x1)), (2, .int (x2))] rfl (fun K B C M N => ?_)
  refine y_aload_n C dX0_meetCell_0 0 rfl rfl ?_
  refine y_iload_n C dX0_meetCell_1 1 rfl rfl ?_
  refine y_callMiV (k' := 0) (n' := 0) (As := [.int (x1)]) (rest := []) C M cs_X0_335 (met_o_goesOver G A S (x1) _ (h)) (wC_0 ..) rfl rfl ⟨rfl, rfl, Nat.le_of_ble_eq_true rfl, Nat.le_of_ble_eq_true rfl⟩ rfl rfl (Nat.le_of_ble_eq_true rfl) dX0_meetCell_2 ⟨Nat.zero_le _, Nat.zero_le _⟩ rfl rfl (fun r_1 S_3 h_2 => ?_)
  refine y_pop C dX0_meetCell_5 rfl ?_
  refine y_aload_n C dX0_meetCell_6 0 rfl rfl ?_
  refine y_iload_n C dX0_meetCell_7 2 rfl rfl ?_
  refine y_callMiV (k' := 0) (n' := 0) (As := [.int (x2)]) (rest := []) C M cs_X0_338 (met_o_goesBack G A S_3 (x2) _ (h_2)) (wC_0 ..) rfl rfl ⟨rfl, rfl, Nat.le_of_ble_eq_true rfl, Nat.le_of_ble_eq_true rfl⟩ rfl rfl (Nat.le_of_ble_eq_true rfl) dX0_meetCell_8 ⟨Nat.zero_le _, Nat.zero_le _⟩ rfl rfl (fun r_4 S_6 h_5 => ?_)
  refine y_pop C dX0_meetCell_11 rfl ?_
  refine y_aload_n C dX0_meetCell_12 0 rfl rfl ?_
  refine y_iconst C dX0_meetCell_13 icm1 ?_
  refine yp_X0_341_wC0 C M dX0_meetCell_14 ?_
  refine y_iconst C dX0_meetCell_17 icm1 ?_
  refine y_istore_n C dX0_meetCell_18 rfl (Nat.le_of_ble_eq_true rfl) [(3, .int ((-1))), (0, .ref (A 0)), (1, .int (x1)), (2, .int (x2))] rfl ?_
  refine y_iconst C dX0_meetCell_19 ic_0 ?_
  refine y_istore C dX0_meetCell_20 (Nat.le_of_ble_eq_true rfl) [(4, .int (0)), (3, .int ((-1))), (0, .ref (A 0)), (1, .int (x1)), (2, .int (x2))] rfl ?_
  obtain ⟨n_7, h_8⟩ := h_5
  exact Y.sub (wk_o_meetCell_b22 C M N n_7 (sI S_6 0 20 (-1)) ((-1)) (0) h_8) [2, 1, 0] rfl
/-! OverHill meet(II)I: o_meet -/
abbrev rm_o_meet : Room := { frames := 4, cells := 0, slots := 0, locals := 111 }
def wp_o_meet (S : St) (x1 : Int32) (x2 : Int32) (Q : Int32 → St → Prop) : Prop :=
  wp_o_isBeat S ((x1).toInt64) (fun r_1 => ((r_1 = 0 → Q (-2) S) ∧ (¬ r_1 = 0 → wp_o_isBeat S ((x2).toInt64) (fun r_7 => ((¬ r_7 = 0 → wp_o_meetCell S (x1) (x2) (fun r_12 S_14 => Q (S_14.1 0 20) S_14)) ∧ (r_7 = 0 → Q (-2) S))))))
set_option maxRecDepth 100000 in
theorem met_o_meet (G : Gx) (A : Nat → Nat) (S : St) (x1 : Int32) (x2 : Int32) (Q : Int32 → St → Prop) (h : wp_o_meet S x1 x2 Q) : Mi G yX0_meet (ws_ yX0_meet cX0_meet 3 (some .int)) rm_o_meet (wC G A S) [.ref (A 0), .int (x1), .int (x2)] (wC G A) Q := by
  refine ent_Mi (by decide +kernel) rfl (Nat.le_of_ble_eq_true rfl) [(0, .ref (A 0)), (1, .int (x1)), (2, .int (x2))] rfl (fun K B C M N => ?_)
  refine y_aload_n C dX0_meet_0 0 rfl rfl ?_
  refine y_iload_n C dX0_meet_1 1 rfl rfl ?_
  refine y_i2l C dX0_meet_2 rfl ?_
  refine y_callRiV (As := [.long ((x1).toInt64)]) (rest := []) C cs_X0_181 (met_o_isBeat G A S ((x1).toInt64) _ (h)) (fun _ h => h) (wC_0 ..) rfl rfl ⟨rfl, rfl, Nat.le_of_ble_eq_true rfl, Nat.le_of_ble_eq_true rfl⟩ rfl rfl (Nat.le_of_ble_eq_true rfl) dX0_meet_3 ⟨Nat.zero_le _, Nat.zero_le _⟩ (fun r_1 h_2 => ?_)
  refine y_if_eq C (tgt := 18) dX0_meet_6 rfl (fun c_4 => ?_) (fun c_4 => ?_)
  · have h_5 := (h_2).1 c_4
    refine y_bipush C dX0_meet_18 bpm2 ?_
    exact y_iretM C M N rfl (S := S) rfl (h_5) dX0_meet_20
  · have h_6 := (h_2).2 c_4
    refine y_aload_n C dX0_meet_9 0 rfl rfl ?_
    refine y_iload_n C dX0_meet_10 2 rfl rfl ?_
    refine y_i2l C dX0_meet_11 rfl ?_
    refine y_callRiV (As := [.long ((x2).toInt64)]) (rest := []) C cs_X0_181 (met_o_isBeat G A S ((x2).toInt64) _ (h_6)) (fun _ h => h) (wC_0 ..) rfl rfl ⟨rfl, rfl, Nat.le_of_ble_eq_true rfl, Nat.le_of_ble_eq_true rfl⟩ rfl rfl (Nat.le_of_ble_eq_true rfl) dX0_meet_12 ⟨Nat.zero_le _, Nat.zero_le _⟩ (fun r_7 h_8 => ?_)
    refine y_if_ne C (tgt := 21) dX0_meet_15 rfl (fun c_10 => ?_) (fun c_10 => ?_)
    · have h_11 := (h_8).1 c_10
      refine y_aload_n C dX0_meet_21 0 rfl rfl ?_
      refine y_iload_n C dX0_meet_22 1 rfl rfl ?_
      refine y_iload_n C dX0_meet_23 2 rfl rfl ?_
      refine y_callMiV (k' := 0) (n' := 0) (As := [.int (x1), .int (x2)]) (rest := []) C M cs_X0_344 (met_o_meetCell G A S (x1) (x2) _ (h_11)) (wC_0 ..) rfl rfl ⟨rfl, rfl, Nat.le_of_ble_eq_true rfl, Nat.le_of_ble_eq_true rfl⟩ rfl rfl (Nat.le_of_ble_eq_true rfl) dX0_meet_24 ⟨Nat.zero_le _, Nat.zero_le _⟩ rfl rfl (fun r_12 S_14 h_13 => ?_)
      refine y_pop C dX0_meet_27 rfl ?_
      refine y_aload_n C dX0_meet_28 0 rfl rfl ?_
      refine yg_X0_341_wC0 C dX0_meet_29 ?_
      exact y_iretM C M N rfl (S := S_14) rfl (h_13) dX0_meet_32
    · have h_15 := (h_8).2 c_10
      refine y_bipush C dX0_meet_18 bpm2 ?_
      exact y_iretM C M N rfl (S := S) rfl (h_15) dX0_meet_20
/-! OverHill cell(II)I: o_cell -/
abbrev rm_o_cell : Room := { frames := 4, cells := 0, slots := 0, locals := 111 }
def wp_o_cell (S : St) (x1 : Int32) (x2 : Int32) (Q : Int32 → St → Prop) : Prop :=
  wp_o_isBeat S ((x1).toInt64) (fun r_1 => ((r_1 = 0 → Q (-2) S) ∧ (¬ r_1 = 0 → wp_o_isBeat S ((x2).toInt64) (fun r_7 => ((r_7 = 0 → Q (-2) S) ∧ (¬ r_7 = 0 → wp_o_meetCell S (x1) (x2) (fun r_13 S_15 => Q r_13 S_15)))))))
set_option maxRecDepth 100000 in
theorem met_o_cell (G : Gx) (A : Nat → Nat) (S : St) (x1 : Int32) (x2 : Int32) (Q : Int32 → St → Prop) (h : wp_o_cell S x1 x2 Q) : Mi G yX0_cell (ws_ yX0_cell cX0_cell 3 (some .int)) rm_o_cell (wC G A S) [.ref (A 0), .int (x1), .int (x2)] (wC G A) Q := by
  refine ent_Mi (by decide +kernel) rfl (Nat.le_of_ble_eq_true rfl) [(0, .ref (A 0)), (1, .int (x1)), (2, .int (x2))] rfl (fun K B C M N => ?_)
  refine y_aload_n C dX0_cell_0 0 rfl rfl ?_
  refine y_iload_n C dX0_cell_1 1 rfl rfl ?_
  refine y_i2l C dX0_cell_2 rfl ?_
  refine y_callRiV (As := [.long ((x1).toInt64)]) (rest := []) C cs_X0_181 (met_o_isBeat G A S ((x1).toInt64) _ (h)) (fun _ h => h) (wC_0 ..) rfl rfl ⟨rfl, rfl, Nat.le_of_ble_eq_true rfl, Nat.le_of_ble_eq_true rfl⟩ rfl rfl (Nat.le_of_ble_eq_true rfl) dX0_cell_3 ⟨Nat.zero_le _, Nat.zero_le _⟩ (fun r_1 h_2 => ?_)
  refine y_if_eq C (tgt := 27) dX0_cell_6 rfl (fun c_4 => ?_) (fun c_4 => ?_)
  · have h_5 := (h_2).1 c_4
    refine y_bipush C dX0_cell_27 bpm2 ?_
    exact y_iretM C M N rfl (S := S) rfl (h_5) dX0_cell_29
  · have h_6 := (h_2).2 c_4
    refine y_aload_n C dX0_cell_9 0 rfl rfl ?_
    refine y_iload_n C dX0_cell_10 2 rfl rfl ?_
    refine y_i2l C dX0_cell_11 rfl ?_
    refine y_callRiV (As := [.long ((x2).toInt64)]) (rest := []) C cs_X0_181 (met_o_isBeat G A S ((x2).toInt64) _ (h_6)) (fun _ h => h) (wC_0 ..) rfl rfl ⟨rfl, rfl, Nat.le_of_ble_eq_true rfl, Nat.le_of_ble_eq_true rfl⟩ rfl rfl (Nat.le_of_ble_eq_true rfl) dX0_cell_12 ⟨Nat.zero_le _, Nat.zero_le _⟩ (fun r_7 h_8 => ?_)
    refine y_if_eq C (tgt := 27) dX0_cell_15 rfl (fun c_10 => ?_) (fun c_10 => ?_)
    · have h_11 := (h_8).1 c_10
      refine y_bipush C dX0_cell_27 bpm2 ?_
      exact y_iretM C M N rfl (S := S) rfl (h_11) dX0_cell_29
    · have h_12 := (h_8).2 c_10
      refine y_aload_n C dX0_cell_18 0 rfl rfl ?_
      refine y_iload_n C dX0_cell_19 1 rfl rfl ?_
      refine y_iload_n C dX0_cell_20 2 rfl rfl ?_
      refine y_callMiV (k' := 0) (n' := 0) (As := [.int (x1), .int (x2)]) (rest := []) C M cs_X0_344 (met_o_meetCell G A S (x1) (x2) _ (h_12)) (wC_0 ..) rfl rfl ⟨rfl, rfl, Nat.le_of_ble_eq_true rfl, Nat.le_of_ble_eq_true rfl⟩ rfl rfl (Nat.le_of_ble_eq_true rfl) dX0_cell_21 ⟨Nat.zero_le _, Nat.zero_le _⟩ rfl rfl (fun r_13 S_15 h_14 => ?_)
      refine y_goto C (tgt := 29) dX0_cell_24 rfl ?_
      exact y_iretM C M N rfl (S := S_15) rfl (h_14) dX0_cell_29
/-! OverHill longest()I: o_longest -/
abbrev rm_o_longest : Room := { frames := 3, cells := 0, slots := 0, locals := 86 }
def wp_o_longest_b14 (Q : Int32 → St → Prop) : Nat → St → Int32 → Int32 → Prop
  | 0 => fun _ _ _ => False
  | n + 1 => fun S x1 x2 => ((200 ≤ x2 → Q x1 S) ∧ (¬ 200 ≤ x2 → wp_o_goesOver S (x2) (fun r_12 S_14 => wp_jm_max (x1) ((r_12 - x2)) (fun r_15 => wp_o_longest_b14 Q n S_14 (r_15) ((x2 + 1))))))
def wp_o_longest (S : St) (Q : Int32 → St → Prop) : Prop :=
  wp_o_isDance S (fun r_1 => ((¬ r_1 = 0 → (∃ z, wp_o_longest_b14 Q z S (0) (0))) ∧ (r_1 = 0 → Q (-2) S)))
set_option maxRecDepth 100000 in
theorem wk_o_longest_b14 {G : Gx} {K : Kx} {A : Nat → Nat} (C : KOk G K RX0 cX0_longest rm_o_longest 3 (some .int)) {B : Nat → Prop} (M : KM G K B) {Q : Int32 → St → Prop} (N : KQi G K B (wC G A) Q) : ∀ (n : Nat), ∀ (S : St) (x1 : Int32) (x2 : Int32), wp_o_longest_b14 Q n S x1 x2 → Y G K 0 0 (wC G A S) 14 [(0, .ref (A 0)), (1, .int (x1)), (2, .int (x2))] [] := by
  intro n
  induction n with
  | zero => intro S x1 x2 h; exact h.elim
  | succ n ih =>
    intro S x1 x2 h
    dsimp only [wp_o_longest_b14] at h
    refine y_iload_n C dX0_longest_14 2 rfl rfl ?_
    refine y_sipush C dX0_longest_15 sp_200 ?_
    refine y_icmp_ge C (tgt := 39) dX0_longest_18 rfl (fun c_9 => ?_) (fun c_9 => ?_)
    · have h_10 := (h).1 c_9
      refine y_iload_n C dX0_longest_39 1 rfl rfl ?_
      exact y_iretM C M N rfl (S := S) rfl (h_10) dX0_longest_40
    · have h_11 := (h).2 c_9
      refine y_iload_n C dX0_longest_21 1 rfl rfl ?_
      refine y_aload_n C dX0_longest_22 0 rfl rfl ?_
      refine y_iload_n C dX0_longest_23 2 rfl rfl ?_
      refine y_callMiV (k' := 0) (n' := 0) (As := [.int (x2)]) (rest := [.int (x1)]) C M cs_X0_335 (met_o_goesOver G A S (x2) _ (h_11)) (wC_0 ..) rfl rfl ⟨rfl, rfl, Nat.le_of_ble_eq_true rfl, Nat.le_of_ble_eq_true rfl⟩ rfl rfl (Nat.le_of_ble_eq_true rfl) dX0_longest_24 ⟨Nat.zero_le _, Nat.zero_le _⟩ rfl rfl (fun r_12 S_14 h_13 => ?_)
      refine y_iload_n C dX0_longest_27 2 rfl rfl ?_
      refine y_isub C dX0_longest_28 ?_
      refine y_callRiS (As := [.int (x1), .int ((r_12 - x2))]) (rest := []) C cs_X0_312 (met_jm_max G (x1) ((r_12 - x2)) _ (h_13)) (fun _ _ => pw_nil) ⟨rfl, rfl, Nat.le_of_ble_eq_true rfl, Nat.le_of_ble_eq_true rfl⟩ rfl rfl (Nat.le_of_ble_eq_true rfl) dX0_longest_29 ⟨Nat.zero_le _, Nat.zero_le _⟩ (fun r_15 h_16 => ?_)
      refine y_istore_n C dX0_longest_32 rfl (Nat.le_of_ble_eq_true rfl) [(1, .int (r_15)), (0, .ref (A 0)), (2, .int (x2))] rfl ?_
      refine y_iinc C dX0_longest_33 2 rfl (Nat.le_of_ble_eq_true rfl) (ii_1 _) [(2, .int ((x2 + 1))), (1, .int (r_15)), (0, .ref (A 0))] rfl ?_
      refine y_goto C (tgt := 14) dX0_longest_36 rfl ?_
      exact Y.sub (ih S_14 (r_15) ((x2 + 1)) (h_16)) [2, 1, 0] rfl
set_option maxRecDepth 100000 in
theorem met_o_longest (G : Gx) (A : Nat → Nat) (S : St) (Q : Int32 → St → Prop) (h : wp_o_longest S Q) : Mi G yX0_longest (ws_ yX0_longest cX0_longest 3 (some .int)) rm_o_longest (wC G A S) [.ref (A 0)] (wC G A) Q := by
  refine ent_Mi (by decide +kernel) rfl (Nat.le_of_ble_eq_true rfl) [(0, .ref (A 0))] rfl (fun K B C M N => ?_)
  refine y_aload_n C dX0_longest_0 0 rfl rfl ?_
  refine y_callRiV (As := []) (rest := []) C cs_X0_128 (met_o_isDance G A S _ (h)) (fun _ h => h) (wC_0 ..) rfl rfl ⟨rfl, rfl, Nat.le_of_ble_eq_true rfl, Nat.le_of_ble_eq_true rfl⟩ rfl rfl (Nat.le_of_ble_eq_true rfl) dX0_longest_1 ⟨Nat.zero_le _, Nat.zero_le _⟩ (fun r_1 h_2 => ?_)
  refine y_if_ne C (tgt := 10) dX0_longest_4 rfl (fun c_4 => ?_) (fun c_4 => ?_)
  · have h_5 := (h_2).1 c_4
    refine y_iconst C dX0_longest_10 ic_0 ?_
    refine y_istore_n C dX0_longest_11 rfl (Nat.le_of_ble_eq_true rfl) [(1, .int (0)), (0, .ref (A 0))] rfl ?_
    refine y_iconst C dX0_longest_12 ic_0 ?_
    refine y_istore_n C dX0_longest_13 rfl (Nat.le_of_ble_eq_true rfl) [(2, .int (0)), (1, .int (0)), (0, .ref (A 0))] rfl ?_
    obtain ⟨n_6, h_7⟩ := h_5
    exact Y.sub (wk_o_longest_b14 C M N n_6 S (0) (0) h_7) [2, 1, 0] rfl
  · have h_8 := (h_2).2 c_4
    refine y_bipush C dX0_longest_7 bpm2 ?_
    exact y_iretM C M N rfl (S := S) rfl (h_8) dX0_longest_9
/-! OverHill areTunes(I)Z: o_areTunes -/
abbrev rm_o_areTunes : Room := { frames := 2, cells := 0, slots := 0, locals := 65 }
def wp_o_areTunes (S : St) (x1 : Int32) (Q : Int32 → Prop) : Prop :=
  wp_o_isDance S (fun r_1 => ((r_1 = 0 → Q 0) ∧ (¬ r_1 = 0 → wp_o_isIn ((x1).toInt64) (0) ((((1 <<< ((S.1 15 6) &&& 31)) - 1)).toInt64) (fun r_7 => ((r_7 = 0 → Q 0) ∧ (¬ r_7 = 0 → Q 1))))))
set_option maxRecDepth 100000 in
theorem met_o_areTunes (G : Gx) (A : Nat → Nat) (S : St) (x1 : Int32) (Q : Int32 → Prop) (h : wp_o_areTunes S x1 Q) : Ri G yX0_areTunes (ws_ yX0_areTunes cX0_areTunes 2 (some .boolean)) rm_o_areTunes (wC G A S) [.ref (A 0), .int (x1)] Q := by
  refine ent_Ri (by decide +kernel) rfl (Nat.le_of_ble_eq_true rfl) [(0, .ref (A 0)), (1, .int (x1))] rfl (fun K C N => ?_)
  refine y_aload_n C dX0_areTunes_0 0 rfl rfl ?_
  refine y_callRiV (As := []) (rest := []) C cs_X0_128 (met_o_isDance G A S _ (h)) (fun _ h => h) (wC_0 ..) rfl rfl ⟨rfl, rfl, Nat.le_of_ble_eq_true rfl, Nat.le_of_ble_eq_true rfl⟩ rfl rfl (Nat.le_of_ble_eq_true rfl) dX0_areTunes_1 ⟨Nat.zero_le _, Nat.zero_le _⟩ (fun r_1 h_2 => ?_)
  refine y_if_eq C (tgt := 32) dX0_areTunes_4 rfl (fun c_4 => ?_) (fun c_4 => ?_)
  · have h_5 := (h_2).1 c_4
    refine y_iconst C dX0_areTunes_32 ic_0 ?_
    exact y_zretR C N rfl rfl (h_5) dX0_areTunes_33
  · have h_6 := (h_2).2 c_4
    refine y_iload_n C dX0_areTunes_7 1 rfl rfl ?_
    refine y_i2l C dX0_areTunes_8 rfl ?_
    refine y_lconst C dX0_areTunes_9 lc_0 ?_
    refine y_iconst C dX0_areTunes_10 ic_1 ?_
    refine y_aload_n C dX0_areTunes_11 0 rfl rfl ?_
    refine yg_X0_12_wC0 C dX0_areTunes_12 ?_
    refine yg_X0_362_wC15 C dX0_areTunes_15 ?_
    refine y_ishl C dX0_areTunes_18 ?_
    refine y_iconst C dX0_areTunes_19 ic_1 ?_
    refine y_isub C dX0_areTunes_20 ?_
    refine y_i2l C dX0_areTunes_21 rfl ?_
    refine y_callRiS (As := [.long ((x1).toInt64), .long (0), .long ((((1 <<< ((S.1 15 6) &&& 31)) - 1)).toInt64)]) (rest := []) C cs_X0_103 (met_o_isIn G ((x1).toInt64) (0) ((((1 <<< ((S.1 15 6) &&& 31)) - 1)).toInt64) _ (h_6)) (fun _ _ => pw_nil) ⟨rfl, rfl, Nat.le_of_ble_eq_true rfl, Nat.le_of_ble_eq_true rfl⟩ rfl rfl (Nat.le_of_ble_eq_true rfl) dX0_areTunes_22 ⟨Nat.zero_le _, Nat.zero_le _⟩ (fun r_7 h_8 => ?_)
    refine y_if_eq C (tgt := 32) dX0_areTunes_25 rfl (fun c_10 => ?_) (fun c_10 => ?_)
    · have h_11 := (h_8).1 c_10
      refine y_iconst C dX0_areTunes_32 ic_0 ?_
      exact y_zretR C N rfl rfl (h_11) dX0_areTunes_33
    · have h_12 := (h_8).2 c_10
      refine y_iconst C dX0_areTunes_28 ic_1 ?_
      refine y_goto C (tgt := 33) dX0_areTunes_29 rfl ?_
      exact y_zretR C N rfl rfl (h_12) dX0_areTunes_33
