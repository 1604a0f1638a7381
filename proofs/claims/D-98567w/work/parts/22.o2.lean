/-! printed by tools/gen.py -/
set_option maxRecDepth 100000
theorem al_4374 : Int32.ofNat 4374 = (4374 : Int32) := rfl
theorem nz_I_100000 : ¬ (100000 : Int32) = 0 := by decide
theorem yp_X0_356_wC0 {G : Gx} {K : Kx} {cc : ByteArray} {rm : Room} {nL : Nat} {ret : Option FieldType} {k n pc : Nat} {B : Nat → Prop} {A : Nat → Nat} {S : St} {lv : List (Nat × Value)} {st : List Value} {v : Int64} (C : KOk G K RX0 cc rm nL ret) (M : KM G K B) (hdg : decode cc pc = .ok (.putfield 356, 3)) (kk : Y G K k n (wC G A (sL S 0 22 v)) (pc + 3) lv st) : Y G K k n (wC G A S) pc lv (.long v :: .ref (A 0) :: st) := y_put C M (ref := "OverHill") (Cn := RX0) (T := TX0) (N := 34) in_X0 (wC_0 ..) rfl 22 (by decide) tyX0 tyX0_ok (by decide +kernel) q431 (fun _ _ h => h) rfl (ty := .long) (by decide +kernel) rfl rfl (Nat.le_of_ble_eq_true rfl) (wC_p0_22 ..) hdg kk
theorem yp_X0_359_wC0 {G : Gx} {K : Kx} {cc : ByteArray} {rm : Room} {nL : Nat} {ret : Option FieldType} {k n pc : Nat} {B : Nat → Prop} {A : Nat → Nat} {S : St} {lv : List (Nat × Value)} {st : List Value} {v : Int64} (C : KOk G K RX0 cc rm nL ret) (M : KM G K B) (hdg : decode cc pc = .ok (.putfield 359, 3)) (kk : Y G K k n (wC G A (sL S 0 23 v)) (pc + 3) lv st) : Y G K k n (wC G A S) pc lv (.long v :: .ref (A 0) :: st) := y_put C M (ref := "OverHill") (Cn := RX0) (T := TX0) (N := 34) in_X0 (wC_0 ..) rfl 23 (by decide) tyX0 tyX0_ok (by decide +kernel) q432 (fun _ _ h => h) rfl (ty := .long) (by decide +kernel) rfl rfl (Nat.le_of_ble_eq_true rfl) (wC_p0_23 ..) hdg kk
theorem yg_X0_365_wC15 {G : Gx} {K : Kx} {cc : ByteArray} {rm : Room} {nL : Nat} {ret : Option FieldType} {k n pc : Nat} {A : Nat → Nat} {S : St} {lv : List (Nat × Value)} {st : List Value} (C : KOk G K RX0 cc rm nL ret) (hdg : decode cc pc = .ok (.getfield 365, 3)) (kk : Y G K k n (wC G A S) (pc + 3) lv (.ref (A 26) :: st)) : Y G K k n (wC G A S) pc lv (.ref (A 15) :: st) := y_getN C (ref := "OverHill$Dance") (Cn := RX1) (T := TX1) (N := 22) in_X1 (wC_15 ..) rfl 18 (by decide) q246 (fun _ _ h => h) (fs_C15_f18 A S) hdg kk
theorem yg_X0_356_wC0 {G : Gx} {K : Kx} {cc : ByteArray} {rm : Room} {nL : Nat} {ret : Option FieldType} {k n pc : Nat} {A : Nat → Nat} {S : St} {lv : List (Nat × Value)} {st : List Value} (C : KOk G K RX0 cc rm nL ret) (hdg : decode cc pc = .ok (.getfield 356, 3)) (kk : Y G K k n (wC G A S) (pc + 3) lv (.long (S.2 0 22) :: st)) : Y G K k n (wC G A S) pc lv (.ref (A 0) :: st) := y_get C (ref := "OverHill") (Cn := RX0) (T := TX0) (N := 34) in_X0 (wC_0 ..) rfl 22 (by decide) q431 (fun _ _ h => h) (fs_C0_f22 A S) hdg kk
theorem yg_X0_368_wC15 {G : Gx} {K : Kx} {cc : ByteArray} {rm : Room} {nL : Nat} {ret : Option FieldType} {k n pc : Nat} {A : Nat → Nat} {S : St} {lv : List (Nat × Value)} {st : List Value} (C : KOk G K RX0 cc rm nL ret) (hdg : decode cc pc = .ok (.getfield 368, 3)) (kk : Y G K k n (wC G A S) (pc + 3) lv (.ref (A 27) :: st)) : Y G K k n (wC G A S) pc lv (.ref (A 15) :: st) := y_getN C (ref := "OverHill$Dance") (Cn := RX1) (T := TX1) (N := 22) in_X1 (wC_15 ..) rfl 19 (by decide) q249 (fun _ _ h => h) (fs_C15_f19 A S) hdg kk
theorem yg_X0_359_wC0 {G : Gx} {K : Kx} {cc : ByteArray} {rm : Room} {nL : Nat} {ret : Option FieldType} {k n pc : Nat} {A : Nat → Nat} {S : St} {lv : List (Nat × Value)} {st : List Value} (C : KOk G K RX0 cc rm nL ret) (hdg : decode cc pc = .ok (.getfield 359, 3)) (kk : Y G K k n (wC G A S) (pc + 3) lv (.long (S.2 0 23) :: st)) : Y G K k n (wC G A S) pc lv (.ref (A 0) :: st) := y_get C (ref := "OverHill") (Cn := RX0) (T := TX0) (N := 34) in_X0 (wC_0 ..) rfl 23 (by decide) q432 (fun _ _ h => h) (fs_C0_f23 A S) hdg kk
theorem yg_X0_399_wC15 {G : Gx} {K : Kx} {cc : ByteArray} {rm : Room} {nL : Nat} {ret : Option FieldType} {k n pc : Nat} {A : Nat → Nat} {S : St} {lv : List (Nat × Value)} {st : List Value} (C : KOk G K RX0 cc rm nL ret) (hdg : decode cc pc = .ok (.getfield 399, 3)) (kk : Y G K k n (wC G A S) (pc + 3) lv (.int (S.1 15 2) :: st)) : Y G K k n (wC G A S) pc lv (.ref (A 15) :: st) := y_getN C (ref := "OverHill$Dance") (Cn := RX1) (T := TX1) (N := 22) in_X1 (wC_15 ..) rfl 2 (by decide) q195 (fun _ _ h => h) (fs_C15_f2 A S) hdg kk
theorem yg_X0_420_wC0 {G : Gx} {K : Kx} {cc : ByteArray} {rm : Room} {nL : Nat} {ret : Option FieldType} {k n pc : Nat} {A : Nat → Nat} {S : St} {lv : List (Nat × Value)} {st : List Value} (C : KOk G K RX0 cc rm nL ret) (hdg : decode cc pc = .ok (.getfield 420, 3)) (kk : Y G K k n (wC G A S) (pc + 3) lv (.long (S.2 0 26) :: st)) : Y G K k n (wC G A S) pc lv (.ref (A 0) :: st) := y_get C (ref := "OverHill") (Cn := RX0) (T := TX0) (N := 34) in_X0 (wC_0 ..) rfl 26 (by decide) q435 (fun _ _ h => h) (fs_C0_f26 A S) hdg kk
theorem yp_X0_420_wC0 {G : Gx} {K : Kx} {cc : ByteArray} {rm : Room} {nL : Nat} {ret : Option FieldType} {k n pc : Nat} {B : Nat → Prop} {A : Nat → Nat} {S : St} {lv : List (Nat × Value)} {st : List Value} {v : Int64} (C : KOk G K RX0 cc rm nL ret) (M : KM G K B) (hdg : decode cc pc = .ok (.putfield 420, 3)) (kk : Y G K k n (wC G A (sL S 0 26 v)) (pc + 3) lv st) : Y G K k n (wC G A S) pc lv (.long v :: .ref (A 0) :: st) := y_put C M (ref := "OverHill") (Cn := RX0) (T := TX0) (N := 34) in_X0 (wC_0 ..) rfl 26 (by decide) tyX0 tyX0_ok (by decide +kernel) q435 (fun _ _ h => h) rfl (ty := .long) (by decide +kernel) rfl rfl (Nat.le_of_ble_eq_true rfl) (wC_p0_26 ..) hdg kk
theorem yg_X0_79_wC0 {G : Gx} {K : Kx} {cc : ByteArray} {rm : Room} {nL : Nat} {ret : Option FieldType} {k n pc : Nat} {A : Nat → Nat} {S : St} {lv : List (Nat × Value)} {st : List Value} (C : KOk G K RX0 cc rm nL ret) (hdg : decode cc pc = .ok (.getfield 79, 3)) (kk : Y G K k n (wC G A S) (pc + 3) lv (.ref (A 14) :: st)) : Y G K k n (wC G A S) pc lv (.ref (A 0) :: st) := y_get C (ref := "OverHill") (Cn := RX0) (T := TX0) (N := 34) in_X0 (wC_0 ..) rfl 27 (by decide) q436 (fun _ _ h => h) (fs_C0_f27 A S) hdg kk
theorem yg_X0_429_wC15 {G : Gx} {K : Kx} {cc : ByteArray} {rm : Room} {nL : Nat} {ret : Option FieldType} {k n pc : Nat} {A : Nat → Nat} {S : St} {lv : List (Nat × Value)} {st : List Value} (C : KOk G K RX0 cc rm nL ret) (hdg : decode cc pc = .ok (.getfield 429, 3)) (kk : Y G K k n (wC G A S) (pc + 3) lv (.int (S.1 15 1) :: st)) : Y G K k n (wC G A S) pc lv (.ref (A 15) :: st) := y_getN C (ref := "OverHill$Dance") (Cn := RX1) (T := TX1) (N := 22) in_X1 (wC_15 ..) rfl 1 (by decide) q192 (fun _ _ h => h) (fs_C15_f1 A S) hdg kk
theorem yg_X0_435_wC0 {G : Gx} {K : Kx} {cc : ByteArray} {rm : Room} {nL : Nat} {ret : Option FieldType} {k n pc : Nat} {A : Nat → Nat} {S : St} {lv : List (Nat × Value)} {st : List Value} (C : KOk G K RX0 cc rm nL ret) (hdg : decode cc pc = .ok (.getfield 435, 3)) (kk : Y G K k n (wC G A S) (pc + 3) lv (.int (S.1 0 31) :: st)) : Y G K k n (wC G A S) pc lv (.ref (A 0) :: st) := y_get C (ref := "OverHill") (Cn := RX0) (T := TX0) (N := 34) in_X0 (wC_0 ..) rfl 31 (by decide) q440 (fun _ _ h => h) (fs_C0_f31 A S) hdg kk
theorem yp_X0_435_wC0 {G : Gx} {K : Kx} {cc : ByteArray} {rm : Room} {nL : Nat} {ret : Option FieldType} {k n pc : Nat} {B : Nat → Prop} {A : Nat → Nat} {S : St} {lv : List (Nat × Value)} {st : List Value} {v : Int32} (C : KOk G K RX0 cc rm nL ret) (M : KM G K B) (hdg : decode cc pc = .ok (.putfield 435, 3)) (kk : Y G K k n (wC G A (sI S 0 31 v)) (pc + 3) lv st) : Y G K k n (wC G A S) pc lv (.int v :: .ref (A 0) :: st) := y_put C M (ref := "OverHill") (Cn := RX0) (T := TX0) (N := 34) in_X0 (wC_0 ..) rfl 31 (by decide) tyX0 tyX0_ok (by decide +kernel) q440 (fun _ _ h => h) rfl (ty := .int) (by decide +kernel) rfl rfl (Nat.le_of_ble_eq_true rfl) (wC_p0_31 ..) hdg kk
theorem yp_X0_438_wC0 {G : Gx} {K : Kx} {cc : ByteArray} {rm : Room} {nL : Nat} {ret : Option FieldType} {k n pc : Nat} {B : Nat → Prop} {A : Nat → Nat} {S : St} {lv : List (Nat × Value)} {st : List Value} {v : Int32} (C : KOk G K RX0 cc rm nL ret) (M : KM G K B) (hdg : decode cc pc = .ok (.putfield 438, 3)) (kk : Y G K k n (wC G A (sI S 0 28 v)) (pc + 3) lv st) : Y G K k n (wC G A S) pc lv (.int v :: .ref (A 0) :: st) := y_put C M (ref := "OverHill") (Cn := RX0) (T := TX0) (N := 34) in_X0 (wC_0 ..) rfl 28 (by decide) tyX0 tyX0_ok (by decide +kernel) q437 (fun _ _ h => h) rfl (ty := .int) (by decide +kernel) rfl rfl (Nat.le_of_ble_eq_true rfl) (wC_p0_28 ..) hdg kk
theorem yp_X0_441_wC0 {G : Gx} {K : Kx} {cc : ByteArray} {rm : Room} {nL : Nat} {ret : Option FieldType} {k n pc : Nat} {B : Nat → Prop} {A : Nat → Nat} {S : St} {lv : List (Nat × Value)} {st : List Value} {v : Int32} (C : KOk G K RX0 cc rm nL ret) (M : KM G K B) (hdg : decode cc pc = .ok (.putfield 441, 3)) (kk : Y G K k n (wC G A (sI S 0 29 v)) (pc + 3) lv st) : Y G K k n (wC G A S) pc lv (.int v :: .ref (A 0) :: st) := y_put C M (ref := "OverHill") (Cn := RX0) (T := TX0) (N := 34) in_X0 (wC_0 ..) rfl 29 (by decide) tyX0 tyX0_ok (by decide +kernel) q438 (fun _ _ h => h) rfl (ty := .int) (by decide +kernel) rfl rfl (Nat.le_of_ble_eq_true rfl) (wC_p0_29 ..) hdg kk
theorem yp_X0_444_wC0 {G : Gx} {K : Kx} {cc : ByteArray} {rm : Room} {nL : Nat} {ret : Option FieldType} {k n pc : Nat} {B : Nat → Prop} {A : Nat → Nat} {S : St} {lv : List (Nat × Value)} {st : List Value} {v : Int32} (C : KOk G K RX0 cc rm nL ret) (M : KM G K B) (hdg : decode cc pc = .ok (.putfield 444, 3)) (kk : Y G K k n (wC G A (sI S 0 30 v)) (pc + 3) lv st) : Y G K k n (wC G A S) pc lv (.int v :: .ref (A 0) :: st) := y_put C M (ref := "OverHill") (Cn := RX0) (T := TX0) (N := 34) in_X0 (wC_0 ..) rfl 30 (by decide) tyX0 tyX0_ok (by decide +kernel) q439 (fun _ _ h => h) rfl (ty := .int) (by decide +kernel) rfl rfl (Nat.le_of_ble_eq_true rfl) (wC_p0_30 ..) hdg kk
theorem yg_X0_444_wC0 {G : Gx} {K : Kx} {cc : ByteArray} {rm : Room} {nL : Nat} {ret : Option FieldType} {k n pc : Nat} {A : Nat → Nat} {S : St} {lv : List (Nat × Value)} {st : List Value} (C : KOk G K RX0 cc rm nL ret) (hdg : decode cc pc = .ok (.getfield 444, 3)) (kk : Y G K k n (wC G A S) (pc + 3) lv (.int (S.1 0 30) :: st)) : Y G K k n (wC G A S) pc lv (.ref (A 0) :: st) := y_get C (ref := "OverHill") (Cn := RX0) (T := TX0) (N := 34) in_X0 (wC_0 ..) rfl 30 (by decide) q439 (fun _ _ h => h) (fs_C0_f30 A S) hdg kk
theorem yg_X0_441_wC0 {G : Gx} {K : Kx} {cc : ByteArray} {rm : Room} {nL : Nat} {ret : Option FieldType} {k n pc : Nat} {A : Nat → Nat} {S : St} {lv : List (Nat × Value)} {st : List Value} (C : KOk G K RX0 cc rm nL ret) (hdg : decode cc pc = .ok (.getfield 441, 3)) (kk : Y G K k n (wC G A S) (pc + 3) lv (.int (S.1 0 29) :: st)) : Y G K k n (wC G A S) pc lv (.ref (A 0) :: st) := y_get C (ref := "OverHill") (Cn := RX0) (T := TX0) (N := 34) in_X0 (wC_0 ..) rfl 29 (by decide) q438 (fun _ _ h => h) (fs_C0_f29 A S) hdg kk
theorem yg_X0_438_wC0 {G : Gx} {K : Kx} {cc : ByteArray} {rm : Room} {nL : Nat} {ret : Option FieldType} {k n pc : Nat} {A : Nat → Nat} {S : St} {lv : List (Nat × Value)} {st : List Value} (C : KOk G K RX0 cc rm nL ret) (hdg : decode cc pc = .ok (.getfield 438, 3)) (kk : Y G K k n (wC G A S) (pc + 3) lv (.int (S.1 0 28) :: st)) : Y G K k n (wC G A S) pc lv (.ref (A 0) :: st) := y_get C (ref := "OverHill") (Cn := RX0) (T := TX0) (N := 34) in_X0 (wC_0 ..) rfl 28 (by decide) q437 (fun _ _ h => h) (fs_C0_f28 A S) hdg kk
theorem yg_X0_469_wC15 {G : Gx} {K : Kx} {cc : ByteArray} {rm : Room} {nL : Nat} {ret : Option FieldType} {k n pc : Nat} {A : Nat → Nat} {S : St} {lv : List (Nat × Value)} {st : List Value} (C : KOk G K RX0 cc rm nL ret) (hdg : decode cc pc = .ok (.getfield 469, 3)) (kk : Y G K k n (wC G A S) (pc + 3) lv (.ref (A 28) :: st)) : Y G K k n (wC G A S) pc lv (.ref (A 15) :: st) := y_getN C (ref := "OverHill$Dance") (Cn := RX1) (T := TX1) (N := 22) in_X1 (wC_15 ..) rfl 20 (by decide) q251 (fun _ _ h => h) (fs_C15_f20 A S) hdg kk
theorem yg_X0_472_wC15 {G : Gx} {K : Kx} {cc : ByteArray} {rm : Room} {nL : Nat} {ret : Option FieldType} {k n pc : Nat} {A : Nat → Nat} {S : St} {lv : List (Nat × Value)} {st : List Value} (C : KOk G K RX0 cc rm nL ret) (hdg : decode cc pc = .ok (.getfield 472, 3)) (kk : Y G K k n (wC G A S) (pc + 3) lv (.int (S.1 15 7) :: st)) : Y G K k n (wC G A S) pc lv (.ref (A 15) :: st) := y_getN C (ref := "OverHill$Dance") (Cn := RX1) (T := TX1) (N := 22) in_X1 (wC_15 ..) rfl 7 (by decide) q209 (fun _ _ h => h) (fs_C15_f7 A S) hdg kk
theorem yp_X0_472_wC15 {G : Gx} {K : Kx} {cc : ByteArray} {rm : Room} {nL : Nat} {ret : Option FieldType} {k n pc : Nat} {B : Nat → Prop} {A : Nat → Nat} {S : St} {lv : List (Nat × Value)} {st : List Value} {v : Int32} (C : KOk G K RX0 cc rm nL ret) (M : KM G K B) (hdg : decode cc pc = .ok (.putfield 472, 3)) (kk : Y G K k n (wC G A (sI S 15 7 v)) (pc + 3) lv st) : Y G K k n (wC G A S) pc lv (.int v :: .ref (A 15) :: st) := y_putN C M (ref := "OverHill$Dance") (Cn := RX1) (T := TX1) (N := 22) in_X1 (wC_15 ..) rfl 7 (by decide) tyX1 tyX1_ok (by decide +kernel) q209 (fun _ _ h => h) rfl (ty := .int) (by decide +kernel) rfl rfl (Nat.le_of_ble_eq_true rfl) (wC_p15_7 ..) hdg kk
theorem yp_X0_147_wC15 {G : Gx} {K : Kx} {cc : ByteArray} {rm : Room} {nL : Nat} {ret : Option FieldType} {k n pc : Nat} {B : Nat → Prop} {A : Nat → Nat} {S : St} {lv : List (Nat × Value)} {st : List Value} {v : Int32} (C : KOk G K RX0 cc rm nL ret) (M : KM G K B) (hdg : decode cc pc = .ok (.putfield 147, 3)) (kk : Y G K k n (wC G A (sI S 15 4 v)) (pc + 3) lv st) : Y G K k n (wC G A S) pc lv (.int v :: .ref (A 15) :: st) := y_putN C M (ref := "OverHill$Dance") (Cn := RX1) (T := TX1) (N := 22) in_X1 (wC_15 ..) rfl 4 (by decide) tyX1 tyX1_ok (by decide +kernel) q201 (fun _ _ h => h) rfl (ty := .int) (by decide +kernel) rfl rfl (Nat.le_of_ble_eq_true rfl) (wC_p15_4 ..) hdg kk
theorem yg_X0_483_wC15 {G : Gx} {K : Kx} {cc : ByteArray} {rm : Room} {nL : Nat} {ret : Option FieldType} {k n pc : Nat} {A : Nat → Nat} {S : St} {lv : List (Nat × Value)} {st : List Value} (C : KOk G K RX0 cc rm nL ret) (hdg : decode cc pc = .ok (.getfield 483, 3)) (kk : Y G K k n (wC G A S) (pc + 3) lv (.ref (A 18) :: st)) : Y G K k n (wC G A S) pc lv (.ref (A 15) :: st) := y_getN C (ref := "OverHill$Dance") (Cn := RX1) (T := TX1) (N := 22) in_X1 (wC_15 ..) rfl 10 (by decide) q220 (fun _ _ h => h) (fs_C15_f10 A S) hdg kk
theorem cs_X0_371 : CsV RX0 371 yX0_areTunes cX0_areTunes 2 (some .boolean) 1 := ⟨lw_V q1236 q1238 qs56 q139 q1239, by decide +kernel⟩
theorem cs_X0_376 : CsV RX0 376 yX0_joins cX0_joins 5 none 1 := ⟨lw_V q1241 q1243 qs57 q139 q1244, by decide +kernel⟩
theorem cs_X0_379 : CsS RX0 379 yJ12_bitCount cJ12_bitCount 1 (some .int) 1 := ⟨lw_S q1257 q1258 q164 q1259, by decide +kernel⟩
theorem cs_X0_384 : CsV RX0 384 yX0_chorusOf cX0_chorusOf 3 (some .int) 0 := ⟨lw_V q1253 q1255 qs58 q139 q1256, by decide +kernel⟩
theorem cs_X0_393 : CsV RX0 393 yX0_winnerFrom cX0_winnerFrom 3 (some .int) 1 := ⟨lw_V q1279 q1281 qs59 q139 q1282, by decide +kernel⟩
theorem cs_X0_396 : CsS RX0 396 yX0_choose cX0_choose 5 (some .long) 2 := ⟨lw_S q1304 q1305 q139 q1306, by decide +kernel⟩
theorem cs_X0_402 : CsS RX0 402 yX0_power cX0_power 6 (some .long) 2 := ⟨lw_S q1307 q1308 q139 q1309, by decide +kernel⟩
theorem cs_X0_408 : CsS RX0 408 yX0_part cX0_part 11 (some .long) 3 := ⟨lw_S q1311 q1312 q139 q1313, by decide +kernel⟩
theorem cs_X0_414 : CsV RX0 414 yX0_wetOf cX0_wetOf 4 (some .long) 3 := ⟨lw_V q1300 q1302 qs62 q139 q1303, by decide +kernel⟩
theorem cs_X0_457 : CsS RX0 457 yX0_isSeed cX0_isSeed 1 (some .boolean) 1 := ⟨lw_S q1326 q1327 q139 q1328, by decide +kernel⟩
theorem cs_X0_432 : CsV RX0 432 yX0_draws cX0_draws 2 (some .boolean) 1 := ⟨lw_V q1337 q1339 qs65 q139 q1340, by decide +kernel⟩
theorem cs_X0_453 : CsV RX0 453 yX0_dances cX0_dances 6 none 3 := ⟨lw_V q1345 q1347 qs66 q139 q1348, by decide +kernel⟩
theorem cs_X0_460 : CsV RX0 460 yX0_isNight cX0_isNight 3 (some .boolean) 2 := ⟨lw_V q1322 q1324 qs63 q139 q1325, by decide +kernel⟩
theorem cs_X0_463 : CsV RX0 463 yX0_goesNight cX0_goesNight 7 none 2 := ⟨lw_V q1330 q1332 qs64 q139 q1333, by decide +kernel⟩
theorem cs_X0_476 : CsV RX0 476 yX1_stumbleAt cX1_stumbleAt 4 (some .int) 2 := ⟨lw_V q1358 q784 q785 q140 q786, by decide +kernel⟩
theorem cs_X0_479 : CsV RX0 479 yX0_keeps cX0_keeps 4 none 3 := ⟨lw_V q1359 q1361 qs67 q139 q1362, by decide +kernel⟩
/-! OverHill joins(I)V: o_joins -/
abbrev rm_o_joins : Room := { frames := 2, cells := 0, slots := 0, locals := 64 }
def wp_o_joins_b111 (Q : St → Prop) (x1 : Int32) (K12 : St → Int32 → Prop) (S : St) (x2 : Int32) (x3 : Int32) : Prop :=
  (¬ (x3).toInt64 = 0 ∧ wp_o_divisor (((lrm (S.2 0 23) (x3).toInt64)).toInt32) (x3) (fun r_23 => (¬ (r_23).toInt64 = 0 ∧ K12 (sL S 0 23 (((S.2 0 23) / (r_23).toInt64) * (x3).toInt64)) ((x2 + 1)))))
def wp_o_joins_b47 (Q : St → Prop) (x1 : Int32) (K12 : St → Int32 → Prop) : Nat → St → Int32 → Int32 → Int32 → Prop
  | 0 => fun _ _ _ _ => False
  | n + 1 => fun S x2 x3 x4 => (((lg_cmp (S.2 0 22) (-1)) = 0 → wp_o_joins_b111 Q (x1) K12 S (x2) (x3)) ∧ (¬ (lg_cmp (S.2 0 22) (-1)) = 0 → (¬ (x3).toInt64 = 0 ∧ (vp_in x2 5 ∧ (((lg_cmp (lrm (S.2 0 22) (x3).toInt64) ((S.1 27 (x2).toNatClampNeg)).toInt64) = 0 → wp_o_joins_b111 Q (x1) K12 S (x2) (x3)) ∧ (¬ (lg_cmp (lrm (S.2 0 22) (x3).toInt64) ((S.1 27 (x2).toNatClampNeg)).toInt64) = 0 → (((x4 + 1) ≤ x3 → wp_o_joins_b47 Q x1 K12 n (sL S 0 22 ((S.2 0 22) + (S.2 0 23))) (x2) (x3) ((x4 + 1))) ∧ (¬ (x4 + 1) ≤ x3 → wp_o_joins_b47 Q x1 K12 n (sL (sL S 0 22 ((S.2 0 22) + (S.2 0 23))) 0 22 (-1)) (x2) (x3) ((x4 + 1))))))))))
def wp_o_joins_b12 (Q : St → Prop) (x1 : Int32) : Nat → St → Int32 → Prop
  | 0 => fun _ _ => False
  | n + 1 => fun S x2 => (((S.1 15 6) ≤ x2 → Q S) ∧ (¬ (S.1 15 6) ≤ x2 → wp_o_has (x1) (x2) (fun r_6 => ((¬ r_6 = 0 → (vp_in x2 5 ∧ (∃ z, wp_o_joins_b47 Q (x1) (fun Sy y2 => wp_o_joins_b12 Q x1 n Sy y2) z S (x2) ((S.1 26 (x2).toNatClampNeg)) (0)))) ∧ (r_6 = 0 → wp_o_joins_b12 Q x1 n S ((x2 + 1)))))))
def wp_o_joins (S : St) (x1 : Int32) (Q : St → Prop) : Prop :=
  (∃ z, wp_o_joins_b12 Q (x1) z (sL (sL S 0 22 0) 0 23 1) (0))
set_option maxRecDepth 100000 in
theorem wk_o_joins_b111 {G : Gx} {K : Kx} {A : Nat → Nat} (C : KOk G K RX0 cX0_joins rm_o_joins 5 none) {B : Nat → Prop} (M : KM G K B) {Q : St → Prop} (N : KQv G K B (wC G A) Q) (x1 : Int32) (K12 : St → Int32 → Prop) (hK12 : ∀ (S : St) (x2 : Int32), K12 S x2 → Y G K 0 0 (wC G A S) 12 [(0, .ref (A 0)), (1, .int (x1)), (2, .int (x2))] []) (S : St) (x2 : Int32) (x3 : Int32) (h : wp_o_joins_b111 Q x1 K12 S x2 x3) : Y G K 0 0 (wC G A S) 111 [(0, .ref (A 0)), (1, .int (x1)), (2, .int (x2)), (3, .int (x3))] [] := by
  refine y_aload_n C dX0_joins_111 0 rfl rfl ?_
  refine y_aload_n C dX0_joins_112 0 rfl rfl ?_
  refine yg_X0_359_wC0 C dX0_joins_113 ?_
  refine y_aload_n C dX0_joins_116 0 rfl rfl ?_
  refine yg_X0_359_wC0 C dX0_joins_117 ?_
  refine y_iload_n C dX0_joins_120 3 rfl rfl ?_
  refine y_i2l C dX0_joins_121 rfl ?_
  refine y_lrem C dX0_joins_122 (h).1 ?_
  refine y_l2i C dX0_joins_123 ?_
  refine y_iload_n C dX0_joins_124 3 rfl rfl ?_
  refine y_callRiS (As := [.int (((lrm (S.2 0 23) (x3).toInt64)).toInt32), .int (x3)]) (rest := [.long ((S.2 0 23)), .ref (A 0)]) C cs_X0_241 (met_o_divisor G (((lrm (S.2 0 23) (x3).toInt64)).toInt32) (x3) _ ((h).2)) (fun _ _ => pw_nil) ⟨rfl, rfl, Nat.le_of_ble_eq_true rfl, Nat.le_of_ble_eq_true rfl⟩ rfl rfl (Nat.le_of_ble_eq_true rfl) dX0_joins_125 ⟨Nat.zero_le _, Nat.zero_le _⟩ (fun r_23 h_24 => ?_)
  refine y_i2l C dX0_joins_128 rfl ?_
  refine y_ldiv C dX0_joins_129 (h_24).1 ?_
  refine y_iload_n C dX0_joins_130 3 rfl rfl ?_
  refine y_i2l C dX0_joins_131 rfl ?_
  refine y_lmul C dX0_joins_132 ?_
  refine yp_X0_359_wC0 C M dX0_joins_133 ?_
  refine y_iinc C dX0_joins_136 2 rfl (Nat.le_of_ble_eq_true rfl) (ii_1 _) [(2, .int ((x2 + 1))), (0, .ref (A 0)), (1, .int (x1)), (3, .int (x3))] rfl ?_
  refine y_goto C (tgt := 12) dX0_joins_139 rfl ?_
  exact Y.sub (hK12 (sL S 0 23 (((S.2 0 23) / (r_23).toInt64) * (x3).toInt64)) ((x2 + 1)) ((h_24).2)) [1, 2, 0] rfl
set_option maxRecDepth 100000 in
theorem wk_o_joins_b47 {G : Gx} {K : Kx} {A : Nat → Nat} (C : KOk G K RX0 cX0_joins rm_o_joins 5 none) {B : Nat → Prop} (M : KM G K B) {Q : St → Prop} (N : KQv G K B (wC G A) Q) (x1 : Int32) (K12 : St → Int32 → Prop) (hK12 : ∀ (S : St) (x2 : Int32), K12 S x2 → Y G K 0 0 (wC G A S) 12 [(0, .ref (A 0)), (1, .int (x1)), (2, .int (x2))] []) : ∀ (n : Nat), ∀ (S : St) (x2 : Int32) (x3 : Int32) (x4 : Int32), wp_o_joins_b47 Q x1 K12 n S x2 x3 x4 → Y G K 0 0 (wC G A S) 47 [(0, .ref (A 0)), (1, .int (x1)), (2, .int (x2)), (3, .int (x3)), (4, .int (x4))] [] := by
  intro n
  induction n with
  | zero => intro S x2 x3 x4 h; exact h.elim
  | succ n ih =>
    intro S x2 x3 x4 h
    dsimp only [wp_o_joins_b47] at h
    refine y_aload_n C dX0_joins_47 0 rfl rfl ?_
    refine yg_X0_356_wC0 C dX0_joins_48 ?_
    refine y_ldc2 C dX0_joins_51 q1132 ?_
    refine y_lcmp C dX0_joins_54 ?_
    refine y_if_eq C (tgt := 111) dX0_joins_55 rfl (fun c_14 => ?_) (fun c_14 => ?_)
    · have h_15 := (h).1 c_14
      exact Y.sub (wk_o_joins_b111 C M N (x1) K12 hK12 S (x2) (x3) (h_15)) [0, 1, 2, 3] rfl
    · have h_16 := (h).2 c_14
      refine y_aload_n C dX0_joins_58 0 rfl rfl ?_
      refine yg_X0_356_wC0 C dX0_joins_59 ?_
      refine y_iload_n C dX0_joins_62 3 rfl rfl ?_
      refine y_i2l C dX0_joins_63 rfl ?_
      refine y_lrem C dX0_joins_64 (h_16).1 ?_
      refine y_aload_n C dX0_joins_65 0 rfl rfl ?_
      refine yg_X0_12_wC0 C dX0_joins_66 ?_
      refine yg_X0_368_wC15 C dX0_joins_69 ?_
      refine y_iload_n C dX0_joins_72 2 rfl rfl ?_
      refine y_iald C (wC_27 ..) rfl ((h_16).2).1 dX0_joins_73 ?_
      refine y_i2l C dX0_joins_74 rfl ?_
      refine y_lcmp C dX0_joins_75 ?_
      refine y_if_eq C (tgt := 111) dX0_joins_76 rfl (fun c_17 => ?_) (fun c_17 => ?_)
      · have h_18 := (((h_16).2).2).1 c_17
        exact Y.sub (wk_o_joins_b111 C M N (x1) K12 hK12 S (x2) (x3) (h_18)) [0, 1, 2, 3] rfl
      · have h_19 := (((h_16).2).2).2 c_17
        refine y_aload_n C dX0_joins_79 0 rfl rfl ?_
        refine y_dup C dX0_joins_80 rfl ?_
        refine yg_X0_356_wC0 C dX0_joins_81 ?_
        refine y_aload_n C dX0_joins_84 0 rfl rfl ?_
        refine yg_X0_359_wC0 C dX0_joins_85 ?_
        refine y_ladd C dX0_joins_88 ?_
        refine yp_X0_356_wC0 C M dX0_joins_89 ?_
        refine y_iinc C dX0_joins_92 4 rfl (Nat.le_of_ble_eq_true rfl) (ii_1 _) [(4, .int ((x4 + 1))), (0, .ref (A 0)), (1, .int (x1)), (2, .int (x2)), (3, .int (x3))] rfl ?_
        refine y_iload C dX0_joins_95 0 rfl ?_
        refine y_iload_n C dX0_joins_97 4 rfl rfl ?_
        refine y_icmp_le C (tgt := 47) dX0_joins_98 rfl (fun c_20 => ?_) (fun c_20 => ?_)
        · have h_21 := (h_19).1 c_20
          exact Y.sub (ih (sL S 0 22 ((S.2 0 22) + (S.2 0 23))) (x2) (x3) ((x4 + 1)) (h_21)) [1, 2, 3, 4, 0] rfl
        · have h_22 := (h_19).2 c_20
          refine y_aload_n C dX0_joins_101 1 rfl rfl ?_
          refine y_ldc2 C dX0_joins_102 q1132 ?_
          refine yp_X0_356_wC0 C M dX0_joins_105 ?_
          refine y_goto C (tgt := 47) dX0_joins_108 rfl ?_
          exact Y.sub (ih (sL (sL S 0 22 ((S.2 0 22) + (S.2 0 23))) 0 22 (-1)) (x2) (x3) ((x4 + 1)) (h_22)) [1, 2, 3, 4, 0] rfl
set_option maxRecDepth 100000 in
theorem wk_o_joins_b12 {G : Gx} {K : Kx} {A : Nat → Nat} (C : KOk G K RX0 cX0_joins rm_o_joins 5 none) {B : Nat → Prop} (M : KM G K B) {Q : St → Prop} (N : KQv G K B (wC G A) Q) (x1 : Int32) : ∀ (n : Nat), ∀ (S : St) (x2 : Int32), wp_o_joins_b12 Q x1 n S x2 → Y G K 0 0 (wC G A S) 12 [(0, .ref (A 0)), (1, .int (x1)), (2, .int (x2))] [] := by
  intro n
  induction n with
  | zero => intro S x2 h; exact h.elim
  | succ n ih =>
    intro S x2 h
    dsimp only [wp_o_joins_b12] at h
    refine y_iload_n C dX0_joins_12 2 rfl rfl ?_
    refine y_aload_n C dX0_joins_13 0 rfl rfl ?_
    refine yg_X0_12_wC0 C dX0_joins_14 ?_
    refine yg_X0_362_wC15 C dX0_joins_17 ?_
    refine y_icmp_ge C (tgt := 142) dX0_joins_20 rfl (fun c_3 => ?_) (fun c_3 => ?_)
    · have h_4 := (h).1 c_3
      exact y_vretM C M N rfl (S := S) rfl (h_4) dX0_joins_142
    · have h_5 := (h).2 c_3
      refine y_iload_n C dX0_joins_23 1 rfl rfl ?_
      refine y_iload_n C dX0_joins_24 2 rfl rfl ?_
      refine y_callRiS (As := [.int (x1), .int (x2)]) (rest := []) C cs_X0_197 (met_o_has G (x1) (x2) _ (h_5)) (fun _ _ => pw_nil) ⟨rfl, rfl, Nat.le_of_ble_eq_true rfl, Nat.le_of_ble_eq_true rfl⟩ rfl rfl (Nat.le_of_ble_eq_true rfl) dX0_joins_25 ⟨Nat.zero_le _, Nat.zero_le _⟩ (fun r_6 h_7 => ?_)
      refine y_if_ne C (tgt := 34) dX0_joins_28 rfl (fun c_9 => ?_) (fun c_9 => ?_)
      · have h_10 := (h_7).1 c_9
        refine y_aload_n C dX0_joins_34 0 rfl rfl ?_
        refine yg_X0_12_wC0 C dX0_joins_35 ?_
        refine yg_X0_365_wC15 C dX0_joins_38 ?_
        refine y_iload_n C dX0_joins_41 2 rfl rfl ?_
        refine y_iald C (wC_26 ..) rfl (h_10).1 dX0_joins_42 ?_
        refine y_istore_n C dX0_joins_43 rfl (Nat.le_of_ble_eq_true rfl) [(3, .int ((S.1 26 (x2).toNatClampNeg))), (0, .ref (A 0)), (1, .int (x1)), (2, .int (x2))] rfl ?_
        refine y_iconst C dX0_joins_44 ic_0 ?_
        refine y_istore C dX0_joins_45 (Nat.le_of_ble_eq_true rfl) [(4, .int (0)), (3, .int ((S.1 26 (x2).toNatClampNeg))), (0, .ref (A 0)), (1, .int (x1)), (2, .int (x2))] rfl ?_
        obtain ⟨n_11, h_12⟩ := (h_10).2
        exact Y.sub (wk_o_joins_b47 C M N (x1) (fun Sy y2 => wp_o_joins_b12 Q x1 n Sy y2) ih n_11 S (x2) ((S.1 26 (x2).toNatClampNeg)) (0) h_12) [2, 3, 4, 1, 0] rfl
      · have h_13 := (h_7).2 c_9
        refine y_goto C (tgt := 136) dX0_joins_31 rfl ?_
        refine y_iinc C dX0_joins_136 2 rfl (Nat.le_of_ble_eq_true rfl) (ii_1 _) [(2, .int ((x2 + 1))), (0, .ref (A 0)), (1, .int (x1))] rfl ?_
        refine y_goto C (tgt := 12) dX0_joins_139 rfl ?_
        exact Y.sub (ih S ((x2 + 1)) (h_13)) [1, 2, 0] rfl
set_option maxRecDepth 100000 in
theorem met_o_joins (G : Gx) (A : Nat → Nat) (S : St) (x1 : Int32) (Q : St → Prop) (h : wp_o_joins S x1 Q) : Mv G yX0_joins (ws_ yX0_joins cX0_joins 5 none) rm_o_joins (wC G A S) [.ref (A 0), .int (x1)] (wC G A) Q := by
  refine ent_Mv (by decide +kernel) rfl (Nat.le_of_ble_eq_true rfl) [(0, .ref (A 0)), (1, .int (x1))] rfl (fun K B C M N => ?_)
  refine y_aload_n C dX0_joins_0 0 rfl rfl ?_
  refine y_lconst C dX0_joins_1 lc_0 ?_
  refine yp_X0_356_wC0 C M dX0_joins_2 ?_
  refine y_aload_n C dX0_joins_5 0 rfl rfl ?_
  refine y_lconst C dX0_joins_6 lc_1 ?_
  refine yp_X0_359_wC0 C M dX0_joins_7 ?_
  refine y_iconst C dX0_joins_10 ic_0 ?_
  refine y_istore_n C dX0_joins_11 rfl (Nat.le_of_ble_eq_true rfl) [(2, .int (0)), (0, .ref (A 0)), (1, .int (x1))] rfl ?_
  obtain ⟨n_1, h_2⟩ := h
  exact Y.sub (wk_o_joins_b12 C M N (x1) n_1 (sL (sL S 0 22 0) 0 23 1) (0) h_2) [1, 2, 0] rfl
/-! OverHill together(II)J: o_together -/
abbrev rm_o_together : Room := { frames := 3, cells := 0, slots := 0, locals := 88 }
def wp_o_together (S : St) (x1 : Int32) (x2 : Int32) (Q : Int64 → St → Prop) : Prop :=
  wp_o_areTunes S (x1) (fun r_1 => ((r_1 = 0 → Q (-2) S) ∧ (¬ r_1 = 0 → wp_o_isBeat S ((x2).toInt64) (fun r_7 => ((¬ r_7 = 0 → wp_o_joins S (x1) (fun S_14 => ((¬ (lg_cmp (S_14.2 0 22) (-1)) = 0 → (¬ (S_14.2 0 23) = 0 ∧ (((lg_cmp (lrm (S_14.2 0 22) (S_14.2 0 23)) (x2).toInt64) < 0 → (¬ (S_14.2 0 23) = 0 ∧ Q ((lrm (S_14.2 0 22) (S_14.2 0 23)) + ((((((x2).toInt64 - (lrm (S_14.2 0 22) (S_14.2 0 23))) + (S_14.2 0 23)) - 1) / (S_14.2 0 23)) * (S_14.2 0 23))) S_14)) ∧ (¬ (lg_cmp (lrm (S_14.2 0 22) (S_14.2 0 23)) (x2).toInt64) < 0 → Q (lrm (S_14.2 0 22) (S_14.2 0 23)) S_14)))) ∧ ((lg_cmp (S_14.2 0 22) (-1)) = 0 → Q (-1) S_14)))) ∧ (r_7 = 0 → Q (-2) S))))))
set_option maxRecDepth 100000 in
theorem met_o_together (G : Gx) (A : Nat → Nat) (S : St) (x1 : Int32) (x2 : Int32) (Q : Int64 → St → Prop) (h : wp_o_together S x1 x2 Q) : Ml G yX0_together (ws_ yX0_together cX0_together 5 (some .long)) rm_o_together (wC G A S) [.ref (A 0), .int (x1), .int (x2)] (wC G A) Q := by
  refine ent_Ml (by decide +kernel) rfl (Nat.le_of_ble_eq_true rfl) [(0, .ref (A 0)), (1, .int (x1)), (2, .int (x2))] rfl (fun K B C M N => ?_)
  refine y_aload_n C dX0_together_0 0 rfl rfl ?_
  refine y_iload_n C dX0_together_1 1 rfl rfl ?_
  refine y_callRiV (As := [.int (x1)]) (rest := []) C cs_X0_371 (met_o_areTunes G A S (x1) _ (h)) (fun _ h => h) (wC_0 ..) rfl rfl ⟨rfl, rfl, Nat.le_of_ble_eq_true rfl, Nat.le_of_ble_eq_true rfl⟩ rfl rfl (Nat.le_of_ble_eq_true rfl) dX0_together_2 ⟨Nat.zero_le _, Nat.zero_le _⟩ (fun r_1 h_2 => ?_)
  refine y_if_eq C (tgt := 17) dX0_together_5 rfl (fun c_4 => ?_) (fun c_4 => ?_)
  · have h_5 := (h_2).1 c_4
    refine y_ldc2 C dX0_together_17 q1240 ?_
    exact y_lretM C M N rfl (S := S) rfl (h_5) dX0_together_20
  · have h_6 := (h_2).2 c_4
    refine y_aload_n C dX0_together_8 0 rfl rfl ?_
    refine y_iload_n C dX0_together_9 2 rfl rfl ?_
    refine y_i2l C dX0_together_10 rfl ?_
    refine y_callRiV (As := [.long ((x2).toInt64)]) (rest := []) C cs_X0_181 (met_o_isBeat G A S ((x2).toInt64) _ (h_6)) (fun _ h => h) (wC_0 ..) rfl rfl ⟨rfl, rfl, Nat.le_of_ble_eq_true rfl, Nat.le_of_ble_eq_true rfl⟩ rfl rfl (Nat.le_of_ble_eq_true rfl) dX0_together_11 ⟨Nat.zero_le _, Nat.zero_le _⟩ (fun r_7 h_8 => ?_)
    refine y_if_ne C (tgt := 21) dX0_together_14 rfl (fun c_10 => ?_) (fun c_10 => ?_)
    · have h_11 := (h_8).1 c_10
      refine y_aload_n C dX0_together_21 0 rfl rfl ?_
      refine y_iload_n C dX0_together_22 1 rfl rfl ?_
      refine y_callMvV (k' := 0) (n' := 0) (As := [.int (x1)]) (rest := []) C M cs_X0_376 (met_o_joins G A S (x1) _ (h_11)) (wC_0 ..) rfl rfl ⟨rfl, rfl, Nat.le_of_ble_eq_true rfl, Nat.le_of_ble_eq_true rfl⟩ rfl rfl (Nat.le_of_ble_eq_true rfl) dX0_together_23 ⟨Nat.zero_le _, Nat.zero_le _⟩ rfl rfl (fun S_14 h_13 => ?_)
      refine y_aload_n C dX0_together_26 0 rfl rfl ?_
      refine yg_X0_356_wC0 C dX0_together_27 ?_
      refine y_ldc2 C dX0_together_30 q1132 ?_
      refine y_lcmp C dX0_together_33 ?_
      refine y_if_ne C (tgt := 41) dX0_together_34 rfl (fun c_15 => ?_) (fun c_15 => ?_)
      · have h_16 := (h_13).1 c_15
        refine y_aload_n C dX0_together_41 0 rfl rfl ?_
        refine yg_X0_356_wC0 C dX0_together_42 ?_
        refine y_aload_n C dX0_together_45 0 rfl rfl ?_
        refine yg_X0_359_wC0 C dX0_together_46 ?_
        refine y_lrem C dX0_together_49 (h_16).1 ?_
        refine y_lstore_n C dX0_together_50 rfl (Nat.le_of_ble_eq_true rfl) [(3, .long ((lrm (S_14.2 0 22) (S_14.2 0 23)))), (0, .ref (A 0)), (1, .int (x1)), (2, .int (x2))] rfl ?_
        refine y_lload_n C dX0_together_51 0 rfl rfl ?_
        refine y_iload_n C dX0_together_52 3 rfl rfl ?_
        refine y_i2l C dX0_together_53 rfl ?_
        refine y_lcmp C dX0_together_54 ?_
        refine y_if_lt C (tgt := 62) dX0_together_55 rfl (fun c_17 => ?_) (fun c_17 => ?_)
        · have h_18 := ((h_16).2).1 c_17
          refine y_lload_n C dX0_together_62 0 rfl rfl ?_
          refine y_iload_n C dX0_together_63 3 rfl rfl ?_
          refine y_i2l C dX0_together_64 rfl ?_
          refine y_lload_n C dX0_together_65 0 rfl rfl ?_
          refine y_lsub C dX0_together_66 ?_
          refine y_aload_n C dX0_together_67 1 rfl rfl ?_
          refine yg_X0_359_wC0 C dX0_together_68 ?_
          refine y_ladd C dX0_together_71 ?_
          refine y_lconst C dX0_together_72 lc_1 ?_
          refine y_lsub C dX0_together_73 ?_
          refine y_aload_n C dX0_together_74 1 rfl rfl ?_
          refine yg_X0_359_wC0 C dX0_together_75 ?_
          refine y_ldiv C dX0_together_78 (h_18).1 ?_
          refine y_aload_n C dX0_together_79 1 rfl rfl ?_
          refine yg_X0_359_wC0 C dX0_together_80 ?_
          refine y_lmul C dX0_together_83 ?_
          refine y_ladd C dX0_together_84 ?_
          exact y_lretM C M N rfl (S := S_14) rfl ((h_18).2) dX0_together_85
        · have h_19 := ((h_16).2).2 c_17
          refine y_lload_n C dX0_together_58 0 rfl rfl ?_
          refine y_goto C (tgt := 85) dX0_together_59 rfl ?_
          exact y_lretM C M N rfl (S := S_14) rfl (h_19) dX0_together_85
      · have h_20 := (h_13).2 c_15
        refine y_ldc2 C dX0_together_37 q1132 ?_
        exact y_lretM C M N rfl (S := S_14) rfl (h_20) dX0_together_40
    · have h_21 := (h_8).2 c_10
      refine y_ldc2 C dX0_together_17 q1240 ?_
      exact y_lretM C M N rfl (S := S) rfl (h_21) dX0_together_20
/-! OverHill again(I)J: o_again -/
abbrev rm_o_again : Room := { frames := 3, cells := 0, slots := 0, locals := 88 }
def wp_o_again (S : St) (x1 : Int32) (Q : Int64 → St → Prop) : Prop :=
  wp_o_areTunes S (x1) (fun r_1 => ((¬ r_1 = 0 → wp_o_joins S (x1) (fun S_8 => Q (S_8.2 0 23) S_8)) ∧ (r_1 = 0 → Q (-2) S)))
set_option maxRecDepth 100000 in
theorem met_o_again (G : Gx) (A : Nat → Nat) (S : St) (x1 : Int32) (Q : Int64 → St → Prop) (h : wp_o_again S x1 Q) : Ml G yX0_again (ws_ yX0_again cX0_again 2 (some .long)) rm_o_again (wC G A S) [.ref (A 0), .int (x1)] (wC G A) Q := by
  refine ent_Ml (by decide +kernel) rfl (Nat.le_of_ble_eq_true rfl) [(0, .ref (A 0)), (1, .int (x1))] rfl (fun K B C M N => ?_)
  refine y_aload_n C dX0_again_0 0 rfl rfl ?_
  refine y_iload_n C dX0_again_1 1 rfl rfl ?_
  refine y_callRiV (As := [.int (x1)]) (rest := []) C cs_X0_371 (met_o_areTunes G A S (x1) _ (h)) (fun _ h => h) (wC_0 ..) rfl rfl ⟨rfl, rfl, Nat.le_of_ble_eq_true rfl, Nat.le_of_ble_eq_true rfl⟩ rfl rfl (Nat.le_of_ble_eq_true rfl) dX0_again_2 ⟨Nat.zero_le _, Nat.zero_le _⟩ (fun r_1 h_2 => ?_)
  refine y_if_ne C (tgt := 12) dX0_again_5 rfl (fun c_4 => ?_) (fun c_4 => ?_)
  · have h_5 := (h_2).1 c_4
    refine y_aload_n C dX0_again_12 0 rfl rfl ?_
    refine y_iload_n C dX0_again_13 1 rfl rfl ?_
    refine y_callMvV (k' := 0) (n' := 0) (As := [.int (x1)]) (rest := []) C M cs_X0_376 (met_o_joins G A S (x1) _ (h_5)) (wC_0 ..) rfl rfl ⟨rfl, rfl, Nat.le_of_ble_eq_true rfl, Nat.le_of_ble_eq_true rfl⟩ rfl rfl (Nat.le_of_ble_eq_true rfl) dX0_again_14 ⟨Nat.zero_le _, Nat.zero_le _⟩ rfl rfl (fun S_8 h_7 => ?_)
    refine y_aload_n C dX0_again_17 0 rfl rfl ?_
    refine yg_X0_359_wC0 C dX0_again_18 ?_
    exact y_lretM C M N rfl (S := S_8) rfl (h_7) dX0_again_21
  · have h_9 := (h_2).2 c_4
    refine y_ldc2 C dX0_again_8 q1240 ?_
    exact y_lretM C M N rfl (S := S) rfl (h_9) dX0_again_11
/-! OverHill chorusOf()I: o_chorusOf -/
abbrev rm_o_chorusOf : Room := { frames := 3, cells := 0, slots := 0, locals := 88 }
def wp_o_chorusOf_b4 (Q : Int32 → St → Prop) : Nat → St → Int32 → Int32 → Prop
  | 0 => fun _ _ _ => False
  | n + 1 => fun S x1 x2 => (((1 <<< ((S.1 15 6) &&& 31)) ≤ x2 → Q x1 S) ∧ (¬ (1 <<< ((S.1 15 6) &&& 31)) ≤ x2 → wp_o_joins S (x2) (fun S_8 => (((lg_cmp (S_8.2 0 22) (-1)) = 0 → wp_o_chorusOf_b4 Q n S_8 (x1) ((x2 + 1))) ∧ (¬ (lg_cmp (S_8.2 0 22) (-1)) = 0 → wp_ji_bitCount (x2) (fun r_12 => wp_ji_bitCount (x1) (fun r_15 => ((r_12 ≤ r_15 → wp_o_chorusOf_b4 Q n S_8 (x1) ((x2 + 1))) ∧ (¬ r_12 ≤ r_15 → wp_o_chorusOf_b4 Q n S_8 (x2) ((x2 + 1)))))))))))
def wp_o_chorusOf (S : St) (Q : Int32 → St → Prop) : Prop :=
  (∃ z, wp_o_chorusOf_b4 Q z S (0) (0))
set_option maxRecDepth 100000 in
theorem wk_o_chorusOf_b4 {G : Gx} {K : Kx} {A : Nat → Nat} (C : KOk G K RX0 cX0_chorusOf rm_o_chorusOf 3 (some .int)) {B : Nat → Prop} (M : KM G K B) {Q : Int32 → St → Prop} (N : KQi G K B (wC G A) Q) : ∀ (n : Nat), ∀ (S : St) (x1 : Int32) (x2 : Int32), wp_o_chorusOf_b4 Q n S x1 x2 → Y G K 0 0 (wC G A S) 4 [(0, .ref (A 0)), (1, .int (x1)), (2, .int (x2))] [] := by
  intro n
  induction n with
  | zero => intro S x1 x2 h; exact h.elim
  | succ n ih =>
    intro S x1 x2 h
    dsimp only [wp_o_chorusOf_b4] at h
    refine y_iload_n C dX0_chorusOf_4 2 rfl rfl ?_
    refine y_iconst C dX0_chorusOf_5 ic_1 ?_
    refine y_aload_n C dX0_chorusOf_6 0 rfl rfl ?_
    refine yg_X0_12_wC0 C dX0_chorusOf_7 ?_
    refine yg_X0_362_wC15 C dX0_chorusOf_10 ?_
    refine y_ishl C dX0_chorusOf_13 ?_
    refine y_icmp_ge C (tgt := 56) dX0_chorusOf_14 rfl (fun c_3 => ?_) (fun c_3 => ?_)
    · have h_4 := (h).1 c_3
      refine y_iload_n C dX0_chorusOf_56 1 rfl rfl ?_
      exact y_iretM C M N rfl (S := S) rfl (h_4) dX0_chorusOf_57
    · have h_5 := (h).2 c_3
      refine y_aload_n C dX0_chorusOf_17 0 rfl rfl ?_
      refine y_iload_n C dX0_chorusOf_18 2 rfl rfl ?_
      refine y_callMvV (k' := 0) (n' := 0) (As := [.int (x2)]) (rest := []) C M cs_X0_376 (met_o_joins G A S (x2) _ (h_5)) (wC_0 ..) rfl rfl ⟨rfl, rfl, Nat.le_of_ble_eq_true rfl, Nat.le_of_ble_eq_true rfl⟩ rfl rfl (Nat.le_of_ble_eq_true rfl) dX0_chorusOf_19 ⟨Nat.zero_le _, Nat.zero_le _⟩ rfl rfl (fun S_8 h_7 => ?_)
      refine y_aload_n C dX0_chorusOf_22 0 rfl rfl ?_
      refine yg_X0_356_wC0 C dX0_chorusOf_23 ?_
      refine y_ldc2 C dX0_chorusOf_26 q1132 ?_
      refine y_lcmp C dX0_chorusOf_29 ?_
      refine y_if_eq C (tgt := 48) dX0_chorusOf_30 rfl (fun c_9 => ?_) (fun c_9 => ?_)
      · have h_10 := (h_7).1 c_9
        refine y_iload_n C dX0_chorusOf_48 1 rfl rfl ?_
        refine y_istore_n C dX0_chorusOf_49 rfl (Nat.le_of_ble_eq_true rfl) [(1, .int (x1)), (0, .ref (A 0)), (2, .int (x2))] rfl ?_
        refine y_iinc C dX0_chorusOf_50 2 rfl (Nat.le_of_ble_eq_true rfl) (ii_1 _) [(2, .int ((x2 + 1))), (1, .int (x1)), (0, .ref (A 0))] rfl ?_
        refine y_goto C (tgt := 4) dX0_chorusOf_53 rfl ?_
        exact Y.sub (ih S_8 (x1) ((x2 + 1)) (h_10)) [2, 1, 0] rfl
      · have h_11 := (h_7).2 c_9
        refine y_iload_n C dX0_chorusOf_33 2 rfl rfl ?_
        refine y_callRiS (As := [.int (x2)]) (rest := []) C cs_X0_379 (met_ji_bitCount G (x2) _ (h_11)) (fun _ _ => pw_nil) ⟨rfl, rfl, Nat.le_of_ble_eq_true rfl, Nat.le_of_ble_eq_true rfl⟩ rfl rfl (Nat.le_of_ble_eq_true rfl) dX0_chorusOf_34 ⟨Nat.zero_le _, Nat.zero_le _⟩ (fun r_12 h_13 => ?_)
        refine y_iload_n C dX0_chorusOf_37 1 rfl rfl ?_
        refine y_callRiS (As := [.int (x1)]) (rest := [.int (r_12)]) C cs_X0_379 (met_ji_bitCount G (x1) _ (h_13)) (fun _ _ => pw_nil) ⟨rfl, rfl, Nat.le_of_ble_eq_true rfl, Nat.le_of_ble_eq_true rfl⟩ rfl rfl (Nat.le_of_ble_eq_true rfl) dX0_chorusOf_38 ⟨Nat.zero_le _, Nat.zero_le _⟩ (fun r_15 h_16 => ?_)
        refine y_icmp_le C (tgt := 48) dX0_chorusOf_41 rfl (fun c_18 => ?_) (fun c_18 => ?_)
        · have h_19 := (h_16).1 c_18
          refine y_iload_n C dX0_chorusOf_48 1 rfl rfl ?_
          refine y_istore_n C dX0_chorusOf_49 rfl (Nat.le_of_ble_eq_true rfl) [(1, .int (x1)), (0, .ref (A 0)), (2, .int (x2))] rfl ?_
          refine y_iinc C dX0_chorusOf_50 2 rfl (Nat.le_of_ble_eq_true rfl) (ii_1 _) [(2, .int ((x2 + 1))), (1, .int (x1)), (0, .ref (A 0))] rfl ?_
          refine y_goto C (tgt := 4) dX0_chorusOf_53 rfl ?_
          exact Y.sub (ih S_8 (x1) ((x2 + 1)) (h_19)) [2, 1, 0] rfl
        · have h_20 := (h_16).2 c_18
          refine y_iload_n C dX0_chorusOf_44 2 rfl rfl ?_
          refine y_goto C (tgt := 49) dX0_chorusOf_45 rfl ?_
          refine y_istore_n C dX0_chorusOf_49 rfl (Nat.le_of_ble_eq_true rfl) [(1, .int (x2)), (0, .ref (A 0)), (2, .int (x2))] rfl ?_
          refine y_iinc C dX0_chorusOf_50 2 rfl (Nat.le_of_ble_eq_true rfl) (ii_1 _) [(2, .int ((x2 + 1))), (1, .int (x2)), (0, .ref (A 0))] rfl ?_
          refine y_goto C (tgt := 4) dX0_chorusOf_53 rfl ?_
          exact Y.sub (ih S_8 (x2) ((x2 + 1)) (h_20)) [2, 1, 0] rfl
set_option maxRecDepth 100000 in
theorem met_o_chorusOf (G : Gx) (A : Nat → Nat) (S : St) (Q : Int32 → St → Prop) (h : wp_o_chorusOf S Q) : Mi G yX0_chorusOf (ws_ yX0_chorusOf cX0_chorusOf 3 (some .int)) rm_o_chorusOf (wC G A S) [.ref (A 0)] (wC G A) Q := by
  refine ent_Mi (by decide +kernel) rfl (Nat.le_of_ble_eq_true rfl) [(0, .ref (A 0))] rfl (fun K B C M N => ?_)
  refine y_iconst C dX0_chorusOf_0 ic_0 ?_
  refine y_istore_n C dX0_chorusOf_1 rfl (Nat.le_of_ble_eq_true rfl) [(1, .int (0)), (0, .ref (A 0))] rfl ?_
  refine y_iconst C dX0_chorusOf_2 ic_0 ?_
  refine y_istore_n C dX0_chorusOf_3 rfl (Nat.le_of_ble_eq_true rfl) [(2, .int (0)), (1, .int (0)), (0, .ref (A 0))] rfl ?_
  obtain ⟨n_1, h_2⟩ := h
  exact Y.sub (wk_o_chorusOf_b4 C M N n_1 S (0) (0) h_2) [2, 1, 0] rfl
/-! OverHill most()I: o_most -/
abbrev rm_o_most : Room := { frames := 4, cells := 0, slots := 0, locals := 110 }
def wp_o_most (S : St) (Q : Int32 → St → Prop) : Prop :=
  wp_o_isDance S (fun r_1 => ((r_1 = 0 → Q (-2) S) ∧ (¬ r_1 = 0 → wp_o_chorusOf S (fun r_7 S_9 => wp_ji_bitCount (r_7) (fun r_10 => Q r_10 S_9)))))
set_option maxRecDepth 100000 in
theorem met_o_most (G : Gx) (A : Nat → Nat) (S : St) (Q : Int32 → St → Prop) (h : wp_o_most S Q) : Mi G yX0_most (ws_ yX0_most cX0_most 1 (some .int)) rm_o_most (wC G A S) [.ref (A 0)] (wC G A) Q := by
  refine ent_Mi (by decide +kernel) rfl (Nat.le_of_ble_eq_true rfl) [(0, .ref (A 0))] rfl (fun K B C M N => ?_)
  refine y_aload_n C dX0_most_0 0 rfl rfl ?_
  refine y_callRiV (As := []) (rest := []) C cs_X0_128 (met_o_isDance G A S _ (h)) (fun _ h => h) (wC_0 ..) rfl rfl ⟨rfl, rfl, Nat.le_of_ble_eq_true rfl, Nat.le_of_ble_eq_true rfl⟩ rfl rfl (Nat.le_of_ble_eq_true rfl) dX0_most_1 ⟨Nat.zero_le _, Nat.zero_le _⟩ (fun r_1 h_2 => ?_)
  refine y_if_eq C (tgt := 17) dX0_most_4 rfl (fun c_4 => ?_) (fun c_4 => ?_)
  · have h_5 := (h_2).1 c_4
    refine y_bipush C dX0_most_17 bpm2 ?_
    exact y_iretM C M N rfl (S := S) rfl (h_5) dX0_most_19
  · have h_6 := (h_2).2 c_4
    refine y_aload_n C dX0_most_7 0 rfl rfl ?_
    refine y_callMiV (k' := 0) (n' := 0) (As := []) (rest := []) C M cs_X0_384 (met_o_chorusOf G A S _ (h_6)) (wC_0 ..) rfl rfl ⟨rfl, rfl, Nat.le_of_ble_eq_true rfl, Nat.le_of_ble_eq_true rfl⟩ rfl rfl (Nat.le_of_ble_eq_true rfl) dX0_most_8 ⟨Nat.zero_le _, Nat.zero_le _⟩ rfl rfl (fun r_7 S_9 h_8 => ?_)
    refine y_callRiS (As := [.int (r_7)]) (rest := []) C cs_X0_379 (met_ji_bitCount G (r_7) _ (h_8)) (fun _ _ => pw_nil) ⟨rfl, rfl, Nat.le_of_ble_eq_true rfl, Nat.le_of_ble_eq_true rfl⟩ rfl rfl (Nat.le_of_ble_eq_true rfl) dX0_most_11 ⟨Nat.zero_le _, Nat.zero_le _⟩ (fun r_10 h_11 => ?_)
    refine y_goto C (tgt := 19) dX0_most_14 rfl ?_
    exact y_iretM C M N rfl (S := S_9) rfl (h_11) dX0_most_19
/-! OverHill chorus()I: o_chorus -/
abbrev rm_o_chorus : Room := { frames := 4, cells := 0, slots := 0, locals := 110 }
def wp_o_chorus (S : St) (Q : Int32 → St → Prop) : Prop :=
  wp_o_isDance S (fun r_1 => ((r_1 = 0 → Q (-2) S) ∧ (¬ r_1 = 0 → wp_o_chorusOf S (fun r_7 S_9 => Q r_7 S_9))))
set_option maxRecDepth 100000 in
theorem met_o_chorus (G : Gx) (A : Nat → Nat) (S : St) (Q : Int32 → St → Prop) (h : wp_o_chorus S Q) : Mi G yX0_chorus (ws_ yX0_chorus cX0_chorus 1 (some .int)) rm_o_chorus (wC G A S) [.ref (A 0)] (wC G A) Q := by
  refine ent_Mi (by decide +kernel) rfl (Nat.le_of_ble_eq_true rfl) [(0, .ref (A 0))] rfl (fun K B C M N => ?_)
  refine y_aload_n C dX0_chorus_0 0 rfl rfl ?_
  refine y_callRiV (As := []) (rest := []) C cs_X0_128 (met_o_isDance G A S _ (h)) (fun _ h => h) (wC_0 ..) rfl rfl ⟨rfl, rfl, Nat.le_of_ble_eq_true rfl, Nat.le_of_ble_eq_true rfl⟩ rfl rfl (Nat.le_of_ble_eq_true rfl) dX0_chorus_1 ⟨Nat.zero_le _, Nat.zero_le _⟩ (fun r_1 h_2 => ?_)
  refine y_if_eq C (tgt := 14) dX0_chorus_4 rfl (fun c_4 => ?_) (fun c_4 => ?_)
  · have h_5 := (h_2).1 c_4
    refine y_bipush C dX0_chorus_14 bpm2 ?_
    exact y_iretM C M N rfl (S := S) rfl (h_5) dX0_chorus_16
  · have h_6 := (h_2).2 c_4
    refine y_aload_n C dX0_chorus_7 0 rfl rfl ?_
    refine y_callMiV (k' := 0) (n' := 0) (As := []) (rest := []) C M cs_X0_384 (met_o_chorusOf G A S _ (h_6)) (wC_0 ..) rfl rfl ⟨rfl, rfl, Nat.le_of_ble_eq_true rfl, Nat.le_of_ble_eq_true rfl⟩ rfl rfl (Nat.le_of_ble_eq_true rfl) dX0_chorus_8 ⟨Nat.zero_le _, Nat.zero_le _⟩ rfl rfl (fun r_7 S_9 h_8 => ?_)
    refine y_goto C (tgt := 16) dX0_chorus_11 rfl ?_
    exact y_iretM C M N rfl (S := S_9) rfl (h_8) dX0_chorus_16
/-! OverHill treaties()I: o_treaties -/
abbrev rm_o_treaties : Room := { frames := 2, cells := 0, slots := 0, locals := 61 }
def wp_o_treaties_b22 (S : St) (Q : Int32 → Prop) (K14 : Int32 → Int32 → Prop) : Nat → Int32 → Int32 → Int32 → Prop
  | 0 => fun _ _ _ => False
  | n + 1 => fun x1 x2 x3 => ((6 ≤ x3 → K14 (x1) ((x2 + 1))) ∧ (¬ 6 ≤ x3 → (vp_in x2 6 ∧ wp_o_has ((S.1 19 (x2).toNatClampNeg)) (x3) (fun r_17 => ((r_17 = 0 → wp_o_treaties_b22 S Q K14 n ((x1 + 0)) (x2) ((x3 + 1))) ∧ (¬ r_17 = 0 → (vp_in x3 6 ∧ wp_o_has ((S.1 19 (x3).toNatClampNeg)) (x2) (fun r_23 => ((r_23 = 0 → wp_o_treaties_b22 S Q K14 n ((x1 + 0)) (x2) ((x3 + 1))) ∧ (¬ r_23 = 0 → wp_o_treaties_b22 S Q K14 n ((x1 + 1)) (x2) ((x3 + 1))))))))))))
def wp_o_treaties_b14 (S : St) (Q : Int32 → Prop) : Nat → Int32 → Int32 → Prop
  | 0 => fun _ _ => False
  | n + 1 => fun x1 x2 => ((6 ≤ x2 → Q x1) ∧ (¬ 6 ≤ x2 → (∃ z, wp_o_treaties_b22 S Q (fun y1 y2 => wp_o_treaties_b14 S Q n y1 y2) z (x1) (x2) (0))))
def wp_o_treaties (S : St) (Q : Int32 → Prop) : Prop :=
  wp_o_isDance S (fun r_1 => ((¬ r_1 = 0 → (∃ z, wp_o_treaties_b14 S Q z (0) (0))) ∧ (r_1 = 0 → Q (-2))))
set_option maxRecDepth 100000 in
theorem wk_o_treaties_b22 {G : Gx} {K : Kx} {A : Nat → Nat} (C : KOk G K RX0 cX0_treaties rm_o_treaties 4 (some .int)) {S : St} {Q : Int32 → Prop} (N : KRi K Q) (K14 : Int32 → Int32 → Prop) (hK14 : ∀ (x1 : Int32) (x2 : Int32), K14 x1 x2 → Y G K 0 0 (wC G A S) 14 [(0, .ref (A 0)), (1, .int (x1)), (2, .int (x2))] []) : ∀ (n : Nat), ∀ (x1 : Int32) (x2 : Int32) (x3 : Int32), wp_o_treaties_b22 S Q K14 n x1 x2 x3 → Y G K 0 0 (wC G A S) 22 [(0, .ref (A 0)), (1, .int (x1)), (2, .int (x2)), (3, .int (x3))] [] := by
  intro n
  induction n with
  | zero => intro x1 x2 x3 h; exact h.elim
  | succ n ih =>
    intro x1 x2 x3 h
    dsimp only [wp_o_treaties_b22] at h
    refine y_iload_n C dX0_treaties_22 3 rfl rfl ?_
    refine y_bipush C dX0_treaties_23 bp_6 ?_
    refine y_icmp_ge C (tgt := 74) dX0_treaties_25 rfl (fun c_14 => ?_) (fun c_14 => ?_)
    · have h_15 := (h).1 c_14
      refine y_iinc C dX0_treaties_74 2 rfl (Nat.le_of_ble_eq_true rfl) (ii_1 _) [(2, .int ((x2 + 1))), (0, .ref (A 0)), (1, .int (x1)), (3, .int (x3))] rfl ?_
      refine y_goto C (tgt := 14) dX0_treaties_77 rfl ?_
      exact Y.sub (hK14 (x1) ((x2 + 1)) (h_15)) [1, 2, 0] rfl
    · have h_16 := (h).2 c_14
      refine y_iload_n C dX0_treaties_28 1 rfl rfl ?_
      refine y_aload_n C dX0_treaties_29 0 rfl rfl ?_
      refine yg_X0_12_wC0 C dX0_treaties_30 ?_
      refine yg_X0_163_wC15 C dX0_treaties_33 ?_
      refine y_iload_n C dX0_treaties_36 2 rfl rfl ?_
      refine y_iald C (wC_19 ..) rfl (h_16).1 dX0_treaties_37 ?_
      refine y_iload_n C dX0_treaties_38 3 rfl rfl ?_
      refine y_callRiS (As := [.int ((S.1 19 (x2).toNatClampNeg)), .int (x3)]) (rest := [.int (x1)]) C cs_X0_197 (met_o_has G ((S.1 19 (x2).toNatClampNeg)) (x3) _ ((h_16).2)) (fun _ _ => pw_nil) ⟨rfl, rfl, Nat.le_of_ble_eq_true rfl, Nat.le_of_ble_eq_true rfl⟩ rfl rfl (Nat.le_of_ble_eq_true rfl) dX0_treaties_39 ⟨Nat.zero_le _, Nat.zero_le _⟩ (fun r_17 h_18 => ?_)
      refine y_if_eq C (tgt := 65) dX0_treaties_42 rfl (fun c_20 => ?_) (fun c_20 => ?_)
      · have h_21 := (h_18).1 c_20
        refine y_iconst C dX0_treaties_65 ic_0 ?_
        refine y_iadd C dX0_treaties_66 ?_
        refine y_istore_n C dX0_treaties_67 rfl (Nat.le_of_ble_eq_true rfl) [(1, .int ((x1 + 0))), (0, .ref (A 0)), (2, .int (x2)), (3, .int (x3))] rfl ?_
        refine y_iinc C dX0_treaties_68 3 rfl (Nat.le_of_ble_eq_true rfl) (ii_1 _) [(3, .int ((x3 + 1))), (1, .int ((x1 + 0))), (0, .ref (A 0)), (2, .int (x2))] rfl ?_
        refine y_goto C (tgt := 22) dX0_treaties_71 rfl ?_
        exact Y.sub (ih ((x1 + 0)) (x2) ((x3 + 1)) (h_21)) [2, 1, 3, 0] rfl
      · have h_22 := (h_18).2 c_20
        refine y_aload_n C dX0_treaties_45 0 rfl rfl ?_
        refine yg_X0_12_wC0 C dX0_treaties_46 ?_
        refine yg_X0_163_wC15 C dX0_treaties_49 ?_
        refine y_iload_n C dX0_treaties_52 3 rfl rfl ?_
        refine y_iald C (wC_19 ..) rfl (h_22).1 dX0_treaties_53 ?_
        refine y_iload_n C dX0_treaties_54 2 rfl rfl ?_
        refine y_callRiS (As := [.int ((S.1 19 (x3).toNatClampNeg)), .int (x2)]) (rest := [.int (x1)]) C cs_X0_197 (met_o_has G ((S.1 19 (x3).toNatClampNeg)) (x2) _ ((h_22).2)) (fun _ _ => pw_nil) ⟨rfl, rfl, Nat.le_of_ble_eq_true rfl, Nat.le_of_ble_eq_true rfl⟩ rfl rfl (Nat.le_of_ble_eq_true rfl) dX0_treaties_55 ⟨Nat.zero_le _, Nat.zero_le _⟩ (fun r_23 h_24 => ?_)
        refine y_if_eq C (tgt := 65) dX0_treaties_58 rfl (fun c_26 => ?_) (fun c_26 => ?_)
        · have h_27 := (h_24).1 c_26
          refine y_iconst C dX0_treaties_65 ic_0 ?_
          refine y_iadd C dX0_treaties_66 ?_
          refine y_istore_n C dX0_treaties_67 rfl (Nat.le_of_ble_eq_true rfl) [(1, .int ((x1 + 0))), (0, .ref (A 0)), (2, .int (x2)), (3, .int (x3))] rfl ?_
          refine y_iinc C dX0_treaties_68 3 rfl (Nat.le_of_ble_eq_true rfl) (ii_1 _) [(3, .int ((x3 + 1))), (1, .int ((x1 + 0))), (0, .ref (A 0)), (2, .int (x2))] rfl ?_
          refine y_goto C (tgt := 22) dX0_treaties_71 rfl ?_
          exact Y.sub (ih ((x1 + 0)) (x2) ((x3 + 1)) (h_27)) [2, 1, 3, 0] rfl
        · have h_28 := (h_24).2 c_26
          refine y_iconst C dX0_treaties_61 ic_1 ?_
          refine y_goto C (tgt := 66) dX0_treaties_62 rfl ?_
          refine y_iadd C dX0_treaties_66 ?_
          refine y_istore_n C dX0_treaties_67 rfl (Nat.le_of_ble_eq_true rfl) [(1, .int ((x1 + 1))), (0, .ref (A 0)), (2, .int (x2)), (3, .int (x3))] rfl ?_
          refine y_iinc C dX0_treaties_68 3 rfl (Nat.le_of_ble_eq_true rfl) (ii_1 _) [(3, .int ((x3 + 1))), (1, .int ((x1 + 1))), (0, .ref (A 0)), (2, .int (x2))] rfl ?_
          refine y_goto C (tgt := 22) dX0_treaties_71 rfl ?_
          exact Y.sub (ih ((x1 + 1)) (x2) ((x3 + 1)) (h_28)) [2, 1, 3, 0] rfl
set_option maxRecDepth 100000 in
theorem wk_o_treaties_b14 {G : Gx} {K : Kx} {A : Nat → Nat} (C : KOk G K RX0 cX0_treaties rm_o_treaties 4 (some .int)) {S : St} {Q : Int32 → Prop} (N : KRi K Q) : ∀ (n : Nat), ∀ (x1 : Int32) (x2 : Int32), wp_o_treaties_b14 S Q n x1 x2 → Y G K 0 0 (wC G A S) 14 [(0, .ref (A 0)), (1, .int (x1)), (2, .int (x2))] [] := by
  intro n
  induction n with
  | zero => intro x1 x2 h; exact h.elim
  | succ n ih =>
    intro x1 x2 h
    dsimp only [wp_o_treaties_b14] at h
    refine y_iload_n C dX0_treaties_14 2 rfl rfl ?_
    refine y_bipush C dX0_treaties_15 bp_6 ?_
    refine y_icmp_ge C (tgt := 80) dX0_treaties_17 rfl (fun c_9 => ?_) (fun c_9 => ?_)
    · have h_10 := (h).1 c_9
      refine y_iload_n C dX0_treaties_80 1 rfl rfl ?_
      exact y_iretR C N rfl (h_10) dX0_treaties_81
    · have h_11 := (h).2 c_9
      refine y_iconst C dX0_treaties_20 ic_0 ?_
      refine y_istore_n C dX0_treaties_21 rfl (Nat.le_of_ble_eq_true rfl) [(3, .int (0)), (0, .ref (A 0)), (1, .int (x1)), (2, .int (x2))] rfl ?_
      obtain ⟨n_12, h_13⟩ := h_11
      exact Y.sub (wk_o_treaties_b22 C N (fun y1 y2 => wp_o_treaties_b14 S Q n y1 y2) ih n_12 (x1) (x2) (0) h_13) [1, 2, 3, 0] rfl
set_option maxRecDepth 100000 in
theorem met_o_treaties (G : Gx) (A : Nat → Nat) (S : St) (Q : Int32 → Prop) (h : wp_o_treaties S Q) : Ri G yX0_treaties (ws_ yX0_treaties cX0_treaties 4 (some .int)) rm_o_treaties (wC G A S) [.ref (A 0)] Q := by
  refine ent_Ri (by decide +kernel) rfl (Nat.le_of_ble_eq_true rfl) [(0, .ref (A 0))] rfl (fun K C N => ?_)
  refine y_aload_n C dX0_treaties_0 0 rfl rfl ?_
  refine y_callRiV (As := []) (rest := []) C cs_X0_128 (met_o_isDance G A S _ (h)) (fun _ h => h) (wC_0 ..) rfl rfl ⟨rfl, rfl, Nat.le_of_ble_eq_true rfl, Nat.le_of_ble_eq_true rfl⟩ rfl rfl (Nat.le_of_ble_eq_true rfl) dX0_treaties_1 ⟨Nat.zero_le _, Nat.zero_le _⟩ (fun r_1 h_2 => ?_)
  refine y_if_ne C (tgt := 10) dX0_treaties_4 rfl (fun c_4 => ?_) (fun c_4 => ?_)
  · have h_5 := (h_2).1 c_4
    refine y_iconst C dX0_treaties_10 ic_0 ?_
    refine y_istore_n C dX0_treaties_11 rfl (Nat.le_of_ble_eq_true rfl) [(1, .int (0)), (0, .ref (A 0))] rfl ?_
    refine y_iconst C dX0_treaties_12 ic_0 ?_
    refine y_istore_n C dX0_treaties_13 rfl (Nat.le_of_ble_eq_true rfl) [(2, .int (0)), (1, .int (0)), (0, .ref (A 0))] rfl ?_
    obtain ⟨n_6, h_7⟩ := h_5
    exact Y.sub (wk_o_treaties_b14 C N n_6 (0) (0) h_7) [2, 1, 0] rfl
  · have h_8 := (h_2).2 c_4
    refine y_bipush C dX0_treaties_7 bpm2 ?_
    exact y_iretR C N rfl (h_8) dX0_treaties_9
/-! OverHill leads(I)I: o_leads -/
abbrev rm_o_leads : Room := { frames := 3, cells := 0, slots := 0, locals := 86 }
def wp_o_leads_b64 (S : St) (Q : Int32 → Prop) (x1 : Int32) (K22 : Int32 → Int32 → Prop) (x2 : Int32) (x3 : Int32) (x4 : Int32) : Prop :=
  ((¬ x1 = 1 → K22 (x2) ((x3 + 1))) ∧ (x1 = 1 → ((0 ≤ x4 → K22 (x2) ((x3 + 1))) ∧ (¬ 0 ≤ x4 → K22 (x3) ((x3 + 1))))))
def wp_o_leads_b22 (S : St) (Q : Int32 → Prop) (x1 : Int32) : Nat → Int32 → Int32 → Prop
  | 0 => fun _ _ => False
  | n + 1 => fun x2 x3 => ((6 ≤ x3 → Q x2) ∧ (¬ 6 ≤ x3 → (vp_in x3 6 ∧ wp_ji_bitCount ((S.1 19 (x3).toNatClampNeg)) (fun r_18 => (vp_in x2 6 ∧ wp_ji_bitCount ((S.1 19 (x2).toNatClampNeg)) (fun r_21 => ((¬ x1 = 0 → wp_o_leads_b64 S Q (x1) (fun y2 y3 => wp_o_leads_b22 S Q x1 n y2 y3) (x2) (x3) ((r_18 - r_21))) ∧ (x1 = 0 → ((0 < (r_18 - r_21) → wp_o_leads_b22 S Q x1 n (x3) ((x3 + 1))) ∧ (¬ 0 < (r_18 - r_21) → wp_o_leads_b64 S Q (x1) (fun y2 y3 => wp_o_leads_b22 S Q x1 n y2 y3) (x2) (x3) ((r_18 - r_21))))))))))))
def wp_o_leads (S : St) (x1 : Int32) (Q : Int32 → Prop) : Prop :=
  wp_o_isDance S (fun r_1 => ((r_1 = 0 → Q (-2)) ∧ (¬ r_1 = 0 → wp_o_isOneOf (x1) (2) (fun r_7 => ((¬ r_7 = 0 → (∃ z, wp_o_leads_b22 S Q (x1) z (0) (1))) ∧ (r_7 = 0 → Q (-2)))))))
set_option maxRecDepth 100000 in
theorem wk_o_leads_b64 {G : Gx} {K : Kx} {A : Nat → Nat} (C : KOk G K RX0 cX0_leads rm_o_leads 5 (some .int)) {S : St} {Q : Int32 → Prop} (N : KRi K Q) (x1 : Int32) (K22 : Int32 → Int32 → Prop) (hK22 : ∀ (x2 : Int32) (x3 : Int32), K22 x2 x3 → Y G K 0 0 (wC G A S) 22 [(0, .ref (A 0)), (1, .int (x1)), (2, .int (x2)), (3, .int (x3))] []) (x2 : Int32) (x3 : Int32) (x4 : Int32) (h : wp_o_leads_b64 S Q x1 K22 x2 x3 x4) : Y G K 0 0 (wC G A S) 64 [(0, .ref (A 0)), (1, .int (x1)), (2, .int (x2)), (3, .int (x3)), (4, .int (x4))] [] := by
  refine y_iload_n C dX0_leads_64 1 rfl rfl ?_
  refine y_iconst C dX0_leads_65 ic_1 ?_
  refine y_icmp_ne C (tgt := 78) dX0_leads_66 rfl (fun c_30 => ?_) (fun c_30 => ?_)
  · have h_31 := (h).1 c_30
    refine y_iload_n C dX0_leads_78 2 rfl rfl ?_
    refine y_istore_n C dX0_leads_79 rfl (Nat.le_of_ble_eq_true rfl) [(2, .int (x2)), (0, .ref (A 0)), (1, .int (x1)), (3, .int (x3)), (4, .int (x4))] rfl ?_
    refine y_iinc C dX0_leads_80 3 rfl (Nat.le_of_ble_eq_true rfl) (ii_1 _) [(3, .int ((x3 + 1))), (2, .int (x2)), (0, .ref (A 0)), (1, .int (x1)), (4, .int (x4))] rfl ?_
    refine y_goto C (tgt := 22) dX0_leads_83 rfl ?_
    exact Y.sub (hK22 (x2) ((x3 + 1)) (h_31)) [2, 3, 1, 0] rfl
  · have h_32 := (h).2 c_30
    refine y_iload C dX0_leads_69 4 rfl ?_
    refine y_if_ge C (tgt := 78) dX0_leads_71 rfl (fun c_33 => ?_) (fun c_33 => ?_)
    · have h_34 := (h_32).1 c_33
      refine y_iload_n C dX0_leads_78 2 rfl rfl ?_
      refine y_istore_n C dX0_leads_79 rfl (Nat.le_of_ble_eq_true rfl) [(2, .int (x2)), (0, .ref (A 0)), (1, .int (x1)), (3, .int (x3)), (4, .int (x4))] rfl ?_
      refine y_iinc C dX0_leads_80 3 rfl (Nat.le_of_ble_eq_true rfl) (ii_1 _) [(3, .int ((x3 + 1))), (2, .int (x2)), (0, .ref (A 0)), (1, .int (x1)), (4, .int (x4))] rfl ?_
      refine y_goto C (tgt := 22) dX0_leads_83 rfl ?_
      exact Y.sub (hK22 (x2) ((x3 + 1)) (h_34)) [2, 3, 1, 0] rfl
    · have h_35 := (h_32).2 c_33
      refine y_iload_n C dX0_leads_74 3 rfl rfl ?_
      refine y_goto C (tgt := 79) dX0_leads_75 rfl ?_
      refine y_istore_n C dX0_leads_79 rfl (Nat.le_of_ble_eq_true rfl) [(2, .int (x3)), (0, .ref (A 0)), (1, .int (x1)), (3, .int (x3)), (4, .int (x4))] rfl ?_
      refine y_iinc C dX0_leads_80 3 rfl (Nat.le_of_ble_eq_true rfl) (ii_1 _) [(3, .int ((x3 + 1))), (2, .int (x3)), (0, .ref (A 0)), (1, .int (x1)), (4, .int (x4))] rfl ?_
      refine y_goto C (tgt := 22) dX0_leads_83 rfl ?_
      exact Y.sub (hK22 (x3) ((x3 + 1)) (h_35)) [2, 3, 1, 0] rfl
set_option maxRecDepth 100000 in
theorem wk_o_leads_b22 {G : Gx} {K : Kx} {A : Nat → Nat} (C : KOk G K RX0 cX0_leads rm_o_leads 5 (some .int)) {S : St} {Q : Int32 → Prop} (N : KRi K Q) (x1 : Int32) : ∀ (n : Nat), ∀ (x2 : Int32) (x3 : Int32), wp_o_leads_b22 S Q x1 n x2 x3 → Y G K 0 0 (wC G A S) 22 [(0, .ref (A 0)), (1, .int (x1)), (2, .int (x2)), (3, .int (x3))] [] := by
  intro n
  induction n with
  | zero => intro x2 x3 h; exact h.elim
  | succ n ih =>
    intro x2 x3 h
    dsimp only [wp_o_leads_b22] at h
    refine y_iload_n C dX0_leads_22 3 rfl rfl ?_
    refine y_bipush C dX0_leads_23 bp_6 ?_
    refine y_icmp_ge C (tgt := 86) dX0_leads_25 rfl (fun c_15 => ?_) (fun c_15 => ?_)
    · have h_16 := (h).1 c_15
      refine y_iload_n C dX0_leads_86 2 rfl rfl ?_
      exact y_iretR C N rfl (h_16) dX0_leads_87
    · have h_17 := (h).2 c_15
      refine y_aload_n C dX0_leads_28 0 rfl rfl ?_
      refine yg_X0_12_wC0 C dX0_leads_29 ?_
      refine yg_X0_163_wC15 C dX0_leads_32 ?_
      refine y_iload_n C dX0_leads_35 3 rfl rfl ?_
      refine y_iald C (wC_19 ..) rfl (h_17).1 dX0_leads_36 ?_
      refine y_callRiS (As := [.int ((S.1 19 (x3).toNatClampNeg))]) (rest := []) C cs_X0_379 (met_ji_bitCount G ((S.1 19 (x3).toNatClampNeg)) _ ((h_17).2)) (fun _ _ => pw_nil) ⟨rfl, rfl, Nat.le_of_ble_eq_true rfl, Nat.le_of_ble_eq_true rfl⟩ rfl rfl (Nat.le_of_ble_eq_true rfl) dX0_leads_37 ⟨Nat.zero_le _, Nat.zero_le _⟩ (fun r_18 h_19 => ?_)
      refine y_aload_n C dX0_leads_40 0 rfl rfl ?_
      refine yg_X0_12_wC0 C dX0_leads_41 ?_
      refine yg_X0_163_wC15 C dX0_leads_44 ?_
      refine y_iload_n C dX0_leads_47 2 rfl rfl ?_
      refine y_iald C (wC_19 ..) rfl (h_19).1 dX0_leads_48 ?_
      refine y_callRiS (As := [.int ((S.1 19 (x2).toNatClampNeg))]) (rest := [.int (r_18)]) C cs_X0_379 (met_ji_bitCount G ((S.1 19 (x2).toNatClampNeg)) _ ((h_19).2)) (fun _ _ => pw_nil) ⟨rfl, rfl, Nat.le_of_ble_eq_true rfl, Nat.le_of_ble_eq_true rfl⟩ rfl rfl (Nat.le_of_ble_eq_true rfl) dX0_leads_49 ⟨Nat.zero_le _, Nat.zero_le _⟩ (fun r_21 h_22 => ?_)
      refine y_isub C dX0_leads_52 ?_
      refine y_istore C dX0_leads_53 (Nat.le_of_ble_eq_true rfl) [(4, .int ((r_18 - r_21))), (0, .ref (A 0)), (1, .int (x1)), (2, .int (x2)), (3, .int (x3))] rfl ?_
      refine y_iload_n C dX0_leads_55 2 rfl rfl ?_
      refine y_if_ne C (tgt := 64) dX0_leads_56 rfl (fun c_24 => ?_) (fun c_24 => ?_)
      · have h_25 := (h_22).1 c_24
        exact Y.sub (wk_o_leads_b64 C N (x1) (fun y2 y3 => wp_o_leads_b22 S Q x1 n y2 y3) ih (x2) (x3) ((r_18 - r_21)) (h_25)) [1, 2, 3, 4, 0] rfl
      · have h_26 := (h_22).2 c_24
        refine y_iload C dX0_leads_59 0 rfl ?_
        refine y_if_gt C (tgt := 74) dX0_leads_61 rfl (fun c_27 => ?_) (fun c_27 => ?_)
        · have h_28 := (h_26).1 c_27
          refine y_iload_n C dX0_leads_74 4 rfl rfl ?_
          refine y_goto C (tgt := 79) dX0_leads_75 rfl ?_
          refine y_istore_n C dX0_leads_79 rfl (Nat.le_of_ble_eq_true rfl) [(2, .int (x3)), (4, .int ((r_18 - r_21))), (0, .ref (A 0)), (1, .int (x1)), (3, .int (x3))] rfl ?_
          refine y_iinc C dX0_leads_80 4 rfl (Nat.le_of_ble_eq_true rfl) (ii_1 _) [(3, .int ((x3 + 1))), (2, .int (x3)), (4, .int ((r_18 - r_21))), (0, .ref (A 0)), (1, .int (x1))] rfl ?_
          refine y_goto C (tgt := 22) dX0_leads_83 rfl ?_
          exact Y.sub (ih (x3) ((x3 + 1)) (h_28)) [3, 4, 1, 0] rfl
        · have h_29 := (h_26).2 c_27
          exact Y.sub (wk_o_leads_b64 C N (x1) (fun y2 y3 => wp_o_leads_b22 S Q x1 n y2 y3) ih (x2) (x3) ((r_18 - r_21)) (h_29)) [1, 2, 3, 4, 0] rfl
set_option maxRecDepth 100000 in
theorem met_o_leads (G : Gx) (A : Nat → Nat) (S : St) (x1 : Int32) (Q : Int32 → Prop) (h : wp_o_leads S x1 Q) : Ri G yX0_leads (ws_ yX0_leads cX0_leads 5 (some .int)) rm_o_leads (wC G A S) [.ref (A 0), .int (x1)] Q := by
  refine ent_Ri (by decide +kernel) rfl (Nat.le_of_ble_eq_true rfl) [(0, .ref (A 0)), (1, .int (x1))] rfl (fun K C N => ?_)
  refine y_aload_n C dX0_leads_0 0 rfl rfl ?_
  refine y_callRiV (As := []) (rest := []) C cs_X0_128 (met_o_isDance G A S _ (h)) (fun _ h => h) (wC_0 ..) rfl rfl ⟨rfl, rfl, Nat.le_of_ble_eq_true rfl, Nat.le_of_ble_eq_true rfl⟩ rfl rfl (Nat.le_of_ble_eq_true rfl) dX0_leads_1 ⟨Nat.zero_le _, Nat.zero_le _⟩ (fun r_1 h_2 => ?_)
  refine y_if_eq C (tgt := 15) dX0_leads_4 rfl (fun c_4 => ?_) (fun c_4 => ?_)
  · have h_5 := (h_2).1 c_4
    refine y_bipush C dX0_leads_15 bpm2 ?_
    exact y_iretR C N rfl (h_5) dX0_leads_17
  · have h_6 := (h_2).2 c_4
    refine y_iload_n C dX0_leads_7 1 rfl rfl ?_
    refine y_iconst C dX0_leads_8 ic_2 ?_
    refine y_callRiS (As := [.int (x1), .int (2)]) (rest := []) C cs_X0_132 (met_o_isOneOf G (x1) (2) _ (h_6)) (fun _ _ => pw_nil) ⟨rfl, rfl, Nat.le_of_ble_eq_true rfl, Nat.le_of_ble_eq_true rfl⟩ rfl rfl (Nat.le_of_ble_eq_true rfl) dX0_leads_9 ⟨Nat.zero_le _, Nat.zero_le _⟩ (fun r_7 h_8 => ?_)
    refine y_if_ne C (tgt := 18) dX0_leads_12 rfl (fun c_10 => ?_) (fun c_10 => ?_)
    · have h_11 := (h_8).1 c_10
      refine y_iconst C dX0_leads_18 ic_0 ?_
      refine y_istore_n C dX0_leads_19 rfl (Nat.le_of_ble_eq_true rfl) [(2, .int (0)), (0, .ref (A 0)), (1, .int (x1))] rfl ?_
      refine y_iconst C dX0_leads_20 ic_1 ?_
      refine y_istore_n C dX0_leads_21 rfl (Nat.le_of_ble_eq_true rfl) [(3, .int (1)), (2, .int (0)), (0, .ref (A 0)), (1, .int (x1))] rfl ?_
      obtain ⟨n_12, h_13⟩ := h_11
      exact Y.sub (wk_o_leads_b22 C N (x1) n_12 (0) (1) h_13) [2, 3, 1, 0] rfl
    · have h_14 := (h_8).2 c_10
      refine y_bipush C dX0_leads_15 bpm2 ?_
      exact y_iretR C N rfl (h_14) dX0_leads_17
/-! OverHill winnerFrom(I)I: o_winnerFrom -/
abbrev rm_o_winnerFrom : Room := { frames := 80, cells := 0, slots := 0, locals := 4000 }
def wp_o_winnerFrom_b2 (Q : Int32 → St → Prop) (x1 : Int32) : Nat → St → Int32 → Prop
  | 0 => fun _ _ => False
  | n + 1 => fun S x2 => ((4374 ≤ x2 → (vp_in x1 6 ∧ wp_o_winner (wp_o_isWon 20) S ((S.1 13 (x1).toNatClampNeg)) (x1) (fun r_5 S_7 => Q r_5 S_7))) ∧ (¬ 4374 ≤ x2 → (vp_in x2 4374 ∧ wp_o_winnerFrom_b2 Q x1 n (sI S 12 (x2).toNatClampNeg (vp_nar .byte 0)) ((x2 + 1)))))
def wp_o_winnerFrom (S : St) (x1 : Int32) (Q : Int32 → St → Prop) : Prop :=
  (∃ z, wp_o_winnerFrom_b2 Q (x1) z S (0))
set_option maxRecDepth 100000 in
theorem wk_o_winnerFrom_b2 {G : Gx} {K : Kx} {A : Nat → Nat} (C : KOk G K RX0 cX0_winnerFrom rm_o_winnerFrom 3 (some .int)) {B : Nat → Prop} (M : KM G K B) {Q : Int32 → St → Prop} (N : KQi G K B (wC G A) Q) (x1 : Int32) : ∀ (n : Nat), ∀ (S : St) (x2 : Int32), wp_o_winnerFrom_b2 Q x1 n S x2 → Y G K 0 0 (wC G A S) 2 [(0, .ref (A 0)), (1, .int (x1)), (2, .int (x2))] [] := by
  intro n
  induction n with
  | zero => intro S x2 h; exact h.elim
  | succ n ih =>
    intro S x2 h
    dsimp only [wp_o_winnerFrom_b2] at h
    refine y_iload_n C dX0_winnerFrom_2 2 rfl rfl ?_
    refine y_aload_n C dX0_winnerFrom_3 0 rfl rfl ?_
    refine yg_X0_73_wC0 C dX0_winnerFrom_4 ?_
    refine y_alen C 1 (wC_12 ..) rfl al_4374 dX0_winnerFrom_7 ?_
    refine y_icmp_ge C (tgt := 24) dX0_winnerFrom_8 rfl (fun c_3 => ?_) (fun c_3 => ?_)
    · have h_4 := (h).1 c_3
      refine y_aload_n C dX0_winnerFrom_24 0 rfl rfl ?_
      refine y_aload_n C dX0_winnerFrom_25 0 rfl rfl ?_
      refine yg_X0_76_wC0 C dX0_winnerFrom_26 ?_
      refine y_iload_n C dX0_winnerFrom_29 1 rfl rfl ?_
      refine y_iald C (wC_13 ..) rfl (h_4).1 dX0_winnerFrom_30 ?_
      refine y_iload_n C dX0_winnerFrom_31 1 rfl rfl ?_
      refine y_callMiV (k' := 0) (n' := 0) (As := [.int ((S.1 13 (x1).toNatClampNeg)), .int (x1)]) (rest := []) C M cs_X0_387 (met_o_winner G A (d := 20) (met_o_isWon G 20 A) S ((S.1 13 (x1).toNatClampNeg)) (x1) _ ((h_4).2)) (wC_0 ..) rfl rfl ⟨rfl, rfl, Nat.le_of_ble_eq_true rfl, Nat.le_of_ble_eq_true rfl⟩ rfl rfl (Nat.le_of_ble_eq_true rfl) dX0_winnerFrom_32 ⟨Nat.zero_le _, Nat.zero_le _⟩ rfl rfl (fun r_5 S_7 h_6 => ?_)
      exact y_iretM C M N rfl (S := S_7) rfl (h_6) dX0_winnerFrom_35
    · have h_8 := (h).2 c_3
      refine y_aload_n C dX0_winnerFrom_11 0 rfl rfl ?_
      refine yg_X0_73_wC0 C dX0_winnerFrom_12 ?_
      refine y_iload_n C dX0_winnerFrom_15 2 rfl rfl ?_
      refine y_iconst C dX0_winnerFrom_16 ic_0 ?_
      refine y_bast C M (wC_12 ..) rfl (wC_s12 ..) (h_8).1 dX0_winnerFrom_17 ?_
      refine y_iinc C dX0_winnerFrom_18 2 rfl (Nat.le_of_ble_eq_true rfl) (ii_1 _) [(2, .int ((x2 + 1))), (0, .ref (A 0)), (1, .int (x1))] rfl ?_
      refine y_goto C (tgt := 2) dX0_winnerFrom_21 rfl ?_
      exact Y.sub (ih (sI S 12 (x2).toNatClampNeg (vp_nar .byte 0)) ((x2 + 1)) ((h_8).2)) [1, 2, 0] rfl
set_option maxRecDepth 100000 in
theorem met_o_winnerFrom (G : Gx) (A : Nat → Nat) (S : St) (x1 : Int32) (Q : Int32 → St → Prop) (h : wp_o_winnerFrom S x1 Q) : Mi G yX0_winnerFrom (ws_ yX0_winnerFrom cX0_winnerFrom 3 (some .int)) rm_o_winnerFrom (wC G A S) [.ref (A 0), .int (x1)] (wC G A) Q := by
  refine ent_Mi (by decide +kernel) rfl (Nat.le_of_ble_eq_true rfl) [(0, .ref (A 0)), (1, .int (x1))] rfl (fun K B C M N => ?_)
  refine y_iconst C dX0_winnerFrom_0 ic_0 ?_
  refine y_istore_n C dX0_winnerFrom_1 rfl (Nat.le_of_ble_eq_true rfl) [(2, .int (0)), (0, .ref (A 0)), (1, .int (x1))] rfl ?_
  obtain ⟨n_1, h_2⟩ := h
  exact Y.sub (wk_o_winnerFrom_b2 C M N (x1) n_1 S (0) h_2) [1, 2, 0] rfl
/-! OverHill game(I)I: o_game -/
abbrev rm_o_game : Room := { frames := 81, cells := 0, slots := 0, locals := 4022 }
def wp_o_game (S : St) (x1 : Int32) (Q : Int32 → St → Prop) : Prop :=
  wp_o_isStep S ((x1).toInt64) (fun r_1 => ((r_1 = 0 → Q (-2) S) ∧ (¬ r_1 = 0 → wp_o_winnerFrom S (x1) (fun r_7 S_9 => ((¬ r_7 = (-1) → Q 1 S_9) ∧ (r_7 = (-1) → Q 0 S_9))))))
set_option maxRecDepth 100000 in
theorem met_o_game (G : Gx) (A : Nat → Nat) (S : St) (x1 : Int32) (Q : Int32 → St → Prop) (h : wp_o_game S x1 Q) : Mi G yX0_game (ws_ yX0_game cX0_game 2 (some .int)) rm_o_game (wC G A S) [.ref (A 0), .int (x1)] (wC G A) Q := by
  refine ent_Mi (by decide +kernel) rfl (Nat.le_of_ble_eq_true rfl) [(0, .ref (A 0)), (1, .int (x1))] rfl (fun K B C M N => ?_)
  refine y_aload_n C dX0_game_0 0 rfl rfl ?_
  refine y_iload_n C dX0_game_1 1 rfl rfl ?_
  refine y_i2l C dX0_game_2 rfl ?_
  refine y_callRiV (As := [.long ((x1).toInt64)]) (rest := []) C cs_X0_159 (met_o_isStep G A S ((x1).toInt64) _ (h)) (fun _ h => h) (wC_0 ..) rfl rfl ⟨rfl, rfl, Nat.le_of_ble_eq_true rfl, Nat.le_of_ble_eq_true rfl⟩ rfl rfl (Nat.le_of_ble_eq_true rfl) dX0_game_3 ⟨Nat.zero_le _, Nat.zero_le _⟩ (fun r_1 h_2 => ?_)
  refine y_if_eq C (tgt := 26) dX0_game_6 rfl (fun c_4 => ?_) (fun c_4 => ?_)
  · have h_5 := (h_2).1 c_4
    refine y_bipush C dX0_game_26 bpm2 ?_
    exact y_iretM C M N rfl (S := S) rfl (h_5) dX0_game_28
  · have h_6 := (h_2).2 c_4
    refine y_aload_n C dX0_game_9 0 rfl rfl ?_
    refine y_iload_n C dX0_game_10 1 rfl rfl ?_
    refine y_callMiV (k' := 0) (n' := 0) (As := [.int (x1)]) (rest := []) C M cs_X0_393 (met_o_winnerFrom G A S (x1) _ (h_6)) (wC_0 ..) rfl rfl ⟨rfl, rfl, Nat.le_of_ble_eq_true rfl, Nat.le_of_ble_eq_true rfl⟩ rfl rfl (Nat.le_of_ble_eq_true rfl) dX0_game_11 ⟨Nat.zero_le _, Nat.zero_le _⟩ rfl rfl (fun r_7 S_9 h_8 => ?_)
    refine y_iconst C dX0_game_14 icm1 ?_
    refine y_icmp_ne C (tgt := 22) dX0_game_15 rfl (fun c_10 => ?_) (fun c_10 => ?_)
    · have h_11 := (h_8).1 c_10
      refine y_iconst C dX0_game_22 ic_1 ?_
      refine y_goto C (tgt := 28) dX0_game_23 rfl ?_
      exact y_iretM C M N rfl (S := S_9) rfl (h_11) dX0_game_28
    · have h_12 := (h_8).2 c_10
      refine y_iconst C dX0_game_18 ic_0 ?_
      refine y_goto C (tgt := 28) dX0_game_19 rfl ?_
      exact y_iretM C M N rfl (S := S_9) rfl (h_12) dX0_game_28
/-! OverHill plays(I)I: o_plays -/
abbrev rm_o_plays : Room := { frames := 81, cells := 0, slots := 0, locals := 4022 }
def wp_o_plays (S : St) (x1 : Int32) (Q : Int32 → St → Prop) : Prop :=
  wp_o_isStep S ((x1).toInt64) (fun r_1 => ((r_1 = 0 → Q (-2) S) ∧ (¬ r_1 = 0 → wp_o_winnerFrom S (x1) (fun r_7 S_9 => Q r_7 S_9))))
set_option maxRecDepth 100000 in
theorem met_o_plays (G : Gx) (A : Nat → Nat) (S : St) (x1 : Int32) (Q : Int32 → St → Prop) (h : wp_o_plays S x1 Q) : Mi G yX0_plays (ws_ yX0_plays cX0_plays 2 (some .int)) rm_o_plays (wC G A S) [.ref (A 0), .int (x1)] (wC G A) Q := by
  refine ent_Mi (by decide +kernel) rfl (Nat.le_of_ble_eq_true rfl) [(0, .ref (A 0)), (1, .int (x1))] rfl (fun K B C M N => ?_)
  refine y_aload_n C dX0_plays_0 0 rfl rfl ?_
  refine y_iload_n C dX0_plays_1 1 rfl rfl ?_
  refine y_i2l C dX0_plays_2 rfl ?_
  refine y_callRiV (As := [.long ((x1).toInt64)]) (rest := []) C cs_X0_159 (met_o_isStep G A S ((x1).toInt64) _ (h)) (fun _ h => h) (wC_0 ..) rfl rfl ⟨rfl, rfl, Nat.le_of_ble_eq_true rfl, Nat.le_of_ble_eq_true rfl⟩ rfl rfl (Nat.le_of_ble_eq_true rfl) dX0_plays_3 ⟨Nat.zero_le _, Nat.zero_le _⟩ (fun r_1 h_2 => ?_)
  refine y_if_eq C (tgt := 17) dX0_plays_6 rfl (fun c_4 => ?_) (fun c_4 => ?_)
  · have h_5 := (h_2).1 c_4
    refine y_bipush C dX0_plays_17 bpm2 ?_
    exact y_iretM C M N rfl (S := S) rfl (h_5) dX0_plays_19
  · have h_6 := (h_2).2 c_4
    refine y_aload_n C dX0_plays_9 0 rfl rfl ?_
    refine y_iload_n C dX0_plays_10 1 rfl rfl ?_
    refine y_callMiV (k' := 0) (n' := 0) (As := [.int (x1)]) (rest := []) C M cs_X0_393 (met_o_winnerFrom G A S (x1) _ (h_6)) (wC_0 ..) rfl rfl ⟨rfl, rfl, Nat.le_of_ble_eq_true rfl, Nat.le_of_ble_eq_true rfl⟩ rfl rfl (Nat.le_of_ble_eq_true rfl) dX0_plays_11 ⟨Nat.zero_le _, Nat.zero_le _⟩ rfl rfl (fun r_7 S_9 h_8 => ?_)
    refine y_goto C (tgt := 19) dX0_plays_14 rfl ?_
    exact y_iretM C M N rfl (S := S_9) rfl (h_8) dX0_plays_19
/-! OverHill choose(II)J: o_choose -/
abbrev rm_o_choose : Room := { frames := 1, cells := 0, slots := 0, locals := 40 }
def wp_o_choose_b5 (Q : Int64 → Prop) (x0 : Int32) (x1 : Int32) : Nat → Int64 → Int32 → Prop
  | 0 => fun _ _ => False
  | n + 1 => fun x2 x4 => ((x1 ≤ x4 → Q x2) ∧ (¬ x1 ≤ x4 → (¬ ((x4 + 1)).toInt64 = 0 ∧ wp_o_choose_b5 Q x0 x1 n (((x2 * ((x0 - x4)).toInt64) / ((x4 + 1)).toInt64)) ((x4 + 1)))))
def wp_o_choose (x0 : Int32) (x1 : Int32) (Q : Int64 → Prop) : Prop :=
  (∃ z, wp_o_choose_b5 Q (x0) (x1) z (1) (0))
set_option maxRecDepth 100000 in
theorem wk_o_choose_b5 {G : Gx} {K : Kx} (C : KOk G K RX0 cX0_choose rm_o_choose 5 (some .long)) {Q : Int64 → Prop} (N : KRl K Q) (x0 : Int32) (x1 : Int32) : ∀ (n : Nat), ∀ (x2 : Int64) (x4 : Int32), wp_o_choose_b5 Q x0 x1 n x2 x4 → Y G K 0 0 [] 5 [(0, .int (x0)), (1, .int (x1)), (2, .long (x2)), (4, .int (x4))] [] := by
  intro n
  induction n with
  | zero => intro x2 x4 h; exact h.elim
  | succ n ih =>
    intro x2 x4 h
    dsimp only [wp_o_choose_b5] at h
    refine y_iload C dX0_choose_5 3 rfl ?_
    refine y_iload_n C dX0_choose_7 1 rfl rfl ?_
    refine y_icmp_ge C (tgt := 31) dX0_choose_8 rfl (fun c_3 => ?_) (fun c_3 => ?_)
    · have h_4 := (h).1 c_3
      refine y_lload_n C dX0_choose_31 2 rfl rfl ?_
      exact y_lretR C N rfl (h_4) dX0_choose_32
    · have h_5 := (h).2 c_3
      refine y_lload_n C dX0_choose_11 2 rfl rfl ?_
      refine y_iload_n C dX0_choose_12 0 rfl rfl ?_
      refine y_iload C dX0_choose_13 3 rfl ?_
      refine y_isub C dX0_choose_15 ?_
      refine y_i2l C dX0_choose_16 rfl ?_
      refine y_lmul C dX0_choose_17 ?_
      refine y_iload C dX0_choose_18 3 rfl ?_
      refine y_iconst C dX0_choose_20 ic_1 ?_
      refine y_iadd C dX0_choose_21 ?_
      refine y_i2l C dX0_choose_22 rfl ?_
      refine y_ldiv C dX0_choose_23 (h_5).1 ?_
      refine y_lstore_n C dX0_choose_24 rfl (Nat.le_of_ble_eq_true rfl) [(2, .long (((x2 * ((x0 - x4)).toInt64) / ((x4 + 1)).toInt64))), (0, .int (x0)), (1, .int (x1)), (4, .int (x4))] rfl ?_
      refine y_iinc C dX0_choose_25 3 rfl (Nat.le_of_ble_eq_true rfl) (ii_1 _) [(4, .int ((x4 + 1))), (2, .long (((x2 * ((x0 - x4)).toInt64) / ((x4 + 1)).toInt64))), (0, .int (x0)), (1, .int (x1))] rfl ?_
      refine y_goto C (tgt := 5) dX0_choose_28 rfl ?_
      exact Y.sub (ih (((x2 * ((x0 - x4)).toInt64) / ((x4 + 1)).toInt64)) ((x4 + 1)) ((h_5).2)) [2, 3, 1, 0] rfl
set_option maxRecDepth 100000 in
theorem met_o_choose (G : Gx) (x0 : Int32) (x1 : Int32) (Q : Int64 → Prop) (h : wp_o_choose x0 x1 Q) : Rl G yX0_choose (ws_ yX0_choose cX0_choose 5 (some .long)) rm_o_choose [] [.int (x0), .int (x1)] Q := by
  refine ent_Rl (by decide +kernel) rfl (Nat.le_of_ble_eq_true rfl) [(0, .int (x0)), (1, .int (x1))] rfl (fun K C N => ?_)
  refine y_lconst C dX0_choose_0 lc_1 ?_
  refine y_lstore_n C dX0_choose_1 rfl (Nat.le_of_ble_eq_true rfl) [(2, .long (1)), (0, .int (x0)), (1, .int (x1))] rfl ?_
  refine y_iconst C dX0_choose_2 ic_0 ?_
  refine y_istore C dX0_choose_3 (Nat.le_of_ble_eq_true rfl) [(4, .int (0)), (2, .long (1)), (0, .int (x0)), (1, .int (x1))] rfl ?_
  obtain ⟨n_1, h_2⟩ := h
  exact Y.sub (wk_o_choose_b5 C N (x0) (x1) n_1 (1) (0) h_2) [2, 3, 1, 0] rfl
/-! OverHill power(JI)J: o_power -/
abbrev rm_o_power : Room := { frames := 1, cells := 0, slots := 0, locals := 40 }
def wp_o_power_b5 (Q : Int64 → Prop) (x0 : Int64) (x2 : Int32) : Nat → Int64 → Int32 → Prop
  | 0 => fun _ _ => False
  | n + 1 => fun x3 x5 => ((x2 ≤ x5 → Q x3) ∧ (¬ x2 ≤ x5 → wp_o_power_b5 Q x0 x2 n ((x3 * x0)) ((x5 + 1))))
def wp_o_power (x0 : Int64) (x2 : Int32) (Q : Int64 → Prop) : Prop :=
  (∃ z, wp_o_power_b5 Q (x0) (x2) z (1) (0))
set_option maxRecDepth 100000 in
theorem wk_o_power_b5 {G : Gx} {K : Kx} (C : KOk G K RX0 cX0_power rm_o_power 6 (some .long)) {Q : Int64 → Prop} (N : KRl K Q) (x0 : Int64) (x2 : Int32) : ∀ (n : Nat), ∀ (x3 : Int64) (x5 : Int32), wp_o_power_b5 Q x0 x2 n x3 x5 → Y G K 0 0 [] 5 [(0, .long (x0)), (2, .int (x2)), (3, .long (x3)), (5, .int (x5))] [] := by
  intro n
  induction n with
  | zero => intro x3 x5 h; exact h.elim
  | succ n ih =>
    intro x3 x5 h
    dsimp only [wp_o_power_b5] at h
    refine y_iload C dX0_power_5 3 rfl ?_
    refine y_iload_n C dX0_power_7 1 rfl rfl ?_
    refine y_icmp_ge C (tgt := 21) dX0_power_8 rfl (fun c_3 => ?_) (fun c_3 => ?_)
    · have h_4 := (h).1 c_3
      refine y_lload_n C dX0_power_21 2 rfl rfl ?_
      exact y_lretR C N rfl (h_4) dX0_power_22
    · have h_5 := (h).2 c_3
      refine y_lload_n C dX0_power_11 2 rfl rfl ?_
      refine y_lload_n C dX0_power_12 0 rfl rfl ?_
      refine y_lmul C dX0_power_13 ?_
      refine y_lstore_n C dX0_power_14 rfl (Nat.le_of_ble_eq_true rfl) [(3, .long ((x3 * x0))), (0, .long (x0)), (2, .int (x2)), (5, .int (x5))] rfl ?_
      refine y_iinc C dX0_power_15 3 rfl (Nat.le_of_ble_eq_true rfl) (ii_1 _) [(5, .int ((x5 + 1))), (3, .long ((x3 * x0))), (0, .long (x0)), (2, .int (x2))] rfl ?_
      refine y_goto C (tgt := 5) dX0_power_18 rfl ?_
      exact Y.sub (ih ((x3 * x0)) ((x5 + 1)) (h_5)) [2, 3, 1, 0] rfl
set_option maxRecDepth 100000 in
theorem met_o_power (G : Gx) (x0 : Int64) (x2 : Int32) (Q : Int64 → Prop) (h : wp_o_power x0 x2 Q) : Rl G yX0_power (ws_ yX0_power cX0_power 6 (some .long)) rm_o_power [] [.long (x0), .int (x2)] Q := by
  refine ent_Rl (by decide +kernel) rfl (Nat.le_of_ble_eq_true rfl) [(0, .long (x0)), (2, .int (x2))] rfl (fun K C N => ?_)
  refine y_lconst C dX0_power_0 lc_1 ?_
  refine y_lstore_n C dX0_power_1 rfl (Nat.le_of_ble_eq_true rfl) [(3, .long (1)), (0, .long (x0)), (2, .int (x2))] rfl ?_
  refine y_iconst C dX0_power_2 ic_0 ?_
  refine y_istore C dX0_power_3 (Nat.le_of_ble_eq_true rfl) [(5, .int (0)), (3, .long (1)), (0, .long (x0)), (2, .int (x2))] rfl ?_
  obtain ⟨n_1, h_2⟩ := h
  exact Y.sub (wk_o_power_b5 C N (x0) (x2) n_1 (1) (0) h_2) [2, 3, 1, 0] rfl
/-! OverHill part(JJI)J: o_part -/
abbrev rm_o_part : Room := { frames := 1, cells := 0, slots := 0, locals := 40 }
def wp_o_part_b6 (Q : Int64 → Prop) (x0 : Int64) (x2 : Int64) (x4 : Int32) : Nat → Int64 → Int64 → Prop
  | 0 => fun _ _ => False
  | n + 1 => fun x5 x7 => (((lg_cmp x7 0) = 0 → ((¬ x4 = 0 → (¬ x5 = 0 ∧ Q (x2 / x5))) ∧ (x4 = 0 → (¬ x5 = 0 ∧ Q (x0 / x5))))) ∧ (¬ (lg_cmp x7 0) = 0 → (¬ x7 = 0 ∧ wp_o_part_b6 Q x0 x2 x4 n (x7) ((lrm x5 x7)))))
def wp_o_part (x0 : Int64) (x2 : Int64) (x4 : Int32) (Q : Int64 → Prop) : Prop :=
  (∃ z, wp_o_part_b6 Q (x0) (x2) (x4) z (x0) (x2))
set_option maxRecDepth 100000 in
theorem wk_o_part_b6 {G : Gx} {K : Kx} (C : KOk G K RX0 cX0_part rm_o_part 11 (some .long)) {Q : Int64 → Prop} (N : KRl K Q) (x0 : Int64) (x2 : Int64) (x4 : Int32) : ∀ (n : Nat), ∀ (x5 : Int64) (x7 : Int64), wp_o_part_b6 Q x0 x2 x4 n x5 x7 → Y G K 0 0 [] 6 [(0, .long (x0)), (2, .long (x2)), (4, .int (x4)), (5, .long (x5)), (7, .long (x7))] [] := by
  intro n
  induction n with
  | zero => intro x5 x7 h; exact h.elim
  | succ n ih =>
    intro x5 x7 h
    dsimp only [wp_o_part_b6] at h
    refine y_lload C dX0_part_6 4 rfl ?_
    refine y_lconst C dX0_part_8 lc_0 ?_
    refine y_lcmp C dX0_part_9 ?_
    refine y_if_eq C (tgt := 31) dX0_part_10 rfl (fun c_3 => ?_) (fun c_3 => ?_)
    · have h_4 := (h).1 c_3
      refine y_iload C dX0_part_31 2 rfl ?_
      refine y_if_ne C (tgt := 40) dX0_part_33 rfl (fun c_5 => ?_) (fun c_5 => ?_)
      · have h_6 := (h_4).1 c_5
        refine y_lload_n C dX0_part_40 1 rfl rfl ?_
        refine y_lload C dX0_part_41 3 rfl ?_
        refine y_ldiv C dX0_part_43 (h_6).1 ?_
        exact y_lretR C N rfl ((h_6).2) dX0_part_44
      · have h_7 := (h_4).2 c_5
        refine y_lload_n C dX0_part_36 0 rfl rfl ?_
        refine y_goto C (tgt := 41) dX0_part_37 rfl ?_
        refine y_lload C dX0_part_41 3 rfl ?_
        refine y_ldiv C dX0_part_43 (h_7).1 ?_
        exact y_lretR C N rfl ((h_7).2) dX0_part_44
    · have h_8 := (h).2 c_3
      refine y_lload C dX0_part_13 3 rfl ?_
      refine y_lload C dX0_part_15 4 rfl ?_
      refine y_lrem C dX0_part_17 (h_8).1 ?_
      refine y_lstore C dX0_part_18 (Nat.le_of_ble_eq_true rfl) [(9, .long ((lrm x5 x7))), (0, .long (x0)), (2, .long (x2)), (4, .int (x4)), (5, .long (x5)), (7, .long (x7))] rfl ?_
      refine y_lload C dX0_part_20 5 rfl ?_
      refine y_lstore C dX0_part_22 (Nat.le_of_ble_eq_true rfl) [(5, .long (x7)), (9, .long ((lrm x5 x7))), (0, .long (x0)), (2, .long (x2)), (4, .int (x4)), (7, .long (x7))] rfl ?_
      refine y_lload C dX0_part_24 1 rfl ?_
      refine y_lstore C dX0_part_26 (Nat.le_of_ble_eq_true rfl) [(7, .long ((lrm x5 x7))), (5, .long (x7)), (9, .long ((lrm x5 x7))), (0, .long (x0)), (2, .long (x2)), (4, .int (x4))] rfl ?_
      refine y_goto C (tgt := 6) dX0_part_28 rfl ?_
      exact Y.sub (ih (x7) ((lrm x5 x7)) ((h_8).2)) [3, 4, 5, 1, 0] rfl
set_option maxRecDepth 100000 in
theorem met_o_part (G : Gx) (x0 : Int64) (x2 : Int64) (x4 : Int32) (Q : Int64 → Prop) (h : wp_o_part x0 x2 x4 Q) : Rl G yX0_part (ws_ yX0_part cX0_part 11 (some .long)) rm_o_part [] [.long (x0), .long (x2), .int (x4)] Q := by
  refine ent_Rl (by decide +kernel) rfl (Nat.le_of_ble_eq_true rfl) [(0, .long (x0)), (2, .long (x2)), (4, .int (x4))] rfl (fun K C N => ?_)
  refine y_lload_n C dX0_part_0 0 rfl rfl ?_
  refine y_lstore C dX0_part_1 (Nat.le_of_ble_eq_true rfl) [(5, .long (x0)), (0, .long (x0)), (2, .long (x2)), (4, .int (x4))] rfl ?_
  refine y_lload_n C dX0_part_3 2 rfl rfl ?_
  refine y_lstore C dX0_part_4 (Nat.le_of_ble_eq_true rfl) [(7, .long (x2)), (5, .long (x0)), (0, .long (x0)), (2, .long (x2)), (4, .int (x4))] rfl ?_
  obtain ⟨n_1, h_2⟩ := h
  exact Y.sub (wk_o_part_b6 C N (x0) (x2) (x4) n_1 (x0) (x2) h_2) [2, 3, 4, 1, 0] rfl
/-! OverHill wetOf(III)J: o_wetOf -/
abbrev rm_o_wetOf : Room := { frames := 2, cells := 0, slots := 0, locals := 70 }
def wp_o_wetOf (S : St) (x1 : Int32) (x2 : Int32) (x3 : Int32) (Q : Int64 → Prop) : Prop :=
  wp_o_choose (x1) (x2) (fun r_1 => wp_o_power (((S.1 15 2)).toInt64) (x2) (fun r_4 => wp_o_power ((100 - ((S.1 15 2)).toInt64)) ((x1 - x2)) (fun r_7 => wp_o_power (100) (x1) (fun r_10 => wp_o_part (((r_1 * r_4) * r_7)) (r_10) (x3) (fun r_13 => Q r_13)))))
set_option maxRecDepth 100000 in
theorem met_o_wetOf (G : Gx) (A : Nat → Nat) (S : St) (x1 : Int32) (x2 : Int32) (x3 : Int32) (Q : Int64 → Prop) (h : wp_o_wetOf S x1 x2 x3 Q) : Rl G yX0_wetOf (ws_ yX0_wetOf cX0_wetOf 4 (some .long)) rm_o_wetOf (wC G A S) [.ref (A 0), .int (x1), .int (x2), .int (x3)] Q := by
  refine ent_Rl (by decide +kernel) rfl (Nat.le_of_ble_eq_true rfl) [(0, .ref (A 0)), (1, .int (x1)), (2, .int (x2)), (3, .int (x3))] rfl (fun K C N => ?_)
  refine y_iload_n C dX0_wetOf_0 1 rfl rfl ?_
  refine y_iload_n C dX0_wetOf_1 2 rfl rfl ?_
  refine y_callRlS (As := [.int (x1), .int (x2)]) (rest := []) C cs_X0_396 (met_o_choose G (x1) (x2) _ (h)) (fun _ _ => pw_nil) ⟨rfl, rfl, Nat.le_of_ble_eq_true rfl, Nat.le_of_ble_eq_true rfl⟩ rfl rfl (Nat.le_of_ble_eq_true rfl) dX0_wetOf_2 ⟨Nat.zero_le _, Nat.zero_le _⟩ (fun r_1 h_2 => ?_)
  refine y_aload_n C dX0_wetOf_5 0 rfl rfl ?_
  refine yg_X0_12_wC0 C dX0_wetOf_6 ?_
  refine yg_X0_399_wC15 C dX0_wetOf_9 ?_
  refine y_i2l C dX0_wetOf_12 rfl ?_
  refine y_iload_n C dX0_wetOf_13 2 rfl rfl ?_
  refine y_callRlS (As := [.long (((S.1 15 2)).toInt64), .int (x2)]) (rest := [.long (r_1)]) C cs_X0_402 (met_o_power G (((S.1 15 2)).toInt64) (x2) _ (h_2)) (fun _ _ => pw_nil) ⟨rfl, rfl, Nat.le_of_ble_eq_true rfl, Nat.le_of_ble_eq_true rfl⟩ rfl rfl (Nat.le_of_ble_eq_true rfl) dX0_wetOf_14 ⟨Nat.zero_le _, Nat.zero_le _⟩ (fun r_4 h_5 => ?_)
  refine y_lmul C dX0_wetOf_17 ?_
  refine y_ldc2 C dX0_wetOf_18 q1310 ?_
  refine y_aload_n C dX0_wetOf_21 0 rfl rfl ?_
  refine yg_X0_12_wC0 C dX0_wetOf_22 ?_
  refine yg_X0_399_wC15 C dX0_wetOf_25 ?_
  refine y_i2l C dX0_wetOf_28 rfl ?_
  refine y_lsub C dX0_wetOf_29 ?_
  refine y_iload_n C dX0_wetOf_30 1 rfl rfl ?_
  refine y_iload_n C dX0_wetOf_31 2 rfl rfl ?_
  refine y_isub C dX0_wetOf_32 ?_
  refine y_callRlS (As := [.long ((100 - ((S.1 15 2)).toInt64)), .int ((x1 - x2))]) (rest := [.long ((r_1 * r_4))]) C cs_X0_402 (met_o_power G ((100 - ((S.1 15 2)).toInt64)) ((x1 - x2)) _ (h_5)) (fun _ _ => pw_nil) ⟨rfl, rfl, Nat.le_of_ble_eq_true rfl, Nat.le_of_ble_eq_true rfl⟩ rfl rfl (Nat.le_of_ble_eq_true rfl) dX0_wetOf_33 ⟨Nat.zero_le _, Nat.zero_le _⟩ (fun r_7 h_8 => ?_)
  refine y_lmul C dX0_wetOf_36 ?_
  refine y_ldc2 C dX0_wetOf_37 q1310 ?_
  refine y_iload_n C dX0_wetOf_40 1 rfl rfl ?_
  refine y_callRlS (As := [.long (100), .int (x1)]) (rest := [.long (((r_1 * r_4) * r_7))]) C cs_X0_402 (met_o_power G (100) (x1) _ (h_8)) (fun _ _ => pw_nil) ⟨rfl, rfl, Nat.le_of_ble_eq_true rfl, Nat.le_of_ble_eq_true rfl⟩ rfl rfl (Nat.le_of_ble_eq_true rfl) dX0_wetOf_41 ⟨Nat.zero_le _, Nat.zero_le _⟩ (fun r_10 h_11 => ?_)
  refine y_iload_n C dX0_wetOf_44 3 rfl rfl ?_
  refine y_callRlS (As := [.long (((r_1 * r_4) * r_7)), .long (r_10), .int (x3)]) (rest := []) C cs_X0_408 (met_o_part G (((r_1 * r_4) * r_7)) (r_10) (x3) _ (h_11)) (fun _ _ => pw_nil) ⟨rfl, rfl, Nat.le_of_ble_eq_true rfl, Nat.le_of_ble_eq_true rfl⟩ rfl rfl (Nat.le_of_ble_eq_true rfl) dX0_wetOf_45 ⟨Nat.zero_le _, Nat.zero_le _⟩ (fun r_13 h_14 => ?_)
  exact y_lretR C N rfl (h_14) dX0_wetOf_48
/-! OverHill dry(II)J: o_dry -/
abbrev rm_o_dry : Room := { frames := 3, cells := 0, slots := 0, locals := 93 }
def wp_o_dry (S : St) (x1 : Int32) (x2 : Int32) (Q : Int64 → Prop) : Prop :=
  wp_o_isDance S (fun r_1 => ((r_1 = 0 → Q (-2)) ∧ (¬ r_1 = 0 → wp_o_isIn ((x1).toInt64) (1) (9) (fun r_7 => ((r_7 = 0 → Q (-2)) ∧ (¬ r_7 = 0 → wp_o_isOneOf (x2) (2) (fun r_13 => ((r_13 = 0 → Q (-2)) ∧ (¬ r_13 = 0 → wp_o_wetOf S (x1) (0) (x2) (fun r_19 => Q r_19))))))))))
set_option maxRecDepth 100000 in
theorem met_o_dry (G : Gx) (A : Nat → Nat) (S : St) (x1 : Int32) (x2 : Int32) (Q : Int64 → Prop) (h : wp_o_dry S x1 x2 Q) : Rl G yX0_dry (ws_ yX0_dry cX0_dry 3 (some .long)) rm_o_dry (wC G A S) [.ref (A 0), .int (x1), .int (x2)] Q := by
  refine ent_Rl (by decide +kernel) rfl (Nat.le_of_ble_eq_true rfl) [(0, .ref (A 0)), (1, .int (x1)), (2, .int (x2))] rfl (fun K C N => ?_)
  refine y_aload_n C dX0_dry_0 0 rfl rfl ?_
  refine y_callRiV (As := []) (rest := []) C cs_X0_128 (met_o_isDance G A S _ (h)) (fun _ h => h) (wC_0 ..) rfl rfl ⟨rfl, rfl, Nat.le_of_ble_eq_true rfl, Nat.le_of_ble_eq_true rfl⟩ rfl rfl (Nat.le_of_ble_eq_true rfl) dX0_dry_1 ⟨Nat.zero_le _, Nat.zero_le _⟩ (fun r_1 h_2 => ?_)
  refine y_if_eq C (tgt := 37) dX0_dry_4 rfl (fun c_4 => ?_) (fun c_4 => ?_)
  · have h_5 := (h_2).1 c_4
    refine y_ldc2 C dX0_dry_37 q1240 ?_
    exact y_lretR C N rfl (h_5) dX0_dry_40
  · have h_6 := (h_2).2 c_4
    refine y_iload_n C dX0_dry_7 1 rfl rfl ?_
    refine y_i2l C dX0_dry_8 rfl ?_
    refine y_lconst C dX0_dry_9 lc_1 ?_
    refine y_ldc2 C dX0_dry_10 q1299 ?_
    refine y_callRiS (As := [.long ((x1).toInt64), .long (1), .long (9)]) (rest := []) C cs_X0_103 (met_o_isIn G ((x1).toInt64) (1) (9) _ (h_6)) (fun _ _ => pw_nil) ⟨rfl, rfl, Nat.le_of_ble_eq_true rfl, Nat.le_of_ble_eq_true rfl⟩ rfl rfl (Nat.le_of_ble_eq_true rfl) dX0_dry_13 ⟨Nat.zero_le _, Nat.zero_le _⟩ (fun r_7 h_8 => ?_)
    refine y_if_eq C (tgt := 37) dX0_dry_16 rfl (fun c_10 => ?_) (fun c_10 => ?_)
    · have h_11 := (h_8).1 c_10
      refine y_ldc2 C dX0_dry_37 q1240 ?_
      exact y_lretR C N rfl (h_11) dX0_dry_40
    · have h_12 := (h_8).2 c_10
      refine y_iload_n C dX0_dry_19 2 rfl rfl ?_
      refine y_iconst C dX0_dry_20 ic_2 ?_
      refine y_callRiS (As := [.int (x2), .int (2)]) (rest := []) C cs_X0_132 (met_o_isOneOf G (x2) (2) _ (h_12)) (fun _ _ => pw_nil) ⟨rfl, rfl, Nat.le_of_ble_eq_true rfl, Nat.le_of_ble_eq_true rfl⟩ rfl rfl (Nat.le_of_ble_eq_true rfl) dX0_dry_21 ⟨Nat.zero_le _, Nat.zero_le _⟩ (fun r_13 h_14 => ?_)
      refine y_if_eq C (tgt := 37) dX0_dry_24 rfl (fun c_16 => ?_) (fun c_16 => ?_)
      · have h_17 := (h_14).1 c_16
        refine y_ldc2 C dX0_dry_37 q1240 ?_
        exact y_lretR C N rfl (h_17) dX0_dry_40
      · have h_18 := (h_14).2 c_16
        refine y_aload_n C dX0_dry_27 0 rfl rfl ?_
        refine y_iload_n C dX0_dry_28 1 rfl rfl ?_
        refine y_iconst C dX0_dry_29 ic_0 ?_
        refine y_iload_n C dX0_dry_30 2 rfl rfl ?_
        refine y_callRlV (As := [.int (x1), .int (0), .int (x2)]) (rest := []) C cs_X0_414 (met_o_wetOf G A S (x1) (0) (x2) _ (h_18)) (fun _ h => h) (wC_0 ..) rfl rfl ⟨rfl, rfl, Nat.le_of_ble_eq_true rfl, Nat.le_of_ble_eq_true rfl⟩ rfl rfl (Nat.le_of_ble_eq_true rfl) dX0_dry_31 ⟨Nat.zero_le _, Nat.zero_le _⟩ (fun r_19 h_20 => ?_)
        refine y_goto C (tgt := 40) dX0_dry_34 rfl ?_
        exact y_lretR C N rfl (h_20) dX0_dry_40
/-! OverHill wet(III)J: o_wet -/
abbrev rm_o_wet : Room := { frames := 3, cells := 0, slots := 0, locals := 93 }
def wp_o_wet (S : St) (x1 : Int32) (x2 : Int32) (x3 : Int32) (Q : Int64 → Prop) : Prop :=
  wp_o_isDance S (fun r_1 => ((r_1 = 0 → Q (-2)) ∧ (¬ r_1 = 0 → wp_o_isIn ((x1).toInt64) (1) (9) (fun r_7 => ((r_7 = 0 → Q (-2)) ∧ (¬ r_7 = 0 → wp_o_isIn ((x2).toInt64) (0) ((x1).toInt64) (fun r_13 => ((r_13 = 0 → Q (-2)) ∧ (¬ r_13 = 0 → wp_o_isOneOf (x3) (2) (fun r_19 => ((r_19 = 0 → Q (-2)) ∧ (¬ r_19 = 0 → wp_o_wetOf S (x1) (x2) (x3) (fun r_25 => Q r_25)))))))))))))
set_option maxRecDepth 100000 in
theorem met_o_wet (G : Gx) (A : Nat → Nat) (S : St) (x1 : Int32) (x2 : Int32) (x3 : Int32) (Q : Int64 → Prop) (h : wp_o_wet S x1 x2 x3 Q) : Rl G yX0_wet (ws_ yX0_wet cX0_wet 4 (some .long)) rm_o_wet (wC G A S) [.ref (A 0), .int (x1), .int (x2), .int (x3)] Q := by
  refine ent_Rl (by decide +kernel) rfl (Nat.le_of_ble_eq_true rfl) [(0, .ref (A 0)), (1, .int (x1)), (2, .int (x2)), (3, .int (x3))] rfl (fun K C N => ?_)
  refine y_aload_n C dX0_wet_0 0 rfl rfl ?_
  refine y_callRiV (As := []) (rest := []) C cs_X0_128 (met_o_isDance G A S _ (h)) (fun _ h => h) (wC_0 ..) rfl rfl ⟨rfl, rfl, Nat.le_of_ble_eq_true rfl, Nat.le_of_ble_eq_true rfl⟩ rfl rfl (Nat.le_of_ble_eq_true rfl) dX0_wet_1 ⟨Nat.zero_le _, Nat.zero_le _⟩ (fun r_1 h_2 => ?_)
  refine y_if_eq C (tgt := 48) dX0_wet_4 rfl (fun c_4 => ?_) (fun c_4 => ?_)
  · have h_5 := (h_2).1 c_4
    refine y_ldc2 C dX0_wet_48 q1240 ?_
    exact y_lretR C N rfl (h_5) dX0_wet_51
  · have h_6 := (h_2).2 c_4
    refine y_iload_n C dX0_wet_7 1 rfl rfl ?_
    refine y_i2l C dX0_wet_8 rfl ?_
    refine y_lconst C dX0_wet_9 lc_1 ?_
    refine y_ldc2 C dX0_wet_10 q1299 ?_
    refine y_callRiS (As := [.long ((x1).toInt64), .long (1), .long (9)]) (rest := []) C cs_X0_103 (met_o_isIn G ((x1).toInt64) (1) (9) _ (h_6)) (fun _ _ => pw_nil) ⟨rfl, rfl, Nat.le_of_ble_eq_true rfl, Nat.le_of_ble_eq_true rfl⟩ rfl rfl (Nat.le_of_ble_eq_true rfl) dX0_wet_13 ⟨Nat.zero_le _, Nat.zero_le _⟩ (fun r_7 h_8 => ?_)
    refine y_if_eq C (tgt := 48) dX0_wet_16 rfl (fun c_10 => ?_) (fun c_10 => ?_)
    · have h_11 := (h_8).1 c_10
      refine y_ldc2 C dX0_wet_48 q1240 ?_
      exact y_lretR C N rfl (h_11) dX0_wet_51
    · have h_12 := (h_8).2 c_10
      refine y_iload_n C dX0_wet_19 2 rfl rfl ?_
      refine y_i2l C dX0_wet_20 rfl ?_
      refine y_lconst C dX0_wet_21 lc_0 ?_
      refine y_iload_n C dX0_wet_22 1 rfl rfl ?_
      refine y_i2l C dX0_wet_23 rfl ?_
      refine y_callRiS (As := [.long ((x2).toInt64), .long (0), .long ((x1).toInt64)]) (rest := []) C cs_X0_103 (met_o_isIn G ((x2).toInt64) (0) ((x1).toInt64) _ (h_12)) (fun _ _ => pw_nil) ⟨rfl, rfl, Nat.le_of_ble_eq_true rfl, Nat.le_of_ble_eq_true rfl⟩ rfl rfl (Nat.le_of_ble_eq_true rfl) dX0_wet_24 ⟨Nat.zero_le _, Nat.zero_le _⟩ (fun r_13 h_14 => ?_)
      refine y_if_eq C (tgt := 48) dX0_wet_27 rfl (fun c_16 => ?_) (fun c_16 => ?_)
      · have h_17 := (h_14).1 c_16
        refine y_ldc2 C dX0_wet_48 q1240 ?_
        exact y_lretR C N rfl (h_17) dX0_wet_51
      · have h_18 := (h_14).2 c_16
        refine y_iload_n C dX0_wet_30 3 rfl rfl ?_
        refine y_iconst C dX0_wet_31 ic_2 ?_
        refine y_callRiS (As := [.int (x3), .int (2)]) (rest := []) C cs_X0_132 (met_o_isOneOf G (x3) (2) _ (h_18)) (fun _ _ => pw_nil) ⟨rfl, rfl, Nat.le_of_ble_eq_true rfl, Nat.le_of_ble_eq_true rfl⟩ rfl rfl (Nat.le_of_ble_eq_true rfl) dX0_wet_32 ⟨Nat.zero_le _, Nat.zero_le _⟩ (fun r_19 h_20 => ?_)
        refine y_if_eq C (tgt := 48) dX0_wet_35 rfl (fun c_22 => ?_) (fun c_22 => ?_)
        · have h_23 := (h_20).1 c_22
          refine y_ldc2 C dX0_wet_48 q1240 ?_
          exact y_lretR C N rfl (h_23) dX0_wet_51
        · have h_24 := (h_20).2 c_22
          refine y_aload_n C dX0_wet_38 0 rfl rfl ?_
          refine y_iload_n C dX0_wet_39 1 rfl rfl ?_
          refine y_iload_n C dX0_wet_40 2 rfl rfl ?_
          refine y_iload_n C dX0_wet_41 3 rfl rfl ?_
          refine y_callRlV (As := [.int (x1), .int (x2), .int (x3)]) (rest := []) C cs_X0_414 (met_o_wetOf G A S (x1) (x2) (x3) _ (h_24)) (fun _ h => h) (wC_0 ..) rfl rfl ⟨rfl, rfl, Nat.le_of_ble_eq_true rfl, Nat.le_of_ble_eq_true rfl⟩ rfl rfl (Nat.le_of_ble_eq_true rfl) dX0_wet_42 ⟨Nat.zero_le _, Nat.zero_le _⟩ (fun r_25 h_26 => ?_)
          refine y_goto C (tgt := 51) dX0_wet_45 rfl ?_
          exact y_lretR C N rfl (h_26) dX0_wet_51
/-! OverHill isSeed(I)Z: o_isSeed -/
abbrev rm_o_isSeed : Room := { frames := 2, cells := 0, slots := 0, locals := 65 }
def wp_o_isSeed (x0 : Int32) (Q : Int32 → Prop) : Prop :=
  wp_o_isIn ((x0).toInt64) (0) (2000000000) (fun r_1 => (narrow .boolean (.int r_1) = .int r_1 ∧ Q r_1))
set_option maxRecDepth 100000 in
theorem met_o_isSeed (G : Gx) (x0 : Int32) (Q : Int32 → Prop) (h : wp_o_isSeed x0 Q) : Ri G yX0_isSeed (ws_ yX0_isSeed cX0_isSeed 1 (some .boolean)) rm_o_isSeed [] [.int (x0)] Q := by
  refine ent_Ri (by decide +kernel) rfl (Nat.le_of_ble_eq_true rfl) [(0, .int (x0))] rfl (fun K C N => ?_)
  refine y_iload_n C dX0_isSeed_0 0 rfl rfl ?_
  refine y_i2l C dX0_isSeed_1 rfl ?_
  refine y_lconst C dX0_isSeed_2 lc_0 ?_
  refine y_ldc2 C dX0_isSeed_3 q1329 ?_
  refine y_callRiS (As := [.long ((x0).toInt64), .long (0), .long (2000000000)]) (rest := []) C cs_X0_103 (met_o_isIn G ((x0).toInt64) (0) (2000000000) _ (h)) (fun _ h => h) ⟨rfl, rfl, Nat.le_of_ble_eq_true rfl, Nat.le_of_ble_eq_true rfl⟩ rfl rfl (Nat.le_of_ble_eq_true rfl) dX0_isSeed_6 ⟨Nat.zero_le _, Nat.zero_le _⟩ (fun r_1 h_2 => ?_)
  exact y_zretR C N rfl (h_2).1 ((h_2).2) dX0_isSeed_9
/-! OverHill isNight(II)Z: o_isNight -/
abbrev rm_o_isNight : Room := { frames := 3, cells := 0, slots := 0, locals := 85 }
def wp_o_isNight (S : St) (x1 : Int32) (x2 : Int32) (Q : Int32 → Prop) : Prop :=
  wp_o_isDance S (fun r_1 => ((r_1 = 0 → Q 0) ∧ (¬ r_1 = 0 → wp_o_isSeed (x1) (fun r_7 => ((r_7 = 0 → Q 0) ∧ (¬ r_7 = 0 → wp_o_isIn ((x2).toInt64) (1) (100) (fun r_13 => ((r_13 = 0 → Q 0) ∧ (¬ r_13 = 0 → Q 1)))))))))
set_option maxRecDepth 100000 in
theorem met_o_isNight (G : Gx) (A : Nat → Nat) (S : St) (x1 : Int32) (x2 : Int32) (Q : Int32 → Prop) (h : wp_o_isNight S x1 x2 Q) : Ri G yX0_isNight (ws_ yX0_isNight cX0_isNight 3 (some .boolean)) rm_o_isNight (wC G A S) [.ref (A 0), .int (x1), .int (x2)] Q := by
  refine ent_Ri (by decide +kernel) rfl (Nat.le_of_ble_eq_true rfl) [(0, .ref (A 0)), (1, .int (x1)), (2, .int (x2))] rfl (fun K C N => ?_)
  refine y_aload_n C dX0_isNight_0 0 rfl rfl ?_
  refine y_callRiV (As := []) (rest := []) C cs_X0_128 (met_o_isDance G A S _ (h)) (fun _ h => h) (wC_0 ..) rfl rfl ⟨rfl, rfl, Nat.le_of_ble_eq_true rfl, Nat.le_of_ble_eq_true rfl⟩ rfl rfl (Nat.le_of_ble_eq_true rfl) dX0_isNight_1 ⟨Nat.zero_le _, Nat.zero_le _⟩ (fun r_1 h_2 => ?_)
  refine y_if_eq C (tgt := 30) dX0_isNight_4 rfl (fun c_4 => ?_) (fun c_4 => ?_)
  · have h_5 := (h_2).1 c_4
    refine y_iconst C dX0_isNight_30 ic_0 ?_
    exact y_zretR C N rfl rfl (h_5) dX0_isNight_31
  · have h_6 := (h_2).2 c_4
    refine y_iload_n C dX0_isNight_7 1 rfl rfl ?_
    refine y_callRiS (As := [.int (x1)]) (rest := []) C cs_X0_457 (met_o_isSeed G (x1) _ (h_6)) (fun _ _ => pw_nil) ⟨rfl, rfl, Nat.le_of_ble_eq_true rfl, Nat.le_of_ble_eq_true rfl⟩ rfl rfl (Nat.le_of_ble_eq_true rfl) dX0_isNight_8 ⟨Nat.zero_le _, Nat.zero_le _⟩ (fun r_7 h_8 => ?_)
    refine y_if_eq C (tgt := 30) dX0_isNight_11 rfl (fun c_10 => ?_) (fun c_10 => ?_)
    · have h_11 := (h_8).1 c_10
      refine y_iconst C dX0_isNight_30 ic_0 ?_
      exact y_zretR C N rfl rfl (h_11) dX0_isNight_31
    · have h_12 := (h_8).2 c_10
      refine y_iload_n C dX0_isNight_14 2 rfl rfl ?_
      refine y_i2l C dX0_isNight_15 rfl ?_
      refine y_lconst C dX0_isNight_16 lc_1 ?_
      refine y_ldc2 C dX0_isNight_17 q1310 ?_
      refine y_callRiS (As := [.long ((x2).toInt64), .long (1), .long (100)]) (rest := []) C cs_X0_103 (met_o_isIn G ((x2).toInt64) (1) (100) _ (h_12)) (fun _ _ => pw_nil) ⟨rfl, rfl, Nat.le_of_ble_eq_true rfl, Nat.le_of_ble_eq_true rfl⟩ rfl rfl (Nat.le_of_ble_eq_true rfl) dX0_isNight_20 ⟨Nat.zero_le _, Nat.zero_le _⟩ (fun r_13 h_14 => ?_)
      refine y_if_eq C (tgt := 30) dX0_isNight_23 rfl (fun c_16 => ?_) (fun c_16 => ?_)
      · have h_17 := (h_14).1 c_16
        refine y_iconst C dX0_isNight_30 ic_0 ?_
        exact y_zretR C N rfl rfl (h_17) dX0_isNight_31
      · have h_18 := (h_14).2 c_16
        refine y_iconst C dX0_isNight_26 ic_1 ?_
        refine y_goto C (tgt := 31) dX0_isNight_27 rfl ?_
        exact y_zretR C N rfl rfl (h_18) dX0_isNight_31
/-! OverHill draws(I)Z: o_draws -/
abbrev rm_o_draws : Room := { frames := 1, cells := 0, slots := 0, locals := 40 }
def wp_o_draws (S : St) (x1 : Int32) (Q : Int32 → St → Prop) : Prop :=
  ((0 ≤ (lg_cmp (lrm (((sL S 0 26 (lrm ((1103515245 * (S.2 0 26)) + 12345) 2147483648)).2 0 26) / 65536) 100) (x1).toInt64) → Q 0 (sL S 0 26 (lrm ((1103515245 * (S.2 0 26)) + 12345) 2147483648))) ∧ (¬ 0 ≤ (lg_cmp (lrm (((sL S 0 26 (lrm ((1103515245 * (S.2 0 26)) + 12345) 2147483648)).2 0 26) / 65536) 100) (x1).toInt64) → Q 1 (sL S 0 26 (lrm ((1103515245 * (S.2 0 26)) + 12345) 2147483648))))
set_option maxRecDepth 100000 in
theorem met_o_draws (G : Gx) (A : Nat → Nat) (S : St) (x1 : Int32) (Q : Int32 → St → Prop) (h : wp_o_draws S x1 Q) : Mi G yX0_draws (ws_ yX0_draws cX0_draws 2 (some .boolean)) rm_o_draws (wC G A S) [.ref (A 0), .int (x1)] (wC G A) Q := by
  refine ent_Mi (by decide +kernel) rfl (Nat.le_of_ble_eq_true rfl) [(0, .ref (A 0)), (1, .int (x1))] rfl (fun K B C M N => ?_)
  refine y_aload_n C dX0_draws_0 0 rfl rfl ?_
  refine y_ldc2 C dX0_draws_1 q1341 ?_
  refine y_aload_n C dX0_draws_4 0 rfl rfl ?_
  refine yg_X0_420_wC0 C dX0_draws_5 ?_
  refine y_lmul C dX0_draws_8 ?_
  refine y_ldc2 C dX0_draws_9 q1342 ?_
  refine y_ladd C dX0_draws_12 ?_
  refine y_ldc2 C dX0_draws_13 q1343 ?_
  refine y_lrem C dX0_draws_16 nz_J_2147483648 ?_
  refine yp_X0_420_wC0 C M dX0_draws_17 ?_
  refine y_aload_n C dX0_draws_20 0 rfl rfl ?_
  refine yg_X0_420_wC0 C dX0_draws_21 ?_
  refine y_ldc2 C dX0_draws_24 q1344 ?_
  refine y_ldiv C dX0_draws_27 nz_J_65536 ?_
  refine y_ldc2 C dX0_draws_28 q1310 ?_
  refine y_lrem C dX0_draws_31 nz_J_100 ?_
  refine y_iload_n C dX0_draws_32 1 rfl rfl ?_
  refine y_i2l C dX0_draws_33 rfl ?_
  refine y_lcmp C dX0_draws_34 ?_
  refine y_if_ge C (tgt := 42) dX0_draws_35 rfl (fun c_1 => ?_) (fun c_1 => ?_)
  · have h_2 := (h).1 c_1
    refine y_iconst C dX0_draws_42 ic_0 ?_
    exact y_zretM C M N rfl rfl (S := (sL S 0 26 (lrm ((1103515245 * (S.2 0 26)) + 12345) 2147483648))) rfl (h_2) dX0_draws_43
  · have h_3 := (h).2 c_1
    refine y_iconst C dX0_draws_38 ic_1 ?_
    refine y_goto C (tgt := 43) dX0_draws_39 rfl ?_
    exact y_zretM C M N rfl rfl (S := (sL S 0 26 (lrm ((1103515245 * (S.2 0 26)) + 12345) 2147483648))) rfl (h_3) dX0_draws_43
/-! OverHill dances(IIZ)V: o_dances -/
abbrev rm_o_dances : Room := { frames := 2, cells := 0, slots := 0, locals := 62 }
def wp_o_dances_b98 (Q : St → Prop) (x1 : Int32) (x2 : Int32) (S : St) (x4 : Int32) (x5 : Int32) (s0 : Int32) (s1 : Int32) : Prop :=
  ((x5 = 0 → (vp_in ((200 * x1) + x2) 400 ∧ Q (sI (sI S 0 31 (s1 + s0)) 3 (((200 * x1) + x2)).toNatClampNeg x4))) ∧ (¬ x5 = 0 → (vp_in ((200 * x1) + x2) 400 ∧ Q (sI (sI S 0 31 (s1 + s0)) 3 (((200 * x1) + x2)).toNatClampNeg (irm (x4 + 1) 6)))))
def wp_o_dances (S : St) (x1 : Int32) (x2 : Int32) (x3 : Int32) (Q : St → Prop) : Prop :=
  (vp_in ((200 * x1) + x2) 400 ∧ ((¬ x3 = 0 → Q (sI S 3 (((200 * x1) + x2)).toNatClampNeg (-1))) ∧ (x3 = 0 → (vp_in x1 2 ∧ ((¬ ((sI S 3 (((200 * x1) + x2)).toNatClampNeg (-1)).1 16 (x1).toNatClampNeg) = 0 → (vp_in x1 2 ∧ wp_d_step (sI S 3 (((200 * x1) + x2)).toNatClampNeg (-1)) (x1) (((sI S 3 (((200 * x1) + x2)).toNatClampNeg (-1)).1 14 (x1).toNatClampNeg)) (fun r_6 => (vp_in x1 2 ∧ (vp_in x1 2 ∧ (¬ ((sI S 3 (((200 * x1) + x2)).toNatClampNeg (-1)).1 16 (x1).toNatClampNeg) = 0 ∧ (vp_in x1 2 ∧ wp_o_draws (sI (sI S 3 (((200 * x1) + x2)).toNatClampNeg (-1)) 14 (x1).toNatClampNeg (irm (((sI S 3 (((200 * x1) + x2)).toNatClampNeg (-1)).1 14 (x1).toNatClampNeg) + 1) ((sI S 3 (((200 * x1) + x2)).toNatClampNeg (-1)).1 16 (x1).toNatClampNeg))) (((sI (sI S 3 (((200 * x1) + x2)).toNatClampNeg (-1)) 14 (x1).toNatClampNeg (irm (((sI S 3 (((200 * x1) + x2)).toNatClampNeg (-1)).1 14 (x1).toNatClampNeg) + 1) ((sI S 3 (((200 * x1) + x2)).toNatClampNeg (-1)).1 16 (x1).toNatClampNeg))).1 15 1)) (fun r_9 S_11 => ((r_9 = 0 → wp_o_dances_b98 Q (x1) (x2) S_11 (r_6) (r_9) (0) ((S_11.1 0 31))) ∧ (¬ r_9 = 0 → wp_o_dances_b98 Q (x1) (x2) S_11 (r_6) (r_9) (1) ((S_11.1 0 31)))))))))))) ∧ (((sI S 3 (((200 * x1) + x2)).toNatClampNeg (-1)).1 16 (x1).toNatClampNeg) = 0 → Q (sI S 3 (((200 * x1) + x2)).toNatClampNeg (-1))))))))
set_option maxRecDepth 100000 in
theorem wk_o_dances_b98 {G : Gx} {K : Kx} {A : Nat → Nat} (C : KOk G K RX0 cX0_dances rm_o_dances 6 none) {B : Nat → Prop} (M : KM G K B) {Q : St → Prop} (N : KQv G K B (wC G A) Q) (x1 : Int32) (x2 : Int32) (S : St) (x4 : Int32) (x5 : Int32) (s0 : Int32) (s1 : Int32) (h : wp_o_dances_b98 Q x1 x2 S x4 x5 s0 s1) : Y G K 0 0 (wC G A S) 98 [(0, .ref (A 0)), (1, .int (x1)), (2, .int (x2)), (4, .int (x4)), (5, .int (x5))] [.int (s0), .int (s1), .ref (A 0)] := by
  refine y_iadd C dX0_dances_98 ?_
  refine yp_X0_435_wC0 C M dX0_dances_99 ?_
  refine y_aload_n C dX0_dances_102 0 rfl rfl ?_
  refine yg_X0_28_wC0 C dX0_dances_103 ?_
  refine y_sipush C dX0_dances_106 sp_200 ?_
  refine y_iload_n C dX0_dances_109 1 rfl rfl ?_
  refine y_imul C dX0_dances_110 ?_
  refine y_iload_n C dX0_dances_111 2 rfl rfl ?_
  refine y_iadd C dX0_dances_112 ?_
  refine y_iload C dX0_dances_113 4 rfl ?_
  refine y_if_eq C (tgt := 128) dX0_dances_115 rfl (fun c_16 => ?_) (fun c_16 => ?_)
  · have h_17 := (h).1 c_16
    refine y_iload C dX0_dances_128 3 rfl ?_
    refine y_iast C M (wC_3 ..) rfl (wC_s3 ..) (h_17).1 dX0_dances_130 ?_
    exact y_vretM C M N rfl (S := (sI (sI S 0 31 (s1 + s0)) 3 (((200 * x1) + x2)).toNatClampNeg x4)) rfl ((h_17).2) dX0_dances_131
  · have h_18 := (h).2 c_16
    refine y_iload C dX0_dances_118 3 rfl ?_
    refine y_iconst C dX0_dances_120 ic_1 ?_
    refine y_iadd C dX0_dances_121 ?_
    refine y_bipush C dX0_dances_122 bp_6 ?_
    refine y_irem C dX0_dances_124 nz_I_6 ?_
    refine y_goto C (tgt := 130) dX0_dances_125 rfl ?_
    refine y_iast C M (wC_3 ..) rfl (wC_s3 ..) (h_18).1 dX0_dances_130 ?_
    exact y_vretM C M N rfl (S := (sI (sI S 0 31 (s1 + s0)) 3 (((200 * x1) + x2)).toNatClampNeg (irm (x4 + 1) 6))) rfl ((h_18).2) dX0_dances_131
set_option maxRecDepth 100000 in
theorem met_o_dances (G : Gx) (A : Nat → Nat) (S : St) (x1 : Int32) (x2 : Int32) (x3 : Int32) (Q : St → Prop) (h : wp_o_dances S x1 x2 x3 Q) : Mv G yX0_dances (ws_ yX0_dances cX0_dances 6 none) rm_o_dances (wC G A S) [.ref (A 0), .int (x1), .int (x2), .int (x3)] (wC G A) Q := by
  refine ent_Mv (by decide +kernel) rfl (Nat.le_of_ble_eq_true rfl) [(0, .ref (A 0)), (1, .int (x1)), (2, .int (x2)), (3, .int (x3))] rfl (fun K B C M N => ?_)
  refine y_aload_n C dX0_dances_0 0 rfl rfl ?_
  refine yg_X0_28_wC0 C dX0_dances_1 ?_
  refine y_sipush C dX0_dances_4 sp_200 ?_
  refine y_iload_n C dX0_dances_7 1 rfl rfl ?_
  refine y_imul C dX0_dances_8 ?_
  refine y_iload_n C dX0_dances_9 2 rfl rfl ?_
  refine y_iadd C dX0_dances_10 ?_
  refine y_iconst C dX0_dances_11 icm1 ?_
  refine y_iast C M (wC_3 ..) rfl (wC_s3 ..) (h).1 dX0_dances_12 ?_
  refine y_iload_n C dX0_dances_13 3 rfl rfl ?_
  refine y_if_ne C (tgt := 29) dX0_dances_14 rfl (fun c_1 => ?_) (fun c_1 => ?_)
  · have h_2 := ((h).2).1 c_1
    exact y_vretM C M N rfl (S := (sI S 3 (((200 * x1) + x2)).toNatClampNeg (-1))) rfl (h_2) dX0_dances_29
  · have h_3 := ((h).2).2 c_1
    refine y_aload_n C dX0_dances_17 0 rfl rfl ?_
    refine yg_X0_12_wC0 C dX0_dances_18 ?_
    refine yg_X0_144_wC15 C dX0_dances_21 ?_
    refine y_iload_n C dX0_dances_24 1 rfl rfl ?_
    refine y_iald C (wC_16 ..) rfl (h_3).1 dX0_dances_25 ?_
    refine y_if_ne C (tgt := 30) dX0_dances_26 rfl (fun c_4 => ?_) (fun c_4 => ?_)
    · have h_5 := ((h_3).2).1 c_4
      refine y_aload_n C dX0_dances_30 0 rfl rfl ?_
      refine yg_X0_12_wC0 C dX0_dances_31 ?_
      refine y_iload_n C dX0_dances_34 1 rfl rfl ?_
      refine y_aload_n C dX0_dances_35 0 rfl rfl ?_
      refine yg_X0_79_wC0 C dX0_dances_36 ?_
      refine y_iload_n C dX0_dances_39 1 rfl rfl ?_
      refine y_iald C (wC_14 ..) rfl (h_5).1 dX0_dances_40 ?_
      refine y_callRiV (As := [.int (x1), .int (((sI S 3 (((200 * x1) + x2)).toNatClampNeg (-1)).1 14 (x1).toNatClampNeg))]) (rest := []) C cs_X0_155 (met_d_step G A (sI S 3 (((200 * x1) + x2)).toNatClampNeg (-1)) (x1) (((sI S 3 (((200 * x1) + x2)).toNatClampNeg (-1)).1 14 (x1).toNatClampNeg)) _ ((h_5).2)) (fun _ h => wC_D h) (wC_15 ..) rfl rfl ⟨rfl, rfl, Nat.le_of_ble_eq_true rfl, Nat.le_of_ble_eq_true rfl⟩ rfl rfl (Nat.le_of_ble_eq_true rfl) dX0_dances_41 ⟨Nat.zero_le _, Nat.zero_le _⟩ (fun r_6 h_7 => ?_)
      refine y_istore C dX0_dances_44 (Nat.le_of_ble_eq_true rfl) [(4, .int (r_6)), (0, .ref (A 0)), (1, .int (x1)), (2, .int (x2)), (3, .int (x3))] rfl ?_
      refine y_aload_n C dX0_dances_46 1 rfl rfl ?_
      refine yg_X0_79_wC0 C dX0_dances_47 ?_
      refine y_iload_n C dX0_dances_50 2 rfl rfl ?_
      refine y_aload_n C dX0_dances_51 1 rfl rfl ?_
      refine yg_X0_79_wC0 C dX0_dances_52 ?_
      refine y_iload_n C dX0_dances_55 2 rfl rfl ?_
      refine y_iald C (wC_14 ..) rfl (h_7).1 dX0_dances_56 ?_
      refine y_iconst C dX0_dances_57 ic_1 ?_
      refine y_iadd C dX0_dances_58 ?_
      refine y_aload_n C dX0_dances_59 1 rfl rfl ?_
      refine yg_X0_12_wC0 C dX0_dances_60 ?_
      refine yg_X0_144_wC15 C dX0_dances_63 ?_
      refine y_iload_n C dX0_dances_66 2 rfl rfl ?_
      refine y_iald C (wC_16 ..) rfl ((h_7).2).1 dX0_dances_67 ?_
      refine y_irem C dX0_dances_68 (((h_7).2).2).1 ?_
      refine y_iast C M (wC_14 ..) rfl (wC_s14 ..) ((((h_7).2).2).2).1 dX0_dances_69 ?_
      refine y_aload_n C dX0_dances_70 1 rfl rfl ?_
      refine y_aload_n C dX0_dances_71 1 rfl rfl ?_
      refine yg_X0_12_wC0 C dX0_dances_72 ?_
      refine yg_X0_429_wC15 C dX0_dances_75 ?_
      refine y_callMiV (k' := 0) (n' := 0) (As := [.int (((sI (sI S 3 (((200 * x1) + x2)).toNatClampNeg (-1)) 14 (x1).toNatClampNeg (irm (((sI S 3 (((200 * x1) + x2)).toNatClampNeg (-1)).1 14 (x1).toNatClampNeg) + 1) ((sI S 3 (((200 * x1) + x2)).toNatClampNeg (-1)).1 16 (x1).toNatClampNeg))).1 15 1))]) (rest := []) C M cs_X0_432 (met_o_draws G A (sI (sI S 3 (((200 * x1) + x2)).toNatClampNeg (-1)) 14 (x1).toNatClampNeg (irm (((sI S 3 (((200 * x1) + x2)).toNatClampNeg (-1)).1 14 (x1).toNatClampNeg) + 1) ((sI S 3 (((200 * x1) + x2)).toNatClampNeg (-1)).1 16 (x1).toNatClampNeg))) (((sI (sI S 3 (((200 * x1) + x2)).toNatClampNeg (-1)) 14 (x1).toNatClampNeg (irm (((sI S 3 (((200 * x1) + x2)).toNatClampNeg (-1)).1 14 (x1).toNatClampNeg) + 1) ((sI S 3 (((200 * x1) + x2)).toNatClampNeg (-1)).1 16 (x1).toNatClampNeg))).1 15 1)) _ (((((h_7).2).2).2).2)) (wC_0 ..) rfl rfl ⟨rfl, rfl, Nat.le_of_ble_eq_true rfl, Nat.le_of_ble_eq_true rfl⟩ rfl rfl (Nat.le_of_ble_eq_true rfl) dX0_dances_78 ⟨Nat.zero_le _, Nat.zero_le _⟩ rfl rfl (fun r_9 S_11 h_10 => ?_)
      refine y_istore C dX0_dances_81 (Nat.le_of_ble_eq_true rfl) [(5, .int (r_9)), (4, .int (r_6)), (0, .ref (A 0)), (1, .int (x1)), (2, .int (x2)), (3, .int (x3))] rfl ?_
      refine y_aload_n C dX0_dances_83 2 rfl rfl ?_
      refine y_dup C dX0_dances_84 rfl ?_
      refine yg_X0_435_wC0 C dX0_dances_85 ?_
      refine y_iload C dX0_dances_88 0 rfl ?_
      refine y_if_eq C (tgt := 97) dX0_dances_90 rfl (fun c_12 => ?_) (fun c_12 => ?_)
      · have h_13 := (h_10).1 c_12
        refine y_iconst C dX0_dances_97 ic_0 ?_
        exact Y.sub (wk_o_dances_b98 C M N (x1) (x2) S_11 (r_6) (r_9) (0) ((S_11.1 0 31)) (h_13)) [2, 3, 4, 1, 0] rfl
      · have h_14 := (h_10).2 c_12
        refine y_iconst C dX0_dances_93 ic_1 ?_
        refine y_goto C (tgt := 98) dX0_dances_94 rfl ?_
        exact Y.sub (wk_o_dances_b98 C M N (x1) (x2) S_11 (r_6) (r_9) (1) ((S_11.1 0 31)) (h_14)) [2, 3, 4, 1, 0] rfl
    · have h_15 := ((h_3).2).2 c_4
      exact y_vretM C M N rfl (S := (sI S 3 (((200 * x1) + x2)).toNatClampNeg (-1))) rfl (h_15) dX0_dances_29
/-! OverHill goesNight(JI)V: o_goesNight -/
abbrev rm_o_goesNight : Room := { frames := 4, cells := 0, slots := 0, locals := 106 }
def wp_o_goesNight_b131 (Q : St → Prop) (x3 : Int32) (K45 : St → Int32 → Prop) (S : St) (x4 : Int32) (s0 : Int32) (s1 : Int32) : Prop :=
  ((¬ (S.1 0 29) = (-1) → K45 (sI S 0 28 ((S.1 0 28) + (s1 + s0))) ((x4 + 1))) ∧ ((S.1 0 29) = (-1) → (((s1 + s0) ≤ 0 → K45 (sI S 0 28 ((S.1 0 28) + (s1 + s0))) ((x4 + 1))) ∧ (¬ (s1 + s0) ≤ 0 → K45 (sI (sI S 0 29 x4) 0 28 (((sI S 0 29 x4).1 0 28) + (s1 + s0))) ((x4 + 1))))))
def wp_o_goesNight_b116 (Q : St → Prop) (x3 : Int32) (K45 : St → Int32 → Prop) (S : St) (x4 : Int32) (s0 : Int32) : Prop :=
  wp_o_isHole S (1) (x4) (fun r_24 => ((r_24 = 0 → wp_o_goesNight_b131 Q (x3) K45 S (x4) (0) (s0)) ∧ (¬ r_24 = 0 → wp_o_goesNight_b131 Q (x3) K45 S (x4) (1) (s0))))
def wp_o_goesNight_b79 (Q : St → Prop) (x3 : Int32) (K45 : St → Int32 → Prop) (S : St) (x4 : Int32) (x5 : Int32) (s0 : Int32) (s1 : Int32) : Prop :=
  wp_o_dances (sI S 0 30 (s1 + s0)) (0) (x4) (x5) (fun S_14 => wp_o_dances S_14 (1) (x4) (x5) (fun S_17 => wp_o_isHole S_17 (0) (x4) (fun r_18 => ((r_18 = 0 → wp_o_goesNight_b116 Q (x3) K45 S_17 (x4) (0)) ∧ (¬ r_18 = 0 → wp_o_goesNight_b116 Q (x3) K45 S_17 (x4) (1))))))
def wp_o_goesNight_b45 (Q : St → Prop) (x3 : Int32) : Nat → St → Int32 → Prop
  | 0 => fun _ _ => False
  | n + 1 => fun S x4 => ((x3 ≤ x4 → Q S) ∧ (¬ x3 ≤ x4 → wp_o_draws S ((S.1 15 2)) (fun r_6 S_8 => ((r_6 = 0 → wp_o_goesNight_b79 Q (x3) (fun Sy y4 => wp_o_goesNight_b45 Q x3 n Sy y4) S_8 (x4) (r_6) (0) ((S_8.1 0 30))) ∧ (¬ r_6 = 0 → wp_o_goesNight_b79 Q (x3) (fun Sy y4 => wp_o_goesNight_b45 Q x3 n Sy y4) S_8 (x4) (r_6) (1) ((S_8.1 0 30)))))))
def wp_o_goesNight (S : St) (x1 : Int64) (x3 : Int32) (Q : St → Prop) : Prop :=
  (∃ z, wp_o_goesNight_b45 Q (x3) z (sC (sI (sI (sI (sI (sL S 0 26 x1) 0 28 0) 0 29 (-1)) 0 30 0) 0 31 0) 14 (va_cpy ((sI (sI (sI (sI (sL S 0 26 x1) 0 28 0) 0 29 (-1)) 0 30 0) 0 31 0).1 17) ((sI (sI (sI (sI (sL S 0 26 x1) 0 28 0) 0 29 (-1)) 0 30 0) 0 31 0).1 14) 0 0 2)) (0))
set_option maxRecDepth 100000 in
theorem wk_o_goesNight_b131 {G : Gx} {K : Kx} {A : Nat → Nat} (C : KOk G K RX0 cX0_goesNight rm_o_goesNight 7 none) {B : Nat → Prop} (M : KM G K B) {Q : St → Prop} (N : KQv G K B (wC G A) Q) (x3 : Int32) (K45 : St → Int32 → Prop) (hK45 : ∀ (S : St) (x4 : Int32), K45 S x4 → Y G K 0 0 (wC G A S) 45 [(0, .ref (A 0)), (3, .int (x3)), (4, .int (x4))] []) (S : St) (x4 : Int32) (s0 : Int32) (s1 : Int32) (h : wp_o_goesNight_b131 Q x3 K45 S x4 s0 s1) : Y G K 0 0 (wC G A S) 131 [(0, .ref (A 0)), (3, .int (x3)), (4, .int (x4))] [.int (s0), .int (s1)] := by
  refine y_iadd C dX0_goesNight_131 ?_
  refine y_istore C dX0_goesNight_132 (Nat.le_of_ble_eq_true rfl) [(6, .int ((s1 + s0))), (0, .ref (A 0)), (3, .int (x3)), (4, .int (x4))] rfl ?_
  refine y_aload_n C dX0_goesNight_134 1 rfl rfl ?_
  refine yg_X0_441_wC0 C dX0_goesNight_135 ?_
  refine y_iconst C dX0_goesNight_138 icm1 ?_
  refine y_icmp_ne C (tgt := 153) dX0_goesNight_139 rfl (fun c_30 => ?_) (fun c_30 => ?_)
  · have h_31 := (h).1 c_30
    refine y_aload_n C dX0_goesNight_153 1 rfl rfl ?_
    refine y_dup C dX0_goesNight_154 rfl ?_
    refine yg_X0_438_wC0 C dX0_goesNight_155 ?_
    refine y_iload C dX0_goesNight_158 0 rfl ?_
    refine y_iadd C dX0_goesNight_160 ?_
    refine yp_X0_438_wC0 C M dX0_goesNight_161 ?_
    refine y_iinc C dX0_goesNight_164 3 rfl (Nat.le_of_ble_eq_true rfl) (ii_1 _) [(4, .int ((x4 + 1))), (6, .int ((s1 + s0))), (0, .ref (A 0)), (3, .int (x3))] rfl ?_
    refine y_goto C (tgt := 45) dX0_goesNight_167 rfl ?_
    exact Y.sub (hK45 (sI S 0 28 ((S.1 0 28) + (s1 + s0))) ((x4 + 1)) (h_31)) [2, 3, 0] rfl
  · have h_32 := (h).2 c_30
    refine y_iload C dX0_goesNight_142 0 rfl ?_
    refine y_if_le C (tgt := 153) dX0_goesNight_144 rfl (fun c_33 => ?_) (fun c_33 => ?_)
    · have h_34 := (h_32).1 c_33
      refine y_aload_n C dX0_goesNight_153 1 rfl rfl ?_
      refine y_dup C dX0_goesNight_154 rfl ?_
      refine yg_X0_438_wC0 C dX0_goesNight_155 ?_
      refine y_iload C dX0_goesNight_158 0 rfl ?_
      refine y_iadd C dX0_goesNight_160 ?_
      refine yp_X0_438_wC0 C M dX0_goesNight_161 ?_
      refine y_iinc C dX0_goesNight_164 3 rfl (Nat.le_of_ble_eq_true rfl) (ii_1 _) [(4, .int ((x4 + 1))), (6, .int ((s1 + s0))), (0, .ref (A 0)), (3, .int (x3))] rfl ?_
      refine y_goto C (tgt := 45) dX0_goesNight_167 rfl ?_
      exact Y.sub (hK45 (sI S 0 28 ((S.1 0 28) + (s1 + s0))) ((x4 + 1)) (h_34)) [2, 3, 0] rfl
    · have h_35 := (h_32).2 c_33
      refine y_aload_n C dX0_goesNight_147 1 rfl rfl ?_
      refine y_iload C dX0_goesNight_148 3 rfl ?_
      refine yp_X0_441_wC0 C M dX0_goesNight_150 ?_
      refine y_aload_n C dX0_goesNight_153 1 rfl rfl ?_
      refine y_dup C dX0_goesNight_154 rfl ?_
      refine yg_X0_438_wC0 C dX0_goesNight_155 ?_
      refine y_iload C dX0_goesNight_158 0 rfl ?_
      refine y_iadd C dX0_goesNight_160 ?_
      refine yp_X0_438_wC0 C M dX0_goesNight_161 ?_
      refine y_iinc C dX0_goesNight_164 3 rfl (Nat.le_of_ble_eq_true rfl) (ii_1 _) [(4, .int ((x4 + 1))), (6, .int ((s1 + s0))), (0, .ref (A 0)), (3, .int (x3))] rfl ?_
      refine y_goto C (tgt := 45) dX0_goesNight_167 rfl ?_
      exact Y.sub (hK45 (sI (sI S 0 29 x4) 0 28 (((sI S 0 29 x4).1 0 28) + (s1 + s0))) ((x4 + 1)) (h_35)) [2, 3, 0] rfl
set_option maxRecDepth 100000 in
theorem wk_o_goesNight_b116 {G : Gx} {K : Kx} {A : Nat → Nat} (C : KOk G K RX0 cX0_goesNight rm_o_goesNight 7 none) {B : Nat → Prop} (M : KM G K B) {Q : St → Prop} (N : KQv G K B (wC G A) Q) (x3 : Int32) (K45 : St → Int32 → Prop) (hK45 : ∀ (S : St) (x4 : Int32), K45 S x4 → Y G K 0 0 (wC G A S) 45 [(0, .ref (A 0)), (3, .int (x3)), (4, .int (x4))] []) (S : St) (x4 : Int32) (s0 : Int32) (h : wp_o_goesNight_b116 Q x3 K45 S x4 s0) : Y G K 0 0 (wC G A S) 116 [(0, .ref (A 0)), (3, .int (x3)), (4, .int (x4))] [.int (s0)] := by
  refine y_aload_n C dX0_goesNight_116 0 rfl rfl ?_
  refine y_iconst C dX0_goesNight_117 ic_1 ?_
  refine y_iload C dX0_goesNight_118 2 rfl ?_
  refine y_callRiV (As := [.int (1), .int (x4)]) (rest := [.int (s0)]) C cs_X0_200 (met_o_isHole G A S (1) (x4) _ (h)) (fun _ h => h) (wC_0 ..) rfl rfl ⟨rfl, rfl, Nat.le_of_ble_eq_true rfl, Nat.le_of_ble_eq_true rfl⟩ rfl rfl (Nat.le_of_ble_eq_true rfl) dX0_goesNight_120 ⟨Nat.zero_le _, Nat.zero_le _⟩ (fun r_24 h_25 => ?_)
  refine y_if_eq C (tgt := 130) dX0_goesNight_123 rfl (fun c_27 => ?_) (fun c_27 => ?_)
  · have h_28 := (h_25).1 c_27
    refine y_iconst C dX0_goesNight_130 ic_0 ?_
    exact Y.sub (wk_o_goesNight_b131 C M N (x3) K45 hK45 S (x4) (0) (s0) (h_28)) [0, 1, 2] rfl
  · have h_29 := (h_25).2 c_27
    refine y_iconst C dX0_goesNight_126 ic_1 ?_
    refine y_goto C (tgt := 131) dX0_goesNight_127 rfl ?_
    exact Y.sub (wk_o_goesNight_b131 C M N (x3) K45 hK45 S (x4) (1) (s0) (h_29)) [0, 1, 2] rfl
set_option maxRecDepth 100000 in
theorem wk_o_goesNight_b79 {G : Gx} {K : Kx} {A : Nat → Nat} (C : KOk G K RX0 cX0_goesNight rm_o_goesNight 7 none) {B : Nat → Prop} (M : KM G K B) {Q : St → Prop} (N : KQv G K B (wC G A) Q) (x3 : Int32) (K45 : St → Int32 → Prop) (hK45 : ∀ (S : St) (x4 : Int32), K45 S x4 → Y G K 0 0 (wC G A S) 45 [(0, .ref (A 0)), (3, .int (x3)), (4, .int (x4))] []) (S : St) (x4 : Int32) (x5 : Int32) (s0 : Int32) (s1 : Int32) (h : wp_o_goesNight_b79 Q x3 K45 S x4 x5 s0 s1) : Y G K 0 0 (wC G A S) 79 [(0, .ref (A 0)), (3, .int (x3)), (4, .int (x4)), (5, .int (x5))] [.int (s0), .int (s1), .ref (A 0)] := by
  refine y_iadd C dX0_goesNight_79 ?_
  refine yp_X0_444_wC0 C M dX0_goesNight_80 ?_
  refine y_aload_n C dX0_goesNight_83 0 rfl rfl ?_
  refine y_iconst C dX0_goesNight_84 ic_0 ?_
  refine y_iload C dX0_goesNight_85 2 rfl ?_
  refine y_iload C dX0_goesNight_87 3 rfl ?_
  refine y_callMvV (k' := 0) (n' := 0) (As := [.int (0), .int (x4), .int (x5)]) (rest := []) C M cs_X0_453 (met_o_dances G A (sI S 0 30 (s1 + s0)) (0) (x4) (x5) _ (h)) (wC_0 ..) rfl rfl ⟨rfl, rfl, Nat.le_of_ble_eq_true rfl, Nat.le_of_ble_eq_true rfl⟩ rfl rfl (Nat.le_of_ble_eq_true rfl) dX0_goesNight_89 ⟨Nat.zero_le _, Nat.zero_le _⟩ rfl rfl (fun S_14 h_13 => ?_)
  refine y_aload_n C dX0_goesNight_92 0 rfl rfl ?_
  refine y_iconst C dX0_goesNight_93 ic_1 ?_
  refine y_iload C dX0_goesNight_94 2 rfl ?_
  refine y_iload C dX0_goesNight_96 3 rfl ?_
  refine y_callMvV (k' := 0) (n' := 0) (As := [.int (1), .int (x4), .int (x5)]) (rest := []) C M cs_X0_453 (met_o_dances G A S_14 (1) (x4) (x5) _ (h_13)) (wC_0 ..) rfl rfl ⟨rfl, rfl, Nat.le_of_ble_eq_true rfl, Nat.le_of_ble_eq_true rfl⟩ rfl rfl (Nat.le_of_ble_eq_true rfl) dX0_goesNight_98 ⟨Nat.zero_le _, Nat.zero_le _⟩ rfl rfl (fun S_17 h_16 => ?_)
  refine y_aload_n C dX0_goesNight_101 0 rfl rfl ?_
  refine y_iconst C dX0_goesNight_102 ic_0 ?_
  refine y_iload C dX0_goesNight_103 2 rfl ?_
  refine y_callRiV (As := [.int (0), .int (x4)]) (rest := []) C cs_X0_200 (met_o_isHole G A S_17 (0) (x4) _ (h_16)) (fun _ h => h) (wC_0 ..) rfl rfl ⟨rfl, rfl, Nat.le_of_ble_eq_true rfl, Nat.le_of_ble_eq_true rfl⟩ rfl rfl (Nat.le_of_ble_eq_true rfl) dX0_goesNight_105 ⟨Nat.zero_le _, Nat.zero_le _⟩ (fun r_18 h_19 => ?_)
  refine y_if_eq C (tgt := 115) dX0_goesNight_108 rfl (fun c_21 => ?_) (fun c_21 => ?_)
  · have h_22 := (h_19).1 c_21
    refine y_iconst C dX0_goesNight_115 ic_0 ?_
    exact Y.sub (wk_o_goesNight_b116 C M N (x3) K45 hK45 S_17 (x4) (0) (h_22)) [0, 1, 2] rfl
  · have h_23 := (h_19).2 c_21
    refine y_iconst C dX0_goesNight_111 ic_1 ?_
    refine y_goto C (tgt := 116) dX0_goesNight_112 rfl ?_
    exact Y.sub (wk_o_goesNight_b116 C M N (x3) K45 hK45 S_17 (x4) (1) (h_23)) [0, 1, 2] rfl
set_option maxRecDepth 100000 in
theorem wk_o_goesNight_b45 {G : Gx} {K : Kx} {A : Nat → Nat} (C : KOk G K RX0 cX0_goesNight rm_o_goesNight 7 none) {B : Nat → Prop} (M : KM G K B) {Q : St → Prop} (N : KQv G K B (wC G A) Q) (x3 : Int32) : ∀ (n : Nat), ∀ (S : St) (x4 : Int32), wp_o_goesNight_b45 Q x3 n S x4 → Y G K 0 0 (wC G A S) 45 [(0, .ref (A 0)), (3, .int (x3)), (4, .int (x4))] [] := by
  intro n
  induction n with
  | zero => intro S x4 h; exact h.elim
  | succ n ih =>
    intro S x4 h
    dsimp only [wp_o_goesNight_b45] at h
    refine y_iload C dX0_goesNight_45 2 rfl ?_
    refine y_iload_n C dX0_goesNight_47 1 rfl rfl ?_
    refine y_icmp_ge C (tgt := 170) dX0_goesNight_48 rfl (fun c_3 => ?_) (fun c_3 => ?_)
    · have h_4 := (h).1 c_3
      exact y_vretM C M N rfl (S := S) rfl (h_4) dX0_goesNight_170
    · have h_5 := (h).2 c_3
      refine y_aload_n C dX0_goesNight_51 0 rfl rfl ?_
      refine y_aload_n C dX0_goesNight_52 0 rfl rfl ?_
      refine yg_X0_12_wC0 C dX0_goesNight_53 ?_
      refine yg_X0_399_wC15 C dX0_goesNight_56 ?_
      refine y_callMiV (k' := 0) (n' := 0) (As := [.int ((S.1 15 2))]) (rest := []) C M cs_X0_432 (met_o_draws G A S ((S.1 15 2)) _ (h_5)) (wC_0 ..) rfl rfl ⟨rfl, rfl, Nat.le_of_ble_eq_true rfl, Nat.le_of_ble_eq_true rfl⟩ rfl rfl (Nat.le_of_ble_eq_true rfl) dX0_goesNight_59 ⟨Nat.zero_le _, Nat.zero_le _⟩ rfl rfl (fun r_6 S_8 h_7 => ?_)
      refine y_istore C dX0_goesNight_62 (Nat.le_of_ble_eq_true rfl) [(5, .int (r_6)), (0, .ref (A 0)), (3, .int (x3)), (4, .int (x4))] rfl ?_
      refine y_aload_n C dX0_goesNight_64 1 rfl rfl ?_
      refine y_dup C dX0_goesNight_65 rfl ?_
      refine yg_X0_444_wC0 C dX0_goesNight_66 ?_
      refine y_iload C dX0_goesNight_69 0 rfl ?_
      refine y_if_eq C (tgt := 78) dX0_goesNight_71 rfl (fun c_9 => ?_) (fun c_9 => ?_)
      · have h_10 := (h_7).1 c_9
        refine y_iconst C dX0_goesNight_78 ic_0 ?_
        exact Y.sub (wk_o_goesNight_b79 C M N (x3) (fun Sy y4 => wp_o_goesNight_b45 Q x3 n Sy y4) ih S_8 (x4) (r_6) (0) ((S_8.1 0 30)) (h_10)) [1, 2, 3, 0] rfl
      · have h_11 := (h_7).2 c_9
        refine y_iconst C dX0_goesNight_74 ic_1 ?_
        refine y_goto C (tgt := 79) dX0_goesNight_75 rfl ?_
        exact Y.sub (wk_o_goesNight_b79 C M N (x3) (fun Sy y4 => wp_o_goesNight_b45 Q x3 n Sy y4) ih S_8 (x4) (r_6) (1) ((S_8.1 0 30)) (h_11)) [1, 2, 3, 0] rfl
set_option maxRecDepth 100000 in
theorem met_o_goesNight (G : Gx) (A : Nat → Nat) (S : St) (x1 : Int64) (x3 : Int32) (Q : St → Prop) (h : wp_o_goesNight S x1 x3 Q) : Mv G yX0_goesNight (ws_ yX0_goesNight cX0_goesNight 7 none) rm_o_goesNight (wC G A S) [.ref (A 0), .long (x1), .int (x3)] (wC G A) Q := by
  refine ent_Mv (by decide +kernel) rfl (Nat.le_of_ble_eq_true rfl) [(0, .ref (A 0)), (1, .long (x1)), (3, .int (x3))] rfl (fun K B C M N => ?_)
  refine y_aload_n C dX0_goesNight_0 0 rfl rfl ?_
  refine y_lload_n C dX0_goesNight_1 1 rfl rfl ?_
  refine yp_X0_420_wC0 C M dX0_goesNight_2 ?_
  refine y_aload_n C dX0_goesNight_5 0 rfl rfl ?_
  refine y_iconst C dX0_goesNight_6 ic_0 ?_
  refine yp_X0_438_wC0 C M dX0_goesNight_7 ?_
  refine y_aload_n C dX0_goesNight_10 0 rfl rfl ?_
  refine y_iconst C dX0_goesNight_11 icm1 ?_
  refine yp_X0_441_wC0 C M dX0_goesNight_12 ?_
  refine y_aload_n C dX0_goesNight_15 0 rfl rfl ?_
  refine y_iconst C dX0_goesNight_16 ic_0 ?_
  refine yp_X0_444_wC0 C M dX0_goesNight_17 ?_
  refine y_aload_n C dX0_goesNight_20 0 rfl rfl ?_
  refine y_iconst C dX0_goesNight_21 ic_0 ?_
  refine yp_X0_435_wC0 C M dX0_goesNight_22 ?_
  refine y_aload_n C dX0_goesNight_25 0 rfl rfl ?_
  refine yg_X0_12_wC0 C dX0_goesNight_26 ?_
  refine yg_X0_209_wC15 C dX0_goesNight_29 ?_
  refine y_iconst C dX0_goesNight_32 ic_0 ?_
  refine y_aload_n C dX0_goesNight_33 0 rfl rfl ?_
  refine yg_X0_79_wC0 C dX0_goesNight_34 ?_
  refine y_iconst C dX0_goesNight_37 ic_0 ?_
  refine y_iconst C dX0_goesNight_38 ic_2 ?_
  refine y_copyi C M q1334 (wC_17 ..) (wC_14 ..) (by decide) (by decide) (by decide) tn_0 tn_0 tn_2 (by decide) (by decide) ⟨by decide, by decide⟩ (wC_c14 ..) dX0_goesNight_39 ?_
  refine y_iconst C dX0_goesNight_42 ic_0 ?_
  refine y_istore C dX0_goesNight_43 (Nat.le_of_ble_eq_true rfl) [(4, .int (0)), (0, .ref (A 0)), (1, .long (x1)), (3, .int (x3))] rfl ?_
  obtain ⟨n_1, h_2⟩ := h
  exact Y.sub (wk_o_goesNight_b45 C M N (x3) n_1 (sC (sI (sI (sI (sI (sL S 0 26 x1) 0 28 0) 0 29 (-1)) 0 30 0) 0 31 0) 14 (va_cpy ((sI (sI (sI (sI (sL S 0 26 x1) 0 28 0) 0 29 (-1)) 0 30 0) 0 31 0).1 17) ((sI (sI (sI (sI (sL S 0 26 x1) 0 28 0) 0 29 (-1)) 0 30 0) 0 31 0).1 14) 0 0 2)) (0) h_2) [1, 3, 0] rfl
/-! OverHill drawn(III)I: o_drawn -/
abbrev rm_o_drawn : Room := { frames := 5, cells := 0, slots := 0, locals := 132 }
def wp_o_drawn (S : St) (x1 : Int32) (x2 : Int32) (x3 : Int32) (Q : Int32 → St → Prop) : Prop :=
  wp_o_isNight S (x1) (x2) (fun r_1 => ((r_1 = 0 → Q (-2) S) ∧ (¬ r_1 = 0 → wp_o_isOneOf (x3) (4) (fun r_7 => ((¬ r_7 = 0 → wp_o_goesNight S ((x1).toInt64) (x2) (fun S_14 => ((¬ x3 = 0 → ((¬ x3 = 1 → ((¬ x3 = 2 → Q (S_14.1 0 31) S_14) ∧ (x3 = 2 → Q (S_14.1 0 30) S_14))) ∧ (x3 = 1 → Q (S_14.1 0 29) S_14))) ∧ (x3 = 0 → Q (S_14.1 0 28) S_14)))) ∧ (r_7 = 0 → Q (-2) S))))))
set_option maxRecDepth 100000 in
theorem met_o_drawn (G : Gx) (A : Nat → Nat) (S : St) (x1 : Int32) (x2 : Int32) (x3 : Int32) (Q : Int32 → St → Prop) (h : wp_o_drawn S x1 x2 x3 Q) : Mi G yX0_drawn (ws_ yX0_drawn cX0_drawn 4 (some .int)) rm_o_drawn (wC G A S) [.ref (A 0), .int (x1), .int (x2), .int (x3)] (wC G A) Q := by
  refine ent_Mi (by decide +kernel) rfl (Nat.le_of_ble_eq_true rfl) [(0, .ref (A 0)), (1, .int (x1)), (2, .int (x2)), (3, .int (x3))] rfl (fun K B C M N => ?_)
  refine y_aload_n C dX0_drawn_0 0 rfl rfl ?_
  refine y_iload_n C dX0_drawn_1 1 rfl rfl ?_
  refine y_iload_n C dX0_drawn_2 2 rfl rfl ?_
  refine y_callRiV (As := [.int (x1), .int (x2)]) (rest := []) C cs_X0_460 (met_o_isNight G A S (x1) (x2) _ (h)) (fun _ h => h) (wC_0 ..) rfl rfl ⟨rfl, rfl, Nat.le_of_ble_eq_true rfl, Nat.le_of_ble_eq_true rfl⟩ rfl rfl (Nat.le_of_ble_eq_true rfl) dX0_drawn_3 ⟨Nat.zero_le _, Nat.zero_le _⟩ (fun r_1 h_2 => ?_)
  refine y_if_eq C (tgt := 17) dX0_drawn_6 rfl (fun c_4 => ?_) (fun c_4 => ?_)
  · have h_5 := (h_2).1 c_4
    refine y_bipush C dX0_drawn_17 bpm2 ?_
    exact y_iretM C M N rfl (S := S) rfl (h_5) dX0_drawn_19
  · have h_6 := (h_2).2 c_4
    refine y_iload_n C dX0_drawn_9 3 rfl rfl ?_
    refine y_iconst C dX0_drawn_10 ic_4 ?_
    refine y_callRiS (As := [.int (x3), .int (4)]) (rest := []) C cs_X0_132 (met_o_isOneOf G (x3) (4) _ (h_6)) (fun _ _ => pw_nil) ⟨rfl, rfl, Nat.le_of_ble_eq_true rfl, Nat.le_of_ble_eq_true rfl⟩ rfl rfl (Nat.le_of_ble_eq_true rfl) dX0_drawn_11 ⟨Nat.zero_le _, Nat.zero_le _⟩ (fun r_7 h_8 => ?_)
    refine y_if_ne C (tgt := 20) dX0_drawn_14 rfl (fun c_10 => ?_) (fun c_10 => ?_)
    · have h_11 := (h_8).1 c_10
      refine y_aload_n C dX0_drawn_20 0 rfl rfl ?_
      refine y_iload_n C dX0_drawn_21 1 rfl rfl ?_
      refine y_i2l C dX0_drawn_22 rfl ?_
      refine y_iload_n C dX0_drawn_23 2 rfl rfl ?_
      refine y_callMvV (k' := 0) (n' := 0) (As := [.long ((x1).toInt64), .int (x2)]) (rest := []) C M cs_X0_463 (met_o_goesNight G A S ((x1).toInt64) (x2) _ (h_11)) (wC_0 ..) rfl rfl ⟨rfl, rfl, Nat.le_of_ble_eq_true rfl, Nat.le_of_ble_eq_true rfl⟩ rfl rfl (Nat.le_of_ble_eq_true rfl) dX0_drawn_24 ⟨Nat.zero_le _, Nat.zero_le _⟩ rfl rfl (fun S_14 h_13 => ?_)
      refine y_iload_n C dX0_drawn_27 3 rfl rfl ?_
      refine y_if_ne C (tgt := 38) dX0_drawn_28 rfl (fun c_15 => ?_) (fun c_15 => ?_)
      · have h_16 := (h_13).1 c_15
        refine y_iload_n C dX0_drawn_38 3 rfl rfl ?_
        refine y_iconst C dX0_drawn_39 ic_1 ?_
        refine y_icmp_ne C (tgt := 50) dX0_drawn_40 rfl (fun c_17 => ?_) (fun c_17 => ?_)
        · have h_18 := (h_16).1 c_17
          refine y_iload_n C dX0_drawn_50 3 rfl rfl ?_
          refine y_iconst C dX0_drawn_51 ic_2 ?_
          refine y_icmp_ne C (tgt := 62) dX0_drawn_52 rfl (fun c_19 => ?_) (fun c_19 => ?_)
          · have h_20 := (h_18).1 c_19
            refine y_aload_n C dX0_drawn_62 0 rfl rfl ?_
            refine yg_X0_435_wC0 C dX0_drawn_63 ?_
            exact y_iretM C M N rfl (S := S_14) rfl (h_20) dX0_drawn_66
          · have h_21 := (h_18).2 c_19
            refine y_aload_n C dX0_drawn_55 0 rfl rfl ?_
            refine yg_X0_444_wC0 C dX0_drawn_56 ?_
            refine y_goto C (tgt := 66) dX0_drawn_59 rfl ?_
            exact y_iretM C M N rfl (S := S_14) rfl (h_21) dX0_drawn_66
        · have h_22 := (h_16).2 c_17
          refine y_aload_n C dX0_drawn_43 0 rfl rfl ?_
          refine yg_X0_441_wC0 C dX0_drawn_44 ?_
          refine y_goto C (tgt := 66) dX0_drawn_47 rfl ?_
          exact y_iretM C M N rfl (S := S_14) rfl (h_22) dX0_drawn_66
      · have h_23 := (h_13).2 c_15
        refine y_aload_n C dX0_drawn_31 0 rfl rfl ?_
        refine yg_X0_438_wC0 C dX0_drawn_32 ?_
        refine y_goto C (tgt := 66) dX0_drawn_35 rfl ?_
        exact y_iretM C M N rfl (S := S_14) rfl (h_23) dX0_drawn_66
    · have h_24 := (h_8).2 c_10
      refine y_bipush C dX0_drawn_17 bpm2 ?_
      exact y_iretM C M N rfl (S := S) rfl (h_24) dX0_drawn_19
/-! OverHill nights(III)I: o_nights -/
abbrev rm_o_nights : Room := { frames := 5, cells := 0, slots := 0, locals := 132 }
def wp_o_nights_b30 (Q : Int32 → St → Prop) (x1 : Int32) (x2 : Int32) (x3 : Int32) : Nat → St → Int32 → Int32 → Prop
  | 0 => fun _ _ _ => False
  | n + 1 => fun S x4 x5 => ((x2 ≤ x5 → Q x4 S) ∧ (¬ x2 ≤ x5 → wp_o_goesNight S (((x1).toInt64 + (x5).toInt64)) (x3) (fun S_20 => ((¬ (S_20.1 0 28) = 0 → wp_o_nights_b30 Q x1 x2 x3 n S_20 ((x4 + 0)) ((x5 + 1))) ∧ ((S_20.1 0 28) = 0 → wp_o_nights_b30 Q x1 x2 x3 n S_20 ((x4 + 1)) ((x5 + 1)))))))
def wp_o_nights (S : St) (x1 : Int32) (x2 : Int32) (x3 : Int32) (Q : Int32 → St → Prop) : Prop :=
  wp_o_isNight S (x1) (x3) (fun r_1 => ((r_1 = 0 → Q (-2) S) ∧ (¬ r_1 = 0 → wp_o_isIn ((x2).toInt64) (1) (20) (fun r_7 => ((¬ r_7 = 0 → (∃ z, wp_o_nights_b30 Q (x1) (x2) (x3) z S (0) (0))) ∧ (r_7 = 0 → Q (-2) S))))))
set_option maxRecDepth 100000 in
theorem wk_o_nights_b30 {G : Gx} {K : Kx} {A : Nat → Nat} (C : KOk G K RX0 cX0_nights rm_o_nights 6 (some .int)) {B : Nat → Prop} (M : KM G K B) {Q : Int32 → St → Prop} (N : KQi G K B (wC G A) Q) (x1 : Int32) (x2 : Int32) (x3 : Int32) : ∀ (n : Nat), ∀ (S : St) (x4 : Int32) (x5 : Int32), wp_o_nights_b30 Q x1 x2 x3 n S x4 x5 → Y G K 0 0 (wC G A S) 30 [(0, .ref (A 0)), (1, .int (x1)), (2, .int (x2)), (3, .int (x3)), (4, .int (x4)), (5, .int (x5))] [] := by
  intro n
  induction n with
  | zero => intro S x4 x5 h; exact h.elim
  | succ n ih =>
    intro S x4 x5 h
    dsimp only [wp_o_nights_b30] at h
    refine y_iload C dX0_nights_30 5 rfl ?_
    refine y_iload_n C dX0_nights_32 2 rfl rfl ?_
    refine y_icmp_ge C (tgt := 70) dX0_nights_33 rfl (fun c_15 => ?_) (fun c_15 => ?_)
    · have h_16 := (h).1 c_15
      refine y_iload C dX0_nights_70 4 rfl ?_
      exact y_iretM C M N rfl (S := S) rfl (h_16) dX0_nights_72
    · have h_17 := (h).2 c_15
      refine y_aload_n C dX0_nights_36 0 rfl rfl ?_
      refine y_iload_n C dX0_nights_37 1 rfl rfl ?_
      refine y_i2l C dX0_nights_38 rfl ?_
      refine y_iload C dX0_nights_39 5 rfl ?_
      refine y_i2l C dX0_nights_41 rfl ?_
      refine y_ladd C dX0_nights_42 ?_
      refine y_iload_n C dX0_nights_43 3 rfl rfl ?_
      refine y_callMvV (k' := 0) (n' := 0) (As := [.long (((x1).toInt64 + (x5).toInt64)), .int (x3)]) (rest := []) C M cs_X0_463 (met_o_goesNight G A S (((x1).toInt64 + (x5).toInt64)) (x3) _ (h_17)) (wC_0 ..) rfl rfl ⟨rfl, rfl, Nat.le_of_ble_eq_true rfl, Nat.le_of_ble_eq_true rfl⟩ rfl rfl (Nat.le_of_ble_eq_true rfl) dX0_nights_44 ⟨Nat.zero_le _, Nat.zero_le _⟩ rfl rfl (fun S_20 h_19 => ?_)
      refine y_iload C dX0_nights_47 4 rfl ?_
      refine y_aload_n C dX0_nights_49 0 rfl rfl ?_
      refine yg_X0_438_wC0 C dX0_nights_50 ?_
      refine y_if_ne C (tgt := 60) dX0_nights_53 rfl (fun c_21 => ?_) (fun c_21 => ?_)
      · have h_22 := (h_19).1 c_21
        refine y_iconst C dX0_nights_60 ic_0 ?_
        refine y_iadd C dX0_nights_61 ?_
        refine y_istore C dX0_nights_62 (Nat.le_of_ble_eq_true rfl) [(4, .int ((x4 + 0))), (0, .ref (A 0)), (1, .int (x1)), (2, .int (x2)), (3, .int (x3)), (5, .int (x5))] rfl ?_
        refine y_iinc C dX0_nights_64 5 rfl (Nat.le_of_ble_eq_true rfl) (ii_1 _) [(5, .int ((x5 + 1))), (4, .int ((x4 + 0))), (0, .ref (A 0)), (1, .int (x1)), (2, .int (x2)), (3, .int (x3))] rfl ?_
        refine y_goto C (tgt := 30) dX0_nights_67 rfl ?_
        exact Y.sub (ih S_20 ((x4 + 0)) ((x5 + 1)) (h_22)) [2, 3, 4, 5, 1, 0] rfl
      · have h_23 := (h_19).2 c_21
        refine y_iconst C dX0_nights_56 ic_1 ?_
        refine y_goto C (tgt := 61) dX0_nights_57 rfl ?_
        refine y_iadd C dX0_nights_61 ?_
        refine y_istore C dX0_nights_62 (Nat.le_of_ble_eq_true rfl) [(4, .int ((x4 + 1))), (0, .ref (A 0)), (1, .int (x1)), (2, .int (x2)), (3, .int (x3)), (5, .int (x5))] rfl ?_
        refine y_iinc C dX0_nights_64 5 rfl (Nat.le_of_ble_eq_true rfl) (ii_1 _) [(5, .int ((x5 + 1))), (4, .int ((x4 + 1))), (0, .ref (A 0)), (1, .int (x1)), (2, .int (x2)), (3, .int (x3))] rfl ?_
        refine y_goto C (tgt := 30) dX0_nights_67 rfl ?_
        exact Y.sub (ih S_20 ((x4 + 1)) ((x5 + 1)) (h_23)) [2, 3, 4, 5, 1, 0] rfl
set_option maxRecDepth 100000 in
theorem met_o_nights (G : Gx) (A : Nat → Nat) (S : St) (x1 : Int32) (x2 : Int32) (x3 : Int32) (Q : Int32 → St → Prop) (h : wp_o_nights S x1 x2 x3 Q) : Mi G yX0_nights (ws_ yX0_nights cX0_nights 6 (some .int)) rm_o_nights (wC G A S) [.ref (A 0), .int (x1), .int (x2), .int (x3)] (wC G A) Q := by
  refine ent_Mi (by decide +kernel) rfl (Nat.le_of_ble_eq_true rfl) [(0, .ref (A 0)), (1, .int (x1)), (2, .int (x2)), (3, .int (x3))] rfl (fun K B C M N => ?_)
  refine y_aload_n C dX0_nights_0 0 rfl rfl ?_
  refine y_iload_n C dX0_nights_1 1 rfl rfl ?_
  refine y_iload_n C dX0_nights_2 3 rfl rfl ?_
  refine y_callRiV (As := [.int (x1), .int (x3)]) (rest := []) C cs_X0_460 (met_o_isNight G A S (x1) (x3) _ (h)) (fun _ h => h) (wC_0 ..) rfl rfl ⟨rfl, rfl, Nat.le_of_ble_eq_true rfl, Nat.le_of_ble_eq_true rfl⟩ rfl rfl (Nat.le_of_ble_eq_true rfl) dX0_nights_3 ⟨Nat.zero_le _, Nat.zero_le _⟩ (fun r_1 h_2 => ?_)
  refine y_if_eq C (tgt := 21) dX0_nights_6 rfl (fun c_4 => ?_) (fun c_4 => ?_)
  · have h_5 := (h_2).1 c_4
    refine y_bipush C dX0_nights_21 bpm2 ?_
    exact y_iretM C M N rfl (S := S) rfl (h_5) dX0_nights_23
  · have h_6 := (h_2).2 c_4
    refine y_iload_n C dX0_nights_9 2 rfl rfl ?_
    refine y_i2l C dX0_nights_10 rfl ?_
    refine y_lconst C dX0_nights_11 lc_1 ?_
    refine y_ldc2 C dX0_nights_12 q1353 ?_
    refine y_callRiS (As := [.long ((x2).toInt64), .long (1), .long (20)]) (rest := []) C cs_X0_103 (met_o_isIn G ((x2).toInt64) (1) (20) _ (h_6)) (fun _ _ => pw_nil) ⟨rfl, rfl, Nat.le_of_ble_eq_true rfl, Nat.le_of_ble_eq_true rfl⟩ rfl rfl (Nat.le_of_ble_eq_true rfl) dX0_nights_15 ⟨Nat.zero_le _, Nat.zero_le _⟩ (fun r_7 h_8 => ?_)
    refine y_if_ne C (tgt := 24) dX0_nights_18 rfl (fun c_10 => ?_) (fun c_10 => ?_)
    · have h_11 := (h_8).1 c_10
      refine y_iconst C dX0_nights_24 ic_0 ?_
      refine y_istore C dX0_nights_25 (Nat.le_of_ble_eq_true rfl) [(4, .int (0)), (0, .ref (A 0)), (1, .int (x1)), (2, .int (x2)), (3, .int (x3))] rfl ?_
      refine y_iconst C dX0_nights_27 ic_0 ?_
      refine y_istore C dX0_nights_28 (Nat.le_of_ble_eq_true rfl) [(5, .int (0)), (4, .int (0)), (0, .ref (A 0)), (1, .int (x1)), (2, .int (x2)), (3, .int (x3))] rfl ?_
      obtain ⟨n_12, h_13⟩ := h_11
      exact Y.sub (wk_o_nights_b30 C M N (x1) (x2) (x3) n_12 S (0) (0) h_13) [2, 3, 4, 5, 1, 0] rfl
    · have h_14 := (h_8).2 c_10
      refine y_bipush C dX0_nights_21 bpm2 ?_
      exact y_iretM C M N rfl (S := S) rfl (h_14) dX0_nights_23
/-! OverHill keeps(III)V: o_keeps -/
abbrev rm_o_keeps : Room := { frames := 1, cells := 0, slots := 0, locals := 40 }
def wp_o_keeps (S : St) (x1 : Int32) (x2 : Int32) (x3 : Int32) (Q : St → Prop) : Prop :=
  (vp_in (S.1 15 7) 40 ∧ Q (sI (sI S 28 ((S.1 15 7)).toNatClampNeg (((100000 * x1) + (10 * x2)) + x3)) 15 7 (((sI S 28 ((S.1 15 7)).toNatClampNeg (((100000 * x1) + (10 * x2)) + x3)).1 15 7) + 1)))
set_option maxRecDepth 100000 in
theorem met_o_keeps (G : Gx) (A : Nat → Nat) (S : St) (x1 : Int32) (x2 : Int32) (x3 : Int32) (Q : St → Prop) (h : wp_o_keeps S x1 x2 x3 Q) : Mv G yX0_keeps (ws_ yX0_keeps cX0_keeps 4 none) rm_o_keeps (wC G A S) [.ref (A 0), .int (x1), .int (x2), .int (x3)] (wC G A) Q := by
  refine ent_Mv (by decide +kernel) rfl (Nat.le_of_ble_eq_true rfl) [(0, .ref (A 0)), (1, .int (x1)), (2, .int (x2)), (3, .int (x3))] rfl (fun K B C M N => ?_)
  refine y_aload_n C dX0_keeps_0 0 rfl rfl ?_
  refine yg_X0_12_wC0 C dX0_keeps_1 ?_
  refine yg_X0_469_wC15 C dX0_keeps_4 ?_
  refine y_aload_n C dX0_keeps_7 0 rfl rfl ?_
  refine yg_X0_12_wC0 C dX0_keeps_8 ?_
  refine yg_X0_472_wC15 C dX0_keeps_11 ?_
  refine y_ldcw C dX0_keeps_14 q1363 ?_
  refine y_iload_n C dX0_keeps_17 1 rfl rfl ?_
  refine y_imul C dX0_keeps_18 ?_
  refine y_bipush C dX0_keeps_19 bp_10 ?_
  refine y_iload_n C dX0_keeps_21 2 rfl rfl ?_
  refine y_imul C dX0_keeps_22 ?_
  refine y_iadd C dX0_keeps_23 ?_
  refine y_iload_n C dX0_keeps_24 3 rfl rfl ?_
  refine y_iadd C dX0_keeps_25 ?_
  refine y_iast C M (wC_28 ..) rfl (wC_s28 ..) (h).1 dX0_keeps_26 ?_
  refine y_aload_n C dX0_keeps_27 0 rfl rfl ?_
  refine yg_X0_12_wC0 C dX0_keeps_28 ?_
  refine y_dup C dX0_keeps_31 rfl ?_
  refine yg_X0_472_wC15 C dX0_keeps_32 ?_
  refine y_iconst C dX0_keeps_35 ic_1 ?_
  refine y_iadd C dX0_keeps_36 ?_
  refine yp_X0_472_wC15 C M dX0_keeps_37 ?_
  exact y_vretM C M N rfl (S := (sI (sI S 28 ((S.1 15 7)).toNatClampNeg (((100000 * x1) + (10 * x2)) + x3)) 15 7 (((sI S 28 ((S.1 15 7)).toNatClampNeg (((100000 * x1) + (10 * x2)) + x3)).1 15 7) + 1))) rfl ((h).2) dX0_keeps_40
/-! OverHill stumble(IIII)I: o_stumble -/
abbrev rm_o_stumble : Room := { frames := 4, cells := 0, slots := 0, locals := 107 }
def wp_o_stumble (S : St) (x1 : Int32) (x2 : Int32) (x3 : Int32) (x4 : Int32) (Q : Int32 → St → Prop) : Prop :=
  wp_o_isSide S (x1) (fun r_1 => ((r_1 = 0 → Q (-2) S) ∧ (¬ r_1 = 0 → wp_o_isBeat S ((x2).toInt64) (fun r_7 => ((r_7 = 0 → Q (-2) S) ∧ (¬ r_7 = 0 → wp_o_isStep S ((x3).toInt64) (fun r_13 => ((r_13 = 0 → Q (-2) S) ∧ (¬ r_13 = 0 → wp_o_isIn ((x4).toInt64) (0) (9) (fun r_19 => ((¬ r_19 = 0 → (((S.1 15 4) = 8 → Q (-5) S) ∧ (¬ (S.1 15 4) = 8 → wp_d_stumbleAt S (x1) (x2) (fun r_27 => ((¬ r_27 = (-1) → Q (-5) S) ∧ (r_27 = (-1) → ((¬ (S.1 15 7) = 40 → wp_o_keeps S (0) (0) (0) (fun S_37 => (vp_in (S.1 15 4) 8 ∧ (vp_in (S.1 15 4) 8 ∧ (vp_in (S.1 15 4) 8 ∧ (vp_in (S.1 15 4) 8 ∧ Q (S.1 15 4) (sI (sI (sI (sI (sI S_37 20 ((S.1 15 4)).toNatClampNeg x1) 21 ((S.1 15 4)).toNatClampNeg x2) 22 ((S.1 15 4)).toNatClampNeg x3) 23 ((S.1 15 4)).toNatClampNeg x4) 15 4 (((sI (sI (sI (sI S_37 20 ((S.1 15 4)).toNatClampNeg x1) 21 ((S.1 15 4)).toNatClampNeg x2) 22 ((S.1 15 4)).toNatClampNeg x3) 23 ((S.1 15 4)).toNatClampNeg x4).1 15 4) + 1)))))))) ∧ ((S.1 15 7) = 40 → Q (-5) S)))))))) ∧ (r_19 = 0 → Q (-2) S))))))))))))
set_option maxRecDepth 100000 in
theorem met_o_stumble (G : Gx) (A : Nat → Nat) (S : St) (x1 : Int32) (x2 : Int32) (x3 : Int32) (x4 : Int32) (Q : Int32 → St → Prop) (h : wp_o_stumble S x1 x2 x3 x4 Q) : Mi G yX0_stumble (ws_ yX0_stumble cX0_stumble 6 (some .int)) rm_o_stumble (wC G A S) [.ref (A 0), .int (x1), .int (x2), .int (x3), .int (x4)] (wC G A) Q := by
  refine ent_Mi (by decide +kernel) rfl (Nat.le_of_ble_eq_true rfl) [(0, .ref (A 0)), (1, .int (x1)), (2, .int (x2)), (3, .int (x3)), (4, .int (x4))] rfl (fun K B C M N => ?_)
  refine y_aload_n C dX0_stumble_0 0 rfl rfl ?_
  refine y_iload_n C dX0_stumble_1 1 rfl rfl ?_
  refine y_callRiV (As := [.int (x1)]) (rest := []) C cs_X0_140 (met_o_isSide G A S (x1) _ (h)) (fun _ h => h) (wC_0 ..) rfl rfl ⟨rfl, rfl, Nat.le_of_ble_eq_true rfl, Nat.le_of_ble_eq_true rfl⟩ rfl rfl (Nat.le_of_ble_eq_true rfl) dX0_stumble_2 ⟨Nat.zero_le _, Nat.zero_le _⟩ (fun r_1 h_2 => ?_)
  refine y_if_eq C (tgt := 39) dX0_stumble_5 rfl (fun c_4 => ?_) (fun c_4 => ?_)
  · have h_5 := (h_2).1 c_4
    refine y_bipush C dX0_stumble_39 bpm2 ?_
    exact y_iretM C M N rfl (S := S) rfl (h_5) dX0_stumble_41
  · have h_6 := (h_2).2 c_4
    refine y_aload_n C dX0_stumble_8 0 rfl rfl ?_
    refine y_iload_n C dX0_stumble_9 2 rfl rfl ?_
    refine y_i2l C dX0_stumble_10 rfl ?_
    refine y_callRiV (As := [.long ((x2).toInt64)]) (rest := []) C cs_X0_181 (met_o_isBeat G A S ((x2).toInt64) _ (h_6)) (fun _ h => h) (wC_0 ..) rfl rfl ⟨rfl, rfl, Nat.le_of_ble_eq_true rfl, Nat.le_of_ble_eq_true rfl⟩ rfl rfl (Nat.le_of_ble_eq_true rfl) dX0_stumble_11 ⟨Nat.zero_le _, Nat.zero_le _⟩ (fun r_7 h_8 => ?_)
    refine y_if_eq C (tgt := 39) dX0_stumble_14 rfl (fun c_10 => ?_) (fun c_10 => ?_)
    · have h_11 := (h_8).1 c_10
      refine y_bipush C dX0_stumble_39 bpm2 ?_
      exact y_iretM C M N rfl (S := S) rfl (h_11) dX0_stumble_41
    · have h_12 := (h_8).2 c_10
      refine y_aload_n C dX0_stumble_17 0 rfl rfl ?_
      refine y_iload_n C dX0_stumble_18 3 rfl rfl ?_
      refine y_i2l C dX0_stumble_19 rfl ?_
      refine y_callRiV (As := [.long ((x3).toInt64)]) (rest := []) C cs_X0_159 (met_o_isStep G A S ((x3).toInt64) _ (h_12)) (fun _ h => h) (wC_0 ..) rfl rfl ⟨rfl, rfl, Nat.le_of_ble_eq_true rfl, Nat.le_of_ble_eq_true rfl⟩ rfl rfl (Nat.le_of_ble_eq_true rfl) dX0_stumble_20 ⟨Nat.zero_le _, Nat.zero_le _⟩ (fun r_13 h_14 => ?_)
      refine y_if_eq C (tgt := 39) dX0_stumble_23 rfl (fun c_16 => ?_) (fun c_16 => ?_)
      · have h_17 := (h_14).1 c_16
        refine y_bipush C dX0_stumble_39 bpm2 ?_
        exact y_iretM C M N rfl (S := S) rfl (h_17) dX0_stumble_41
      · have h_18 := (h_14).2 c_16
        refine y_iload C dX0_stumble_26 4 rfl ?_
        refine y_i2l C dX0_stumble_28 rfl ?_
        refine y_lconst C dX0_stumble_29 lc_0 ?_
        refine y_ldc2 C dX0_stumble_30 q1299 ?_
        refine y_callRiS (As := [.long ((x4).toInt64), .long (0), .long (9)]) (rest := []) C cs_X0_103 (met_o_isIn G ((x4).toInt64) (0) (9) _ (h_18)) (fun _ _ => pw_nil) ⟨rfl, rfl, Nat.le_of_ble_eq_true rfl, Nat.le_of_ble_eq_true rfl⟩ rfl rfl (Nat.le_of_ble_eq_true rfl) dX0_stumble_33 ⟨Nat.zero_le _, Nat.zero_le _⟩ (fun r_19 h_20 => ?_)
        refine y_if_ne C (tgt := 42) dX0_stumble_36 rfl (fun c_22 => ?_) (fun c_22 => ?_)
        · have h_23 := (h_20).1 c_22
          refine y_aload_n C dX0_stumble_42 0 rfl rfl ?_
          refine yg_X0_12_wC0 C dX0_stumble_43 ?_
          refine yg_X0_147_wC15 C dX0_stumble_46 ?_
          refine y_istore C dX0_stumble_49 (Nat.le_of_ble_eq_true rfl) [(5, .int ((S.1 15 4))), (0, .ref (A 0)), (1, .int (x1)), (2, .int (x2)), (3, .int (x3)), (4, .int (x4))] rfl ?_
          refine y_iload C dX0_stumble_51 0 rfl ?_
          refine y_bipush C dX0_stumble_53 bp_8 ?_
          refine y_icmp_eq C (tgt := 83) dX0_stumble_55 rfl (fun c_24 => ?_) (fun c_24 => ?_)
          · have h_25 := (h_23).1 c_24
            refine y_bipush C dX0_stumble_83 bpm5 ?_
            exact y_iretM C M N rfl (S := S) rfl (h_25) dX0_stumble_85
          · have h_26 := (h_23).2 c_24
            refine y_aload_n C dX0_stumble_58 1 rfl rfl ?_
            refine yg_X0_12_wC0 C dX0_stumble_59 ?_
            refine y_iload_n C dX0_stumble_62 2 rfl rfl ?_
            refine y_iload_n C dX0_stumble_63 3 rfl rfl ?_
            refine y_callRiV (As := [.int (x1), .int (x2)]) (rest := []) C cs_X0_476 (met_d_stumbleAt G A S (x1) (x2) _ (h_26)) (fun _ h => wC_D h) (wC_15 ..) rfl rfl ⟨rfl, rfl, Nat.le_of_ble_eq_true rfl, Nat.le_of_ble_eq_true rfl⟩ rfl rfl (Nat.le_of_ble_eq_true rfl) dX0_stumble_64 ⟨Nat.zero_le _, Nat.zero_le _⟩ (fun r_27 h_28 => ?_)
            refine y_iconst C dX0_stumble_67 icm1 ?_
            refine y_icmp_ne C (tgt := 83) dX0_stumble_68 rfl (fun c_30 => ?_) (fun c_30 => ?_)
            · have h_31 := (h_28).1 c_30
              refine y_bipush C dX0_stumble_83 bpm5 ?_
              exact y_iretM C M N rfl (S := S) rfl (h_31) dX0_stumble_85
            · have h_32 := (h_28).2 c_30
              refine y_aload_n C dX0_stumble_71 1 rfl rfl ?_
              refine yg_X0_12_wC0 C dX0_stumble_72 ?_
              refine yg_X0_472_wC15 C dX0_stumble_75 ?_
              refine y_bipush C dX0_stumble_78 bp_40 ?_
              refine y_icmp_ne C (tgt := 86) dX0_stumble_80 rfl (fun c_33 => ?_) (fun c_33 => ?_)
              · have h_34 := (h_32).1 c_33
                refine y_aload_n C dX0_stumble_86 1 rfl rfl ?_
                refine y_iconst C dX0_stumble_87 ic_0 ?_
                refine y_iconst C dX0_stumble_88 ic_0 ?_
                refine y_iconst C dX0_stumble_89 ic_0 ?_
                refine y_callMvV (k' := 0) (n' := 0) (As := [.int (0), .int (0), .int (0)]) (rest := []) C M cs_X0_479 (met_o_keeps G A S (0) (0) (0) _ (h_34)) (wC_0 ..) rfl rfl ⟨rfl, rfl, Nat.le_of_ble_eq_true rfl, Nat.le_of_ble_eq_true rfl⟩ rfl rfl (Nat.le_of_ble_eq_true rfl) dX0_stumble_90 ⟨Nat.zero_le _, Nat.zero_le _⟩ rfl rfl (fun S_37 h_36 => ?_)
                refine y_aload_n C dX0_stumble_93 1 rfl rfl ?_
                refine yg_X0_12_wC0 C dX0_stumble_94 ?_
                refine yg_X0_169_wC15 C dX0_stumble_97 ?_
                refine y_iload C dX0_stumble_100 0 rfl ?_
                refine y_iload_n C dX0_stumble_102 2 rfl rfl ?_
                refine y_iast C M (wC_20 ..) rfl (wC_s20 ..) (h_36).1 dX0_stumble_103 ?_
                refine y_aload_n C dX0_stumble_104 1 rfl rfl ?_
                refine yg_X0_12_wC0 C dX0_stumble_105 ?_
                refine yg_X0_172_wC15 C dX0_stumble_108 ?_
                refine y_iload C dX0_stumble_111 0 rfl ?_
                refine y_iload_n C dX0_stumble_113 3 rfl rfl ?_
                refine y_iast C M (wC_21 ..) rfl (wC_s21 ..) ((h_36).2).1 dX0_stumble_114 ?_
                refine y_aload_n C dX0_stumble_115 1 rfl rfl ?_
                refine yg_X0_12_wC0 C dX0_stumble_116 ?_
                refine yg_X0_175_wC15 C dX0_stumble_119 ?_
                refine y_iload C dX0_stumble_122 0 rfl ?_
                refine y_iload_n C dX0_stumble_124 4 rfl rfl ?_
                refine y_iast C M (wC_22 ..) rfl (wC_s22 ..) (((h_36).2).2).1 dX0_stumble_125 ?_
                refine y_aload_n C dX0_stumble_126 1 rfl rfl ?_
                refine yg_X0_12_wC0 C dX0_stumble_127 ?_
                refine yg_X0_178_wC15 C dX0_stumble_130 ?_
                refine y_iload C dX0_stumble_133 0 rfl ?_
                refine y_iload C dX0_stumble_135 5 rfl ?_
                refine y_iast C M (wC_23 ..) rfl (wC_s23 ..) ((((h_36).2).2).2).1 dX0_stumble_137 ?_
                refine y_aload_n C dX0_stumble_138 1 rfl rfl ?_
                refine yg_X0_12_wC0 C dX0_stumble_139 ?_
                refine y_dup C dX0_stumble_142 rfl ?_
                refine yg_X0_147_wC15 C dX0_stumble_143 ?_
                refine y_iconst C dX0_stumble_146 ic_1 ?_
                refine y_iadd C dX0_stumble_147 ?_
                refine yp_X0_147_wC15 C M dX0_stumble_148 ?_
                refine y_iload C dX0_stumble_151 0 rfl ?_
                exact y_iretM C M N rfl (S := (sI (sI (sI (sI (sI S_37 20 ((S.1 15 4)).toNatClampNeg x1) 21 ((S.1 15 4)).toNatClampNeg x2) 22 ((S.1 15 4)).toNatClampNeg x3) 23 ((S.1 15 4)).toNatClampNeg x4) 15 4 (((sI (sI (sI (sI S_37 20 ((S.1 15 4)).toNatClampNeg x1) 21 ((S.1 15 4)).toNatClampNeg x2) 22 ((S.1 15 4)).toNatClampNeg x3) 23 ((S.1 15 4)).toNatClampNeg x4).1 15 4) + 1))) rfl (((((h_36).2).2).2).2) dX0_stumble_153
              · have h_38 := (h_32).2 c_33
                refine y_bipush C dX0_stumble_83 bpm5 ?_
                exact y_iretM C M N rfl (S := S) rfl (h_38) dX0_stumble_85
        · have h_39 := (h_20).2 c_22
          refine y_bipush C dX0_stumble_39 bpm2 ?_
          exact y_iretM C M N rfl (S := S) rfl (h_39) dX0_stumble_41
/-! OverHill mud(II)I: o_mud -/
abbrev rm_o_mud : Room := { frames := 3, cells := 0, slots := 0, locals := 87 }
def wp_o_mud_b52 (Q : Int32 → St → Prop) (x1 : Int32) (x2 : Int32) (S : St) (s0 : Int32) : Prop :=
  wp_o_keeps S (1) (x1) (s0) (fun S_21 => ((¬ x2 = 1 → (vp_in x1 200 ∧ Q s0 (sI S_21 29 (x1).toNatClampNeg (vp_nar .boolean 0)))) ∧ (x2 = 1 → (vp_in x1 200 ∧ Q s0 (sI S_21 29 (x1).toNatClampNeg (vp_nar .boolean 1))))))
def wp_o_mud (S : St) (x1 : Int32) (x2 : Int32) (Q : Int32 → St → Prop) : Prop :=
  wp_o_isBeat S ((x1).toInt64) (fun r_1 => ((r_1 = 0 → Q (-2) S) ∧ (¬ r_1 = 0 → wp_o_isOneOf (x2) (2) (fun r_7 => ((¬ r_7 = 0 → ((¬ (S.1 15 7) = 40 → (vp_in x1 200 ∧ (((S.1 29 (x1).toNatClampNeg) = 0 → wp_o_mud_b52 Q (x1) (x2) S (0)) ∧ (¬ (S.1 29 (x1).toNatClampNeg) = 0 → wp_o_mud_b52 Q (x1) (x2) S (1))))) ∧ ((S.1 15 7) = 40 → Q (-5) S))) ∧ (r_7 = 0 → Q (-2) S))))))
set_option maxRecDepth 100000 in
theorem wk_o_mud_b52 {G : Gx} {K : Kx} {A : Nat → Nat} (C : KOk G K RX0 cX0_mud rm_o_mud 4 (some .int)) {B : Nat → Prop} (M : KM G K B) {Q : Int32 → St → Prop} (N : KQi G K B (wC G A) Q) (x1 : Int32) (x2 : Int32) (S : St) (s0 : Int32) (h : wp_o_mud_b52 Q x1 x2 S s0) : Y G K 0 0 (wC G A S) 52 [(0, .ref (A 0)), (1, .int (x1)), (2, .int (x2))] [.int (s0)] := by
  refine y_istore_n C dX0_mud_52 rfl (Nat.le_of_ble_eq_true rfl) [(3, .int (s0)), (0, .ref (A 0)), (1, .int (x1)), (2, .int (x2))] rfl ?_
  refine y_aload_n C dX0_mud_53 1 rfl rfl ?_
  refine y_iconst C dX0_mud_54 ic_1 ?_
  refine y_iload_n C dX0_mud_55 2 rfl rfl ?_
  refine y_iload_n C dX0_mud_56 0 rfl rfl ?_
  refine y_callMvV (k' := 0) (n' := 0) (As := [.int (1), .int (x1), .int (s0)]) (rest := []) C M cs_X0_479 (met_o_keeps G A S (1) (x1) (s0) _ (h)) (wC_0 ..) rfl rfl ⟨rfl, rfl, Nat.le_of_ble_eq_true rfl, Nat.le_of_ble_eq_true rfl⟩ rfl rfl (Nat.le_of_ble_eq_true rfl) dX0_mud_57 ⟨Nat.zero_le _, Nat.zero_le _⟩ rfl rfl (fun S_21 h_20 => ?_)
  refine y_aload_n C dX0_mud_60 1 rfl rfl ?_
  refine yg_X0_12_wC0 C dX0_mud_61 ?_
  refine yg_X0_184_wC15 C dX0_mud_64 ?_
  refine y_iload_n C dX0_mud_67 2 rfl rfl ?_
  refine y_iload_n C dX0_mud_68 3 rfl rfl ?_
  refine y_iconst C dX0_mud_69 ic_1 ?_
  refine y_icmp_ne C (tgt := 77) dX0_mud_70 rfl (fun c_22 => ?_) (fun c_22 => ?_)
  · have h_23 := (h_20).1 c_22
    refine y_iconst C dX0_mud_77 ic_0 ?_
    refine y_zast C M (wC_29 ..) rfl (wC_s29 ..) (h_23).1 dX0_mud_78 ?_
    refine y_iload_n C dX0_mud_79 0 rfl rfl ?_
    exact y_iretM C M N rfl (S := (sI S_21 29 (x1).toNatClampNeg (vp_nar .boolean 0))) rfl ((h_23).2) dX0_mud_80
  · have h_24 := (h_20).2 c_22
    refine y_iconst C dX0_mud_73 ic_1 ?_
    refine y_goto C (tgt := 78) dX0_mud_74 rfl ?_
    refine y_zast C M (wC_29 ..) rfl (wC_s29 ..) (h_24).1 dX0_mud_78 ?_
    refine y_iload_n C dX0_mud_79 0 rfl rfl ?_
    exact y_iretM C M N rfl (S := (sI S_21 29 (x1).toNatClampNeg (vp_nar .boolean 1))) rfl ((h_24).2) dX0_mud_80
set_option maxRecDepth 100000 in
theorem met_o_mud (G : Gx) (A : Nat → Nat) (S : St) (x1 : Int32) (x2 : Int32) (Q : Int32 → St → Prop) (h : wp_o_mud S x1 x2 Q) : Mi G yX0_mud (ws_ yX0_mud cX0_mud 4 (some .int)) rm_o_mud (wC G A S) [.ref (A 0), .int (x1), .int (x2)] (wC G A) Q := by
  refine ent_Mi (by decide +kernel) rfl (Nat.le_of_ble_eq_true rfl) [(0, .ref (A 0)), (1, .int (x1)), (2, .int (x2))] rfl (fun K B C M N => ?_)
  refine y_aload_n C dX0_mud_0 0 rfl rfl ?_
  refine y_iload_n C dX0_mud_1 1 rfl rfl ?_
  refine y_i2l C dX0_mud_2 rfl ?_
  refine y_callRiV (As := [.long ((x1).toInt64)]) (rest := []) C cs_X0_181 (met_o_isBeat G A S ((x1).toInt64) _ (h)) (fun _ h => h) (wC_0 ..) rfl rfl ⟨rfl, rfl, Nat.le_of_ble_eq_true rfl, Nat.le_of_ble_eq_true rfl⟩ rfl rfl (Nat.le_of_ble_eq_true rfl) dX0_mud_3 ⟨Nat.zero_le _, Nat.zero_le _⟩ (fun r_1 h_2 => ?_)
  refine y_if_eq C (tgt := 17) dX0_mud_6 rfl (fun c_4 => ?_) (fun c_4 => ?_)
  · have h_5 := (h_2).1 c_4
    refine y_bipush C dX0_mud_17 bpm2 ?_
    exact y_iretM C M N rfl (S := S) rfl (h_5) dX0_mud_19
  · have h_6 := (h_2).2 c_4
    refine y_iload_n C dX0_mud_9 2 rfl rfl ?_
    refine y_iconst C dX0_mud_10 ic_2 ?_
    refine y_callRiS (As := [.int (x2), .int (2)]) (rest := []) C cs_X0_132 (met_o_isOneOf G (x2) (2) _ (h_6)) (fun _ _ => pw_nil) ⟨rfl, rfl, Nat.le_of_ble_eq_true rfl, Nat.le_of_ble_eq_true rfl⟩ rfl rfl (Nat.le_of_ble_eq_true rfl) dX0_mud_11 ⟨Nat.zero_le _, Nat.zero_le _⟩ (fun r_7 h_8 => ?_)
    refine y_if_ne C (tgt := 20) dX0_mud_14 rfl (fun c_10 => ?_) (fun c_10 => ?_)
    · have h_11 := (h_8).1 c_10
      refine y_aload_n C dX0_mud_20 0 rfl rfl ?_
      refine yg_X0_12_wC0 C dX0_mud_21 ?_
      refine yg_X0_472_wC15 C dX0_mud_24 ?_
      refine y_bipush C dX0_mud_27 bp_40 ?_
      refine y_icmp_ne C (tgt := 35) dX0_mud_29 rfl (fun c_12 => ?_) (fun c_12 => ?_)
      · have h_13 := (h_11).1 c_12
        refine y_aload_n C dX0_mud_35 0 rfl rfl ?_
        refine yg_X0_12_wC0 C dX0_mud_36 ?_
        refine yg_X0_184_wC15 C dX0_mud_39 ?_
        refine y_iload_n C dX0_mud_42 1 rfl rfl ?_
        refine y_zald C (wC_29 ..) rfl (h_13).1 dX0_mud_43 ?_
        refine y_if_eq C (tgt := 51) dX0_mud_44 rfl (fun c_14 => ?_) (fun c_14 => ?_)
        · have h_15 := ((h_13).2).1 c_14
          refine y_iconst C dX0_mud_51 ic_0 ?_
          exact Y.sub (wk_o_mud_b52 C M N (x1) (x2) S (0) (h_15)) [0, 1, 2] rfl
        · have h_16 := ((h_13).2).2 c_14
          refine y_iconst C dX0_mud_47 ic_1 ?_
          refine y_goto C (tgt := 52) dX0_mud_48 rfl ?_
          exact Y.sub (wk_o_mud_b52 C M N (x1) (x2) S (1) (h_16)) [0, 1, 2] rfl
      · have h_17 := (h_11).2 c_12
        refine y_bipush C dX0_mud_32 bpm5 ?_
        exact y_iretM C M N rfl (S := S) rfl (h_17) dX0_mud_34
    · have h_18 := (h_8).2 c_10
      refine y_bipush C dX0_mud_17 bpm2 ?_
      exact y_iretM C M N rfl (S := S) rfl (h_18) dX0_mud_19
/-! OverHill teach(III)I: o_teach -/
abbrev rm_o_teach : Room := { frames := 5, cells := 0, slots := 0, locals := 129 }
def wp_o_teach (S : St) (x1 : Int32) (x2 : Int32) (x3 : Int32) (Q : Int32 → St → Prop) : Prop :=
  wp_o_isPlace S (x1) (x2) (fun r_1 => ((r_1 = 0 → Q (-2) S) ∧ (¬ r_1 = 0 → wp_o_isStep S ((x3).toInt64) (fun r_7 => ((¬ r_7 = 0 → ((¬ (S.1 15 7) = 40 → wp_d_step S (x1) (x2) (fun r_14 => wp_o_keeps S (2) (((12 * x1) + x2)) (r_14) (fun S_19 => (vp_in ((12 * x1) + x2) 24 ∧ Q r_14 (sI S_19 18 (((12 * x1) + x2)).toNatClampNeg x3))))) ∧ ((S.1 15 7) = 40 → Q (-5) S))) ∧ (r_7 = 0 → Q (-2) S))))))
set_option maxRecDepth 100000 in
theorem met_o_teach (G : Gx) (A : Nat → Nat) (S : St) (x1 : Int32) (x2 : Int32) (x3 : Int32) (Q : Int32 → St → Prop) (h : wp_o_teach S x1 x2 x3 Q) : Mi G yX0_teach (ws_ yX0_teach cX0_teach 5 (some .int)) rm_o_teach (wC G A S) [.ref (A 0), .int (x1), .int (x2), .int (x3)] (wC G A) Q := by
  refine ent_Mi (by decide +kernel) rfl (Nat.le_of_ble_eq_true rfl) [(0, .ref (A 0)), (1, .int (x1)), (2, .int (x2)), (3, .int (x3))] rfl (fun K B C M N => ?_)
  refine y_aload_n C dX0_teach_0 0 rfl rfl ?_
  refine y_iload_n C dX0_teach_1 1 rfl rfl ?_
  refine y_iload_n C dX0_teach_2 2 rfl rfl ?_
  refine y_callRiV (As := [.int (x1), .int (x2)]) (rest := []) C cs_X0_152 (met_o_isPlace G A S (x1) (x2) _ (h)) (fun _ h => h) (wC_0 ..) rfl rfl ⟨rfl, rfl, Nat.le_of_ble_eq_true rfl, Nat.le_of_ble_eq_true rfl⟩ rfl rfl (Nat.le_of_ble_eq_true rfl) dX0_teach_3 ⟨Nat.zero_le _, Nat.zero_le _⟩ (fun r_1 h_2 => ?_)
  refine y_if_eq C (tgt := 18) dX0_teach_6 rfl (fun c_4 => ?_) (fun c_4 => ?_)
  · have h_5 := (h_2).1 c_4
    refine y_bipush C dX0_teach_18 bpm2 ?_
    exact y_iretM C M N rfl (S := S) rfl (h_5) dX0_teach_20
  · have h_6 := (h_2).2 c_4
    refine y_aload_n C dX0_teach_9 0 rfl rfl ?_
    refine y_iload_n C dX0_teach_10 3 rfl rfl ?_
    refine y_i2l C dX0_teach_11 rfl ?_
    refine y_callRiV (As := [.long ((x3).toInt64)]) (rest := []) C cs_X0_159 (met_o_isStep G A S ((x3).toInt64) _ (h_6)) (fun _ h => h) (wC_0 ..) rfl rfl ⟨rfl, rfl, Nat.le_of_ble_eq_true rfl, Nat.le_of_ble_eq_true rfl⟩ rfl rfl (Nat.le_of_ble_eq_true rfl) dX0_teach_12 ⟨Nat.zero_le _, Nat.zero_le _⟩ (fun r_7 h_8 => ?_)
    refine y_if_ne C (tgt := 21) dX0_teach_15 rfl (fun c_10 => ?_) (fun c_10 => ?_)
    · have h_11 := (h_8).1 c_10
      refine y_aload_n C dX0_teach_21 0 rfl rfl ?_
      refine yg_X0_12_wC0 C dX0_teach_22 ?_
      refine yg_X0_472_wC15 C dX0_teach_25 ?_
      refine y_bipush C dX0_teach_28 bp_40 ?_
      refine y_icmp_ne C (tgt := 36) dX0_teach_30 rfl (fun c_12 => ?_) (fun c_12 => ?_)
      · have h_13 := (h_11).1 c_12
        refine y_aload_n C dX0_teach_36 0 rfl rfl ?_
        refine yg_X0_12_wC0 C dX0_teach_37 ?_
        refine y_iload_n C dX0_teach_40 1 rfl rfl ?_
        refine y_iload_n C dX0_teach_41 2 rfl rfl ?_
        refine y_callRiV (As := [.int (x1), .int (x2)]) (rest := []) C cs_X0_155 (met_d_step G A S (x1) (x2) _ (h_13)) (fun _ h => wC_D h) (wC_15 ..) rfl rfl ⟨rfl, rfl, Nat.le_of_ble_eq_true rfl, Nat.le_of_ble_eq_true rfl⟩ rfl rfl (Nat.le_of_ble_eq_true rfl) dX0_teach_42 ⟨Nat.zero_le _, Nat.zero_le _⟩ (fun r_14 h_15 => ?_)
        refine y_istore C dX0_teach_45 (Nat.le_of_ble_eq_true rfl) [(4, .int (r_14)), (0, .ref (A 0)), (1, .int (x1)), (2, .int (x2)), (3, .int (x3))] rfl ?_
        refine y_aload_n C dX0_teach_47 1 rfl rfl ?_
        refine y_iconst C dX0_teach_48 ic_2 ?_
        refine y_bipush C dX0_teach_49 bp_12 ?_
        refine y_iload_n C dX0_teach_51 2 rfl rfl ?_
        refine y_imul C dX0_teach_52 ?_
        refine y_iload_n C dX0_teach_53 3 rfl rfl ?_
        refine y_iadd C dX0_teach_54 ?_
        refine y_iload C dX0_teach_55 0 rfl ?_
        refine y_callMvV (k' := 0) (n' := 0) (As := [.int (2), .int (((12 * x1) + x2)), .int (r_14)]) (rest := []) C M cs_X0_479 (met_o_keeps G A S (2) (((12 * x1) + x2)) (r_14) _ (h_15)) (wC_0 ..) rfl rfl ⟨rfl, rfl, Nat.le_of_ble_eq_true rfl, Nat.le_of_ble_eq_true rfl⟩ rfl rfl (Nat.le_of_ble_eq_true rfl) dX0_teach_57 ⟨Nat.zero_le _, Nat.zero_le _⟩ rfl rfl (fun S_19 h_18 => ?_)
        refine y_aload_n C dX0_teach_60 1 rfl rfl ?_
        refine yg_X0_12_wC0 C dX0_teach_61 ?_
        refine yg_X0_483_wC15 C dX0_teach_64 ?_
        refine y_bipush C dX0_teach_67 bp_12 ?_
        refine y_iload_n C dX0_teach_69 2 rfl rfl ?_
        refine y_imul C dX0_teach_70 ?_
        refine y_iload_n C dX0_teach_71 3 rfl rfl ?_
        refine y_iadd C dX0_teach_72 ?_
        refine y_iload_n C dX0_teach_73 4 rfl rfl ?_
        refine y_iast C M (wC_18 ..) rfl (wC_s18 ..) (h_18).1 dX0_teach_74 ?_
        refine y_iload C dX0_teach_75 0 rfl ?_
        exact y_iretM C M N rfl (S := (sI S_19 18 (((12 * x1) + x2)).toNatClampNeg x3)) rfl ((h_18).2) dX0_teach_77
      · have h_20 := (h_11).2 c_12
        refine y_bipush C dX0_teach_33 bpm5 ?_
        exact y_iretM C M N rfl (S := S) rfl (h_20) dX0_teach_35
    · have h_21 := (h_8).2 c_10
      refine y_bipush C dX0_teach_18 bpm2 ?_
      exact y_iretM C M N rfl (S := S) rfl (h_21) dX0_teach_20
/-! OverHill undo()I: o_undo -/
abbrev rm_o_undo : Room := { frames := 2, cells := 0, slots := 0, locals := 60 }
def wp_o_undo (S : St) (Q : Int32 → St → Prop) : Prop :=
  wp_o_isDance S (fun r_1 => ((¬ r_1 = 0 → ((¬ (S.1 15 7) = 0 → (vp_in ((sI S 15 7 ((S.1 15 7) - 1)).1 15 7) 40 ∧ ((¬ (((sI S 15 7 ((S.1 15 7) - 1)).1 28 (((sI S 15 7 ((S.1 15 7) - 1)).1 15 7)).toNatClampNeg) / 100000) = 0 → ((¬ (((sI S 15 7 ((S.1 15 7) - 1)).1 28 (((sI S 15 7 ((S.1 15 7) - 1)).1 15 7)).toNatClampNeg) / 100000) = 1 → (vp_in ((irm ((sI S 15 7 ((S.1 15 7) - 1)).1 28 (((sI S 15 7 ((S.1 15 7) - 1)).1 15 7)).toNatClampNeg) 100000) / 10) 24 ∧ Q ((sI (sI S 15 7 ((S.1 15 7) - 1)) 18 (((irm ((sI S 15 7 ((S.1 15 7) - 1)).1 28 (((sI S 15 7 ((S.1 15 7) - 1)).1 15 7)).toNatClampNeg) 100000) / 10)).toNatClampNeg (irm ((sI S 15 7 ((S.1 15 7) - 1)).1 28 (((sI S 15 7 ((S.1 15 7) - 1)).1 15 7)).toNatClampNeg) 10)).1 15 7) (sI (sI S 15 7 ((S.1 15 7) - 1)) 18 (((irm ((sI S 15 7 ((S.1 15 7) - 1)).1 28 (((sI S 15 7 ((S.1 15 7) - 1)).1 15 7)).toNatClampNeg) 100000) / 10)).toNatClampNeg (irm ((sI S 15 7 ((S.1 15 7) - 1)).1 28 (((sI S 15 7 ((S.1 15 7) - 1)).1 15 7)).toNatClampNeg) 10)))) ∧ ((((sI S 15 7 ((S.1 15 7) - 1)).1 28 (((sI S 15 7 ((S.1 15 7) - 1)).1 15 7)).toNatClampNeg) / 100000) = 1 → ((¬ (irm ((sI S 15 7 ((S.1 15 7) - 1)).1 28 (((sI S 15 7 ((S.1 15 7) - 1)).1 15 7)).toNatClampNeg) 10) = 1 → (vp_in ((irm ((sI S 15 7 ((S.1 15 7) - 1)).1 28 (((sI S 15 7 ((S.1 15 7) - 1)).1 15 7)).toNatClampNeg) 100000) / 10) 200 ∧ Q ((sI (sI S 15 7 ((S.1 15 7) - 1)) 29 (((irm ((sI S 15 7 ((S.1 15 7) - 1)).1 28 (((sI S 15 7 ((S.1 15 7) - 1)).1 15 7)).toNatClampNeg) 100000) / 10)).toNatClampNeg (vp_nar .boolean 0)).1 15 7) (sI (sI S 15 7 ((S.1 15 7) - 1)) 29 (((irm ((sI S 15 7 ((S.1 15 7) - 1)).1 28 (((sI S 15 7 ((S.1 15 7) - 1)).1 15 7)).toNatClampNeg) 100000) / 10)).toNatClampNeg (vp_nar .boolean 0)))) ∧ ((irm ((sI S 15 7 ((S.1 15 7) - 1)).1 28 (((sI S 15 7 ((S.1 15 7) - 1)).1 15 7)).toNatClampNeg) 10) = 1 → (vp_in ((irm ((sI S 15 7 ((S.1 15 7) - 1)).1 28 (((sI S 15 7 ((S.1 15 7) - 1)).1 15 7)).toNatClampNeg) 100000) / 10) 200 ∧ Q ((sI (sI S 15 7 ((S.1 15 7) - 1)) 29 (((irm ((sI S 15 7 ((S.1 15 7) - 1)).1 28 (((sI S 15 7 ((S.1 15 7) - 1)).1 15 7)).toNatClampNeg) 100000) / 10)).toNatClampNeg (vp_nar .boolean 1)).1 15 7) (sI (sI S 15 7 ((S.1 15 7) - 1)) 29 (((irm ((sI S 15 7 ((S.1 15 7) - 1)).1 28 (((sI S 15 7 ((S.1 15 7) - 1)).1 15 7)).toNatClampNeg) 100000) / 10)).toNatClampNeg (vp_nar .boolean 1)))))))) ∧ ((((sI S 15 7 ((S.1 15 7) - 1)).1 28 (((sI S 15 7 ((S.1 15 7) - 1)).1 15 7)).toNatClampNeg) / 100000) = 0 → Q ((sI (sI S 15 7 ((S.1 15 7) - 1)) 15 4 (((sI S 15 7 ((S.1 15 7) - 1)).1 15 4) - 1)).1 15 7) (sI (sI S 15 7 ((S.1 15 7) - 1)) 15 4 (((sI S 15 7 ((S.1 15 7) - 1)).1 15 4) - 1)))))) ∧ ((S.1 15 7) = 0 → Q (-5) S))) ∧ (r_1 = 0 → Q (-2) S)))
set_option maxRecDepth 100000 in
theorem met_o_undo (G : Gx) (A : Nat → Nat) (S : St) (Q : Int32 → St → Prop) (h : wp_o_undo S Q) : Mi G yX0_undo (ws_ yX0_undo cX0_undo 3 (some .int)) rm_o_undo (wC G A S) [.ref (A 0)] (wC G A) Q := by
  refine ent_Mi (by decide +kernel) rfl (Nat.le_of_ble_eq_true rfl) [(0, .ref (A 0))] rfl (fun K B C M N => ?_)
  refine y_aload_n C dX0_undo_0 0 rfl rfl ?_
  refine y_callRiV (As := []) (rest := []) C cs_X0_128 (met_o_isDance G A S _ (h)) (fun _ h => h) (wC_0 ..) rfl rfl ⟨rfl, rfl, Nat.le_of_ble_eq_true rfl, Nat.le_of_ble_eq_true rfl⟩ rfl rfl (Nat.le_of_ble_eq_true rfl) dX0_undo_1 ⟨Nat.zero_le _, Nat.zero_le _⟩ (fun r_1 h_2 => ?_)
  refine y_if_ne C (tgt := 10) dX0_undo_4 rfl (fun c_4 => ?_) (fun c_4 => ?_)
  · have h_5 := (h_2).1 c_4
    refine y_aload_n C dX0_undo_10 0 rfl rfl ?_
    refine yg_X0_12_wC0 C dX0_undo_11 ?_
    refine yg_X0_472_wC15 C dX0_undo_14 ?_
    refine y_if_ne C (tgt := 23) dX0_undo_17 rfl (fun c_6 => ?_) (fun c_6 => ?_)
    · have h_7 := (h_5).1 c_6
      refine y_aload_n C dX0_undo_23 0 rfl rfl ?_
      refine yg_X0_12_wC0 C dX0_undo_24 ?_
      refine y_dup C dX0_undo_27 rfl ?_
      refine yg_X0_472_wC15 C dX0_undo_28 ?_
      refine y_iconst C dX0_undo_31 ic_1 ?_
      refine y_isub C dX0_undo_32 ?_
      refine yp_X0_472_wC15 C M dX0_undo_33 ?_
      refine y_aload_n C dX0_undo_36 0 rfl rfl ?_
      refine yg_X0_12_wC0 C dX0_undo_37 ?_
      refine yg_X0_469_wC15 C dX0_undo_40 ?_
      refine y_aload_n C dX0_undo_43 0 rfl rfl ?_
      refine yg_X0_12_wC0 C dX0_undo_44 ?_
      refine yg_X0_472_wC15 C dX0_undo_47 ?_
      refine y_iald C (wC_28 ..) rfl (h_7).1 dX0_undo_50 ?_
      refine y_istore_n C dX0_undo_51 rfl (Nat.le_of_ble_eq_true rfl) [(1, .int (((sI S 15 7 ((S.1 15 7) - 1)).1 28 (((sI S 15 7 ((S.1 15 7) - 1)).1 15 7)).toNatClampNeg))), (0, .ref (A 0))] rfl ?_
      refine y_iload_n C dX0_undo_52 0 rfl rfl ?_
      refine y_ldcw C dX0_undo_53 q1363 ?_
      refine y_irem C dX0_undo_56 nz_I_100000 ?_
      refine y_bipush C dX0_undo_57 bp_10 ?_
      refine y_idiv C dX0_undo_59 nz_I_10 ?_
      refine y_istore_n C dX0_undo_60 rfl (Nat.le_of_ble_eq_true rfl) [(2, .int (((irm ((sI S 15 7 ((S.1 15 7) - 1)).1 28 (((sI S 15 7 ((S.1 15 7) - 1)).1 15 7)).toNatClampNeg) 100000) / 10))), (1, .int (((sI S 15 7 ((S.1 15 7) - 1)).1 28 (((sI S 15 7 ((S.1 15 7) - 1)).1 15 7)).toNatClampNeg))), (0, .ref (A 0))] rfl ?_
      refine y_iload_n C dX0_undo_61 1 rfl rfl ?_
      refine y_ldcw C dX0_undo_62 q1363 ?_
      refine y_idiv C dX0_undo_65 nz_I_100000 ?_
      refine y_if_ne C (tgt := 85) dX0_undo_66 rfl (fun c_8 => ?_) (fun c_8 => ?_)
      · have h_9 := ((h_7).2).1 c_8
        refine y_iload_n C dX0_undo_85 1 rfl rfl ?_
        refine y_ldcw C dX0_undo_86 q1363 ?_
        refine y_idiv C dX0_undo_89 nz_I_100000 ?_
        refine y_iconst C dX0_undo_90 ic_1 ?_
        refine y_icmp_ne C (tgt := 119) dX0_undo_91 rfl (fun c_10 => ?_) (fun c_10 => ?_)
        · have h_11 := (h_9).1 c_10
          refine y_aload_n C dX0_undo_119 2 rfl rfl ?_
          refine yg_X0_12_wC0 C dX0_undo_120 ?_
          refine yg_X0_483_wC15 C dX0_undo_123 ?_
          refine y_iload_n C dX0_undo_126 0 rfl rfl ?_
          refine y_iload_n C dX0_undo_127 1 rfl rfl ?_
          refine y_bipush C dX0_undo_128 bp_10 ?_
          refine y_irem C dX0_undo_130 nz_I_10 ?_
          refine y_iast C M (wC_18 ..) rfl (wC_s18 ..) (h_11).1 dX0_undo_131 ?_
          refine y_aload_n C dX0_undo_132 2 rfl rfl ?_
          refine yg_X0_12_wC0 C dX0_undo_133 ?_
          refine yg_X0_472_wC15 C dX0_undo_136 ?_
          exact y_iretM C M N rfl (S := (sI (sI S 15 7 ((S.1 15 7) - 1)) 18 (((irm ((sI S 15 7 ((S.1 15 7) - 1)).1 28 (((sI S 15 7 ((S.1 15 7) - 1)).1 15 7)).toNatClampNeg) 100000) / 10)).toNatClampNeg (irm ((sI S 15 7 ((S.1 15 7) - 1)).1 28 (((sI S 15 7 ((S.1 15 7) - 1)).1 15 7)).toNatClampNeg) 10))) rfl ((h_11).2) dX0_undo_139
        · have h_12 := (h_9).2 c_10
          refine y_aload_n C dX0_undo_94 2 rfl rfl ?_
          refine yg_X0_12_wC0 C dX0_undo_95 ?_
          refine yg_X0_184_wC15 C dX0_undo_98 ?_
          refine y_iload_n C dX0_undo_101 0 rfl rfl ?_
          refine y_iload_n C dX0_undo_102 1 rfl rfl ?_
          refine y_bipush C dX0_undo_103 bp_10 ?_
          refine y_irem C dX0_undo_105 nz_I_10 ?_
          refine y_iconst C dX0_undo_106 ic_1 ?_
          refine y_icmp_ne C (tgt := 114) dX0_undo_107 rfl (fun c_13 => ?_) (fun c_13 => ?_)
          · have h_14 := (h_12).1 c_13
            refine y_iconst C dX0_undo_114 ic_0 ?_
            refine y_zast C M (wC_29 ..) rfl (wC_s29 ..) (h_14).1 dX0_undo_115 ?_
            refine y_goto C (tgt := 132) dX0_undo_116 rfl ?_
            refine y_aload_n C dX0_undo_132 2 rfl rfl ?_
            refine yg_X0_12_wC0 C dX0_undo_133 ?_
            refine yg_X0_472_wC15 C dX0_undo_136 ?_
            exact y_iretM C M N rfl (S := (sI (sI S 15 7 ((S.1 15 7) - 1)) 29 (((irm ((sI S 15 7 ((S.1 15 7) - 1)).1 28 (((sI S 15 7 ((S.1 15 7) - 1)).1 15 7)).toNatClampNeg) 100000) / 10)).toNatClampNeg (vp_nar .boolean 0))) rfl ((h_14).2) dX0_undo_139
          · have h_15 := (h_12).2 c_13
            refine y_iconst C dX0_undo_110 ic_1 ?_
            refine y_goto C (tgt := 115) dX0_undo_111 rfl ?_
            refine y_zast C M (wC_29 ..) rfl (wC_s29 ..) (h_15).1 dX0_undo_115 ?_
            refine y_goto C (tgt := 132) dX0_undo_116 rfl ?_
            refine y_aload_n C dX0_undo_132 2 rfl rfl ?_
            refine yg_X0_12_wC0 C dX0_undo_133 ?_
            refine yg_X0_472_wC15 C dX0_undo_136 ?_
            exact y_iretM C M N rfl (S := (sI (sI S 15 7 ((S.1 15 7) - 1)) 29 (((irm ((sI S 15 7 ((S.1 15 7) - 1)).1 28 (((sI S 15 7 ((S.1 15 7) - 1)).1 15 7)).toNatClampNeg) 100000) / 10)).toNatClampNeg (vp_nar .boolean 1))) rfl ((h_15).2) dX0_undo_139
      · have h_16 := ((h_7).2).2 c_8
        refine y_aload_n C dX0_undo_69 2 rfl rfl ?_
        refine yg_X0_12_wC0 C dX0_undo_70 ?_
        refine y_dup C dX0_undo_73 rfl ?_
        refine yg_X0_147_wC15 C dX0_undo_74 ?_
        refine y_iconst C dX0_undo_77 ic_1 ?_
        refine y_isub C dX0_undo_78 ?_
        refine yp_X0_147_wC15 C M dX0_undo_79 ?_
        refine y_goto C (tgt := 132) dX0_undo_82 rfl ?_
        refine y_aload_n C dX0_undo_132 2 rfl rfl ?_
        refine yg_X0_12_wC0 C dX0_undo_133 ?_
        refine yg_X0_472_wC15 C dX0_undo_136 ?_
        exact y_iretM C M N rfl (S := (sI (sI S 15 7 ((S.1 15 7) - 1)) 15 4 (((sI S 15 7 ((S.1 15 7) - 1)).1 15 4) - 1))) rfl (h_16) dX0_undo_139
    · have h_17 := (h_5).2 c_6
      refine y_bipush C dX0_undo_20 bpm5 ?_
      exact y_iretM C M N rfl (S := S) rfl (h_17) dX0_undo_22
  · have h_18 := (h_2).2 c_4
    refine y_bipush C dX0_undo_7 bpm2 ?_
    exact y_iretM C M N rfl (S := S) rfl (h_18) dX0_undo_9
