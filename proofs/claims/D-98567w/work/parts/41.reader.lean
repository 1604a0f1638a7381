/-! printed by tools/gen.py -/
set_option maxRecDepth 100000
theorem yg_X9_41_wR40 {G : Gx} {K : Kx} {cc : ByteArray} {rm : Room} {nL : Nat} {ret : Option FieldType} {k n pc : Nat} {A : Nat → Nat} {S : St} {lv : List (Nat × Value)} {st : List Value} (C : KOk G K RX9 cc rm nL ret) (hdg : decode cc pc = .ok (.getfield 41, 3)) (kk : Y G K k n (wR G A S) (pc + 3) lv (.int (S.1 40 2) :: st)) : Y G K k n (wR G A S) pc lv (.ref (A 40) :: st) := y_get C (ref := "OverHill$Reader") (Cn := RX9) (T := TX9) (N := 7) in_X9 (wR_40 ..) rfl 2 (by decide) q565 (fun _ _ h => h) (fs_R40_f2 G A S) hdg kk
theorem yg_X9_19_wR40 {G : Gx} {K : Kx} {cc : ByteArray} {rm : Room} {nL : Nat} {ret : Option FieldType} {k n pc : Nat} {A : Nat → Nat} {S : St} {lv : List (Nat × Value)} {st : List Value} (C : KOk G K RX9 cc rm nL ret) (hdg : decode cc pc = .ok (.getfield 19, 3)) (kk : Y G K k n (wR G A S) (pc + 3) lv (.int (S.1 40 0) :: st)) : Y G K k n (wR G A S) pc lv (.ref (A 40) :: st) := y_get C (ref := "OverHill$Reader") (Cn := RX9) (T := TX9) (N := 7) in_X9 (wR_40 ..) rfl 0 (by decide) q563 (fun _ _ h => h) (fs_R40_f0 G A S) hdg kk
theorem yg_X9_3_wR40 {G : Gx} {K : Kx} {cc : ByteArray} {rm : Room} {nL : Nat} {ret : Option FieldType} {k n pc : Nat} {A : Nat → Nat} {S : St} {lv : List (Nat × Value)} {st : List Value} (C : KOk G K RX9 cc rm nL ret) (hdg : decode cc pc = .ok (.getfield 3, 3)) (kk : Y G K k n (wR G A S) (pc + 3) lv (.ref (A 0) :: st)) : Y G K k n (wR G A S) pc lv (.ref (A 40) :: st) := y_get C (ref := "OverHill$Reader") (Cn := RX9) (T := TX9) (N := 7) in_X9 (wR_40 ..) rfl 6 (by decide) q569 (fun _ _ h => h) (fs_R40_f6 G A S) hdg kk
theorem yg_X9_44_wR0 {G : Gx} {K : Kx} {cc : ByteArray} {rm : Room} {nL : Nat} {ret : Option FieldType} {k n pc : Nat} {A : Nat → Nat} {S : St} {lv : List (Nat × Value)} {st : List Value} (C : KOk G K RX9 cc rm nL ret) (hdg : decode cc pc = .ok (.getfield 44, 3)) (kk : Y G K k n (wR G A S) (pc + 3) lv (.ref (A 1) :: st)) : Y G K k n (wR G A S) pc lv (.ref (A 0) :: st) := y_getN C (ref := "OverHill") (Cn := RX0) (T := TX0) (N := 34) in_X0 (wR_0 ..) rfl 1 (by decide) q406 (fun _ _ h => h) (fs_R0_f1 A S) hdg kk
theorem yp_X9_41_wR40 {G : Gx} {K : Kx} {cc : ByteArray} {rm : Room} {nL : Nat} {ret : Option FieldType} {k n pc : Nat} {B : Nat → Prop} {A : Nat → Nat} {S : St} {lv : List (Nat × Value)} {st : List Value} {v : Int32} (C : KOk G K RX9 cc rm nL ret) (M : KM G K B) (hdg : decode cc pc = .ok (.putfield 41, 3)) (kk : Y G K k n (wR G A (sI S 40 2 v)) (pc + 3) lv st) : Y G K k n (wR G A S) pc lv (.int v :: .ref (A 40) :: st) := y_put C M (ref := "OverHill$Reader") (Cn := RX9) (T := TX9) (N := 7) in_X9 (wR_40 ..) rfl 2 (by decide) tyX9 tyX9_ok (by decide +kernel) q565 (fun _ _ h => h) rfl (ty := .int) (by decide +kernel) rfl rfl (Nat.le_of_ble_eq_true rfl) (wR_p40_2 ..) hdg kk
theorem yp_X9_52_wR40 {G : Gx} {K : Kx} {cc : ByteArray} {rm : Room} {nL : Nat} {ret : Option FieldType} {k n pc : Nat} {B : Nat → Prop} {A : Nat → Nat} {S : St} {lv : List (Nat × Value)} {st : List Value} {v : Int32} (C : KOk G K RX9 cc rm nL ret) (M : KM G K B) (hdg : decode cc pc = .ok (.putfield 52, 3)) (kk : Y G K k n (wR G A (sI S 40 3 v)) (pc + 3) lv st) : Y G K k n (wR G A S) pc lv (.int v :: .ref (A 40) :: st) := y_put C M (ref := "OverHill$Reader") (Cn := RX9) (T := TX9) (N := 7) in_X9 (wR_40 ..) rfl 3 (by decide) tyX9 tyX9_ok (by decide +kernel) q566 (fun _ _ h => h) rfl (ty := .int) (by decide +kernel) rfl rfl (Nat.le_of_ble_eq_true rfl) (wR_p40_3 ..) hdg kk
theorem yp_X9_35_wR40 {G : Gx} {K : Kx} {cc : ByteArray} {rm : Room} {nL : Nat} {ret : Option FieldType} {k n pc : Nat} {B : Nat → Prop} {A : Nat → Nat} {S : St} {lv : List (Nat × Value)} {st : List Value} {v : Int32} (C : KOk G K RX9 cc rm nL ret) (M : KM G K B) (hdg : decode cc pc = .ok (.putfield 35, 3)) (kk : Y G K k n (wR G A (sI S 40 5 v)) (pc + 3) lv st) : Y G K k n (wR G A S) pc lv (.ref (G.2.2.2 v.toNatClampNeg) :: .ref (A 40) :: st) := y_put C M (ref := "OverHill$Reader") (Cn := RX9) (T := TX9) (N := 7) in_X9 (wR_40 ..) rfl 5 (by decide) tyX9 tyX9_ok (by decide +kernel) q568 (fun _ _ h => h) rfl (ty := tyX9 5) (by decide +kernel) rfl rfl (Nat.le_of_ble_eq_true rfl) (wR_p40_5 ..) hdg kk
theorem yp_X9_62_wR40 {G : Gx} {K : Kx} {cc : ByteArray} {rm : Room} {nL : Nat} {ret : Option FieldType} {k n pc : Nat} {B : Nat → Prop} {A : Nat → Nat} {S : St} {lv : List (Nat × Value)} {st : List Value} {v : Int32} (C : KOk G K RX9 cc rm nL ret) (M : KM G K B) (hdg : decode cc pc = .ok (.putfield 62, 3)) (kk : Y G K k n (wR G A (sI S 40 4 v)) (pc + 3) lv st) : Y G K k n (wR G A S) pc lv (.int v :: .ref (A 40) :: st) := y_put C M (ref := "OverHill$Reader") (Cn := RX9) (T := TX9) (N := 7) in_X9 (wR_40 ..) rfl 4 (by decide) tyX9 tyX9_ok (by decide +kernel) q567 (fun _ _ h => h) rfl (ty := .int) (by decide +kernel) rfl rfl (Nat.le_of_ble_eq_true rfl) (wR_p40_4 ..) hdg kk
theorem yg_X9_62_wR40 {G : Gx} {K : Kx} {cc : ByteArray} {rm : Room} {nL : Nat} {ret : Option FieldType} {k n pc : Nat} {A : Nat → Nat} {S : St} {lv : List (Nat × Value)} {st : List Value} (C : KOk G K RX9 cc rm nL ret) (hdg : decode cc pc = .ok (.getfield 62, 3)) (kk : Y G K k n (wR G A S) (pc + 3) lv (.int (S.1 40 4) :: st)) : Y G K k n (wR G A S) pc lv (.ref (A 40) :: st) := y_get C (ref := "OverHill$Reader") (Cn := RX9) (T := TX9) (N := 7) in_X9 (wR_40 ..) rfl 4 (by decide) q567 (fun _ _ h => h) (fs_R40_f4 G A S) hdg kk
theorem yg_X9_35_wR40 {G : Gx} {K : Kx} {cc : ByteArray} {rm : Room} {nL : Nat} {ret : Option FieldType} {k n pc : Nat} {A : Nat → Nat} {S : St} {lv : List (Nat × Value)} {st : List Value} (C : KOk G K RX9 cc rm nL ret) (hdg : decode cc pc = .ok (.getfield 35, 3)) (kk : Y G K k n (wR G A S) (pc + 3) lv (.ref (G.2.2.2 (S.1 40 5).toNatClampNeg) :: st)) : Y G K k n (wR G A S) pc lv (.ref (A 40) :: st) := y_get C (ref := "OverHill$Reader") (Cn := RX9) (T := TX9) (N := 7) in_X9 (wR_40 ..) rfl 5 (by decide) q568 (fun _ _ h => h) (fs_R40_f5 G A S) hdg kk
theorem yg_X9_52_wR40 {G : Gx} {K : Kx} {cc : ByteArray} {rm : Room} {nL : Nat} {ret : Option FieldType} {k n pc : Nat} {A : Nat → Nat} {S : St} {lv : List (Nat × Value)} {st : List Value} (C : KOk G K RX9 cc rm nL ret) (hdg : decode cc pc = .ok (.getfield 52, 3)) (kk : Y G K k n (wR G A S) (pc + 3) lv (.int (S.1 40 3) :: st)) : Y G K k n (wR G A S) pc lv (.ref (A 40) :: st) := y_get C (ref := "OverHill$Reader") (Cn := RX9) (T := TX9) (N := 7) in_X9 (wR_40 ..) rfl 3 (by decide) q566 (fun _ _ h => h) (fs_R40_f3 G A S) hdg kk
theorem yg_X9_25_wR40 {G : Gx} {K : Kx} {cc : ByteArray} {rm : Room} {nL : Nat} {ret : Option FieldType} {k n pc : Nat} {A : Nat → Nat} {S : St} {lv : List (Nat × Value)} {st : List Value} (C : KOk G K RX9 cc rm nL ret) (hdg : decode cc pc = .ok (.getfield 25, 3)) (kk : Y G K k n (wR G A S) (pc + 3) lv (.ref (A 15) :: st)) : Y G K k n (wR G A S) pc lv (.ref (A 40) :: st) := y_get C (ref := "OverHill$Reader") (Cn := RX9) (T := TX9) (N := 7) in_X9 (wR_40 ..) rfl 1 (by decide) q564 (fun _ _ h => h) (fs_R40_f1 G A S) hdg kk
theorem yp_X9_121_wR15 {G : Gx} {K : Kx} {cc : ByteArray} {rm : Room} {nL : Nat} {ret : Option FieldType} {k n pc : Nat} {B : Nat → Prop} {A : Nat → Nat} {S : St} {lv : List (Nat × Value)} {st : List Value} {v : Int32} (C : KOk G K RX9 cc rm nL ret) (M : KM G K B) (hdg : decode cc pc = .ok (.putfield 121, 3)) (kk : Y G K k n (wR G A (sI S 15 0 v)) (pc + 3) lv st) : Y G K k n (wR G A S) pc lv (.int v :: .ref (A 15) :: st) := y_putN C M (ref := "OverHill$Dance") (Cn := RX1) (T := TX1) (N := 22) in_X1 (wR_15 ..) rfl 0 (by decide) tyX1 tyX1_ok (by decide +kernel) q188 (fun _ _ h => h) rfl (ty := .int) (by decide +kernel) rfl rfl (Nat.le_of_ble_eq_true rfl) (wR_p15_0 ..) hdg kk
theorem yp_X9_125_wR15 {G : Gx} {K : Kx} {cc : ByteArray} {rm : Room} {nL : Nat} {ret : Option FieldType} {k n pc : Nat} {B : Nat → Prop} {A : Nat → Nat} {S : St} {lv : List (Nat × Value)} {st : List Value} {v : Int32} (C : KOk G K RX9 cc rm nL ret) (M : KM G K B) (hdg : decode cc pc = .ok (.putfield 125, 3)) (kk : Y G K k n (wR G A (sI S 15 1 v)) (pc + 3) lv st) : Y G K k n (wR G A S) pc lv (.int v :: .ref (A 15) :: st) := y_putN C M (ref := "OverHill$Dance") (Cn := RX1) (T := TX1) (N := 22) in_X1 (wR_15 ..) rfl 1 (by decide) tyX1 tyX1_ok (by decide +kernel) q191 (fun _ _ h => h) rfl (ty := .int) (by decide +kernel) rfl rfl (Nat.le_of_ble_eq_true rfl) (wR_p15_1 ..) hdg kk
theorem yp_X9_129_wR15 {G : Gx} {K : Kx} {cc : ByteArray} {rm : Room} {nL : Nat} {ret : Option FieldType} {k n pc : Nat} {B : Nat → Prop} {A : Nat → Nat} {S : St} {lv : List (Nat × Value)} {st : List Value} {v : Int32} (C : KOk G K RX9 cc rm nL ret) (M : KM G K B) (hdg : decode cc pc = .ok (.putfield 129, 3)) (kk : Y G K k n (wR G A (sI S 15 2 v)) (pc + 3) lv st) : Y G K k n (wR G A S) pc lv (.int v :: .ref (A 15) :: st) := y_putN C M (ref := "OverHill$Dance") (Cn := RX1) (T := TX1) (N := 22) in_X1 (wR_15 ..) rfl 2 (by decide) tyX1 tyX1_ok (by decide +kernel) q194 (fun _ _ h => h) rfl (ty := .int) (by decide +kernel) rfl rfl (Nat.le_of_ble_eq_true rfl) (wR_p15_2 ..) hdg kk
theorem yg_X9_136_wR15 {G : Gx} {K : Kx} {cc : ByteArray} {rm : Room} {nL : Nat} {ret : Option FieldType} {k n pc : Nat} {A : Nat → Nat} {S : St} {lv : List (Nat × Value)} {st : List Value} (C : KOk G K RX9 cc rm nL ret) (hdg : decode cc pc = .ok (.getfield 136, 3)) (kk : Y G K k n (wR G A S) (pc + 3) lv (.ref (A 18) :: st)) : Y G K k n (wR G A S) pc lv (.ref (A 15) :: st) := y_getN C (ref := "OverHill$Dance") (Cn := RX1) (T := TX1) (N := 22) in_X1 (wR_15 ..) rfl 10 (by decide) q219 (fun _ _ h => h) (fs_R15_f10 A S) hdg kk
theorem yg_X9_142_wR15 {G : Gx} {K : Kx} {cc : ByteArray} {rm : Room} {nL : Nat} {ret : Option FieldType} {k n pc : Nat} {A : Nat → Nat} {S : St} {lv : List (Nat × Value)} {st : List Value} (C : KOk G K RX9 cc rm nL ret) (hdg : decode cc pc = .ok (.getfield 142, 3)) (kk : Y G K k n (wR G A S) (pc + 3) lv (.ref (A 16) :: st)) : Y G K k n (wR G A S) pc lv (.ref (A 15) :: st) := y_getN C (ref := "OverHill$Dance") (Cn := RX1) (T := TX1) (N := 22) in_X1 (wR_15 ..) rfl 8 (by decide) q212 (fun _ _ h => h) (fs_R15_f8 A S) hdg kk
theorem yg_X9_144_wR15 {G : Gx} {K : Kx} {cc : ByteArray} {rm : Room} {nL : Nat} {ret : Option FieldType} {k n pc : Nat} {A : Nat → Nat} {S : St} {lv : List (Nat × Value)} {st : List Value} (C : KOk G K RX9 cc rm nL ret) (hdg : decode cc pc = .ok (.getfield 144, 3)) (kk : Y G K k n (wR G A S) (pc + 3) lv (.ref (A 17) :: st)) : Y G K k n (wR G A S) pc lv (.ref (A 15) :: st) := y_getN C (ref := "OverHill$Dance") (Cn := RX1) (T := TX1) (N := 22) in_X1 (wR_15 ..) rfl 9 (by decide) q216 (fun _ _ h => h) (fs_R15_f9 A S) hdg kk
theorem yg_X9_146_wR15 {G : Gx} {K : Kx} {cc : ByteArray} {rm : Room} {nL : Nat} {ret : Option FieldType} {k n pc : Nat} {A : Nat → Nat} {S : St} {lv : List (Nat × Value)} {st : List Value} (C : KOk G K RX9 cc rm nL ret) (hdg : decode cc pc = .ok (.getfield 146, 3)) (kk : Y G K k n (wR G A S) (pc + 3) lv (.ref (A 19) :: st)) : Y G K k n (wR G A S) pc lv (.ref (A 15) :: st) := y_getN C (ref := "OverHill$Dance") (Cn := RX1) (T := TX1) (N := 22) in_X1 (wR_15 ..) rfl 11 (by decide) q222 (fun _ _ h => h) (fs_R15_f11 A S) hdg kk
theorem yg_X9_149_wR15 {G : Gx} {K : Kx} {cc : ByteArray} {rm : Room} {nL : Nat} {ret : Option FieldType} {k n pc : Nat} {A : Nat → Nat} {S : St} {lv : List (Nat × Value)} {st : List Value} (C : KOk G K RX9 cc rm nL ret) (hdg : decode cc pc = .ok (.getfield 149, 3)) (kk : Y G K k n (wR G A S) (pc + 3) lv (.int (S.1 15 4) :: st)) : Y G K k n (wR G A S) pc lv (.ref (A 15) :: st) := y_getN C (ref := "OverHill$Dance") (Cn := RX1) (T := TX1) (N := 22) in_X1 (wR_15 ..) rfl 4 (by decide) q200 (fun _ _ h => h) (fs_R15_f4 A S) hdg kk
theorem yg_X9_152_wR15 {G : Gx} {K : Kx} {cc : ByteArray} {rm : Room} {nL : Nat} {ret : Option FieldType} {k n pc : Nat} {A : Nat → Nat} {S : St} {lv : List (Nat × Value)} {st : List Value} (C : KOk G K RX9 cc rm nL ret) (hdg : decode cc pc = .ok (.getfield 152, 3)) (kk : Y G K k n (wR G A S) (pc + 3) lv (.ref (A 20) :: st)) : Y G K k n (wR G A S) pc lv (.ref (A 15) :: st) := y_getN C (ref := "OverHill$Dance") (Cn := RX1) (T := TX1) (N := 22) in_X1 (wR_15 ..) rfl 12 (by decide) q225 (fun _ _ h => h) (fs_R15_f12 A S) hdg kk
theorem yg_X9_159_wR15 {G : Gx} {K : Kx} {cc : ByteArray} {rm : Room} {nL : Nat} {ret : Option FieldType} {k n pc : Nat} {A : Nat → Nat} {S : St} {lv : List (Nat × Value)} {st : List Value} (C : KOk G K RX9 cc rm nL ret) (hdg : decode cc pc = .ok (.getfield 159, 3)) (kk : Y G K k n (wR G A S) (pc + 3) lv (.ref (A 21) :: st)) : Y G K k n (wR G A S) pc lv (.ref (A 15) :: st) := y_getN C (ref := "OverHill$Dance") (Cn := RX1) (T := TX1) (N := 22) in_X1 (wR_15 ..) rfl 13 (by decide) q228 (fun _ _ h => h) (fs_R15_f13 A S) hdg kk
theorem yg_X9_162_wR15 {G : Gx} {K : Kx} {cc : ByteArray} {rm : Room} {nL : Nat} {ret : Option FieldType} {k n pc : Nat} {A : Nat → Nat} {S : St} {lv : List (Nat × Value)} {st : List Value} (C : KOk G K RX9 cc rm nL ret) (hdg : decode cc pc = .ok (.getfield 162, 3)) (kk : Y G K k n (wR G A S) (pc + 3) lv (.ref (A 22) :: st)) : Y G K k n (wR G A S) pc lv (.ref (A 15) :: st) := y_getN C (ref := "OverHill$Dance") (Cn := RX1) (T := TX1) (N := 22) in_X1 (wR_15 ..) rfl 14 (by decide) q232 (fun _ _ h => h) (fs_R15_f14 A S) hdg kk
theorem yg_X9_166_wR15 {G : Gx} {K : Kx} {cc : ByteArray} {rm : Room} {nL : Nat} {ret : Option FieldType} {k n pc : Nat} {A : Nat → Nat} {S : St} {lv : List (Nat × Value)} {st : List Value} (C : KOk G K RX9 cc rm nL ret) (hdg : decode cc pc = .ok (.getfield 166, 3)) (kk : Y G K k n (wR G A S) (pc + 3) lv (.ref (A 23) :: st)) : Y G K k n (wR G A S) pc lv (.ref (A 15) :: st) := y_getN C (ref := "OverHill$Dance") (Cn := RX1) (T := TX1) (N := 22) in_X1 (wR_15 ..) rfl 15 (by decide) q236 (fun _ _ h => h) (fs_R15_f15 A S) hdg kk
theorem yp_X9_149_wR15 {G : Gx} {K : Kx} {cc : ByteArray} {rm : Room} {nL : Nat} {ret : Option FieldType} {k n pc : Nat} {B : Nat → Prop} {A : Nat → Nat} {S : St} {lv : List (Nat × Value)} {st : List Value} {v : Int32} (C : KOk G K RX9 cc rm nL ret) (M : KM G K B) (hdg : decode cc pc = .ok (.putfield 149, 3)) (kk : Y G K k n (wR G A (sI S 15 4 v)) (pc + 3) lv st) : Y G K k n (wR G A S) pc lv (.int v :: .ref (A 15) :: st) := y_putN C M (ref := "OverHill$Dance") (Cn := RX1) (T := TX1) (N := 22) in_X1 (wR_15 ..) rfl 4 (by decide) tyX1 tyX1_ok (by decide +kernel) q200 (fun _ _ h => h) rfl (ty := .int) (by decide +kernel) rfl rfl (Nat.le_of_ble_eq_true rfl) (wR_p15_4 ..) hdg kk
theorem yg_X9_170_wR15 {G : Gx} {K : Kx} {cc : ByteArray} {rm : Room} {nL : Nat} {ret : Option FieldType} {k n pc : Nat} {A : Nat → Nat} {S : St} {lv : List (Nat × Value)} {st : List Value} (C : KOk G K RX9 cc rm nL ret) (hdg : decode cc pc = .ok (.getfield 170, 3)) (kk : Y G K k n (wR G A S) (pc + 3) lv (.ref (A 29) :: st)) : Y G K k n (wR G A S) pc lv (.ref (A 15) :: st) := y_getN C (ref := "OverHill$Dance") (Cn := RX1) (T := TX1) (N := 22) in_X1 (wR_15 ..) rfl 21 (by decide) q254 (fun _ _ h => h) (fs_R15_f21 A S) hdg kk
theorem yg_X9_174_wR15 {G : Gx} {K : Kx} {cc : ByteArray} {rm : Room} {nL : Nat} {ret : Option FieldType} {k n pc : Nat} {A : Nat → Nat} {S : St} {lv : List (Nat × Value)} {st : List Value} (C : KOk G K RX9 cc rm nL ret) (hdg : decode cc pc = .ok (.getfield 174, 3)) (kk : Y G K k n (wR G A S) (pc + 3) lv (.int (S.1 15 5) :: st)) : Y G K k n (wR G A S) pc lv (.ref (A 15) :: st) := y_getN C (ref := "OverHill$Dance") (Cn := RX1) (T := TX1) (N := 22) in_X1 (wR_15 ..) rfl 5 (by decide) q203 (fun _ _ h => h) (fs_R15_f5 A S) hdg kk
theorem yg_X9_177_wR15 {G : Gx} {K : Kx} {cc : ByteArray} {rm : Room} {nL : Nat} {ret : Option FieldType} {k n pc : Nat} {A : Nat → Nat} {S : St} {lv : List (Nat × Value)} {st : List Value} (C : KOk G K RX9 cc rm nL ret) (hdg : decode cc pc = .ok (.getfield 177, 3)) (kk : Y G K k n (wR G A S) (pc + 3) lv (.ref (A 24) :: st)) : Y G K k n (wR G A S) pc lv (.ref (A 15) :: st) := y_getN C (ref := "OverHill$Dance") (Cn := RX1) (T := TX1) (N := 22) in_X1 (wR_15 ..) rfl 16 (by decide) q239 (fun _ _ h => h) (fs_R15_f16 A S) hdg kk
theorem yg_X9_181_wR15 {G : Gx} {K : Kx} {cc : ByteArray} {rm : Room} {nL : Nat} {ret : Option FieldType} {k n pc : Nat} {A : Nat → Nat} {S : St} {lv : List (Nat × Value)} {st : List Value} (C : KOk G K RX9 cc rm nL ret) (hdg : decode cc pc = .ok (.getfield 181, 3)) (kk : Y G K k n (wR G A S) (pc + 3) lv (.ref (A 25) :: st)) : Y G K k n (wR G A S) pc lv (.ref (A 15) :: st) := y_getN C (ref := "OverHill$Dance") (Cn := RX1) (T := TX1) (N := 22) in_X1 (wR_15 ..) rfl 17 (by decide) q242 (fun _ _ h => h) (fs_R15_f17 A S) hdg kk
theorem yp_X9_174_wR15 {G : Gx} {K : Kx} {cc : ByteArray} {rm : Room} {nL : Nat} {ret : Option FieldType} {k n pc : Nat} {B : Nat → Prop} {A : Nat → Nat} {S : St} {lv : List (Nat × Value)} {st : List Value} {v : Int32} (C : KOk G K RX9 cc rm nL ret) (M : KM G K B) (hdg : decode cc pc = .ok (.putfield 174, 3)) (kk : Y G K k n (wR G A (sI S 15 5 v)) (pc + 3) lv st) : Y G K k n (wR G A S) pc lv (.int v :: .ref (A 15) :: st) := y_putN C M (ref := "OverHill$Dance") (Cn := RX1) (T := TX1) (N := 22) in_X1 (wR_15 ..) rfl 5 (by decide) tyX1 tyX1_ok (by decide +kernel) q203 (fun _ _ h => h) rfl (ty := .int) (by decide +kernel) rfl rfl (Nat.le_of_ble_eq_true rfl) (wR_p15_5 ..) hdg kk
theorem yg_X9_183_wR15 {G : Gx} {K : Kx} {cc : ByteArray} {rm : Room} {nL : Nat} {ret : Option FieldType} {k n pc : Nat} {A : Nat → Nat} {S : St} {lv : List (Nat × Value)} {st : List Value} (C : KOk G K RX9 cc rm nL ret) (hdg : decode cc pc = .ok (.getfield 183, 3)) (kk : Y G K k n (wR G A S) (pc + 3) lv (.int (S.1 15 6) :: st)) : Y G K k n (wR G A S) pc lv (.ref (A 15) :: st) := y_getN C (ref := "OverHill$Dance") (Cn := RX1) (T := TX1) (N := 22) in_X1 (wR_15 ..) rfl 6 (by decide) q206 (fun _ _ h => h) (fs_R15_f6 A S) hdg kk
theorem yg_X9_186_wR15 {G : Gx} {K : Kx} {cc : ByteArray} {rm : Room} {nL : Nat} {ret : Option FieldType} {k n pc : Nat} {A : Nat → Nat} {S : St} {lv : List (Nat × Value)} {st : List Value} (C : KOk G K RX9 cc rm nL ret) (hdg : decode cc pc = .ok (.getfield 186, 3)) (kk : Y G K k n (wR G A S) (pc + 3) lv (.ref (A 26) :: st)) : Y G K k n (wR G A S) pc lv (.ref (A 15) :: st) := y_getN C (ref := "OverHill$Dance") (Cn := RX1) (T := TX1) (N := 22) in_X1 (wR_15 ..) rfl 18 (by decide) q245 (fun _ _ h => h) (fs_R15_f18 A S) hdg kk
theorem yg_X9_189_wR15 {G : Gx} {K : Kx} {cc : ByteArray} {rm : Room} {nL : Nat} {ret : Option FieldType} {k n pc : Nat} {A : Nat → Nat} {S : St} {lv : List (Nat × Value)} {st : List Value} (C : KOk G K RX9 cc rm nL ret) (hdg : decode cc pc = .ok (.getfield 189, 3)) (kk : Y G K k n (wR G A S) (pc + 3) lv (.ref (A 27) :: st)) : Y G K k n (wR G A S) pc lv (.ref (A 15) :: st) := y_getN C (ref := "OverHill$Dance") (Cn := RX1) (T := TX1) (N := 22) in_X1 (wR_15 ..) rfl 19 (by decide) q248 (fun _ _ h => h) (fs_R15_f19 A S) hdg kk
theorem yp_X9_183_wR15 {G : Gx} {K : Kx} {cc : ByteArray} {rm : Room} {nL : Nat} {ret : Option FieldType} {k n pc : Nat} {B : Nat → Prop} {A : Nat → Nat} {S : St} {lv : List (Nat × Value)} {st : List Value} {v : Int32} (C : KOk G K RX9 cc rm nL ret) (M : KM G K B) (hdg : decode cc pc = .ok (.putfield 183, 3)) (kk : Y G K k n (wR G A (sI S 15 6 v)) (pc + 3) lv st) : Y G K k n (wR G A S) pc lv (.int v :: .ref (A 15) :: st) := y_putN C M (ref := "OverHill$Dance") (Cn := RX1) (T := TX1) (N := 22) in_X1 (wR_15 ..) rfl 6 (by decide) tyX1 tyX1_ok (by decide +kernel) q206 (fun _ _ h => h) rfl (ty := .int) (by decide +kernel) rfl rfl (Nat.le_of_ble_eq_true rfl) (wR_p15_6 ..) hdg kk
theorem yg_X9_221_wR15 {G : Gx} {K : Kx} {cc : ByteArray} {rm : Room} {nL : Nat} {ret : Option FieldType} {k n pc : Nat} {A : Nat → Nat} {S : St} {lv : List (Nat × Value)} {st : List Value} (C : KOk G K RX9 cc rm nL ret) (hdg : decode cc pc = .ok (.getfield 221, 3)) (kk : Y G K k n (wR G A S) (pc + 3) lv (.int (S.1 15 3) :: st)) : Y G K k n (wR G A S) pc lv (.ref (A 15) :: st) := y_getN C (ref := "OverHill$Dance") (Cn := RX1) (T := TX1) (N := 22) in_X1 (wR_15 ..) rfl 3 (by decide) q198 (fun _ _ h => h) (fs_R15_f3 A S) hdg kk
theorem yp_X9_221_wR15 {G : Gx} {K : Kx} {cc : ByteArray} {rm : Room} {nL : Nat} {ret : Option FieldType} {k n pc : Nat} {B : Nat → Prop} {A : Nat → Nat} {S : St} {lv : List (Nat × Value)} {st : List Value} {v : Int32} (C : KOk G K RX9 cc rm nL ret) (M : KM G K B) (hdg : decode cc pc = .ok (.putfield 221, 3)) (kk : Y G K k n (wR G A (sI S 15 3 v)) (pc + 3) lv st) : Y G K k n (wR G A S) pc lv (.int v :: .ref (A 15) :: st) := y_putN C M (ref := "OverHill$Dance") (Cn := RX1) (T := TX1) (N := 22) in_X1 (wR_15 ..) rfl 3 (by decide) tyX1 tyX1_ok (by decide +kernel) q198 (fun _ _ h => h) rfl (ty := .int) (by decide +kernel) rfl rfl (Nat.le_of_ble_eq_true rfl) (wR_p15_3 ..) hdg kk
theorem cn_X9_48 : CsSN RX9 48 yX0_isIn "OverHill" cX0_isIn 6 (some .boolean) 3 := ⟨lw_meth q526, ⟨q139, q550, q525⟩, by decide +kernel⟩
theorem cs_X9_55 : CsV RX9 55 yX9_isNext cX9_isNext 3 (some .boolean) 2 := ⟨lw_V q546 q548 qs2 q151 q549, by decide +kernel⟩
theorem cs_X9_66 : CsS RX9 66 yJ3_min cJ3_min 2 (some .int) 2 := ⟨lw_S q554 q555 q154 q556, by decide +kernel⟩
theorem cs_X9_86 : CsV RX9 86 yJ4_length cJ4_length 1 (some .int) 0 := ⟨lw_V q606 q607 q608 q155 q609, by decide +kernel⟩
theorem cs_X9_92 : CsV RX9 92 yJ4_charAt cJ4_charAt 2 (some .char) 1 := ⟨lw_V q616 q617 q618 q155 q619, by decide +kernel⟩
theorem cs_X9_96 : CsV RX9 96 yX9_is cX9_is 3 (some .boolean) 1 := ⟨lw_V q602 q604 qs6 q151 q605, by decide +kernel⟩
theorem cs_X9_38 : CsV RX9 38 yX9_next cX9_next 1 none 0 := ⟨lw_V q542 q544 qs1 q151 q545, by decide +kernel⟩
theorem cs_X9_100 : CsV RX9 100 yX9_takes cX9_takes 3 (some .boolean) 1 := ⟨lw_V q598 q600 qs5 q151 q601, by decide +kernel⟩
theorem cs_X9_103 : CsV RX9 103 yX9_wrong cX9_wrong 2 (some (.object "OverHill$Fault")) 1 := ⟨lw_V q654 q656 qs7 q151 q657, by decide +kernel⟩
theorem cs_X9_107 : CsV RX9 107 yX9_needs cX9_needs 2 none 1 := ⟨lw_V q594 q596 qs4 q151 q597, by decide +kernel⟩
theorem cs_X9_111 : CsV RX9 111 yX9_number cX9_number 4 (some .int) 2 := ⟨lw_V q747 q749 qs11 q151 q750, by decide +kernel⟩
theorem cs_X9_117 : CsV RX9 117 yX9_told cX9_told 4 (some .int) 3 := ⟨lw_V q743 q745 qs10 q151 q746, by decide +kernel⟩
theorem cs_X9_133 : CsV RX9 133 yX9_step cX9_step 1 (some .int) 0 := ⟨lw_V q763 q765 qs14 q151 q766, by decide +kernel⟩
theorem cs_X9_156 : CsV RX9 156 yX1_stumbleAt cX1_stumbleAt 4 (some .int) 2 := ⟨lw_V q783 q784 q785 q140 q786, by decide +kernel⟩
theorem cs_X9_197 : CsV RX9 197 yX9_newAnswers cX9_newAnswers 3 none 0 := ⟨lw_V q769 q771 qs15 q151 q772, by decide +kernel⟩
theorem cs_X9_193 : CsV RX9 193 yX9_newRound cX9_newRound 4 none 0 := ⟨lw_V q758 q760 qs13 q151 q761, by decide +kernel⟩
theorem cs_X9_202 : CsV RX9 202 yX9_takes_2 cX9_takes_2 3 (some .boolean) 2 := ⟨lw_V q774 q776 qs16 q151 q777, by decide +kernel⟩
theorem cs_X9_209 : CsV RX9 209 yX9_newMud cX9_newMud 1 none 0 := ⟨lw_V q790 q792 qs18 q151 q793, by decide +kernel⟩
theorem cs_X9_205 : CsV RX9 205 yX9_newStumble cX9_newStumble 2 none 0 := ⟨lw_V q778 q780 qs17 q151 q781, by decide +kernel⟩
theorem cs_X9_214 : CsV RX9 214 yX9_newCell cX9_newCell 2 none 0 := ⟨lw_V q795 q797 qs19 q151 q798, by decide +kernel⟩
theorem cs_X9_218 : CsV RX9 218 yX9_newTune cX9_newTune 2 none 0 := ⟨lw_V q801 q803 qs20 q151 q804, by decide +kernel⟩
theorem cs_X9_227 : CsV RX9 227 yX9_line cX9_line 1 none 0 := ⟨lw_V q753 q755 qs12 q151 q756, by decide +kernel⟩
theorem cs_X9_224 : CsV RX9 224 yX9_first cX9_first 1 none 0 := ⟨lw_V q589 q591 qs3 q151 q592, by decide +kernel⟩
/-! OverHill$Reader isNext(II)Z: r_isNext -/
abbrev rm_r_isNext : Room := { frames := 8, cells := 0, slots := 0, locals := 400 }
def wp_r_isNext (S : St) (x1 : Int32) (x2 : Int32) (Q : Int32 → Prop) : Prop :=
  (((S.1 40 0) ≤ (S.1 40 2) → Q 0) ∧ (¬ (S.1 40 0) ≤ (S.1 40 2) → (vp_in (S.1 40 2) 1200 ∧ wp_o_isIn (((S.1 1 ((S.1 40 2)).toNatClampNeg)).toInt64) ((x1).toInt64) ((x2).toInt64) (fun r_4 => ((r_4 = 0 → Q 0) ∧ (¬ r_4 = 0 → Q 1))))))
set_option maxRecDepth 100000 in
theorem met_r_isNext (G : Gx) (A : Nat → Nat) (S : St) (x1 : Int32) (x2 : Int32) (Q : Int32 → Prop) (h : wp_r_isNext S x1 x2 Q) : Ri G yX9_isNext (ws_ yX9_isNext cX9_isNext 3 (some .boolean)) rm_r_isNext (wR G A S) [.ref (A 40), .int (x1), .int (x2)] Q := by
  refine ent_Ri (by decide +kernel) rfl (Nat.le_of_ble_eq_true rfl) [(0, .ref (A 40)), (1, .int (x1)), (2, .int (x2))] rfl (fun K C N => ?_)
  refine y_aload_n C dX9_isNext_0 0 rfl rfl ?_
  refine yg_X9_41_wR40 C dX9_isNext_1 ?_
  refine y_aload_n C dX9_isNext_4 0 rfl rfl ?_
  refine yg_X9_19_wR40 C dX9_isNext_5 ?_
  refine y_icmp_ge C (tgt := 38) dX9_isNext_8 rfl (fun c_1 => ?_) (fun c_1 => ?_)
  · have h_2 := (h).1 c_1
    refine y_iconst C dX9_isNext_38 ic_0 ?_
    exact y_zretR C N rfl rfl (h_2) dX9_isNext_39
  · have h_3 := (h).2 c_1
    refine y_aload_n C dX9_isNext_11 0 rfl rfl ?_
    refine yg_X9_3_wR40 C dX9_isNext_12 ?_
    refine yg_X9_44_wR0 C dX9_isNext_15 ?_
    refine y_aload_n C dX9_isNext_18 0 rfl rfl ?_
    refine yg_X9_41_wR40 C dX9_isNext_19 ?_
    refine y_bald C (wR_1 ..) rfl (h_3).1 dX9_isNext_22 ?_
    refine y_i2l C dX9_isNext_23 rfl ?_
    refine y_iload_n C dX9_isNext_24 1 rfl rfl ?_
    refine y_i2l C dX9_isNext_25 rfl ?_
    refine y_iload_n C dX9_isNext_26 2 rfl rfl ?_
    refine y_i2l C dX9_isNext_27 rfl ?_
    refine y_callRiSN (As := [.long (((S.1 1 ((S.1 40 2)).toNatClampNeg)).toInt64), .long ((x1).toInt64), .long ((x2).toInt64)]) (rest := []) C cn_X9_48 (met_o_isIn G (((S.1 1 ((S.1 40 2)).toNatClampNeg)).toInt64) ((x1).toInt64) ((x2).toInt64) _ ((h_3).2)) ⟨rfl, rfl, Nat.le_of_ble_eq_true rfl, Nat.le_of_ble_eq_true rfl⟩ rfl rfl (Nat.le_of_ble_eq_true rfl) dX9_isNext_28 ⟨Nat.zero_le _, Nat.zero_le _⟩ (fun r_4 h_5 => ?_)
    refine y_if_eq C (tgt := 38) dX9_isNext_31 rfl (fun c_6 => ?_) (fun c_6 => ?_)
    · have h_7 := (h_5).1 c_6
      refine y_iconst C dX9_isNext_38 ic_0 ?_
      exact y_zretR C N rfl rfl (h_7) dX9_isNext_39
    · have h_8 := (h_5).2 c_6
      refine y_iconst C dX9_isNext_34 ic_1 ?_
      refine y_goto C (tgt := 39) dX9_isNext_35 rfl ?_
      exact y_zretR C N rfl rfl (h_8) dX9_isNext_39
/-! OverHill$Reader next()V: r_next -/
abbrev rm_r_next : Room := { frames := 9, cells := 0, slots := 0, locals := 422 }
def wp_r_next_b148 (Q : St → Prop) : Nat → St → Prop
  | 0 => fun _ => False
  | n + 1 => fun S => wp_r_isNext S (48) (57) (fun r_34 => ((r_34 = 0 → Q (sI S 40 5 2)) ∧ (¬ r_34 = 0 → (vp_in (S.1 40 2) 1200 ∧ wp_jm_min (99999) ((((10 * (S.1 40 4)) + (S.1 1 ((S.1 40 2)).toNatClampNeg)) - 48)) (fun r_40 => wp_r_next_b148 Q n (sI (sI S 40 4 r_40) 40 2 (((sI S 40 4 r_40).1 40 2) + 1)))))))
def wp_r_next_b98 (Q : St → Prop) : Nat → St → Prop
  | 0 => fun _ => False
  | n + 1 => fun S => wp_r_isNext S (97) (122) (fun r_43 => ((r_43 = 0 → Q (sI S 40 5 1)) ∧ (¬ r_43 = 0 → wp_r_next_b98 Q n (sI S 40 2 ((S.1 40 2) + 1)))))
def wp_r_next_b58 (Q : St → Prop) (S : St) : Prop :=
  ((¬ ((sI S 40 3 (S.1 40 2)).1 40 2) = ((sI S 40 3 (S.1 40 2)).1 40 0) → wp_r_isNext (sI S 40 3 (S.1 40 2)) (97) (122) (fun r_14 => ((r_14 = 0 → wp_r_isNext (sI S 40 3 (S.1 40 2)) (48) (57) (fun r_19 => ((r_19 = 0 → (vp_in ((sI S 40 3 (S.1 40 2)).1 40 2) 1200 ∧ ((¬ ((sI S 40 3 (S.1 40 2)).1 1 (((sI S 40 3 (S.1 40 2)).1 40 2)).toNatClampNeg) = 59 → Q (sI (sI (sI S 40 3 (S.1 40 2)) 40 5 4) 40 2 (((sI (sI S 40 3 (S.1 40 2)) 40 5 4).1 40 2) + 1))) ∧ (((sI S 40 3 (S.1 40 2)).1 1 (((sI S 40 3 (S.1 40 2)).1 40 2)).toNatClampNeg) = 59 → Q (sI (sI (sI S 40 3 (S.1 40 2)) 40 5 3) 40 2 (((sI (sI S 40 3 (S.1 40 2)) 40 5 3).1 40 2) + 1)))))) ∧ (¬ r_19 = 0 → (∃ z, wp_r_next_b148 Q z (sI (sI S 40 3 (S.1 40 2)) 40 4 0)))))) ∧ (¬ r_14 = 0 → (∃ z, wp_r_next_b98 Q z (sI S 40 3 (S.1 40 2))))))) ∧ (((sI S 40 3 (S.1 40 2)).1 40 2) = ((sI S 40 3 (S.1 40 2)).1 40 0) → Q (sI (sI S 40 3 (S.1 40 2)) 40 5 0)))
def wp_r_next_b0 (Q : St → Prop) : Nat → St → Prop
  | 0 => fun _ => False
  | n + 1 => fun S => (((S.1 40 0) ≤ (S.1 40 2) → wp_r_next_b58 Q S) ∧ (¬ (S.1 40 0) ≤ (S.1 40 2) → (vp_in (S.1 40 2) 1200 ∧ (((S.1 1 ((S.1 40 2)).toNatClampNeg) = 32 → wp_r_next_b0 Q n (sI S 40 2 ((S.1 40 2) + 1))) ∧ (¬ (S.1 1 ((S.1 40 2)).toNatClampNeg) = 32 → (vp_in (S.1 40 2) 1200 ∧ ((¬ (S.1 1 ((S.1 40 2)).toNatClampNeg) = 10 → wp_r_next_b58 Q S) ∧ ((S.1 1 ((S.1 40 2)).toNatClampNeg) = 10 → wp_r_next_b0 Q n (sI S 40 2 ((S.1 40 2) + 1))))))))))
def wp_r_next (S : St) (Q : St → Prop) : Prop :=
  (∃ z, wp_r_next_b0 Q z S)
set_option maxRecDepth 100000 in
theorem wk_r_next_b148 {G : Gx} {K : Kx} {A : Nat → Nat} (C : KOk G K RX9 cX9_next rm_r_next 1 none) {B : Nat → Prop} (M : KM G K B) {Q : St → Prop} (N : KQv G K B (wR G A) Q) : ∀ (n : Nat), ∀ (S : St), wp_r_next_b148 Q n S → Y G K 0 0 (wR G A S) 148 [(0, .ref (A 40))] [] := by
  intro n
  induction n with
  | zero => intro S h; exact h.elim
  | succ n ih =>
    intro S h
    dsimp only [wp_r_next_b148] at h
    refine y_aload_n C dX9_next_148 0 rfl rfl ?_
    refine y_bipush C dX9_next_149 bp_48 ?_
    refine y_bipush C dX9_next_151 bp_57 ?_
    refine y_callRiV (As := [.int (48), .int (57)]) (rest := []) C cs_X9_55 (met_r_isNext G A S (48) (57) _ (h)) (fun _ h => h) (wR_40 ..) rfl rfl ⟨rfl, rfl, Nat.le_of_ble_eq_true rfl, Nat.le_of_ble_eq_true rfl⟩ rfl rfl (Nat.le_of_ble_eq_true rfl) dX9_next_153 ⟨Nat.zero_le _, Nat.zero_le _⟩ (fun r_34 h_35 => ?_)
    refine y_if_eq C (tgt := 204) dX9_next_156 rfl (fun c_37 => ?_) (fun c_37 => ?_)
    · have h_38 := (h_35).1 c_37
      refine y_aload_n C dX9_next_204 0 rfl rfl ?_
      refine y_getTok C M 2 2 tn_2 (by decide) rfl q557 dX9_next_205 ?_
      refine yp_X9_35_wR40 C M dX9_next_208 ?_
      refine y_goto C (tgt := 254) dX9_next_211 rfl ?_
      exact y_vretM C M N rfl (S := (sI S 40 5 2)) rfl (h_38) dX9_next_254
    · have h_39 := (h_35).2 c_37
      refine y_aload_n C dX9_next_159 0 rfl rfl ?_
      refine y_ldc C dX9_next_160 q553 ?_
      refine y_bipush C dX9_next_162 bp_10 ?_
      refine y_aload_n C dX9_next_164 0 rfl rfl ?_
      refine yg_X9_62_wR40 C dX9_next_165 ?_
      refine y_imul C dX9_next_168 ?_
      refine y_aload_n C dX9_next_169 0 rfl rfl ?_
      refine yg_X9_3_wR40 C dX9_next_170 ?_
      refine yg_X9_44_wR0 C dX9_next_173 ?_
      refine y_aload_n C dX9_next_176 0 rfl rfl ?_
      refine yg_X9_41_wR40 C dX9_next_177 ?_
      refine y_bald C (wR_1 ..) rfl (h_39).1 dX9_next_180 ?_
      refine y_iadd C dX9_next_181 ?_
      refine y_bipush C dX9_next_182 bp_48 ?_
      refine y_isub C dX9_next_184 ?_
      refine y_callRiS (As := [.int (99999), .int ((((10 * (S.1 40 4)) + (S.1 1 ((S.1 40 2)).toNatClampNeg)) - 48))]) (rest := [.ref (A 40)]) C cs_X9_66 (met_jm_min G (99999) ((((10 * (S.1 40 4)) + (S.1 1 ((S.1 40 2)).toNatClampNeg)) - 48)) _ ((h_39).2)) (fun _ _ => pw_nil) ⟨rfl, rfl, Nat.le_of_ble_eq_true rfl, Nat.le_of_ble_eq_true rfl⟩ rfl rfl (Nat.le_of_ble_eq_true rfl) dX9_next_185 ⟨Nat.zero_le _, Nat.zero_le _⟩ (fun r_40 h_41 => ?_)
      refine yp_X9_62_wR40 C M dX9_next_188 ?_
      refine y_aload_n C dX9_next_191 0 rfl rfl ?_
      refine y_dup C dX9_next_192 rfl ?_
      refine yg_X9_41_wR40 C dX9_next_193 ?_
      refine y_iconst C dX9_next_196 ic_1 ?_
      refine y_iadd C dX9_next_197 ?_
      refine yp_X9_41_wR40 C M dX9_next_198 ?_
      refine y_goto C (tgt := 148) dX9_next_201 rfl ?_
      exact Y.sub (ih (sI (sI S 40 4 r_40) 40 2 (((sI S 40 4 r_40).1 40 2) + 1)) (h_41)) [0] rfl
set_option maxRecDepth 100000 in
theorem wk_r_next_b98 {G : Gx} {K : Kx} {A : Nat → Nat} (C : KOk G K RX9 cX9_next rm_r_next 1 none) {B : Nat → Prop} (M : KM G K B) {Q : St → Prop} (N : KQv G K B (wR G A) Q) : ∀ (n : Nat), ∀ (S : St), wp_r_next_b98 Q n S → Y G K 0 0 (wR G A S) 98 [(0, .ref (A 40))] [] := by
  intro n
  induction n with
  | zero => intro S h; exact h.elim
  | succ n ih =>
    intro S h
    dsimp only [wp_r_next_b98] at h
    refine y_aload_n C dX9_next_98 0 rfl rfl ?_
    refine y_bipush C dX9_next_99 bp_97 ?_
    refine y_bipush C dX9_next_101 bp_122 ?_
    refine y_callRiV (As := [.int (97), .int (122)]) (rest := []) C cs_X9_55 (met_r_isNext G A S (97) (122) _ (h)) (fun _ h => h) (wR_40 ..) rfl rfl ⟨rfl, rfl, Nat.le_of_ble_eq_true rfl, Nat.le_of_ble_eq_true rfl⟩ rfl rfl (Nat.le_of_ble_eq_true rfl) dX9_next_103 ⟨Nat.zero_le _, Nat.zero_le _⟩ (fun r_43 h_44 => ?_)
    refine y_if_eq C (tgt := 122) dX9_next_106 rfl (fun c_46 => ?_) (fun c_46 => ?_)
    · have h_47 := (h_44).1 c_46
      refine y_aload_n C dX9_next_122 0 rfl rfl ?_
      refine y_getTok C M 1 1 tn_1 (by decide) rfl q551 dX9_next_123 ?_
      refine yp_X9_35_wR40 C M dX9_next_126 ?_
      refine y_goto C (tgt := 254) dX9_next_129 rfl ?_
      exact y_vretM C M N rfl (S := (sI S 40 5 1)) rfl (h_47) dX9_next_254
    · have h_48 := (h_44).2 c_46
      refine y_aload_n C dX9_next_109 0 rfl rfl ?_
      refine y_dup C dX9_next_110 rfl ?_
      refine yg_X9_41_wR40 C dX9_next_111 ?_
      refine y_iconst C dX9_next_114 ic_1 ?_
      refine y_iadd C dX9_next_115 ?_
      refine yp_X9_41_wR40 C M dX9_next_116 ?_
      refine y_goto C (tgt := 98) dX9_next_119 rfl ?_
      exact Y.sub (ih (sI S 40 2 ((S.1 40 2) + 1)) (h_48)) [0] rfl
set_option maxRecDepth 100000 in
theorem wk_r_next_b58 {G : Gx} {K : Kx} {A : Nat → Nat} (C : KOk G K RX9 cX9_next rm_r_next 1 none) {B : Nat → Prop} (M : KM G K B) {Q : St → Prop} (N : KQv G K B (wR G A) Q) (S : St) (h : wp_r_next_b58 Q S) : Y G K 0 0 (wR G A S) 58 [(0, .ref (A 40))] [] := by
  refine y_aload_n C dX9_next_58 0 rfl rfl ?_
  refine y_aload_n C dX9_next_59 0 rfl rfl ?_
  refine yg_X9_41_wR40 C dX9_next_60 ?_
  refine yp_X9_52_wR40 C M dX9_next_63 ?_
  refine y_aload_n C dX9_next_66 0 rfl rfl ?_
  refine yg_X9_41_wR40 C dX9_next_67 ?_
  refine y_aload_n C dX9_next_70 0 rfl rfl ?_
  refine yg_X9_19_wR40 C dX9_next_71 ?_
  refine y_icmp_ne C (tgt := 87) dX9_next_74 rfl (fun c_12 => ?_) (fun c_12 => ?_)
  · have h_13 := (h).1 c_12
    refine y_aload_n C dX9_next_87 0 rfl rfl ?_
    refine y_bipush C dX9_next_88 bp_97 ?_
    refine y_bipush C dX9_next_90 bp_122 ?_
    refine y_callRiV (As := [.int (97), .int (122)]) (rest := []) C cs_X9_55 (met_r_isNext G A (sI S 40 3 (S.1 40 2)) (97) (122) _ (h_13)) (fun _ h => h) (wR_40 ..) rfl rfl ⟨rfl, rfl, Nat.le_of_ble_eq_true rfl, Nat.le_of_ble_eq_true rfl⟩ rfl rfl (Nat.le_of_ble_eq_true rfl) dX9_next_92 ⟨Nat.zero_le _, Nat.zero_le _⟩ (fun r_14 h_15 => ?_)
    refine y_if_eq C (tgt := 132) dX9_next_95 rfl (fun c_17 => ?_) (fun c_17 => ?_)
    · have h_18 := (h_15).1 c_17
      refine y_aload_n C dX9_next_132 0 rfl rfl ?_
      refine y_bipush C dX9_next_133 bp_48 ?_
      refine y_bipush C dX9_next_135 bp_57 ?_
      refine y_callRiV (As := [.int (48), .int (57)]) (rest := []) C cs_X9_55 (met_r_isNext G A (sI S 40 3 (S.1 40 2)) (48) (57) _ (h_18)) (fun _ h => h) (wR_40 ..) rfl rfl ⟨rfl, rfl, Nat.le_of_ble_eq_true rfl, Nat.le_of_ble_eq_true rfl⟩ rfl rfl (Nat.le_of_ble_eq_true rfl) dX9_next_137 ⟨Nat.zero_le _, Nat.zero_le _⟩ (fun r_19 h_20 => ?_)
      refine y_if_eq C (tgt := 214) dX9_next_140 rfl (fun c_22 => ?_) (fun c_22 => ?_)
      · have h_23 := (h_20).1 c_22
        refine y_aload_n C dX9_next_214 0 rfl rfl ?_
        refine y_aload_n C dX9_next_215 0 rfl rfl ?_
        refine yg_X9_3_wR40 C dX9_next_216 ?_
        refine yg_X9_44_wR0 C dX9_next_219 ?_
        refine y_aload_n C dX9_next_222 0 rfl rfl ?_
        refine yg_X9_41_wR40 C dX9_next_223 ?_
        refine y_bald C (wR_1 ..) rfl (h_23).1 dX9_next_226 ?_
        refine y_bipush C dX9_next_227 bp_59 ?_
        refine y_icmp_ne C (tgt := 238) dX9_next_229 rfl (fun c_24 => ?_) (fun c_24 => ?_)
        · have h_25 := ((h_23).2).1 c_24
          refine y_getTok C M 4 4 tn_4 (by decide) rfl q561 dX9_next_238 ?_
          refine yp_X9_35_wR40 C M dX9_next_241 ?_
          refine y_aload_n C dX9_next_244 0 rfl rfl ?_
          refine y_dup C dX9_next_245 rfl ?_
          refine yg_X9_41_wR40 C dX9_next_246 ?_
          refine y_iconst C dX9_next_249 ic_1 ?_
          refine y_iadd C dX9_next_250 ?_
          refine yp_X9_41_wR40 C M dX9_next_251 ?_
          exact y_vretM C M N rfl (S := (sI (sI (sI S 40 3 (S.1 40 2)) 40 5 4) 40 2 (((sI (sI S 40 3 (S.1 40 2)) 40 5 4).1 40 2) + 1))) rfl (h_25) dX9_next_254
        · have h_26 := ((h_23).2).2 c_24
          refine y_getTok C M 3 3 tn_3 (by decide) rfl q559 dX9_next_232 ?_
          refine y_goto C (tgt := 241) dX9_next_235 rfl ?_
          refine yp_X9_35_wR40 C M dX9_next_241 ?_
          refine y_aload_n C dX9_next_244 0 rfl rfl ?_
          refine y_dup C dX9_next_245 rfl ?_
          refine yg_X9_41_wR40 C dX9_next_246 ?_
          refine y_iconst C dX9_next_249 ic_1 ?_
          refine y_iadd C dX9_next_250 ?_
          refine yp_X9_41_wR40 C M dX9_next_251 ?_
          exact y_vretM C M N rfl (S := (sI (sI (sI S 40 3 (S.1 40 2)) 40 5 3) 40 2 (((sI (sI S 40 3 (S.1 40 2)) 40 5 3).1 40 2) + 1))) rfl (h_26) dX9_next_254
      · have h_27 := (h_20).2 c_22
        refine y_aload_n C dX9_next_143 0 rfl rfl ?_
        refine y_iconst C dX9_next_144 ic_0 ?_
        refine yp_X9_62_wR40 C M dX9_next_145 ?_
        obtain ⟨n_28, h_29⟩ := h_27
        exact Y.sub (wk_r_next_b148 C M N n_28 (sI (sI S 40 3 (S.1 40 2)) 40 4 0) h_29) [0] rfl
    · have h_30 := (h_15).2 c_17
      obtain ⟨n_31, h_32⟩ := h_30
      exact Y.sub (wk_r_next_b98 C M N n_31 (sI S 40 3 (S.1 40 2)) h_32) [0] rfl
  · have h_33 := (h).2 c_12
    refine y_aload_n C dX9_next_77 0 rfl rfl ?_
    refine y_getTok C M 0 0 tn_0 (by decide) rfl q540 dX9_next_78 ?_
    refine yp_X9_35_wR40 C M dX9_next_81 ?_
    refine y_goto C (tgt := 254) dX9_next_84 rfl ?_
    exact y_vretM C M N rfl (S := (sI (sI S 40 3 (S.1 40 2)) 40 5 0)) rfl (h_33) dX9_next_254
set_option maxRecDepth 100000 in
theorem wk_r_next_b0 {G : Gx} {K : Kx} {A : Nat → Nat} (C : KOk G K RX9 cX9_next rm_r_next 1 none) {B : Nat → Prop} (M : KM G K B) {Q : St → Prop} (N : KQv G K B (wR G A) Q) : ∀ (n : Nat), ∀ (S : St), wp_r_next_b0 Q n S → Y G K 0 0 (wR G A S) 0 [(0, .ref (A 40))] [] := by
  intro n
  induction n with
  | zero => intro S h; exact h.elim
  | succ n ih =>
    intro S h
    dsimp only [wp_r_next_b0] at h
    refine y_aload_n C dX9_next_0 0 rfl rfl ?_
    refine yg_X9_41_wR40 C dX9_next_1 ?_
    refine y_aload_n C dX9_next_4 0 rfl rfl ?_
    refine yg_X9_19_wR40 C dX9_next_5 ?_
    refine y_icmp_ge C (tgt := 58) dX9_next_8 rfl (fun c_3 => ?_) (fun c_3 => ?_)
    · have h_4 := (h).1 c_3
      exact Y.sub (wk_r_next_b58 C M N S (h_4)) [0] rfl
    · have h_5 := (h).2 c_3
      refine y_aload_n C dX9_next_11 0 rfl rfl ?_
      refine yg_X9_3_wR40 C dX9_next_12 ?_
      refine yg_X9_44_wR0 C dX9_next_15 ?_
      refine y_aload_n C dX9_next_18 0 rfl rfl ?_
      refine yg_X9_41_wR40 C dX9_next_19 ?_
      refine y_bald C (wR_1 ..) rfl (h_5).1 dX9_next_22 ?_
      refine y_bipush C dX9_next_23 bp_32 ?_
      refine y_icmp_eq C (tgt := 45) dX9_next_25 rfl (fun c_6 => ?_) (fun c_6 => ?_)
      · have h_7 := ((h_5).2).1 c_6
        refine y_aload_n C dX9_next_45 0 rfl rfl ?_
        refine y_dup C dX9_next_46 rfl ?_
        refine yg_X9_41_wR40 C dX9_next_47 ?_
        refine y_iconst C dX9_next_50 ic_1 ?_
        refine y_iadd C dX9_next_51 ?_
        refine yp_X9_41_wR40 C M dX9_next_52 ?_
        refine y_goto C (tgt := 0) dX9_next_55 rfl ?_
        exact Y.sub (ih (sI S 40 2 ((S.1 40 2) + 1)) (h_7)) [0] rfl
      · have h_8 := ((h_5).2).2 c_6
        refine y_aload_n C dX9_next_28 0 rfl rfl ?_
        refine yg_X9_3_wR40 C dX9_next_29 ?_
        refine yg_X9_44_wR0 C dX9_next_32 ?_
        refine y_aload_n C dX9_next_35 0 rfl rfl ?_
        refine yg_X9_41_wR40 C dX9_next_36 ?_
        refine y_bald C (wR_1 ..) rfl (h_8).1 dX9_next_39 ?_
        refine y_bipush C dX9_next_40 bp_10 ?_
        refine y_icmp_ne C (tgt := 58) dX9_next_42 rfl (fun c_9 => ?_) (fun c_9 => ?_)
        · have h_10 := ((h_8).2).1 c_9
          exact Y.sub (wk_r_next_b58 C M N S (h_10)) [0] rfl
        · have h_11 := ((h_8).2).2 c_9
          refine y_aload_n C dX9_next_45 0 rfl rfl ?_
          refine y_dup C dX9_next_46 rfl ?_
          refine yg_X9_41_wR40 C dX9_next_47 ?_
          refine y_iconst C dX9_next_50 ic_1 ?_
          refine y_iadd C dX9_next_51 ?_
          refine yp_X9_41_wR40 C M dX9_next_52 ?_
          refine y_goto C (tgt := 0) dX9_next_55 rfl ?_
          exact Y.sub (ih (sI S 40 2 ((S.1 40 2) + 1)) (h_11)) [0] rfl
set_option maxRecDepth 100000 in
theorem met_r_next (G : Gx) (A : Nat → Nat) (S : St) (Q : St → Prop) (h : wp_r_next S Q) : Mv G yX9_next (ws_ yX9_next cX9_next 1 none) rm_r_next (wR G A S) [.ref (A 40)] (wR G A) Q := by
  refine ent_Mv (by decide +kernel) rfl (Nat.le_of_ble_eq_true rfl) [(0, .ref (A 40))] rfl (fun K B C M N => ?_)
  obtain ⟨n_1, h_2⟩ := h
  exact Y.sub (wk_r_next_b0 C M N n_1 S h_2) [0] rfl
/-! OverHill$Reader is(Ljava/lang/String;)Z: r_is -/
abbrev rm_r_is : Room := { frames := 8, cells := 0, slots := 0, locals := 400 }
def wp_r_is_b30 (Q : Int32 → St → Prop) (x1 : Nat) : Nat → St → Int32 → Prop
  | 0 => fun _ _ => False
  | n + 1 => fun S x2 => (x1 < 16 ∧ (((nI (strLen.getD x1 0)) ≤ x2 → Q 1 S) ∧ (¬ (nI (strLen.getD x1 0)) ≤ x2 → (vp_in ((S.1 40 3) + x2) 1200 ∧ (x1 < 16 ∧ (vp_in x2 (strLen.getD x1 0) ∧ (((S.1 1 (((S.1 40 3) + x2)).toNatClampNeg) = ((strByt.getD x1 []).getD (x2).toNatClampNeg 0) → wp_r_is_b30 Q x1 n S ((x2 + 1))) ∧ (¬ (S.1 1 (((S.1 40 3) + x2)).toNatClampNeg) = ((strByt.getD x1 []).getD (x2).toNatClampNeg 0) → Q 0 S))))))))
def wp_r_is (S : St) (x1 : Nat) (Q : Int32 → St → Prop) : Prop :=
  (((S.1 40 5)).toNatClampNeg < 5 ∧ ((¬ ((S.1 40 5)).toNatClampNeg = 1 → Q 0 S) ∧ (((S.1 40 5)).toNatClampNeg = 1 → (x1 < 16 ∧ ((((S.1 40 2) - (S.1 40 3)) = (nI (strLen.getD x1 0)) → (∃ z, wp_r_is_b30 Q (x1) z S (0))) ∧ (¬ ((S.1 40 2) - (S.1 40 3)) = (nI (strLen.getD x1 0)) → Q 0 S))))))
set_option maxRecDepth 100000 in
theorem wk_r_is_b30 {G : Gx} {K : Kx} {A : Nat → Nat} (C : KOk G K RX9 cX9_is rm_r_is 3 (some .boolean)) {B : Nat → Prop} (M : KM G K B) {Q : Int32 → St → Prop} (N : KQi G K B (wR G A) Q) (x1 : Nat) : ∀ (n : Nat), ∀ (S : St) (x2 : Int32), wp_r_is_b30 Q x1 n S x2 → Y G K 0 0 (wR G A S) 30 [(0, .ref (A 40)), (1, .ref (G.2.2.2 (10 + x1))), (2, .int (x2))] [] := by
  intro n
  induction n with
  | zero => intro S x2 h; exact h.elim
  | succ n ih =>
    intro S x2 h
    dsimp only [wp_r_is_b30] at h
    refine y_iload_n C dX9_is_30 2 rfl rfl ?_
    refine y_aload_n C dX9_is_31 1 rfl rfl ?_
    refine y_slen C M (i := x1) cs_X9_86 (h).1 ⟨Nat.le_of_ble_eq_true rfl, Nat.le_of_ble_eq_true rfl⟩ (Nat.le_of_ble_eq_true rfl) dX9_is_32 ⟨Nat.zero_le _, Nat.zero_le _⟩ ?_
    refine y_icmp_ge C (tgt := 68) dX9_is_35 rfl (fun c_9 => ?_) (fun c_9 => ?_)
    · have h_10 := ((h).2).1 c_9
      refine y_iconst C dX9_is_68 ic_1 ?_
      exact y_zretM C M N rfl rfl (S := S) rfl (h_10) dX9_is_69
    · have h_11 := ((h).2).2 c_9
      refine y_aload_n C dX9_is_38 0 rfl rfl ?_
      refine yg_X9_3_wR40 C dX9_is_39 ?_
      refine yg_X9_44_wR0 C dX9_is_42 ?_
      refine y_aload_n C dX9_is_45 0 rfl rfl ?_
      refine yg_X9_52_wR40 C dX9_is_46 ?_
      refine y_iload_n C dX9_is_49 2 rfl rfl ?_
      refine y_iadd C dX9_is_50 ?_
      refine y_bald C (wR_1 ..) rfl (h_11).1 dX9_is_51 ?_
      refine y_aload_n C dX9_is_52 1 rfl rfl ?_
      refine y_iload_n C dX9_is_53 2 rfl rfl ?_
      refine y_schar C M (i := x1) (j := x2) cs_X9_92 ((h_11).2).1 ((h_11).2).2.1 ⟨Nat.le_of_ble_eq_true rfl, Nat.le_of_ble_eq_true rfl⟩ (Nat.le_of_ble_eq_true rfl) dX9_is_54 ⟨Nat.zero_le _, Nat.zero_le _⟩ ?_
      refine y_icmp_eq C (tgt := 62) dX9_is_57 rfl (fun c_12 => ?_) (fun c_12 => ?_)
      · have h_13 := (((h_11).2).2.2).1 c_12
        refine y_iinc C dX9_is_62 2 rfl (Nat.le_of_ble_eq_true rfl) (ii_1 _) [(2, .int ((x2 + 1))), (0, .ref (A 40)), (1, .ref (G.2.2.2 (10 + x1)))] rfl ?_
        refine y_goto C (tgt := 30) dX9_is_65 rfl ?_
        exact Y.sub (ih S ((x2 + 1)) (h_13)) [1, 2, 0] rfl
      · have h_14 := (((h_11).2).2.2).2 c_12
        refine y_iconst C dX9_is_60 ic_0 ?_
        exact y_zretM C M N rfl rfl (S := S) rfl (h_14) dX9_is_61
set_option maxRecDepth 100000 in
theorem met_r_is (G : Gx) (A : Nat → Nat) (S : St) (x1 : Nat) (Q : Int32 → St → Prop) (h : wp_r_is S x1 Q) : Mi G yX9_is (ws_ yX9_is cX9_is 3 (some .boolean)) rm_r_is (wR G A S) [.ref (A 40), .ref (G.2.2.2 (10 + x1))] (wR G A) Q := by
  refine ent_Mi (by decide +kernel) rfl (Nat.le_of_ble_eq_true rfl) [(0, .ref (A 40)), (1, .ref (G.2.2.2 (10 + x1)))] rfl (fun K B C M N => ?_)
  refine y_aload_n C dX9_is_0 0 rfl rfl ?_
  refine yg_X9_35_wR40 C dX9_is_1 ?_
  refine y_getTok C M 1 1 tn_1 (by decide) rfl q551 dX9_is_4 ?_
  refine y_tok_ne C M (tgt := 26) (h).1 tn_1 (by decide) dX9_is_7 rfl (fun c_1 => ?_) (fun c_1 => ?_)
  · have h_2 := (h).2.1 c_1
    refine y_iconst C dX9_is_26 ic_0 ?_
    exact y_zretM C M N rfl rfl (S := S) rfl (h_2) dX9_is_27
  · have h_3 := (h).2.2 c_1
    refine y_aload_n C dX9_is_10 0 rfl rfl ?_
    refine yg_X9_41_wR40 C dX9_is_11 ?_
    refine y_aload_n C dX9_is_14 0 rfl rfl ?_
    refine yg_X9_52_wR40 C dX9_is_15 ?_
    refine y_isub C dX9_is_18 ?_
    refine y_aload_n C dX9_is_19 1 rfl rfl ?_
    refine y_slen C M (i := x1) cs_X9_86 (h_3).1 ⟨Nat.le_of_ble_eq_true rfl, Nat.le_of_ble_eq_true rfl⟩ (Nat.le_of_ble_eq_true rfl) dX9_is_20 ⟨Nat.zero_le _, Nat.zero_le _⟩ ?_
    refine y_icmp_eq C (tgt := 28) dX9_is_23 rfl (fun c_4 => ?_) (fun c_4 => ?_)
    · have h_5 := ((h_3).2).1 c_4
      refine y_iconst C dX9_is_28 ic_0 ?_
      refine y_istore_n C dX9_is_29 rfl (Nat.le_of_ble_eq_true rfl) [(2, .int (0)), (0, .ref (A 40)), (1, .ref (G.2.2.2 (10 + x1)))] rfl ?_
      obtain ⟨n_6, h_7⟩ := h_5
      exact Y.sub (wk_r_is_b30 C M N (x1) n_6 S (0) h_7) [1, 2, 0] rfl
    · have h_8 := ((h_3).2).2 c_4
      refine y_iconst C dX9_is_26 ic_0 ?_
      exact y_zretM C M N rfl rfl (S := S) rfl (h_8) dX9_is_27
/-! OverHill$Reader takes(Ljava/lang/String;)Z: r_takes -/
abbrev rm_r_takes : Room := { frames := 10, cells := 0, slots := 0, locals := 442 }
def wp_r_takes (S : St) (x1 : Nat) (Q : Int32 → St → Prop) : Prop :=
  wp_r_is S (x1) (fun r_1 S_3 => ((r_1 = 0 → (narrow .boolean (.int r_1) = .int r_1 ∧ Q r_1 S_3)) ∧ (¬ r_1 = 0 → wp_r_next S_3 (fun S_9 => (narrow .boolean (.int r_1) = .int r_1 ∧ Q r_1 S_9)))))
set_option maxRecDepth 100000 in
theorem met_r_takes (G : Gx) (A : Nat → Nat) (S : St) (x1 : Nat) (Q : Int32 → St → Prop) (h : wp_r_takes S x1 Q) : Mi G yX9_takes (ws_ yX9_takes cX9_takes 3 (some .boolean)) rm_r_takes (wR G A S) [.ref (A 40), .ref (G.2.2.2 (10 + x1))] (wR G A) Q := by
  refine ent_Mi (by decide +kernel) rfl (Nat.le_of_ble_eq_true rfl) [(0, .ref (A 40)), (1, .ref (G.2.2.2 (10 + x1)))] rfl (fun K B C M N => ?_)
  refine y_aload_n C dX9_takes_0 0 rfl rfl ?_
  refine y_aload_n C dX9_takes_1 1 rfl rfl ?_
  refine y_callMiV (k' := 0) (n' := 0) (As := [.ref (G.2.2.2 (10 + x1))]) (rest := []) C M cs_X9_96 (met_r_is G A S (x1) _ (h)) (wR_40 ..) rfl rfl ⟨rfl, rfl, Nat.le_of_ble_eq_true rfl, Nat.le_of_ble_eq_true rfl⟩ rfl rfl (Nat.le_of_ble_eq_true rfl) dX9_takes_2 ⟨Nat.zero_le _, Nat.zero_le _⟩ rfl rfl (fun r_1 S_3 h_2 => ?_)
  refine y_istore_n C dX9_takes_5 rfl (Nat.le_of_ble_eq_true rfl) [(2, .int (r_1)), (0, .ref (A 40)), (1, .ref (G.2.2.2 (10 + x1)))] rfl ?_
  refine y_iload_n C dX9_takes_6 0 rfl rfl ?_
  refine y_if_eq C (tgt := 14) dX9_takes_7 rfl (fun c_4 => ?_) (fun c_4 => ?_)
  · have h_5 := (h_2).1 c_4
    refine y_iload_n C dX9_takes_14 0 rfl rfl ?_
    exact y_zretM C M N rfl (h_5).1 (S := S_3) rfl ((h_5).2) dX9_takes_15
  · have h_6 := (h_2).2 c_4
    refine y_aload_n C dX9_takes_10 1 rfl rfl ?_
    refine y_callMvV (k' := 0) (n' := 0) (As := []) (rest := []) C M cs_X9_38 (met_r_next G A S_3 _ (h_6)) (wR_40 ..) rfl rfl ⟨rfl, rfl, Nat.le_of_ble_eq_true rfl, Nat.le_of_ble_eq_true rfl⟩ rfl rfl (Nat.le_of_ble_eq_true rfl) dX9_takes_11 ⟨Nat.zero_le _, Nat.zero_le _⟩ rfl rfl (fun S_9 h_8 => ?_)
    refine y_iload_n C dX9_takes_14 0 rfl rfl ?_
    exact y_zretM C M N rfl (h_8).1 (S := S_9) rfl ((h_8).2) dX9_takes_15
/-! OverHill$Reader needs(Ljava/lang/String;)V: r_needs -/
abbrev rm_r_needs : Room := { frames := 11, cells := 1, slots := 8, locals := 464 }
def wp_r_needs (S : St) (x1 : Nat) (Q : (Unit ⊕ (Int32 × Int32)) → St → Prop) : Prop :=
  wp_r_takes S (x1) (fun r_1 S_3 => ((¬ r_1 = 0 → Q (.inl ()) S_3) ∧ (r_1 = 0 → Q (.inr (1, S_3.1 40 3)) S_3)))
set_option maxRecDepth 100000 in
theorem met_r_needs (G : Gx) (A : Nat → Nat) (S : St) (x1 : Nat) (Q : (Unit ⊕ (Int32 × Int32)) → St → Prop) (h : wp_r_needs S x1 Q) : Xv G yX9_needs (ws_ yX9_needs cX9_needs 2 none) rm_r_needs (wR G A S) [.ref (A 40), .ref (G.2.2.2 (10 + x1))] (wR G A) (fun S => Q (.inl ()) S) (xpF (wR G A) (fun f S => Q (.inr f) S)) 0 0 1 8 := by
  refine ent_Xv (by decide) rfl (Nat.le_of_ble_eq_true rfl) [(0, .ref (A 40)), (1, .ref (G.2.2.2 (10 + x1)))] rfl (fun K B C M N => ?_)
  refine y_aload_n C dX9_needs_0 0 rfl rfl ?_
  refine y_aload_n C dX9_needs_1 1 rfl rfl ?_
  refine y_callMiV (k' := 0) (n' := 0) (As := [.ref (G.2.2.2 (10 + x1))]) (rest := []) C M cs_X9_100 (met_r_takes G A S (x1) _ (h)) (wR_40 ..) rfl rfl ⟨rfl, rfl, Nat.le_of_ble_eq_true rfl, Nat.le_of_ble_eq_true rfl⟩ rfl rfl (Nat.le_of_ble_eq_true rfl) dX9_needs_2 ⟨Nat.zero_le _, Nat.zero_le _⟩ rfl rfl (fun r_1 S_3 h_2 => ?_)
  refine y_if_ne C (tgt := 14) dX9_needs_5 rfl (fun c_4 => ?_) (fun c_4 => ?_)
  · have h_5 := (h_2).1 c_4
    exact y_vretX C M N rfl (S := S_3) rfl (h_5) dX9_needs_14 ⟨Nat.zero_le _, Nat.zero_le _⟩
  · have h_6 := (h_2).2 c_4
    refine y_aload_n C dX9_needs_8 0 rfl rfl ?_
    refine y_iconst C dX9_needs_9 ic_1 ?_
    exact y_wrong_v C M N cs_X9_103 (kd := 1) (h_6) (Nat.le_of_ble_eq_true rfl) ⟨Nat.le_of_ble_eq_true rfl, Nat.le_of_ble_eq_true rfl, Nat.le_of_ble_eq_true rfl, Nat.le_of_ble_eq_true rfl⟩ dX9_needs_10 dX9_needs_13
/-! OverHill$Reader number(II)I: r_number -/
abbrev rm_r_number : Room := { frames := 10, cells := 1, slots := 8, locals := 442 }
def wp_r_number (S : St) (x1 : Int32) (x2 : Int32) (Q : (Int32 ⊕ (Int32 × Int32)) → St → Prop) : Prop :=
  (((S.1 40 5)).toNatClampNeg < 5 ∧ ((((S.1 40 5)).toNatClampNeg = 2 → wp_o_isIn (((S.1 40 4)).toInt64) ((x1).toInt64) ((x2).toInt64) (fun r_4 => ((¬ r_4 = 0 → wp_r_next S (fun S_10 => Q (.inl (S.1 40 4)) S_10)) ∧ (r_4 = 0 → Q (.inr (2, S.1 40 3)) S)))) ∧ (¬ ((S.1 40 5)).toNatClampNeg = 2 → Q (.inr (1, S.1 40 3)) S)))
set_option maxRecDepth 100000 in
theorem met_r_number (G : Gx) (A : Nat → Nat) (S : St) (x1 : Int32) (x2 : Int32) (Q : (Int32 ⊕ (Int32 × Int32)) → St → Prop) (h : wp_r_number S x1 x2 Q) : Xi G yX9_number (ws_ yX9_number cX9_number 4 (some .int)) rm_r_number (wR G A S) [.ref (A 40), .int (x1), .int (x2)] (wR G A) (fun v S => Q (.inl v) S) (xpF (wR G A) (fun f S => Q (.inr f) S)) 0 0 1 8 := by
  refine ent_Xi (by decide) rfl (Nat.le_of_ble_eq_true rfl) [(0, .ref (A 40)), (1, .int (x1)), (2, .int (x2))] rfl (fun K B C M N => ?_)
  refine y_aload_n C dX9_number_0 0 rfl rfl ?_
  refine yg_X9_35_wR40 C dX9_number_1 ?_
  refine y_getTok C M 2 2 tn_2 (by decide) rfl q557 dX9_number_4 ?_
  refine y_tok_eq C M (tgt := 16) (h).1 tn_2 (by decide) dX9_number_7 rfl (fun c_1 => ?_) (fun c_1 => ?_)
  · have h_2 := (h).2.1 c_1
    refine y_aload_n C dX9_number_16 0 rfl rfl ?_
    refine yg_X9_62_wR40 C dX9_number_17 ?_
    refine y_i2l C dX9_number_20 rfl ?_
    refine y_iload_n C dX9_number_21 1 rfl rfl ?_
    refine y_i2l C dX9_number_22 rfl ?_
    refine y_iload_n C dX9_number_23 2 rfl rfl ?_
    refine y_i2l C dX9_number_24 rfl ?_
    refine y_callRiSN (As := [.long (((S.1 40 4)).toInt64), .long ((x1).toInt64), .long ((x2).toInt64)]) (rest := []) C cn_X9_48 (met_o_isIn G (((S.1 40 4)).toInt64) ((x1).toInt64) ((x2).toInt64) _ (h_2)) ⟨rfl, rfl, Nat.le_of_ble_eq_true rfl, Nat.le_of_ble_eq_true rfl⟩ rfl rfl (Nat.le_of_ble_eq_true rfl) dX9_number_25 ⟨Nat.zero_le _, Nat.zero_le _⟩ (fun r_4 h_5 => ?_)
    refine y_if_ne C (tgt := 37) dX9_number_28 rfl (fun c_6 => ?_) (fun c_6 => ?_)
    · have h_7 := (h_5).1 c_6
      refine y_aload_n C dX9_number_37 0 rfl rfl ?_
      refine yg_X9_62_wR40 C dX9_number_38 ?_
      refine y_istore_n C dX9_number_41 rfl (Nat.le_of_ble_eq_true rfl) [(3, .int ((S.1 40 4))), (0, .ref (A 40)), (1, .int (x1)), (2, .int (x2))] rfl ?_
      refine y_aload_n C dX9_number_42 1 rfl rfl ?_
      refine y_callMvV (k' := 0) (n' := 0) (As := []) (rest := []) C M cs_X9_38 (met_r_next G A S _ (h_7)) (wR_40 ..) rfl rfl ⟨rfl, rfl, Nat.le_of_ble_eq_true rfl, Nat.le_of_ble_eq_true rfl⟩ rfl rfl (Nat.le_of_ble_eq_true rfl) dX9_number_43 ⟨Nat.zero_le _, Nat.zero_le _⟩ rfl rfl (fun S_10 h_9 => ?_)
      refine y_iload_n C dX9_number_46 0 rfl rfl ?_
      exact y_iretX C M N rfl (S := S_10) rfl (h_9) dX9_number_47 ⟨Nat.zero_le _, Nat.zero_le _⟩
    · have h_11 := (h_5).2 c_6
      refine y_aload_n C dX9_number_31 0 rfl rfl ?_
      refine y_iconst C dX9_number_32 ic_2 ?_
      exact y_wrong_i C M N cs_X9_103 (kd := 2) (h_11) (Nat.le_of_ble_eq_true rfl) ⟨Nat.le_of_ble_eq_true rfl, Nat.le_of_ble_eq_true rfl, Nat.le_of_ble_eq_true rfl, Nat.le_of_ble_eq_true rfl⟩ dX9_number_33 dX9_number_36
  · have h_3 := (h).2.2 c_1
    refine y_aload_n C dX9_number_10 0 rfl rfl ?_
    refine y_iconst C dX9_number_11 ic_1 ?_
    exact y_wrong_i C M N cs_X9_103 (kd := 1) (h_3) (Nat.le_of_ble_eq_true rfl) ⟨Nat.le_of_ble_eq_true rfl, Nat.le_of_ble_eq_true rfl, Nat.le_of_ble_eq_true rfl, Nat.le_of_ble_eq_true rfl⟩ dX9_number_12 dX9_number_15
/-! OverHill$Reader told(Ljava/lang/String;II)I: r_told -/
abbrev rm_r_told : Room := { frames := 12, cells := 1, slots := 8, locals := 485 }
def wp_r_told (S : St) (x1 : Nat) (x2 : Int32) (x3 : Int32) (Q : (Int32 ⊕ (Int32 × Int32)) → St → Prop) : Prop :=
  wp_r_needs S (x1) (fun r_1 S_3 => thn r_1 (fun _ => wp_r_number S_3 (x2) (x3) (fun r_6 S_8 => thn r_6 (fun v_9 => Q (.inl v_9) S_8) (fun f_10 => Q (.inr f_10) S_8))) (fun f_5 => Q (.inr f_5) S_3))
set_option maxRecDepth 100000 in
theorem met_r_told (G : Gx) (A : Nat → Nat) (S : St) (x1 : Nat) (x2 : Int32) (x3 : Int32) (Q : (Int32 ⊕ (Int32 × Int32)) → St → Prop) (h : wp_r_told S x1 x2 x3 Q) : Xi G yX9_told (ws_ yX9_told cX9_told 4 (some .int)) rm_r_told (wR G A S) [.ref (A 40), .ref (G.2.2.2 (10 + x1)), .int (x2), .int (x3)] (wR G A) (fun v S => Q (.inl v) S) (xpF (wR G A) (fun f S => Q (.inr f) S)) 0 0 1 8 := by
  refine ent_Xi (by decide) rfl (Nat.le_of_ble_eq_true rfl) [(0, .ref (A 40)), (1, .ref (G.2.2.2 (10 + x1))), (2, .int (x2)), (3, .int (x3))] rfl (fun K B C M N => ?_)
  refine y_aload_n C dX9_told_0 0 rfl rfl ?_
  refine y_aload_n C dX9_told_1 1 rfl rfl ?_
  refine y_callXvV (k' := 0) (n' := 0) (k9 := 1) (n9 := 8) (As := [.ref (G.2.2.2 (10 + x1))]) (rest := []) C M cs_X9_107 (met_r_needs G A S (x1) _ (h)) (wR_40 ..) rfl rfl ⟨rfl, rfl, Nat.le_of_ble_eq_true rfl, Nat.le_of_ble_eq_true rfl⟩ rfl rfl (Nat.le_of_ble_eq_true rfl) dX9_told_2 ⟨Nat.le_of_ble_eq_true rfl, Nat.le_of_ble_eq_true rfl⟩ rfl rfl rfl rfl (fun _ _ _ hx9 => y_outi C M N (fun _ h9 => by cases h9) hx9 ⟨Nat.le_refl _, Nat.le_refl _⟩) (fun S_3 h_2 => ?_)
  refine y_aload_n C dX9_told_5 0 rfl rfl ?_
  refine y_iload_n C dX9_told_6 2 rfl rfl ?_
  refine y_iload_n C dX9_told_7 3 rfl rfl ?_
  refine y_callXiV (k' := 0) (n' := 0) (k9 := 1) (n9 := 8) (As := [.int (x2), .int (x3)]) (rest := []) C M cs_X9_111 (met_r_number G A S_3 (x2) (x3) _ (h_2)) (wR_40 ..) rfl rfl ⟨rfl, rfl, Nat.le_of_ble_eq_true rfl, Nat.le_of_ble_eq_true rfl⟩ rfl rfl (Nat.le_of_ble_eq_true rfl) dX9_told_8 ⟨Nat.le_of_ble_eq_true rfl, Nat.le_of_ble_eq_true rfl⟩ rfl rfl rfl rfl (fun _ _ _ hx9 => y_outi C M N (fun _ h9 => by cases h9) hx9 ⟨Nat.le_refl _, Nat.le_refl _⟩) (fun v_9 S_8 h_7 => ?_)
  exact y_iretX C M N rfl (S := S_8) rfl (h_7) dX9_told_11 ⟨Nat.zero_le _, Nat.zero_le _⟩
/-! OverHill$Reader step()I: r_step -/
abbrev rm_r_step : Room := { frames := 11, cells := 1, slots := 8, locals := 465 }
def wp_r_step (S : St) (Q : (Int32 ⊕ (Int32 × Int32)) → St → Prop) : Prop :=
  wp_r_number S (0) (5) (fun r_1 S_3 => thn r_1 (fun v_4 => Q (.inl v_4) S_3) (fun f_5 => Q (.inr f_5) S_3))
set_option maxRecDepth 100000 in
theorem met_r_step (G : Gx) (A : Nat → Nat) (S : St) (Q : (Int32 ⊕ (Int32 × Int32)) → St → Prop) (h : wp_r_step S Q) : Xi G yX9_step (ws_ yX9_step cX9_step 1 (some .int)) rm_r_step (wR G A S) [.ref (A 40)] (wR G A) (fun v S => Q (.inl v) S) (xpF (wR G A) (fun f S => Q (.inr f) S)) 0 0 1 8 := by
  refine ent_Xi (by decide) rfl (Nat.le_of_ble_eq_true rfl) [(0, .ref (A 40))] rfl (fun K B C M N => ?_)
  refine y_aload_n C dX9_step_0 0 rfl rfl ?_
  refine y_iconst C dX9_step_1 ic_0 ?_
  refine y_iconst C dX9_step_2 ic_5 ?_
  refine y_callXiV (k' := 0) (n' := 0) (k9 := 1) (n9 := 8) (As := [.int (0), .int (5)]) (rest := []) C M cs_X9_111 (met_r_number G A S (0) (5) _ (h)) (wR_40 ..) rfl rfl ⟨rfl, rfl, Nat.le_of_ble_eq_true rfl, Nat.le_of_ble_eq_true rfl⟩ rfl rfl (Nat.le_of_ble_eq_true rfl) dX9_step_3 ⟨Nat.le_of_ble_eq_true rfl, Nat.le_of_ble_eq_true rfl⟩ rfl rfl rfl rfl (fun _ _ _ hx9 => y_outi C M N (fun _ h9 => by cases h9) hx9 ⟨Nat.le_refl _, Nat.le_refl _⟩) (fun v_4 S_3 h_2 => ?_)
  exact y_iretX C M N rfl (S := S_3) rfl (h_2) dX9_step_6 ⟨Nat.zero_le _, Nat.zero_le _⟩
/-! OverHill$Reader takes(Ljava/lang/String;Z)Z: r_takes_2 -/
abbrev rm_r_takes_2 : Room := { frames := 11, cells := 1, slots := 8, locals := 464 }
def wp_r_takes_2 (S : St) (x1 : Nat) (x2 : Int32) (Q : (Int32 ⊕ (Int32 × Int32)) → St → Prop) : Prop :=
  wp_r_is S (x1) (fun r_1 S_3 => ((r_1 = 0 → wp_r_takes S_3 (x1) (fun r_6 S_8 => (narrow .boolean (.int r_6) = .int r_6 ∧ Q (.inl r_6) S_8))) ∧ (¬ r_1 = 0 → ((x2 = 0 → wp_r_takes S_3 (x1) (fun r_12 S_14 => (narrow .boolean (.int r_12) = .int r_12 ∧ Q (.inl r_12) S_14))) ∧ (¬ x2 = 0 → Q (.inr (3, S_3.1 40 3)) S_3)))))
set_option maxRecDepth 100000 in
theorem met_r_takes_2 (G : Gx) (A : Nat → Nat) (S : St) (x1 : Nat) (x2 : Int32) (Q : (Int32 ⊕ (Int32 × Int32)) → St → Prop) (h : wp_r_takes_2 S x1 x2 Q) : Xi G yX9_takes_2 (ws_ yX9_takes_2 cX9_takes_2 3 (some .boolean)) rm_r_takes_2 (wR G A S) [.ref (A 40), .ref (G.2.2.2 (10 + x1)), .int (x2)] (wR G A) (fun v S => Q (.inl v) S) (xpF (wR G A) (fun f S => Q (.inr f) S)) 0 0 1 8 := by
  refine ent_Xi (by decide) rfl (Nat.le_of_ble_eq_true rfl) [(0, .ref (A 40)), (1, .ref (G.2.2.2 (10 + x1))), (2, .int (x2))] rfl (fun K B C M N => ?_)
  refine y_aload_n C dX9_takes_2_0 0 rfl rfl ?_
  refine y_aload_n C dX9_takes_2_1 1 rfl rfl ?_
  refine y_callMiV (k' := 0) (n' := 0) (As := [.ref (G.2.2.2 (10 + x1))]) (rest := []) C M cs_X9_96 (met_r_is G A S (x1) _ (h)) (wR_40 ..) rfl rfl ⟨rfl, rfl, Nat.le_of_ble_eq_true rfl, Nat.le_of_ble_eq_true rfl⟩ rfl rfl (Nat.le_of_ble_eq_true rfl) dX9_takes_2_2 ⟨Nat.zero_le _, Nat.zero_le _⟩ rfl rfl (fun r_1 S_3 h_2 => ?_)
  refine y_if_eq C (tgt := 18) dX9_takes_2_5 rfl (fun c_4 => ?_) (fun c_4 => ?_)
  · have h_5 := (h_2).1 c_4
    refine y_aload_n C dX9_takes_2_18 0 rfl rfl ?_
    refine y_aload_n C dX9_takes_2_19 1 rfl rfl ?_
    refine y_callMiV (k' := 0) (n' := 0) (As := [.ref (G.2.2.2 (10 + x1))]) (rest := []) C M cs_X9_100 (met_r_takes G A S_3 (x1) _ (h_5)) (wR_40 ..) rfl rfl ⟨rfl, rfl, Nat.le_of_ble_eq_true rfl, Nat.le_of_ble_eq_true rfl⟩ rfl rfl (Nat.le_of_ble_eq_true rfl) dX9_takes_2_20 ⟨Nat.zero_le _, Nat.zero_le _⟩ rfl rfl (fun r_6 S_8 h_7 => ?_)
    exact y_zretX C M N rfl (h_7).1 (S := S_8) rfl (h_7).2 dX9_takes_2_23 ⟨Nat.zero_le _, Nat.zero_le _⟩
  · have h_9 := (h_2).2 c_4
    refine y_iload_n C dX9_takes_2_8 2 rfl rfl ?_
    refine y_if_eq C (tgt := 18) dX9_takes_2_9 rfl (fun c_10 => ?_) (fun c_10 => ?_)
    · have h_11 := (h_9).1 c_10
      refine y_aload_n C dX9_takes_2_18 0 rfl rfl ?_
      refine y_aload_n C dX9_takes_2_19 1 rfl rfl ?_
      refine y_callMiV (k' := 0) (n' := 0) (As := [.ref (G.2.2.2 (10 + x1))]) (rest := []) C M cs_X9_100 (met_r_takes G A S_3 (x1) _ (h_11)) (wR_40 ..) rfl rfl ⟨rfl, rfl, Nat.le_of_ble_eq_true rfl, Nat.le_of_ble_eq_true rfl⟩ rfl rfl (Nat.le_of_ble_eq_true rfl) dX9_takes_2_20 ⟨Nat.zero_le _, Nat.zero_le _⟩ rfl rfl (fun r_12 S_14 h_13 => ?_)
      exact y_zretX C M N rfl (h_13).1 (S := S_14) rfl (h_13).2 dX9_takes_2_23 ⟨Nat.zero_le _, Nat.zero_le _⟩
    · have h_15 := (h_9).2 c_10
      refine y_aload_n C dX9_takes_2_12 0 rfl rfl ?_
      refine y_iconst C dX9_takes_2_13 ic_3 ?_
      exact y_wrong_i C M N cs_X9_103 (kd := 3) (h_15) (Nat.le_of_ble_eq_true rfl) ⟨Nat.le_of_ble_eq_true rfl, Nat.le_of_ble_eq_true rfl, Nat.le_of_ble_eq_true rfl, Nat.le_of_ble_eq_true rfl⟩ dX9_takes_2_14 dX9_takes_2_17
/-! OverHill$Reader first()V: r_first -/
abbrev rm_r_first : Room := { frames := 13, cells := 1, slots := 8, locals := 508 }
def wp_r_first (S : St) (Q : (Unit ⊕ (Int32 × Int32)) → St → Prop) : Prop :=
  wp_r_needs S (0) (fun r_1 S_3 => thn r_1 (fun _ => wp_r_told S_3 (1) (0) (20) (fun r_6 S_8 => thn r_6 (fun v_9 => wp_r_told (sI S_8 15 0 v_9) (2) (0) (100) (fun r_11 S_13 => thn r_11 (fun v_14 => wp_r_told (sI S_13 15 1 v_14) (3) (0) (100) (fun r_16 S_18 => thn r_16 (fun v_19 => Q (.inl ()) (sI S_18 15 2 v_19)) (fun f_20 => Q (.inr f_20) S_18))) (fun f_15 => Q (.inr f_15) S_13))) (fun f_10 => Q (.inr f_10) S_8))) (fun f_5 => Q (.inr f_5) S_3))
set_option maxRecDepth 100000 in
theorem met_r_first (G : Gx) (A : Nat → Nat) (S : St) (Q : (Unit ⊕ (Int32 × Int32)) → St → Prop) (h : wp_r_first S Q) : Xv G yX9_first (ws_ yX9_first cX9_first 1 none) rm_r_first (wR G A S) [.ref (A 40)] (wR G A) (fun S => Q (.inl ()) S) (xpF (wR G A) (fun f S => Q (.inr f) S)) 0 0 1 8 := by
  refine ent_Xv (by decide) rfl (Nat.le_of_ble_eq_true rfl) [(0, .ref (A 40))] rfl (fun K B C M N => ?_)
  refine y_aload_n C dX9_first_0 0 rfl rfl ?_
  refine y_ldcS C M (i := 0) (tx := "dance") rfl rfl dX9_first_1 ?_
  refine y_callXvV (k' := 0) (n' := 0) (k9 := 1) (n9 := 8) (As := [.ref (G.2.2.2 (10 + 0))]) (rest := []) C M cs_X9_107 (met_r_needs G A S (0) _ (h)) (wR_40 ..) rfl rfl ⟨rfl, rfl, Nat.le_of_ble_eq_true rfl, Nat.le_of_ble_eq_true rfl⟩ rfl rfl (Nat.le_of_ble_eq_true rfl) dX9_first_3 ⟨Nat.le_of_ble_eq_true rfl, Nat.le_of_ble_eq_true rfl⟩ rfl rfl rfl rfl (fun _ _ _ hx9 => y_outv C M N (fun _ h9 => by cases h9) hx9 ⟨Nat.le_refl _, Nat.le_refl _⟩) (fun S_3 h_2 => ?_)
  refine y_aload_n C dX9_first_6 0 rfl rfl ?_
  refine yg_X9_25_wR40 C dX9_first_7 ?_
  refine y_aload_n C dX9_first_10 0 rfl rfl ?_
  refine y_ldcS C M (i := 1) (tx := "gap") rfl rfl dX9_first_11 ?_
  refine y_iconst C dX9_first_13 ic_0 ?_
  refine y_bipush C dX9_first_14 bp_20 ?_
  refine y_callXiV (k' := 0) (n' := 0) (k9 := 1) (n9 := 8) (As := [.ref (G.2.2.2 (10 + 1)), .int (0), .int (20)]) (rest := [.ref (A 15)]) C M cs_X9_117 (met_r_told G A S_3 (1) (0) (20) _ (h_2)) (wR_40 ..) rfl rfl ⟨rfl, rfl, Nat.le_of_ble_eq_true rfl, Nat.le_of_ble_eq_true rfl⟩ rfl rfl (Nat.le_of_ble_eq_true rfl) dX9_first_16 ⟨Nat.le_of_ble_eq_true rfl, Nat.le_of_ble_eq_true rfl⟩ rfl rfl rfl rfl (fun _ _ _ hx9 => y_outv C M N (fun _ h9 => by cases h9) hx9 ⟨Nat.le_refl _, Nat.le_refl _⟩) (fun v_9 S_8 h_7 => ?_)
  refine yp_X9_121_wR15 C M dX9_first_19 ?_
  refine y_aload_n C dX9_first_22 0 rfl rfl ?_
  refine yg_X9_25_wR40 C dX9_first_23 ?_
  refine y_aload_n C dX9_first_26 0 rfl rfl ?_
  refine y_ldcS C M (i := 2) (tx := "odds") rfl rfl dX9_first_27 ?_
  refine y_iconst C dX9_first_29 ic_0 ?_
  refine y_bipush C dX9_first_30 bp_100 ?_
  refine y_callXiV (k' := 0) (n' := 0) (k9 := 1) (n9 := 8) (As := [.ref (G.2.2.2 (10 + 2)), .int (0), .int (100)]) (rest := [.ref (A 15)]) C M cs_X9_117 (met_r_told G A (sI S_8 15 0 v_9) (2) (0) (100) _ (h_7)) (wR_40 ..) rfl rfl ⟨rfl, rfl, Nat.le_of_ble_eq_true rfl, Nat.le_of_ble_eq_true rfl⟩ rfl rfl (Nat.le_of_ble_eq_true rfl) dX9_first_32 ⟨Nat.le_of_ble_eq_true rfl, Nat.le_of_ble_eq_true rfl⟩ rfl rfl rfl rfl (fun _ _ _ hx9 => y_outv C M N (fun _ h9 => by cases h9) hx9 ⟨Nat.le_refl _, Nat.le_refl _⟩) (fun v_14 S_13 h_12 => ?_)
  refine yp_X9_125_wR15 C M dX9_first_35 ?_
  refine y_aload_n C dX9_first_38 0 rfl rfl ?_
  refine yg_X9_25_wR40 C dX9_first_39 ?_
  refine y_aload_n C dX9_first_42 0 rfl rfl ?_
  refine y_ldcS C M (i := 3) (tx := "rain") rfl rfl dX9_first_43 ?_
  refine y_iconst C dX9_first_45 ic_0 ?_
  refine y_bipush C dX9_first_46 bp_100 ?_
  refine y_callXiV (k' := 0) (n' := 0) (k9 := 1) (n9 := 8) (As := [.ref (G.2.2.2 (10 + 3)), .int (0), .int (100)]) (rest := [.ref (A 15)]) C M cs_X9_117 (met_r_told G A (sI S_13 15 1 v_14) (3) (0) (100) _ (h_12)) (wR_40 ..) rfl rfl ⟨rfl, rfl, Nat.le_of_ble_eq_true rfl, Nat.le_of_ble_eq_true rfl⟩ rfl rfl (Nat.le_of_ble_eq_true rfl) dX9_first_48 ⟨Nat.le_of_ble_eq_true rfl, Nat.le_of_ble_eq_true rfl⟩ rfl rfl rfl rfl (fun _ _ _ hx9 => y_outv C M N (fun _ h9 => by cases h9) hx9 ⟨Nat.le_refl _, Nat.le_refl _⟩) (fun v_19 S_18 h_17 => ?_)
  refine yp_X9_129_wR15 C M dX9_first_51 ?_
  exact y_vretX C M N rfl (S := (sI S_18 15 2 v_19)) rfl (h_17) dX9_first_54 ⟨Nat.zero_le _, Nat.zero_le _⟩
/-! OverHill$Reader newRound()V: r_newRound -/
abbrev rm_r_newRound : Room := { frames := 13, cells := 1, slots := 8, locals := 508 }
def wp_r_newRound_b46 (Q : (Unit ⊕ (Int32 × Int32)) → St → Prop) (K15 : St → Int32 → Int32 → Prop) (S : St) (x1 : Int32) (x2 : Int32) : Prop :=
  wp_r_step S (fun r_22 S_24 => thn r_22 (fun v_25 => (vp_in ((12 * x1) + x2) 24 ∧ wp_r_is (sI S_24 18 (((12 * x1) + x2)).toNatClampNeg v_25) (5) (fun r_27 S_29 => ((r_27 = 0 → K15 S_29 (x1) ((x2 + 1))) ∧ (¬ r_27 = 0 → (vp_in x1 2 ∧ wp_r_told (sI S_29 16 (x1).toNatClampNeg (x2 + 1)) (5) (0) (((x2 + 1) - 1)) (fun r_33 S_35 => thn r_33 (fun v_36 => (vp_in x1 2 ∧ Q (.inl ()) (sI S_35 17 (x1).toNatClampNeg v_36))) (fun f_37 => Q (.inr f_37) S_35)))))))) (fun f_26 => Q (.inr f_26) S_24))
def wp_r_newRound_b15 (Q : (Unit ⊕ (Int32 × Int32)) → St → Prop) : Nat → St → Int32 → Int32 → Prop
  | 0 => fun _ _ _ => False
  | n + 1 => fun S x1 x2 => ((¬ x2 = 12 → wp_r_newRound_b46 Q (fun Sy y1 y2 => wp_r_newRound_b15 Q n Sy y1 y2) S (x1) (x2)) ∧ (x2 = 12 → (((S.1 40 5)).toNatClampNeg < 5 ∧ ((¬ ((S.1 40 5)).toNatClampNeg = 2 → wp_r_newRound_b46 Q (fun Sy y1 y2 => wp_r_newRound_b15 Q n Sy y1 y2) S (x1) (x2)) ∧ (((S.1 40 5)).toNatClampNeg = 2 → ((6 ≤ (S.1 40 4) → wp_r_newRound_b46 Q (fun Sy y1 y2 => wp_r_newRound_b15 Q n Sy y1 y2) S (x1) (x2)) ∧ (¬ 6 ≤ (S.1 40 4) → Q (.inr (3, S.1 40 3)) S)))))))
def wp_r_newRound (S : St) (Q : (Unit ⊕ (Int32 × Int32)) → St → Prop) : Prop :=
  wp_r_number S (0) (1) (fun r_1 S_3 => thn r_1 (fun v_4 => wp_r_needs S_3 (4) (fun r_6 S_8 => thn r_6 (fun _ => (∃ z, wp_r_newRound_b15 Q z S_8 (v_4) (0))) (fun f_10 => Q (.inr f_10) S_8))) (fun f_5 => Q (.inr f_5) S_3))
set_option maxRecDepth 100000 in
theorem wk_r_newRound_b46 {G : Gx} {K : Kx} {A : Nat → Nat} (C : KOk G K RX9 cX9_newRound rm_r_newRound 4 none) {B : Nat → Prop} (M : KM G K B) {Q : (Unit ⊕ (Int32 × Int32)) → St → Prop} (N : KXv G K B (wR G A) (fun S => Q (.inl ()) S) (xpF (wR G A) (fun f S => Q (.inr f) S)) 0 0 1 8 []) (K15 : St → Int32 → Int32 → Prop) (hK15 : ∀ (S : St) (x1 : Int32) (x2 : Int32), K15 S x1 x2 → Y G K 0 0 (wR G A S) 15 [(0, .ref (A 40)), (1, .int (x1)), (2, .int (x2))] []) (S : St) (x1 : Int32) (x2 : Int32) (h : wp_r_newRound_b46 Q K15 S x1 x2) : Y G K 0 0 (wR G A S) 46 [(0, .ref (A 40)), (1, .int (x1)), (2, .int (x2))] [] := by
  refine y_aload_n C dX9_newRound_46 0 rfl rfl ?_
  refine y_callXiV (k' := 0) (n' := 0) (k9 := 1) (n9 := 8) (As := []) (rest := []) C M cs_X9_133 (met_r_step G A S _ (h)) (wR_40 ..) rfl rfl ⟨rfl, rfl, Nat.le_of_ble_eq_true rfl, Nat.le_of_ble_eq_true rfl⟩ rfl rfl (Nat.le_of_ble_eq_true rfl) dX9_newRound_47 ⟨Nat.le_of_ble_eq_true rfl, Nat.le_of_ble_eq_true rfl⟩ rfl rfl rfl rfl (fun _ _ _ hx9 => y_outv C M N (fun _ h9 => by cases h9) hx9 ⟨Nat.le_refl _, Nat.le_refl _⟩) (fun v_25 S_24 h_23 => ?_)
  refine y_istore_n C dX9_newRound_50 rfl (Nat.le_of_ble_eq_true rfl) [(3, .int (v_25)), (0, .ref (A 40)), (1, .int (x1)), (2, .int (x2))] rfl ?_
  refine y_aload_n C dX9_newRound_51 1 rfl rfl ?_
  refine yg_X9_25_wR40 C dX9_newRound_52 ?_
  refine yg_X9_136_wR15 C dX9_newRound_55 ?_
  refine y_bipush C dX9_newRound_58 bp_12 ?_
  refine y_iload_n C dX9_newRound_60 2 rfl rfl ?_
  refine y_imul C dX9_newRound_61 ?_
  refine y_iload_n C dX9_newRound_62 3 rfl rfl ?_
  refine y_iadd C dX9_newRound_63 ?_
  refine y_iload_n C dX9_newRound_64 0 rfl rfl ?_
  refine y_iast C M (wR_18 ..) rfl (wR_s18 ..) (h_23).1 dX9_newRound_65 ?_
  refine y_iinc C dX9_newRound_66 3 rfl (Nat.le_of_ble_eq_true rfl) (ii_1 _) [(2, .int ((x2 + 1))), (3, .int (v_25)), (0, .ref (A 40)), (1, .int (x1))] rfl ?_
  refine y_aload_n C dX9_newRound_69 2 rfl rfl ?_
  refine y_ldcS C M (i := 5) (tx := "begins") rfl rfl dX9_newRound_70 ?_
  refine y_callMiV (k' := 0) (n' := 0) (As := [.ref (G.2.2.2 (10 + 5))]) (rest := []) C M cs_X9_96 (met_r_is G A (sI S_24 18 (((12 * x1) + x2)).toNatClampNeg v_25) (5) _ ((h_23).2)) (wR_40 ..) rfl rfl ⟨rfl, rfl, Nat.le_of_ble_eq_true rfl, Nat.le_of_ble_eq_true rfl⟩ rfl rfl (Nat.le_of_ble_eq_true rfl) dX9_newRound_72 ⟨Nat.zero_le _, Nat.zero_le _⟩ rfl rfl (fun r_27 S_29 h_28 => ?_)
  refine y_if_eq C (tgt := 15) dX9_newRound_75 rfl (fun c_30 => ?_) (fun c_30 => ?_)
  · have h_31 := (h_28).1 c_30
    exact Y.sub (hK15 S_29 (x1) ((x2 + 1)) (h_31)) [2, 3, 0] rfl
  · have h_32 := (h_28).2 c_30
    refine y_aload_n C dX9_newRound_78 2 rfl rfl ?_
    refine yg_X9_25_wR40 C dX9_newRound_79 ?_
    refine yg_X9_142_wR15 C dX9_newRound_82 ?_
    refine y_iload_n C dX9_newRound_85 3 rfl rfl ?_
    refine y_iload_n C dX9_newRound_86 0 rfl rfl ?_
    refine y_iast C M (wR_16 ..) rfl (wR_s16 ..) (h_32).1 dX9_newRound_87 ?_
    refine y_aload_n C dX9_newRound_88 2 rfl rfl ?_
    refine yg_X9_25_wR40 C dX9_newRound_89 ?_
    refine yg_X9_144_wR15 C dX9_newRound_92 ?_
    refine y_iload_n C dX9_newRound_95 3 rfl rfl ?_
    refine y_aload_n C dX9_newRound_96 2 rfl rfl ?_
    refine y_ldcS C M (i := 5) (tx := "begins") rfl rfl dX9_newRound_97 ?_
    refine y_iconst C dX9_newRound_99 ic_0 ?_
    refine y_iload_n C dX9_newRound_100 0 rfl rfl ?_
    refine y_iconst C dX9_newRound_101 ic_1 ?_
    refine y_isub C dX9_newRound_102 ?_
    refine y_callXiV (k' := 0) (n' := 0) (k9 := 1) (n9 := 8) (As := [.ref (G.2.2.2 (10 + 5)), .int (0), .int (((x2 + 1) - 1))]) (rest := [.int (x1), .ref (A 17)]) C M cs_X9_117 (met_r_told G A (sI S_29 16 (x1).toNatClampNeg (x2 + 1)) (5) (0) (((x2 + 1) - 1)) _ ((h_32).2)) (wR_40 ..) rfl rfl ⟨rfl, rfl, Nat.le_of_ble_eq_true rfl, Nat.le_of_ble_eq_true rfl⟩ rfl rfl (Nat.le_of_ble_eq_true rfl) dX9_newRound_103 ⟨Nat.le_of_ble_eq_true rfl, Nat.le_of_ble_eq_true rfl⟩ rfl rfl rfl rfl (fun _ _ _ hx9 => y_outv C M N (fun _ h9 => by cases h9) hx9 ⟨Nat.le_refl _, Nat.le_refl _⟩) (fun v_36 S_35 h_34 => ?_)
    refine y_iast C M (wR_17 ..) rfl (wR_s17 ..) (h_34).1 dX9_newRound_106 ?_
    exact y_vretX C M N rfl (S := (sI S_35 17 (x1).toNatClampNeg v_36)) rfl ((h_34).2) dX9_newRound_107 ⟨Nat.zero_le _, Nat.zero_le _⟩
set_option maxRecDepth 100000 in
theorem wk_r_newRound_b15 {G : Gx} {K : Kx} {A : Nat → Nat} (C : KOk G K RX9 cX9_newRound rm_r_newRound 4 none) {B : Nat → Prop} (M : KM G K B) {Q : (Unit ⊕ (Int32 × Int32)) → St → Prop} (N : KXv G K B (wR G A) (fun S => Q (.inl ()) S) (xpF (wR G A) (fun f S => Q (.inr f) S)) 0 0 1 8 []) : ∀ (n : Nat), ∀ (S : St) (x1 : Int32) (x2 : Int32), wp_r_newRound_b15 Q n S x1 x2 → Y G K 0 0 (wR G A S) 15 [(0, .ref (A 40)), (1, .int (x1)), (2, .int (x2))] [] := by
  intro n
  induction n with
  | zero => intro S x1 x2 h; exact h.elim
  | succ n ih =>
    intro S x1 x2 h
    dsimp only [wp_r_newRound_b15] at h
    refine y_iload_n C dX9_newRound_15 2 rfl rfl ?_
    refine y_bipush C dX9_newRound_16 bp_12 ?_
    refine y_icmp_ne C (tgt := 46) dX9_newRound_18 rfl (fun c_13 => ?_) (fun c_13 => ?_)
    · have h_14 := (h).1 c_13
      exact Y.sub (wk_r_newRound_b46 C M N (fun Sy y1 y2 => wp_r_newRound_b15 Q n Sy y1 y2) ih S (x1) (x2) (h_14)) [0, 1, 2] rfl
    · have h_15 := (h).2 c_13
      refine y_aload_n C dX9_newRound_21 0 rfl rfl ?_
      refine yg_X9_35_wR40 C dX9_newRound_22 ?_
      refine y_getTok C M 2 2 tn_2 (by decide) rfl q557 dX9_newRound_25 ?_
      refine y_tok_ne C M (tgt := 46) (h_15).1 tn_2 (by decide) dX9_newRound_28 rfl (fun c_16 => ?_) (fun c_16 => ?_)
      · have h_17 := (h_15).2.1 c_16
        exact Y.sub (wk_r_newRound_b46 C M N (fun Sy y1 y2 => wp_r_newRound_b15 Q n Sy y1 y2) ih S (x1) (x2) (h_17)) [0, 1, 2] rfl
      · have h_18 := (h_15).2.2 c_16
        refine y_aload_n C dX9_newRound_31 0 rfl rfl ?_
        refine yg_X9_62_wR40 C dX9_newRound_32 ?_
        refine y_bipush C dX9_newRound_35 bp_6 ?_
        refine y_icmp_ge C (tgt := 46) dX9_newRound_37 rfl (fun c_19 => ?_) (fun c_19 => ?_)
        · have h_20 := (h_18).1 c_19
          exact Y.sub (wk_r_newRound_b46 C M N (fun Sy y1 y2 => wp_r_newRound_b15 Q n Sy y1 y2) ih S (x1) (x2) (h_20)) [0, 1, 2] rfl
        · have h_21 := (h_18).2 c_19
          refine y_aload_n C dX9_newRound_40 0 rfl rfl ?_
          refine y_iconst C dX9_newRound_41 ic_3 ?_
          exact y_wrong_v C M N cs_X9_103 (kd := 3) (h_21) (Nat.le_of_ble_eq_true rfl) ⟨Nat.le_of_ble_eq_true rfl, Nat.le_of_ble_eq_true rfl, Nat.le_of_ble_eq_true rfl, Nat.le_of_ble_eq_true rfl⟩ dX9_newRound_42 dX9_newRound_45
set_option maxRecDepth 100000 in
theorem met_r_newRound (G : Gx) (A : Nat → Nat) (S : St) (Q : (Unit ⊕ (Int32 × Int32)) → St → Prop) (h : wp_r_newRound S Q) : Xv G yX9_newRound (ws_ yX9_newRound cX9_newRound 4 none) rm_r_newRound (wR G A S) [.ref (A 40)] (wR G A) (fun S => Q (.inl ()) S) (xpF (wR G A) (fun f S => Q (.inr f) S)) 0 0 1 8 := by
  refine ent_Xv (by decide) rfl (Nat.le_of_ble_eq_true rfl) [(0, .ref (A 40))] rfl (fun K B C M N => ?_)
  refine y_aload_n C dX9_newRound_0 0 rfl rfl ?_
  refine y_iconst C dX9_newRound_1 ic_0 ?_
  refine y_iconst C dX9_newRound_2 ic_1 ?_
  refine y_callXiV (k' := 0) (n' := 0) (k9 := 1) (n9 := 8) (As := [.int (0), .int (1)]) (rest := []) C M cs_X9_111 (met_r_number G A S (0) (1) _ (h)) (wR_40 ..) rfl rfl ⟨rfl, rfl, Nat.le_of_ble_eq_true rfl, Nat.le_of_ble_eq_true rfl⟩ rfl rfl (Nat.le_of_ble_eq_true rfl) dX9_newRound_3 ⟨Nat.le_of_ble_eq_true rfl, Nat.le_of_ble_eq_true rfl⟩ rfl rfl rfl rfl (fun _ _ _ hx9 => y_outv C M N (fun _ h9 => by cases h9) hx9 ⟨Nat.le_refl _, Nat.le_refl _⟩) (fun v_4 S_3 h_2 => ?_)
  refine y_istore_n C dX9_newRound_6 rfl (Nat.le_of_ble_eq_true rfl) [(1, .int (v_4)), (0, .ref (A 40))] rfl ?_
  refine y_aload_n C dX9_newRound_7 1 rfl rfl ?_
  refine y_ldcS C M (i := 4) (tx := "of") rfl rfl dX9_newRound_8 ?_
  refine y_callXvV (k' := 0) (n' := 0) (k9 := 1) (n9 := 8) (As := [.ref (G.2.2.2 (10 + 4))]) (rest := []) C M cs_X9_107 (met_r_needs G A S_3 (4) _ (h_2)) (wR_40 ..) rfl rfl ⟨rfl, rfl, Nat.le_of_ble_eq_true rfl, Nat.le_of_ble_eq_true rfl⟩ rfl rfl (Nat.le_of_ble_eq_true rfl) dX9_newRound_10 ⟨Nat.le_of_ble_eq_true rfl, Nat.le_of_ble_eq_true rfl⟩ rfl rfl rfl rfl (fun _ _ _ hx9 => y_outv C M N (fun _ h9 => by cases h9) hx9 ⟨Nat.le_refl _, Nat.le_refl _⟩) (fun S_8 h_7 => ?_)
  refine y_iconst C dX9_newRound_13 ic_0 ?_
  refine y_istore_n C dX9_newRound_14 rfl (Nat.le_of_ble_eq_true rfl) [(2, .int (0)), (1, .int (v_4)), (0, .ref (A 40))] rfl ?_
  obtain ⟨n_11, h_12⟩ := h_7
  exact Y.sub (wk_r_newRound_b15 C M N n_11 S_8 (v_4) (0) h_12) [2, 1, 0] rfl
/-! OverHill$Reader newAnswers()V: r_newAnswers -/
abbrev rm_r_newAnswers : Room := { frames := 12, cells := 1, slots := 8, locals := 485 }
def wp_r_newAnswers_b7 (Q : (Unit ⊕ (Int32 × Int32)) → St → Prop) : Nat → St → Int32 → Int32 → Prop
  | 0 => fun _ _ _ => False
  | n + 1 => fun S x1 x2 => (((S.1 40 5)).toNatClampNeg < 5 ∧ ((((S.1 40 5)).toNatClampNeg = 3 → (vp_in x1 6 ∧ Q (.inl ()) (sI S 19 (x1).toNatClampNeg x2))) ∧ (¬ ((S.1 40 5)).toNatClampNeg = 3 → wp_r_step S (fun r_11 S_13 => thn r_11 (fun v_14 => wp_r_newAnswers_b7 Q n S_13 (x1) ((x2 ||| (1 <<< (v_14 &&& 31))))) (fun f_15 => Q (.inr f_15) S_13)))))
def wp_r_newAnswers (S : St) (Q : (Unit ⊕ (Int32 × Int32)) → St → Prop) : Prop :=
  wp_r_step S (fun r_1 S_3 => thn r_1 (fun v_4 => (∃ z, wp_r_newAnswers_b7 Q z S_3 (v_4) (0))) (fun f_5 => Q (.inr f_5) S_3))
set_option maxRecDepth 100000 in
theorem wk_r_newAnswers_b7 {G : Gx} {K : Kx} {A : Nat → Nat} (C : KOk G K RX9 cX9_newAnswers rm_r_newAnswers 3 none) {B : Nat → Prop} (M : KM G K B) {Q : (Unit ⊕ (Int32 × Int32)) → St → Prop} (N : KXv G K B (wR G A) (fun S => Q (.inl ()) S) (xpF (wR G A) (fun f S => Q (.inr f) S)) 0 0 1 8 []) : ∀ (n : Nat), ∀ (S : St) (x1 : Int32) (x2 : Int32), wp_r_newAnswers_b7 Q n S x1 x2 → Y G K 0 0 (wR G A S) 7 [(0, .ref (A 40)), (1, .int (x1)), (2, .int (x2))] [] := by
  intro n
  induction n with
  | zero => intro S x1 x2 h; exact h.elim
  | succ n ih =>
    intro S x1 x2 h
    dsimp only [wp_r_newAnswers_b7] at h
    refine y_aload_n C dX9_newAnswers_7 0 rfl rfl ?_
    refine yg_X9_35_wR40 C dX9_newAnswers_8 ?_
    refine y_getTok C M 3 3 tn_3 (by decide) rfl q559 dX9_newAnswers_11 ?_
    refine y_tok_eq C M (tgt := 29) (h).1 tn_3 (by decide) dX9_newAnswers_14 rfl (fun c_8 => ?_) (fun c_8 => ?_)
    · have h_9 := (h).2.1 c_8
      refine y_aload_n C dX9_newAnswers_29 0 rfl rfl ?_
      refine yg_X9_25_wR40 C dX9_newAnswers_30 ?_
      refine yg_X9_146_wR15 C dX9_newAnswers_33 ?_
      refine y_iload_n C dX9_newAnswers_36 1 rfl rfl ?_
      refine y_iload_n C dX9_newAnswers_37 2 rfl rfl ?_
      refine y_iast C M (wR_19 ..) rfl (wR_s19 ..) (h_9).1 dX9_newAnswers_38 ?_
      exact y_vretX C M N rfl (S := (sI S 19 (x1).toNatClampNeg x2)) rfl ((h_9).2) dX9_newAnswers_39 ⟨Nat.zero_le _, Nat.zero_le _⟩
    · have h_10 := (h).2.2 c_8
      refine y_iload_n C dX9_newAnswers_17 2 rfl rfl ?_
      refine y_iconst C dX9_newAnswers_18 ic_1 ?_
      refine y_aload_n C dX9_newAnswers_19 0 rfl rfl ?_
      refine y_callXiV (k' := 0) (n' := 0) (k9 := 1) (n9 := 8) (As := []) (rest := [.int (1), .int (x2)]) C M cs_X9_133 (met_r_step G A S _ (h_10)) (wR_40 ..) rfl rfl ⟨rfl, rfl, Nat.le_of_ble_eq_true rfl, Nat.le_of_ble_eq_true rfl⟩ rfl rfl (Nat.le_of_ble_eq_true rfl) dX9_newAnswers_20 ⟨Nat.le_of_ble_eq_true rfl, Nat.le_of_ble_eq_true rfl⟩ rfl rfl rfl rfl (fun _ _ _ hx9 => y_outv C M N (fun _ h9 => by cases h9) hx9 ⟨Nat.le_refl _, Nat.le_refl _⟩) (fun v_14 S_13 h_12 => ?_)
      refine y_ishl C dX9_newAnswers_23 ?_
      refine y_ior C dX9_newAnswers_24 ?_
      refine y_istore_n C dX9_newAnswers_25 rfl (Nat.le_of_ble_eq_true rfl) [(2, .int ((x2 ||| (1 <<< (v_14 &&& 31))))), (0, .ref (A 40)), (1, .int (x1))] rfl ?_
      refine y_goto C (tgt := 7) dX9_newAnswers_26 rfl ?_
      exact Y.sub (ih S_13 (x1) ((x2 ||| (1 <<< (v_14 &&& 31)))) (h_12)) [1, 2, 0] rfl
set_option maxRecDepth 100000 in
theorem met_r_newAnswers (G : Gx) (A : Nat → Nat) (S : St) (Q : (Unit ⊕ (Int32 × Int32)) → St → Prop) (h : wp_r_newAnswers S Q) : Xv G yX9_newAnswers (ws_ yX9_newAnswers cX9_newAnswers 3 none) rm_r_newAnswers (wR G A S) [.ref (A 40)] (wR G A) (fun S => Q (.inl ()) S) (xpF (wR G A) (fun f S => Q (.inr f) S)) 0 0 1 8 := by
  refine ent_Xv (by decide) rfl (Nat.le_of_ble_eq_true rfl) [(0, .ref (A 40))] rfl (fun K B C M N => ?_)
  refine y_aload_n C dX9_newAnswers_0 0 rfl rfl ?_
  refine y_callXiV (k' := 0) (n' := 0) (k9 := 1) (n9 := 8) (As := []) (rest := []) C M cs_X9_133 (met_r_step G A S _ (h)) (wR_40 ..) rfl rfl ⟨rfl, rfl, Nat.le_of_ble_eq_true rfl, Nat.le_of_ble_eq_true rfl⟩ rfl rfl (Nat.le_of_ble_eq_true rfl) dX9_newAnswers_1 ⟨Nat.le_of_ble_eq_true rfl, Nat.le_of_ble_eq_true rfl⟩ rfl rfl rfl rfl (fun _ _ _ hx9 => y_outv C M N (fun _ h9 => by cases h9) hx9 ⟨Nat.le_refl _, Nat.le_refl _⟩) (fun v_4 S_3 h_2 => ?_)
  refine y_istore_n C dX9_newAnswers_4 rfl (Nat.le_of_ble_eq_true rfl) [(1, .int (v_4)), (0, .ref (A 40))] rfl ?_
  refine y_iconst C dX9_newAnswers_5 ic_0 ?_
  refine y_istore_n C dX9_newAnswers_6 rfl (Nat.le_of_ble_eq_true rfl) [(2, .int (0)), (1, .int (v_4)), (0, .ref (A 40))] rfl ?_
  obtain ⟨n_6, h_7⟩ := h_2
  exact Y.sub (wk_r_newAnswers_b7 C M N n_6 S_3 (v_4) (0) h_7) [2, 1, 0] rfl
/-! OverHill$Reader newStumble()V: r_newStumble -/
abbrev rm_r_newStumble : Room := { frames := 13, cells := 1, slots := 8, locals := 508 }
def wp_r_newStumble_b69 (Q : (Unit ⊕ (Int32 × Int32)) → St → Prop) (S : St) (x1 : Int32) : Prop :=
  wp_r_number S (0) (199) (fun r_20 S_22 => thn r_20 (fun v_23 => (vp_in x1 8 ∧ wp_r_told (sI S_22 21 (x1).toNatClampNeg v_23) (7) (0) (5) (fun r_25 S_27 => thn r_25 (fun v_28 => (vp_in x1 8 ∧ wp_r_told (sI S_27 22 (x1).toNatClampNeg v_28) (8) (0) (9) (fun r_30 S_32 => thn r_30 (fun v_33 => (vp_in x1 8 ∧ Q (.inl ()) (sI (sI S_32 23 (x1).toNatClampNeg v_33) 15 4 (((sI S_32 23 (x1).toNatClampNeg v_33).1 15 4) + 1)))) (fun f_34 => Q (.inr f_34) S_32)))) (fun f_29 => Q (.inr f_29) S_27)))) (fun f_24 => Q (.inr f_24) S_22))
def wp_r_newStumble (S : St) (Q : (Unit ⊕ (Int32 × Int32)) → St → Prop) : Prop :=
  wp_r_number S (0) (1) (fun r_1 S_3 => thn r_1 (fun v_4 => (vp_in (S.1 15 4) 8 ∧ wp_r_needs (sI S_3 20 ((S.1 15 4)).toNatClampNeg v_4) (6) (fun r_6 S_8 => thn r_6 (fun _ => (((S_8.1 40 5)).toNatClampNeg < 5 ∧ ((¬ ((S_8.1 40 5)).toNatClampNeg = 2 → wp_r_newStumble_b69 Q S_8 ((S.1 15 4))) ∧ (((S_8.1 40 5)).toNatClampNeg = 2 → (vp_in (S.1 15 4) 8 ∧ wp_d_stumbleAt S_8 ((S_8.1 20 ((S.1 15 4)).toNatClampNeg)) ((S_8.1 40 4)) (fun r_14 => ((r_14 = (-1) → wp_r_newStumble_b69 Q S_8 ((S.1 15 4))) ∧ (¬ r_14 = (-1) → Q (.inr (2, S_8.1 40 3)) S_8)))))))) (fun f_10 => Q (.inr f_10) S_8)))) (fun f_5 => Q (.inr f_5) S_3))
set_option maxRecDepth 100000 in
theorem wk_r_newStumble_b69 {G : Gx} {K : Kx} {A : Nat → Nat} (C : KOk G K RX9 cX9_newStumble rm_r_newStumble 2 none) {B : Nat → Prop} (M : KM G K B) {Q : (Unit ⊕ (Int32 × Int32)) → St → Prop} (N : KXv G K B (wR G A) (fun S => Q (.inl ()) S) (xpF (wR G A) (fun f S => Q (.inr f) S)) 0 0 1 8 []) (S : St) (x1 : Int32) (h : wp_r_newStumble_b69 Q S x1) : Y G K 0 0 (wR G A S) 69 [(0, .ref (A 40)), (1, .int (x1))] [] := by
  refine y_aload_n C dX9_newStumble_69 0 rfl rfl ?_
  refine yg_X9_25_wR40 C dX9_newStumble_70 ?_
  refine yg_X9_159_wR15 C dX9_newStumble_73 ?_
  refine y_iload_n C dX9_newStumble_76 1 rfl rfl ?_
  refine y_aload_n C dX9_newStumble_77 0 rfl rfl ?_
  refine y_iconst C dX9_newStumble_78 ic_0 ?_
  refine y_sipush C dX9_newStumble_79 sp_199 ?_
  refine y_callXiV (k' := 0) (n' := 0) (k9 := 1) (n9 := 8) (As := [.int (0), .int (199)]) (rest := [.int (x1), .ref (A 21)]) C M cs_X9_111 (met_r_number G A S (0) (199) _ (h)) (wR_40 ..) rfl rfl ⟨rfl, rfl, Nat.le_of_ble_eq_true rfl, Nat.le_of_ble_eq_true rfl⟩ rfl rfl (Nat.le_of_ble_eq_true rfl) dX9_newStumble_82 ⟨Nat.le_of_ble_eq_true rfl, Nat.le_of_ble_eq_true rfl⟩ rfl rfl rfl rfl (fun _ _ _ hx9 => y_outv C M N (fun _ h9 => by cases h9) hx9 ⟨Nat.le_refl _, Nat.le_refl _⟩) (fun v_23 S_22 h_21 => ?_)
  refine y_iast C M (wR_21 ..) rfl (wR_s21 ..) (h_21).1 dX9_newStumble_85 ?_
  refine y_aload_n C dX9_newStumble_86 0 rfl rfl ?_
  refine yg_X9_25_wR40 C dX9_newStumble_87 ?_
  refine yg_X9_162_wR15 C dX9_newStumble_90 ?_
  refine y_iload_n C dX9_newStumble_93 1 rfl rfl ?_
  refine y_aload_n C dX9_newStumble_94 0 rfl rfl ?_
  refine y_ldcS C M (i := 7) (tx := "does") rfl rfl dX9_newStumble_95 ?_
  refine y_iconst C dX9_newStumble_97 ic_0 ?_
  refine y_iconst C dX9_newStumble_98 ic_5 ?_
  refine y_callXiV (k' := 0) (n' := 0) (k9 := 1) (n9 := 8) (As := [.ref (G.2.2.2 (10 + 7)), .int (0), .int (5)]) (rest := [.int (x1), .ref (A 22)]) C M cs_X9_117 (met_r_told G A (sI S_22 21 (x1).toNatClampNeg v_23) (7) (0) (5) _ ((h_21).2)) (wR_40 ..) rfl rfl ⟨rfl, rfl, Nat.le_of_ble_eq_true rfl, Nat.le_of_ble_eq_true rfl⟩ rfl rfl (Nat.le_of_ble_eq_true rfl) dX9_newStumble_99 ⟨Nat.le_of_ble_eq_true rfl, Nat.le_of_ble_eq_true rfl⟩ rfl rfl rfl rfl (fun _ _ _ hx9 => y_outv C M N (fun _ h9 => by cases h9) hx9 ⟨Nat.le_refl _, Nat.le_refl _⟩) (fun v_28 S_27 h_26 => ?_)
  refine y_iast C M (wR_22 ..) rfl (wR_s22 ..) (h_26).1 dX9_newStumble_102 ?_
  refine y_aload_n C dX9_newStumble_103 0 rfl rfl ?_
  refine yg_X9_25_wR40 C dX9_newStumble_104 ?_
  refine yg_X9_166_wR15 C dX9_newStumble_107 ?_
  refine y_iload_n C dX9_newStumble_110 1 rfl rfl ?_
  refine y_aload_n C dX9_newStumble_111 0 rfl rfl ?_
  refine y_ldcS C M (i := 8) (tx := "lag") rfl rfl dX9_newStumble_112 ?_
  refine y_iconst C dX9_newStumble_114 ic_0 ?_
  refine y_bipush C dX9_newStumble_115 bp_9 ?_
  refine y_callXiV (k' := 0) (n' := 0) (k9 := 1) (n9 := 8) (As := [.ref (G.2.2.2 (10 + 8)), .int (0), .int (9)]) (rest := [.int (x1), .ref (A 23)]) C M cs_X9_117 (met_r_told G A (sI S_27 22 (x1).toNatClampNeg v_28) (8) (0) (9) _ ((h_26).2)) (wR_40 ..) rfl rfl ⟨rfl, rfl, Nat.le_of_ble_eq_true rfl, Nat.le_of_ble_eq_true rfl⟩ rfl rfl (Nat.le_of_ble_eq_true rfl) dX9_newStumble_117 ⟨Nat.le_of_ble_eq_true rfl, Nat.le_of_ble_eq_true rfl⟩ rfl rfl rfl rfl (fun _ _ _ hx9 => y_outv C M N (fun _ h9 => by cases h9) hx9 ⟨Nat.le_refl _, Nat.le_refl _⟩) (fun v_33 S_32 h_31 => ?_)
  refine y_iast C M (wR_23 ..) rfl (wR_s23 ..) (h_31).1 dX9_newStumble_120 ?_
  refine y_aload_n C dX9_newStumble_121 0 rfl rfl ?_
  refine yg_X9_25_wR40 C dX9_newStumble_122 ?_
  refine y_dup C dX9_newStumble_125 rfl ?_
  refine yg_X9_149_wR15 C dX9_newStumble_126 ?_
  refine y_iconst C dX9_newStumble_129 ic_1 ?_
  refine y_iadd C dX9_newStumble_130 ?_
  refine yp_X9_149_wR15 C M dX9_newStumble_131 ?_
  exact y_vretX C M N rfl (S := (sI (sI S_32 23 (x1).toNatClampNeg v_33) 15 4 (((sI S_32 23 (x1).toNatClampNeg v_33).1 15 4) + 1))) rfl ((h_31).2) dX9_newStumble_134 ⟨Nat.zero_le _, Nat.zero_le _⟩
set_option maxRecDepth 100000 in
theorem met_r_newStumble (G : Gx) (A : Nat → Nat) (S : St) (Q : (Unit ⊕ (Int32 × Int32)) → St → Prop) (h : wp_r_newStumble S Q) : Xv G yX9_newStumble (ws_ yX9_newStumble cX9_newStumble 2 none) rm_r_newStumble (wR G A S) [.ref (A 40)] (wR G A) (fun S => Q (.inl ()) S) (xpF (wR G A) (fun f S => Q (.inr f) S)) 0 0 1 8 := by
  refine ent_Xv (by decide) rfl (Nat.le_of_ble_eq_true rfl) [(0, .ref (A 40))] rfl (fun K B C M N => ?_)
  refine y_aload_n C dX9_newStumble_0 0 rfl rfl ?_
  refine yg_X9_25_wR40 C dX9_newStumble_1 ?_
  refine yg_X9_149_wR15 C dX9_newStumble_4 ?_
  refine y_istore_n C dX9_newStumble_7 rfl (Nat.le_of_ble_eq_true rfl) [(1, .int ((S.1 15 4))), (0, .ref (A 40))] rfl ?_
  refine y_aload_n C dX9_newStumble_8 1 rfl rfl ?_
  refine yg_X9_25_wR40 C dX9_newStumble_9 ?_
  refine yg_X9_152_wR15 C dX9_newStumble_12 ?_
  refine y_iload_n C dX9_newStumble_15 0 rfl rfl ?_
  refine y_aload_n C dX9_newStumble_16 1 rfl rfl ?_
  refine y_iconst C dX9_newStumble_17 ic_0 ?_
  refine y_iconst C dX9_newStumble_18 ic_1 ?_
  refine y_callXiV (k' := 0) (n' := 0) (k9 := 1) (n9 := 8) (As := [.int (0), .int (1)]) (rest := [.int ((S.1 15 4)), .ref (A 20)]) C M cs_X9_111 (met_r_number G A S (0) (1) _ (h)) (wR_40 ..) rfl rfl ⟨rfl, rfl, Nat.le_of_ble_eq_true rfl, Nat.le_of_ble_eq_true rfl⟩ rfl rfl (Nat.le_of_ble_eq_true rfl) dX9_newStumble_19 ⟨Nat.le_of_ble_eq_true rfl, Nat.le_of_ble_eq_true rfl⟩ rfl rfl rfl rfl (fun _ _ _ hx9 => y_outv C M N (fun _ h9 => by cases h9) hx9 ⟨Nat.le_refl _, Nat.le_refl _⟩) (fun v_4 S_3 h_2 => ?_)
  refine y_iast C M (wR_20 ..) rfl (wR_s20 ..) (h_2).1 dX9_newStumble_22 ?_
  refine y_aload_n C dX9_newStumble_23 1 rfl rfl ?_
  refine y_ldcS C M (i := 6) (tx := "at") rfl rfl dX9_newStumble_24 ?_
  refine y_callXvV (k' := 0) (n' := 0) (k9 := 1) (n9 := 8) (As := [.ref (G.2.2.2 (10 + 6))]) (rest := []) C M cs_X9_107 (met_r_needs G A (sI S_3 20 ((S.1 15 4)).toNatClampNeg v_4) (6) _ ((h_2).2)) (wR_40 ..) rfl rfl ⟨rfl, rfl, Nat.le_of_ble_eq_true rfl, Nat.le_of_ble_eq_true rfl⟩ rfl rfl (Nat.le_of_ble_eq_true rfl) dX9_newStumble_26 ⟨Nat.le_of_ble_eq_true rfl, Nat.le_of_ble_eq_true rfl⟩ rfl rfl rfl rfl (fun _ _ _ hx9 => y_outv C M N (fun _ h9 => by cases h9) hx9 ⟨Nat.le_refl _, Nat.le_refl _⟩) (fun S_8 h_7 => ?_)
  refine y_aload_n C dX9_newStumble_29 1 rfl rfl ?_
  refine yg_X9_35_wR40 C dX9_newStumble_30 ?_
  refine y_getTok C M 2 2 tn_2 (by decide) rfl q557 dX9_newStumble_33 ?_
  refine y_tok_ne C M (tgt := 69) (h_7).1 tn_2 (by decide) dX9_newStumble_36 rfl (fun c_11 => ?_) (fun c_11 => ?_)
  · have h_12 := (h_7).2.1 c_11
    exact Y.sub (wk_r_newStumble_b69 C M N S_8 ((S.1 15 4)) (h_12)) [1, 0] rfl
  · have h_13 := (h_7).2.2 c_11
    refine y_aload_n C dX9_newStumble_39 1 rfl rfl ?_
    refine yg_X9_25_wR40 C dX9_newStumble_40 ?_
    refine y_aload_n C dX9_newStumble_43 1 rfl rfl ?_
    refine yg_X9_25_wR40 C dX9_newStumble_44 ?_
    refine yg_X9_152_wR15 C dX9_newStumble_47 ?_
    refine y_iload_n C dX9_newStumble_50 0 rfl rfl ?_
    refine y_iald C (wR_20 ..) rfl (h_13).1 dX9_newStumble_51 ?_
    refine y_aload_n C dX9_newStumble_52 1 rfl rfl ?_
    refine yg_X9_62_wR40 C dX9_newStumble_53 ?_
    refine y_callRiV (As := [.int ((S_8.1 20 ((S.1 15 4)).toNatClampNeg)), .int ((S_8.1 40 4))]) (rest := []) C cs_X9_156 (met_d_stumbleAt G A S_8 ((S_8.1 20 ((S.1 15 4)).toNatClampNeg)) ((S_8.1 40 4)) _ ((h_13).2)) (fun _ h => wR_D h) (wR_15 ..) rfl rfl ⟨rfl, rfl, Nat.le_of_ble_eq_true rfl, Nat.le_of_ble_eq_true rfl⟩ rfl rfl (Nat.le_of_ble_eq_true rfl) dX9_newStumble_56 ⟨Nat.zero_le _, Nat.zero_le _⟩ (fun r_14 h_15 => ?_)
    refine y_iconst C dX9_newStumble_59 icm1 ?_
    refine y_icmp_eq C (tgt := 69) dX9_newStumble_60 rfl (fun c_17 => ?_) (fun c_17 => ?_)
    · have h_18 := (h_15).1 c_17
      exact Y.sub (wk_r_newStumble_b69 C M N S_8 ((S.1 15 4)) (h_18)) [1, 0] rfl
    · have h_19 := (h_15).2 c_17
      refine y_aload_n C dX9_newStumble_63 1 rfl rfl ?_
      refine y_iconst C dX9_newStumble_64 ic_2 ?_
      exact y_wrong_v C M N cs_X9_103 (kd := 2) (h_19) (Nat.le_of_ble_eq_true rfl) ⟨Nat.le_of_ble_eq_true rfl, Nat.le_of_ble_eq_true rfl, Nat.le_of_ble_eq_true rfl, Nat.le_of_ble_eq_true rfl⟩ dX9_newStumble_65 dX9_newStumble_68
/-! OverHill$Reader newMud()V: r_newMud -/
abbrev rm_r_newMud : Room := { frames := 11, cells := 1, slots := 8, locals := 465 }
def wp_r_newMud_b41 (Q : (Unit ⊕ (Int32 × Int32)) → St → Prop) (S : St) : Prop :=
  wp_r_number S (0) (199) (fun r_10 S_12 => thn r_10 (fun v_13 => (vp_in v_13 200 ∧ Q (.inl ()) (sI S_12 29 (v_13).toNatClampNeg (vp_nar .boolean 1)))) (fun f_14 => Q (.inr f_14) S_12))
def wp_r_newMud (S : St) (Q : (Unit ⊕ (Int32 × Int32)) → St → Prop) : Prop :=
  (((S.1 40 5)).toNatClampNeg < 5 ∧ ((¬ ((S.1 40 5)).toNatClampNeg = 2 → wp_r_newMud_b41 Q S) ∧ (((S.1 40 5)).toNatClampNeg = 2 → ((200 ≤ (S.1 40 4) → wp_r_newMud_b41 Q S) ∧ (¬ 200 ≤ (S.1 40 4) → (vp_in (S.1 40 4) 200 ∧ (((S.1 29 ((S.1 40 4)).toNatClampNeg) = 0 → wp_r_newMud_b41 Q S) ∧ (¬ (S.1 29 ((S.1 40 4)).toNatClampNeg) = 0 → Q (.inr (2, S.1 40 3)) S))))))))
set_option maxRecDepth 100000 in
theorem wk_r_newMud_b41 {G : Gx} {K : Kx} {A : Nat → Nat} (C : KOk G K RX9 cX9_newMud rm_r_newMud 1 none) {B : Nat → Prop} (M : KM G K B) {Q : (Unit ⊕ (Int32 × Int32)) → St → Prop} (N : KXv G K B (wR G A) (fun S => Q (.inl ()) S) (xpF (wR G A) (fun f S => Q (.inr f) S)) 0 0 1 8 []) (S : St) (h : wp_r_newMud_b41 Q S) : Y G K 0 0 (wR G A S) 41 [(0, .ref (A 40))] [] := by
  refine y_aload_n C dX9_newMud_41 0 rfl rfl ?_
  refine yg_X9_25_wR40 C dX9_newMud_42 ?_
  refine yg_X9_170_wR15 C dX9_newMud_45 ?_
  refine y_aload_n C dX9_newMud_48 0 rfl rfl ?_
  refine y_iconst C dX9_newMud_49 ic_0 ?_
  refine y_sipush C dX9_newMud_50 sp_199 ?_
  refine y_callXiV (k' := 0) (n' := 0) (k9 := 1) (n9 := 8) (As := [.int (0), .int (199)]) (rest := [.ref (A 29)]) C M cs_X9_111 (met_r_number G A S (0) (199) _ (h)) (wR_40 ..) rfl rfl ⟨rfl, rfl, Nat.le_of_ble_eq_true rfl, Nat.le_of_ble_eq_true rfl⟩ rfl rfl (Nat.le_of_ble_eq_true rfl) dX9_newMud_53 ⟨Nat.le_of_ble_eq_true rfl, Nat.le_of_ble_eq_true rfl⟩ rfl rfl rfl rfl (fun _ _ _ hx9 => y_outv C M N (fun _ h9 => by cases h9) hx9 ⟨Nat.le_refl _, Nat.le_refl _⟩) (fun v_13 S_12 h_11 => ?_)
  refine y_iconst C dX9_newMud_56 ic_1 ?_
  refine y_zast C M (wR_29 ..) rfl (wR_s29 ..) (h_11).1 dX9_newMud_57 ?_
  exact y_vretX C M N rfl (S := (sI S_12 29 (v_13).toNatClampNeg (vp_nar .boolean 1))) rfl ((h_11).2) dX9_newMud_58 ⟨Nat.zero_le _, Nat.zero_le _⟩
set_option maxRecDepth 100000 in
theorem met_r_newMud (G : Gx) (A : Nat → Nat) (S : St) (Q : (Unit ⊕ (Int32 × Int32)) → St → Prop) (h : wp_r_newMud S Q) : Xv G yX9_newMud (ws_ yX9_newMud cX9_newMud 1 none) rm_r_newMud (wR G A S) [.ref (A 40)] (wR G A) (fun S => Q (.inl ()) S) (xpF (wR G A) (fun f S => Q (.inr f) S)) 0 0 1 8 := by
  refine ent_Xv (by decide) rfl (Nat.le_of_ble_eq_true rfl) [(0, .ref (A 40))] rfl (fun K B C M N => ?_)
  refine y_aload_n C dX9_newMud_0 0 rfl rfl ?_
  refine yg_X9_35_wR40 C dX9_newMud_1 ?_
  refine y_getTok C M 2 2 tn_2 (by decide) rfl q557 dX9_newMud_4 ?_
  refine y_tok_ne C M (tgt := 41) (h).1 tn_2 (by decide) dX9_newMud_7 rfl (fun c_1 => ?_) (fun c_1 => ?_)
  · have h_2 := (h).2.1 c_1
    exact Y.sub (wk_r_newMud_b41 C M N S (h_2)) [0] rfl
  · have h_3 := (h).2.2 c_1
    refine y_aload_n C dX9_newMud_10 0 rfl rfl ?_
    refine yg_X9_62_wR40 C dX9_newMud_11 ?_
    refine y_sipush C dX9_newMud_14 sp_200 ?_
    refine y_icmp_ge C (tgt := 41) dX9_newMud_17 rfl (fun c_4 => ?_) (fun c_4 => ?_)
    · have h_5 := (h_3).1 c_4
      exact Y.sub (wk_r_newMud_b41 C M N S (h_5)) [0] rfl
    · have h_6 := (h_3).2 c_4
      refine y_aload_n C dX9_newMud_20 0 rfl rfl ?_
      refine yg_X9_25_wR40 C dX9_newMud_21 ?_
      refine yg_X9_170_wR15 C dX9_newMud_24 ?_
      refine y_aload_n C dX9_newMud_27 0 rfl rfl ?_
      refine yg_X9_62_wR40 C dX9_newMud_28 ?_
      refine y_zald C (wR_29 ..) rfl (h_6).1 dX9_newMud_31 ?_
      refine y_if_eq C (tgt := 41) dX9_newMud_32 rfl (fun c_7 => ?_) (fun c_7 => ?_)
      · have h_8 := ((h_6).2).1 c_7
        exact Y.sub (wk_r_newMud_b41 C M N S (h_8)) [0] rfl
      · have h_9 := ((h_6).2).2 c_7
        refine y_aload_n C dX9_newMud_35 0 rfl rfl ?_
        refine y_iconst C dX9_newMud_36 ic_2 ?_
        exact y_wrong_v C M N cs_X9_103 (kd := 2) (h_9) (Nat.le_of_ble_eq_true rfl) ⟨Nat.le_of_ble_eq_true rfl, Nat.le_of_ble_eq_true rfl, Nat.le_of_ble_eq_true rfl, Nat.le_of_ble_eq_true rfl⟩ dX9_newMud_37 dX9_newMud_40
/-! OverHill$Reader newCell()V: r_newCell -/
abbrev rm_r_newCell : Room := { frames := 13, cells := 1, slots := 8, locals := 508 }
def wp_r_newCell (S : St) (Q : (Unit ⊕ (Int32 × Int32)) → St → Prop) : Prop :=
  wp_r_told S (9) (1) (9) (fun r_1 S_3 => thn r_1 (fun v_4 => (vp_in (S.1 15 5) 12 ∧ (vp_in (S.1 15 5) 12 ∧ wp_r_told (sI S_3 24 ((S.1 15 5)).toNatClampNeg v_4) (6) (0) ((((sI S_3 24 ((S.1 15 5)).toNatClampNeg v_4).1 24 ((S.1 15 5)).toNatClampNeg) - 1)) (fun r_6 S_8 => thn r_6 (fun v_9 => (vp_in (S.1 15 5) 12 ∧ Q (.inl ()) (sI (sI S_8 25 ((S.1 15 5)).toNatClampNeg v_9) 15 5 (((sI S_8 25 ((S.1 15 5)).toNatClampNeg v_9).1 15 5) + 1)))) (fun f_10 => Q (.inr f_10) S_8))))) (fun f_5 => Q (.inr f_5) S_3))
set_option maxRecDepth 100000 in
theorem met_r_newCell (G : Gx) (A : Nat → Nat) (S : St) (Q : (Unit ⊕ (Int32 × Int32)) → St → Prop) (h : wp_r_newCell S Q) : Xv G yX9_newCell (ws_ yX9_newCell cX9_newCell 2 none) rm_r_newCell (wR G A S) [.ref (A 40)] (wR G A) (fun S => Q (.inl ()) S) (xpF (wR G A) (fun f S => Q (.inr f) S)) 0 0 1 8 := by
  refine ent_Xv (by decide) rfl (Nat.le_of_ble_eq_true rfl) [(0, .ref (A 40))] rfl (fun K B C M N => ?_)
  refine y_aload_n C dX9_newCell_0 0 rfl rfl ?_
  refine yg_X9_25_wR40 C dX9_newCell_1 ?_
  refine yg_X9_174_wR15 C dX9_newCell_4 ?_
  refine y_istore_n C dX9_newCell_7 rfl (Nat.le_of_ble_eq_true rfl) [(1, .int ((S.1 15 5))), (0, .ref (A 40))] rfl ?_
  refine y_aload_n C dX9_newCell_8 1 rfl rfl ?_
  refine yg_X9_25_wR40 C dX9_newCell_9 ?_
  refine yg_X9_177_wR15 C dX9_newCell_12 ?_
  refine y_iload_n C dX9_newCell_15 0 rfl rfl ?_
  refine y_aload_n C dX9_newCell_16 1 rfl rfl ?_
  refine y_ldcS C M (i := 9) (tx := "every") rfl rfl dX9_newCell_17 ?_
  refine y_iconst C dX9_newCell_19 ic_1 ?_
  refine y_bipush C dX9_newCell_20 bp_9 ?_
  refine y_callXiV (k' := 0) (n' := 0) (k9 := 1) (n9 := 8) (As := [.ref (G.2.2.2 (10 + 9)), .int (1), .int (9)]) (rest := [.int ((S.1 15 5)), .ref (A 24)]) C M cs_X9_117 (met_r_told G A S (9) (1) (9) _ (h)) (wR_40 ..) rfl rfl ⟨rfl, rfl, Nat.le_of_ble_eq_true rfl, Nat.le_of_ble_eq_true rfl⟩ rfl rfl (Nat.le_of_ble_eq_true rfl) dX9_newCell_22 ⟨Nat.le_of_ble_eq_true rfl, Nat.le_of_ble_eq_true rfl⟩ rfl rfl rfl rfl (fun _ _ _ hx9 => y_outv C M N (fun _ h9 => by cases h9) hx9 ⟨Nat.le_refl _, Nat.le_refl _⟩) (fun v_4 S_3 h_2 => ?_)
  refine y_iast C M (wR_24 ..) rfl (wR_s24 ..) (h_2).1 dX9_newCell_25 ?_
  refine y_aload_n C dX9_newCell_26 1 rfl rfl ?_
  refine yg_X9_25_wR40 C dX9_newCell_27 ?_
  refine yg_X9_181_wR15 C dX9_newCell_30 ?_
  refine y_iload_n C dX9_newCell_33 0 rfl rfl ?_
  refine y_aload_n C dX9_newCell_34 1 rfl rfl ?_
  refine y_ldcS C M (i := 6) (tx := "at") rfl rfl dX9_newCell_35 ?_
  refine y_iconst C dX9_newCell_37 ic_0 ?_
  refine y_aload_n C dX9_newCell_38 1 rfl rfl ?_
  refine yg_X9_25_wR40 C dX9_newCell_39 ?_
  refine yg_X9_177_wR15 C dX9_newCell_42 ?_
  refine y_iload_n C dX9_newCell_45 0 rfl rfl ?_
  refine y_iald C (wR_24 ..) rfl ((h_2).2).1 dX9_newCell_46 ?_
  refine y_iconst C dX9_newCell_47 ic_1 ?_
  refine y_isub C dX9_newCell_48 ?_
  refine y_callXiV (k' := 0) (n' := 0) (k9 := 1) (n9 := 8) (As := [.ref (G.2.2.2 (10 + 6)), .int (0), .int ((((sI S_3 24 ((S.1 15 5)).toNatClampNeg v_4).1 24 ((S.1 15 5)).toNatClampNeg) - 1))]) (rest := [.int ((S.1 15 5)), .ref (A 25)]) C M cs_X9_117 (met_r_told G A (sI S_3 24 ((S.1 15 5)).toNatClampNeg v_4) (6) (0) ((((sI S_3 24 ((S.1 15 5)).toNatClampNeg v_4).1 24 ((S.1 15 5)).toNatClampNeg) - 1)) _ (((h_2).2).2)) (wR_40 ..) rfl rfl ⟨rfl, rfl, Nat.le_of_ble_eq_true rfl, Nat.le_of_ble_eq_true rfl⟩ rfl rfl (Nat.le_of_ble_eq_true rfl) dX9_newCell_49 ⟨Nat.le_of_ble_eq_true rfl, Nat.le_of_ble_eq_true rfl⟩ rfl rfl rfl rfl (fun _ _ _ hx9 => y_outv C M N (fun _ h9 => by cases h9) hx9 ⟨Nat.le_refl _, Nat.le_refl _⟩) (fun v_9 S_8 h_7 => ?_)
  refine y_iast C M (wR_25 ..) rfl (wR_s25 ..) (h_7).1 dX9_newCell_52 ?_
  refine y_aload_n C dX9_newCell_53 1 rfl rfl ?_
  refine yg_X9_25_wR40 C dX9_newCell_54 ?_
  refine y_dup C dX9_newCell_57 rfl ?_
  refine yg_X9_174_wR15 C dX9_newCell_58 ?_
  refine y_iconst C dX9_newCell_61 ic_1 ?_
  refine y_iadd C dX9_newCell_62 ?_
  refine yp_X9_174_wR15 C M dX9_newCell_63 ?_
  exact y_vretX C M N rfl (S := (sI (sI S_8 25 ((S.1 15 5)).toNatClampNeg v_9) 15 5 (((sI S_8 25 ((S.1 15 5)).toNatClampNeg v_9).1 15 5) + 1))) rfl ((h_7).2) dX9_newCell_66 ⟨Nat.zero_le _, Nat.zero_le _⟩
/-! OverHill$Reader newTune()V: r_newTune -/
abbrev rm_r_newTune : Room := { frames := 13, cells := 1, slots := 8, locals := 508 }
def wp_r_newTune (S : St) (Q : (Unit ⊕ (Int32 × Int32)) → St → Prop) : Prop :=
  wp_r_number S (1) (30) (fun r_1 S_3 => thn r_1 (fun v_4 => (vp_in (S.1 15 6) 5 ∧ (vp_in (S.1 15 6) 5 ∧ wp_r_told (sI S_3 26 ((S.1 15 6)).toNatClampNeg v_4) (6) (0) ((((sI S_3 26 ((S.1 15 6)).toNatClampNeg v_4).1 26 ((S.1 15 6)).toNatClampNeg) - 1)) (fun r_6 S_8 => thn r_6 (fun v_9 => (vp_in (S.1 15 6) 5 ∧ Q (.inl ()) (sI (sI S_8 27 ((S.1 15 6)).toNatClampNeg v_9) 15 6 (((sI S_8 27 ((S.1 15 6)).toNatClampNeg v_9).1 15 6) + 1)))) (fun f_10 => Q (.inr f_10) S_8))))) (fun f_5 => Q (.inr f_5) S_3))
set_option maxRecDepth 100000 in
theorem met_r_newTune (G : Gx) (A : Nat → Nat) (S : St) (Q : (Unit ⊕ (Int32 × Int32)) → St → Prop) (h : wp_r_newTune S Q) : Xv G yX9_newTune (ws_ yX9_newTune cX9_newTune 2 none) rm_r_newTune (wR G A S) [.ref (A 40)] (wR G A) (fun S => Q (.inl ()) S) (xpF (wR G A) (fun f S => Q (.inr f) S)) 0 0 1 8 := by
  refine ent_Xv (by decide) rfl (Nat.le_of_ble_eq_true rfl) [(0, .ref (A 40))] rfl (fun K B C M N => ?_)
  refine y_aload_n C dX9_newTune_0 0 rfl rfl ?_
  refine yg_X9_25_wR40 C dX9_newTune_1 ?_
  refine yg_X9_183_wR15 C dX9_newTune_4 ?_
  refine y_istore_n C dX9_newTune_7 rfl (Nat.le_of_ble_eq_true rfl) [(1, .int ((S.1 15 6))), (0, .ref (A 40))] rfl ?_
  refine y_aload_n C dX9_newTune_8 1 rfl rfl ?_
  refine yg_X9_25_wR40 C dX9_newTune_9 ?_
  refine yg_X9_186_wR15 C dX9_newTune_12 ?_
  refine y_iload_n C dX9_newTune_15 0 rfl rfl ?_
  refine y_aload_n C dX9_newTune_16 1 rfl rfl ?_
  refine y_iconst C dX9_newTune_17 ic_1 ?_
  refine y_bipush C dX9_newTune_18 bp_30 ?_
  refine y_callXiV (k' := 0) (n' := 0) (k9 := 1) (n9 := 8) (As := [.int (1), .int (30)]) (rest := [.int ((S.1 15 6)), .ref (A 26)]) C M cs_X9_111 (met_r_number G A S (1) (30) _ (h)) (wR_40 ..) rfl rfl ⟨rfl, rfl, Nat.le_of_ble_eq_true rfl, Nat.le_of_ble_eq_true rfl⟩ rfl rfl (Nat.le_of_ble_eq_true rfl) dX9_newTune_20 ⟨Nat.le_of_ble_eq_true rfl, Nat.le_of_ble_eq_true rfl⟩ rfl rfl rfl rfl (fun _ _ _ hx9 => y_outv C M N (fun _ h9 => by cases h9) hx9 ⟨Nat.le_refl _, Nat.le_refl _⟩) (fun v_4 S_3 h_2 => ?_)
  refine y_iast C M (wR_26 ..) rfl (wR_s26 ..) (h_2).1 dX9_newTune_23 ?_
  refine y_aload_n C dX9_newTune_24 1 rfl rfl ?_
  refine yg_X9_25_wR40 C dX9_newTune_25 ?_
  refine yg_X9_189_wR15 C dX9_newTune_28 ?_
  refine y_iload_n C dX9_newTune_31 0 rfl rfl ?_
  refine y_aload_n C dX9_newTune_32 1 rfl rfl ?_
  refine y_ldcS C M (i := 6) (tx := "at") rfl rfl dX9_newTune_33 ?_
  refine y_iconst C dX9_newTune_35 ic_0 ?_
  refine y_aload_n C dX9_newTune_36 1 rfl rfl ?_
  refine yg_X9_25_wR40 C dX9_newTune_37 ?_
  refine yg_X9_186_wR15 C dX9_newTune_40 ?_
  refine y_iload_n C dX9_newTune_43 0 rfl rfl ?_
  refine y_iald C (wR_26 ..) rfl ((h_2).2).1 dX9_newTune_44 ?_
  refine y_iconst C dX9_newTune_45 ic_1 ?_
  refine y_isub C dX9_newTune_46 ?_
  refine y_callXiV (k' := 0) (n' := 0) (k9 := 1) (n9 := 8) (As := [.ref (G.2.2.2 (10 + 6)), .int (0), .int ((((sI S_3 26 ((S.1 15 6)).toNatClampNeg v_4).1 26 ((S.1 15 6)).toNatClampNeg) - 1))]) (rest := [.int ((S.1 15 6)), .ref (A 27)]) C M cs_X9_117 (met_r_told G A (sI S_3 26 ((S.1 15 6)).toNatClampNeg v_4) (6) (0) ((((sI S_3 26 ((S.1 15 6)).toNatClampNeg v_4).1 26 ((S.1 15 6)).toNatClampNeg) - 1)) _ (((h_2).2).2)) (wR_40 ..) rfl rfl ⟨rfl, rfl, Nat.le_of_ble_eq_true rfl, Nat.le_of_ble_eq_true rfl⟩ rfl rfl (Nat.le_of_ble_eq_true rfl) dX9_newTune_47 ⟨Nat.le_of_ble_eq_true rfl, Nat.le_of_ble_eq_true rfl⟩ rfl rfl rfl rfl (fun _ _ _ hx9 => y_outv C M N (fun _ h9 => by cases h9) hx9 ⟨Nat.le_refl _, Nat.le_refl _⟩) (fun v_9 S_8 h_7 => ?_)
  refine y_iast C M (wR_27 ..) rfl (wR_s27 ..) (h_7).1 dX9_newTune_50 ?_
  refine y_aload_n C dX9_newTune_51 1 rfl rfl ?_
  refine yg_X9_25_wR40 C dX9_newTune_52 ?_
  refine y_dup C dX9_newTune_55 rfl ?_
  refine yg_X9_183_wR15 C dX9_newTune_56 ?_
  refine y_iconst C dX9_newTune_59 ic_1 ?_
  refine y_iadd C dX9_newTune_60 ?_
  refine yp_X9_183_wR15 C M dX9_newTune_61 ?_
  exact y_vretX C M N rfl (S := (sI (sI S_8 27 ((S.1 15 6)).toNatClampNeg v_9) 15 6 (((sI S_8 27 ((S.1 15 6)).toNatClampNeg v_9).1 15 6) + 1))) rfl ((h_7).2) dX9_newTune_64 ⟨Nat.zero_le _, Nat.zero_le _⟩
/-! OverHill$Reader line()V: r_line -/
abbrev rm_r_line : Room := { frames := 14, cells := 1, slots := 8, locals := 531 }
def wp_r_line_b133 (Q : (Unit ⊕ (Int32 × Int32)) → St → Prop) (S : St) (s0 : Int32) (s1 : Nat) : Prop :=
  wp_r_takes_2 S (s1) (s0) (fun r_69 S_71 => thn r_69 (fun v_72 => ((v_72 = 0 → Q (.inr (1, S_71.1 40 3)) S_71) ∧ (¬ v_72 = 0 → wp_r_newTune S_71 (fun r_77 S_79 => thn r_77 (fun _ => Q (.inl ()) S_79) (fun f_81 => Q (.inr f_81) S_79))))) (fun f_73 => Q (.inr f_73) S_71))
def wp_r_line_b101 (Q : (Unit ⊕ (Int32 × Int32)) → St → Prop) (S : St) (s0 : Int32) (s1 : Nat) : Prop :=
  wp_r_takes_2 S (s1) (s0) (fun r_53 S_55 => thn r_53 (fun v_56 => ((v_56 = 0 → ((¬ (S_55.1 15 6) = 5 → wp_r_line_b133 Q S_55 (0) (15)) ∧ ((S_55.1 15 6) = 5 → wp_r_line_b133 Q S_55 (1) (15)))) ∧ (¬ v_56 = 0 → wp_r_newCell S_55 (fun r_64 S_66 => thn r_64 (fun _ => Q (.inl ()) S_66) (fun f_68 => Q (.inr f_68) S_66))))) (fun f_57 => Q (.inr f_57) S_55))
def wp_r_line_b52 (Q : (Unit ⊕ (Int32 × Int32)) → St → Prop) (S : St) (s0 : Int32) (s1 : Nat) : Prop :=
  wp_r_takes_2 S (s1) (s0) (fun r_26 S_28 => thn r_26 (fun v_29 => ((v_29 = 0 → wp_r_takes S_28 (13) (fun r_33 S_35 => ((r_33 = 0 → ((¬ (S_35.1 15 5) = 12 → wp_r_line_b101 Q S_35 (0) (14)) ∧ ((S_35.1 15 5) = 12 → wp_r_line_b101 Q S_35 (1) (14)))) ∧ (¬ r_33 = 0 → wp_r_newMud S_35 (fun r_42 S_44 => thn r_42 (fun _ => Q (.inl ()) S_44) (fun f_46 => Q (.inr f_46) S_44)))))) ∧ (¬ v_29 = 0 → wp_r_newStumble S_28 (fun r_48 S_50 => thn r_48 (fun _ => Q (.inl ()) S_50) (fun f_52 => Q (.inr f_52) S_50))))) (fun f_30 => Q (.inr f_30) S_28))
def wp_r_line (S : St) (Q : (Unit ⊕ (Int32 × Int32)) → St → Prop) : Prop :=
  wp_r_takes S (10) (fun r_1 S_3 => ((r_1 = 0 → wp_r_takes S_3 (11) (fun r_6 S_8 => ((r_6 = 0 → ((¬ (S_8.1 15 4) = 8 → wp_r_line_b52 Q S_8 (0) (12)) ∧ ((S_8.1 15 4) = 8 → wp_r_line_b52 Q S_8 (1) (12)))) ∧ (¬ r_6 = 0 → wp_r_newAnswers S_8 (fun r_15 S_17 => thn r_15 (fun _ => Q (.inl ()) S_17) (fun f_19 => Q (.inr f_19) S_17)))))) ∧ (¬ r_1 = 0 → wp_r_newRound S_3 (fun r_21 S_23 => thn r_21 (fun _ => Q (.inl ()) S_23) (fun f_25 => Q (.inr f_25) S_23)))))
set_option maxRecDepth 100000 in
theorem wk_r_line_b133 {G : Gx} {K : Kx} {A : Nat → Nat} (C : KOk G K RX9 cX9_line rm_r_line 1 none) {B : Nat → Prop} (M : KM G K B) {Q : (Unit ⊕ (Int32 × Int32)) → St → Prop} (N : KXv G K B (wR G A) (fun S => Q (.inl ()) S) (xpF (wR G A) (fun f S => Q (.inr f) S)) 0 0 1 8 []) (S : St) (s0 : Int32) (s1 : Nat) (h : wp_r_line_b133 Q S s0 s1) : Y G K 0 0 (wR G A S) 133 [(0, .ref (A 40))] [.int (s0), .ref (G.2.2.2 (10 + s1)), .ref (A 40)] := by
  refine y_callXiV (k' := 0) (n' := 0) (k9 := 1) (n9 := 8) (As := [.ref (G.2.2.2 (10 + s1)), .int (s0)]) (rest := []) C M cs_X9_202 (met_r_takes_2 G A S (s1) (s0) _ (h)) (wR_40 ..) rfl rfl ⟨rfl, rfl, Nat.le_of_ble_eq_true rfl, Nat.le_of_ble_eq_true rfl⟩ rfl rfl (Nat.le_of_ble_eq_true rfl) dX9_line_133 ⟨Nat.le_of_ble_eq_true rfl, Nat.le_of_ble_eq_true rfl⟩ rfl rfl rfl rfl (fun _ _ _ hx9 => y_outv C M N (fun _ h9 => by cases h9) hx9 ⟨Nat.le_refl _, Nat.le_refl _⟩) (fun v_72 S_71 h_70 => ?_)
  refine y_if_eq C (tgt := 146) dX9_line_136 rfl (fun c_74 => ?_) (fun c_74 => ?_)
  · have h_75 := (h_70).1 c_74
    refine y_aload_n C dX9_line_146 0 rfl rfl ?_
    refine y_iconst C dX9_line_147 ic_1 ?_
    exact y_wrong_v C M N cs_X9_103 (kd := 1) (h_75) (Nat.le_of_ble_eq_true rfl) ⟨Nat.le_of_ble_eq_true rfl, Nat.le_of_ble_eq_true rfl, Nat.le_of_ble_eq_true rfl, Nat.le_of_ble_eq_true rfl⟩ dX9_line_148 dX9_line_151
  · have h_76 := (h_70).2 c_74
    refine y_aload_n C dX9_line_139 0 rfl rfl ?_
    refine y_callXvV (k' := 0) (n' := 0) (k9 := 1) (n9 := 8) (As := []) (rest := []) C M cs_X9_218 (met_r_newTune G A S_71 _ (h_76)) (wR_40 ..) rfl rfl ⟨rfl, rfl, Nat.le_of_ble_eq_true rfl, Nat.le_of_ble_eq_true rfl⟩ rfl rfl (Nat.le_of_ble_eq_true rfl) dX9_line_140 ⟨Nat.le_of_ble_eq_true rfl, Nat.le_of_ble_eq_true rfl⟩ rfl rfl rfl rfl (fun _ _ _ hx9 => y_outv C M N (fun _ h9 => by cases h9) hx9 ⟨Nat.le_refl _, Nat.le_refl _⟩) (fun S_79 h_78 => ?_)
    refine y_goto C (tgt := 152) dX9_line_143 rfl ?_
    exact y_vretX C M N rfl (S := S_79) rfl (h_78) dX9_line_152 ⟨Nat.zero_le _, Nat.zero_le _⟩
set_option maxRecDepth 100000 in
theorem wk_r_line_b101 {G : Gx} {K : Kx} {A : Nat → Nat} (C : KOk G K RX9 cX9_line rm_r_line 1 none) {B : Nat → Prop} (M : KM G K B) {Q : (Unit ⊕ (Int32 × Int32)) → St → Prop} (N : KXv G K B (wR G A) (fun S => Q (.inl ()) S) (xpF (wR G A) (fun f S => Q (.inr f) S)) 0 0 1 8 []) (S : St) (s0 : Int32) (s1 : Nat) (h : wp_r_line_b101 Q S s0 s1) : Y G K 0 0 (wR G A S) 101 [(0, .ref (A 40))] [.int (s0), .ref (G.2.2.2 (10 + s1)), .ref (A 40)] := by
  refine y_callXiV (k' := 0) (n' := 0) (k9 := 1) (n9 := 8) (As := [.ref (G.2.2.2 (10 + s1)), .int (s0)]) (rest := []) C M cs_X9_202 (met_r_takes_2 G A S (s1) (s0) _ (h)) (wR_40 ..) rfl rfl ⟨rfl, rfl, Nat.le_of_ble_eq_true rfl, Nat.le_of_ble_eq_true rfl⟩ rfl rfl (Nat.le_of_ble_eq_true rfl) dX9_line_101 ⟨Nat.le_of_ble_eq_true rfl, Nat.le_of_ble_eq_true rfl⟩ rfl rfl rfl rfl (fun _ _ _ hx9 => y_outv C M N (fun _ h9 => by cases h9) hx9 ⟨Nat.le_refl _, Nat.le_refl _⟩) (fun v_56 S_55 h_54 => ?_)
  refine y_if_eq C (tgt := 114) dX9_line_104 rfl (fun c_58 => ?_) (fun c_58 => ?_)
  · have h_59 := (h_54).1 c_58
    refine y_aload_n C dX9_line_114 0 rfl rfl ?_
    refine y_ldcS C M (i := 15) (tx := "tune") rfl rfl dX9_line_115 ?_
    refine y_aload_n C dX9_line_117 0 rfl rfl ?_
    refine yg_X9_25_wR40 C dX9_line_118 ?_
    refine yg_X9_183_wR15 C dX9_line_121 ?_
    refine y_iconst C dX9_line_124 ic_5 ?_
    refine y_icmp_ne C (tgt := 132) dX9_line_125 rfl (fun c_60 => ?_) (fun c_60 => ?_)
    · have h_61 := (h_59).1 c_60
      refine y_iconst C dX9_line_132 ic_0 ?_
      exact Y.sub (wk_r_line_b133 C M N S_55 (0) (15) (h_61)) [0] rfl
    · have h_62 := (h_59).2 c_60
      refine y_iconst C dX9_line_128 ic_1 ?_
      refine y_goto C (tgt := 133) dX9_line_129 rfl ?_
      exact Y.sub (wk_r_line_b133 C M N S_55 (1) (15) (h_62)) [0] rfl
  · have h_63 := (h_54).2 c_58
    refine y_aload_n C dX9_line_107 0 rfl rfl ?_
    refine y_callXvV (k' := 0) (n' := 0) (k9 := 1) (n9 := 8) (As := []) (rest := []) C M cs_X9_214 (met_r_newCell G A S_55 _ (h_63)) (wR_40 ..) rfl rfl ⟨rfl, rfl, Nat.le_of_ble_eq_true rfl, Nat.le_of_ble_eq_true rfl⟩ rfl rfl (Nat.le_of_ble_eq_true rfl) dX9_line_108 ⟨Nat.le_of_ble_eq_true rfl, Nat.le_of_ble_eq_true rfl⟩ rfl rfl rfl rfl (fun _ _ _ hx9 => y_outv C M N (fun _ h9 => by cases h9) hx9 ⟨Nat.le_refl _, Nat.le_refl _⟩) (fun S_66 h_65 => ?_)
    refine y_goto C (tgt := 152) dX9_line_111 rfl ?_
    exact y_vretX C M N rfl (S := S_66) rfl (h_65) dX9_line_152 ⟨Nat.zero_le _, Nat.zero_le _⟩
set_option maxRecDepth 100000 in
theorem wk_r_line_b52 {G : Gx} {K : Kx} {A : Nat → Nat} (C : KOk G K RX9 cX9_line rm_r_line 1 none) {B : Nat → Prop} (M : KM G K B) {Q : (Unit ⊕ (Int32 × Int32)) → St → Prop} (N : KXv G K B (wR G A) (fun S => Q (.inl ()) S) (xpF (wR G A) (fun f S => Q (.inr f) S)) 0 0 1 8 []) (S : St) (s0 : Int32) (s1 : Nat) (h : wp_r_line_b52 Q S s0 s1) : Y G K 0 0 (wR G A S) 52 [(0, .ref (A 40))] [.int (s0), .ref (G.2.2.2 (10 + s1)), .ref (A 40)] := by
  refine y_callXiV (k' := 0) (n' := 0) (k9 := 1) (n9 := 8) (As := [.ref (G.2.2.2 (10 + s1)), .int (s0)]) (rest := []) C M cs_X9_202 (met_r_takes_2 G A S (s1) (s0) _ (h)) (wR_40 ..) rfl rfl ⟨rfl, rfl, Nat.le_of_ble_eq_true rfl, Nat.le_of_ble_eq_true rfl⟩ rfl rfl (Nat.le_of_ble_eq_true rfl) dX9_line_52 ⟨Nat.le_of_ble_eq_true rfl, Nat.le_of_ble_eq_true rfl⟩ rfl rfl rfl rfl (fun _ _ _ hx9 => y_outv C M N (fun _ h9 => by cases h9) hx9 ⟨Nat.le_refl _, Nat.le_refl _⟩) (fun v_29 S_28 h_27 => ?_)
  refine y_if_eq C (tgt := 65) dX9_line_55 rfl (fun c_31 => ?_) (fun c_31 => ?_)
  · have h_32 := (h_27).1 c_31
    refine y_aload_n C dX9_line_65 0 rfl rfl ?_
    refine y_ldcS C M (i := 13) (tx := "mud") rfl rfl dX9_line_66 ?_
    refine y_callMiV (k' := 0) (n' := 0) (As := [.ref (G.2.2.2 (10 + 13))]) (rest := []) C M cs_X9_100 (met_r_takes G A S_28 (13) _ (h_32)) (wR_40 ..) rfl rfl ⟨rfl, rfl, Nat.le_of_ble_eq_true rfl, Nat.le_of_ble_eq_true rfl⟩ rfl rfl (Nat.le_of_ble_eq_true rfl) dX9_line_68 ⟨Nat.zero_le _, Nat.zero_le _⟩ rfl rfl (fun r_33 S_35 h_34 => ?_)
    refine y_if_eq C (tgt := 81) dX9_line_71 rfl (fun c_36 => ?_) (fun c_36 => ?_)
    · have h_37 := (h_34).1 c_36
      refine y_aload_n C dX9_line_81 0 rfl rfl ?_
      refine y_ldcS C M (i := 14) (tx := "wood") rfl rfl dX9_line_82 ?_
      refine y_aload_n C dX9_line_84 0 rfl rfl ?_
      refine yg_X9_25_wR40 C dX9_line_85 ?_
      refine yg_X9_174_wR15 C dX9_line_88 ?_
      refine y_bipush C dX9_line_91 bp_12 ?_
      refine y_icmp_ne C (tgt := 100) dX9_line_93 rfl (fun c_38 => ?_) (fun c_38 => ?_)
      · have h_39 := (h_37).1 c_38
        refine y_iconst C dX9_line_100 ic_0 ?_
        exact Y.sub (wk_r_line_b101 C M N S_35 (0) (14) (h_39)) [0] rfl
      · have h_40 := (h_37).2 c_38
        refine y_iconst C dX9_line_96 ic_1 ?_
        refine y_goto C (tgt := 101) dX9_line_97 rfl ?_
        exact Y.sub (wk_r_line_b101 C M N S_35 (1) (14) (h_40)) [0] rfl
    · have h_41 := (h_34).2 c_36
      refine y_aload_n C dX9_line_74 0 rfl rfl ?_
      refine y_callXvV (k' := 0) (n' := 0) (k9 := 1) (n9 := 8) (As := []) (rest := []) C M cs_X9_209 (met_r_newMud G A S_35 _ (h_41)) (wR_40 ..) rfl rfl ⟨rfl, rfl, Nat.le_of_ble_eq_true rfl, Nat.le_of_ble_eq_true rfl⟩ rfl rfl (Nat.le_of_ble_eq_true rfl) dX9_line_75 ⟨Nat.le_of_ble_eq_true rfl, Nat.le_of_ble_eq_true rfl⟩ rfl rfl rfl rfl (fun _ _ _ hx9 => y_outv C M N (fun _ h9 => by cases h9) hx9 ⟨Nat.le_refl _, Nat.le_refl _⟩) (fun S_44 h_43 => ?_)
      refine y_goto C (tgt := 152) dX9_line_78 rfl ?_
      exact y_vretX C M N rfl (S := S_44) rfl (h_43) dX9_line_152 ⟨Nat.zero_le _, Nat.zero_le _⟩
  · have h_47 := (h_27).2 c_31
    refine y_aload_n C dX9_line_58 0 rfl rfl ?_
    refine y_callXvV (k' := 0) (n' := 0) (k9 := 1) (n9 := 8) (As := []) (rest := []) C M cs_X9_205 (met_r_newStumble G A S_28 _ (h_47)) (wR_40 ..) rfl rfl ⟨rfl, rfl, Nat.le_of_ble_eq_true rfl, Nat.le_of_ble_eq_true rfl⟩ rfl rfl (Nat.le_of_ble_eq_true rfl) dX9_line_59 ⟨Nat.le_of_ble_eq_true rfl, Nat.le_of_ble_eq_true rfl⟩ rfl rfl rfl rfl (fun _ _ _ hx9 => y_outv C M N (fun _ h9 => by cases h9) hx9 ⟨Nat.le_refl _, Nat.le_refl _⟩) (fun S_50 h_49 => ?_)
    refine y_goto C (tgt := 152) dX9_line_62 rfl ?_
    exact y_vretX C M N rfl (S := S_50) rfl (h_49) dX9_line_152 ⟨Nat.zero_le _, Nat.zero_le _⟩
set_option maxRecDepth 100000 in
theorem met_r_line (G : Gx) (A : Nat → Nat) (S : St) (Q : (Unit ⊕ (Int32 × Int32)) → St → Prop) (h : wp_r_line S Q) : Xv G yX9_line (ws_ yX9_line cX9_line 1 none) rm_r_line (wR G A S) [.ref (A 40)] (wR G A) (fun S => Q (.inl ()) S) (xpF (wR G A) (fun f S => Q (.inr f) S)) 0 0 1 8 := by
  refine ent_Xv (by decide) rfl (Nat.le_of_ble_eq_true rfl) [(0, .ref (A 40))] rfl (fun K B C M N => ?_)
  refine y_aload_n C dX9_line_0 0 rfl rfl ?_
  refine y_ldcS C M (i := 10) (tx := "round") rfl rfl dX9_line_1 ?_
  refine y_callMiV (k' := 0) (n' := 0) (As := [.ref (G.2.2.2 (10 + 10))]) (rest := []) C M cs_X9_100 (met_r_takes G A S (10) _ (h)) (wR_40 ..) rfl rfl ⟨rfl, rfl, Nat.le_of_ble_eq_true rfl, Nat.le_of_ble_eq_true rfl⟩ rfl rfl (Nat.le_of_ble_eq_true rfl) dX9_line_3 ⟨Nat.zero_le _, Nat.zero_le _⟩ rfl rfl (fun r_1 S_3 h_2 => ?_)
  refine y_if_eq C (tgt := 16) dX9_line_6 rfl (fun c_4 => ?_) (fun c_4 => ?_)
  · have h_5 := (h_2).1 c_4
    refine y_aload_n C dX9_line_16 0 rfl rfl ?_
    refine y_ldcS C M (i := 11) (tx := "answers") rfl rfl dX9_line_17 ?_
    refine y_callMiV (k' := 0) (n' := 0) (As := [.ref (G.2.2.2 (10 + 11))]) (rest := []) C M cs_X9_100 (met_r_takes G A S_3 (11) _ (h_5)) (wR_40 ..) rfl rfl ⟨rfl, rfl, Nat.le_of_ble_eq_true rfl, Nat.le_of_ble_eq_true rfl⟩ rfl rfl (Nat.le_of_ble_eq_true rfl) dX9_line_19 ⟨Nat.zero_le _, Nat.zero_le _⟩ rfl rfl (fun r_6 S_8 h_7 => ?_)
    refine y_if_eq C (tgt := 32) dX9_line_22 rfl (fun c_9 => ?_) (fun c_9 => ?_)
    · have h_10 := (h_7).1 c_9
      refine y_aload_n C dX9_line_32 0 rfl rfl ?_
      refine y_ldcS C M (i := 12) (tx := "stumble") rfl rfl dX9_line_33 ?_
      refine y_aload_n C dX9_line_35 0 rfl rfl ?_
      refine yg_X9_25_wR40 C dX9_line_36 ?_
      refine yg_X9_149_wR15 C dX9_line_39 ?_
      refine y_bipush C dX9_line_42 bp_8 ?_
      refine y_icmp_ne C (tgt := 51) dX9_line_44 rfl (fun c_11 => ?_) (fun c_11 => ?_)
      · have h_12 := (h_10).1 c_11
        refine y_iconst C dX9_line_51 ic_0 ?_
        exact Y.sub (wk_r_line_b52 C M N S_8 (0) (12) (h_12)) [0] rfl
      · have h_13 := (h_10).2 c_11
        refine y_iconst C dX9_line_47 ic_1 ?_
        refine y_goto C (tgt := 52) dX9_line_48 rfl ?_
        exact Y.sub (wk_r_line_b52 C M N S_8 (1) (12) (h_13)) [0] rfl
    · have h_14 := (h_7).2 c_9
      refine y_aload_n C dX9_line_25 0 rfl rfl ?_
      refine y_callXvV (k' := 0) (n' := 0) (k9 := 1) (n9 := 8) (As := []) (rest := []) C M cs_X9_197 (met_r_newAnswers G A S_8 _ (h_14)) (wR_40 ..) rfl rfl ⟨rfl, rfl, Nat.le_of_ble_eq_true rfl, Nat.le_of_ble_eq_true rfl⟩ rfl rfl (Nat.le_of_ble_eq_true rfl) dX9_line_26 ⟨Nat.le_of_ble_eq_true rfl, Nat.le_of_ble_eq_true rfl⟩ rfl rfl rfl rfl (fun _ _ _ hx9 => y_outv C M N (fun _ h9 => by cases h9) hx9 ⟨Nat.le_refl _, Nat.le_refl _⟩) (fun S_17 h_16 => ?_)
      refine y_goto C (tgt := 152) dX9_line_29 rfl ?_
      exact y_vretX C M N rfl (S := S_17) rfl (h_16) dX9_line_152 ⟨Nat.zero_le _, Nat.zero_le _⟩
  · have h_20 := (h_2).2 c_4
    refine y_aload_n C dX9_line_9 0 rfl rfl ?_
    refine y_callXvV (k' := 0) (n' := 0) (k9 := 1) (n9 := 8) (As := []) (rest := []) C M cs_X9_193 (met_r_newRound G A S_3 _ (h_20)) (wR_40 ..) rfl rfl ⟨rfl, rfl, Nat.le_of_ble_eq_true rfl, Nat.le_of_ble_eq_true rfl⟩ rfl rfl (Nat.le_of_ble_eq_true rfl) dX9_line_10 ⟨Nat.le_of_ble_eq_true rfl, Nat.le_of_ble_eq_true rfl⟩ rfl rfl rfl rfl (fun _ _ _ hx9 => y_outv C M N (fun _ h9 => by cases h9) hx9 ⟨Nat.le_refl _, Nat.le_refl _⟩) (fun S_23 h_22 => ?_)
    refine y_goto C (tgt := 152) dX9_line_13 rfl ?_
    exact y_vretX C M N rfl (S := S_23) rfl (h_22) dX9_line_152 ⟨Nat.zero_le _, Nat.zero_le _⟩
/-! OverHill$Reader read()LOverHill$Dance;: r_read -/
abbrev rm_r_read : Room := { frames := 15, cells := 1, slots := 8, locals := 551 }
def wp_r_read_b31 (Q : (Unit ⊕ (Int32 × Int32)) → St → Prop) (K0 : St → Prop) (S : St) : Prop :=
  (((S.1 40 5)).toNatClampNeg < 5 ∧ ((((S.1 40 5)).toNatClampNeg = 3 → wp_r_next S (fun S_24 => K0 (sI S_24 15 3 ((S_24.1 15 3) + 1)))) ∧ (¬ ((S.1 40 5)).toNatClampNeg = 3 → Q (.inr (1, S.1 40 3)) S)))
def wp_r_read_b0 (Q : (Unit ⊕ (Int32 × Int32)) → St → Prop) : Nat → St → Prop
  | 0 => fun _ => False
  | n + 1 => fun S => (((S.1 40 5)).toNatClampNeg < 5 ∧ ((((S.1 40 5)).toNatClampNeg = 0 → Q (.inl ()) S) ∧ (¬ ((S.1 40 5)).toNatClampNeg = 0 → ((¬ (S.1 15 3) = 0 → wp_r_line S (fun r_8 S_10 => thn r_8 (fun _ => wp_r_read_b31 Q (fun Sy => wp_r_read_b0 Q n Sy) S_10) (fun f_12 => Q (.inr f_12) S_10))) ∧ ((S.1 15 3) = 0 → wp_r_first S (fun r_14 S_16 => thn r_14 (fun _ => wp_r_read_b31 Q (fun Sy => wp_r_read_b0 Q n Sy) S_16) (fun f_18 => Q (.inr f_18) S_16)))))))
def wp_r_read (S : St) (Q : (Unit ⊕ (Int32 × Int32)) → St → Prop) : Prop :=
  (∃ z, wp_r_read_b0 Q z S)
set_option maxRecDepth 100000 in
theorem wk_r_read_b31 {G : Gx} {K : Kx} {A : Nat → Nat} (C : KOk G K RX9 cX9_read rm_r_read 1 (some (.object "OverHill$Dance"))) {B : Nat → Prop} (M : KM G K B) {Q : (Unit ⊕ (Int32 × Int32)) → St → Prop} (N : KXq G K B (wR G A) (fun r S => r = some (A 15) ∧ Q (.inl ()) S) (xpF (wR G A) (fun f S => Q (.inr f) S)) 0 0 1 8 []) (K0 : St → Prop) (hK0 : ∀ (S : St), K0 S → Y G K 0 0 (wR G A S) 0 [(0, .ref (A 40))] []) (S : St) (h : wp_r_read_b31 Q K0 S) : Y G K 0 0 (wR G A S) 31 [(0, .ref (A 40))] [] := by
  refine y_aload_n C dX9_read_31 0 rfl rfl ?_
  refine yg_X9_35_wR40 C dX9_read_32 ?_
  refine y_getTok C M 3 3 tn_3 (by decide) rfl q559 dX9_read_35 ?_
  refine y_tok_eq C M (tgt := 47) (h).1 tn_3 (by decide) dX9_read_38 rfl (fun c_19 => ?_) (fun c_19 => ?_)
  · have h_20 := (h).2.1 c_19
    refine y_aload_n C dX9_read_47 0 rfl rfl ?_
    refine y_callMvV (k' := 0) (n' := 0) (As := []) (rest := []) C M cs_X9_38 (met_r_next G A S _ (h_20)) (wR_40 ..) rfl rfl ⟨rfl, rfl, Nat.le_of_ble_eq_true rfl, Nat.le_of_ble_eq_true rfl⟩ rfl rfl (Nat.le_of_ble_eq_true rfl) dX9_read_48 ⟨Nat.zero_le _, Nat.zero_le _⟩ rfl rfl (fun S_24 h_23 => ?_)
    refine y_aload_n C dX9_read_51 0 rfl rfl ?_
    refine yg_X9_25_wR40 C dX9_read_52 ?_
    refine y_dup C dX9_read_55 rfl ?_
    refine yg_X9_221_wR15 C dX9_read_56 ?_
    refine y_iconst C dX9_read_59 ic_1 ?_
    refine y_iadd C dX9_read_60 ?_
    refine yp_X9_221_wR15 C M dX9_read_61 ?_
    refine y_goto C (tgt := 0) dX9_read_64 rfl ?_
    exact Y.sub (hK0 (sI S_24 15 3 ((S_24.1 15 3) + 1)) (h_23)) [0] rfl
  · have h_21 := (h).2.2 c_19
    refine y_aload_n C dX9_read_41 0 rfl rfl ?_
    refine y_iconst C dX9_read_42 ic_1 ?_
    exact y_wrong_q C M N cs_X9_103 (kd := 1) (h_21) (Nat.le_of_ble_eq_true rfl) ⟨Nat.le_of_ble_eq_true rfl, Nat.le_of_ble_eq_true rfl, Nat.le_of_ble_eq_true rfl, Nat.le_of_ble_eq_true rfl⟩ dX9_read_43 dX9_read_46
set_option maxRecDepth 100000 in
theorem wk_r_read_b0 {G : Gx} {K : Kx} {A : Nat → Nat} (C : KOk G K RX9 cX9_read rm_r_read 1 (some (.object "OverHill$Dance"))) {B : Nat → Prop} (M : KM G K B) {Q : (Unit ⊕ (Int32 × Int32)) → St → Prop} (N : KXq G K B (wR G A) (fun r S => r = some (A 15) ∧ Q (.inl ()) S) (xpF (wR G A) (fun f S => Q (.inr f) S)) 0 0 1 8 []) : ∀ (n : Nat), ∀ (S : St), wp_r_read_b0 Q n S → Y G K 0 0 (wR G A S) 0 [(0, .ref (A 40))] [] := by
  intro n
  induction n with
  | zero => intro S h; exact h.elim
  | succ n ih =>
    intro S h
    dsimp only [wp_r_read_b0] at h
    refine y_aload_n C dX9_read_0 0 rfl rfl ?_
    refine yg_X9_35_wR40 C dX9_read_1 ?_
    refine y_getTok C M 0 0 tn_0 (by decide) rfl q540 dX9_read_4 ?_
    refine y_tok_eq C M (tgt := 67) (h).1 tn_0 (by decide) dX9_read_7 rfl (fun c_3 => ?_) (fun c_3 => ?_)
    · have h_4 := (h).2.1 c_3
      refine y_aload_n C dX9_read_67 0 rfl rfl ?_
      refine yg_X9_25_wR40 C dX9_read_68 ?_
      exact y_aretX C M N rfl (Or.inl ⟨_, rfl⟩) (some (A 15)) (S := S) rfl ⟨rfl, h_4⟩ dX9_read_71 ⟨Nat.zero_le _, Nat.zero_le _⟩
    · have h_5 := (h).2.2 c_3
      refine y_aload_n C dX9_read_10 0 rfl rfl ?_
      refine yg_X9_25_wR40 C dX9_read_11 ?_
      refine yg_X9_221_wR15 C dX9_read_14 ?_
      refine y_if_ne C (tgt := 27) dX9_read_17 rfl (fun c_6 => ?_) (fun c_6 => ?_)
      · have h_7 := (h_5).1 c_6
        refine y_aload_n C dX9_read_27 0 rfl rfl ?_
        refine y_callXvV (k' := 0) (n' := 0) (k9 := 1) (n9 := 8) (As := []) (rest := []) C M cs_X9_227 (met_r_line G A S _ (h_7)) (wR_40 ..) rfl rfl ⟨rfl, rfl, Nat.le_of_ble_eq_true rfl, Nat.le_of_ble_eq_true rfl⟩ rfl rfl (Nat.le_of_ble_eq_true rfl) dX9_read_28 ⟨Nat.le_of_ble_eq_true rfl, Nat.le_of_ble_eq_true rfl⟩ rfl rfl rfl rfl (fun _ _ _ hx9 => y_outq C M N (fun _ h9 => by cases h9) hx9 ⟨Nat.le_refl _, Nat.le_refl _⟩) (fun S_10 h_9 => ?_)
        exact Y.sub (wk_r_read_b31 C M N (fun Sy => wp_r_read_b0 Q n Sy) ih S_10 (h_9)) [0] rfl
      · have h_13 := (h_5).2 c_6
        refine y_aload_n C dX9_read_20 0 rfl rfl ?_
        refine y_callXvV (k' := 0) (n' := 0) (k9 := 1) (n9 := 8) (As := []) (rest := []) C M cs_X9_224 (met_r_first G A S _ (h_13)) (wR_40 ..) rfl rfl ⟨rfl, rfl, Nat.le_of_ble_eq_true rfl, Nat.le_of_ble_eq_true rfl⟩ rfl rfl (Nat.le_of_ble_eq_true rfl) dX9_read_21 ⟨Nat.le_of_ble_eq_true rfl, Nat.le_of_ble_eq_true rfl⟩ rfl rfl rfl rfl (fun _ _ _ hx9 => y_outq C M N (fun _ h9 => by cases h9) hx9 ⟨Nat.le_refl _, Nat.le_refl _⟩) (fun S_16 h_15 => ?_)
        refine y_goto C (tgt := 31) dX9_read_24 rfl ?_
        exact Y.sub (wk_r_read_b31 C M N (fun Sy => wp_r_read_b0 Q n Sy) ih S_16 (h_15)) [0] rfl
set_option maxRecDepth 100000 in
theorem met_r_read (G : Gx) (A : Nat → Nat) (S : St) (Q : (Unit ⊕ (Int32 × Int32)) → St → Prop) (h : wp_r_read S Q) : Xq G yX9_read (ws_ yX9_read cX9_read 1 (some (.object "OverHill$Dance"))) rm_r_read (wR G A S) [.ref (A 40)] (wR G A) (fun r S => r = some (A 15) ∧ Q (.inl ()) S) (xpF (wR G A) (fun f S => Q (.inr f) S)) 0 0 1 8 := by
  refine ent_Xq (by decide) rfl (Nat.le_of_ble_eq_true rfl) [(0, .ref (A 40))] rfl (fun K B C M N => ?_)
  obtain ⟨n_1, h_2⟩ := h
  exact Y.sub (wk_r_read_b0 C M N n_1 S h_2) [0] rfl
