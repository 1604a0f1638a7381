/-! printed by tools/gen.py -/
set_option maxRecDepth 100000
theorem nz_I_2 : ¬ (2 : Int32) = 0 := by decide
theorem ii_2 (x : Int32) : x + Int32.ofInt (2) = x + 2 := by rw [show Int32.ofInt (2) = 2 from by decide]
theorem sp_560 : (Int16.ofInt (560)).toInt32 = (560 : Int32) := by decide
theorem sp_3601 : (Int16.ofInt (3601)).toInt32 = (3601 : Int32) := by decide
theorem nz_I_60 : ¬ (60 : Int32) = 0 := by decide
theorem nz_I_10 : ¬ (10 : Int32) = 0 := by decide
theorem nz_I_6 : ¬ (6 : Int32) = 0 := by decide
theorem bp_80 : (Int8.ofInt (80)).toInt32 = (80 : Int32) := by decide
theorem vi_8_55 : vp_in 8 55 := by unfold vp_in; decide
theorem tn_8 : (8 : Int32).toNatClampNeg = 8 := by decide
theorem sp_1000 : (Int16.ofInt (1000)).toInt32 = (1000 : Int32) := by decide
theorem vi_9_55 : vp_in 9 55 := by unfold vp_in; decide
theorem tn_9 : (9 : Int32).toNatClampNeg = 9 := by decide
theorem yp_X8_343_wM0 {G : Gx} {K : Kx} {cc : ByteArray} {rm : Room} {nL : Nat} {ret : Option FieldType} {k n pc : Nat} {B : Nat → Prop} {A : Nat → Nat} {S : St} {lv : List (Nat × Value)} {st : List Value} {v : Int32} (C : KOk G K RX8 cc rm nL ret) (M : KM G K B) (hdg : decode cc pc = .ok (.putfield 343, 3)) (kk : Y G K k n (wM G A (sI S 0 32 v)) (pc + 3) lv st) : Y G K k n (wM G A S) pc lv (.int v :: .ref (A 0) :: st) := y_put C M (ref := "OverHillModel") (Cn := RX8) (T := TX8) (N := 45) in_X8 (wM_0 ..) rfl 32 (by decide) tyX8 tyX8_ok (by decide +kernel) q1598 (fun _ _ h => h) rfl (ty := .int) (by decide +kernel) rfl rfl (Nat.le_of_ble_eq_true rfl) (wM_p0_32 ..) hdg kk
theorem yp_X8_346_wM0 {G : Gx} {K : Kx} {cc : ByteArray} {rm : Room} {nL : Nat} {ret : Option FieldType} {k n pc : Nat} {B : Nat → Prop} {A : Nat → Nat} {S : St} {lv : List (Nat × Value)} {st : List Value} {v : Int32} (C : KOk G K RX8 cc rm nL ret) (M : KM G K B) (hdg : decode cc pc = .ok (.putfield 346, 3)) (kk : Y G K k n (wM G A (sI S 0 33 v)) (pc + 3) lv st) : Y G K k n (wM G A S) pc lv (.int v :: .ref (A 0) :: st) := y_put C M (ref := "OverHillModel") (Cn := RX8) (T := TX8) (N := 45) in_X8 (wM_0 ..) rfl 33 (by decide) tyX8 tyX8_ok (by decide +kernel) q1599 (fun _ _ h => h) rfl (ty := .int) (by decide +kernel) rfl rfl (Nat.le_of_ble_eq_true rfl) (wM_p0_33 ..) hdg kk
theorem yp_X8_349_wM0 {G : Gx} {K : Kx} {cc : ByteArray} {rm : Room} {nL : Nat} {ret : Option FieldType} {k n pc : Nat} {B : Nat → Prop} {A : Nat → Nat} {S : St} {lv : List (Nat × Value)} {st : List Value} {v : Int64} (C : KOk G K RX8 cc rm nL ret) (M : KM G K B) (hdg : decode cc pc = .ok (.putfield 349, 3)) (kk : Y G K k n (wM G A (sL S 0 34 v)) (pc + 3) lv st) : Y G K k n (wM G A S) pc lv (.long v :: .ref (A 0) :: st) := y_put C M (ref := "OverHillModel") (Cn := RX8) (T := TX8) (N := 45) in_X8 (wM_0 ..) rfl 34 (by decide) tyX8 tyX8_ok (by decide +kernel) q1600 (fun _ _ h => h) rfl (ty := .long) (by decide +kernel) rfl rfl (Nat.le_of_ble_eq_true rfl) (wM_p0_34 ..) hdg kk
theorem yg_X8_71_wM0 {G : Gx} {K : Kx} {cc : ByteArray} {rm : Room} {nL : Nat} {ret : Option FieldType} {k n pc : Nat} {A : Nat → Nat} {S : St} {lv : List (Nat × Value)} {st : List Value} (C : KOk G K RX8 cc rm nL ret) (hdg : decode cc pc = .ok (.getfield 71, 3)) (kk : Y G K k n (wM G A S) (pc + 3) lv (.ref (A 19) :: st)) : Y G K k n (wM G A S) pc lv (.ref (A 0) :: st) := y_get C (ref := "OverHillModel") (Cn := RX8) (T := TX8) (N := 45) in_X8 (wM_0 ..) rfl 31 (by decide) q1597 (fun _ _ h => h) (fs_M0_f31 A S) hdg kk
theorem yg_X8_343_wM0 {G : Gx} {K : Kx} {cc : ByteArray} {rm : Room} {nL : Nat} {ret : Option FieldType} {k n pc : Nat} {A : Nat → Nat} {S : St} {lv : List (Nat × Value)} {st : List Value} (C : KOk G K RX8 cc rm nL ret) (hdg : decode cc pc = .ok (.getfield 343, 3)) (kk : Y G K k n (wM G A S) (pc + 3) lv (.int (S.1 0 32) :: st)) : Y G K k n (wM G A S) pc lv (.ref (A 0) :: st) := y_get C (ref := "OverHillModel") (Cn := RX8) (T := TX8) (N := 45) in_X8 (wM_0 ..) rfl 32 (by decide) q1598 (fun _ _ h => h) (fs_M0_f32 A S) hdg kk
theorem yg_X8_346_wM0 {G : Gx} {K : Kx} {cc : ByteArray} {rm : Room} {nL : Nat} {ret : Option FieldType} {k n pc : Nat} {A : Nat → Nat} {S : St} {lv : List (Nat × Value)} {st : List Value} (C : KOk G K RX8 cc rm nL ret) (hdg : decode cc pc = .ok (.getfield 346, 3)) (kk : Y G K k n (wM G A S) (pc + 3) lv (.int (S.1 0 33) :: st)) : Y G K k n (wM G A S) pc lv (.ref (A 0) :: st) := y_get C (ref := "OverHillModel") (Cn := RX8) (T := TX8) (N := 45) in_X8 (wM_0 ..) rfl 33 (by decide) q1599 (fun _ _ h => h) (fs_M0_f33 A S) hdg kk
theorem yg_X8_349_wM0 {G : Gx} {K : Kx} {cc : ByteArray} {rm : Room} {nL : Nat} {ret : Option FieldType} {k n pc : Nat} {A : Nat → Nat} {S : St} {lv : List (Nat × Value)} {st : List Value} (C : KOk G K RX8 cc rm nL ret) (hdg : decode cc pc = .ok (.getfield 349, 3)) (kk : Y G K k n (wM G A S) (pc + 3) lv (.long (S.2 0 34) :: st)) : Y G K k n (wM G A S) pc lv (.ref (A 0) :: st) := y_get C (ref := "OverHillModel") (Cn := RX8) (T := TX8) (N := 45) in_X8 (wM_0 ..) rfl 34 (by decide) q1600 (fun _ _ h => h) (fs_M0_f34 A S) hdg kk
theorem yp_X8_361_wM0 {G : Gx} {K : Kx} {cc : ByteArray} {rm : Room} {nL : Nat} {ret : Option FieldType} {k n pc : Nat} {B : Nat → Prop} {A : Nat → Nat} {S : St} {lv : List (Nat × Value)} {st : List Value} {v : Int32} (C : KOk G K RX8 cc rm nL ret) (M : KM G K B) (hdg : decode cc pc = .ok (.putfield 361, 3)) (kk : Y G K k n (wM G A (sI S 0 35 v)) (pc + 3) lv st) : Y G K k n (wM G A S) pc lv (.int v :: .ref (A 0) :: st) := y_put C M (ref := "OverHillModel") (Cn := RX8) (T := TX8) (N := 45) in_X8 (wM_0 ..) rfl 35 (by decide) tyX8 tyX8_ok (by decide +kernel) q1601 (fun _ _ h => h) rfl (ty := .int) (by decide +kernel) rfl rfl (Nat.le_of_ble_eq_true rfl) (wM_p0_35 ..) hdg kk
theorem yg_X8_361_wM0 {G : Gx} {K : Kx} {cc : ByteArray} {rm : Room} {nL : Nat} {ret : Option FieldType} {k n pc : Nat} {A : Nat → Nat} {S : St} {lv : List (Nat × Value)} {st : List Value} (C : KOk G K RX8 cc rm nL ret) (hdg : decode cc pc = .ok (.getfield 361, 3)) (kk : Y G K k n (wM G A S) (pc + 3) lv (.int (S.1 0 35) :: st)) : Y G K k n (wM G A S) pc lv (.ref (A 0) :: st) := y_get C (ref := "OverHillModel") (Cn := RX8) (T := TX8) (N := 45) in_X8 (wM_0 ..) rfl 35 (by decide) q1601 (fun _ _ h => h) (fs_M0_f35 A S) hdg kk
theorem yg_X8_74_wM0 {G : Gx} {K : Kx} {cc : ByteArray} {rm : Room} {nL : Nat} {ret : Option FieldType} {k n pc : Nat} {A : Nat → Nat} {S : St} {lv : List (Nat × Value)} {st : List Value} (C : KOk G K RX8 cc rm nL ret) (hdg : decode cc pc = .ok (.getfield 74, 3)) (kk : Y G K k n (wM G A S) (pc + 3) lv (.ref (A 20) :: st)) : Y G K k n (wM G A S) pc lv (.ref (A 0) :: st) := y_get C (ref := "OverHillModel") (Cn := RX8) (T := TX8) (N := 45) in_X8 (wM_0 ..) rfl 36 (by decide) q1602 (fun _ _ h => h) (fs_M0_f36 A S) hdg kk
theorem yp_X8_373_wM0 {G : Gx} {K : Kx} {cc : ByteArray} {rm : Room} {nL : Nat} {ret : Option FieldType} {k n pc : Nat} {B : Nat → Prop} {A : Nat → Nat} {S : St} {lv : List (Nat × Value)} {st : List Value} {v : Int32} (C : KOk G K RX8 cc rm nL ret) (M : KM G K B) (hdg : decode cc pc = .ok (.putfield 373, 3)) (kk : Y G K k n (wM G A (sI S 0 37 v)) (pc + 3) lv st) : Y G K k n (wM G A S) pc lv (.int v :: .ref (A 0) :: st) := y_put C M (ref := "OverHillModel") (Cn := RX8) (T := TX8) (N := 45) in_X8 (wM_0 ..) rfl 37 (by decide) tyX8 tyX8_ok (by decide +kernel) q1603 (fun _ _ h => h) rfl (ty := .int) (by decide +kernel) rfl rfl (Nat.le_of_ble_eq_true rfl) (wM_p0_37 ..) hdg kk
theorem yp_X8_376_wM0 {G : Gx} {K : Kx} {cc : ByteArray} {rm : Room} {nL : Nat} {ret : Option FieldType} {k n pc : Nat} {B : Nat → Prop} {A : Nat → Nat} {S : St} {lv : List (Nat × Value)} {st : List Value} {v : Int32} (C : KOk G K RX8 cc rm nL ret) (M : KM G K B) (hdg : decode cc pc = .ok (.putfield 376, 3)) (kk : Y G K k n (wM G A (sI S 0 38 v)) (pc + 3) lv st) : Y G K k n (wM G A S) pc lv (.int v :: .ref (A 0) :: st) := y_put C M (ref := "OverHillModel") (Cn := RX8) (T := TX8) (N := 45) in_X8 (wM_0 ..) rfl 38 (by decide) tyX8 tyX8_ok (by decide +kernel) q1604 (fun _ _ h => h) rfl (ty := .int) (by decide +kernel) rfl rfl (Nat.le_of_ble_eq_true rfl) (wM_p0_38 ..) hdg kk
theorem yg_X8_373_wM0 {G : Gx} {K : Kx} {cc : ByteArray} {rm : Room} {nL : Nat} {ret : Option FieldType} {k n pc : Nat} {A : Nat → Nat} {S : St} {lv : List (Nat × Value)} {st : List Value} (C : KOk G K RX8 cc rm nL ret) (hdg : decode cc pc = .ok (.getfield 373, 3)) (kk : Y G K k n (wM G A S) (pc + 3) lv (.int (S.1 0 37) :: st)) : Y G K k n (wM G A S) pc lv (.ref (A 0) :: st) := y_get C (ref := "OverHillModel") (Cn := RX8) (T := TX8) (N := 45) in_X8 (wM_0 ..) rfl 37 (by decide) q1603 (fun _ _ h => h) (fs_M0_f37 A S) hdg kk
theorem yg_X8_376_wM0 {G : Gx} {K : Kx} {cc : ByteArray} {rm : Room} {nL : Nat} {ret : Option FieldType} {k n pc : Nat} {A : Nat → Nat} {S : St} {lv : List (Nat × Value)} {st : List Value} (C : KOk G K RX8 cc rm nL ret) (hdg : decode cc pc = .ok (.getfield 376, 3)) (kk : Y G K k n (wM G A S) (pc + 3) lv (.int (S.1 0 38) :: st)) : Y G K k n (wM G A S) pc lv (.ref (A 0) :: st) := y_get C (ref := "OverHillModel") (Cn := RX8) (T := TX8) (N := 45) in_X8 (wM_0 ..) rfl 38 (by decide) q1604 (fun _ _ h => h) (fs_M0_f38 A S) hdg kk
theorem cs_X8_334 : CsV RX8 334 yX8_mayBe cX8_mayBe 9 (some .int) 2 := ⟨lw_V q2038 q2040 qs115 q150 q2041, by decide +kernel⟩
theorem cs_X8_337 : CsV RX8 337 yX8_mendedOf cX8_mendedOf 6 (some .int) 2 := ⟨lw_V q2034 q2036 qs114 q150 q2037, by decide +kernel⟩
theorem cs_X8_340 : CsV RX8 340 yX8_stuckOf cX8_stuckOf 3 (some .int) 1 := ⟨lw_V q2030 q2032 qs113 q150 q2033, by decide +kernel⟩
theorem cs_X8_352 : CsV RX8 352 yX8_isHeard cX8_isHeard 4 (some .boolean) 2 := ⟨lw_V q2062 q2064 qs118 q150 q2065, by decide +kernel⟩
theorem cs_X8_355 : CsV RX8 355 yX8_whyNot cX8_whyNot 4 (some .int) 2 := ⟨lw_V q2054 q2056 qs116 q150 q2057, by decide +kernel⟩
theorem cs_X8_358 : CsV RX8 358 yX8_laysFits cX8_laysFits 6 none 2 := ⟨lw_V q2058 q2060 qs117 q150 q2061, by decide +kernel⟩
theorem cs_X8_364 : CsV RX8 364 yX8_listens cX8_listens 7 (some .int) 2 := ⟨lw_V q2078 q2080 qs119 q150 q2081, by decide +kernel⟩
theorem cs_X8_367 : CsV RX8 367 yX8_walks cX8_walks 6 (some .int) 2 := ⟨lw_V q2090 q2092 qs120 q150 q2093, by decide +kernel⟩
theorem cs_X8_370 : CsS RX8 370 yX8_known cX8_known 1 (some .int) 1 := ⟨lw_S q2094 q2095 q150 q2096, by decide +kernel⟩
theorem cs_X8_379 : CsV RX8 379 yX8_laysMeet cX8_laysMeet 5 none 2 := ⟨lw_V q2105 q2107 qs121 q150 q2108, by decide +kernel⟩
theorem cs_X8_382 : CsV RX8 382 yX8_isHalf cX8_isHalf 5 (some .boolean) 2 := ⟨lw_V q2129 q2131 qs124 q150 q2132, by decide +kernel⟩
theorem cs_X8_385 : CsV RX8 385 yX8_whyNotHalf cX8_whyNotHalf 3 (some .int) 1 := ⟨lw_V q2121 q2123 qs122 q150 q2124, by decide +kernel⟩
theorem cs_X8_388 : CsV RX8 388 yX8_halfOf cX8_halfOf 3 (some .int) 1 := ⟨lw_V q2125 q2127 qs123 q150 q2128, by decide +kernel⟩
theorem cs_X8_318 : CsS RX8 318 yX8_commonLong cX8_commonLong 4 (some .long) 2 := ⟨lw_S q2153 q2154 q150 q2155, by decide +kernel⟩
theorem cs_X8_391 : CsV RX8 391 yX8_isSet cX8_isSet 2 (some .boolean) 1 := ⟨lw_V q2145 q2147 qs125 q150 q2148, by decide +kernel⟩
theorem cs_X8_394 : CsV RX8 394 yX8_togetherOf cX8_togetherOf 9 (some .long) 2 := ⟨lw_V q2149 q2151 qs126 q150 q2152, by decide +kernel⟩
/-! OverHillModel mendedOf(II)I: m_mendedOf -/
abbrev rm_m_mendedOf : Room := { frames := 104, cells := 0, slots := 0, locals := 3309 }
def wp_m_mendedOf_b47 (S : St) (Q : Int32 → Prop) : Nat → Int32 → Int32 → Prop
  | 0 => fun _ _ => False
  | n + 1 => fun x3 x5 => wp_m_isBit (x3) (x5) (fun r_21 => ((¬ r_21 = 0 → Q x5) ∧ (r_21 = 0 → wp_m_mendedOf_b47 S Q n (x3) ((x5 + 1)))))
def wp_m_mendedOf (S : St) (x1 : Int32) (x2 : Int32) (Q : Int32 → Prop) : Prop :=
  wp_m_mayBe S (x1) (x2) (fun r_1 => (vp_in ((12 * x1) + x2) 120 ∧ ((r_1 = 0 → ((¬ r_1 = 0 → Q (S.1 8 (((12 * x1) + x2)).toNatClampNeg)) ∧ (r_1 = 0 → Q (-1)))) ∧ (¬ r_1 = 0 → wp_m_isBit (r_1) ((S.1 8 (((12 * x1) + x2)).toNatClampNeg)) (fun r_10 => ((r_10 = 0 → (∃ z, wp_m_mendedOf_b47 S Q z (r_1) (0))) ∧ (¬ r_10 = 0 → ((¬ r_1 = 0 → Q (S.1 8 (((12 * x1) + x2)).toNatClampNeg)) ∧ (r_1 = 0 → Q (-1))))))))))
set_option maxRecDepth 100000 in
theorem wk_m_mendedOf_b47 {G : Gx} {K : Kx} {A : Nat → Nat} (C : KOk G K RX8 cX8_mendedOf rm_m_mendedOf 6 (some .int)) {S : St} {Q : Int32 → Prop} (N : KRi K Q) : ∀ (n : Nat), ∀ (x3 : Int32) (x5 : Int32), wp_m_mendedOf_b47 S Q n x3 x5 → Y G K 0 0 (wM G A S) 47 [(3, .int (x3)), (5, .int (x5))] [] := by
  intro n
  induction n with
  | zero => intro x3 x5 h; exact h.elim
  | succ n ih =>
    intro x3 x5 h
    dsimp only [wp_m_mendedOf_b47] at h
    refine y_iload_n C dX8_mendedOf_47 0 rfl rfl ?_
    refine y_iload C dX8_mendedOf_48 1 rfl ?_
    refine y_callRiS (As := [.int (x3), .int (x5)]) (rest := []) C cs_X8_280 (met_m_isBit G (x3) (x5) _ (h)) (fun _ _ => pw_nil) ⟨rfl, rfl, Nat.le_of_ble_eq_true rfl, Nat.le_of_ble_eq_true rfl⟩ rfl rfl (Nat.le_of_ble_eq_true rfl) dX8_mendedOf_50 ⟨Nat.zero_le _, Nat.zero_le _⟩ (fun r_21 h_22 => ?_)
    refine y_if_ne C (tgt := 62) dX8_mendedOf_53 rfl (fun c_24 => ?_) (fun c_24 => ?_)
    · have h_25 := (h_22).1 c_24
      refine y_iload C dX8_mendedOf_62 1 rfl ?_
      exact y_iretR C N rfl (h_25) dX8_mendedOf_64
    · have h_26 := (h_22).2 c_24
      refine y_iinc C dX8_mendedOf_56 1 rfl (Nat.le_of_ble_eq_true rfl) (ii_1 _) [(5, .int ((x5 + 1))), (3, .int (x3))] rfl ?_
      refine y_goto C (tgt := 47) dX8_mendedOf_59 rfl ?_
      exact Y.sub (ih (x3) ((x5 + 1)) (h_26)) [1, 0] rfl
set_option maxRecDepth 100000 in
theorem met_m_mendedOf (G : Gx) (A : Nat → Nat) (S : St) (x1 : Int32) (x2 : Int32) (Q : Int32 → Prop) (h : wp_m_mendedOf S x1 x2 Q) : Ri G yX8_mendedOf (ws_ yX8_mendedOf cX8_mendedOf 6 (some .int)) rm_m_mendedOf (wM G A S) [.ref (A 0), .int (x1), .int (x2)] Q := by
  refine ent_Ri (by decide +kernel) rfl (Nat.le_of_ble_eq_true rfl) [(0, .ref (A 0)), (1, .int (x1)), (2, .int (x2))] rfl (fun K C N => ?_)
  refine y_aload_n C dX8_mendedOf_0 0 rfl rfl ?_
  refine y_iload_n C dX8_mendedOf_1 1 rfl rfl ?_
  refine y_iload_n C dX8_mendedOf_2 2 rfl rfl ?_
  refine y_callRiV (As := [.int (x1), .int (x2)]) (rest := []) C cs_X8_334 (met_m_mayBe G A S (x1) (x2) _ (h)) (fun _ h => h) (wM_0 ..) rfl rfl ⟨rfl, rfl, Nat.le_of_ble_eq_true rfl, Nat.le_of_ble_eq_true rfl⟩ rfl rfl (Nat.le_of_ble_eq_true rfl) dX8_mendedOf_3 ⟨Nat.zero_le _, Nat.zero_le _⟩ (fun r_1 h_2 => ?_)
  refine y_istore_n C dX8_mendedOf_6 rfl (Nat.le_of_ble_eq_true rfl) [(3, .int (r_1)), (0, .ref (A 0)), (1, .int (x1)), (2, .int (x2))] rfl ?_
  refine y_aload_n C dX8_mendedOf_7 1 rfl rfl ?_
  refine yg_X8_37_wM0 C dX8_mendedOf_8 ?_
  refine y_bipush C dX8_mendedOf_11 bp_12 ?_
  refine y_iload_n C dX8_mendedOf_13 2 rfl rfl ?_
  refine y_imul C dX8_mendedOf_14 ?_
  refine y_iload_n C dX8_mendedOf_15 3 rfl rfl ?_
  refine y_iadd C dX8_mendedOf_16 ?_
  refine y_iald C (wM_8 ..) rfl (h_2).1 dX8_mendedOf_17 ?_
  refine y_istore C dX8_mendedOf_18 (Nat.le_of_ble_eq_true rfl) [(4, .int ((S.1 8 (((12 * x1) + x2)).toNatClampNeg))), (3, .int (r_1)), (0, .ref (A 0)), (1, .int (x1)), (2, .int (x2))] rfl ?_
  refine y_iload_n C dX8_mendedOf_20 1 rfl rfl ?_
  refine y_if_eq C (tgt := 33) dX8_mendedOf_21 rfl (fun c_4 => ?_) (fun c_4 => ?_)
  · have h_5 := ((h_2).2).1 c_4
    refine y_iload_n C dX8_mendedOf_33 1 rfl rfl ?_
    refine y_if_ne C (tgt := 41) dX8_mendedOf_34 rfl (fun c_6 => ?_) (fun c_6 => ?_)
    · have h_7 := (h_5).1 c_6
      refine y_iload C dX8_mendedOf_41 0 rfl ?_
      exact y_iretR C N rfl (h_7) dX8_mendedOf_43
    · have h_8 := (h_5).2 c_6
      refine y_iconst C dX8_mendedOf_37 icm1 ?_
      refine y_goto C (tgt := 43) dX8_mendedOf_38 rfl ?_
      exact y_iretR C N rfl (h_8) dX8_mendedOf_43
  · have h_9 := ((h_2).2).2 c_4
    refine y_iload_n C dX8_mendedOf_24 1 rfl rfl ?_
    refine y_iload C dX8_mendedOf_25 0 rfl ?_
    refine y_callRiS (As := [.int (r_1), .int ((S.1 8 (((12 * x1) + x2)).toNatClampNeg))]) (rest := []) C cs_X8_280 (met_m_isBit G (r_1) ((S.1 8 (((12 * x1) + x2)).toNatClampNeg)) _ (h_9)) (fun _ _ => pw_nil) ⟨rfl, rfl, Nat.le_of_ble_eq_true rfl, Nat.le_of_ble_eq_true rfl⟩ rfl rfl (Nat.le_of_ble_eq_true rfl) dX8_mendedOf_27 ⟨Nat.zero_le _, Nat.zero_le _⟩ (fun r_10 h_11 => ?_)
    refine y_if_eq C (tgt := 44) dX8_mendedOf_30 rfl (fun c_13 => ?_) (fun c_13 => ?_)
    · have h_14 := (h_11).1 c_13
      refine y_iconst C dX8_mendedOf_44 ic_0 ?_
      refine y_istore C dX8_mendedOf_45 (Nat.le_of_ble_eq_true rfl) [(5, .int (0)), (4, .int ((S.1 8 (((12 * x1) + x2)).toNatClampNeg))), (3, .int (r_1)), (0, .ref (A 0)), (1, .int (x1)), (2, .int (x2))] rfl ?_
      obtain ⟨n_15, h_16⟩ := h_14
      exact Y.sub (wk_m_mendedOf_b47 C N n_15 (r_1) (0) h_16) [2, 0] rfl
    · have h_17 := (h_11).2 c_13
      refine y_iload_n C dX8_mendedOf_33 1 rfl rfl ?_
      refine y_if_ne C (tgt := 41) dX8_mendedOf_34 rfl (fun c_18 => ?_) (fun c_18 => ?_)
      · have h_19 := (h_17).1 c_18
        refine y_iload C dX8_mendedOf_41 0 rfl ?_
        exact y_iretR C N rfl (h_19) dX8_mendedOf_43
      · have h_20 := (h_17).2 c_18
        refine y_iconst C dX8_mendedOf_37 icm1 ?_
        refine y_goto C (tgt := 43) dX8_mendedOf_38 rfl ?_
        exact y_iretR C N rfl (h_20) dX8_mendedOf_43
/-! OverHillModel stuckOf(I)I: m_stuckOf -/
abbrev rm_m_stuckOf : Room := { frames := 105, cells := 0, slots := 0, locals := 3334 }
def wp_m_stuckOf_b2 (S : St) (Q : Int32 → Prop) (x1 : Int32) : Nat → Int32 → Prop
  | 0 => fun _ => False
  | n + 1 => fun x2 => wp_m_lengthOf S (x1) (fun r_3 => ((r_3 ≤ x2 → Q (-1)) ∧ (¬ r_3 ≤ x2 → wp_m_mendedOf S (x1) (x2) (fun r_9 => ((¬ r_9 = (-1) → wp_m_stuckOf_b2 S Q x1 n ((x2 + 1))) ∧ (r_9 = (-1) → Q x2))))))
def wp_m_stuckOf (S : St) (x1 : Int32) (Q : Int32 → Prop) : Prop :=
  (∃ z, wp_m_stuckOf_b2 S Q (x1) z (0))
set_option maxRecDepth 100000 in
theorem wk_m_stuckOf_b2 {G : Gx} {K : Kx} {A : Nat → Nat} (C : KOk G K RX8 cX8_stuckOf rm_m_stuckOf 3 (some .int)) {S : St} {Q : Int32 → Prop} (N : KRi K Q) (x1 : Int32) : ∀ (n : Nat), ∀ (x2 : Int32), wp_m_stuckOf_b2 S Q x1 n x2 → Y G K 0 0 (wM G A S) 2 [(0, .ref (A 0)), (1, .int (x1)), (2, .int (x2))] [] := by
  intro n
  induction n with
  | zero => intro x2 h; exact h.elim
  | succ n ih =>
    intro x2 h
    dsimp only [wp_m_stuckOf_b2] at h
    refine y_iload_n C dX8_stuckOf_2 2 rfl rfl ?_
    refine y_aload_n C dX8_stuckOf_3 0 rfl rfl ?_
    refine y_iload_n C dX8_stuckOf_4 1 rfl rfl ?_
    refine y_callRiV (As := [.int (x1)]) (rest := [.int (x2)]) C cs_X8_264 (met_m_lengthOf G A S (x1) _ (h)) (fun _ h => h) (wM_0 ..) rfl rfl ⟨rfl, rfl, Nat.le_of_ble_eq_true rfl, Nat.le_of_ble_eq_true rfl⟩ rfl rfl (Nat.le_of_ble_eq_true rfl) dX8_stuckOf_5 ⟨Nat.zero_le _, Nat.zero_le _⟩ (fun r_3 h_4 => ?_)
    refine y_icmp_ge C (tgt := 29) dX8_stuckOf_8 rfl (fun c_6 => ?_) (fun c_6 => ?_)
    · have h_7 := (h_4).1 c_6
      refine y_iconst C dX8_stuckOf_29 icm1 ?_
      exact y_iretR C N rfl (h_7) dX8_stuckOf_30
    · have h_8 := (h_4).2 c_6
      refine y_aload_n C dX8_stuckOf_11 0 rfl rfl ?_
      refine y_iload_n C dX8_stuckOf_12 1 rfl rfl ?_
      refine y_iload_n C dX8_stuckOf_13 2 rfl rfl ?_
      refine y_callRiV (As := [.int (x1), .int (x2)]) (rest := []) C cs_X8_337 (met_m_mendedOf G A S (x1) (x2) _ (h_8)) (fun _ h => h) (wM_0 ..) rfl rfl ⟨rfl, rfl, Nat.le_of_ble_eq_true rfl, Nat.le_of_ble_eq_true rfl⟩ rfl rfl (Nat.le_of_ble_eq_true rfl) dX8_stuckOf_14 ⟨Nat.zero_le _, Nat.zero_le _⟩ (fun r_9 h_10 => ?_)
      refine y_iconst C dX8_stuckOf_17 icm1 ?_
      refine y_icmp_ne C (tgt := 23) dX8_stuckOf_18 rfl (fun c_12 => ?_) (fun c_12 => ?_)
      · have h_13 := (h_10).1 c_12
        refine y_iinc C dX8_stuckOf_23 2 rfl (Nat.le_of_ble_eq_true rfl) (ii_1 _) [(2, .int ((x2 + 1))), (0, .ref (A 0)), (1, .int (x1))] rfl ?_
        refine y_goto C (tgt := 2) dX8_stuckOf_26 rfl ?_
        exact Y.sub (ih ((x2 + 1)) (h_13)) [1, 2, 0] rfl
      · have h_14 := (h_10).2 c_12
        refine y_iload_n C dX8_stuckOf_21 2 rfl rfl ?_
        exact y_iretR C N rfl (h_14) dX8_stuckOf_22
set_option maxRecDepth 100000 in
theorem met_m_stuckOf (G : Gx) (A : Nat → Nat) (S : St) (x1 : Int32) (Q : Int32 → Prop) (h : wp_m_stuckOf S x1 Q) : Ri G yX8_stuckOf (ws_ yX8_stuckOf cX8_stuckOf 3 (some .int)) rm_m_stuckOf (wM G A S) [.ref (A 0), .int (x1)] Q := by
  refine ent_Ri (by decide +kernel) rfl (Nat.le_of_ble_eq_true rfl) [(0, .ref (A 0)), (1, .int (x1))] rfl (fun K C N => ?_)
  refine y_iconst C dX8_stuckOf_0 ic_0 ?_
  refine y_istore_n C dX8_stuckOf_1 rfl (Nat.le_of_ble_eq_true rfl) [(2, .int (0)), (0, .ref (A 0)), (1, .int (x1))] rfl ?_
  obtain ⟨n_1, h_2⟩ := h
  exact Y.sub (wk_m_stuckOf_b2 C N (x1) n_1 (0) h_2) [1, 2, 0] rfl
/-! OverHillModel mend(I)I: m_mend -/
abbrev rm_m_mend : Room := { frames := 106, cells := 0, slots := 0, locals := 3356 }
def wp_m_mend_b38 (Q : Int32 → St → Prop) (x1 : Int32) : Nat → St → Int32 → Int32 → Prop
  | 0 => fun _ _ _ => False
  | n + 1 => fun S x2 x3 => wp_m_lengthOf S (x1) (fun r_21 => ((r_21 ≤ x3 → Q x2 S) ∧ (¬ r_21 ≤ x3 → wp_m_mendedOf S (x1) (x3) (fun r_27 => (vp_in ((12 * x1) + x3) 120 ∧ ((r_27 = (S.1 8 (((12 * x1) + x3)).toNatClampNeg) → wp_m_mend_b38 Q x1 n S ((x2 + 0)) ((x3 + 1))) ∧ (¬ r_27 = (S.1 8 (((12 * x1) + x3)).toNatClampNeg) → wp_m_mend_b38 Q x1 n S ((x2 + 1)) ((x3 + 1)))))))))
def wp_m_mend (S : St) (x1 : Int32) (Q : Int32 → St → Prop) : Prop :=
  wp_m_isSide (sI S 0 0 0) (x1) (fun r_1 => ((r_1 = 0 → Q (-2) (sI S 0 0 0)) ∧ (¬ r_1 = 0 → wp_m_areRounds (sI S 0 0 0) (fun r_7 => ((¬ r_7 = 0 → wp_m_stuckOf (sI S 0 0 0) (x1) (fun r_12 => ((r_12 = (-1) → (∃ z, wp_m_mend_b38 Q (x1) z (sI S 0 0 0) (0) (0))) ∧ (¬ r_12 = (-1) → Q (-1) (sI S 0 0 0))))) ∧ (r_7 = 0 → Q (-2) (sI S 0 0 0)))))))
set_option maxRecDepth 100000 in
theorem wk_m_mend_b38 {G : Gx} {K : Kx} {A : Nat → Nat} (C : KOk G K RX8 cX8_mend rm_m_mend 4 (some .int)) {B : Nat → Prop} (M : KM G K B) {Q : Int32 → St → Prop} (N : KQi G K B (wM G A) Q) (x1 : Int32) : ∀ (n : Nat), ∀ (S : St) (x2 : Int32) (x3 : Int32), wp_m_mend_b38 Q x1 n S x2 x3 → Y G K 0 0 (wM G A S) 38 [(0, .ref (A 0)), (1, .int (x1)), (2, .int (x2)), (3, .int (x3))] [] := by
  intro n
  induction n with
  | zero => intro S x2 x3 h; exact h.elim
  | succ n ih =>
    intro S x2 x3 h
    dsimp only [wp_m_mend_b38] at h
    refine y_iload_n C dX8_mend_38 3 rfl rfl ?_
    refine y_aload_n C dX8_mend_39 0 rfl rfl ?_
    refine y_iload_n C dX8_mend_40 1 rfl rfl ?_
    refine y_callRiV (As := [.int (x1)]) (rest := [.int (x3)]) C cs_X8_264 (met_m_lengthOf G A S (x1) _ (h)) (fun _ h => h) (wM_0 ..) rfl rfl ⟨rfl, rfl, Nat.le_of_ble_eq_true rfl, Nat.le_of_ble_eq_true rfl⟩ rfl rfl (Nat.le_of_ble_eq_true rfl) dX8_mend_41 ⟨Nat.zero_le _, Nat.zero_le _⟩ (fun r_21 h_22 => ?_)
    refine y_icmp_ge C (tgt := 81) dX8_mend_44 rfl (fun c_24 => ?_) (fun c_24 => ?_)
    · have h_25 := (h_22).1 c_24
      refine y_iload_n C dX8_mend_81 2 rfl rfl ?_
      exact y_iretM C M N rfl (S := S) rfl (h_25) dX8_mend_82
    · have h_26 := (h_22).2 c_24
      refine y_iload_n C dX8_mend_47 2 rfl rfl ?_
      refine y_aload_n C dX8_mend_48 0 rfl rfl ?_
      refine y_iload_n C dX8_mend_49 1 rfl rfl ?_
      refine y_iload_n C dX8_mend_50 3 rfl rfl ?_
      refine y_callRiV (As := [.int (x1), .int (x3)]) (rest := [.int (x2)]) C cs_X8_337 (met_m_mendedOf G A S (x1) (x3) _ (h_26)) (fun _ h => h) (wM_0 ..) rfl rfl ⟨rfl, rfl, Nat.le_of_ble_eq_true rfl, Nat.le_of_ble_eq_true rfl⟩ rfl rfl (Nat.le_of_ble_eq_true rfl) dX8_mend_51 ⟨Nat.zero_le _, Nat.zero_le _⟩ (fun r_27 h_28 => ?_)
      refine y_aload_n C dX8_mend_54 0 rfl rfl ?_
      refine yg_X8_37_wM0 C dX8_mend_55 ?_
      refine y_bipush C dX8_mend_58 bp_12 ?_
      refine y_iload_n C dX8_mend_60 1 rfl rfl ?_
      refine y_imul C dX8_mend_61 ?_
      refine y_iload_n C dX8_mend_62 3 rfl rfl ?_
      refine y_iadd C dX8_mend_63 ?_
      refine y_iald C (wM_8 ..) rfl (h_28).1 dX8_mend_64 ?_
      refine y_icmp_eq C (tgt := 72) dX8_mend_65 rfl (fun c_30 => ?_) (fun c_30 => ?_)
      · have h_31 := ((h_28).2).1 c_30
        refine y_iconst C dX8_mend_72 ic_0 ?_
        refine y_iadd C dX8_mend_73 ?_
        refine y_istore_n C dX8_mend_74 rfl (Nat.le_of_ble_eq_true rfl) [(2, .int ((x2 + 0))), (0, .ref (A 0)), (1, .int (x1)), (3, .int (x3))] rfl ?_
        refine y_iinc C dX8_mend_75 3 rfl (Nat.le_of_ble_eq_true rfl) (ii_1 _) [(3, .int ((x3 + 1))), (2, .int ((x2 + 0))), (0, .ref (A 0)), (1, .int (x1))] rfl ?_
        refine y_goto C (tgt := 38) dX8_mend_78 rfl ?_
        exact Y.sub (ih S ((x2 + 0)) ((x3 + 1)) (h_31)) [2, 3, 1, 0] rfl
      · have h_32 := ((h_28).2).2 c_30
        refine y_iconst C dX8_mend_68 ic_1 ?_
        refine y_goto C (tgt := 73) dX8_mend_69 rfl ?_
        refine y_iadd C dX8_mend_73 ?_
        refine y_istore_n C dX8_mend_74 rfl (Nat.le_of_ble_eq_true rfl) [(2, .int ((x2 + 1))), (0, .ref (A 0)), (1, .int (x1)), (3, .int (x3))] rfl ?_
        refine y_iinc C dX8_mend_75 3 rfl (Nat.le_of_ble_eq_true rfl) (ii_1 _) [(3, .int ((x3 + 1))), (2, .int ((x2 + 1))), (0, .ref (A 0)), (1, .int (x1))] rfl ?_
        refine y_goto C (tgt := 38) dX8_mend_78 rfl ?_
        exact Y.sub (ih S ((x2 + 1)) ((x3 + 1)) (h_32)) [2, 3, 1, 0] rfl
set_option maxRecDepth 100000 in
theorem met_m_mend (G : Gx) (A : Nat → Nat) (S : St) (x1 : Int32) (Q : Int32 → St → Prop) (h : wp_m_mend S x1 Q) : Mi G yX8_mend (ws_ yX8_mend cX8_mend 4 (some .int)) rm_m_mend (wM G A S) [.ref (A 0), .int (x1)] (wM G A) Q := by
  refine ent_Mi (by decide +kernel) rfl (Nat.le_of_ble_eq_true rfl) [(0, .ref (A 0)), (1, .int (x1))] rfl (fun K B C M N => ?_)
  refine y_aload_n C dX8_mend_0 0 rfl rfl ?_
  refine y_iconst C dX8_mend_1 ic_0 ?_
  refine yp_X8_80_wM0 C M dX8_mend_2 ?_
  refine y_aload_n C dX8_mend_5 0 rfl rfl ?_
  refine y_iload_n C dX8_mend_6 1 rfl rfl ?_
  refine y_callRiV (As := [.int (x1)]) (rest := []) C cs_X8_261 (met_m_isSide G A (sI S 0 0 0) (x1) _ (h)) (fun _ h => h) (wM_0 ..) rfl rfl ⟨rfl, rfl, Nat.le_of_ble_eq_true rfl, Nat.le_of_ble_eq_true rfl⟩ rfl rfl (Nat.le_of_ble_eq_true rfl) dX8_mend_7 ⟨Nat.zero_le _, Nat.zero_le _⟩ (fun r_1 h_2 => ?_)
  refine y_if_eq C (tgt := 20) dX8_mend_10 rfl (fun c_4 => ?_) (fun c_4 => ?_)
  · have h_5 := (h_2).1 c_4
    refine y_bipush C dX8_mend_20 bpm2 ?_
    exact y_iretM C M N rfl (S := (sI S 0 0 0)) rfl (h_5) dX8_mend_22
  · have h_6 := (h_2).2 c_4
    refine y_aload_n C dX8_mend_13 0 rfl rfl ?_
    refine y_callRiV (As := []) (rest := []) C cs_X8_322 (met_m_areRounds G A (sI S 0 0 0) _ (h_6)) (fun _ h => h) (wM_0 ..) rfl rfl ⟨rfl, rfl, Nat.le_of_ble_eq_true rfl, Nat.le_of_ble_eq_true rfl⟩ rfl rfl (Nat.le_of_ble_eq_true rfl) dX8_mend_14 ⟨Nat.zero_le _, Nat.zero_le _⟩ (fun r_7 h_8 => ?_)
    refine y_if_ne C (tgt := 23) dX8_mend_17 rfl (fun c_10 => ?_) (fun c_10 => ?_)
    · have h_11 := (h_8).1 c_10
      refine y_aload_n C dX8_mend_23 0 rfl rfl ?_
      refine y_iload_n C dX8_mend_24 1 rfl rfl ?_
      refine y_callRiV (As := [.int (x1)]) (rest := []) C cs_X8_340 (met_m_stuckOf G A (sI S 0 0 0) (x1) _ (h_11)) (fun _ h => h) (wM_0 ..) rfl rfl ⟨rfl, rfl, Nat.le_of_ble_eq_true rfl, Nat.le_of_ble_eq_true rfl⟩ rfl rfl (Nat.le_of_ble_eq_true rfl) dX8_mend_25 ⟨Nat.zero_le _, Nat.zero_le _⟩ (fun r_12 h_13 => ?_)
      refine y_iconst C dX8_mend_28 icm1 ?_
      refine y_icmp_eq C (tgt := 34) dX8_mend_29 rfl (fun c_15 => ?_) (fun c_15 => ?_)
      · have h_16 := (h_13).1 c_15
        refine y_iconst C dX8_mend_34 ic_0 ?_
        refine y_istore_n C dX8_mend_35 rfl (Nat.le_of_ble_eq_true rfl) [(2, .int (0)), (0, .ref (A 0)), (1, .int (x1))] rfl ?_
        refine y_iconst C dX8_mend_36 ic_0 ?_
        refine y_istore_n C dX8_mend_37 rfl (Nat.le_of_ble_eq_true rfl) [(3, .int (0)), (2, .int (0)), (0, .ref (A 0)), (1, .int (x1))] rfl ?_
        obtain ⟨n_17, h_18⟩ := h_16
        exact Y.sub (wk_m_mend_b38 C M N (x1) n_17 (sI S 0 0 0) (0) (0) h_18) [2, 3, 1, 0] rfl
      · have h_19 := (h_13).2 c_15
        refine y_iconst C dX8_mend_32 icm1 ?_
        exact y_iretM C M N rfl (S := (sI S 0 0 0)) rfl (h_19) dX8_mend_33
    · have h_20 := (h_8).2 c_10
      refine y_bipush C dX8_mend_20 bpm2 ?_
      exact y_iretM C M N rfl (S := (sI S 0 0 0)) rfl (h_20) dX8_mend_22
/-! OverHillModel mended(II)I: m_mended -/
abbrev rm_m_mended : Room := { frames := 106, cells := 0, slots := 0, locals := 3356 }
def wp_m_mended (S : St) (x1 : Int32) (x2 : Int32) (Q : Int32 → St → Prop) : Prop :=
  wp_m_isSide (sI S 0 0 0) (x1) (fun r_1 => ((r_1 = 0 → Q (-2) (sI S 0 0 0)) ∧ (¬ r_1 = 0 → wp_m_areRounds (sI S 0 0 0) (fun r_7 => ((r_7 = 0 → Q (-2) (sI S 0 0 0)) ∧ (¬ r_7 = 0 → wp_m_lengthOf (sI S 0 0 0) (x1) (fun r_13 => wp_m_in ((x2).toInt64) (0) (((r_13 - 1)).toInt64) (fun r_16 => ((¬ r_16 = 0 → wp_m_stuckOf (sI S 0 0 0) (x1) (fun r_21 => ((r_21 = (-1) → wp_m_mendedOf (sI S 0 0 0) (x1) (x2) (fun r_26 => Q r_26 (sI S 0 0 0))) ∧ (¬ r_21 = (-1) → Q (-1) (sI S 0 0 0))))) ∧ (r_16 = 0 → Q (-2) (sI S 0 0 0)))))))))))
set_option maxRecDepth 100000 in
theorem met_m_mended (G : Gx) (A : Nat → Nat) (S : St) (x1 : Int32) (x2 : Int32) (Q : Int32 → St → Prop) (h : wp_m_mended S x1 x2 Q) : Mi G yX8_mended (ws_ yX8_mended cX8_mended 3 (some .int)) rm_m_mended (wM G A S) [.ref (A 0), .int (x1), .int (x2)] (wM G A) Q := by
  refine ent_Mi (by decide +kernel) rfl (Nat.le_of_ble_eq_true rfl) [(0, .ref (A 0)), (1, .int (x1)), (2, .int (x2))] rfl (fun K B C M N => ?_)
  refine y_aload_n C dX8_mended_0 0 rfl rfl ?_
  refine y_iconst C dX8_mended_1 ic_0 ?_
  refine yp_X8_80_wM0 C M dX8_mended_2 ?_
  refine y_aload_n C dX8_mended_5 0 rfl rfl ?_
  refine y_iload_n C dX8_mended_6 1 rfl rfl ?_
  refine y_callRiV (As := [.int (x1)]) (rest := []) C cs_X8_261 (met_m_isSide G A (sI S 0 0 0) (x1) _ (h)) (fun _ h => h) (wM_0 ..) rfl rfl ⟨rfl, rfl, Nat.le_of_ble_eq_true rfl, Nat.le_of_ble_eq_true rfl⟩ rfl rfl (Nat.le_of_ble_eq_true rfl) dX8_mended_7 ⟨Nat.zero_le _, Nat.zero_le _⟩ (fun r_1 h_2 => ?_)
  refine y_if_eq C (tgt := 37) dX8_mended_10 rfl (fun c_4 => ?_) (fun c_4 => ?_)
  · have h_5 := (h_2).1 c_4
    refine y_bipush C dX8_mended_37 bpm2 ?_
    exact y_iretM C M N rfl (S := (sI S 0 0 0)) rfl (h_5) dX8_mended_39
  · have h_6 := (h_2).2 c_4
    refine y_aload_n C dX8_mended_13 0 rfl rfl ?_
    refine y_callRiV (As := []) (rest := []) C cs_X8_322 (met_m_areRounds G A (sI S 0 0 0) _ (h_6)) (fun _ h => h) (wM_0 ..) rfl rfl ⟨rfl, rfl, Nat.le_of_ble_eq_true rfl, Nat.le_of_ble_eq_true rfl⟩ rfl rfl (Nat.le_of_ble_eq_true rfl) dX8_mended_14 ⟨Nat.zero_le _, Nat.zero_le _⟩ (fun r_7 h_8 => ?_)
    refine y_if_eq C (tgt := 37) dX8_mended_17 rfl (fun c_10 => ?_) (fun c_10 => ?_)
    · have h_11 := (h_8).1 c_10
      refine y_bipush C dX8_mended_37 bpm2 ?_
      exact y_iretM C M N rfl (S := (sI S 0 0 0)) rfl (h_11) dX8_mended_39
    · have h_12 := (h_8).2 c_10
      refine y_iload_n C dX8_mended_20 2 rfl rfl ?_
      refine y_i2l C dX8_mended_21 rfl ?_
      refine y_lconst C dX8_mended_22 lc_0 ?_
      refine y_aload_n C dX8_mended_23 0 rfl rfl ?_
      refine y_iload_n C dX8_mended_24 1 rfl rfl ?_
      refine y_callRiV (As := [.int (x1)]) (rest := [.long (0), .long ((x2).toInt64)]) C cs_X8_264 (met_m_lengthOf G A (sI S 0 0 0) (x1) _ (h_12)) (fun _ h => h) (wM_0 ..) rfl rfl ⟨rfl, rfl, Nat.le_of_ble_eq_true rfl, Nat.le_of_ble_eq_true rfl⟩ rfl rfl (Nat.le_of_ble_eq_true rfl) dX8_mended_25 ⟨Nat.zero_le _, Nat.zero_le _⟩ (fun r_13 h_14 => ?_)
      refine y_iconst C dX8_mended_28 ic_1 ?_
      refine y_isub C dX8_mended_29 ?_
      refine y_i2l C dX8_mended_30 rfl ?_
      refine y_callRiS (As := [.long ((x2).toInt64), .long (0), .long (((r_13 - 1)).toInt64)]) (rest := []) C cs_X8_85 (met_m_in G ((x2).toInt64) (0) (((r_13 - 1)).toInt64) _ (h_14)) (fun _ _ => pw_nil) ⟨rfl, rfl, Nat.le_of_ble_eq_true rfl, Nat.le_of_ble_eq_true rfl⟩ rfl rfl (Nat.le_of_ble_eq_true rfl) dX8_mended_31 ⟨Nat.zero_le _, Nat.zero_le _⟩ (fun r_16 h_17 => ?_)
      refine y_if_ne C (tgt := 40) dX8_mended_34 rfl (fun c_19 => ?_) (fun c_19 => ?_)
      · have h_20 := (h_17).1 c_19
        refine y_aload_n C dX8_mended_40 0 rfl rfl ?_
        refine y_iload_n C dX8_mended_41 1 rfl rfl ?_
        refine y_callRiV (As := [.int (x1)]) (rest := []) C cs_X8_340 (met_m_stuckOf G A (sI S 0 0 0) (x1) _ (h_20)) (fun _ h => h) (wM_0 ..) rfl rfl ⟨rfl, rfl, Nat.le_of_ble_eq_true rfl, Nat.le_of_ble_eq_true rfl⟩ rfl rfl (Nat.le_of_ble_eq_true rfl) dX8_mended_42 ⟨Nat.zero_le _, Nat.zero_le _⟩ (fun r_21 h_22 => ?_)
        refine y_iconst C dX8_mended_45 icm1 ?_
        refine y_icmp_eq C (tgt := 53) dX8_mended_46 rfl (fun c_24 => ?_) (fun c_24 => ?_)
        · have h_25 := (h_22).1 c_24
          refine y_aload_n C dX8_mended_53 0 rfl rfl ?_
          refine y_iload_n C dX8_mended_54 1 rfl rfl ?_
          refine y_iload_n C dX8_mended_55 2 rfl rfl ?_
          refine y_callRiV (As := [.int (x1), .int (x2)]) (rest := []) C cs_X8_337 (met_m_mendedOf G A (sI S 0 0 0) (x1) (x2) _ (h_25)) (fun _ h => h) (wM_0 ..) rfl rfl ⟨rfl, rfl, Nat.le_of_ble_eq_true rfl, Nat.le_of_ble_eq_true rfl⟩ rfl rfl (Nat.le_of_ble_eq_true rfl) dX8_mended_56 ⟨Nat.zero_le _, Nat.zero_le _⟩ (fun r_26 h_27 => ?_)
          exact y_iretM C M N rfl (S := (sI S 0 0 0)) rfl (h_27) dX8_mended_59
        · have h_29 := (h_22).2 c_24
          refine y_iconst C dX8_mended_49 icm1 ?_
          refine y_goto C (tgt := 59) dX8_mended_50 rfl ?_
          exact y_iretM C M N rfl (S := (sI S 0 0 0)) rfl (h_29) dX8_mended_59
      · have h_30 := (h_17).2 c_19
        refine y_bipush C dX8_mended_37 bpm2 ?_
        exact y_iretM C M N rfl (S := (sI S 0 0 0)) rfl (h_30) dX8_mended_39
/-! OverHillModel stuck(I)I: m_stuck -/
abbrev rm_m_stuck : Room := { frames := 106, cells := 0, slots := 0, locals := 3356 }
def wp_m_stuck (S : St) (x1 : Int32) (Q : Int32 → St → Prop) : Prop :=
  wp_m_isSide (sI S 0 0 0) (x1) (fun r_1 => ((r_1 = 0 → Q (-2) (sI S 0 0 0)) ∧ (¬ r_1 = 0 → wp_m_areRounds (sI S 0 0 0) (fun r_7 => ((r_7 = 0 → Q (-2) (sI S 0 0 0)) ∧ (¬ r_7 = 0 → wp_m_stuckOf (sI S 0 0 0) (x1) (fun r_13 => Q r_13 (sI S 0 0 0))))))))
set_option maxRecDepth 100000 in
theorem met_m_stuck (G : Gx) (A : Nat → Nat) (S : St) (x1 : Int32) (Q : Int32 → St → Prop) (h : wp_m_stuck S x1 Q) : Mi G yX8_stuck (ws_ yX8_stuck cX8_stuck 2 (some .int)) rm_m_stuck (wM G A S) [.ref (A 0), .int (x1)] (wM G A) Q := by
  refine ent_Mi (by decide +kernel) rfl (Nat.le_of_ble_eq_true rfl) [(0, .ref (A 0)), (1, .int (x1))] rfl (fun K B C M N => ?_)
  refine y_aload_n C dX8_stuck_0 0 rfl rfl ?_
  refine y_iconst C dX8_stuck_1 ic_0 ?_
  refine yp_X8_80_wM0 C M dX8_stuck_2 ?_
  refine y_aload_n C dX8_stuck_5 0 rfl rfl ?_
  refine y_iload_n C dX8_stuck_6 1 rfl rfl ?_
  refine y_callRiV (As := [.int (x1)]) (rest := []) C cs_X8_261 (met_m_isSide G A (sI S 0 0 0) (x1) _ (h)) (fun _ h => h) (wM_0 ..) rfl rfl ⟨rfl, rfl, Nat.le_of_ble_eq_true rfl, Nat.le_of_ble_eq_true rfl⟩ rfl rfl (Nat.le_of_ble_eq_true rfl) dX8_stuck_7 ⟨Nat.zero_le _, Nat.zero_le _⟩ (fun r_1 h_2 => ?_)
  refine y_if_eq C (tgt := 28) dX8_stuck_10 rfl (fun c_4 => ?_) (fun c_4 => ?_)
  · have h_5 := (h_2).1 c_4
    refine y_bipush C dX8_stuck_28 bpm2 ?_
    exact y_iretM C M N rfl (S := (sI S 0 0 0)) rfl (h_5) dX8_stuck_30
  · have h_6 := (h_2).2 c_4
    refine y_aload_n C dX8_stuck_13 0 rfl rfl ?_
    refine y_callRiV (As := []) (rest := []) C cs_X8_322 (met_m_areRounds G A (sI S 0 0 0) _ (h_6)) (fun _ h => h) (wM_0 ..) rfl rfl ⟨rfl, rfl, Nat.le_of_ble_eq_true rfl, Nat.le_of_ble_eq_true rfl⟩ rfl rfl (Nat.le_of_ble_eq_true rfl) dX8_stuck_14 ⟨Nat.zero_le _, Nat.zero_le _⟩ (fun r_7 h_8 => ?_)
    refine y_if_eq C (tgt := 28) dX8_stuck_17 rfl (fun c_10 => ?_) (fun c_10 => ?_)
    · have h_11 := (h_8).1 c_10
      refine y_bipush C dX8_stuck_28 bpm2 ?_
      exact y_iretM C M N rfl (S := (sI S 0 0 0)) rfl (h_11) dX8_stuck_30
    · have h_12 := (h_8).2 c_10
      refine y_aload_n C dX8_stuck_20 0 rfl rfl ?_
      refine y_iload_n C dX8_stuck_21 1 rfl rfl ?_
      refine y_callRiV (As := [.int (x1)]) (rest := []) C cs_X8_340 (met_m_stuckOf G A (sI S 0 0 0) (x1) _ (h_12)) (fun _ h => h) (wM_0 ..) rfl rfl ⟨rfl, rfl, Nat.le_of_ble_eq_true rfl, Nat.le_of_ble_eq_true rfl⟩ rfl rfl (Nat.le_of_ble_eq_true rfl) dX8_stuck_22 ⟨Nat.zero_le _, Nat.zero_le _⟩ (fun r_13 h_14 => ?_)
      refine y_goto C (tgt := 30) dX8_stuck_25 rfl ?_
      exact y_iretM C M N rfl (S := (sI S 0 0 0)) rfl (h_14) dX8_stuck_30
/-! OverHillModel whyNot(II)I: m_whyNot -/
abbrev rm_m_whyNot : Room := { frames := 3, cells := 0, slots := 0, locals := 86 }
def wp_m_whyNot_b47 (S : St) (Q : Int32 → Prop) (x1 : Int32) : Nat → Int32 → Prop
  | 0 => fun _ => False
  | n + 1 => fun x3 => (vp_in x1 4 ∧ (((S.1 2 (x1).toNatClampNeg) ≤ x3 → Q 0) ∧ (¬ (S.1 2 (x1).toNatClampNeg) ≤ x3 → (vp_in ((60 * x1) + x3) 240 ∧ wp_m_isBeat ((S.2 3 (((60 * x1) + x3)).toNatClampNeg)) (fun r_24 => ((r_24 = 0 → Q (-2)) ∧ (¬ r_24 = 0 → (vp_in (((60 * x1) + x3) + 1) 240 ∧ wp_m_in ((S.2 3 ((((60 * x1) + x3) + 1)).toNatClampNeg)) ((-1)) (5) (fun r_30 => ((¬ r_30 = 0 → wp_m_whyNot_b47 S Q x1 n ((x3 + 2))) ∧ (r_30 = 0 → Q (-2))))))))))))
def wp_m_whyNot (S : St) (x1 : Int32) (x2 : Int32) (Q : Int32 → Prop) : Prop :=
  wp_m_isSlot (x1) (fun r_1 => ((r_1 = 0 → Q (-2)) ∧ (¬ r_1 = 0 → wp_m_isSide S (x2) (fun r_7 => ((¬ r_7 = 0 → (vp_in x1 4 ∧ ((¬ (S.1 1 (x1).toNatClampNeg) = (-1) → (vp_in x1 4 ∧ (((irm (S.1 2 (x1).toNatClampNeg) 2) = 0 → (∃ z, wp_m_whyNot_b47 S Q (x1) z (0))) ∧ (¬ (irm (S.1 2 (x1).toNatClampNeg) 2) = 0 → Q (-2))))) ∧ ((S.1 1 (x1).toNatClampNeg) = (-1) → Q (-6))))) ∧ (r_7 = 0 → Q (-2)))))))
set_option maxRecDepth 100000 in
theorem wk_m_whyNot_b47 {G : Gx} {K : Kx} {A : Nat → Nat} (C : KOk G K RX8 cX8_whyNot rm_m_whyNot 4 (some .int)) {S : St} {Q : Int32 → Prop} (N : KRi K Q) (x1 : Int32) : ∀ (n : Nat), ∀ (x3 : Int32), wp_m_whyNot_b47 S Q x1 n x3 → Y G K 0 0 (wM G A S) 47 [(0, .ref (A 0)), (1, .int (x1)), (3, .int (x3))] [] := by
  intro n
  induction n with
  | zero => intro x3 h; exact h.elim
  | succ n ih =>
    intro x3 h
    dsimp only [wp_m_whyNot_b47] at h
    refine y_iload_n C dX8_whyNot_47 2 rfl rfl ?_
    refine y_aload_n C dX8_whyNot_48 0 rfl rfl ?_
    refine yg_X8_13_wM0 C dX8_whyNot_49 ?_
    refine y_iload_n C dX8_whyNot_52 1 rfl rfl ?_
    refine y_iald C (wM_2 ..) rfl (h).1 dX8_whyNot_53 ?_
    refine y_icmp_ge C (tgt := 108) dX8_whyNot_54 rfl (fun c_21 => ?_) (fun c_21 => ?_)
    · have h_22 := ((h).2).1 c_21
      refine y_iconst C dX8_whyNot_108 ic_0 ?_
      exact y_iretR C N rfl (h_22) dX8_whyNot_109
    · have h_23 := ((h).2).2 c_21
      refine y_aload_n C dX8_whyNot_57 0 rfl rfl ?_
      refine yg_X8_16_wM0 C dX8_whyNot_58 ?_
      refine y_bipush C dX8_whyNot_61 bp_60 ?_
      refine y_iload_n C dX8_whyNot_63 1 rfl rfl ?_
      refine y_imul C dX8_whyNot_64 ?_
      refine y_iload_n C dX8_whyNot_65 2 rfl rfl ?_
      refine y_iadd C dX8_whyNot_66 ?_
      refine y_lald C (wM_3 ..) rfl (h_23).1 dX8_whyNot_67 ?_
      refine y_callRiS (As := [.long ((S.2 3 (((60 * x1) + x3)).toNatClampNeg))]) (rest := []) C cs_X8_270 (met_m_isBeat G ((S.2 3 (((60 * x1) + x3)).toNatClampNeg)) _ ((h_23).2)) (fun _ _ => pw_nil) ⟨rfl, rfl, Nat.le_of_ble_eq_true rfl, Nat.le_of_ble_eq_true rfl⟩ rfl rfl (Nat.le_of_ble_eq_true rfl) dX8_whyNot_68 ⟨Nat.zero_le _, Nat.zero_le _⟩ (fun r_24 h_25 => ?_)
      refine y_if_eq C (tgt := 99) dX8_whyNot_71 rfl (fun c_27 => ?_) (fun c_27 => ?_)
      · have h_28 := (h_25).1 c_27
        refine y_bipush C dX8_whyNot_99 bpm2 ?_
        exact y_iretR C N rfl (h_28) dX8_whyNot_101
      · have h_29 := (h_25).2 c_27
        refine y_aload_n C dX8_whyNot_74 0 rfl rfl ?_
        refine yg_X8_16_wM0 C dX8_whyNot_75 ?_
        refine y_bipush C dX8_whyNot_78 bp_60 ?_
        refine y_iload_n C dX8_whyNot_80 1 rfl rfl ?_
        refine y_imul C dX8_whyNot_81 ?_
        refine y_iload_n C dX8_whyNot_82 2 rfl rfl ?_
        refine y_iadd C dX8_whyNot_83 ?_
        refine y_iconst C dX8_whyNot_84 ic_1 ?_
        refine y_iadd C dX8_whyNot_85 ?_
        refine y_lald C (wM_3 ..) rfl (h_29).1 dX8_whyNot_86 ?_
        refine y_ldc2 C dX8_whyNot_87 q1764 ?_
        refine y_ldc2 C dX8_whyNot_90 q1887 ?_
        refine y_callRiS (As := [.long ((S.2 3 ((((60 * x1) + x3) + 1)).toNatClampNeg)), .long ((-1)), .long (5)]) (rest := []) C cs_X8_85 (met_m_in G ((S.2 3 ((((60 * x1) + x3) + 1)).toNatClampNeg)) ((-1)) (5) _ ((h_29).2)) (fun _ _ => pw_nil) ⟨rfl, rfl, Nat.le_of_ble_eq_true rfl, Nat.le_of_ble_eq_true rfl⟩ rfl rfl (Nat.le_of_ble_eq_true rfl) dX8_whyNot_93 ⟨Nat.zero_le _, Nat.zero_le _⟩ (fun r_30 h_31 => ?_)
        refine y_if_ne C (tgt := 102) dX8_whyNot_96 rfl (fun c_33 => ?_) (fun c_33 => ?_)
        · have h_34 := (h_31).1 c_33
          refine y_iinc C dX8_whyNot_102 2 rfl (Nat.le_of_ble_eq_true rfl) (ii_2 _) [(3, .int ((x3 + 2))), (0, .ref (A 0)), (1, .int (x1))] rfl ?_
          refine y_goto C (tgt := 47) dX8_whyNot_105 rfl ?_
          exact Y.sub (ih ((x3 + 2)) (h_34)) [1, 2, 0] rfl
        · have h_35 := (h_31).2 c_33
          refine y_bipush C dX8_whyNot_99 bpm2 ?_
          exact y_iretR C N rfl (h_35) dX8_whyNot_101
set_option maxRecDepth 100000 in
theorem met_m_whyNot (G : Gx) (A : Nat → Nat) (S : St) (x1 : Int32) (x2 : Int32) (Q : Int32 → Prop) (h : wp_m_whyNot S x1 x2 Q) : Ri G yX8_whyNot (ws_ yX8_whyNot cX8_whyNot 4 (some .int)) rm_m_whyNot (wM G A S) [.ref (A 0), .int (x1), .int (x2)] Q := by
  refine ent_Ri (by decide +kernel) rfl (Nat.le_of_ble_eq_true rfl) [(0, .ref (A 0)), (1, .int (x1)), (2, .int (x2))] rfl (fun K C N => ?_)
  refine y_iload_n C dX8_whyNot_0 1 rfl rfl ?_
  refine y_callRiS (As := [.int (x1)]) (rest := []) C cs_X8_89 (met_m_isSlot G (x1) _ (h)) (fun _ _ => pw_nil) ⟨rfl, rfl, Nat.le_of_ble_eq_true rfl, Nat.le_of_ble_eq_true rfl⟩ rfl rfl (Nat.le_of_ble_eq_true rfl) dX8_whyNot_1 ⟨Nat.zero_le _, Nat.zero_le _⟩ (fun r_1 h_2 => ?_)
  refine y_if_eq C (tgt := 15) dX8_whyNot_4 rfl (fun c_4 => ?_) (fun c_4 => ?_)
  · have h_5 := (h_2).1 c_4
    refine y_bipush C dX8_whyNot_15 bpm2 ?_
    exact y_iretR C N rfl (h_5) dX8_whyNot_17
  · have h_6 := (h_2).2 c_4
    refine y_aload_n C dX8_whyNot_7 0 rfl rfl ?_
    refine y_iload_n C dX8_whyNot_8 2 rfl rfl ?_
    refine y_callRiV (As := [.int (x2)]) (rest := []) C cs_X8_261 (met_m_isSide G A S (x2) _ (h_6)) (fun _ h => h) (wM_0 ..) rfl rfl ⟨rfl, rfl, Nat.le_of_ble_eq_true rfl, Nat.le_of_ble_eq_true rfl⟩ rfl rfl (Nat.le_of_ble_eq_true rfl) dX8_whyNot_9 ⟨Nat.zero_le _, Nat.zero_le _⟩ (fun r_7 h_8 => ?_)
    refine y_if_ne C (tgt := 18) dX8_whyNot_12 rfl (fun c_10 => ?_) (fun c_10 => ?_)
    · have h_11 := (h_8).1 c_10
      refine y_aload_n C dX8_whyNot_18 0 rfl rfl ?_
      refine yg_X8_7_wM0 C dX8_whyNot_19 ?_
      refine y_iload_n C dX8_whyNot_22 1 rfl rfl ?_
      refine y_iald C (wM_1 ..) rfl (h_11).1 dX8_whyNot_23 ?_
      refine y_iconst C dX8_whyNot_24 icm1 ?_
      refine y_icmp_ne C (tgt := 31) dX8_whyNot_25 rfl (fun c_12 => ?_) (fun c_12 => ?_)
      · have h_13 := ((h_11).2).1 c_12
        refine y_aload_n C dX8_whyNot_31 0 rfl rfl ?_
        refine yg_X8_13_wM0 C dX8_whyNot_32 ?_
        refine y_iload_n C dX8_whyNot_35 1 rfl rfl ?_
        refine y_iald C (wM_2 ..) rfl (h_13).1 dX8_whyNot_36 ?_
        refine y_iconst C dX8_whyNot_37 ic_2 ?_
        refine y_irem C dX8_whyNot_38 nz_I_2 ?_
        refine y_if_eq C (tgt := 45) dX8_whyNot_39 rfl (fun c_14 => ?_) (fun c_14 => ?_)
        · have h_15 := ((h_13).2).1 c_14
          refine y_iconst C dX8_whyNot_45 ic_0 ?_
          refine y_istore_n C dX8_whyNot_46 rfl (Nat.le_of_ble_eq_true rfl) [(3, .int (0)), (0, .ref (A 0)), (1, .int (x1)), (2, .int (x2))] rfl ?_
          obtain ⟨n_16, h_17⟩ := h_15
          exact Y.sub (wk_m_whyNot_b47 C N (x1) n_16 (0) h_17) [1, 2, 0] rfl
        · have h_18 := ((h_13).2).2 c_14
          refine y_bipush C dX8_whyNot_42 bpm2 ?_
          exact y_iretR C N rfl (h_18) dX8_whyNot_44
      · have h_19 := ((h_11).2).2 c_12
        refine y_bipush C dX8_whyNot_28 bpm6 ?_
        exact y_iretR C N rfl (h_19) dX8_whyNot_30
    · have h_20 := (h_8).2 c_10
      refine y_bipush C dX8_whyNot_15 bpm2 ?_
      exact y_iretR C N rfl (h_20) dX8_whyNot_17
/-! OverHillModel isHeard(II)Z: m_isHeard -/
abbrev rm_m_isHeard : Room := { frames := 2, cells := 0, slots := 0, locals := 62 }
def wp_m_isHeard_b2 (S : St) (Q : Int32 → Prop) (x1 : Int32) (x2 : Int32) : Nat → Int32 → Prop
  | 0 => fun _ => False
  | n + 1 => fun x3 => (vp_in x1 4 ∧ (((S.1 2 (x1).toNatClampNeg) ≤ x3 → Q 1) ∧ (¬ (S.1 2 (x1).toNatClampNeg) ≤ x3 → (vp_in ((60 * x1) + x3) 240 ∧ wp_m_hearsAt S (x2) (((S.2 3 (((60 * x1) + x3)).toNatClampNeg)).toInt32) (fun r_6 => (vp_in (((60 * x1) + x3) + 1) 240 ∧ (((lg_cmp (r_6).toInt64 (S.2 3 ((((60 * x1) + x3) + 1)).toNatClampNeg)) = 0 → wp_m_isHeard_b2 S Q x1 x2 n ((x3 + 2))) ∧ (¬ (lg_cmp (r_6).toInt64 (S.2 3 ((((60 * x1) + x3) + 1)).toNatClampNeg)) = 0 → Q 0))))))))
def wp_m_isHeard (S : St) (x1 : Int32) (x2 : Int32) (Q : Int32 → Prop) : Prop :=
  (∃ z, wp_m_isHeard_b2 S Q (x1) (x2) z (0))
set_option maxRecDepth 100000 in
theorem wk_m_isHeard_b2 {G : Gx} {K : Kx} {A : Nat → Nat} (C : KOk G K RX8 cX8_isHeard rm_m_isHeard 4 (some .boolean)) {S : St} {Q : Int32 → Prop} (N : KRi K Q) (x1 : Int32) (x2 : Int32) : ∀ (n : Nat), ∀ (x3 : Int32), wp_m_isHeard_b2 S Q x1 x2 n x3 → Y G K 0 0 (wM G A S) 2 [(0, .ref (A 0)), (1, .int (x1)), (2, .int (x2)), (3, .int (x3))] [] := by
  intro n
  induction n with
  | zero => intro x3 h; exact h.elim
  | succ n ih =>
    intro x3 h
    dsimp only [wp_m_isHeard_b2] at h
    refine y_iload_n C dX8_isHeard_2 3 rfl rfl ?_
    refine y_aload_n C dX8_isHeard_3 0 rfl rfl ?_
    refine yg_X8_13_wM0 C dX8_isHeard_4 ?_
    refine y_iload_n C dX8_isHeard_7 1 rfl rfl ?_
    refine y_iald C (wM_2 ..) rfl (h).1 dX8_isHeard_8 ?_
    refine y_icmp_ge C (tgt := 55) dX8_isHeard_9 rfl (fun c_3 => ?_) (fun c_3 => ?_)
    · have h_4 := ((h).2).1 c_3
      refine y_iconst C dX8_isHeard_55 ic_1 ?_
      exact y_zretR C N rfl rfl (h_4) dX8_isHeard_56
    · have h_5 := ((h).2).2 c_3
      refine y_aload_n C dX8_isHeard_12 0 rfl rfl ?_
      refine y_iload_n C dX8_isHeard_13 2 rfl rfl ?_
      refine y_aload_n C dX8_isHeard_14 0 rfl rfl ?_
      refine yg_X8_16_wM0 C dX8_isHeard_15 ?_
      refine y_bipush C dX8_isHeard_18 bp_60 ?_
      refine y_iload_n C dX8_isHeard_20 1 rfl rfl ?_
      refine y_imul C dX8_isHeard_21 ?_
      refine y_iload_n C dX8_isHeard_22 3 rfl rfl ?_
      refine y_iadd C dX8_isHeard_23 ?_
      refine y_lald C (wM_3 ..) rfl (h_5).1 dX8_isHeard_24 ?_
      refine y_l2i C dX8_isHeard_25 ?_
      refine y_callRiV (As := [.int (x2), .int (((S.2 3 (((60 * x1) + x3)).toNatClampNeg)).toInt32)]) (rest := []) C cs_X8_284 (met_m_hearsAt G A S (x2) (((S.2 3 (((60 * x1) + x3)).toNatClampNeg)).toInt32) _ ((h_5).2)) (fun _ h => h) (wM_0 ..) rfl rfl ⟨rfl, rfl, Nat.le_of_ble_eq_true rfl, Nat.le_of_ble_eq_true rfl⟩ rfl rfl (Nat.le_of_ble_eq_true rfl) dX8_isHeard_26 ⟨Nat.zero_le _, Nat.zero_le _⟩ (fun r_6 h_7 => ?_)
      refine y_i2l C dX8_isHeard_29 rfl ?_
      refine y_aload_n C dX8_isHeard_30 0 rfl rfl ?_
      refine yg_X8_16_wM0 C dX8_isHeard_31 ?_
      refine y_bipush C dX8_isHeard_34 bp_60 ?_
      refine y_iload_n C dX8_isHeard_36 1 rfl rfl ?_
      refine y_imul C dX8_isHeard_37 ?_
      refine y_iload_n C dX8_isHeard_38 3 rfl rfl ?_
      refine y_iadd C dX8_isHeard_39 ?_
      refine y_iconst C dX8_isHeard_40 ic_1 ?_
      refine y_iadd C dX8_isHeard_41 ?_
      refine y_lald C (wM_3 ..) rfl (h_7).1 dX8_isHeard_42 ?_
      refine y_lcmp C dX8_isHeard_43 ?_
      refine y_if_eq C (tgt := 49) dX8_isHeard_44 rfl (fun c_9 => ?_) (fun c_9 => ?_)
      · have h_10 := ((h_7).2).1 c_9
        refine y_iinc C dX8_isHeard_49 3 rfl (Nat.le_of_ble_eq_true rfl) (ii_2 _) [(3, .int ((x3 + 2))), (0, .ref (A 0)), (1, .int (x1)), (2, .int (x2))] rfl ?_
        refine y_goto C (tgt := 2) dX8_isHeard_52 rfl ?_
        exact Y.sub (ih ((x3 + 2)) (h_10)) [1, 2, 3, 0] rfl
      · have h_11 := ((h_7).2).2 c_9
        refine y_iconst C dX8_isHeard_47 ic_0 ?_
        exact y_zretR C N rfl rfl (h_11) dX8_isHeard_48
set_option maxRecDepth 100000 in
theorem met_m_isHeard (G : Gx) (A : Nat → Nat) (S : St) (x1 : Int32) (x2 : Int32) (Q : Int32 → Prop) (h : wp_m_isHeard S x1 x2 Q) : Ri G yX8_isHeard (ws_ yX8_isHeard cX8_isHeard 4 (some .boolean)) rm_m_isHeard (wM G A S) [.ref (A 0), .int (x1), .int (x2)] Q := by
  refine ent_Ri (by decide +kernel) rfl (Nat.le_of_ble_eq_true rfl) [(0, .ref (A 0)), (1, .int (x1)), (2, .int (x2))] rfl (fun K C N => ?_)
  refine y_iconst C dX8_isHeard_0 ic_0 ?_
  refine y_istore_n C dX8_isHeard_1 rfl (Nat.le_of_ble_eq_true rfl) [(3, .int (0)), (0, .ref (A 0)), (1, .int (x1)), (2, .int (x2))] rfl ?_
  obtain ⟨n_1, h_2⟩ := h
  exact Y.sub (wk_m_isHeard_b2 C N (x1) (x2) n_1 (0) h_2) [1, 2, 3, 0] rfl
/-! OverHillModel laysFits(II)V: m_laysFits -/
abbrev rm_m_laysFits : Room := { frames := 3, cells := 0, slots := 0, locals := 93 }
def wp_m_laysFits_b159 (Q : St → Prop) (x1 : Int32) (x2 : Int32) (K39 : St → Int32 → Prop) : Nat → St → Int32 → Int32 → Prop
  | 0 => fun _ _ _ => False
  | n + 1 => fun S x3 x5 => ((80 ≤ x5 → K39 S ((x3 + 1))) ∧ (¬ 80 ≤ x5 → wp_m_hearsAt S (x2) (x5) (fun r_42 => (vp_in (((7 * x5) + r_42) + 1) 560 ∧ (vp_in (((7 * x5) + r_42) + 1) 560 ∧ wp_m_laysFits_b159 Q x1 x2 K39 n (sI S 19 ((((7 * x5) + r_42) + 1)).toNatClampNeg ((S.1 19 ((((7 * x5) + r_42) + 1)).toNatClampNeg) + 1)) (x3) ((x5 + 1)))))))
def wp_m_laysFits_b139 (Q : St → Prop) (x1 : Int32) (x2 : Int32) (K39 : St → Int32 → Prop) (S : St) (x3 : Int32) (x4 : Int32) : Prop :=
  ((x3 ≤ 0 → (∃ z, wp_m_laysFits_b159 Q (x1) (x2) K39 z S (x3) (0))) ∧ (¬ x3 ≤ 0 → (∃ z, wp_m_laysFits_b159 Q (x1) (x2) K39 z (sL S 0 34 ((S.2 0 34) ||| (1 <<< ((x4).toInt64 &&& 63)))) (x3) (0))))
def wp_m_laysFits_b101 (Q : St → Prop) (x1 : Int32) (x2 : Int32) (K39 : St → Int32 → Prop) (S : St) (x3 : Int32) (x4 : Int32) (s0 : Int32) (s1 : Int32) (s2 : Int32) (s3 : Int32) (s4 : Int32) : Prop :=
  wp_m_dances S (s4) (s3) (s2) (s1) (s0) (fun S_22 => wp_m_isHeard S_22 (x1) (x2) (fun r_23 => ((¬ r_23 = 0 → ((¬ ((sI S_22 0 32 ((S_22.1 0 32) + 1)).1 0 33) = (-1) → wp_m_laysFits_b139 Q (x1) (x2) K39 (sI S_22 0 32 ((S_22.1 0 32) + 1)) (x3) (x4)) ∧ (((sI S_22 0 32 ((S_22.1 0 32) + 1)).1 0 33) = (-1) → wp_m_laysFits_b139 Q (x1) (x2) K39 (sI (sI S_22 0 32 ((S_22.1 0 32) + 1)) 0 33 x3) (x3) (x4)))) ∧ (r_23 = 0 → K39 S_22 ((x3 + 1))))))
def wp_m_laysFits_b87 (Q : St → Prop) (x1 : Int32) (x2 : Int32) (K39 : St → Int32 → Prop) (S : St) (x3 : Int32) (x4 : Int32) (s0 : Int32) (s1 : Int32) (s2 : Int32) (s3 : Int32) : Prop :=
  ((¬ x3 = 0 → wp_m_laysFits_b101 Q (x1) (x2) K39 S (x3) (x4) ((irm (x3 - 1) 10)) (s0) (s1) (s2) (s3)) ∧ (x3 = 0 → wp_m_laysFits_b101 Q (x1) (x2) K39 S (x3) (x4) (0) (s0) (s1) (s2) (s3)))
def wp_m_laysFits_b60 (Q : St → Prop) (x1 : Int32) (x2 : Int32) (K39 : St → Int32 → Prop) (S : St) (x3 : Int32) (s0 : Int32) : Prop :=
  ((¬ x3 = 0 → wp_m_laysFits_b87 Q (x1) (x2) K39 S (x3) (s0) ((irm ((x3 - 1) / 10) 6)) (s0) (99) ((1 - x2))) ∧ (x3 = 0 → wp_m_laysFits_b87 Q (x1) (x2) K39 S (x3) (s0) (0) (s0) (99) ((1 - x2))))
def wp_m_laysFits_b39 (Q : St → Prop) (x1 : Int32) (x2 : Int32) : Nat → St → Int32 → Prop
  | 0 => fun _ _ => False
  | n + 1 => fun S x3 => ((3601 ≤ x3 → Q S) ∧ (¬ 3601 ≤ x3 → ((¬ x3 = 0 → wp_m_laysFits_b60 Q (x1) (x2) (fun Sy y3 => wp_m_laysFits_b39 Q x1 x2 n Sy y3) S (x3) (((x3 - 1) / 60))) ∧ (x3 = 0 → wp_m_laysFits_b60 Q (x1) (x2) (fun Sy y3 => wp_m_laysFits_b39 Q x1 x2 n Sy y3) S (x3) ((-1))))))
def wp_m_laysFits_b17 (Q : St → Prop) (x1 : Int32) (x2 : Int32) : Nat → St → Int32 → Prop
  | 0 => fun _ _ => False
  | n + 1 => fun S x3 => ((560 ≤ x3 → (∃ z, wp_m_laysFits_b39 Q (x1) (x2) z S (0))) ∧ (¬ 560 ≤ x3 → (vp_in x3 560 ∧ wp_m_laysFits_b17 Q x1 x2 n (sI S 19 (x3).toNatClampNeg 0) ((x3 + 1)))))
def wp_m_laysFits (S : St) (x1 : Int32) (x2 : Int32) (Q : St → Prop) : Prop :=
  (∃ z, wp_m_laysFits_b17 Q (x1) (x2) z (sL (sI (sI S 0 32 0) 0 33 (-1)) 0 34 0) (0))
set_option maxRecDepth 100000 in
theorem wk_m_laysFits_b159 {G : Gx} {K : Kx} {A : Nat → Nat} (C : KOk G K RX8 cX8_laysFits rm_m_laysFits 6 none) {B : Nat → Prop} (M : KM G K B) {Q : St → Prop} (N : KQv G K B (wM G A) Q) (x1 : Int32) (x2 : Int32) (K39 : St → Int32 → Prop) (hK39 : ∀ (S : St) (x3 : Int32), K39 S x3 → Y G K 0 0 (wM G A S) 39 [(0, .ref (A 0)), (1, .int (x1)), (2, .int (x2)), (3, .int (x3))] []) : ∀ (n : Nat), ∀ (S : St) (x3 : Int32) (x5 : Int32), wp_m_laysFits_b159 Q x1 x2 K39 n S x3 x5 → Y G K 0 0 (wM G A S) 159 [(0, .ref (A 0)), (1, .int (x1)), (2, .int (x2)), (3, .int (x3)), (5, .int (x5))] [] := by
  intro n
  induction n with
  | zero => intro S x3 x5 h; exact h.elim
  | succ n ih =>
    intro S x3 x5 h
    dsimp only [wp_m_laysFits_b159] at h
    refine y_iload C dX8_laysFits_159 4 rfl ?_
    refine y_bipush C dX8_laysFits_161 bp_80 ?_
    refine y_icmp_ge C (tgt := 196) dX8_laysFits_163 rfl (fun c_39 => ?_) (fun c_39 => ?_)
    · have h_40 := (h).1 c_39
      refine y_iinc C dX8_laysFits_196 3 rfl (Nat.le_of_ble_eq_true rfl) (ii_1 _) [(3, .int ((x3 + 1))), (0, .ref (A 0)), (1, .int (x1)), (2, .int (x2)), (5, .int (x5))] rfl ?_
      refine y_goto C (tgt := 39) dX8_laysFits_199 rfl ?_
      exact Y.sub (hK39 S ((x3 + 1)) (h_40)) [1, 2, 3, 0] rfl
    · have h_41 := (h).2 c_39
      refine y_aload_n C dX8_laysFits_166 0 rfl rfl ?_
      refine yg_X8_71_wM0 C dX8_laysFits_167 ?_
      refine y_bipush C dX8_laysFits_170 bp_7 ?_
      refine y_iload C dX8_laysFits_172 4 rfl ?_
      refine y_imul C dX8_laysFits_174 ?_
      refine y_aload_n C dX8_laysFits_175 0 rfl rfl ?_
      refine y_iload_n C dX8_laysFits_176 2 rfl rfl ?_
      refine y_iload C dX8_laysFits_177 4 rfl ?_
      refine y_callRiV (As := [.int (x2), .int (x5)]) (rest := [.int ((7 * x5)), .ref (A 19)]) C cs_X8_284 (met_m_hearsAt G A S (x2) (x5) _ (h_41)) (fun _ h => h) (wM_0 ..) rfl rfl ⟨rfl, rfl, Nat.le_of_ble_eq_true rfl, Nat.le_of_ble_eq_true rfl⟩ rfl rfl (Nat.le_of_ble_eq_true rfl) dX8_laysFits_179 ⟨Nat.zero_le _, Nat.zero_le _⟩ (fun r_42 h_43 => ?_)
      refine y_iadd C dX8_laysFits_182 ?_
      refine y_iconst C dX8_laysFits_183 ic_1 ?_
      refine y_iadd C dX8_laysFits_184 ?_
      refine y_dup2 C dX8_laysFits_185 rfl rfl ?_
      refine y_iald C (wM_19 ..) rfl (h_43).1 dX8_laysFits_186 ?_
      refine y_iconst C dX8_laysFits_187 ic_1 ?_
      refine y_iadd C dX8_laysFits_188 ?_
      refine y_iast C M (wM_19 ..) rfl (wM_s19 ..) ((h_43).2).1 dX8_laysFits_189 ?_
      refine y_iinc C dX8_laysFits_190 4 rfl (Nat.le_of_ble_eq_true rfl) (ii_1 _) [(5, .int ((x5 + 1))), (0, .ref (A 0)), (1, .int (x1)), (2, .int (x2)), (3, .int (x3))] rfl ?_
      refine y_goto C (tgt := 159) dX8_laysFits_193 rfl ?_
      exact Y.sub (ih (sI S 19 ((((7 * x5) + r_42) + 1)).toNatClampNeg ((S.1 19 ((((7 * x5) + r_42) + 1)).toNatClampNeg) + 1)) (x3) ((x5 + 1)) (((h_43).2).2)) [1, 2, 3, 4, 0] rfl
set_option maxRecDepth 100000 in
theorem wk_m_laysFits_b139 {G : Gx} {K : Kx} {A : Nat → Nat} (C : KOk G K RX8 cX8_laysFits rm_m_laysFits 6 none) {B : Nat → Prop} (M : KM G K B) {Q : St → Prop} (N : KQv G K B (wM G A) Q) (x1 : Int32) (x2 : Int32) (K39 : St → Int32 → Prop) (hK39 : ∀ (S : St) (x3 : Int32), K39 S x3 → Y G K 0 0 (wM G A S) 39 [(0, .ref (A 0)), (1, .int (x1)), (2, .int (x2)), (3, .int (x3))] []) (S : St) (x3 : Int32) (x4 : Int32) (h : wp_m_laysFits_b139 Q x1 x2 K39 S x3 x4) : Y G K 0 0 (wM G A S) 139 [(0, .ref (A 0)), (1, .int (x1)), (2, .int (x2)), (3, .int (x3)), (4, .int (x4))] [] := by
  refine y_iload_n C dX8_laysFits_139 3 rfl rfl ?_
  refine y_if_le C (tgt := 156) dX8_laysFits_140 rfl (fun c_32 => ?_) (fun c_32 => ?_)
  · have h_33 := (h).1 c_32
    refine y_iconst C dX8_laysFits_156 ic_0 ?_
    refine y_istore C dX8_laysFits_157 (Nat.le_of_ble_eq_true rfl) [(5, .int (0)), (0, .ref (A 0)), (1, .int (x1)), (2, .int (x2)), (3, .int (x3)), (4, .int (x4))] rfl ?_
    obtain ⟨n_34, h_35⟩ := h_33
    exact Y.sub (wk_m_laysFits_b159 C M N (x1) (x2) K39 hK39 n_34 S (x3) (0) h_35) [1, 2, 3, 4, 0] rfl
  · have h_36 := (h).2 c_32
    refine y_aload_n C dX8_laysFits_143 0 rfl rfl ?_
    refine y_dup C dX8_laysFits_144 rfl ?_
    refine yg_X8_349_wM0 C dX8_laysFits_145 ?_
    refine y_lconst C dX8_laysFits_148 lc_1 ?_
    refine y_iload C dX8_laysFits_149 4 rfl ?_
    refine y_lshl C dX8_laysFits_151 ?_
    refine y_lor C dX8_laysFits_152 ?_
    refine yp_X8_349_wM0 C M dX8_laysFits_153 ?_
    refine y_iconst C dX8_laysFits_156 ic_0 ?_
    refine y_istore C dX8_laysFits_157 (Nat.le_of_ble_eq_true rfl) [(5, .int (0)), (0, .ref (A 0)), (1, .int (x1)), (2, .int (x2)), (3, .int (x3)), (4, .int (x4))] rfl ?_
    obtain ⟨n_37, h_38⟩ := h_36
    exact Y.sub (wk_m_laysFits_b159 C M N (x1) (x2) K39 hK39 n_37 (sL S 0 34 ((S.2 0 34) ||| (1 <<< ((x4).toInt64 &&& 63)))) (x3) (0) h_38) [1, 2, 3, 4, 0] rfl
set_option maxRecDepth 100000 in
theorem wk_m_laysFits_b101 {G : Gx} {K : Kx} {A : Nat → Nat} (C : KOk G K RX8 cX8_laysFits rm_m_laysFits 6 none) {B : Nat → Prop} (M : KM G K B) {Q : St → Prop} (N : KQv G K B (wM G A) Q) (x1 : Int32) (x2 : Int32) (K39 : St → Int32 → Prop) (hK39 : ∀ (S : St) (x3 : Int32), K39 S x3 → Y G K 0 0 (wM G A S) 39 [(0, .ref (A 0)), (1, .int (x1)), (2, .int (x2)), (3, .int (x3))] []) (S : St) (x3 : Int32) (x4 : Int32) (s0 : Int32) (s1 : Int32) (s2 : Int32) (s3 : Int32) (s4 : Int32) (h : wp_m_laysFits_b101 Q x1 x2 K39 S x3 x4 s0 s1 s2 s3 s4) : Y G K 0 0 (wM G A S) 101 [(0, .ref (A 0)), (1, .int (x1)), (2, .int (x2)), (3, .int (x3)), (4, .int (x4))] [.int (s0), .int (s1), .int (s2), .int (s3), .int (s4), .ref (A 0)] := by
  refine y_callMvV (k' := 0) (n' := 0) (As := [.int (s4), .int (s3), .int (s2), .int (s1), .int (s0)]) (rest := []) C M cs_X8_273 (met_m_dances G A S (s4) (s3) (s2) (s1) (s0) _ (h)) (wM_0 ..) rfl rfl ⟨rfl, rfl, Nat.le_of_ble_eq_true rfl, Nat.le_of_ble_eq_true rfl⟩ rfl rfl (Nat.le_of_ble_eq_true rfl) dX8_laysFits_101 ⟨Nat.zero_le _, Nat.zero_le _⟩ rfl rfl (fun S_22 h_21 => ?_)
  refine y_aload_n C dX8_laysFits_104 0 rfl rfl ?_
  refine y_iload_n C dX8_laysFits_105 1 rfl rfl ?_
  refine y_iload_n C dX8_laysFits_106 2 rfl rfl ?_
  refine y_callRiV (As := [.int (x1), .int (x2)]) (rest := []) C cs_X8_352 (met_m_isHeard G A S_22 (x1) (x2) _ (h_21)) (fun _ h => h) (wM_0 ..) rfl rfl ⟨rfl, rfl, Nat.le_of_ble_eq_true rfl, Nat.le_of_ble_eq_true rfl⟩ rfl rfl (Nat.le_of_ble_eq_true rfl) dX8_laysFits_107 ⟨Nat.zero_le _, Nat.zero_le _⟩ (fun r_23 h_24 => ?_)
  refine y_if_ne C (tgt := 116) dX8_laysFits_110 rfl (fun c_26 => ?_) (fun c_26 => ?_)
  · have h_27 := (h_24).1 c_26
    refine y_aload_n C dX8_laysFits_116 0 rfl rfl ?_
    refine y_dup C dX8_laysFits_117 rfl ?_
    refine yg_X8_343_wM0 C dX8_laysFits_118 ?_
    refine y_iconst C dX8_laysFits_121 ic_1 ?_
    refine y_iadd C dX8_laysFits_122 ?_
    refine yp_X8_343_wM0 C M dX8_laysFits_123 ?_
    refine y_aload_n C dX8_laysFits_126 0 rfl rfl ?_
    refine yg_X8_346_wM0 C dX8_laysFits_127 ?_
    refine y_iconst C dX8_laysFits_130 icm1 ?_
    refine y_icmp_ne C (tgt := 139) dX8_laysFits_131 rfl (fun c_28 => ?_) (fun c_28 => ?_)
    · have h_29 := (h_27).1 c_28
      exact Y.sub (wk_m_laysFits_b139 C M N (x1) (x2) K39 hK39 (sI S_22 0 32 ((S_22.1 0 32) + 1)) (x3) (x4) (h_29)) [0, 1, 2, 3, 4] rfl
    · have h_30 := (h_27).2 c_28
      refine y_aload_n C dX8_laysFits_134 0 rfl rfl ?_
      refine y_iload_n C dX8_laysFits_135 3 rfl rfl ?_
      refine yp_X8_346_wM0 C M dX8_laysFits_136 ?_
      exact Y.sub (wk_m_laysFits_b139 C M N (x1) (x2) K39 hK39 (sI (sI S_22 0 32 ((S_22.1 0 32) + 1)) 0 33 x3) (x3) (x4) (h_30)) [0, 1, 2, 3, 4] rfl
  · have h_31 := (h_24).2 c_26
    refine y_goto C (tgt := 196) dX8_laysFits_113 rfl ?_
    refine y_iinc C dX8_laysFits_196 3 rfl (Nat.le_of_ble_eq_true rfl) (ii_1 _) [(3, .int ((x3 + 1))), (0, .ref (A 0)), (1, .int (x1)), (2, .int (x2)), (4, .int (x4))] rfl ?_
    refine y_goto C (tgt := 39) dX8_laysFits_199 rfl ?_
    exact Y.sub (hK39 S_22 ((x3 + 1)) (h_31)) [1, 2, 3, 0] rfl
set_option maxRecDepth 100000 in
theorem wk_m_laysFits_b87 {G : Gx} {K : Kx} {A : Nat → Nat} (C : KOk G K RX8 cX8_laysFits rm_m_laysFits 6 none) {B : Nat → Prop} (M : KM G K B) {Q : St → Prop} (N : KQv G K B (wM G A) Q) (x1 : Int32) (x2 : Int32) (K39 : St → Int32 → Prop) (hK39 : ∀ (S : St) (x3 : Int32), K39 S x3 → Y G K 0 0 (wM G A S) 39 [(0, .ref (A 0)), (1, .int (x1)), (2, .int (x2)), (3, .int (x3))] []) (S : St) (x3 : Int32) (x4 : Int32) (s0 : Int32) (s1 : Int32) (s2 : Int32) (s3 : Int32) (h : wp_m_laysFits_b87 Q x1 x2 K39 S x3 x4 s0 s1 s2 s3) : Y G K 0 0 (wM G A S) 87 [(0, .ref (A 0)), (1, .int (x1)), (2, .int (x2)), (3, .int (x3)), (4, .int (x4))] [.int (s0), .int (s1), .int (s2), .int (s3), .ref (A 0)] := by
  refine y_iload_n C dX8_laysFits_87 3 rfl rfl ?_
  refine y_if_ne C (tgt := 95) dX8_laysFits_88 rfl (fun c_17 => ?_) (fun c_17 => ?_)
  · have h_18 := (h).1 c_17
    refine y_iload_n C dX8_laysFits_95 3 rfl rfl ?_
    refine y_iconst C dX8_laysFits_96 ic_1 ?_
    refine y_isub C dX8_laysFits_97 ?_
    refine y_bipush C dX8_laysFits_98 bp_10 ?_
    refine y_irem C dX8_laysFits_100 nz_I_10 ?_
    exact Y.sub (wk_m_laysFits_b101 C M N (x1) (x2) K39 hK39 S (x3) (x4) ((irm (x3 - 1) 10)) (s0) (s1) (s2) (s3) (h_18)) [0, 1, 2, 3, 4] rfl
  · have h_19 := (h).2 c_17
    refine y_iconst C dX8_laysFits_91 ic_0 ?_
    refine y_goto C (tgt := 101) dX8_laysFits_92 rfl ?_
    exact Y.sub (wk_m_laysFits_b101 C M N (x1) (x2) K39 hK39 S (x3) (x4) (0) (s0) (s1) (s2) (s3) (h_19)) [0, 1, 2, 3, 4] rfl
set_option maxRecDepth 100000 in
theorem wk_m_laysFits_b60 {G : Gx} {K : Kx} {A : Nat → Nat} (C : KOk G K RX8 cX8_laysFits rm_m_laysFits 6 none) {B : Nat → Prop} (M : KM G K B) {Q : St → Prop} (N : KQv G K B (wM G A) Q) (x1 : Int32) (x2 : Int32) (K39 : St → Int32 → Prop) (hK39 : ∀ (S : St) (x3 : Int32), K39 S x3 → Y G K 0 0 (wM G A S) 39 [(0, .ref (A 0)), (1, .int (x1)), (2, .int (x2)), (3, .int (x3))] []) (S : St) (x3 : Int32) (s0 : Int32) (h : wp_m_laysFits_b60 Q x1 x2 K39 S x3 s0) : Y G K 0 0 (wM G A S) 60 [(0, .ref (A 0)), (1, .int (x1)), (2, .int (x2)), (3, .int (x3))] [.int (s0)] := by
  refine y_istore C dX8_laysFits_60 (Nat.le_of_ble_eq_true rfl) [(4, .int (s0)), (0, .ref (A 0)), (1, .int (x1)), (2, .int (x2)), (3, .int (x3))] rfl ?_
  refine y_aload_n C dX8_laysFits_62 1 rfl rfl ?_
  refine y_iconst C dX8_laysFits_63 ic_1 ?_
  refine y_iload_n C dX8_laysFits_64 3 rfl rfl ?_
  refine y_isub C dX8_laysFits_65 ?_
  refine y_bipush C dX8_laysFits_66 bp_99 ?_
  refine y_iload C dX8_laysFits_68 0 rfl ?_
  refine y_iload_n C dX8_laysFits_70 4 rfl rfl ?_
  refine y_if_ne C (tgt := 78) dX8_laysFits_71 rfl (fun c_14 => ?_) (fun c_14 => ?_)
  · have h_15 := (h).1 c_14
    refine y_iload_n C dX8_laysFits_78 4 rfl rfl ?_
    refine y_iconst C dX8_laysFits_79 ic_1 ?_
    refine y_isub C dX8_laysFits_80 ?_
    refine y_bipush C dX8_laysFits_81 bp_10 ?_
    refine y_idiv C dX8_laysFits_83 nz_I_10 ?_
    refine y_bipush C dX8_laysFits_84 bp_6 ?_
    refine y_irem C dX8_laysFits_86 nz_I_6 ?_
    exact Y.sub (wk_m_laysFits_b87 C M N (x1) (x2) K39 hK39 S (x3) (s0) ((irm ((x3 - 1) / 10) 6)) (s0) (99) ((1 - x2)) (h_15)) [1, 2, 3, 4, 0] rfl
  · have h_16 := (h).2 c_14
    refine y_iconst C dX8_laysFits_74 ic_0 ?_
    refine y_goto C (tgt := 87) dX8_laysFits_75 rfl ?_
    exact Y.sub (wk_m_laysFits_b87 C M N (x1) (x2) K39 hK39 S (x3) (s0) (0) (s0) (99) ((1 - x2)) (h_16)) [1, 2, 3, 4, 0] rfl
set_option maxRecDepth 100000 in
theorem wk_m_laysFits_b39 {G : Gx} {K : Kx} {A : Nat → Nat} (C : KOk G K RX8 cX8_laysFits rm_m_laysFits 6 none) {B : Nat → Prop} (M : KM G K B) {Q : St → Prop} (N : KQv G K B (wM G A) Q) (x1 : Int32) (x2 : Int32) : ∀ (n : Nat), ∀ (S : St) (x3 : Int32), wp_m_laysFits_b39 Q x1 x2 n S x3 → Y G K 0 0 (wM G A S) 39 [(0, .ref (A 0)), (1, .int (x1)), (2, .int (x2)), (3, .int (x3))] [] := by
  intro n
  induction n with
  | zero => intro S x3 h; exact h.elim
  | succ n ih =>
    intro S x3 h
    dsimp only [wp_m_laysFits_b39] at h
    refine y_iload_n C dX8_laysFits_39 3 rfl rfl ?_
    refine y_sipush C dX8_laysFits_40 sp_3601 ?_
    refine y_icmp_ge C (tgt := 202) dX8_laysFits_43 rfl (fun c_8 => ?_) (fun c_8 => ?_)
    · have h_9 := (h).1 c_8
      exact y_vretM C M N rfl (S := S) rfl (h_9) dX8_laysFits_202
    · have h_10 := (h).2 c_8
      refine y_iload_n C dX8_laysFits_46 3 rfl rfl ?_
      refine y_if_ne C (tgt := 54) dX8_laysFits_47 rfl (fun c_11 => ?_) (fun c_11 => ?_)
      · have h_12 := (h_10).1 c_11
        refine y_iload_n C dX8_laysFits_54 3 rfl rfl ?_
        refine y_iconst C dX8_laysFits_55 ic_1 ?_
        refine y_isub C dX8_laysFits_56 ?_
        refine y_bipush C dX8_laysFits_57 bp_60 ?_
        refine y_idiv C dX8_laysFits_59 nz_I_60 ?_
        exact Y.sub (wk_m_laysFits_b60 C M N (x1) (x2) (fun Sy y3 => wp_m_laysFits_b39 Q x1 x2 n Sy y3) ih S (x3) (((x3 - 1) / 60)) (h_12)) [0, 1, 2, 3] rfl
      · have h_13 := (h_10).2 c_11
        refine y_iconst C dX8_laysFits_50 icm1 ?_
        refine y_goto C (tgt := 60) dX8_laysFits_51 rfl ?_
        exact Y.sub (wk_m_laysFits_b60 C M N (x1) (x2) (fun Sy y3 => wp_m_laysFits_b39 Q x1 x2 n Sy y3) ih S (x3) ((-1)) (h_13)) [0, 1, 2, 3] rfl
set_option maxRecDepth 100000 in
theorem wk_m_laysFits_b17 {G : Gx} {K : Kx} {A : Nat → Nat} (C : KOk G K RX8 cX8_laysFits rm_m_laysFits 6 none) {B : Nat → Prop} (M : KM G K B) {Q : St → Prop} (N : KQv G K B (wM G A) Q) (x1 : Int32) (x2 : Int32) : ∀ (n : Nat), ∀ (S : St) (x3 : Int32), wp_m_laysFits_b17 Q x1 x2 n S x3 → Y G K 0 0 (wM G A S) 17 [(0, .ref (A 0)), (1, .int (x1)), (2, .int (x2)), (3, .int (x3))] [] := by
  intro n
  induction n with
  | zero => intro S x3 h; exact h.elim
  | succ n ih =>
    intro S x3 h
    dsimp only [wp_m_laysFits_b17] at h
    refine y_iload_n C dX8_laysFits_17 3 rfl rfl ?_
    refine y_sipush C dX8_laysFits_18 sp_560 ?_
    refine y_icmp_ge C (tgt := 37) dX8_laysFits_21 rfl (fun c_3 => ?_) (fun c_3 => ?_)
    · have h_4 := (h).1 c_3
      refine y_iconst C dX8_laysFits_37 ic_0 ?_
      refine y_istore_n C dX8_laysFits_38 rfl (Nat.le_of_ble_eq_true rfl) [(3, .int (0)), (0, .ref (A 0)), (1, .int (x1)), (2, .int (x2))] rfl ?_
      obtain ⟨n_5, h_6⟩ := h_4
      exact Y.sub (wk_m_laysFits_b39 C M N (x1) (x2) n_5 S (0) h_6) [1, 2, 3, 0] rfl
    · have h_7 := (h).2 c_3
      refine y_aload_n C dX8_laysFits_24 0 rfl rfl ?_
      refine yg_X8_71_wM0 C dX8_laysFits_25 ?_
      refine y_iload_n C dX8_laysFits_28 3 rfl rfl ?_
      refine y_iconst C dX8_laysFits_29 ic_0 ?_
      refine y_iast C M (wM_19 ..) rfl (wM_s19 ..) (h_7).1 dX8_laysFits_30 ?_
      refine y_iinc C dX8_laysFits_31 3 rfl (Nat.le_of_ble_eq_true rfl) (ii_1 _) [(3, .int ((x3 + 1))), (0, .ref (A 0)), (1, .int (x1)), (2, .int (x2))] rfl ?_
      refine y_goto C (tgt := 17) dX8_laysFits_34 rfl ?_
      exact Y.sub (ih (sI S 19 (x3).toNatClampNeg 0) ((x3 + 1)) ((h_7).2)) [1, 2, 3, 0] rfl
set_option maxRecDepth 100000 in
theorem met_m_laysFits (G : Gx) (A : Nat → Nat) (S : St) (x1 : Int32) (x2 : Int32) (Q : St → Prop) (h : wp_m_laysFits S x1 x2 Q) : Mv G yX8_laysFits (ws_ yX8_laysFits cX8_laysFits 6 none) rm_m_laysFits (wM G A S) [.ref (A 0), .int (x1), .int (x2)] (wM G A) Q := by
  refine ent_Mv (by decide +kernel) rfl (Nat.le_of_ble_eq_true rfl) [(0, .ref (A 0)), (1, .int (x1)), (2, .int (x2))] rfl (fun K B C M N => ?_)
  refine y_aload_n C dX8_laysFits_0 0 rfl rfl ?_
  refine y_iconst C dX8_laysFits_1 ic_0 ?_
  refine yp_X8_343_wM0 C M dX8_laysFits_2 ?_
  refine y_aload_n C dX8_laysFits_5 0 rfl rfl ?_
  refine y_iconst C dX8_laysFits_6 icm1 ?_
  refine yp_X8_346_wM0 C M dX8_laysFits_7 ?_
  refine y_aload_n C dX8_laysFits_10 0 rfl rfl ?_
  refine y_lconst C dX8_laysFits_11 lc_0 ?_
  refine yp_X8_349_wM0 C M dX8_laysFits_12 ?_
  refine y_iconst C dX8_laysFits_15 ic_0 ?_
  refine y_istore_n C dX8_laysFits_16 rfl (Nat.le_of_ble_eq_true rfl) [(3, .int (0)), (0, .ref (A 0)), (1, .int (x1)), (2, .int (x2))] rfl ?_
  obtain ⟨n_1, h_2⟩ := h
  exact Y.sub (wk_m_laysFits_b17 C M N (x1) (x2) n_1 (sL (sI (sI S 0 32 0) 0 33 (-1)) 0 34 0) (0) h_2) [1, 2, 3, 0] rfl
/-! OverHillModel heard(II)I: m_heard -/
abbrev rm_m_heard : Room := { frames := 4, cells := 0, slots := 0, locals := 118 }
def wp_m_heard (S : St) (x1 : Int32) (x2 : Int32) (Q : Int32 → St → Prop) : Prop :=
  wp_m_whyNot (sI S 0 0 0) (x1) (x2) (fun r_1 => ((r_1 = 0 → wp_m_laysFits (sI S 0 0 0) (x1) (x2) (fun S_8 => Q (S_8.1 0 32) S_8)) ∧ (¬ r_1 = 0 → Q r_1 (sI S 0 0 0))))
set_option maxRecDepth 100000 in
theorem met_m_heard (G : Gx) (A : Nat → Nat) (S : St) (x1 : Int32) (x2 : Int32) (Q : Int32 → St → Prop) (h : wp_m_heard S x1 x2 Q) : Mi G yX8_heard (ws_ yX8_heard cX8_heard 4 (some .int)) rm_m_heard (wM G A S) [.ref (A 0), .int (x1), .int (x2)] (wM G A) Q := by
  refine ent_Mi (by decide +kernel) rfl (Nat.le_of_ble_eq_true rfl) [(0, .ref (A 0)), (1, .int (x1)), (2, .int (x2))] rfl (fun K B C M N => ?_)
  refine y_aload_n C dX8_heard_0 0 rfl rfl ?_
  refine y_iconst C dX8_heard_1 ic_0 ?_
  refine yp_X8_80_wM0 C M dX8_heard_2 ?_
  refine y_aload_n C dX8_heard_5 0 rfl rfl ?_
  refine y_iload_n C dX8_heard_6 1 rfl rfl ?_
  refine y_iload_n C dX8_heard_7 2 rfl rfl ?_
  refine y_callRiV (As := [.int (x1), .int (x2)]) (rest := []) C cs_X8_355 (met_m_whyNot G A (sI S 0 0 0) (x1) (x2) _ (h)) (fun _ h => h) (wM_0 ..) rfl rfl ⟨rfl, rfl, Nat.le_of_ble_eq_true rfl, Nat.le_of_ble_eq_true rfl⟩ rfl rfl (Nat.le_of_ble_eq_true rfl) dX8_heard_8 ⟨Nat.zero_le _, Nat.zero_le _⟩ (fun r_1 h_2 => ?_)
  refine y_istore_n C dX8_heard_11 rfl (Nat.le_of_ble_eq_true rfl) [(3, .int (r_1)), (0, .ref (A 0)), (1, .int (x1)), (2, .int (x2))] rfl ?_
  refine y_iload_n C dX8_heard_12 0 rfl rfl ?_
  refine y_if_eq C (tgt := 18) dX8_heard_13 rfl (fun c_4 => ?_) (fun c_4 => ?_)
  · have h_5 := (h_2).1 c_4
    refine y_aload_n C dX8_heard_18 1 rfl rfl ?_
    refine y_iload_n C dX8_heard_19 2 rfl rfl ?_
    refine y_iload_n C dX8_heard_20 3 rfl rfl ?_
    refine y_callMvV (k' := 0) (n' := 0) (As := [.int (x1), .int (x2)]) (rest := []) C M cs_X8_358 (met_m_laysFits G A (sI S 0 0 0) (x1) (x2) _ (h_5)) (wM_0 ..) rfl rfl ⟨rfl, rfl, Nat.le_of_ble_eq_true rfl, Nat.le_of_ble_eq_true rfl⟩ rfl rfl (Nat.le_of_ble_eq_true rfl) dX8_heard_21 ⟨Nat.zero_le _, Nat.zero_le _⟩ rfl rfl (fun S_8 h_7 => ?_)
    refine y_aload_n C dX8_heard_24 1 rfl rfl ?_
    refine yg_X8_343_wM0 C dX8_heard_25 ?_
    exact y_iretM C M N rfl (S := S_8) rfl (h_7) dX8_heard_28
  · have h_9 := (h_2).2 c_4
    refine y_iload_n C dX8_heard_16 0 rfl rfl ?_
    exact y_iretM C M N rfl (S := (sI S 0 0 0)) rfl (h_9) dX8_heard_17
/-! OverHillModel first(II)I: m_first -/
abbrev rm_m_first : Room := { frames := 4, cells := 0, slots := 0, locals := 118 }
def wp_m_first (S : St) (x1 : Int32) (x2 : Int32) (Q : Int32 → St → Prop) : Prop :=
  wp_m_whyNot (sI S 0 0 0) (x1) (x2) (fun r_1 => ((r_1 = 0 → wp_m_laysFits (sI S 0 0 0) (x1) (x2) (fun S_8 => Q (S_8.1 0 33) S_8)) ∧ (¬ r_1 = 0 → Q r_1 (sI S 0 0 0))))
set_option maxRecDepth 100000 in
theorem met_m_first (G : Gx) (A : Nat → Nat) (S : St) (x1 : Int32) (x2 : Int32) (Q : Int32 → St → Prop) (h : wp_m_first S x1 x2 Q) : Mi G yX8_first (ws_ yX8_first cX8_first 4 (some .int)) rm_m_first (wM G A S) [.ref (A 0), .int (x1), .int (x2)] (wM G A) Q := by
  refine ent_Mi (by decide +kernel) rfl (Nat.le_of_ble_eq_true rfl) [(0, .ref (A 0)), (1, .int (x1)), (2, .int (x2))] rfl (fun K B C M N => ?_)
  refine y_aload_n C dX8_first_0 0 rfl rfl ?_
  refine y_iconst C dX8_first_1 ic_0 ?_
  refine yp_X8_80_wM0 C M dX8_first_2 ?_
  refine y_aload_n C dX8_first_5 0 rfl rfl ?_
  refine y_iload_n C dX8_first_6 1 rfl rfl ?_
  refine y_iload_n C dX8_first_7 2 rfl rfl ?_
  refine y_callRiV (As := [.int (x1), .int (x2)]) (rest := []) C cs_X8_355 (met_m_whyNot G A (sI S 0 0 0) (x1) (x2) _ (h)) (fun _ h => h) (wM_0 ..) rfl rfl ⟨rfl, rfl, Nat.le_of_ble_eq_true rfl, Nat.le_of_ble_eq_true rfl⟩ rfl rfl (Nat.le_of_ble_eq_true rfl) dX8_first_8 ⟨Nat.zero_le _, Nat.zero_le _⟩ (fun r_1 h_2 => ?_)
  refine y_istore_n C dX8_first_11 rfl (Nat.le_of_ble_eq_true rfl) [(3, .int (r_1)), (0, .ref (A 0)), (1, .int (x1)), (2, .int (x2))] rfl ?_
  refine y_iload_n C dX8_first_12 0 rfl rfl ?_
  refine y_if_eq C (tgt := 18) dX8_first_13 rfl (fun c_4 => ?_) (fun c_4 => ?_)
  · have h_5 := (h_2).1 c_4
    refine y_aload_n C dX8_first_18 1 rfl rfl ?_
    refine y_iload_n C dX8_first_19 2 rfl rfl ?_
    refine y_iload_n C dX8_first_20 3 rfl rfl ?_
    refine y_callMvV (k' := 0) (n' := 0) (As := [.int (x1), .int (x2)]) (rest := []) C M cs_X8_358 (met_m_laysFits G A (sI S 0 0 0) (x1) (x2) _ (h_5)) (wM_0 ..) rfl rfl ⟨rfl, rfl, Nat.le_of_ble_eq_true rfl, Nat.le_of_ble_eq_true rfl⟩ rfl rfl (Nat.le_of_ble_eq_true rfl) dX8_first_21 ⟨Nat.zero_le _, Nat.zero_le _⟩ rfl rfl (fun S_8 h_7 => ?_)
    refine y_aload_n C dX8_first_24 1 rfl rfl ?_
    refine yg_X8_346_wM0 C dX8_first_25 ?_
    exact y_iretM C M N rfl (S := S_8) rfl (h_7) dX8_first_28
  · have h_9 := (h_2).2 c_4
    refine y_iload_n C dX8_first_16 0 rfl rfl ?_
    exact y_iretM C M N rfl (S := (sI S 0 0 0)) rfl (h_9) dX8_first_17
/-! OverHillModel when(II)J: m_when -/
abbrev rm_m_when : Room := { frames := 4, cells := 0, slots := 0, locals := 118 }
def wp_m_when (S : St) (x1 : Int32) (x2 : Int32) (Q : Int64 → St → Prop) : Prop :=
  wp_m_whyNot (sI S 0 0 0) (x1) (x2) (fun r_1 => ((r_1 = 0 → wp_m_laysFits (sI S 0 0 0) (x1) (x2) (fun S_8 => Q (S_8.2 0 34) S_8)) ∧ (¬ r_1 = 0 → Q (r_1).toInt64 (sI S 0 0 0))))
set_option maxRecDepth 100000 in
theorem met_m_when (G : Gx) (A : Nat → Nat) (S : St) (x1 : Int32) (x2 : Int32) (Q : Int64 → St → Prop) (h : wp_m_when S x1 x2 Q) : Ml G yX8_when (ws_ yX8_when cX8_when 4 (some .long)) rm_m_when (wM G A S) [.ref (A 0), .int (x1), .int (x2)] (wM G A) Q := by
  refine ent_Ml (by decide +kernel) rfl (Nat.le_of_ble_eq_true rfl) [(0, .ref (A 0)), (1, .int (x1)), (2, .int (x2))] rfl (fun K B C M N => ?_)
  refine y_aload_n C dX8_when_0 0 rfl rfl ?_
  refine y_iconst C dX8_when_1 ic_0 ?_
  refine yp_X8_80_wM0 C M dX8_when_2 ?_
  refine y_aload_n C dX8_when_5 0 rfl rfl ?_
  refine y_iload_n C dX8_when_6 1 rfl rfl ?_
  refine y_iload_n C dX8_when_7 2 rfl rfl ?_
  refine y_callRiV (As := [.int (x1), .int (x2)]) (rest := []) C cs_X8_355 (met_m_whyNot G A (sI S 0 0 0) (x1) (x2) _ (h)) (fun _ h => h) (wM_0 ..) rfl rfl ⟨rfl, rfl, Nat.le_of_ble_eq_true rfl, Nat.le_of_ble_eq_true rfl⟩ rfl rfl (Nat.le_of_ble_eq_true rfl) dX8_when_8 ⟨Nat.zero_le _, Nat.zero_le _⟩ (fun r_1 h_2 => ?_)
  refine y_istore_n C dX8_when_11 rfl (Nat.le_of_ble_eq_true rfl) [(3, .int (r_1)), (0, .ref (A 0)), (1, .int (x1)), (2, .int (x2))] rfl ?_
  refine y_iload_n C dX8_when_12 0 rfl rfl ?_
  refine y_if_eq C (tgt := 19) dX8_when_13 rfl (fun c_4 => ?_) (fun c_4 => ?_)
  · have h_5 := (h_2).1 c_4
    refine y_aload_n C dX8_when_19 1 rfl rfl ?_
    refine y_iload_n C dX8_when_20 2 rfl rfl ?_
    refine y_iload_n C dX8_when_21 3 rfl rfl ?_
    refine y_callMvV (k' := 0) (n' := 0) (As := [.int (x1), .int (x2)]) (rest := []) C M cs_X8_358 (met_m_laysFits G A (sI S 0 0 0) (x1) (x2) _ (h_5)) (wM_0 ..) rfl rfl ⟨rfl, rfl, Nat.le_of_ble_eq_true rfl, Nat.le_of_ble_eq_true rfl⟩ rfl rfl (Nat.le_of_ble_eq_true rfl) dX8_when_22 ⟨Nat.zero_le _, Nat.zero_le _⟩ rfl rfl (fun S_8 h_7 => ?_)
    refine y_aload_n C dX8_when_25 1 rfl rfl ?_
    refine yg_X8_349_wM0 C dX8_when_26 ?_
    exact y_lretM C M N rfl (S := S_8) rfl (h_7) dX8_when_29
  · have h_9 := (h_2).2 c_4
    refine y_iload_n C dX8_when_16 0 rfl rfl ?_
    refine y_i2l C dX8_when_17 rfl ?_
    exact y_lretM C M N rfl (S := (sI S 0 0 0)) rfl (h_9) dX8_when_18
/-! OverHillModel listens(II)I: m_listens -/
abbrev rm_m_listens : Room := { frames := 4, cells := 0, slots := 0, locals := 118 }
def wp_m_listens_b32 (Q : Int32 → St → Prop) (K19 : St → Int32 → Int32 → Prop) : Nat → St → Int32 → Int32 → Int32 → Int32 → Prop
  | 0 => fun _ _ _ _ _ => False
  | n + 1 => fun S x3 x4 x5 x6 => ((7 ≤ x6 → ((x5 < (S.1 0 35) → K19 (sI S 0 35 x5) (x4) ((x4 + 1))) ∧ (¬ x5 < (S.1 0 35) → K19 S (x3) ((x4 + 1))))) ∧ (¬ 7 ≤ x6 → (vp_in ((7 * x4) + x6) 560 ∧ (((S.1 19 (((7 * x4) + x6)).toNatClampNeg) ≤ x5 → wp_m_listens_b32 Q K19 n S (x3) (x4) (x5) ((x6 + 1))) ∧ (¬ (S.1 19 (((7 * x4) + x6)).toNatClampNeg) ≤ x5 → (vp_in ((7 * x4) + x6) 560 ∧ wp_m_listens_b32 Q K19 n S (x3) (x4) ((S.1 19 (((7 * x4) + x6)).toNatClampNeg)) ((x6 + 1))))))))
def wp_m_listens_b19 (Q : Int32 → St → Prop) : Nat → St → Int32 → Int32 → Prop
  | 0 => fun _ _ _ => False
  | n + 1 => fun S x3 x4 => ((80 ≤ x4 → Q x3 S) ∧ (¬ 80 ≤ x4 → (∃ z, wp_m_listens_b32 Q (fun Sy y3 y4 => wp_m_listens_b19 Q n Sy y3 y4) z S (x3) (x4) (0) (0))))
def wp_m_listens (S : St) (x1 : Int32) (x2 : Int32) (Q : Int32 → St → Prop) : Prop :=
  wp_m_laysFits S (x1) (x2) (fun S_3 => (∃ z, wp_m_listens_b19 Q z (sI S_3 0 35 (S_3.1 0 32)) ((-1)) (0)))
set_option maxRecDepth 100000 in
theorem wk_m_listens_b32 {G : Gx} {K : Kx} {A : Nat → Nat} (C : KOk G K RX8 cX8_listens rm_m_listens 7 (some .int)) {B : Nat → Prop} (M : KM G K B) {Q : Int32 → St → Prop} (N : KQi G K B (wM G A) Q) (K19 : St → Int32 → Int32 → Prop) (hK19 : ∀ (S : St) (x3 : Int32) (x4 : Int32), K19 S x3 x4 → Y G K 0 0 (wM G A S) 19 [(0, .ref (A 0)), (3, .int (x3)), (4, .int (x4))] []) : ∀ (n : Nat), ∀ (S : St) (x3 : Int32) (x4 : Int32) (x5 : Int32) (x6 : Int32), wp_m_listens_b32 Q K19 n S x3 x4 x5 x6 → Y G K 0 0 (wM G A S) 32 [(0, .ref (A 0)), (3, .int (x3)), (4, .int (x4)), (5, .int (x5)), (6, .int (x6))] [] := by
  intro n
  induction n with
  | zero => intro S x3 x4 x5 x6 h; exact h.elim
  | succ n ih =>
    intro S x3 x4 x5 x6 h
    dsimp only [wp_m_listens_b32] at h
    refine y_iload C dX8_listens_32 4 rfl ?_
    refine y_bipush C dX8_listens_34 bp_7 ?_
    refine y_icmp_ge C (tgt := 83) dX8_listens_36 rfl (fun c_11 => ?_) (fun c_11 => ?_)
    · have h_12 := (h).1 c_11
      refine y_iload C dX8_listens_83 3 rfl ?_
      refine y_aload_n C dX8_listens_85 0 rfl rfl ?_
      refine yg_X8_361_wM0 C dX8_listens_86 ?_
      refine y_icmp_lt C (tgt := 95) dX8_listens_89 rfl (fun c_13 => ?_) (fun c_13 => ?_)
      · have h_14 := (h_12).1 c_13
        refine y_iload C dX8_listens_95 2 rfl ?_
        refine y_istore_n C dX8_listens_97 rfl (Nat.le_of_ble_eq_true rfl) [(3, .int (x4)), (0, .ref (A 0)), (4, .int (x4)), (5, .int (x5)), (6, .int (x6))] rfl ?_
        refine y_aload_n C dX8_listens_98 1 rfl rfl ?_
        refine y_iload C dX8_listens_99 3 rfl ?_
        refine yp_X8_361_wM0 C M dX8_listens_101 ?_
        refine y_iinc C dX8_listens_104 2 rfl (Nat.le_of_ble_eq_true rfl) (ii_1 _) [(4, .int ((x4 + 1))), (3, .int (x4)), (0, .ref (A 0)), (5, .int (x5)), (6, .int (x6))] rfl ?_
        refine y_goto C (tgt := 19) dX8_listens_107 rfl ?_
        exact Y.sub (hK19 (sI S 0 35 x5) (x4) ((x4 + 1)) (h_14)) [2, 1, 0] rfl
      · have h_15 := (h_12).2 c_13
        refine y_goto C (tgt := 104) dX8_listens_92 rfl ?_
        refine y_iinc C dX8_listens_104 2 rfl (Nat.le_of_ble_eq_true rfl) (ii_1 _) [(4, .int ((x4 + 1))), (0, .ref (A 0)), (3, .int (x3)), (5, .int (x5)), (6, .int (x6))] rfl ?_
        refine y_goto C (tgt := 19) dX8_listens_107 rfl ?_
        exact Y.sub (hK19 S (x3) ((x4 + 1)) (h_15)) [1, 2, 0] rfl
    · have h_16 := (h).2 c_11
      refine y_aload_n C dX8_listens_39 0 rfl rfl ?_
      refine yg_X8_71_wM0 C dX8_listens_40 ?_
      refine y_bipush C dX8_listens_43 bp_7 ?_
      refine y_iload C dX8_listens_45 2 rfl ?_
      refine y_imul C dX8_listens_47 ?_
      refine y_iload C dX8_listens_48 4 rfl ?_
      refine y_iadd C dX8_listens_50 ?_
      refine y_iald C (wM_19 ..) rfl (h_16).1 dX8_listens_51 ?_
      refine y_iload C dX8_listens_52 3 rfl ?_
      refine y_icmp_le C (tgt := 73) dX8_listens_54 rfl (fun c_17 => ?_) (fun c_17 => ?_)
      · have h_18 := ((h_16).2).1 c_17
        refine y_iload C dX8_listens_73 3 rfl ?_
        refine y_istore C dX8_listens_75 (Nat.le_of_ble_eq_true rfl) [(5, .int (x5)), (0, .ref (A 0)), (3, .int (x3)), (4, .int (x4)), (6, .int (x6))] rfl ?_
        refine y_iinc C dX8_listens_77 4 rfl (Nat.le_of_ble_eq_true rfl) (ii_1 _) [(6, .int ((x6 + 1))), (5, .int (x5)), (0, .ref (A 0)), (3, .int (x3)), (4, .int (x4))] rfl ?_
        refine y_goto C (tgt := 32) dX8_listens_80 rfl ?_
        exact Y.sub (ih S (x3) (x4) (x5) ((x6 + 1)) (h_18)) [2, 3, 4, 1, 0] rfl
      · have h_19 := ((h_16).2).2 c_17
        refine y_aload_n C dX8_listens_57 0 rfl rfl ?_
        refine yg_X8_71_wM0 C dX8_listens_58 ?_
        refine y_bipush C dX8_listens_61 bp_7 ?_
        refine y_iload C dX8_listens_63 2 rfl ?_
        refine y_imul C dX8_listens_65 ?_
        refine y_iload C dX8_listens_66 4 rfl ?_
        refine y_iadd C dX8_listens_68 ?_
        refine y_iald C (wM_19 ..) rfl (h_19).1 dX8_listens_69 ?_
        refine y_goto C (tgt := 75) dX8_listens_70 rfl ?_
        refine y_istore C dX8_listens_75 (Nat.le_of_ble_eq_true rfl) [(5, .int ((S.1 19 (((7 * x4) + x6)).toNatClampNeg))), (0, .ref (A 0)), (3, .int (x3)), (4, .int (x4)), (6, .int (x6))] rfl ?_
        refine y_iinc C dX8_listens_77 4 rfl (Nat.le_of_ble_eq_true rfl) (ii_1 _) [(6, .int ((x6 + 1))), (5, .int ((S.1 19 (((7 * x4) + x6)).toNatClampNeg))), (0, .ref (A 0)), (3, .int (x3)), (4, .int (x4))] rfl ?_
        refine y_goto C (tgt := 32) dX8_listens_80 rfl ?_
        exact Y.sub (ih S (x3) (x4) ((S.1 19 (((7 * x4) + x6)).toNatClampNeg)) ((x6 + 1)) ((h_19).2)) [2, 3, 4, 1, 0] rfl
set_option maxRecDepth 100000 in
theorem wk_m_listens_b19 {G : Gx} {K : Kx} {A : Nat → Nat} (C : KOk G K RX8 cX8_listens rm_m_listens 7 (some .int)) {B : Nat → Prop} (M : KM G K B) {Q : Int32 → St → Prop} (N : KQi G K B (wM G A) Q) : ∀ (n : Nat), ∀ (S : St) (x3 : Int32) (x4 : Int32), wp_m_listens_b19 Q n S x3 x4 → Y G K 0 0 (wM G A S) 19 [(0, .ref (A 0)), (3, .int (x3)), (4, .int (x4))] [] := by
  intro n
  induction n with
  | zero => intro S x3 x4 h; exact h.elim
  | succ n ih =>
    intro S x3 x4 h
    dsimp only [wp_m_listens_b19] at h
    refine y_iload C dX8_listens_19 2 rfl ?_
    refine y_bipush C dX8_listens_21 bp_80 ?_
    refine y_icmp_ge C (tgt := 110) dX8_listens_23 rfl (fun c_6 => ?_) (fun c_6 => ?_)
    · have h_7 := (h).1 c_6
      refine y_iload_n C dX8_listens_110 1 rfl rfl ?_
      exact y_iretM C M N rfl (S := S) rfl (h_7) dX8_listens_111
    · have h_8 := (h).2 c_6
      refine y_iconst C dX8_listens_26 ic_0 ?_
      refine y_istore C dX8_listens_27 (Nat.le_of_ble_eq_true rfl) [(5, .int (0)), (0, .ref (A 0)), (3, .int (x3)), (4, .int (x4))] rfl ?_
      refine y_iconst C dX8_listens_29 ic_0 ?_
      refine y_istore C dX8_listens_30 (Nat.le_of_ble_eq_true rfl) [(6, .int (0)), (5, .int (0)), (0, .ref (A 0)), (3, .int (x3)), (4, .int (x4))] rfl ?_
      obtain ⟨n_9, h_10⟩ := h_8
      exact Y.sub (wk_m_listens_b32 C M N (fun Sy y3 y4 => wp_m_listens_b19 Q n Sy y3 y4) ih n_9 S (x3) (x4) (0) (0) h_10) [2, 3, 4, 1, 0] rfl
set_option maxRecDepth 100000 in
theorem met_m_listens (G : Gx) (A : Nat → Nat) (S : St) (x1 : Int32) (x2 : Int32) (Q : Int32 → St → Prop) (h : wp_m_listens S x1 x2 Q) : Mi G yX8_listens (ws_ yX8_listens cX8_listens 7 (some .int)) rm_m_listens (wM G A S) [.ref (A 0), .int (x1), .int (x2)] (wM G A) Q := by
  refine ent_Mi (by decide +kernel) rfl (Nat.le_of_ble_eq_true rfl) [(0, .ref (A 0)), (1, .int (x1)), (2, .int (x2))] rfl (fun K B C M N => ?_)
  refine y_aload_n C dX8_listens_0 0 rfl rfl ?_
  refine y_iload_n C dX8_listens_1 1 rfl rfl ?_
  refine y_iload_n C dX8_listens_2 2 rfl rfl ?_
  refine y_callMvV (k' := 0) (n' := 0) (As := [.int (x1), .int (x2)]) (rest := []) C M cs_X8_358 (met_m_laysFits G A S (x1) (x2) _ (h)) (wM_0 ..) rfl rfl ⟨rfl, rfl, Nat.le_of_ble_eq_true rfl, Nat.le_of_ble_eq_true rfl⟩ rfl rfl (Nat.le_of_ble_eq_true rfl) dX8_listens_3 ⟨Nat.zero_le _, Nat.zero_le _⟩ rfl rfl (fun S_3 h_2 => ?_)
  refine y_iconst C dX8_listens_6 icm1 ?_
  refine y_istore_n C dX8_listens_7 rfl (Nat.le_of_ble_eq_true rfl) [(3, .int ((-1))), (0, .ref (A 0)), (1, .int (x1)), (2, .int (x2))] rfl ?_
  refine y_aload_n C dX8_listens_8 1 rfl rfl ?_
  refine y_aload_n C dX8_listens_9 1 rfl rfl ?_
  refine yg_X8_343_wM0 C dX8_listens_10 ?_
  refine yp_X8_361_wM0 C M dX8_listens_13 ?_
  refine y_iconst C dX8_listens_16 ic_0 ?_
  refine y_istore C dX8_listens_17 (Nat.le_of_ble_eq_true rfl) [(4, .int (0)), (3, .int ((-1))), (0, .ref (A 0)), (1, .int (x1)), (2, .int (x2))] rfl ?_
  obtain ⟨n_4, h_5⟩ := h_2
  exact Y.sub (wk_m_listens_b19 C M N n_4 (sI S_3 0 35 (S_3.1 0 32)) ((-1)) (0) h_5) [2, 1, 0] rfl
/-! OverHillModel listen(II)I: m_listen -/
abbrev rm_m_listen : Room := { frames := 5, cells := 0, slots := 0, locals := 144 }
def wp_m_listen (S : St) (x1 : Int32) (x2 : Int32) (Q : Int32 → St → Prop) : Prop :=
  wp_m_whyNot (sI S 0 0 0) (x1) (x2) (fun r_1 => ((r_1 = 0 → wp_m_listens (sI S 0 0 0) (x1) (x2) (fun r_6 S_8 => Q r_6 S_8)) ∧ (¬ r_1 = 0 → Q r_1 (sI S 0 0 0))))
set_option maxRecDepth 100000 in
theorem met_m_listen (G : Gx) (A : Nat → Nat) (S : St) (x1 : Int32) (x2 : Int32) (Q : Int32 → St → Prop) (h : wp_m_listen S x1 x2 Q) : Mi G yX8_listen (ws_ yX8_listen cX8_listen 4 (some .int)) rm_m_listen (wM G A S) [.ref (A 0), .int (x1), .int (x2)] (wM G A) Q := by
  refine ent_Mi (by decide +kernel) rfl (Nat.le_of_ble_eq_true rfl) [(0, .ref (A 0)), (1, .int (x1)), (2, .int (x2))] rfl (fun K B C M N => ?_)
  refine y_aload_n C dX8_listen_0 0 rfl rfl ?_
  refine y_iconst C dX8_listen_1 ic_0 ?_
  refine yp_X8_80_wM0 C M dX8_listen_2 ?_
  refine y_aload_n C dX8_listen_5 0 rfl rfl ?_
  refine y_iload_n C dX8_listen_6 1 rfl rfl ?_
  refine y_iload_n C dX8_listen_7 2 rfl rfl ?_
  refine y_callRiV (As := [.int (x1), .int (x2)]) (rest := []) C cs_X8_355 (met_m_whyNot G A (sI S 0 0 0) (x1) (x2) _ (h)) (fun _ h => h) (wM_0 ..) rfl rfl ⟨rfl, rfl, Nat.le_of_ble_eq_true rfl, Nat.le_of_ble_eq_true rfl⟩ rfl rfl (Nat.le_of_ble_eq_true rfl) dX8_listen_8 ⟨Nat.zero_le _, Nat.zero_le _⟩ (fun r_1 h_2 => ?_)
  refine y_istore_n C dX8_listen_11 rfl (Nat.le_of_ble_eq_true rfl) [(3, .int (r_1)), (0, .ref (A 0)), (1, .int (x1)), (2, .int (x2))] rfl ?_
  refine y_iload_n C dX8_listen_12 0 rfl rfl ?_
  refine y_if_eq C (tgt := 20) dX8_listen_13 rfl (fun c_4 => ?_) (fun c_4 => ?_)
  · have h_5 := (h_2).1 c_4
    refine y_aload_n C dX8_listen_20 1 rfl rfl ?_
    refine y_iload_n C dX8_listen_21 2 rfl rfl ?_
    refine y_iload_n C dX8_listen_22 3 rfl rfl ?_
    refine y_callMiV (k' := 0) (n' := 0) (As := [.int (x1), .int (x2)]) (rest := []) C M cs_X8_364 (met_m_listens G A (sI S 0 0 0) (x1) (x2) _ (h_5)) (wM_0 ..) rfl rfl ⟨rfl, rfl, Nat.le_of_ble_eq_true rfl, Nat.le_of_ble_eq_true rfl⟩ rfl rfl (Nat.le_of_ble_eq_true rfl) dX8_listen_23 ⟨Nat.zero_le _, Nat.zero_le _⟩ rfl rfl (fun r_6 S_8 h_7 => ?_)
    exact y_iretM C M N rfl (S := S_8) rfl (h_7) dX8_listen_26
  · have h_9 := (h_2).2 c_4
    refine y_iload_n C dX8_listen_16 0 rfl rfl ?_
    refine y_goto C (tgt := 26) dX8_listen_17 rfl ?_
    exact y_iretM C M N rfl (S := (sI S 0 0 0)) rfl (h_9) dX8_listen_26
/-! OverHillModel leaves(II)I: m_leaves -/
abbrev rm_m_leaves : Room := { frames := 5, cells := 0, slots := 0, locals := 144 }
def wp_m_leaves (S : St) (x1 : Int32) (x2 : Int32) (Q : Int32 → St → Prop) : Prop :=
  wp_m_whyNot (sI S 0 0 0) (x1) (x2) (fun r_1 => ((r_1 = 0 → wp_m_listens (sI S 0 0 0) (x1) (x2) (fun r_6 S_8 => Q (S_8.1 0 35) S_8)) ∧ (¬ r_1 = 0 → Q r_1 (sI S 0 0 0))))
set_option maxRecDepth 100000 in
theorem met_m_leaves (G : Gx) (A : Nat → Nat) (S : St) (x1 : Int32) (x2 : Int32) (Q : Int32 → St → Prop) (h : wp_m_leaves S x1 x2 Q) : Mi G yX8_leaves (ws_ yX8_leaves cX8_leaves 4 (some .int)) rm_m_leaves (wM G A S) [.ref (A 0), .int (x1), .int (x2)] (wM G A) Q := by
  refine ent_Mi (by decide +kernel) rfl (Nat.le_of_ble_eq_true rfl) [(0, .ref (A 0)), (1, .int (x1)), (2, .int (x2))] rfl (fun K B C M N => ?_)
  refine y_aload_n C dX8_leaves_0 0 rfl rfl ?_
  refine y_iconst C dX8_leaves_1 ic_0 ?_
  refine yp_X8_80_wM0 C M dX8_leaves_2 ?_
  refine y_aload_n C dX8_leaves_5 0 rfl rfl ?_
  refine y_iload_n C dX8_leaves_6 1 rfl rfl ?_
  refine y_iload_n C dX8_leaves_7 2 rfl rfl ?_
  refine y_callRiV (As := [.int (x1), .int (x2)]) (rest := []) C cs_X8_355 (met_m_whyNot G A (sI S 0 0 0) (x1) (x2) _ (h)) (fun _ h => h) (wM_0 ..) rfl rfl ⟨rfl, rfl, Nat.le_of_ble_eq_true rfl, Nat.le_of_ble_eq_true rfl⟩ rfl rfl (Nat.le_of_ble_eq_true rfl) dX8_leaves_8 ⟨Nat.zero_le _, Nat.zero_le _⟩ (fun r_1 h_2 => ?_)
  refine y_istore_n C dX8_leaves_11 rfl (Nat.le_of_ble_eq_true rfl) [(3, .int (r_1)), (0, .ref (A 0)), (1, .int (x1)), (2, .int (x2))] rfl ?_
  refine y_iload_n C dX8_leaves_12 0 rfl rfl ?_
  refine y_if_eq C (tgt := 18) dX8_leaves_13 rfl (fun c_4 => ?_) (fun c_4 => ?_)
  · have h_5 := (h_2).1 c_4
    refine y_aload_n C dX8_leaves_18 1 rfl rfl ?_
    refine y_iload_n C dX8_leaves_19 2 rfl rfl ?_
    refine y_iload_n C dX8_leaves_20 3 rfl rfl ?_
    refine y_callMiV (k' := 0) (n' := 0) (As := [.int (x1), .int (x2)]) (rest := []) C M cs_X8_364 (met_m_listens G A (sI S 0 0 0) (x1) (x2) _ (h_5)) (wM_0 ..) rfl rfl ⟨rfl, rfl, Nat.le_of_ble_eq_true rfl, Nat.le_of_ble_eq_true rfl⟩ rfl rfl (Nat.le_of_ble_eq_true rfl) dX8_leaves_21 ⟨Nat.zero_le _, Nat.zero_le _⟩ rfl rfl (fun r_6 S_8 h_7 => ?_)
    refine y_pop C dX8_leaves_24 rfl ?_
    refine y_aload_n C dX8_leaves_25 1 rfl rfl ?_
    refine yg_X8_361_wM0 C dX8_leaves_26 ?_
    exact y_iretM C M N rfl (S := S_8) rfl (h_7) dX8_leaves_29
  · have h_9 := (h_2).2 c_4
    refine y_iload_n C dX8_leaves_16 0 rfl rfl ?_
    exact y_iretM C M N rfl (S := (sI S 0 0 0)) rfl (h_9) dX8_leaves_17
/-! OverHillModel walks(II)I: m_walks -/
abbrev rm_m_walks : Room := { frames := 1, cells := 0, slots := 0, locals := 40 }
def wp_m_walks_b40 (Q : Int32 → St → Prop) (x1 : Int32) (K5 : St → Int32 → Int32 → Prop) : Nat → St → Int32 → Int32 → Int32 → Prop
  | 0 => fun _ _ _ _ => False
  | n + 1 => fun S x3 x4 x5 => (vp_in (2 * x5) 120 ∧ (¬ (S.1 12 ((2 * x5)).toNatClampNeg) = 0 ∧ (vp_in ((2 * x5) + 1) 120 ∧ (((irm x3 (S.1 12 ((2 * x5)).toNatClampNeg)) = (S.1 12 (((2 * x5) + 1)).toNatClampNeg) → (vp_in ((12 * x1) + x5) 24 ∧ K5 (sI S 20 (((12 * x1) + x5)).toNatClampNeg (x3 + 1)) ((x3 + 1)) ((x4 + 1)))) ∧ (¬ (irm x3 (S.1 12 ((2 * x5)).toNatClampNeg)) = (S.1 12 (((2 * x5) + 1)).toNatClampNeg) → wp_m_walks_b40 Q x1 K5 n S ((x3 + 1)) (x4) (x5))))))
def wp_m_walks_b5 (Q : Int32 → St → Prop) (x1 : Int32) : Nat → St → Int32 → Int32 → Prop
  | 0 => fun _ _ _ => False
  | n + 1 => fun S x3 x4 => (((S.1 7 8) ≤ x4 → Q (x3 + 1) S) ∧ (¬ (S.1 7 8) ≤ x4 → ((¬ x1 = 0 → (∃ z, wp_m_walks_b40 Q (x1) (fun Sy y3 y4 => wp_m_walks_b5 Q x1 n Sy y3 y4) z S (x3) (x4) ((((S.1 7 8) - 1) - x4)))) ∧ (x1 = 0 → (∃ z, wp_m_walks_b40 Q (x1) (fun Sy y3 y4 => wp_m_walks_b5 Q x1 n Sy y3 y4) z S (x3) (x4) (x4))))))
def wp_m_walks (S : St) (x1 : Int32) (x2 : Int32) (Q : Int32 → St → Prop) : Prop :=
  (∃ z, wp_m_walks_b5 Q (x1) z S (x2) (0))
set_option maxRecDepth 100000 in
theorem wk_m_walks_b40 {G : Gx} {K : Kx} {A : Nat → Nat} (C : KOk G K RX8 cX8_walks rm_m_walks 6 (some .int)) {B : Nat → Prop} (M : KM G K B) {Q : Int32 → St → Prop} (N : KQi G K B (wM G A) Q) (x1 : Int32) (K5 : St → Int32 → Int32 → Prop) (hK5 : ∀ (S : St) (x3 : Int32) (x4 : Int32), K5 S x3 x4 → Y G K 0 0 (wM G A S) 5 [(0, .ref (A 0)), (1, .int (x1)), (3, .int (x3)), (4, .int (x4))] []) : ∀ (n : Nat), ∀ (S : St) (x3 : Int32) (x4 : Int32) (x5 : Int32), wp_m_walks_b40 Q x1 K5 n S x3 x4 x5 → Y G K 0 0 (wM G A S) 40 [(0, .ref (A 0)), (1, .int (x1)), (3, .int (x3)), (4, .int (x4)), (5, .int (x5))] [] := by
  intro n
  induction n with
  | zero => intro S x3 x4 x5 h; exact h.elim
  | succ n ih =>
    intro S x3 x4 x5 h
    dsimp only [wp_m_walks_b40] at h
    refine y_iload_n C dX8_walks_40 2 rfl rfl ?_
    refine y_aload_n C dX8_walks_41 0 rfl rfl ?_
    refine yg_X8_50_wM0 C dX8_walks_42 ?_
    refine y_iconst C dX8_walks_45 ic_2 ?_
    refine y_iload C dX8_walks_46 4 rfl ?_
    refine y_imul C dX8_walks_48 ?_
    refine y_iald C (wM_12 ..) rfl (h).1 dX8_walks_49 ?_
    refine y_irem C dX8_walks_50 ((h).2).1 ?_
    refine y_aload_n C dX8_walks_51 0 rfl rfl ?_
    refine yg_X8_50_wM0 C dX8_walks_52 ?_
    refine y_iconst C dX8_walks_55 ic_2 ?_
    refine y_iload C dX8_walks_56 4 rfl ?_
    refine y_imul C dX8_walks_58 ?_
    refine y_iconst C dX8_walks_59 ic_1 ?_
    refine y_iadd C dX8_walks_60 ?_
    refine y_iald C (wM_12 ..) rfl (((h).2).2).1 dX8_walks_61 ?_
    refine y_icmp_eq C (tgt := 71) dX8_walks_62 rfl (fun c_13 => ?_) (fun c_13 => ?_)
    · have h_14 := ((((h).2).2).2).1 c_13
      refine y_iinc C dX8_walks_71 2 rfl (Nat.le_of_ble_eq_true rfl) (ii_1 _) [(3, .int ((x3 + 1))), (0, .ref (A 0)), (1, .int (x1)), (4, .int (x4)), (5, .int (x5))] rfl ?_
      refine y_aload_n C dX8_walks_74 1 rfl rfl ?_
      refine yg_X8_74_wM0 C dX8_walks_75 ?_
      refine y_bipush C dX8_walks_78 bp_12 ?_
      refine y_iload_n C dX8_walks_80 2 rfl rfl ?_
      refine y_imul C dX8_walks_81 ?_
      refine y_iload C dX8_walks_82 4 rfl ?_
      refine y_iadd C dX8_walks_84 ?_
      refine y_iload_n C dX8_walks_85 0 rfl rfl ?_
      refine y_iast C M (wM_20 ..) rfl (wM_s20 ..) (h_14).1 dX8_walks_86 ?_
      refine y_iinc C dX8_walks_87 3 rfl (Nat.le_of_ble_eq_true rfl) (ii_1 _) [(4, .int ((x4 + 1))), (3, .int ((x3 + 1))), (0, .ref (A 0)), (1, .int (x1)), (5, .int (x5))] rfl ?_
      refine y_goto C (tgt := 5) dX8_walks_90 rfl ?_
      exact Y.sub (hK5 (sI S 20 (((12 * x1) + x5)).toNatClampNeg (x3 + 1)) ((x3 + 1)) ((x4 + 1)) ((h_14).2)) [2, 3, 1, 0] rfl
    · have h_15 := ((((h).2).2).2).2 c_13
      refine y_iinc C dX8_walks_65 2 rfl (Nat.le_of_ble_eq_true rfl) (ii_1 _) [(3, .int ((x3 + 1))), (0, .ref (A 0)), (1, .int (x1)), (4, .int (x4)), (5, .int (x5))] rfl ?_
      refine y_goto C (tgt := 40) dX8_walks_68 rfl ?_
      exact Y.sub (ih S ((x3 + 1)) (x4) (x5) (h_15)) [1, 2, 0, 3, 4] rfl
set_option maxRecDepth 100000 in
theorem wk_m_walks_b5 {G : Gx} {K : Kx} {A : Nat → Nat} (C : KOk G K RX8 cX8_walks rm_m_walks 6 (some .int)) {B : Nat → Prop} (M : KM G K B) {Q : Int32 → St → Prop} (N : KQi G K B (wM G A) Q) (x1 : Int32) : ∀ (n : Nat), ∀ (S : St) (x3 : Int32) (x4 : Int32), wp_m_walks_b5 Q x1 n S x3 x4 → Y G K 0 0 (wM G A S) 5 [(0, .ref (A 0)), (1, .int (x1)), (3, .int (x3)), (4, .int (x4))] [] := by
  intro n
  induction n with
  | zero => intro S x3 x4 h; exact h.elim
  | succ n ih =>
    intro S x3 x4 h
    dsimp only [wp_m_walks_b5] at h
    refine y_iload C dX8_walks_5 3 rfl ?_
    refine y_aload_n C dX8_walks_7 0 rfl rfl ?_
    refine yg_X8_34_wM0 C dX8_walks_8 ?_
    refine y_bipush C dX8_walks_11 bp_8 ?_
    refine y_iald C (wM_7 ..) tn_8 vi_8_55 dX8_walks_13 ?_
    refine y_icmp_ge C (tgt := 93) dX8_walks_14 rfl (fun c_3 => ?_) (fun c_3 => ?_)
    · have h_4 := (h).1 c_3
      refine y_iload_n C dX8_walks_93 2 rfl rfl ?_
      refine y_iconst C dX8_walks_94 ic_1 ?_
      refine y_iadd C dX8_walks_95 ?_
      exact y_iretM C M N rfl (S := S) rfl (h_4) dX8_walks_96
    · have h_5 := (h).2 c_3
      refine y_iload_n C dX8_walks_17 1 rfl rfl ?_
      refine y_if_ne C (tgt := 26) dX8_walks_18 rfl (fun c_6 => ?_) (fun c_6 => ?_)
      · have h_7 := (h_5).1 c_6
        refine y_aload_n C dX8_walks_26 0 rfl rfl ?_
        refine yg_X8_34_wM0 C dX8_walks_27 ?_
        refine y_bipush C dX8_walks_30 bp_8 ?_
        refine y_iald C (wM_7 ..) tn_8 vi_8_55 dX8_walks_32 ?_
        refine y_iconst C dX8_walks_33 ic_1 ?_
        refine y_isub C dX8_walks_34 ?_
        refine y_iload C dX8_walks_35 3 rfl ?_
        refine y_isub C dX8_walks_37 ?_
        refine y_istore C dX8_walks_38 (Nat.le_of_ble_eq_true rfl) [(5, .int ((((S.1 7 8) - 1) - x4))), (0, .ref (A 0)), (1, .int (x1)), (3, .int (x3)), (4, .int (x4))] rfl ?_
        obtain ⟨n_8, h_9⟩ := h_7
        exact Y.sub (wk_m_walks_b40 C M N (x1) (fun Sy y3 y4 => wp_m_walks_b5 Q x1 n Sy y3 y4) ih n_8 S (x3) (x4) ((((S.1 7 8) - 1) - x4)) h_9) [1, 2, 3, 4, 0] rfl
      · have h_10 := (h_5).2 c_6
        refine y_iload C dX8_walks_21 3 rfl ?_
        refine y_goto C (tgt := 38) dX8_walks_23 rfl ?_
        refine y_istore C dX8_walks_38 (Nat.le_of_ble_eq_true rfl) [(5, .int (x4)), (0, .ref (A 0)), (1, .int (x1)), (3, .int (x3)), (4, .int (x4))] rfl ?_
        obtain ⟨n_11, h_12⟩ := h_10
        exact Y.sub (wk_m_walks_b40 C M N (x1) (fun Sy y3 y4 => wp_m_walks_b5 Q x1 n Sy y3 y4) ih n_11 S (x3) (x4) (x4) h_12) [1, 2, 3, 4, 0] rfl
set_option maxRecDepth 100000 in
theorem met_m_walks (G : Gx) (A : Nat → Nat) (S : St) (x1 : Int32) (x2 : Int32) (Q : Int32 → St → Prop) (h : wp_m_walks S x1 x2 Q) : Mi G yX8_walks (ws_ yX8_walks cX8_walks 6 (some .int)) rm_m_walks (wM G A S) [.ref (A 0), .int (x1), .int (x2)] (wM G A) Q := by
  refine ent_Mi (by decide +kernel) rfl (Nat.le_of_ble_eq_true rfl) [(0, .ref (A 0)), (1, .int (x1)), (2, .int (x2))] rfl (fun K B C M N => ?_)
  refine y_iload_n C dX8_walks_0 2 rfl rfl ?_
  refine y_istore_n C dX8_walks_1 rfl (Nat.le_of_ble_eq_true rfl) [(3, .int (x2)), (0, .ref (A 0)), (1, .int (x1)), (2, .int (x2))] rfl ?_
  refine y_iconst C dX8_walks_2 ic_0 ?_
  refine y_istore C dX8_walks_3 (Nat.le_of_ble_eq_true rfl) [(4, .int (0)), (3, .int (x2)), (0, .ref (A 0)), (1, .int (x1)), (2, .int (x2))] rfl ?_
  obtain ⟨n_1, h_2⟩ := h
  exact Y.sub (wk_m_walks_b5 C M N (x1) n_1 S (x2) (0) h_2) [2, 3, 1, 0] rfl
/-! OverHillModel known(I)I: m_known -/
abbrev rm_m_known : Room := { frames := 1, cells := 0, slots := 0, locals := 40 }
def wp_m_known (x0 : Int32) (Q : Int32 → Prop) : Prop :=
  ((x0 ≤ 1000 → Q x0) ∧ (¬ x0 ≤ 1000 → Q (-1)))
set_option maxRecDepth 100000 in
theorem met_m_known (G : Gx) (x0 : Int32) (Q : Int32 → Prop) (h : wp_m_known x0 Q) : Ri G yX8_known (ws_ yX8_known cX8_known 1 (some .int)) rm_m_known [] [.int (x0)] Q := by
  refine ent_Ri (by decide +kernel) rfl (Nat.le_of_ble_eq_true rfl) [(0, .int (x0))] rfl (fun K C N => ?_)
  refine y_iload_n C dX8_known_0 0 rfl rfl ?_
  refine y_sipush C dX8_known_1 sp_1000 ?_
  refine y_icmp_le C (tgt := 11) dX8_known_4 rfl (fun c_1 => ?_) (fun c_1 => ?_)
  · have h_2 := (h).1 c_1
    refine y_iload_n C dX8_known_11 0 rfl rfl ?_
    exact y_iretR C N rfl (h_2) dX8_known_12
  · have h_3 := (h).2 c_1
    refine y_iconst C dX8_known_7 icm1 ?_
    refine y_goto C (tgt := 12) dX8_known_8 rfl ?_
    exact y_iretR C N rfl (h_3) dX8_known_12
/-! OverHillModel crosses(I)I: m_crosses -/
abbrev rm_m_crosses : Room := { frames := 3, cells := 0, slots := 0, locals := 86 }
def wp_m_crosses (S : St) (x1 : Int32) (Q : Int32 → St → Prop) : Prop :=
  wp_m_isDance (sI S 0 0 0) (fun r_1 => ((r_1 = 0 → Q (-2) (sI S 0 0 0)) ∧ (¬ r_1 = 0 → wp_m_isBeat ((x1).toInt64) (fun r_7 => ((r_7 = 0 → Q (-2) (sI S 0 0 0)) ∧ (¬ r_7 = 0 → wp_m_walks (sI S 0 0 0) (0) (x1) (fun r_13 S_15 => wp_m_known (r_13) (fun r_16 => Q r_16 S_15))))))))
set_option maxRecDepth 100000 in
theorem met_m_crosses (G : Gx) (A : Nat → Nat) (S : St) (x1 : Int32) (Q : Int32 → St → Prop) (h : wp_m_crosses S x1 Q) : Mi G yX8_crosses (ws_ yX8_crosses cX8_crosses 2 (some .int)) rm_m_crosses (wM G A S) [.ref (A 0), .int (x1)] (wM G A) Q := by
  refine ent_Mi (by decide +kernel) rfl (Nat.le_of_ble_eq_true rfl) [(0, .ref (A 0)), (1, .int (x1))] rfl (fun K B C M N => ?_)
  refine y_aload_n C dX8_crosses_0 0 rfl rfl ?_
  refine y_iconst C dX8_crosses_1 ic_0 ?_
  refine yp_X8_80_wM0 C M dX8_crosses_2 ?_
  refine y_aload_n C dX8_crosses_5 0 rfl rfl ?_
  refine y_callRiV (As := []) (rest := []) C cs_X8_254 (met_m_isDance G A (sI S 0 0 0) _ (h)) (fun _ h => h) (wM_0 ..) rfl rfl ⟨rfl, rfl, Nat.le_of_ble_eq_true rfl, Nat.le_of_ble_eq_true rfl⟩ rfl rfl (Nat.le_of_ble_eq_true rfl) dX8_crosses_6 ⟨Nat.zero_le _, Nat.zero_le _⟩ (fun r_1 h_2 => ?_)
  refine y_if_eq C (tgt := 32) dX8_crosses_9 rfl (fun c_4 => ?_) (fun c_4 => ?_)
  · have h_5 := (h_2).1 c_4
    refine y_bipush C dX8_crosses_32 bpm2 ?_
    exact y_iretM C M N rfl (S := (sI S 0 0 0)) rfl (h_5) dX8_crosses_34
  · have h_6 := (h_2).2 c_4
    refine y_iload_n C dX8_crosses_12 1 rfl rfl ?_
    refine y_i2l C dX8_crosses_13 rfl ?_
    refine y_callRiS (As := [.long ((x1).toInt64)]) (rest := []) C cs_X8_270 (met_m_isBeat G ((x1).toInt64) _ (h_6)) (fun _ _ => pw_nil) ⟨rfl, rfl, Nat.le_of_ble_eq_true rfl, Nat.le_of_ble_eq_true rfl⟩ rfl rfl (Nat.le_of_ble_eq_true rfl) dX8_crosses_14 ⟨Nat.zero_le _, Nat.zero_le _⟩ (fun r_7 h_8 => ?_)
    refine y_if_eq C (tgt := 32) dX8_crosses_17 rfl (fun c_10 => ?_) (fun c_10 => ?_)
    · have h_11 := (h_8).1 c_10
      refine y_bipush C dX8_crosses_32 bpm2 ?_
      exact y_iretM C M N rfl (S := (sI S 0 0 0)) rfl (h_11) dX8_crosses_34
    · have h_12 := (h_8).2 c_10
      refine y_aload_n C dX8_crosses_20 0 rfl rfl ?_
      refine y_iconst C dX8_crosses_21 ic_0 ?_
      refine y_iload_n C dX8_crosses_22 1 rfl rfl ?_
      refine y_callMiV (k' := 0) (n' := 0) (As := [.int (0), .int (x1)]) (rest := []) C M cs_X8_367 (met_m_walks G A (sI S 0 0 0) (0) (x1) _ (h_12)) (wM_0 ..) rfl rfl ⟨rfl, rfl, Nat.le_of_ble_eq_true rfl, Nat.le_of_ble_eq_true rfl⟩ rfl rfl (Nat.le_of_ble_eq_true rfl) dX8_crosses_23 ⟨Nat.zero_le _, Nat.zero_le _⟩ rfl rfl (fun r_13 S_15 h_14 => ?_)
      refine y_callRiS (As := [.int (r_13)]) (rest := []) C cs_X8_370 (met_m_known G (r_13) _ (h_14)) (fun _ _ => pw_nil) ⟨rfl, rfl, Nat.le_of_ble_eq_true rfl, Nat.le_of_ble_eq_true rfl⟩ rfl rfl (Nat.le_of_ble_eq_true rfl) dX8_crosses_26 ⟨Nat.zero_le _, Nat.zero_le _⟩ (fun r_16 h_17 => ?_)
      refine y_goto C (tgt := 34) dX8_crosses_29 rfl ?_
      exact y_iretM C M N rfl (S := S_15) rfl (h_17) dX8_crosses_34
/-! OverHillModel returns(I)I: m_returns -/
abbrev rm_m_returns : Room := { frames := 3, cells := 0, slots := 0, locals := 86 }
def wp_m_returns (S : St) (x1 : Int32) (Q : Int32 → St → Prop) : Prop :=
  wp_m_isDance (sI S 0 0 0) (fun r_1 => ((r_1 = 0 → Q (-2) (sI S 0 0 0)) ∧ (¬ r_1 = 0 → wp_m_isBeat ((x1).toInt64) (fun r_7 => ((r_7 = 0 → Q (-2) (sI S 0 0 0)) ∧ (¬ r_7 = 0 → wp_m_walks (sI S 0 0 0) (1) (x1) (fun r_13 S_15 => wp_m_known (r_13) (fun r_16 => Q r_16 S_15))))))))
set_option maxRecDepth 100000 in
theorem met_m_returns (G : Gx) (A : Nat → Nat) (S : St) (x1 : Int32) (Q : Int32 → St → Prop) (h : wp_m_returns S x1 Q) : Mi G yX8_returns (ws_ yX8_returns cX8_returns 2 (some .int)) rm_m_returns (wM G A S) [.ref (A 0), .int (x1)] (wM G A) Q := by
  refine ent_Mi (by decide +kernel) rfl (Nat.le_of_ble_eq_true rfl) [(0, .ref (A 0)), (1, .int (x1))] rfl (fun K B C M N => ?_)
  refine y_aload_n C dX8_returns_0 0 rfl rfl ?_
  refine y_iconst C dX8_returns_1 ic_0 ?_
  refine yp_X8_80_wM0 C M dX8_returns_2 ?_
  refine y_aload_n C dX8_returns_5 0 rfl rfl ?_
  refine y_callRiV (As := []) (rest := []) C cs_X8_254 (met_m_isDance G A (sI S 0 0 0) _ (h)) (fun _ h => h) (wM_0 ..) rfl rfl ⟨rfl, rfl, Nat.le_of_ble_eq_true rfl, Nat.le_of_ble_eq_true rfl⟩ rfl rfl (Nat.le_of_ble_eq_true rfl) dX8_returns_6 ⟨Nat.zero_le _, Nat.zero_le _⟩ (fun r_1 h_2 => ?_)
  refine y_if_eq C (tgt := 32) dX8_returns_9 rfl (fun c_4 => ?_) (fun c_4 => ?_)
  · have h_5 := (h_2).1 c_4
    refine y_bipush C dX8_returns_32 bpm2 ?_
    exact y_iretM C M N rfl (S := (sI S 0 0 0)) rfl (h_5) dX8_returns_34
  · have h_6 := (h_2).2 c_4
    refine y_iload_n C dX8_returns_12 1 rfl rfl ?_
    refine y_i2l C dX8_returns_13 rfl ?_
    refine y_callRiS (As := [.long ((x1).toInt64)]) (rest := []) C cs_X8_270 (met_m_isBeat G ((x1).toInt64) _ (h_6)) (fun _ _ => pw_nil) ⟨rfl, rfl, Nat.le_of_ble_eq_true rfl, Nat.le_of_ble_eq_true rfl⟩ rfl rfl (Nat.le_of_ble_eq_true rfl) dX8_returns_14 ⟨Nat.zero_le _, Nat.zero_le _⟩ (fun r_7 h_8 => ?_)
    refine y_if_eq C (tgt := 32) dX8_returns_17 rfl (fun c_10 => ?_) (fun c_10 => ?_)
    · have h_11 := (h_8).1 c_10
      refine y_bipush C dX8_returns_32 bpm2 ?_
      exact y_iretM C M N rfl (S := (sI S 0 0 0)) rfl (h_11) dX8_returns_34
    · have h_12 := (h_8).2 c_10
      refine y_aload_n C dX8_returns_20 0 rfl rfl ?_
      refine y_iconst C dX8_returns_21 ic_1 ?_
      refine y_iload_n C dX8_returns_22 1 rfl rfl ?_
      refine y_callMiV (k' := 0) (n' := 0) (As := [.int (1), .int (x1)]) (rest := []) C M cs_X8_367 (met_m_walks G A (sI S 0 0 0) (1) (x1) _ (h_12)) (wM_0 ..) rfl rfl ⟨rfl, rfl, Nat.le_of_ble_eq_true rfl, Nat.le_of_ble_eq_true rfl⟩ rfl rfl (Nat.le_of_ble_eq_true rfl) dX8_returns_23 ⟨Nat.zero_le _, Nat.zero_le _⟩ rfl rfl (fun r_13 S_15 h_14 => ?_)
      refine y_callRiS (As := [.int (r_13)]) (rest := []) C cs_X8_370 (met_m_known G (r_13) _ (h_14)) (fun _ _ => pw_nil) ⟨rfl, rfl, Nat.le_of_ble_eq_true rfl, Nat.le_of_ble_eq_true rfl⟩ rfl rfl (Nat.le_of_ble_eq_true rfl) dX8_returns_26 ⟨Nat.zero_le _, Nat.zero_le _⟩ (fun r_16 h_17 => ?_)
      refine y_goto C (tgt := 34) dX8_returns_29 rfl ?_
      exact y_iretM C M N rfl (S := S_15) rfl (h_17) dX8_returns_34
/-! OverHillModel laysMeet(II)V: m_laysMeet -/
abbrev rm_m_laysMeet : Room := { frames := 2, cells := 0, slots := 0, locals := 65 }
def wp_m_laysMeet_b74 (Q : St → Prop) (K27 : St → Int32 → Prop) (S : St) (x3 : Int32) (s0 : Int32) : Prop :=
  ((s0 < (S.1 0 37) → K27 (sI (sI S 0 37 s0) 0 38 x3) ((x3 + 1))) ∧ (¬ s0 < (S.1 0 37) → K27 S ((x3 + 1))))
def wp_m_laysMeet_b27 (Q : St → Prop) : Nat → St → Int32 → Prop
  | 0 => fun _ _ => False
  | n + 1 => fun S x3 => (((S.1 7 8) ≤ x3 → (((S.1 0 37) ≤ 1000 → Q S) ∧ (¬ (S.1 0 37) ≤ 1000 → Q (sI S 0 38 (-1))))) ∧ (¬ (S.1 7 8) ≤ x3 → (vp_in x3 24 ∧ (vp_in (12 + x3) 24 ∧ (((S.1 20 (x3).toNatClampNeg) ≤ (S.1 20 ((12 + x3)).toNatClampNeg) → (vp_in (12 + x3) 24 ∧ wp_m_laysMeet_b74 Q (fun Sy y3 => wp_m_laysMeet_b27 Q n Sy y3) S (x3) ((S.1 20 ((12 + x3)).toNatClampNeg)))) ∧ (¬ (S.1 20 (x3).toNatClampNeg) ≤ (S.1 20 ((12 + x3)).toNatClampNeg) → (vp_in x3 24 ∧ wp_m_laysMeet_b74 Q (fun Sy y3 => wp_m_laysMeet_b27 Q n Sy y3) S (x3) ((S.1 20 (x3).toNatClampNeg)))))))))
def wp_m_laysMeet (S : St) (x1 : Int32) (x2 : Int32) (Q : St → Prop) : Prop :=
  wp_m_walks S (0) (x1) (fun r_1 S_3 => wp_m_walks S_3 (1) (x2) (fun r_4 S_6 => (∃ z, wp_m_laysMeet_b27 Q z (sI (sI S_6 0 37 1000000) 0 38 (-1)) (0))))
set_option maxRecDepth 100000 in
theorem wk_m_laysMeet_b74 {G : Gx} {K : Kx} {A : Nat → Nat} (C : KOk G K RX8 cX8_laysMeet rm_m_laysMeet 5 none) {B : Nat → Prop} (M : KM G K B) {Q : St → Prop} (N : KQv G K B (wM G A) Q) (K27 : St → Int32 → Prop) (hK27 : ∀ (S : St) (x3 : Int32), K27 S x3 → Y G K 0 0 (wM G A S) 27 [(0, .ref (A 0)), (3, .int (x3))] []) (S : St) (x3 : Int32) (s0 : Int32) (h : wp_m_laysMeet_b74 Q K27 S x3 s0) : Y G K 0 0 (wM G A S) 74 [(0, .ref (A 0)), (3, .int (x3))] [.int (s0)] := by
  refine y_istore C dX8_laysMeet_74 (Nat.le_of_ble_eq_true rfl) [(4, .int (s0)), (0, .ref (A 0)), (3, .int (x3))] rfl ?_
  refine y_iload C dX8_laysMeet_76 0 rfl ?_
  refine y_aload_n C dX8_laysMeet_78 1 rfl rfl ?_
  refine yg_X8_373_wM0 C dX8_laysMeet_79 ?_
  refine y_icmp_lt C (tgt := 88) dX8_laysMeet_82 rfl (fun c_18 => ?_) (fun c_18 => ?_)
  · have h_19 := (h).1 c_18
    refine y_aload_n C dX8_laysMeet_88 1 rfl rfl ?_
    refine y_iload C dX8_laysMeet_89 0 rfl ?_
    refine yp_X8_373_wM0 C M dX8_laysMeet_91 ?_
    refine y_aload_n C dX8_laysMeet_94 1 rfl rfl ?_
    refine y_iload_n C dX8_laysMeet_95 2 rfl rfl ?_
    refine yp_X8_376_wM0 C M dX8_laysMeet_96 ?_
    refine y_iinc C dX8_laysMeet_99 2 rfl (Nat.le_of_ble_eq_true rfl) (ii_1 _) [(3, .int ((x3 + 1))), (4, .int (s0)), (0, .ref (A 0))] rfl ?_
    refine y_goto C (tgt := 27) dX8_laysMeet_102 rfl ?_
    exact Y.sub (hK27 (sI (sI S 0 37 s0) 0 38 x3) ((x3 + 1)) (h_19)) [2, 0] rfl
  · have h_20 := (h).2 c_18
    refine y_goto C (tgt := 99) dX8_laysMeet_85 rfl ?_
    refine y_iinc C dX8_laysMeet_99 2 rfl (Nat.le_of_ble_eq_true rfl) (ii_1 _) [(3, .int ((x3 + 1))), (4, .int (s0)), (0, .ref (A 0))] rfl ?_
    refine y_goto C (tgt := 27) dX8_laysMeet_102 rfl ?_
    exact Y.sub (hK27 S ((x3 + 1)) (h_20)) [2, 0] rfl
set_option maxRecDepth 100000 in
theorem wk_m_laysMeet_b27 {G : Gx} {K : Kx} {A : Nat → Nat} (C : KOk G K RX8 cX8_laysMeet rm_m_laysMeet 5 none) {B : Nat → Prop} (M : KM G K B) {Q : St → Prop} (N : KQv G K B (wM G A) Q) : ∀ (n : Nat), ∀ (S : St) (x3 : Int32), wp_m_laysMeet_b27 Q n S x3 → Y G K 0 0 (wM G A S) 27 [(0, .ref (A 0)), (3, .int (x3))] [] := by
  intro n
  induction n with
  | zero => intro S x3 h; exact h.elim
  | succ n ih =>
    intro S x3 h
    dsimp only [wp_m_laysMeet_b27] at h
    refine y_iload_n C dX8_laysMeet_27 1 rfl rfl ?_
    refine y_aload_n C dX8_laysMeet_28 0 rfl rfl ?_
    refine yg_X8_34_wM0 C dX8_laysMeet_29 ?_
    refine y_bipush C dX8_laysMeet_32 bp_8 ?_
    refine y_iald C (wM_7 ..) tn_8 vi_8_55 dX8_laysMeet_34 ?_
    refine y_icmp_ge C (tgt := 105) dX8_laysMeet_35 rfl (fun c_9 => ?_) (fun c_9 => ?_)
    · have h_10 := (h).1 c_9
      refine y_aload_n C dX8_laysMeet_105 0 rfl rfl ?_
      refine yg_X8_373_wM0 C dX8_laysMeet_106 ?_
      refine y_sipush C dX8_laysMeet_109 sp_1000 ?_
      refine y_icmp_le C (tgt := 120) dX8_laysMeet_112 rfl (fun c_11 => ?_) (fun c_11 => ?_)
      · have h_12 := (h_10).1 c_11
        exact y_vretM C M N rfl (S := S) rfl (h_12) dX8_laysMeet_120
      · have h_13 := (h_10).2 c_11
        refine y_aload_n C dX8_laysMeet_115 0 rfl rfl ?_
        refine y_iconst C dX8_laysMeet_116 icm1 ?_
        refine yp_X8_376_wM0 C M dX8_laysMeet_117 ?_
        exact y_vretM C M N rfl (S := (sI S 0 38 (-1))) rfl (h_13) dX8_laysMeet_120
    · have h_14 := (h).2 c_9
      refine y_aload_n C dX8_laysMeet_38 0 rfl rfl ?_
      refine yg_X8_74_wM0 C dX8_laysMeet_39 ?_
      refine y_iload_n C dX8_laysMeet_42 1 rfl rfl ?_
      refine y_iald C (wM_20 ..) rfl (h_14).1 dX8_laysMeet_43 ?_
      refine y_aload_n C dX8_laysMeet_44 0 rfl rfl ?_
      refine yg_X8_74_wM0 C dX8_laysMeet_45 ?_
      refine y_bipush C dX8_laysMeet_48 bp_12 ?_
      refine y_iload_n C dX8_laysMeet_50 1 rfl rfl ?_
      refine y_iadd C dX8_laysMeet_51 ?_
      refine y_iald C (wM_20 ..) rfl ((h_14).2).1 dX8_laysMeet_52 ?_
      refine y_icmp_le C (tgt := 65) dX8_laysMeet_53 rfl (fun c_15 => ?_) (fun c_15 => ?_)
      · have h_16 := (((h_14).2).2).1 c_15
        refine y_aload_n C dX8_laysMeet_65 0 rfl rfl ?_
        refine yg_X8_74_wM0 C dX8_laysMeet_66 ?_
        refine y_bipush C dX8_laysMeet_69 bp_12 ?_
        refine y_iload_n C dX8_laysMeet_71 1 rfl rfl ?_
        refine y_iadd C dX8_laysMeet_72 ?_
        refine y_iald C (wM_20 ..) rfl (h_16).1 dX8_laysMeet_73 ?_
        exact Y.sub (wk_m_laysMeet_b74 C M N (fun Sy y3 => wp_m_laysMeet_b27 Q n Sy y3) ih S (x3) ((S.1 20 ((12 + x3)).toNatClampNeg)) ((h_16).2)) [0, 1] rfl
      · have h_17 := (((h_14).2).2).2 c_15
        refine y_aload_n C dX8_laysMeet_56 0 rfl rfl ?_
        refine yg_X8_74_wM0 C dX8_laysMeet_57 ?_
        refine y_iload_n C dX8_laysMeet_60 1 rfl rfl ?_
        refine y_iald C (wM_20 ..) rfl (h_17).1 dX8_laysMeet_61 ?_
        refine y_goto C (tgt := 74) dX8_laysMeet_62 rfl ?_
        exact Y.sub (wk_m_laysMeet_b74 C M N (fun Sy y3 => wp_m_laysMeet_b27 Q n Sy y3) ih S (x3) ((S.1 20 (x3).toNatClampNeg)) ((h_17).2)) [0, 1] rfl
set_option maxRecDepth 100000 in
theorem met_m_laysMeet (G : Gx) (A : Nat → Nat) (S : St) (x1 : Int32) (x2 : Int32) (Q : St → Prop) (h : wp_m_laysMeet S x1 x2 Q) : Mv G yX8_laysMeet (ws_ yX8_laysMeet cX8_laysMeet 5 none) rm_m_laysMeet (wM G A S) [.ref (A 0), .int (x1), .int (x2)] (wM G A) Q := by
  refine ent_Mv (by decide +kernel) rfl (Nat.le_of_ble_eq_true rfl) [(0, .ref (A 0)), (1, .int (x1)), (2, .int (x2))] rfl (fun K B C M N => ?_)
  refine y_aload_n C dX8_laysMeet_0 0 rfl rfl ?_
  refine y_iconst C dX8_laysMeet_1 ic_0 ?_
  refine y_iload_n C dX8_laysMeet_2 1 rfl rfl ?_
  refine y_callMiV (k' := 0) (n' := 0) (As := [.int (0), .int (x1)]) (rest := []) C M cs_X8_367 (met_m_walks G A S (0) (x1) _ (h)) (wM_0 ..) rfl rfl ⟨rfl, rfl, Nat.le_of_ble_eq_true rfl, Nat.le_of_ble_eq_true rfl⟩ rfl rfl (Nat.le_of_ble_eq_true rfl) dX8_laysMeet_3 ⟨Nat.zero_le _, Nat.zero_le _⟩ rfl rfl (fun r_1 S_3 h_2 => ?_)
  refine y_pop C dX8_laysMeet_6 rfl ?_
  refine y_aload_n C dX8_laysMeet_7 0 rfl rfl ?_
  refine y_iconst C dX8_laysMeet_8 ic_1 ?_
  refine y_iload_n C dX8_laysMeet_9 2 rfl rfl ?_
  refine y_callMiV (k' := 0) (n' := 0) (As := [.int (1), .int (x2)]) (rest := []) C M cs_X8_367 (met_m_walks G A S_3 (1) (x2) _ (h_2)) (wM_0 ..) rfl rfl ⟨rfl, rfl, Nat.le_of_ble_eq_true rfl, Nat.le_of_ble_eq_true rfl⟩ rfl rfl (Nat.le_of_ble_eq_true rfl) dX8_laysMeet_10 ⟨Nat.zero_le _, Nat.zero_le _⟩ rfl rfl (fun r_4 S_6 h_5 => ?_)
  refine y_pop C dX8_laysMeet_13 rfl ?_
  refine y_aload_n C dX8_laysMeet_14 0 rfl rfl ?_
  refine y_ldc C dX8_laysMeet_15 q1768 ?_
  refine yp_X8_373_wM0 C M dX8_laysMeet_17 ?_
  refine y_aload_n C dX8_laysMeet_20 0 rfl rfl ?_
  refine y_iconst C dX8_laysMeet_21 icm1 ?_
  refine yp_X8_376_wM0 C M dX8_laysMeet_22 ?_
  refine y_iconst C dX8_laysMeet_25 ic_0 ?_
  refine y_istore_n C dX8_laysMeet_26 rfl (Nat.le_of_ble_eq_true rfl) [(3, .int (0)), (0, .ref (A 0)), (1, .int (x1)), (2, .int (x2))] rfl ?_
  obtain ⟨n_7, h_8⟩ := h_5
  exact Y.sub (wk_m_laysMeet_b27 C M N n_7 (sI (sI S_6 0 37 1000000) 0 38 (-1)) (0) h_8) [1, 0] rfl
/-! OverHillModel meet(II)I: m_meet -/
abbrev rm_m_meet : Room := { frames := 3, cells := 0, slots := 0, locals := 89 }
def wp_m_meet (S : St) (x1 : Int32) (x2 : Int32) (Q : Int32 → St → Prop) : Prop :=
  wp_m_isDance (sI S 0 0 0) (fun r_1 => ((r_1 = 0 → Q (-2) (sI S 0 0 0)) ∧ (¬ r_1 = 0 → wp_m_isBeat ((x1).toInt64) (fun r_7 => ((r_7 = 0 → Q (-2) (sI S 0 0 0)) ∧ (¬ r_7 = 0 → wp_m_isBeat ((x2).toInt64) (fun r_13 => ((¬ r_13 = 0 → wp_m_laysMeet (sI S 0 0 0) (x1) (x2) (fun S_20 => wp_m_known ((S_20.1 0 37)) (fun r_21 => Q r_21 S_20))) ∧ (r_13 = 0 → Q (-2) (sI S 0 0 0))))))))))
set_option maxRecDepth 100000 in
theorem met_m_meet (G : Gx) (A : Nat → Nat) (S : St) (x1 : Int32) (x2 : Int32) (Q : Int32 → St → Prop) (h : wp_m_meet S x1 x2 Q) : Mi G yX8_meet (ws_ yX8_meet cX8_meet 3 (some .int)) rm_m_meet (wM G A S) [.ref (A 0), .int (x1), .int (x2)] (wM G A) Q := by
  refine ent_Mi (by decide +kernel) rfl (Nat.le_of_ble_eq_true rfl) [(0, .ref (A 0)), (1, .int (x1)), (2, .int (x2))] rfl (fun K B C M N => ?_)
  refine y_aload_n C dX8_meet_0 0 rfl rfl ?_
  refine y_iconst C dX8_meet_1 ic_0 ?_
  refine yp_X8_80_wM0 C M dX8_meet_2 ?_
  refine y_aload_n C dX8_meet_5 0 rfl rfl ?_
  refine y_callRiV (As := []) (rest := []) C cs_X8_254 (met_m_isDance G A (sI S 0 0 0) _ (h)) (fun _ h => h) (wM_0 ..) rfl rfl ⟨rfl, rfl, Nat.le_of_ble_eq_true rfl, Nat.le_of_ble_eq_true rfl⟩ rfl rfl (Nat.le_of_ble_eq_true rfl) dX8_meet_6 ⟨Nat.zero_le _, Nat.zero_le _⟩ (fun r_1 h_2 => ?_)
  refine y_if_eq C (tgt := 28) dX8_meet_9 rfl (fun c_4 => ?_) (fun c_4 => ?_)
  · have h_5 := (h_2).1 c_4
    refine y_bipush C dX8_meet_28 bpm2 ?_
    exact y_iretM C M N rfl (S := (sI S 0 0 0)) rfl (h_5) dX8_meet_30
  · have h_6 := (h_2).2 c_4
    refine y_iload_n C dX8_meet_12 1 rfl rfl ?_
    refine y_i2l C dX8_meet_13 rfl ?_
    refine y_callRiS (As := [.long ((x1).toInt64)]) (rest := []) C cs_X8_270 (met_m_isBeat G ((x1).toInt64) _ (h_6)) (fun _ _ => pw_nil) ⟨rfl, rfl, Nat.le_of_ble_eq_true rfl, Nat.le_of_ble_eq_true rfl⟩ rfl rfl (Nat.le_of_ble_eq_true rfl) dX8_meet_14 ⟨Nat.zero_le _, Nat.zero_le _⟩ (fun r_7 h_8 => ?_)
    refine y_if_eq C (tgt := 28) dX8_meet_17 rfl (fun c_10 => ?_) (fun c_10 => ?_)
    · have h_11 := (h_8).1 c_10
      refine y_bipush C dX8_meet_28 bpm2 ?_
      exact y_iretM C M N rfl (S := (sI S 0 0 0)) rfl (h_11) dX8_meet_30
    · have h_12 := (h_8).2 c_10
      refine y_iload_n C dX8_meet_20 2 rfl rfl ?_
      refine y_i2l C dX8_meet_21 rfl ?_
      refine y_callRiS (As := [.long ((x2).toInt64)]) (rest := []) C cs_X8_270 (met_m_isBeat G ((x2).toInt64) _ (h_12)) (fun _ _ => pw_nil) ⟨rfl, rfl, Nat.le_of_ble_eq_true rfl, Nat.le_of_ble_eq_true rfl⟩ rfl rfl (Nat.le_of_ble_eq_true rfl) dX8_meet_22 ⟨Nat.zero_le _, Nat.zero_le _⟩ (fun r_13 h_14 => ?_)
      refine y_if_ne C (tgt := 31) dX8_meet_25 rfl (fun c_16 => ?_) (fun c_16 => ?_)
      · have h_17 := (h_14).1 c_16
        refine y_aload_n C dX8_meet_31 0 rfl rfl ?_
        refine y_iload_n C dX8_meet_32 1 rfl rfl ?_
        refine y_iload_n C dX8_meet_33 2 rfl rfl ?_
        refine y_callMvV (k' := 0) (n' := 0) (As := [.int (x1), .int (x2)]) (rest := []) C M cs_X8_379 (met_m_laysMeet G A (sI S 0 0 0) (x1) (x2) _ (h_17)) (wM_0 ..) rfl rfl ⟨rfl, rfl, Nat.le_of_ble_eq_true rfl, Nat.le_of_ble_eq_true rfl⟩ rfl rfl (Nat.le_of_ble_eq_true rfl) dX8_meet_34 ⟨Nat.zero_le _, Nat.zero_le _⟩ rfl rfl (fun S_20 h_19 => ?_)
        refine y_aload_n C dX8_meet_37 0 rfl rfl ?_
        refine yg_X8_373_wM0 C dX8_meet_38 ?_
        refine y_callRiS (As := [.int ((S_20.1 0 37))]) (rest := []) C cs_X8_370 (met_m_known G ((S_20.1 0 37)) _ (h_19)) (fun _ _ => pw_nil) ⟨rfl, rfl, Nat.le_of_ble_eq_true rfl, Nat.le_of_ble_eq_true rfl⟩ rfl rfl (Nat.le_of_ble_eq_true rfl) dX8_meet_41 ⟨Nat.zero_le _, Nat.zero_le _⟩ (fun r_21 h_22 => ?_)
        exact y_iretM C M N rfl (S := S_20) rfl (h_22) dX8_meet_44
      · have h_24 := (h_14).2 c_16
        refine y_bipush C dX8_meet_28 bpm2 ?_
        exact y_iretM C M N rfl (S := (sI S 0 0 0)) rfl (h_24) dX8_meet_30
/-! OverHillModel cell(II)I: m_cell -/
abbrev rm_m_cell : Room := { frames := 3, cells := 0, slots := 0, locals := 89 }
def wp_m_cell (S : St) (x1 : Int32) (x2 : Int32) (Q : Int32 → St → Prop) : Prop :=
  wp_m_isDance (sI S 0 0 0) (fun r_1 => ((r_1 = 0 → Q (-2) (sI S 0 0 0)) ∧ (¬ r_1 = 0 → wp_m_isBeat ((x1).toInt64) (fun r_7 => ((r_7 = 0 → Q (-2) (sI S 0 0 0)) ∧ (¬ r_7 = 0 → wp_m_isBeat ((x2).toInt64) (fun r_13 => ((¬ r_13 = 0 → wp_m_laysMeet (sI S 0 0 0) (x1) (x2) (fun S_20 => Q (S_20.1 0 38) S_20)) ∧ (r_13 = 0 → Q (-2) (sI S 0 0 0))))))))))
set_option maxRecDepth 100000 in
theorem met_m_cell (G : Gx) (A : Nat → Nat) (S : St) (x1 : Int32) (x2 : Int32) (Q : Int32 → St → Prop) (h : wp_m_cell S x1 x2 Q) : Mi G yX8_cell (ws_ yX8_cell cX8_cell 3 (some .int)) rm_m_cell (wM G A S) [.ref (A 0), .int (x1), .int (x2)] (wM G A) Q := by
  refine ent_Mi (by decide +kernel) rfl (Nat.le_of_ble_eq_true rfl) [(0, .ref (A 0)), (1, .int (x1)), (2, .int (x2))] rfl (fun K B C M N => ?_)
  refine y_aload_n C dX8_cell_0 0 rfl rfl ?_
  refine y_iconst C dX8_cell_1 ic_0 ?_
  refine yp_X8_80_wM0 C M dX8_cell_2 ?_
  refine y_aload_n C dX8_cell_5 0 rfl rfl ?_
  refine y_callRiV (As := []) (rest := []) C cs_X8_254 (met_m_isDance G A (sI S 0 0 0) _ (h)) (fun _ h => h) (wM_0 ..) rfl rfl ⟨rfl, rfl, Nat.le_of_ble_eq_true rfl, Nat.le_of_ble_eq_true rfl⟩ rfl rfl (Nat.le_of_ble_eq_true rfl) dX8_cell_6 ⟨Nat.zero_le _, Nat.zero_le _⟩ (fun r_1 h_2 => ?_)
  refine y_if_eq C (tgt := 28) dX8_cell_9 rfl (fun c_4 => ?_) (fun c_4 => ?_)
  · have h_5 := (h_2).1 c_4
    refine y_bipush C dX8_cell_28 bpm2 ?_
    exact y_iretM C M N rfl (S := (sI S 0 0 0)) rfl (h_5) dX8_cell_30
  · have h_6 := (h_2).2 c_4
    refine y_iload_n C dX8_cell_12 1 rfl rfl ?_
    refine y_i2l C dX8_cell_13 rfl ?_
    refine y_callRiS (As := [.long ((x1).toInt64)]) (rest := []) C cs_X8_270 (met_m_isBeat G ((x1).toInt64) _ (h_6)) (fun _ _ => pw_nil) ⟨rfl, rfl, Nat.le_of_ble_eq_true rfl, Nat.le_of_ble_eq_true rfl⟩ rfl rfl (Nat.le_of_ble_eq_true rfl) dX8_cell_14 ⟨Nat.zero_le _, Nat.zero_le _⟩ (fun r_7 h_8 => ?_)
    refine y_if_eq C (tgt := 28) dX8_cell_17 rfl (fun c_10 => ?_) (fun c_10 => ?_)
    · have h_11 := (h_8).1 c_10
      refine y_bipush C dX8_cell_28 bpm2 ?_
      exact y_iretM C M N rfl (S := (sI S 0 0 0)) rfl (h_11) dX8_cell_30
    · have h_12 := (h_8).2 c_10
      refine y_iload_n C dX8_cell_20 2 rfl rfl ?_
      refine y_i2l C dX8_cell_21 rfl ?_
      refine y_callRiS (As := [.long ((x2).toInt64)]) (rest := []) C cs_X8_270 (met_m_isBeat G ((x2).toInt64) _ (h_12)) (fun _ _ => pw_nil) ⟨rfl, rfl, Nat.le_of_ble_eq_true rfl, Nat.le_of_ble_eq_true rfl⟩ rfl rfl (Nat.le_of_ble_eq_true rfl) dX8_cell_22 ⟨Nat.zero_le _, Nat.zero_le _⟩ (fun r_13 h_14 => ?_)
      refine y_if_ne C (tgt := 31) dX8_cell_25 rfl (fun c_16 => ?_) (fun c_16 => ?_)
      · have h_17 := (h_14).1 c_16
        refine y_aload_n C dX8_cell_31 0 rfl rfl ?_
        refine y_iload_n C dX8_cell_32 1 rfl rfl ?_
        refine y_iload_n C dX8_cell_33 2 rfl rfl ?_
        refine y_callMvV (k' := 0) (n' := 0) (As := [.int (x1), .int (x2)]) (rest := []) C M cs_X8_379 (met_m_laysMeet G A (sI S 0 0 0) (x1) (x2) _ (h_17)) (wM_0 ..) rfl rfl ⟨rfl, rfl, Nat.le_of_ble_eq_true rfl, Nat.le_of_ble_eq_true rfl⟩ rfl rfl (Nat.le_of_ble_eq_true rfl) dX8_cell_34 ⟨Nat.zero_le _, Nat.zero_le _⟩ rfl rfl (fun S_20 h_19 => ?_)
        refine y_aload_n C dX8_cell_37 0 rfl rfl ?_
        refine yg_X8_376_wM0 C dX8_cell_38 ?_
        exact y_iretM C M N rfl (S := S_20) rfl (h_19) dX8_cell_41
      · have h_21 := (h_14).2 c_16
        refine y_bipush C dX8_cell_28 bpm2 ?_
        exact y_iretM C M N rfl (S := (sI S 0 0 0)) rfl (h_21) dX8_cell_30
/-! OverHillModel longest()I: m_longest -/
abbrev rm_m_longest : Room := { frames := 2, cells := 0, slots := 0, locals := 65 }
def wp_m_longest_b19 (Q : Int32 → St → Prop) : Nat → St → Int32 → Int32 → Prop
  | 0 => fun _ _ _ => False
  | n + 1 => fun S x1 x2 => ((200 ≤ x2 → Q x1 S) ∧ (¬ 200 ≤ x2 → wp_m_walks S (0) (x2) (fun r_12 S_14 => ((r_12 ≤ 1000 → (((r_12 - x2) ≤ x1 → wp_m_longest_b19 Q n S_14 (x1) ((x2 + 1))) ∧ (¬ (r_12 - x2) ≤ x1 → wp_m_longest_b19 Q n S_14 ((r_12 - x2)) ((x2 + 1))))) ∧ (¬ r_12 ≤ 1000 → Q (-1) S_14)))))
def wp_m_longest (S : St) (Q : Int32 → St → Prop) : Prop :=
  wp_m_isDance (sI S 0 0 0) (fun r_1 => ((¬ r_1 = 0 → (∃ z, wp_m_longest_b19 Q z (sI S 0 0 0) (0) (0))) ∧ (r_1 = 0 → Q (-2) (sI S 0 0 0))))
set_option maxRecDepth 100000 in
theorem wk_m_longest_b19 {G : Gx} {K : Kx} {A : Nat → Nat} (C : KOk G K RX8 cX8_longest rm_m_longest 4 (some .int)) {B : Nat → Prop} (M : KM G K B) {Q : Int32 → St → Prop} (N : KQi G K B (wM G A) Q) : ∀ (n : Nat), ∀ (S : St) (x1 : Int32) (x2 : Int32), wp_m_longest_b19 Q n S x1 x2 → Y G K 0 0 (wM G A S) 19 [(0, .ref (A 0)), (1, .int (x1)), (2, .int (x2))] [] := by
  intro n
  induction n with
  | zero => intro S x1 x2 h; exact h.elim
  | succ n ih =>
    intro S x1 x2 h
    dsimp only [wp_m_longest_b19] at h
    refine y_iload_n C dX8_longest_19 2 rfl rfl ?_
    refine y_sipush C dX8_longest_20 sp_200 ?_
    refine y_icmp_ge C (tgt := 63) dX8_longest_23 rfl (fun c_9 => ?_) (fun c_9 => ?_)
    · have h_10 := (h).1 c_9
      refine y_iload_n C dX8_longest_63 1 rfl rfl ?_
      exact y_iretM C M N rfl (S := S) rfl (h_10) dX8_longest_64
    · have h_11 := (h).2 c_9
      refine y_aload_n C dX8_longest_26 0 rfl rfl ?_
      refine y_iconst C dX8_longest_27 ic_0 ?_
      refine y_iload_n C dX8_longest_28 2 rfl rfl ?_
      refine y_callMiV (k' := 0) (n' := 0) (As := [.int (0), .int (x2)]) (rest := []) C M cs_X8_367 (met_m_walks G A S (0) (x2) _ (h_11)) (wM_0 ..) rfl rfl ⟨rfl, rfl, Nat.le_of_ble_eq_true rfl, Nat.le_of_ble_eq_true rfl⟩ rfl rfl (Nat.le_of_ble_eq_true rfl) dX8_longest_29 ⟨Nat.zero_le _, Nat.zero_le _⟩ rfl rfl (fun r_12 S_14 h_13 => ?_)
      refine y_istore_n C dX8_longest_32 rfl (Nat.le_of_ble_eq_true rfl) [(3, .int (r_12)), (0, .ref (A 0)), (1, .int (x1)), (2, .int (x2))] rfl ?_
      refine y_iload_n C dX8_longest_33 0 rfl rfl ?_
      refine y_sipush C dX8_longest_34 sp_1000 ?_
      refine y_icmp_le C (tgt := 42) dX8_longest_37 rfl (fun c_15 => ?_) (fun c_15 => ?_)
      · have h_16 := (h_13).1 c_15
        refine y_iload_n C dX8_longest_42 0 rfl rfl ?_
        refine y_iload_n C dX8_longest_43 3 rfl rfl ?_
        refine y_isub C dX8_longest_44 ?_
        refine y_iload_n C dX8_longest_45 2 rfl rfl ?_
        refine y_icmp_le C (tgt := 55) dX8_longest_46 rfl (fun c_17 => ?_) (fun c_17 => ?_)
        · have h_18 := (h_16).1 c_17
          refine y_iload_n C dX8_longest_55 2 rfl rfl ?_
          refine y_istore_n C dX8_longest_56 rfl (Nat.le_of_ble_eq_true rfl) [(1, .int (x1)), (3, .int (r_12)), (0, .ref (A 0)), (2, .int (x2))] rfl ?_
          refine y_iinc C dX8_longest_57 3 rfl (Nat.le_of_ble_eq_true rfl) (ii_1 _) [(2, .int ((x2 + 1))), (1, .int (x1)), (3, .int (r_12)), (0, .ref (A 0))] rfl ?_
          refine y_goto C (tgt := 19) dX8_longest_60 rfl ?_
          exact Y.sub (ih S_14 (x1) ((x2 + 1)) (h_18)) [3, 1, 0] rfl
        · have h_19 := (h_16).2 c_17
          refine y_iload_n C dX8_longest_49 0 rfl rfl ?_
          refine y_iload_n C dX8_longest_50 3 rfl rfl ?_
          refine y_isub C dX8_longest_51 ?_
          refine y_goto C (tgt := 56) dX8_longest_52 rfl ?_
          refine y_istore_n C dX8_longest_56 rfl (Nat.le_of_ble_eq_true rfl) [(1, .int ((r_12 - x2))), (3, .int (r_12)), (0, .ref (A 0)), (2, .int (x2))] rfl ?_
          refine y_iinc C dX8_longest_57 3 rfl (Nat.le_of_ble_eq_true rfl) (ii_1 _) [(2, .int ((x2 + 1))), (1, .int ((r_12 - x2))), (3, .int (r_12)), (0, .ref (A 0))] rfl ?_
          refine y_goto C (tgt := 19) dX8_longest_60 rfl ?_
          exact Y.sub (ih S_14 ((r_12 - x2)) ((x2 + 1)) (h_19)) [3, 1, 0] rfl
      · have h_20 := (h_13).2 c_15
        refine y_iconst C dX8_longest_40 icm1 ?_
        exact y_iretM C M N rfl (S := S_14) rfl (h_20) dX8_longest_41
set_option maxRecDepth 100000 in
theorem met_m_longest (G : Gx) (A : Nat → Nat) (S : St) (Q : Int32 → St → Prop) (h : wp_m_longest S Q) : Mi G yX8_longest (ws_ yX8_longest cX8_longest 4 (some .int)) rm_m_longest (wM G A S) [.ref (A 0)] (wM G A) Q := by
  refine ent_Mi (by decide +kernel) rfl (Nat.le_of_ble_eq_true rfl) [(0, .ref (A 0))] rfl (fun K B C M N => ?_)
  refine y_aload_n C dX8_longest_0 0 rfl rfl ?_
  refine y_iconst C dX8_longest_1 ic_0 ?_
  refine yp_X8_80_wM0 C M dX8_longest_2 ?_
  refine y_aload_n C dX8_longest_5 0 rfl rfl ?_
  refine y_callRiV (As := []) (rest := []) C cs_X8_254 (met_m_isDance G A (sI S 0 0 0) _ (h)) (fun _ h => h) (wM_0 ..) rfl rfl ⟨rfl, rfl, Nat.le_of_ble_eq_true rfl, Nat.le_of_ble_eq_true rfl⟩ rfl rfl (Nat.le_of_ble_eq_true rfl) dX8_longest_6 ⟨Nat.zero_le _, Nat.zero_le _⟩ (fun r_1 h_2 => ?_)
  refine y_if_ne C (tgt := 15) dX8_longest_9 rfl (fun c_4 => ?_) (fun c_4 => ?_)
  · have h_5 := (h_2).1 c_4
    refine y_iconst C dX8_longest_15 ic_0 ?_
    refine y_istore_n C dX8_longest_16 rfl (Nat.le_of_ble_eq_true rfl) [(1, .int (0)), (0, .ref (A 0))] rfl ?_
    refine y_iconst C dX8_longest_17 ic_0 ?_
    refine y_istore_n C dX8_longest_18 rfl (Nat.le_of_ble_eq_true rfl) [(2, .int (0)), (1, .int (0)), (0, .ref (A 0))] rfl ?_
    obtain ⟨n_6, h_7⟩ := h_5
    exact Y.sub (wk_m_longest_b19 C M N n_6 (sI S 0 0 0) (0) (0) h_7) [2, 1, 0] rfl
  · have h_8 := (h_2).2 c_4
    refine y_bipush C dX8_longest_12 bpm2 ?_
    exact y_iretM C M N rfl (S := (sI S 0 0 0)) rfl (h_8) dX8_longest_14
/-! OverHillModel whyNotHalf(I)I: m_whyNotHalf -/
abbrev rm_m_whyNotHalf : Room := { frames := 3, cells := 0, slots := 0, locals := 85 }
def wp_m_whyNotHalf_b25 (S : St) (Q : Int32 → Prop) (x1 : Int32) : Nat → Int32 → Prop
  | 0 => fun _ => False
  | n + 1 => fun x2 => (vp_in x1 4 ∧ (((S.1 2 (x1).toNatClampNeg) ≤ x2 → Q 0) ∧ (¬ (S.1 2 (x1).toNatClampNeg) ≤ x2 → (vp_in ((60 * x1) + x2) 240 ∧ wp_m_in ((S.2 3 (((60 * x1) + x2)).toNatClampNeg)) ((-1)) (5) (fun r_15 => ((¬ r_15 = 0 → wp_m_whyNotHalf_b25 S Q x1 n ((x2 + 1))) ∧ (r_15 = 0 → Q (-2))))))))
def wp_m_whyNotHalf (S : St) (x1 : Int32) (Q : Int32 → Prop) : Prop :=
  wp_m_isSlot (x1) (fun r_1 => ((¬ r_1 = 0 → (vp_in x1 4 ∧ ((¬ (S.1 1 (x1).toNatClampNeg) = (-1) → (∃ z, wp_m_whyNotHalf_b25 S Q (x1) z (0))) ∧ ((S.1 1 (x1).toNatClampNeg) = (-1) → Q (-6))))) ∧ (r_1 = 0 → Q (-2))))
set_option maxRecDepth 100000 in
theorem wk_m_whyNotHalf_b25 {G : Gx} {K : Kx} {A : Nat → Nat} (C : KOk G K RX8 cX8_whyNotHalf rm_m_whyNotHalf 3 (some .int)) {S : St} {Q : Int32 → Prop} (N : KRi K Q) (x1 : Int32) : ∀ (n : Nat), ∀ (x2 : Int32), wp_m_whyNotHalf_b25 S Q x1 n x2 → Y G K 0 0 (wM G A S) 25 [(0, .ref (A 0)), (1, .int (x1)), (2, .int (x2))] [] := by
  intro n
  induction n with
  | zero => intro x2 h; exact h.elim
  | succ n ih =>
    intro x2 h
    dsimp only [wp_m_whyNotHalf_b25] at h
    refine y_iload_n C dX8_whyNotHalf_25 2 rfl rfl ?_
    refine y_aload_n C dX8_whyNotHalf_26 0 rfl rfl ?_
    refine yg_X8_13_wM0 C dX8_whyNotHalf_27 ?_
    refine y_iload_n C dX8_whyNotHalf_30 1 rfl rfl ?_
    refine y_iald C (wM_2 ..) rfl (h).1 dX8_whyNotHalf_31 ?_
    refine y_icmp_ge C (tgt := 67) dX8_whyNotHalf_32 rfl (fun c_12 => ?_) (fun c_12 => ?_)
    · have h_13 := ((h).2).1 c_12
      refine y_iconst C dX8_whyNotHalf_67 ic_0 ?_
      exact y_iretR C N rfl (h_13) dX8_whyNotHalf_68
    · have h_14 := ((h).2).2 c_12
      refine y_aload_n C dX8_whyNotHalf_35 0 rfl rfl ?_
      refine yg_X8_16_wM0 C dX8_whyNotHalf_36 ?_
      refine y_bipush C dX8_whyNotHalf_39 bp_60 ?_
      refine y_iload_n C dX8_whyNotHalf_41 1 rfl rfl ?_
      refine y_imul C dX8_whyNotHalf_42 ?_
      refine y_iload_n C dX8_whyNotHalf_43 2 rfl rfl ?_
      refine y_iadd C dX8_whyNotHalf_44 ?_
      refine y_lald C (wM_3 ..) rfl (h_14).1 dX8_whyNotHalf_45 ?_
      refine y_ldc2 C dX8_whyNotHalf_46 q1764 ?_
      refine y_ldc2 C dX8_whyNotHalf_49 q1887 ?_
      refine y_callRiS (As := [.long ((S.2 3 (((60 * x1) + x2)).toNatClampNeg)), .long ((-1)), .long (5)]) (rest := []) C cs_X8_85 (met_m_in G ((S.2 3 (((60 * x1) + x2)).toNatClampNeg)) ((-1)) (5) _ ((h_14).2)) (fun _ _ => pw_nil) ⟨rfl, rfl, Nat.le_of_ble_eq_true rfl, Nat.le_of_ble_eq_true rfl⟩ rfl rfl (Nat.le_of_ble_eq_true rfl) dX8_whyNotHalf_52 ⟨Nat.zero_le _, Nat.zero_le _⟩ (fun r_15 h_16 => ?_)
      refine y_if_ne C (tgt := 61) dX8_whyNotHalf_55 rfl (fun c_18 => ?_) (fun c_18 => ?_)
      · have h_19 := (h_16).1 c_18
        refine y_iinc C dX8_whyNotHalf_61 2 rfl (Nat.le_of_ble_eq_true rfl) (ii_1 _) [(2, .int ((x2 + 1))), (0, .ref (A 0)), (1, .int (x1))] rfl ?_
        refine y_goto C (tgt := 25) dX8_whyNotHalf_64 rfl ?_
        exact Y.sub (ih ((x2 + 1)) (h_19)) [1, 2, 0] rfl
      · have h_20 := (h_16).2 c_18
        refine y_bipush C dX8_whyNotHalf_58 bpm2 ?_
        exact y_iretR C N rfl (h_20) dX8_whyNotHalf_60
set_option maxRecDepth 100000 in
theorem met_m_whyNotHalf (G : Gx) (A : Nat → Nat) (S : St) (x1 : Int32) (Q : Int32 → Prop) (h : wp_m_whyNotHalf S x1 Q) : Ri G yX8_whyNotHalf (ws_ yX8_whyNotHalf cX8_whyNotHalf 3 (some .int)) rm_m_whyNotHalf (wM G A S) [.ref (A 0), .int (x1)] Q := by
  refine ent_Ri (by decide +kernel) rfl (Nat.le_of_ble_eq_true rfl) [(0, .ref (A 0)), (1, .int (x1))] rfl (fun K C N => ?_)
  refine y_iload_n C dX8_whyNotHalf_0 1 rfl rfl ?_
  refine y_callRiS (As := [.int (x1)]) (rest := []) C cs_X8_89 (met_m_isSlot G (x1) _ (h)) (fun _ _ => pw_nil) ⟨rfl, rfl, Nat.le_of_ble_eq_true rfl, Nat.le_of_ble_eq_true rfl⟩ rfl rfl (Nat.le_of_ble_eq_true rfl) dX8_whyNotHalf_1 ⟨Nat.zero_le _, Nat.zero_le _⟩ (fun r_1 h_2 => ?_)
  refine y_if_ne C (tgt := 10) dX8_whyNotHalf_4 rfl (fun c_4 => ?_) (fun c_4 => ?_)
  · have h_5 := (h_2).1 c_4
    refine y_aload_n C dX8_whyNotHalf_10 0 rfl rfl ?_
    refine yg_X8_7_wM0 C dX8_whyNotHalf_11 ?_
    refine y_iload_n C dX8_whyNotHalf_14 1 rfl rfl ?_
    refine y_iald C (wM_1 ..) rfl (h_5).1 dX8_whyNotHalf_15 ?_
    refine y_iconst C dX8_whyNotHalf_16 icm1 ?_
    refine y_icmp_ne C (tgt := 23) dX8_whyNotHalf_17 rfl (fun c_6 => ?_) (fun c_6 => ?_)
    · have h_7 := ((h_5).2).1 c_6
      refine y_iconst C dX8_whyNotHalf_23 ic_0 ?_
      refine y_istore_n C dX8_whyNotHalf_24 rfl (Nat.le_of_ble_eq_true rfl) [(2, .int (0)), (0, .ref (A 0)), (1, .int (x1))] rfl ?_
      obtain ⟨n_8, h_9⟩ := h_7
      exact Y.sub (wk_m_whyNotHalf_b25 C N (x1) n_8 (0) h_9) [1, 2, 0] rfl
    · have h_10 := ((h_5).2).2 c_6
      refine y_bipush C dX8_whyNotHalf_20 bpm6 ?_
      exact y_iretR C N rfl (h_10) dX8_whyNotHalf_22
  · have h_11 := (h_2).2 c_4
    refine y_bipush C dX8_whyNotHalf_7 bpm2 ?_
    exact y_iretR C N rfl (h_11) dX8_whyNotHalf_9
/-! OverHillModel isHalf(II)Z: m_isHalf -/
abbrev rm_m_isHalf : Room := { frames := 1, cells := 0, slots := 0, locals := 40 }
def wp_m_isHalf_b82 (Q : Int32 → St → Prop) (x1 : Int32) (x2 : Int32) (K22 : St → Int32 → Prop) (S : St) (x3 : Int32) (x4 : Int32) : Prop :=
  (¬ x2 = 0 ∧ (vp_in (irm x3 x2) 13 ∧ K22 (sI S 16 ((irm x3 x2)).toNatClampNeg x4) ((x3 + 1))))
def wp_m_isHalf_b22 (Q : Int32 → St → Prop) (x1 : Int32) (x2 : Int32) : Nat → St → Int32 → Prop
  | 0 => fun _ _ => False
  | n + 1 => fun S x3 => (vp_in x1 4 ∧ (((S.1 2 (x1).toNatClampNeg) ≤ x3 → Q 1 S) ∧ (¬ (S.1 2 (x1).toNatClampNeg) ≤ x3 → (vp_in ((60 * x1) + x3) 240 ∧ ((¬ ((S.2 3 (((60 * x1) + x3)).toNatClampNeg)).toInt32 = (-1) → (¬ x2 = 0 ∧ (vp_in (irm x3 x2) 13 ∧ (((S.1 16 ((irm x3 x2)).toNatClampNeg) = (-1) → wp_m_isHalf_b82 Q (x1) (x2) (fun Sy y3 => wp_m_isHalf_b22 Q x1 x2 n Sy y3) S (x3) (((S.2 3 (((60 * x1) + x3)).toNatClampNeg)).toInt32)) ∧ (¬ (S.1 16 ((irm x3 x2)).toNatClampNeg) = (-1) → (¬ x2 = 0 ∧ (vp_in (irm x3 x2) 13 ∧ (((S.1 16 ((irm x3 x2)).toNatClampNeg) = ((S.2 3 (((60 * x1) + x3)).toNatClampNeg)).toInt32 → wp_m_isHalf_b82 Q (x1) (x2) (fun Sy y3 => wp_m_isHalf_b22 Q x1 x2 n Sy y3) S (x3) (((S.2 3 (((60 * x1) + x3)).toNatClampNeg)).toInt32)) ∧ (¬ (S.1 16 ((irm x3 x2)).toNatClampNeg) = ((S.2 3 (((60 * x1) + x3)).toNatClampNeg)).toInt32 → Q 0 S))))))))) ∧ (((S.2 3 (((60 * x1) + x3)).toNatClampNeg)).toInt32 = (-1) → wp_m_isHalf_b22 Q x1 x2 n S ((x3 + 1))))))))
def wp_m_isHalf_b2 (Q : Int32 → St → Prop) (x1 : Int32) (x2 : Int32) : Nat → St → Int32 → Prop
  | 0 => fun _ _ => False
  | n + 1 => fun S x3 => ((x2 ≤ x3 → (∃ z, wp_m_isHalf_b22 Q (x1) (x2) z S (0))) ∧ (¬ x2 ≤ x3 → (vp_in x3 13 ∧ wp_m_isHalf_b2 Q x1 x2 n (sI S 16 (x3).toNatClampNeg (-1)) ((x3 + 1)))))
def wp_m_isHalf (S : St) (x1 : Int32) (x2 : Int32) (Q : Int32 → St → Prop) : Prop :=
  (∃ z, wp_m_isHalf_b2 Q (x1) (x2) z S (0))
set_option maxRecDepth 100000 in
theorem wk_m_isHalf_b82 {G : Gx} {K : Kx} {A : Nat → Nat} (C : KOk G K RX8 cX8_isHalf rm_m_isHalf 5 (some .boolean)) {B : Nat → Prop} (M : KM G K B) {Q : Int32 → St → Prop} (N : KQi G K B (wM G A) Q) (x1 : Int32) (x2 : Int32) (K22 : St → Int32 → Prop) (hK22 : ∀ (S : St) (x3 : Int32), K22 S x3 → Y G K 0 0 (wM G A S) 22 [(0, .ref (A 0)), (1, .int (x1)), (2, .int (x2)), (3, .int (x3))] []) (S : St) (x3 : Int32) (x4 : Int32) (h : wp_m_isHalf_b82 Q x1 x2 K22 S x3 x4) : Y G K 0 0 (wM G A S) 82 [(0, .ref (A 0)), (1, .int (x1)), (2, .int (x2)), (3, .int (x3)), (4, .int (x4))] [] := by
  refine y_aload_n C dX8_isHalf_82 0 rfl rfl ?_
  refine yg_X8_62_wM0 C dX8_isHalf_83 ?_
  refine y_iload_n C dX8_isHalf_86 3 rfl rfl ?_
  refine y_iload_n C dX8_isHalf_87 2 rfl rfl ?_
  refine y_irem C dX8_isHalf_88 (h).1 ?_
  refine y_iload C dX8_isHalf_89 4 rfl ?_
  refine y_iast C M (wM_16 ..) rfl (wM_s16 ..) ((h).2).1 dX8_isHalf_91 ?_
  refine y_iinc C dX8_isHalf_92 3 rfl (Nat.le_of_ble_eq_true rfl) (ii_1 _) [(3, .int ((x3 + 1))), (0, .ref (A 0)), (1, .int (x1)), (2, .int (x2)), (4, .int (x4))] rfl ?_
  refine y_goto C (tgt := 22) dX8_isHalf_95 rfl ?_
  exact Y.sub (hK22 (sI S 16 ((irm x3 x2)).toNatClampNeg x4) ((x3 + 1)) (((h).2).2)) [1, 2, 3, 0] rfl
set_option maxRecDepth 100000 in
theorem wk_m_isHalf_b22 {G : Gx} {K : Kx} {A : Nat → Nat} (C : KOk G K RX8 cX8_isHalf rm_m_isHalf 5 (some .boolean)) {B : Nat → Prop} (M : KM G K B) {Q : Int32 → St → Prop} (N : KQi G K B (wM G A) Q) (x1 : Int32) (x2 : Int32) : ∀ (n : Nat), ∀ (S : St) (x3 : Int32), wp_m_isHalf_b22 Q x1 x2 n S x3 → Y G K 0 0 (wM G A S) 22 [(0, .ref (A 0)), (1, .int (x1)), (2, .int (x2)), (3, .int (x3))] [] := by
  intro n
  induction n with
  | zero => intro S x3 h; exact h.elim
  | succ n ih =>
    intro S x3 h
    dsimp only [wp_m_isHalf_b22] at h
    refine y_iload_n C dX8_isHalf_22 3 rfl rfl ?_
    refine y_aload_n C dX8_isHalf_23 0 rfl rfl ?_
    refine yg_X8_13_wM0 C dX8_isHalf_24 ?_
    refine y_iload_n C dX8_isHalf_27 1 rfl rfl ?_
    refine y_iald C (wM_2 ..) rfl (h).1 dX8_isHalf_28 ?_
    refine y_icmp_ge C (tgt := 98) dX8_isHalf_29 rfl (fun c_8 => ?_) (fun c_8 => ?_)
    · have h_9 := ((h).2).1 c_8
      refine y_iconst C dX8_isHalf_98 ic_1 ?_
      exact y_zretM C M N rfl rfl (S := S) rfl (h_9) dX8_isHalf_99
    · have h_10 := ((h).2).2 c_8
      refine y_aload_n C dX8_isHalf_32 0 rfl rfl ?_
      refine yg_X8_16_wM0 C dX8_isHalf_33 ?_
      refine y_bipush C dX8_isHalf_36 bp_60 ?_
      refine y_iload_n C dX8_isHalf_38 1 rfl rfl ?_
      refine y_imul C dX8_isHalf_39 ?_
      refine y_iload_n C dX8_isHalf_40 3 rfl rfl ?_
      refine y_iadd C dX8_isHalf_41 ?_
      refine y_lald C (wM_3 ..) rfl (h_10).1 dX8_isHalf_42 ?_
      refine y_l2i C dX8_isHalf_43 ?_
      refine y_istore C dX8_isHalf_44 (Nat.le_of_ble_eq_true rfl) [(4, .int (((S.2 3 (((60 * x1) + x3)).toNatClampNeg)).toInt32)), (0, .ref (A 0)), (1, .int (x1)), (2, .int (x2)), (3, .int (x3))] rfl ?_
      refine y_iload C dX8_isHalf_46 0 rfl ?_
      refine y_iconst C dX8_isHalf_48 icm1 ?_
      refine y_icmp_ne C (tgt := 55) dX8_isHalf_49 rfl (fun c_11 => ?_) (fun c_11 => ?_)
      · have h_12 := ((h_10).2).1 c_11
        refine y_aload_n C dX8_isHalf_55 1 rfl rfl ?_
        refine yg_X8_62_wM0 C dX8_isHalf_56 ?_
        refine y_iload_n C dX8_isHalf_59 4 rfl rfl ?_
        refine y_iload_n C dX8_isHalf_60 3 rfl rfl ?_
        refine y_irem C dX8_isHalf_61 (h_12).1 ?_
        refine y_iald C (wM_16 ..) rfl ((h_12).2).1 dX8_isHalf_62 ?_
        refine y_iconst C dX8_isHalf_63 icm1 ?_
        refine y_icmp_eq C (tgt := 82) dX8_isHalf_64 rfl (fun c_13 => ?_) (fun c_13 => ?_)
        · have h_14 := (((h_12).2).2).1 c_13
          exact Y.sub (wk_m_isHalf_b82 C M N (x1) (x2) (fun Sy y3 => wp_m_isHalf_b22 Q x1 x2 n Sy y3) ih S (x3) (((S.2 3 (((60 * x1) + x3)).toNatClampNeg)).toInt32) (h_14)) [1, 2, 3, 4, 0] rfl
        · have h_15 := (((h_12).2).2).2 c_13
          refine y_aload_n C dX8_isHalf_67 1 rfl rfl ?_
          refine yg_X8_62_wM0 C dX8_isHalf_68 ?_
          refine y_iload_n C dX8_isHalf_71 4 rfl rfl ?_
          refine y_iload_n C dX8_isHalf_72 3 rfl rfl ?_
          refine y_irem C dX8_isHalf_73 (h_15).1 ?_
          refine y_iald C (wM_16 ..) rfl ((h_15).2).1 dX8_isHalf_74 ?_
          refine y_iload C dX8_isHalf_75 0 rfl ?_
          refine y_icmp_eq C (tgt := 82) dX8_isHalf_77 rfl (fun c_16 => ?_) (fun c_16 => ?_)
          · have h_17 := (((h_15).2).2).1 c_16
            exact Y.sub (wk_m_isHalf_b82 C M N (x1) (x2) (fun Sy y3 => wp_m_isHalf_b22 Q x1 x2 n Sy y3) ih S (x3) (((S.2 3 (((60 * x1) + x3)).toNatClampNeg)).toInt32) (h_17)) [1, 2, 3, 4, 0] rfl
          · have h_18 := (((h_15).2).2).2 c_16
            refine y_iconst C dX8_isHalf_80 ic_0 ?_
            exact y_zretM C M N rfl rfl (S := S) rfl (h_18) dX8_isHalf_81
      · have h_19 := ((h_10).2).2 c_11
        refine y_goto C (tgt := 92) dX8_isHalf_52 rfl ?_
        refine y_iinc C dX8_isHalf_92 4 rfl (Nat.le_of_ble_eq_true rfl) (ii_1 _) [(3, .int ((x3 + 1))), (4, .int (((S.2 3 (((60 * x1) + x3)).toNatClampNeg)).toInt32)), (0, .ref (A 0)), (1, .int (x1)), (2, .int (x2))] rfl ?_
        refine y_goto C (tgt := 22) dX8_isHalf_95 rfl ?_
        exact Y.sub (ih S ((x3 + 1)) (h_19)) [2, 3, 4, 0] rfl
set_option maxRecDepth 100000 in
theorem wk_m_isHalf_b2 {G : Gx} {K : Kx} {A : Nat → Nat} (C : KOk G K RX8 cX8_isHalf rm_m_isHalf 5 (some .boolean)) {B : Nat → Prop} (M : KM G K B) {Q : Int32 → St → Prop} (N : KQi G K B (wM G A) Q) (x1 : Int32) (x2 : Int32) : ∀ (n : Nat), ∀ (S : St) (x3 : Int32), wp_m_isHalf_b2 Q x1 x2 n S x3 → Y G K 0 0 (wM G A S) 2 [(0, .ref (A 0)), (1, .int (x1)), (2, .int (x2)), (3, .int (x3))] [] := by
  intro n
  induction n with
  | zero => intro S x3 h; exact h.elim
  | succ n ih =>
    intro S x3 h
    dsimp only [wp_m_isHalf_b2] at h
    refine y_iload_n C dX8_isHalf_2 3 rfl rfl ?_
    refine y_iload_n C dX8_isHalf_3 2 rfl rfl ?_
    refine y_icmp_ge C (tgt := 20) dX8_isHalf_4 rfl (fun c_3 => ?_) (fun c_3 => ?_)
    · have h_4 := (h).1 c_3
      refine y_iconst C dX8_isHalf_20 ic_0 ?_
      refine y_istore_n C dX8_isHalf_21 rfl (Nat.le_of_ble_eq_true rfl) [(3, .int (0)), (0, .ref (A 0)), (1, .int (x1)), (2, .int (x2))] rfl ?_
      obtain ⟨n_5, h_6⟩ := h_4
      exact Y.sub (wk_m_isHalf_b22 C M N (x1) (x2) n_5 S (0) h_6) [1, 2, 3, 0] rfl
    · have h_7 := (h).2 c_3
      refine y_aload_n C dX8_isHalf_7 0 rfl rfl ?_
      refine yg_X8_62_wM0 C dX8_isHalf_8 ?_
      refine y_iload_n C dX8_isHalf_11 3 rfl rfl ?_
      refine y_iconst C dX8_isHalf_12 icm1 ?_
      refine y_iast C M (wM_16 ..) rfl (wM_s16 ..) (h_7).1 dX8_isHalf_13 ?_
      refine y_iinc C dX8_isHalf_14 3 rfl (Nat.le_of_ble_eq_true rfl) (ii_1 _) [(3, .int ((x3 + 1))), (0, .ref (A 0)), (1, .int (x1)), (2, .int (x2))] rfl ?_
      refine y_goto C (tgt := 2) dX8_isHalf_17 rfl ?_
      exact Y.sub (ih (sI S 16 (x3).toNatClampNeg (-1)) ((x3 + 1)) ((h_7).2)) [1, 2, 3, 0] rfl
set_option maxRecDepth 100000 in
theorem met_m_isHalf (G : Gx) (A : Nat → Nat) (S : St) (x1 : Int32) (x2 : Int32) (Q : Int32 → St → Prop) (h : wp_m_isHalf S x1 x2 Q) : Mi G yX8_isHalf (ws_ yX8_isHalf cX8_isHalf 5 (some .boolean)) rm_m_isHalf (wM G A S) [.ref (A 0), .int (x1), .int (x2)] (wM G A) Q := by
  refine ent_Mi (by decide +kernel) rfl (Nat.le_of_ble_eq_true rfl) [(0, .ref (A 0)), (1, .int (x1)), (2, .int (x2))] rfl (fun K B C M N => ?_)
  refine y_iconst C dX8_isHalf_0 ic_0 ?_
  refine y_istore_n C dX8_isHalf_1 rfl (Nat.le_of_ble_eq_true rfl) [(3, .int (0)), (0, .ref (A 0)), (1, .int (x1)), (2, .int (x2))] rfl ?_
  obtain ⟨n_1, h_2⟩ := h
  exact Y.sub (wk_m_isHalf_b2 C M N (x1) (x2) n_1 S (0) h_2) [1, 2, 3, 0] rfl
/-! OverHillModel halfOf(I)I: m_halfOf -/
abbrev rm_m_halfOf : Room := { frames := 2, cells := 0, slots := 0, locals := 64 }
def wp_m_halfOf_b2 (Q : Int32 → St → Prop) (x1 : Int32) : Nat → St → Int32 → Prop
  | 0 => fun _ _ => False
  | n + 1 => fun S x2 => ((12 < x2 → Q (-1) S) ∧ (¬ 12 < x2 → wp_m_isHalf S (x1) (x2) (fun r_6 S_8 => ((r_6 = 0 → wp_m_halfOf_b2 Q x1 n S_8 ((x2 + 1))) ∧ (¬ r_6 = 0 → Q x2 S_8)))))
def wp_m_halfOf (S : St) (x1 : Int32) (Q : Int32 → St → Prop) : Prop :=
  (∃ z, wp_m_halfOf_b2 Q (x1) z S (1))
set_option maxRecDepth 100000 in
theorem wk_m_halfOf_b2 {G : Gx} {K : Kx} {A : Nat → Nat} (C : KOk G K RX8 cX8_halfOf rm_m_halfOf 3 (some .int)) {B : Nat → Prop} (M : KM G K B) {Q : Int32 → St → Prop} (N : KQi G K B (wM G A) Q) (x1 : Int32) : ∀ (n : Nat), ∀ (S : St) (x2 : Int32), wp_m_halfOf_b2 Q x1 n S x2 → Y G K 0 0 (wM G A S) 2 [(0, .ref (A 0)), (1, .int (x1)), (2, .int (x2))] [] := by
  intro n
  induction n with
  | zero => intro S x2 h; exact h.elim
  | succ n ih =>
    intro S x2 h
    dsimp only [wp_m_halfOf_b2] at h
    refine y_iload_n C dX8_halfOf_2 2 rfl rfl ?_
    refine y_bipush C dX8_halfOf_3 bp_12 ?_
    refine y_icmp_gt C (tgt := 25) dX8_halfOf_5 rfl (fun c_3 => ?_) (fun c_3 => ?_)
    · have h_4 := (h).1 c_3
      refine y_iconst C dX8_halfOf_25 icm1 ?_
      exact y_iretM C M N rfl (S := S) rfl (h_4) dX8_halfOf_26
    · have h_5 := (h).2 c_3
      refine y_aload_n C dX8_halfOf_8 0 rfl rfl ?_
      refine y_iload_n C dX8_halfOf_9 1 rfl rfl ?_
      refine y_iload_n C dX8_halfOf_10 2 rfl rfl ?_
      refine y_callMiV (k' := 0) (n' := 0) (As := [.int (x1), .int (x2)]) (rest := []) C M cs_X8_382 (met_m_isHalf G A S (x1) (x2) _ (h_5)) (wM_0 ..) rfl rfl ⟨rfl, rfl, Nat.le_of_ble_eq_true rfl, Nat.le_of_ble_eq_true rfl⟩ rfl rfl (Nat.le_of_ble_eq_true rfl) dX8_halfOf_11 ⟨Nat.zero_le _, Nat.zero_le _⟩ rfl rfl (fun r_6 S_8 h_7 => ?_)
      refine y_if_eq C (tgt := 19) dX8_halfOf_14 rfl (fun c_9 => ?_) (fun c_9 => ?_)
      · have h_10 := (h_7).1 c_9
        refine y_iinc C dX8_halfOf_19 2 rfl (Nat.le_of_ble_eq_true rfl) (ii_1 _) [(2, .int ((x2 + 1))), (0, .ref (A 0)), (1, .int (x1))] rfl ?_
        refine y_goto C (tgt := 2) dX8_halfOf_22 rfl ?_
        exact Y.sub (ih S_8 ((x2 + 1)) (h_10)) [1, 2, 0] rfl
      · have h_11 := (h_7).2 c_9
        refine y_iload_n C dX8_halfOf_17 2 rfl rfl ?_
        exact y_iretM C M N rfl (S := S_8) rfl (h_11) dX8_halfOf_18
set_option maxRecDepth 100000 in
theorem met_m_halfOf (G : Gx) (A : Nat → Nat) (S : St) (x1 : Int32) (Q : Int32 → St → Prop) (h : wp_m_halfOf S x1 Q) : Mi G yX8_halfOf (ws_ yX8_halfOf cX8_halfOf 3 (some .int)) rm_m_halfOf (wM G A S) [.ref (A 0), .int (x1)] (wM G A) Q := by
  refine ent_Mi (by decide +kernel) rfl (Nat.le_of_ble_eq_true rfl) [(0, .ref (A 0)), (1, .int (x1))] rfl (fun K B C M N => ?_)
  refine y_iconst C dX8_halfOf_0 ic_1 ?_
  refine y_istore_n C dX8_halfOf_1 rfl (Nat.le_of_ble_eq_true rfl) [(2, .int (1)), (0, .ref (A 0)), (1, .int (x1))] rfl ?_
  obtain ⟨n_1, h_2⟩ := h
  exact Y.sub (wk_m_halfOf_b2 C M N (x1) n_1 S (1) h_2) [1, 2, 0] rfl
/-! OverHillModel half(I)I: m_half -/
abbrev rm_m_half : Room := { frames := 4, cells := 0, slots := 0, locals := 107 }
def wp_m_half (S : St) (x1 : Int32) (Q : Int32 → St → Prop) : Prop :=
  wp_m_whyNotHalf (sI S 0 0 0) (x1) (fun r_1 => ((r_1 = 0 → wp_m_halfOf (sI S 0 0 0) (x1) (fun r_6 S_8 => Q r_6 S_8)) ∧ (¬ r_1 = 0 → Q r_1 (sI S 0 0 0))))
set_option maxRecDepth 100000 in
theorem met_m_half (G : Gx) (A : Nat → Nat) (S : St) (x1 : Int32) (Q : Int32 → St → Prop) (h : wp_m_half S x1 Q) : Mi G yX8_half (ws_ yX8_half cX8_half 3 (some .int)) rm_m_half (wM G A S) [.ref (A 0), .int (x1)] (wM G A) Q := by
  refine ent_Mi (by decide +kernel) rfl (Nat.le_of_ble_eq_true rfl) [(0, .ref (A 0)), (1, .int (x1))] rfl (fun K B C M N => ?_)
  refine y_aload_n C dX8_half_0 0 rfl rfl ?_
  refine y_iconst C dX8_half_1 ic_0 ?_
  refine yp_X8_80_wM0 C M dX8_half_2 ?_
  refine y_aload_n C dX8_half_5 0 rfl rfl ?_
  refine y_iload_n C dX8_half_6 1 rfl rfl ?_
  refine y_callRiV (As := [.int (x1)]) (rest := []) C cs_X8_385 (met_m_whyNotHalf G A (sI S 0 0 0) (x1) _ (h)) (fun _ h => h) (wM_0 ..) rfl rfl ⟨rfl, rfl, Nat.le_of_ble_eq_true rfl, Nat.le_of_ble_eq_true rfl⟩ rfl rfl (Nat.le_of_ble_eq_true rfl) dX8_half_7 ⟨Nat.zero_le _, Nat.zero_le _⟩ (fun r_1 h_2 => ?_)
  refine y_istore_n C dX8_half_10 rfl (Nat.le_of_ble_eq_true rfl) [(2, .int (r_1)), (0, .ref (A 0)), (1, .int (x1))] rfl ?_
  refine y_iload_n C dX8_half_11 0 rfl rfl ?_
  refine y_if_eq C (tgt := 19) dX8_half_12 rfl (fun c_4 => ?_) (fun c_4 => ?_)
  · have h_5 := (h_2).1 c_4
    refine y_aload_n C dX8_half_19 1 rfl rfl ?_
    refine y_iload_n C dX8_half_20 2 rfl rfl ?_
    refine y_callMiV (k' := 0) (n' := 0) (As := [.int (x1)]) (rest := []) C M cs_X8_388 (met_m_halfOf G A (sI S 0 0 0) (x1) _ (h_5)) (wM_0 ..) rfl rfl ⟨rfl, rfl, Nat.le_of_ble_eq_true rfl, Nat.le_of_ble_eq_true rfl⟩ rfl rfl (Nat.le_of_ble_eq_true rfl) dX8_half_21 ⟨Nat.zero_le _, Nat.zero_le _⟩ rfl rfl (fun r_6 S_8 h_7 => ?_)
    exact y_iretM C M N rfl (S := S_8) rfl (h_7) dX8_half_24
  · have h_9 := (h_2).2 c_4
    refine y_iload_n C dX8_half_15 0 rfl rfl ?_
    refine y_goto C (tgt := 24) dX8_half_16 rfl ?_
    exact y_iretM C M N rfl (S := (sI S 0 0 0)) rfl (h_9) dX8_half_24
/-! OverHillModel fills(II)I: m_fills -/
abbrev rm_m_fills : Room := { frames := 4, cells := 0, slots := 0, locals := 107 }
def wp_m_fills (S : St) (x1 : Int32) (x2 : Int32) (Q : Int32 → St → Prop) : Prop :=
  wp_m_whyNotHalf (sI S 0 0 0) (x1) (fun r_1 => ((r_1 = 0 → wp_m_halfOf (sI S 0 0 0) (x1) (fun r_6 S_8 => wp_m_in ((x2).toInt64) (0) (((r_6 - 1)).toInt64) (fun r_9 => ((r_9 = 0 → Q (-1) S_8) ∧ (¬ r_9 = 0 → (vp_in x2 13 ∧ Q (S_8.1 16 (x2).toNatClampNeg) S_8)))))) ∧ (¬ r_1 = 0 → Q r_1 (sI S 0 0 0))))
set_option maxRecDepth 100000 in
theorem met_m_fills (G : Gx) (A : Nat → Nat) (S : St) (x1 : Int32) (x2 : Int32) (Q : Int32 → St → Prop) (h : wp_m_fills S x1 x2 Q) : Mi G yX8_fills (ws_ yX8_fills cX8_fills 4 (some .int)) rm_m_fills (wM G A S) [.ref (A 0), .int (x1), .int (x2)] (wM G A) Q := by
  refine ent_Mi (by decide +kernel) rfl (Nat.le_of_ble_eq_true rfl) [(0, .ref (A 0)), (1, .int (x1)), (2, .int (x2))] rfl (fun K B C M N => ?_)
  refine y_aload_n C dX8_fills_0 0 rfl rfl ?_
  refine y_iconst C dX8_fills_1 ic_0 ?_
  refine yp_X8_80_wM0 C M dX8_fills_2 ?_
  refine y_aload_n C dX8_fills_5 0 rfl rfl ?_
  refine y_iload_n C dX8_fills_6 1 rfl rfl ?_
  refine y_callRiV (As := [.int (x1)]) (rest := []) C cs_X8_385 (met_m_whyNotHalf G A (sI S 0 0 0) (x1) _ (h)) (fun _ h => h) (wM_0 ..) rfl rfl ⟨rfl, rfl, Nat.le_of_ble_eq_true rfl, Nat.le_of_ble_eq_true rfl⟩ rfl rfl (Nat.le_of_ble_eq_true rfl) dX8_fills_7 ⟨Nat.zero_le _, Nat.zero_le _⟩ (fun r_1 h_2 => ?_)
  refine y_istore_n C dX8_fills_10 rfl (Nat.le_of_ble_eq_true rfl) [(3, .int (r_1)), (0, .ref (A 0)), (1, .int (x1)), (2, .int (x2))] rfl ?_
  refine y_iload_n C dX8_fills_11 0 rfl rfl ?_
  refine y_if_eq C (tgt := 17) dX8_fills_12 rfl (fun c_4 => ?_) (fun c_4 => ?_)
  · have h_5 := (h_2).1 c_4
    refine y_iload_n C dX8_fills_17 3 rfl rfl ?_
    refine y_i2l C dX8_fills_18 rfl ?_
    refine y_lconst C dX8_fills_19 lc_0 ?_
    refine y_aload_n C dX8_fills_20 1 rfl rfl ?_
    refine y_iload_n C dX8_fills_21 2 rfl rfl ?_
    refine y_callMiV (k' := 0) (n' := 0) (As := [.int (x1)]) (rest := [.long (0), .long ((x2).toInt64)]) C M cs_X8_388 (met_m_halfOf G A (sI S 0 0 0) (x1) _ (h_5)) (wM_0 ..) rfl rfl ⟨rfl, rfl, Nat.le_of_ble_eq_true rfl, Nat.le_of_ble_eq_true rfl⟩ rfl rfl (Nat.le_of_ble_eq_true rfl) dX8_fills_22 ⟨Nat.zero_le _, Nat.zero_le _⟩ rfl rfl (fun r_6 S_8 h_7 => ?_)
    refine y_iconst C dX8_fills_25 ic_1 ?_
    refine y_isub C dX8_fills_26 ?_
    refine y_i2l C dX8_fills_27 rfl ?_
    refine y_callRiS (As := [.long ((x2).toInt64), .long (0), .long (((r_6 - 1)).toInt64)]) (rest := []) C cs_X8_85 (met_m_in G ((x2).toInt64) (0) (((r_6 - 1)).toInt64) _ (h_7)) (fun _ _ => pw_nil) ⟨rfl, rfl, Nat.le_of_ble_eq_true rfl, Nat.le_of_ble_eq_true rfl⟩ rfl rfl (Nat.le_of_ble_eq_true rfl) dX8_fills_28 ⟨Nat.zero_le _, Nat.zero_le _⟩ (fun r_9 h_10 => ?_)
    refine y_if_eq C (tgt := 43) dX8_fills_31 rfl (fun c_12 => ?_) (fun c_12 => ?_)
    · have h_13 := (h_10).1 c_12
      refine y_iconst C dX8_fills_43 icm1 ?_
      exact y_iretM C M N rfl (S := S_8) rfl (h_13) dX8_fills_44
    · have h_14 := (h_10).2 c_12
      refine y_aload_n C dX8_fills_34 1 rfl rfl ?_
      refine yg_X8_62_wM0 C dX8_fills_35 ?_
      refine y_iload_n C dX8_fills_38 3 rfl rfl ?_
      refine y_iald C (wM_16 ..) rfl (h_14).1 dX8_fills_39 ?_
      refine y_goto C (tgt := 44) dX8_fills_40 rfl ?_
      exact y_iretM C M N rfl (S := S_8) rfl ((h_14).2) dX8_fills_44
  · have h_15 := (h_2).2 c_4
    refine y_iload_n C dX8_fills_15 0 rfl rfl ?_
    exact y_iretM C M N rfl (S := (sI S 0 0 0)) rfl (h_15) dX8_fills_16
/-! OverHillModel open(I)I: m_open -/
abbrev rm_m_open : Room := { frames := 4, cells := 0, slots := 0, locals := 107 }
def wp_m_open_b36 (Q : Int32 → St → Prop) : Nat → St → Int32 → Int32 → Int32 → Prop
  | 0 => fun _ _ _ _ => False
  | n + 1 => fun S x3 x4 x5 => ((x3 ≤ x5 → Q x4 S) ∧ (¬ x3 ≤ x5 → (vp_in x5 13 ∧ ((¬ (S.1 16 (x5).toNatClampNeg) = (-1) → wp_m_open_b36 Q n S (x3) ((x4 + 0)) ((x5 + 1))) ∧ ((S.1 16 (x5).toNatClampNeg) = (-1) → wp_m_open_b36 Q n S (x3) ((x4 + 1)) ((x5 + 1)))))))
def wp_m_open (S : St) (x1 : Int32) (Q : Int32 → St → Prop) : Prop :=
  wp_m_whyNotHalf (sI S 0 0 0) (x1) (fun r_1 => ((r_1 = 0 → wp_m_halfOf (sI S 0 0 0) (x1) (fun r_6 S_8 => ((¬ r_6 = (-1) → (∃ z, wp_m_open_b36 Q z S_8 (r_6) (0) (0))) ∧ (r_6 = (-1) → Q (-1) S_8)))) ∧ (¬ r_1 = 0 → Q r_1 (sI S 0 0 0))))
set_option maxRecDepth 100000 in
theorem wk_m_open_b36 {G : Gx} {K : Kx} {A : Nat → Nat} (C : KOk G K RX8 cX8_open rm_m_open 6 (some .int)) {B : Nat → Prop} (M : KM G K B) {Q : Int32 → St → Prop} (N : KQi G K B (wM G A) Q) : ∀ (n : Nat), ∀ (S : St) (x3 : Int32) (x4 : Int32) (x5 : Int32), wp_m_open_b36 Q n S x3 x4 x5 → Y G K 0 0 (wM G A S) 36 [(0, .ref (A 0)), (3, .int (x3)), (4, .int (x4)), (5, .int (x5))] [] := by
  intro n
  induction n with
  | zero => intro S x3 x4 x5 h; exact h.elim
  | succ n ih =>
    intro S x3 x4 x5 h
    dsimp only [wp_m_open_b36] at h
    refine y_iload C dX8_open_36 3 rfl ?_
    refine y_iload_n C dX8_open_38 1 rfl rfl ?_
    refine y_icmp_ge C (tgt := 69) dX8_open_39 rfl (fun c_15 => ?_) (fun c_15 => ?_)
    · have h_16 := (h).1 c_15
      refine y_iload C dX8_open_69 2 rfl ?_
      exact y_iretM C M N rfl (S := S) rfl (h_16) dX8_open_71
    · have h_17 := (h).2 c_15
      refine y_iload C dX8_open_42 2 rfl ?_
      refine y_aload_n C dX8_open_44 0 rfl rfl ?_
      refine yg_X8_62_wM0 C dX8_open_45 ?_
      refine y_iload C dX8_open_48 3 rfl ?_
      refine y_iald C (wM_16 ..) rfl (h_17).1 dX8_open_50 ?_
      refine y_iconst C dX8_open_51 icm1 ?_
      refine y_icmp_ne C (tgt := 59) dX8_open_52 rfl (fun c_18 => ?_) (fun c_18 => ?_)
      · have h_19 := ((h_17).2).1 c_18
        refine y_iconst C dX8_open_59 ic_0 ?_
        refine y_iadd C dX8_open_60 ?_
        refine y_istore C dX8_open_61 (Nat.le_of_ble_eq_true rfl) [(4, .int ((x4 + 0))), (0, .ref (A 0)), (3, .int (x3)), (5, .int (x5))] rfl ?_
        refine y_iinc C dX8_open_63 3 rfl (Nat.le_of_ble_eq_true rfl) (ii_1 _) [(5, .int ((x5 + 1))), (4, .int ((x4 + 0))), (0, .ref (A 0)), (3, .int (x3))] rfl ?_
        refine y_goto C (tgt := 36) dX8_open_66 rfl ?_
        exact Y.sub (ih S (x3) ((x4 + 0)) ((x5 + 1)) (h_19)) [2, 3, 1, 0] rfl
      · have h_20 := ((h_17).2).2 c_18
        refine y_iconst C dX8_open_55 ic_1 ?_
        refine y_goto C (tgt := 60) dX8_open_56 rfl ?_
        refine y_iadd C dX8_open_60 ?_
        refine y_istore C dX8_open_61 (Nat.le_of_ble_eq_true rfl) [(4, .int ((x4 + 1))), (0, .ref (A 0)), (3, .int (x3)), (5, .int (x5))] rfl ?_
        refine y_iinc C dX8_open_63 3 rfl (Nat.le_of_ble_eq_true rfl) (ii_1 _) [(5, .int ((x5 + 1))), (4, .int ((x4 + 1))), (0, .ref (A 0)), (3, .int (x3))] rfl ?_
        refine y_goto C (tgt := 36) dX8_open_66 rfl ?_
        exact Y.sub (ih S (x3) ((x4 + 1)) ((x5 + 1)) (h_20)) [2, 3, 1, 0] rfl
set_option maxRecDepth 100000 in
theorem met_m_open (G : Gx) (A : Nat → Nat) (S : St) (x1 : Int32) (Q : Int32 → St → Prop) (h : wp_m_open S x1 Q) : Mi G yX8_open (ws_ yX8_open cX8_open 6 (some .int)) rm_m_open (wM G A S) [.ref (A 0), .int (x1)] (wM G A) Q := by
  refine ent_Mi (by decide +kernel) rfl (Nat.le_of_ble_eq_true rfl) [(0, .ref (A 0)), (1, .int (x1))] rfl (fun K B C M N => ?_)
  refine y_aload_n C dX8_open_0 0 rfl rfl ?_
  refine y_iconst C dX8_open_1 ic_0 ?_
  refine yp_X8_80_wM0 C M dX8_open_2 ?_
  refine y_aload_n C dX8_open_5 0 rfl rfl ?_
  refine y_iload_n C dX8_open_6 1 rfl rfl ?_
  refine y_callRiV (As := [.int (x1)]) (rest := []) C cs_X8_385 (met_m_whyNotHalf G A (sI S 0 0 0) (x1) _ (h)) (fun _ h => h) (wM_0 ..) rfl rfl ⟨rfl, rfl, Nat.le_of_ble_eq_true rfl, Nat.le_of_ble_eq_true rfl⟩ rfl rfl (Nat.le_of_ble_eq_true rfl) dX8_open_7 ⟨Nat.zero_le _, Nat.zero_le _⟩ (fun r_1 h_2 => ?_)
  refine y_istore_n C dX8_open_10 rfl (Nat.le_of_ble_eq_true rfl) [(2, .int (r_1)), (0, .ref (A 0)), (1, .int (x1))] rfl ?_
  refine y_iload_n C dX8_open_11 0 rfl rfl ?_
  refine y_if_eq C (tgt := 17) dX8_open_12 rfl (fun c_4 => ?_) (fun c_4 => ?_)
  · have h_5 := (h_2).1 c_4
    refine y_aload_n C dX8_open_17 1 rfl rfl ?_
    refine y_iload_n C dX8_open_18 2 rfl rfl ?_
    refine y_callMiV (k' := 0) (n' := 0) (As := [.int (x1)]) (rest := []) C M cs_X8_388 (met_m_halfOf G A (sI S 0 0 0) (x1) _ (h_5)) (wM_0 ..) rfl rfl ⟨rfl, rfl, Nat.le_of_ble_eq_true rfl, Nat.le_of_ble_eq_true rfl⟩ rfl rfl (Nat.le_of_ble_eq_true rfl) dX8_open_19 ⟨Nat.zero_le _, Nat.zero_le _⟩ rfl rfl (fun r_6 S_8 h_7 => ?_)
    refine y_istore_n C dX8_open_22 rfl (Nat.le_of_ble_eq_true rfl) [(3, .int (r_6)), (2, .int (r_1)), (0, .ref (A 0)), (1, .int (x1))] rfl ?_
    refine y_iload_n C dX8_open_23 0 rfl rfl ?_
    refine y_iconst C dX8_open_24 icm1 ?_
    refine y_icmp_ne C (tgt := 30) dX8_open_25 rfl (fun c_9 => ?_) (fun c_9 => ?_)
    · have h_10 := (h_7).1 c_9
      refine y_iconst C dX8_open_30 ic_0 ?_
      refine y_istore C dX8_open_31 (Nat.le_of_ble_eq_true rfl) [(4, .int (0)), (3, .int (r_6)), (2, .int (r_1)), (0, .ref (A 0)), (1, .int (x1))] rfl ?_
      refine y_iconst C dX8_open_33 ic_0 ?_
      refine y_istore C dX8_open_34 (Nat.le_of_ble_eq_true rfl) [(5, .int (0)), (4, .int (0)), (3, .int (r_6)), (2, .int (r_1)), (0, .ref (A 0)), (1, .int (x1))] rfl ?_
      obtain ⟨n_11, h_12⟩ := h_10
      exact Y.sub (wk_m_open_b36 C M N n_11 S_8 (r_6) (0) (0) h_12) [4, 2, 1, 0] rfl
    · have h_13 := (h_7).2 c_9
      refine y_iconst C dX8_open_28 icm1 ?_
      exact y_iretM C M N rfl (S := S_8) rfl (h_13) dX8_open_29
  · have h_14 := (h_2).2 c_4
    refine y_iload_n C dX8_open_15 0 rfl rfl ?_
    exact y_iretM C M N rfl (S := (sI S 0 0 0)) rfl (h_14) dX8_open_16
/-! OverHillModel isSet(I)Z: m_isSet -/
abbrev rm_m_isSet : Room := { frames := 2, cells := 0, slots := 0, locals := 65 }
def wp_m_isSet (S : St) (x1 : Int32) (Q : Int32 → Prop) : Prop :=
  wp_m_isDance S (fun r_1 => ((r_1 = 0 → Q 0) ∧ (¬ r_1 = 0 → wp_m_in ((x1).toInt64) (0) ((((1 <<< ((S.1 7 9) &&& 31)) - 1)).toInt64) (fun r_7 => ((r_7 = 0 → Q 0) ∧ (¬ r_7 = 0 → Q 1))))))
set_option maxRecDepth 100000 in
theorem met_m_isSet (G : Gx) (A : Nat → Nat) (S : St) (x1 : Int32) (Q : Int32 → Prop) (h : wp_m_isSet S x1 Q) : Ri G yX8_isSet (ws_ yX8_isSet cX8_isSet 2 (some .boolean)) rm_m_isSet (wM G A S) [.ref (A 0), .int (x1)] Q := by
  refine ent_Ri (by decide +kernel) rfl (Nat.le_of_ble_eq_true rfl) [(0, .ref (A 0)), (1, .int (x1))] rfl (fun K C N => ?_)
  refine y_aload_n C dX8_isSet_0 0 rfl rfl ?_
  refine y_callRiV (As := []) (rest := []) C cs_X8_254 (met_m_isDance G A S _ (h)) (fun _ h => h) (wM_0 ..) rfl rfl ⟨rfl, rfl, Nat.le_of_ble_eq_true rfl, Nat.le_of_ble_eq_true rfl⟩ rfl rfl (Nat.le_of_ble_eq_true rfl) dX8_isSet_1 ⟨Nat.zero_le _, Nat.zero_le _⟩ (fun r_1 h_2 => ?_)
  refine y_if_eq C (tgt := 32) dX8_isSet_4 rfl (fun c_4 => ?_) (fun c_4 => ?_)
  · have h_5 := (h_2).1 c_4
    refine y_iconst C dX8_isSet_32 ic_0 ?_
    exact y_zretR C N rfl rfl (h_5) dX8_isSet_33
  · have h_6 := (h_2).2 c_4
    refine y_iload_n C dX8_isSet_7 1 rfl rfl ?_
    refine y_i2l C dX8_isSet_8 rfl ?_
    refine y_lconst C dX8_isSet_9 lc_0 ?_
    refine y_iconst C dX8_isSet_10 ic_1 ?_
    refine y_aload_n C dX8_isSet_11 0 rfl rfl ?_
    refine yg_X8_34_wM0 C dX8_isSet_12 ?_
    refine y_bipush C dX8_isSet_15 bp_9 ?_
    refine y_iald C (wM_7 ..) tn_9 vi_9_55 dX8_isSet_17 ?_
    refine y_ishl C dX8_isSet_18 ?_
    refine y_iconst C dX8_isSet_19 ic_1 ?_
    refine y_isub C dX8_isSet_20 ?_
    refine y_i2l C dX8_isSet_21 rfl ?_
    refine y_callRiS (As := [.long ((x1).toInt64), .long (0), .long ((((1 <<< ((S.1 7 9) &&& 31)) - 1)).toInt64)]) (rest := []) C cs_X8_85 (met_m_in G ((x1).toInt64) (0) ((((1 <<< ((S.1 7 9) &&& 31)) - 1)).toInt64) _ (h_6)) (fun _ _ => pw_nil) ⟨rfl, rfl, Nat.le_of_ble_eq_true rfl, Nat.le_of_ble_eq_true rfl⟩ rfl rfl (Nat.le_of_ble_eq_true rfl) dX8_isSet_22 ⟨Nat.zero_le _, Nat.zero_le _⟩ (fun r_7 h_8 => ?_)
    refine y_if_eq C (tgt := 32) dX8_isSet_25 rfl (fun c_10 => ?_) (fun c_10 => ?_)
    · have h_11 := (h_8).1 c_10
      refine y_iconst C dX8_isSet_32 ic_0 ?_
      exact y_zretR C N rfl rfl (h_11) dX8_isSet_33
    · have h_12 := (h_8).2 c_10
      refine y_iconst C dX8_isSet_28 ic_1 ?_
      refine y_goto C (tgt := 33) dX8_isSet_29 rfl ?_
      exact y_zretR C N rfl rfl (h_12) dX8_isSet_33
/-! OverHillModel commonLong(JJ)J: m_commonLong -/
abbrev rm_m_commonLong (d : Nat) : Room := { frames := 1 + d, cells := 0, slots := 0, locals := 40 + 34 * d }
def wp_m_commonLong_e (Rec : Int64 → Int64 → (Int64 → Prop) → Prop) (x0 : Int64) (x2 : Int64) (Q : Int64 → Prop) : Prop :=
  ((¬ (lg_cmp x2 0) = 0 → (¬ x2 = 0 ∧ Rec (x2) ((lrm x0 x2)) (fun r_3 => Q r_3))) ∧ ((lg_cmp x2 0) = 0 → Q x0))
def wp_m_commonLong : Nat → Int64 → Int64 → (Int64 → Prop) → Prop
  | 0 => fun _ _ _ => False
  | d + 1 => wp_m_commonLong_e (wp_m_commonLong d)
theorem rmr_m_commonLong (d : Nat) : (rm_m_commonLong d).cells = 0 ∧ (rm_m_commonLong d).slots = 0 ∧ (rm_m_commonLong d).frames + 1 ≤ (rm_m_commonLong (d + 1)).frames ∧ 8 + (4 + 11) + (rm_m_commonLong d).locals ≤ (rm_m_commonLong (d + 1)).locals := ⟨rfl, rfl, by simp only [rm_m_commonLong]; omega, by simp only [rm_m_commonLong]; omega⟩
set_option maxRecDepth 100000 in
theorem mez_m_commonLong (G : Gx) {d : Nat} {Rec : Int64 → Int64 → (Int64 → Prop) → Prop} (hRec : ∀ (x0 : Int64) (x2 : Int64) (Q : Int64 → Prop), Rec x0 x2 Q → Rl G yX8_commonLong (ws_ yX8_commonLong cX8_commonLong 4 (some .long)) (rm_m_commonLong d) [] [.long (x0), .long (x2)] Q) (x0 : Int64) (x2 : Int64) (Q : Int64 → Prop) (h : wp_m_commonLong_e Rec x0 x2 Q) : Rl G yX8_commonLong (ws_ yX8_commonLong cX8_commonLong 4 (some .long)) (rm_m_commonLong (d + 1)) [] [.long (x0), .long (x2)] Q := by
  refine ent_Rl (by decide +kernel) rfl (Nat.le_of_ble_eq_true rfl) [(0, .long (x0)), (2, .long (x2))] rfl (fun K C N => ?_)
  refine y_lload_n C dX8_commonLong_0 1 rfl rfl ?_
  refine y_lconst C dX8_commonLong_1 lc_0 ?_
  refine y_lcmp C dX8_commonLong_2 ?_
  refine y_if_ne C (tgt := 10) dX8_commonLong_3 rfl (fun c_1 => ?_) (fun c_1 => ?_)
  · have h_2 := (h).1 c_1
    refine y_lload_n C dX8_commonLong_10 1 rfl rfl ?_
    refine y_lload_n C dX8_commonLong_11 0 rfl rfl ?_
    refine y_lload_n C dX8_commonLong_12 1 rfl rfl ?_
    refine y_lrem C dX8_commonLong_13 (h_2).1 ?_
    refine y_callRlS (As := [.long (x2), .long ((lrm x0 x2))]) (rest := []) C cs_X8_318 (hRec (x2) ((lrm x0 x2)) _ ((h_2).2)) (fun _ h => h) (rmr_m_commonLong d) rfl rfl (Nat.le_of_ble_eq_true rfl) dX8_commonLong_14 ⟨Nat.zero_le _, Nat.zero_le _⟩ (fun r_3 h_4 => ?_)
    exact y_lretR C N rfl (h_4) dX8_commonLong_17
  · have h_6 := (h).2 c_1
    refine y_lload_n C dX8_commonLong_6 0 rfl rfl ?_
    refine y_goto C (tgt := 17) dX8_commonLong_7 rfl ?_
    exact y_lretR C N rfl (h_6) dX8_commonLong_17
set_option maxRecDepth 100000 in
theorem met_m_commonLong (G : Gx) (d : Nat) : ∀ (x0 : Int64) (x2 : Int64) (Q : Int64 → Prop), wp_m_commonLong d x0 x2 Q → Rl G yX8_commonLong (ws_ yX8_commonLong cX8_commonLong 4 (some .long)) (rm_m_commonLong d) [] [.long (x0), .long (x2)] Q := by
  induction d with
  | zero => intro x0 x2 Q h; exact h.elim
  | succ d ih => intro x0 x2 Q h; exact mez_m_commonLong G (d := d) ih x0 x2 Q h
/-! OverHillModel togetherOf(II)J: m_togetherOf -/
abbrev rm_m_togetherOf : Room := { frames := 102, cells := 0, slots := 0, locals := 3463 }
def wp_m_togetherOf_b89 (S : St) (Q : Int64 → Prop) (x1 : Int32) (K9 : Int64 → Int64 → Int32 → Prop) (x3 : Int64) (x5 : Int64) (x7 : Int32) : Prop :=
  (vp_in (2 * x7) 50 ∧ (¬ ((S.1 13 ((2 * x7)).toNatClampNeg)).toInt64 = 0 ∧ (vp_in ((2 * x7) + 1) 50 ∧ (((lg_cmp (lrm x3 ((S.1 13 ((2 * x7)).toNatClampNeg)).toInt64) ((S.1 13 (((2 * x7) + 1)).toNatClampNeg)).toInt64) = 0 → (vp_in (2 * x7) 50 ∧ wp_m_commonLong 100 (x5) (((S.1 13 ((2 * x7)).toNatClampNeg)).toInt64) (fun r_22 => (¬ r_22 = 0 ∧ (vp_in (2 * x7) 50 ∧ K9 (x3) (((x5 / r_22) * ((S.1 13 ((2 * x7)).toNatClampNeg)).toInt64)) ((x7 + 1))))))) ∧ (¬ (lg_cmp (lrm x3 ((S.1 13 ((2 * x7)).toNatClampNeg)).toInt64) ((S.1 13 (((2 * x7) + 1)).toNatClampNeg)).toInt64) = 0 → Q (-1))))))
def wp_m_togetherOf_b36 (S : St) (Q : Int64 → Prop) (x1 : Int32) (K9 : Int64 → Int64 → Int32 → Prop) : Nat → Int64 → Int64 → Int32 → Int32 → Prop
  | 0 => fun _ _ _ _ => False
  | n + 1 => fun x3 x5 x7 x8 => (vp_in (2 * x7) 50 ∧ (¬ ((S.1 13 ((2 * x7)).toNatClampNeg)).toInt64 = 0 ∧ (vp_in ((2 * x7) + 1) 50 ∧ (((lg_cmp (lrm x3 ((S.1 13 ((2 * x7)).toNatClampNeg)).toInt64) ((S.1 13 (((2 * x7) + 1)).toNatClampNeg)).toInt64) = 0 → wp_m_togetherOf_b89 S Q (x1) K9 (x3) (x5) (x7)) ∧ (¬ (lg_cmp (lrm x3 ((S.1 13 ((2 * x7)).toNatClampNeg)).toInt64) ((S.1 13 (((2 * x7) + 1)).toNatClampNeg)).toInt64) = 0 → (vp_in (2 * x7) 50 ∧ (((S.1 13 ((2 * x7)).toNatClampNeg) ≤ x8 → wp_m_togetherOf_b89 S Q (x1) K9 (x3) (x5) (x7)) ∧ (¬ (S.1 13 ((2 * x7)).toNatClampNeg) ≤ x8 → wp_m_togetherOf_b36 S Q x1 K9 n ((x3 + x5)) (x5) (x7) ((x8 + 1))))))))))
def wp_m_togetherOf_b9 (S : St) (Q : Int64 → Prop) (x1 : Int32) : Nat → Int64 → Int64 → Int32 → Prop
  | 0 => fun _ _ _ => False
  | n + 1 => fun x3 x5 x7 => (((S.1 7 9) ≤ x7 → Q x3) ∧ (¬ (S.1 7 9) ≤ x7 → wp_m_isBit (x1) (x7) (fun r_6 => ((¬ r_6 = 0 → (∃ z, wp_m_togetherOf_b36 S Q (x1) (fun y3 y5 y7 => wp_m_togetherOf_b9 S Q x1 n y3 y5 y7) z (x3) (x5) (x7) (0))) ∧ (r_6 = 0 → wp_m_togetherOf_b9 S Q x1 n (x3) (x5) ((x7 + 1)))))))
def wp_m_togetherOf (S : St) (x1 : Int32) (x2 : Int32) (Q : Int64 → Prop) : Prop :=
  (∃ z, wp_m_togetherOf_b9 S Q (x1) z ((x2).toInt64) (1) (0))
set_option maxRecDepth 100000 in
theorem wk_m_togetherOf_b89 {G : Gx} {K : Kx} {A : Nat → Nat} (C : KOk G K RX8 cX8_togetherOf rm_m_togetherOf 9 (some .long)) {S : St} {Q : Int64 → Prop} (N : KRl K Q) (x1 : Int32) (K9 : Int64 → Int64 → Int32 → Prop) (hK9 : ∀ (x3 : Int64) (x5 : Int64) (x7 : Int32), K9 x3 x5 x7 → Y G K 0 0 (wM G A S) 9 [(0, .ref (A 0)), (1, .int (x1)), (3, .long (x3)), (5, .long (x5)), (7, .int (x7))] []) (x3 : Int64) (x5 : Int64) (x7 : Int32) (h : wp_m_togetherOf_b89 S Q x1 K9 x3 x5 x7) : Y G K 0 0 (wM G A S) 89 [(0, .ref (A 0)), (1, .int (x1)), (3, .long (x3)), (5, .long (x5)), (7, .int (x7))] [] := by
  refine y_lload_n C dX8_togetherOf_89 2 rfl rfl ?_
  refine y_aload_n C dX8_togetherOf_90 0 rfl rfl ?_
  refine yg_X8_53_wM0 C dX8_togetherOf_91 ?_
  refine y_iconst C dX8_togetherOf_94 ic_2 ?_
  refine y_iload C dX8_togetherOf_95 4 rfl ?_
  refine y_imul C dX8_togetherOf_97 ?_
  refine y_iald C (wM_13 ..) rfl (h).1 dX8_togetherOf_98 ?_
  refine y_i2l C dX8_togetherOf_99 rfl ?_
  refine y_lrem C dX8_togetherOf_100 ((h).2).1 ?_
  refine y_aload_n C dX8_togetherOf_101 0 rfl rfl ?_
  refine yg_X8_53_wM0 C dX8_togetherOf_102 ?_
  refine y_iconst C dX8_togetherOf_105 ic_2 ?_
  refine y_iload C dX8_togetherOf_106 4 rfl ?_
  refine y_imul C dX8_togetherOf_108 ?_
  refine y_iconst C dX8_togetherOf_109 ic_1 ?_
  refine y_iadd C dX8_togetherOf_110 ?_
  refine y_iald C (wM_13 ..) rfl (((h).2).2).1 dX8_togetherOf_111 ?_
  refine y_i2l C dX8_togetherOf_112 rfl ?_
  refine y_lcmp C dX8_togetherOf_113 ?_
  refine y_if_eq C (tgt := 121) dX8_togetherOf_114 rfl (fun c_20 => ?_) (fun c_20 => ?_)
  · have h_21 := ((((h).2).2).2).1 c_20
    refine y_lload C dX8_togetherOf_121 3 rfl ?_
    refine y_lload C dX8_togetherOf_123 3 rfl ?_
    refine y_aload_n C dX8_togetherOf_125 0 rfl rfl ?_
    refine yg_X8_53_wM0 C dX8_togetherOf_126 ?_
    refine y_iconst C dX8_togetherOf_129 ic_2 ?_
    refine y_iload C dX8_togetherOf_130 4 rfl ?_
    refine y_imul C dX8_togetherOf_132 ?_
    refine y_iald C (wM_13 ..) rfl (h_21).1 dX8_togetherOf_133 ?_
    refine y_i2l C dX8_togetherOf_134 rfl ?_
    refine y_callRlS (As := [.long (x5), .long (((S.1 13 ((2 * x7)).toNatClampNeg)).toInt64)]) (rest := [.long (x5)]) C cs_X8_318 (met_m_commonLong G 100 (x5) (((S.1 13 ((2 * x7)).toNatClampNeg)).toInt64) _ ((h_21).2)) (fun _ _ => pw_nil) ⟨rfl, rfl, Nat.le_of_ble_eq_true rfl, Nat.le_of_ble_eq_true rfl⟩ rfl rfl (Nat.le_of_ble_eq_true rfl) dX8_togetherOf_135 ⟨Nat.zero_le _, Nat.zero_le _⟩ (fun r_22 h_23 => ?_)
    refine y_ldiv C dX8_togetherOf_138 (h_23).1 ?_
    refine y_aload_n C dX8_togetherOf_139 0 rfl rfl ?_
    refine yg_X8_53_wM0 C dX8_togetherOf_140 ?_
    refine y_iconst C dX8_togetherOf_143 ic_2 ?_
    refine y_iload C dX8_togetherOf_144 4 rfl ?_
    refine y_imul C dX8_togetherOf_146 ?_
    refine y_iald C (wM_13 ..) rfl ((h_23).2).1 dX8_togetherOf_147 ?_
    refine y_i2l C dX8_togetherOf_148 rfl ?_
    refine y_lmul C dX8_togetherOf_149 ?_
    refine y_lstore C dX8_togetherOf_150 (Nat.le_of_ble_eq_true rfl) [(5, .long (((x5 / r_22) * ((S.1 13 ((2 * x7)).toNatClampNeg)).toInt64))), (0, .ref (A 0)), (1, .int (x1)), (3, .long (x3)), (7, .int (x7))] rfl ?_
    refine y_iinc C dX8_togetherOf_152 4 rfl (Nat.le_of_ble_eq_true rfl) (ii_1 _) [(7, .int ((x7 + 1))), (5, .long (((x5 / r_22) * ((S.1 13 ((2 * x7)).toNatClampNeg)).toInt64))), (0, .ref (A 0)), (1, .int (x1)), (3, .long (x3))] rfl ?_
    refine y_goto C (tgt := 9) dX8_togetherOf_155 rfl ?_
    exact Y.sub (hK9 (x3) (((x5 / r_22) * ((S.1 13 ((2 * x7)).toNatClampNeg)).toInt64)) ((x7 + 1)) (((h_23).2).2)) [2, 3, 4, 1, 0] rfl
  · have h_25 := ((((h).2).2).2).2 c_20
    refine y_ldc2 C dX8_togetherOf_117 q1764 ?_
    exact y_lretR C N rfl (h_25) dX8_togetherOf_120
set_option maxRecDepth 100000 in
theorem wk_m_togetherOf_b36 {G : Gx} {K : Kx} {A : Nat → Nat} (C : KOk G K RX8 cX8_togetherOf rm_m_togetherOf 9 (some .long)) {S : St} {Q : Int64 → Prop} (N : KRl K Q) (x1 : Int32) (K9 : Int64 → Int64 → Int32 → Prop) (hK9 : ∀ (x3 : Int64) (x5 : Int64) (x7 : Int32), K9 x3 x5 x7 → Y G K 0 0 (wM G A S) 9 [(0, .ref (A 0)), (1, .int (x1)), (3, .long (x3)), (5, .long (x5)), (7, .int (x7))] []) : ∀ (n : Nat), ∀ (x3 : Int64) (x5 : Int64) (x7 : Int32) (x8 : Int32), wp_m_togetherOf_b36 S Q x1 K9 n x3 x5 x7 x8 → Y G K 0 0 (wM G A S) 36 [(0, .ref (A 0)), (1, .int (x1)), (3, .long (x3)), (5, .long (x5)), (7, .int (x7)), (8, .int (x8))] [] := by
  intro n
  induction n with
  | zero => intro x3 x5 x7 x8 h; exact h.elim
  | succ n ih =>
    intro x3 x5 x7 x8 h
    dsimp only [wp_m_togetherOf_b36] at h
    refine y_lload_n C dX8_togetherOf_36 2 rfl rfl ?_
    refine y_aload_n C dX8_togetherOf_37 0 rfl rfl ?_
    refine yg_X8_53_wM0 C dX8_togetherOf_38 ?_
    refine y_iconst C dX8_togetherOf_41 ic_2 ?_
    refine y_iload C dX8_togetherOf_42 4 rfl ?_
    refine y_imul C dX8_togetherOf_44 ?_
    refine y_iald C (wM_13 ..) rfl (h).1 dX8_togetherOf_45 ?_
    refine y_i2l C dX8_togetherOf_46 rfl ?_
    refine y_lrem C dX8_togetherOf_47 ((h).2).1 ?_
    refine y_aload_n C dX8_togetherOf_48 0 rfl rfl ?_
    refine yg_X8_53_wM0 C dX8_togetherOf_49 ?_
    refine y_iconst C dX8_togetherOf_52 ic_2 ?_
    refine y_iload C dX8_togetherOf_53 4 rfl ?_
    refine y_imul C dX8_togetherOf_55 ?_
    refine y_iconst C dX8_togetherOf_56 ic_1 ?_
    refine y_iadd C dX8_togetherOf_57 ?_
    refine y_iald C (wM_13 ..) rfl (((h).2).2).1 dX8_togetherOf_58 ?_
    refine y_i2l C dX8_togetherOf_59 rfl ?_
    refine y_lcmp C dX8_togetherOf_60 ?_
    refine y_if_eq C (tgt := 89) dX8_togetherOf_61 rfl (fun c_14 => ?_) (fun c_14 => ?_)
    · have h_15 := ((((h).2).2).2).1 c_14
      exact Y.sub (wk_m_togetherOf_b89 C N (x1) K9 hK9 (x3) (x5) (x7) (h_15)) [0, 1, 2, 3, 4] rfl
    · have h_16 := ((((h).2).2).2).2 c_14
      refine y_iload C dX8_togetherOf_64 5 rfl ?_
      refine y_aload_n C dX8_togetherOf_66 0 rfl rfl ?_
      refine yg_X8_53_wM0 C dX8_togetherOf_67 ?_
      refine y_iconst C dX8_togetherOf_70 ic_2 ?_
      refine y_iload C dX8_togetherOf_71 4 rfl ?_
      refine y_imul C dX8_togetherOf_73 ?_
      refine y_iald C (wM_13 ..) rfl (h_16).1 dX8_togetherOf_74 ?_
      refine y_icmp_ge C (tgt := 89) dX8_togetherOf_75 rfl (fun c_17 => ?_) (fun c_17 => ?_)
      · have h_18 := ((h_16).2).1 c_17
        exact Y.sub (wk_m_togetherOf_b89 C N (x1) K9 hK9 (x3) (x5) (x7) (h_18)) [0, 1, 2, 3, 4] rfl
      · have h_19 := ((h_16).2).2 c_17
        refine y_lload_n C dX8_togetherOf_78 2 rfl rfl ?_
        refine y_lload C dX8_togetherOf_79 3 rfl ?_
        refine y_ladd C dX8_togetherOf_81 ?_
        refine y_lstore_n C dX8_togetherOf_82 rfl (Nat.le_of_ble_eq_true rfl) [(3, .long ((x3 + x5))), (0, .ref (A 0)), (1, .int (x1)), (5, .long (x5)), (7, .int (x7)), (8, .int (x8))] rfl ?_
        refine y_iinc C dX8_togetherOf_83 5 rfl (Nat.le_of_ble_eq_true rfl) (ii_1 _) [(8, .int ((x8 + 1))), (3, .long ((x3 + x5))), (0, .ref (A 0)), (1, .int (x1)), (5, .long (x5)), (7, .int (x7))] rfl ?_
        refine y_goto C (tgt := 36) dX8_togetherOf_86 rfl ?_
        exact Y.sub (ih ((x3 + x5)) (x5) (x7) ((x8 + 1)) (h_19)) [2, 3, 1, 4, 5, 0] rfl
set_option maxRecDepth 100000 in
theorem wk_m_togetherOf_b9 {G : Gx} {K : Kx} {A : Nat → Nat} (C : KOk G K RX8 cX8_togetherOf rm_m_togetherOf 9 (some .long)) {S : St} {Q : Int64 → Prop} (N : KRl K Q) (x1 : Int32) : ∀ (n : Nat), ∀ (x3 : Int64) (x5 : Int64) (x7 : Int32), wp_m_togetherOf_b9 S Q x1 n x3 x5 x7 → Y G K 0 0 (wM G A S) 9 [(0, .ref (A 0)), (1, .int (x1)), (3, .long (x3)), (5, .long (x5)), (7, .int (x7))] [] := by
  intro n
  induction n with
  | zero => intro x3 x5 x7 h; exact h.elim
  | succ n ih =>
    intro x3 x5 x7 h
    dsimp only [wp_m_togetherOf_b9] at h
    refine y_iload C dX8_togetherOf_9 4 rfl ?_
    refine y_aload_n C dX8_togetherOf_11 0 rfl rfl ?_
    refine yg_X8_34_wM0 C dX8_togetherOf_12 ?_
    refine y_bipush C dX8_togetherOf_15 bp_9 ?_
    refine y_iald C (wM_7 ..) tn_9 vi_9_55 dX8_togetherOf_17 ?_
    refine y_icmp_ge C (tgt := 158) dX8_togetherOf_18 rfl (fun c_3 => ?_) (fun c_3 => ?_)
    · have h_4 := (h).1 c_3
      refine y_lload_n C dX8_togetherOf_158 2 rfl rfl ?_
      exact y_lretR C N rfl (h_4) dX8_togetherOf_159
    · have h_5 := (h).2 c_3
      refine y_iload_n C dX8_togetherOf_21 1 rfl rfl ?_
      refine y_iload C dX8_togetherOf_22 4 rfl ?_
      refine y_callRiS (As := [.int (x1), .int (x7)]) (rest := []) C cs_X8_280 (met_m_isBit G (x1) (x7) _ (h_5)) (fun _ _ => pw_nil) ⟨rfl, rfl, Nat.le_of_ble_eq_true rfl, Nat.le_of_ble_eq_true rfl⟩ rfl rfl (Nat.le_of_ble_eq_true rfl) dX8_togetherOf_24 ⟨Nat.zero_le _, Nat.zero_le _⟩ (fun r_6 h_7 => ?_)
      refine y_if_ne C (tgt := 33) dX8_togetherOf_27 rfl (fun c_9 => ?_) (fun c_9 => ?_)
      · have h_10 := (h_7).1 c_9
        refine y_iconst C dX8_togetherOf_33 ic_0 ?_
        refine y_istore C dX8_togetherOf_34 (Nat.le_of_ble_eq_true rfl) [(8, .int (0)), (0, .ref (A 0)), (1, .int (x1)), (3, .long (x3)), (5, .long (x5)), (7, .int (x7))] rfl ?_
        obtain ⟨n_11, h_12⟩ := h_10
        exact Y.sub (wk_m_togetherOf_b36 C N (x1) (fun y3 y5 y7 => wp_m_togetherOf_b9 S Q x1 n y3 y5 y7) ih n_11 (x3) (x5) (x7) (0) h_12) [1, 2, 3, 4, 5, 0] rfl
      · have h_13 := (h_7).2 c_9
        refine y_goto C (tgt := 152) dX8_togetherOf_30 rfl ?_
        refine y_iinc C dX8_togetherOf_152 4 rfl (Nat.le_of_ble_eq_true rfl) (ii_1 _) [(7, .int ((x7 + 1))), (0, .ref (A 0)), (1, .int (x1)), (3, .long (x3)), (5, .long (x5))] rfl ?_
        refine y_goto C (tgt := 9) dX8_togetherOf_155 rfl ?_
        exact Y.sub (ih (x3) (x5) ((x7 + 1)) (h_13)) [1, 2, 3, 4, 0] rfl
set_option maxRecDepth 100000 in
theorem met_m_togetherOf (G : Gx) (A : Nat → Nat) (S : St) (x1 : Int32) (x2 : Int32) (Q : Int64 → Prop) (h : wp_m_togetherOf S x1 x2 Q) : Rl G yX8_togetherOf (ws_ yX8_togetherOf cX8_togetherOf 9 (some .long)) rm_m_togetherOf (wM G A S) [.ref (A 0), .int (x1), .int (x2)] Q := by
  refine ent_Rl (by decide +kernel) rfl (Nat.le_of_ble_eq_true rfl) [(0, .ref (A 0)), (1, .int (x1)), (2, .int (x2))] rfl (fun K C N => ?_)
  refine y_iload_n C dX8_togetherOf_0 2 rfl rfl ?_
  refine y_i2l C dX8_togetherOf_1 rfl ?_
  refine y_lstore_n C dX8_togetherOf_2 rfl (Nat.le_of_ble_eq_true rfl) [(3, .long ((x2).toInt64)), (0, .ref (A 0)), (1, .int (x1)), (2, .int (x2))] rfl ?_
  refine y_lconst C dX8_togetherOf_3 lc_1 ?_
  refine y_lstore C dX8_togetherOf_4 (Nat.le_of_ble_eq_true rfl) [(5, .long (1)), (3, .long ((x2).toInt64)), (0, .ref (A 0)), (1, .int (x1)), (2, .int (x2))] rfl ?_
  refine y_iconst C dX8_togetherOf_6 ic_0 ?_
  refine y_istore C dX8_togetherOf_7 (Nat.le_of_ble_eq_true rfl) [(7, .int (0)), (5, .long (1)), (3, .long ((x2).toInt64)), (0, .ref (A 0)), (1, .int (x1)), (2, .int (x2))] rfl ?_
  obtain ⟨n_1, h_2⟩ := h
  exact Y.sub (wk_m_togetherOf_b9 C N (x1) n_1 ((x2).toInt64) (1) (0) h_2) [3, 4, 2, 1, 0] rfl
/-! OverHillModel together(II)J: m_together -/
abbrev rm_m_together : Room := { frames := 103, cells := 0, slots := 0, locals := 3491 }
def wp_m_together (S : St) (x1 : Int32) (x2 : Int32) (Q : Int64 → St → Prop) : Prop :=
  wp_m_isSet (sI S 0 0 0) (x1) (fun r_1 => ((r_1 = 0 → Q (-2) (sI S 0 0 0)) ∧ (¬ r_1 = 0 → wp_m_isBeat ((x2).toInt64) (fun r_7 => ((r_7 = 0 → Q (-2) (sI S 0 0 0)) ∧ (¬ r_7 = 0 → wp_m_togetherOf (sI S 0 0 0) (x1) (x2) (fun r_13 => Q r_13 (sI S 0 0 0))))))))
set_option maxRecDepth 100000 in
theorem met_m_together (G : Gx) (A : Nat → Nat) (S : St) (x1 : Int32) (x2 : Int32) (Q : Int64 → St → Prop) (h : wp_m_together S x1 x2 Q) : Ml G yX8_together (ws_ yX8_together cX8_together 3 (some .long)) rm_m_together (wM G A S) [.ref (A 0), .int (x1), .int (x2)] (wM G A) Q := by
  refine ent_Ml (by decide +kernel) rfl (Nat.le_of_ble_eq_true rfl) [(0, .ref (A 0)), (1, .int (x1)), (2, .int (x2))] rfl (fun K B C M N => ?_)
  refine y_aload_n C dX8_together_0 0 rfl rfl ?_
  refine y_iconst C dX8_together_1 ic_0 ?_
  refine yp_X8_80_wM0 C M dX8_together_2 ?_
  refine y_aload_n C dX8_together_5 0 rfl rfl ?_
  refine y_iload_n C dX8_together_6 1 rfl rfl ?_
  refine y_callRiV (As := [.int (x1)]) (rest := []) C cs_X8_391 (met_m_isSet G A (sI S 0 0 0) (x1) _ (h)) (fun _ h => h) (wM_0 ..) rfl rfl ⟨rfl, rfl, Nat.le_of_ble_eq_true rfl, Nat.le_of_ble_eq_true rfl⟩ rfl rfl (Nat.le_of_ble_eq_true rfl) dX8_together_7 ⟨Nat.zero_le _, Nat.zero_le _⟩ (fun r_1 h_2 => ?_)
  refine y_if_eq C (tgt := 30) dX8_together_10 rfl (fun c_4 => ?_) (fun c_4 => ?_)
  · have h_5 := (h_2).1 c_4
    refine y_ldc2 C dX8_together_30 q2156 ?_
    exact y_lretM C M N rfl (S := (sI S 0 0 0)) rfl (h_5) dX8_together_33
  · have h_6 := (h_2).2 c_4
    refine y_iload_n C dX8_together_13 2 rfl rfl ?_
    refine y_i2l C dX8_together_14 rfl ?_
    refine y_callRiS (As := [.long ((x2).toInt64)]) (rest := []) C cs_X8_270 (met_m_isBeat G ((x2).toInt64) _ (h_6)) (fun _ _ => pw_nil) ⟨rfl, rfl, Nat.le_of_ble_eq_true rfl, Nat.le_of_ble_eq_true rfl⟩ rfl rfl (Nat.le_of_ble_eq_true rfl) dX8_together_15 ⟨Nat.zero_le _, Nat.zero_le _⟩ (fun r_7 h_8 => ?_)
    refine y_if_eq C (tgt := 30) dX8_together_18 rfl (fun c_10 => ?_) (fun c_10 => ?_)
    · have h_11 := (h_8).1 c_10
      refine y_ldc2 C dX8_together_30 q2156 ?_
      exact y_lretM C M N rfl (S := (sI S 0 0 0)) rfl (h_11) dX8_together_33
    · have h_12 := (h_8).2 c_10
      refine y_aload_n C dX8_together_21 0 rfl rfl ?_
      refine y_iload_n C dX8_together_22 1 rfl rfl ?_
      refine y_iload_n C dX8_together_23 2 rfl rfl ?_
      refine y_callRlV (As := [.int (x1), .int (x2)]) (rest := []) C cs_X8_394 (met_m_togetherOf G A (sI S 0 0 0) (x1) (x2) _ (h_12)) (fun _ h => h) (wM_0 ..) rfl rfl ⟨rfl, rfl, Nat.le_of_ble_eq_true rfl, Nat.le_of_ble_eq_true rfl⟩ rfl rfl (Nat.le_of_ble_eq_true rfl) dX8_together_24 ⟨Nat.zero_le _, Nat.zero_le _⟩ (fun r_13 h_14 => ?_)
      refine y_goto C (tgt := 33) dX8_together_27 rfl ?_
      exact y_lretM C M N rfl (S := (sI S 0 0 0)) rfl (h_14) dX8_together_33
/-! OverHillModel againOf(I)J: m_againOf -/
abbrev rm_m_againOf : Room := { frames := 102, cells := 0, slots := 0, locals := 3463 }
def wp_m_againOf_b5 (S : St) (Q : Int64 → Prop) (x1 : Int32) : Nat → Int64 → Int32 → Prop
  | 0 => fun _ _ => False
  | n + 1 => fun x2 x4 => (((S.1 7 9) ≤ x4 → Q x2) ∧ (¬ (S.1 7 9) ≤ x4 → wp_m_isBit (x1) (x4) (fun r_6 => ((r_6 = 0 → wp_m_againOf_b5 S Q x1 n (x2) ((x4 + 1))) ∧ (¬ r_6 = 0 → (vp_in (2 * x4) 50 ∧ wp_m_commonLong 100 (x2) (((S.1 13 ((2 * x4)).toNatClampNeg)).toInt64) (fun r_12 => (¬ r_12 = 0 ∧ (vp_in (2 * x4) 50 ∧ wp_m_againOf_b5 S Q x1 n (((x2 / r_12) * ((S.1 13 ((2 * x4)).toNatClampNeg)).toInt64)) ((x4 + 1)))))))))))
def wp_m_againOf (S : St) (x1 : Int32) (Q : Int64 → Prop) : Prop :=
  (∃ z, wp_m_againOf_b5 S Q (x1) z (1) (0))
set_option maxRecDepth 100000 in
theorem wk_m_againOf_b5 {G : Gx} {K : Kx} {A : Nat → Nat} (C : KOk G K RX8 cX8_againOf rm_m_againOf 5 (some .long)) {S : St} {Q : Int64 → Prop} (N : KRl K Q) (x1 : Int32) : ∀ (n : Nat), ∀ (x2 : Int64) (x4 : Int32), wp_m_againOf_b5 S Q x1 n x2 x4 → Y G K 0 0 (wM G A S) 5 [(0, .ref (A 0)), (1, .int (x1)), (2, .long (x2)), (4, .int (x4))] [] := by
  intro n
  induction n with
  | zero => intro x2 x4 h; exact h.elim
  | succ n ih =>
    intro x2 x4 h
    dsimp only [wp_m_againOf_b5] at h
    refine y_iload C dX8_againOf_5 3 rfl ?_
    refine y_aload_n C dX8_againOf_7 0 rfl rfl ?_
    refine yg_X8_34_wM0 C dX8_againOf_8 ?_
    refine y_bipush C dX8_againOf_11 bp_9 ?_
    refine y_iald C (wM_7 ..) tn_9 vi_9_55 dX8_againOf_13 ?_
    refine y_icmp_ge C (tgt := 60) dX8_againOf_14 rfl (fun c_3 => ?_) (fun c_3 => ?_)
    · have h_4 := (h).1 c_3
      refine y_lload_n C dX8_againOf_60 2 rfl rfl ?_
      exact y_lretR C N rfl (h_4) dX8_againOf_61
    · have h_5 := (h).2 c_3
      refine y_iload_n C dX8_againOf_17 1 rfl rfl ?_
      refine y_iload C dX8_againOf_18 3 rfl ?_
      refine y_callRiS (As := [.int (x1), .int (x4)]) (rest := []) C cs_X8_280 (met_m_isBit G (x1) (x4) _ (h_5)) (fun _ _ => pw_nil) ⟨rfl, rfl, Nat.le_of_ble_eq_true rfl, Nat.le_of_ble_eq_true rfl⟩ rfl rfl (Nat.le_of_ble_eq_true rfl) dX8_againOf_20 ⟨Nat.zero_le _, Nat.zero_le _⟩ (fun r_6 h_7 => ?_)
      refine y_if_eq C (tgt := 54) dX8_againOf_23 rfl (fun c_9 => ?_) (fun c_9 => ?_)
      · have h_10 := (h_7).1 c_9
        refine y_iinc C dX8_againOf_54 3 rfl (Nat.le_of_ble_eq_true rfl) (ii_1 _) [(4, .int ((x4 + 1))), (0, .ref (A 0)), (1, .int (x1)), (2, .long (x2))] rfl ?_
        refine y_goto C (tgt := 5) dX8_againOf_57 rfl ?_
        exact Y.sub (ih (x2) ((x4 + 1)) (h_10)) [1, 2, 3, 0] rfl
      · have h_11 := (h_7).2 c_9
        refine y_lload_n C dX8_againOf_26 2 rfl rfl ?_
        refine y_lload_n C dX8_againOf_27 2 rfl rfl ?_
        refine y_aload_n C dX8_againOf_28 0 rfl rfl ?_
        refine yg_X8_53_wM0 C dX8_againOf_29 ?_
        refine y_iconst C dX8_againOf_32 ic_2 ?_
        refine y_iload C dX8_againOf_33 3 rfl ?_
        refine y_imul C dX8_againOf_35 ?_
        refine y_iald C (wM_13 ..) rfl (h_11).1 dX8_againOf_36 ?_
        refine y_i2l C dX8_againOf_37 rfl ?_
        refine y_callRlS (As := [.long (x2), .long (((S.1 13 ((2 * x4)).toNatClampNeg)).toInt64)]) (rest := [.long (x2)]) C cs_X8_318 (met_m_commonLong G 100 (x2) (((S.1 13 ((2 * x4)).toNatClampNeg)).toInt64) _ ((h_11).2)) (fun _ _ => pw_nil) ⟨rfl, rfl, Nat.le_of_ble_eq_true rfl, Nat.le_of_ble_eq_true rfl⟩ rfl rfl (Nat.le_of_ble_eq_true rfl) dX8_againOf_38 ⟨Nat.zero_le _, Nat.zero_le _⟩ (fun r_12 h_13 => ?_)
        refine y_ldiv C dX8_againOf_41 (h_13).1 ?_
        refine y_aload_n C dX8_againOf_42 0 rfl rfl ?_
        refine yg_X8_53_wM0 C dX8_againOf_43 ?_
        refine y_iconst C dX8_againOf_46 ic_2 ?_
        refine y_iload C dX8_againOf_47 3 rfl ?_
        refine y_imul C dX8_againOf_49 ?_
        refine y_iald C (wM_13 ..) rfl ((h_13).2).1 dX8_againOf_50 ?_
        refine y_i2l C dX8_againOf_51 rfl ?_
        refine y_lmul C dX8_againOf_52 ?_
        refine y_lstore_n C dX8_againOf_53 rfl (Nat.le_of_ble_eq_true rfl) [(2, .long (((x2 / r_12) * ((S.1 13 ((2 * x4)).toNatClampNeg)).toInt64))), (0, .ref (A 0)), (1, .int (x1)), (4, .int (x4))] rfl ?_
        refine y_iinc C dX8_againOf_54 3 rfl (Nat.le_of_ble_eq_true rfl) (ii_1 _) [(4, .int ((x4 + 1))), (2, .long (((x2 / r_12) * ((S.1 13 ((2 * x4)).toNatClampNeg)).toInt64))), (0, .ref (A 0)), (1, .int (x1))] rfl ?_
        refine y_goto C (tgt := 5) dX8_againOf_57 rfl ?_
        exact Y.sub (ih (((x2 / r_12) * ((S.1 13 ((2 * x4)).toNatClampNeg)).toInt64)) ((x4 + 1)) (((h_13).2).2)) [2, 3, 1, 0] rfl
set_option maxRecDepth 100000 in
theorem met_m_againOf (G : Gx) (A : Nat → Nat) (S : St) (x1 : Int32) (Q : Int64 → Prop) (h : wp_m_againOf S x1 Q) : Rl G yX8_againOf (ws_ yX8_againOf cX8_againOf 5 (some .long)) rm_m_againOf (wM G A S) [.ref (A 0), .int (x1)] Q := by
  refine ent_Rl (by decide +kernel) rfl (Nat.le_of_ble_eq_true rfl) [(0, .ref (A 0)), (1, .int (x1))] rfl (fun K C N => ?_)
  refine y_lconst C dX8_againOf_0 lc_1 ?_
  refine y_lstore_n C dX8_againOf_1 rfl (Nat.le_of_ble_eq_true rfl) [(2, .long (1)), (0, .ref (A 0)), (1, .int (x1))] rfl ?_
  refine y_iconst C dX8_againOf_2 ic_0 ?_
  refine y_istore C dX8_againOf_3 (Nat.le_of_ble_eq_true rfl) [(4, .int (0)), (2, .long (1)), (0, .ref (A 0)), (1, .int (x1))] rfl ?_
  obtain ⟨n_1, h_2⟩ := h
  exact Y.sub (wk_m_againOf_b5 C N (x1) n_1 (1) (0) h_2) [2, 3, 1, 0] rfl
