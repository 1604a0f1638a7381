/-! printed by tools/gen.py -/
set_option maxRecDepth 100000
theorem sp_24576 : (Int16.ofInt (24576)).toInt32 = (24576 : Int32) := by decide
theorem vi_2_55 : vp_in 2 55 := by unfold vp_in; decide
theorem tn_2 : (2 : Int32).toNatClampNeg = 2 := by decide
theorem nz_J_2147483648 : ¬ (2147483648 : Int64) = 0 := by decide
theorem nz_J_65536 : ¬ (65536 : Int64) = 0 := by decide
theorem nz_J_100 : ¬ (100 : Int64) = 0 := by decide
theorem vi_1_55 : vp_in 1 55 := by unfold vp_in; decide
theorem tn_1 : (1 : Int32).toNatClampNeg = 1 := by decide
theorem vi_10_55 : vp_in 10 55 := by unfold vp_in; decide
theorem tn_10 : (10 : Int32).toNatClampNeg = 10 := by decide
theorem bpm5 : (Int8.ofInt (-5)).toInt32 = (-5 : Int32) := by decide
theorem bp_40 : (Int8.ofInt (40)).toInt32 = (40 : Int32) := by decide
theorem yg_X8_77_wM0 {G : Gx} {K : Kx} {cc : ByteArray} {rm : Room} {nL : Nat} {ret : Option FieldType} {k n pc : Nat} {A : Nat → Nat} {S : St} {lv : List (Nat × Value)} {st : List Value} (C : KOk G K RX8 cc rm nL ret) (hdg : decode cc pc = .ok (.getfield 77, 3)) (kk : Y G K k n (wM G A S) (pc + 3) lv (.ref (A 21) :: st)) : Y G K k n (wM G A S) pc lv (.ref (A 0) :: st) := y_get C (ref := "OverHillModel") (Cn := RX8) (T := TX8) (N := 45) in_X8 (wM_0 ..) rfl 39 (by decide) q1605 (fun _ _ h => h) (fs_M0_f39 A S) hdg kk
theorem yg_X8_435_wM0 {G : Gx} {K : Kx} {cc : ByteArray} {rm : Room} {nL : Nat} {ret : Option FieldType} {k n pc : Nat} {A : Nat → Nat} {S : St} {lv : List (Nat × Value)} {st : List Value} (C : KOk G K RX8 cc rm nL ret) (hdg : decode cc pc = .ok (.getfield 435, 3)) (kk : Y G K k n (wM G A S) (pc + 3) lv (.long (S.2 0 44) :: st)) : Y G K k n (wM G A S) pc lv (.ref (A 0) :: st) := y_get C (ref := "OverHillModel") (Cn := RX8) (T := TX8) (N := 45) in_X8 (wM_0 ..) rfl 44 (by decide) q1610 (fun _ _ h => h) (fs_M0_f44 A S) hdg kk
theorem yp_X8_435_wM0 {G : Gx} {K : Kx} {cc : ByteArray} {rm : Room} {nL : Nat} {ret : Option FieldType} {k n pc : Nat} {B : Nat → Prop} {A : Nat → Nat} {S : St} {lv : List (Nat × Value)} {st : List Value} {v : Int64} (C : KOk G K RX8 cc rm nL ret) (M : KM G K B) (hdg : decode cc pc = .ok (.putfield 435, 3)) (kk : Y G K k n (wM G A (sL S 0 44 v)) (pc + 3) lv st) : Y G K k n (wM G A S) pc lv (.long v :: .ref (A 0) :: st) := y_put C M (ref := "OverHillModel") (Cn := RX8) (T := TX8) (N := 45) in_X8 (wM_0 ..) rfl 44 (by decide) tyX8 tyX8_ok (by decide +kernel) q1610 (fun _ _ h => h) rfl (ty := .long) (by decide +kernel) rfl rfl (Nat.le_of_ble_eq_true rfl) (wM_p0_44 ..) hdg kk
theorem yg_X8_453_wM0 {G : Gx} {K : Kx} {cc : ByteArray} {rm : Room} {nL : Nat} {ret : Option FieldType} {k n pc : Nat} {A : Nat → Nat} {S : St} {lv : List (Nat × Value)} {st : List Value} (C : KOk G K RX8 cc rm nL ret) (hdg : decode cc pc = .ok (.getfield 453, 3)) (kk : Y G K k n (wM G A S) (pc + 3) lv (.int (S.1 0 43) :: st)) : Y G K k n (wM G A S) pc lv (.ref (A 0) :: st) := y_get C (ref := "OverHillModel") (Cn := RX8) (T := TX8) (N := 45) in_X8 (wM_0 ..) rfl 43 (by decide) q1609 (fun _ _ h => h) (fs_M0_f43 A S) hdg kk
theorem yp_X8_453_wM0 {G : Gx} {K : Kx} {cc : ByteArray} {rm : Room} {nL : Nat} {ret : Option FieldType} {k n pc : Nat} {B : Nat → Prop} {A : Nat → Nat} {S : St} {lv : List (Nat × Value)} {st : List Value} {v : Int32} (C : KOk G K RX8 cc rm nL ret) (M : KM G K B) (hdg : decode cc pc = .ok (.putfield 453, 3)) (kk : Y G K k n (wM G A (sI S 0 43 v)) (pc + 3) lv st) : Y G K k n (wM G A S) pc lv (.int v :: .ref (A 0) :: st) := y_put C M (ref := "OverHillModel") (Cn := RX8) (T := TX8) (N := 45) in_X8 (wM_0 ..) rfl 43 (by decide) tyX8 tyX8_ok (by decide +kernel) q1609 (fun _ _ h => h) rfl (ty := .int) (by decide +kernel) rfl rfl (Nat.le_of_ble_eq_true rfl) (wM_p0_43 ..) hdg kk
theorem yp_X8_444_wM0 {G : Gx} {K : Kx} {cc : ByteArray} {rm : Room} {nL : Nat} {ret : Option FieldType} {k n pc : Nat} {B : Nat → Prop} {A : Nat → Nat} {S : St} {lv : List (Nat × Value)} {st : List Value} {v : Int32} (C : KOk G K RX8 cc rm nL ret) (M : KM G K B) (hdg : decode cc pc = .ok (.putfield 444, 3)) (kk : Y G K k n (wM G A (sI S 0 40 v)) (pc + 3) lv st) : Y G K k n (wM G A S) pc lv (.int v :: .ref (A 0) :: st) := y_put C M (ref := "OverHillModel") (Cn := RX8) (T := TX8) (N := 45) in_X8 (wM_0 ..) rfl 40 (by decide) tyX8 tyX8_ok (by decide +kernel) q1606 (fun _ _ h => h) rfl (ty := .int) (by decide +kernel) rfl rfl (Nat.le_of_ble_eq_true rfl) (wM_p0_40 ..) hdg kk
theorem yp_X8_447_wM0 {G : Gx} {K : Kx} {cc : ByteArray} {rm : Room} {nL : Nat} {ret : Option FieldType} {k n pc : Nat} {B : Nat → Prop} {A : Nat → Nat} {S : St} {lv : List (Nat × Value)} {st : List Value} {v : Int32} (C : KOk G K RX8 cc rm nL ret) (M : KM G K B) (hdg : decode cc pc = .ok (.putfield 447, 3)) (kk : Y G K k n (wM G A (sI S 0 41 v)) (pc + 3) lv st) : Y G K k n (wM G A S) pc lv (.int v :: .ref (A 0) :: st) := y_put C M (ref := "OverHillModel") (Cn := RX8) (T := TX8) (N := 45) in_X8 (wM_0 ..) rfl 41 (by decide) tyX8 tyX8_ok (by decide +kernel) q1607 (fun _ _ h => h) rfl (ty := .int) (by decide +kernel) rfl rfl (Nat.le_of_ble_eq_true rfl) (wM_p0_41 ..) hdg kk
theorem yp_X8_450_wM0 {G : Gx} {K : Kx} {cc : ByteArray} {rm : Room} {nL : Nat} {ret : Option FieldType} {k n pc : Nat} {B : Nat → Prop} {A : Nat → Nat} {S : St} {lv : List (Nat × Value)} {st : List Value} {v : Int32} (C : KOk G K RX8 cc rm nL ret) (M : KM G K B) (hdg : decode cc pc = .ok (.putfield 450, 3)) (kk : Y G K k n (wM G A (sI S 0 42 v)) (pc + 3) lv st) : Y G K k n (wM G A S) pc lv (.int v :: .ref (A 0) :: st) := y_put C M (ref := "OverHillModel") (Cn := RX8) (T := TX8) (N := 45) in_X8 (wM_0 ..) rfl 42 (by decide) tyX8 tyX8_ok (by decide +kernel) q1608 (fun _ _ h => h) rfl (ty := .int) (by decide +kernel) rfl rfl (Nat.le_of_ble_eq_true rfl) (wM_p0_42 ..) hdg kk
theorem yg_X8_450_wM0 {G : Gx} {K : Kx} {cc : ByteArray} {rm : Room} {nL : Nat} {ret : Option FieldType} {k n pc : Nat} {A : Nat → Nat} {S : St} {lv : List (Nat × Value)} {st : List Value} (C : KOk G K RX8 cc rm nL ret) (hdg : decode cc pc = .ok (.getfield 450, 3)) (kk : Y G K k n (wM G A S) (pc + 3) lv (.int (S.1 0 42) :: st)) : Y G K k n (wM G A S) pc lv (.ref (A 0) :: st) := y_get C (ref := "OverHillModel") (Cn := RX8) (T := TX8) (N := 45) in_X8 (wM_0 ..) rfl 42 (by decide) q1608 (fun _ _ h => h) (fs_M0_f42 A S) hdg kk
theorem yg_X8_444_wM0 {G : Gx} {K : Kx} {cc : ByteArray} {rm : Room} {nL : Nat} {ret : Option FieldType} {k n pc : Nat} {A : Nat → Nat} {S : St} {lv : List (Nat × Value)} {st : List Value} (C : KOk G K RX8 cc rm nL ret) (hdg : decode cc pc = .ok (.getfield 444, 3)) (kk : Y G K k n (wM G A S) (pc + 3) lv (.int (S.1 0 40) :: st)) : Y G K k n (wM G A S) pc lv (.ref (A 0) :: st) := y_get C (ref := "OverHillModel") (Cn := RX8) (T := TX8) (N := 45) in_X8 (wM_0 ..) rfl 40 (by decide) q1606 (fun _ _ h => h) (fs_M0_f40 A S) hdg kk
theorem yg_X8_447_wM0 {G : Gx} {K : Kx} {cc : ByteArray} {rm : Room} {nL : Nat} {ret : Option FieldType} {k n pc : Nat} {A : Nat → Nat} {S : St} {lv : List (Nat × Value)} {st : List Value} (C : KOk G K RX8 cc rm nL ret) (hdg : decode cc pc = .ok (.getfield 447, 3)) (kk : Y G K k n (wM G A S) (pc + 3) lv (.int (S.1 0 41) :: st)) : Y G K k n (wM G A S) pc lv (.ref (A 0) :: st) := y_get C (ref := "OverHillModel") (Cn := RX8) (T := TX8) (N := 45) in_X8 (wM_0 ..) rfl 41 (by decide) q1607 (fun _ _ h => h) (fs_M0_f41 A S) hdg kk
theorem yg_X8_59_wM0 {G : Gx} {K : Kx} {cc : ByteArray} {rm : Room} {nL : Nat} {ret : Option FieldType} {k n pc : Nat} {A : Nat → Nat} {S : St} {lv : List (Nat × Value)} {st : List Value} (C : KOk G K RX8 cc rm nL ret) (hdg : decode cc pc = .ok (.getfield 59, 3)) (kk : Y G K k n (wM G A S) (pc + 3) lv (.ref (A 15) :: st)) : Y G K k n (wM G A S) pc lv (.ref (A 0) :: st) := y_get C (ref := "OverHillModel") (Cn := RX8) (T := TX8) (N := 45) in_X8 (wM_0 ..) rfl 25 (by decide) q1591 (fun _ _ h => h) (fs_M0_f25 A S) hdg kk
theorem cs_X8_400 : CsV RX8 400 yX8_againOf cX8_againOf 5 (some .long) 1 := ⟨lw_V q2161 q2163 qs127 q150 q2164, by decide +kernel⟩
theorem cs_X8_404 : CsS RX8 404 yX8_sizeOf cX8_sizeOf 3 (some .int) 1 := ⟨lw_S q2173 q2174 q150 q2175, by decide +kernel⟩
theorem cs_X8_407 : CsV RX8 407 yX8_chorusOf cX8_chorusOf 3 (some .int) 0 := ⟨lw_V q2169 q2171 qs128 q150 q2172, by decide +kernel⟩
theorem cs_X8_410 : CsV RX8 410 yX8_isPlay cX8_isPlay 4 (some .boolean) 3 := ⟨lw_V q2200 q2202 qs131 q150 q2203, by decide +kernel⟩
theorem cs_X8_413 : CsV RX8 413 yX8_winsFrom cX8_winsFrom 5 (some .boolean) 2 := ⟨lw_V q2196 q2198 qs130 q150 q2199, by decide +kernel⟩
theorem cs_X8_416 : CsV RX8 416 yX8_laysGame cX8_laysGame 2 none 0 := ⟨lw_V q2192 q2194 qs129 q150 q2195, by decide +kernel⟩
theorem cs_X8_421 : CsV RX8 421 yX8_isRain cX8_isRain 3 (some .boolean) 2 := ⟨lw_V q2212 q2214 qs132 q150 q2215, by decide +kernel⟩
theorem cs_X8_426 : CsS RX8 426 yX8_power cX8_power 6 (some .long) 2 := ⟨lw_S q2218 q2219 q150 q2220, by decide +kernel⟩
theorem cs_X8_429 : CsS RX8 429 yX8_part cX8_part 5 (some .long) 3 := ⟨lw_S q2221 q2222 q150 q2223, by decide +kernel⟩
theorem cs_X8_456 : CsV RX8 456 yX8_isBelow cX8_isBelow 2 (some .boolean) 1 := ⟨lw_V q2241 q2243 qs135 q150 q2244, by decide +kernel⟩
theorem cs_X8_459 : CsV RX8 459 yX8_slips cX8_slips 2 (some .int) 1 := ⟨lw_V q2249 q2251 qs136 q150 q2252, by decide +kernel⟩
theorem cs_X8_464 : CsV RX8 464 yX8_isDraw cX8_isDraw 3 (some .boolean) 2 := ⟨lw_V q2232 q2234 qs133 q150 q2235, by decide +kernel⟩
theorem cs_X8_467 : CsV RX8 467 yX8_draws cX8_draws 8 none 2 := ⟨lw_V q2237 q2239 qs134 q150 q2240, by decide +kernel⟩
theorem cs_X8_473 : CsV RX8 473 yX8_changes cX8_changes 6 none 4 := ⟨lw_V q2262 q2264 qs137 q150 q2265, by decide +kernel⟩
/-! OverHillModel again(I)J: m_again -/
abbrev rm_m_again : Room := { frames := 103, cells := 0, slots := 0, locals := 3487 }
def wp_m_again (S : St) (x1 : Int32) (Q : Int64 → St → Prop) : Prop :=
  wp_m_isSet (sI S 0 0 0) (x1) (fun r_1 => ((r_1 = 0 → Q (-2) (sI S 0 0 0)) ∧ (¬ r_1 = 0 → wp_m_againOf (sI S 0 0 0) (x1) (fun r_7 => Q r_7 (sI S 0 0 0)))))
set_option maxRecDepth 100000 in
theorem met_m_again (G : Gx) (A : Nat → Nat) (S : St) (x1 : Int32) (Q : Int64 → St → Prop) (h : wp_m_again S x1 Q) : Ml G yX8_again (ws_ yX8_again cX8_again 2 (some .long)) rm_m_again (wM G A S) [.ref (A 0), .int (x1)] (wM G A) Q := by
  refine ent_Ml (by decide +kernel) rfl (Nat.le_of_ble_eq_true rfl) [(0, .ref (A 0)), (1, .int (x1))] rfl (fun K B C M N => ?_)
  refine y_aload_n C dX8_again_0 0 rfl rfl ?_
  refine y_iconst C dX8_again_1 ic_0 ?_
  refine yp_X8_80_wM0 C M dX8_again_2 ?_
  refine y_aload_n C dX8_again_5 0 rfl rfl ?_
  refine y_iload_n C dX8_again_6 1 rfl rfl ?_
  refine y_callRiV (As := [.int (x1)]) (rest := []) C cs_X8_391 (met_m_isSet G A (sI S 0 0 0) (x1) _ (h)) (fun _ h => h) (wM_0 ..) rfl rfl ⟨rfl, rfl, Nat.le_of_ble_eq_true rfl, Nat.le_of_ble_eq_true rfl⟩ rfl rfl (Nat.le_of_ble_eq_true rfl) dX8_again_7 ⟨Nat.zero_le _, Nat.zero_le _⟩ (fun r_1 h_2 => ?_)
  refine y_if_eq C (tgt := 21) dX8_again_10 rfl (fun c_4 => ?_) (fun c_4 => ?_)
  · have h_5 := (h_2).1 c_4
    refine y_ldc2 C dX8_again_21 q2156 ?_
    exact y_lretM C M N rfl (S := (sI S 0 0 0)) rfl (h_5) dX8_again_24
  · have h_6 := (h_2).2 c_4
    refine y_aload_n C dX8_again_13 0 rfl rfl ?_
    refine y_iload_n C dX8_again_14 1 rfl rfl ?_
    refine y_callRlV (As := [.int (x1)]) (rest := []) C cs_X8_400 (met_m_againOf G A (sI S 0 0 0) (x1) _ (h_6)) (fun _ h => h) (wM_0 ..) rfl rfl ⟨rfl, rfl, Nat.le_of_ble_eq_true rfl, Nat.le_of_ble_eq_true rfl⟩ rfl rfl (Nat.le_of_ble_eq_true rfl) dX8_again_15 ⟨Nat.zero_le _, Nat.zero_le _⟩ (fun r_7 h_8 => ?_)
    refine y_goto C (tgt := 24) dX8_again_18 rfl ?_
    exact y_lretM C M N rfl (S := (sI S 0 0 0)) rfl (h_8) dX8_again_24
/-! OverHillModel sizeOf(I)I: m_sizeOf -/
abbrev rm_m_sizeOf : Room := { frames := 1, cells := 0, slots := 0, locals := 40 }
def wp_m_sizeOf_b4 (Q : Int32 → Prop) : Nat → Int32 → Int32 → Prop
  | 0 => fun _ _ => False
  | n + 1 => fun x1 x2 => ((x2 = 0 → Q x1) ∧ (¬ x2 = 0 → wp_m_sizeOf_b4 Q n ((x1 + 1)) ((x2 &&& (x2 - 1)))))
def wp_m_sizeOf (x0 : Int32) (Q : Int32 → Prop) : Prop :=
  (∃ z, wp_m_sizeOf_b4 Q z (0) (x0))
set_option maxRecDepth 100000 in
theorem wk_m_sizeOf_b4 {G : Gx} {K : Kx} (C : KOk G K RX8 cX8_sizeOf rm_m_sizeOf 3 (some .int)) {Q : Int32 → Prop} (N : KRi K Q) : ∀ (n : Nat), ∀ (x1 : Int32) (x2 : Int32), wp_m_sizeOf_b4 Q n x1 x2 → Y G K 0 0 [] 4 [(1, .int (x1)), (2, .int (x2))] [] := by
  intro n
  induction n with
  | zero => intro x1 x2 h; exact h.elim
  | succ n ih =>
    intro x1 x2 h
    dsimp only [wp_m_sizeOf_b4] at h
    refine y_iload_n C dX8_sizeOf_4 1 rfl rfl ?_
    refine y_if_eq C (tgt := 20) dX8_sizeOf_5 rfl (fun c_3 => ?_) (fun c_3 => ?_)
    · have h_4 := (h).1 c_3
      refine y_iload_n C dX8_sizeOf_20 0 rfl rfl ?_
      exact y_iretR C N rfl (h_4) dX8_sizeOf_21
    · have h_5 := (h).2 c_3
      refine y_iinc C dX8_sizeOf_8 0 rfl (Nat.le_of_ble_eq_true rfl) (ii_1 _) [(1, .int ((x1 + 1))), (2, .int (x2))] rfl ?_
      refine y_iload_n C dX8_sizeOf_11 1 rfl rfl ?_
      refine y_iload_n C dX8_sizeOf_12 1 rfl rfl ?_
      refine y_iconst C dX8_sizeOf_13 ic_1 ?_
      refine y_isub C dX8_sizeOf_14 ?_
      refine y_iand C dX8_sizeOf_15 ?_
      refine y_istore_n C dX8_sizeOf_16 rfl (Nat.le_of_ble_eq_true rfl) [(2, .int ((x2 &&& (x2 - 1)))), (1, .int ((x1 + 1)))] rfl ?_
      refine y_goto C (tgt := 4) dX8_sizeOf_17 rfl ?_
      exact Y.sub (ih ((x1 + 1)) ((x2 &&& (x2 - 1))) (h_5)) [1, 0] rfl
set_option maxRecDepth 100000 in
theorem met_m_sizeOf (G : Gx) (x0 : Int32) (Q : Int32 → Prop) (h : wp_m_sizeOf x0 Q) : Ri G yX8_sizeOf (ws_ yX8_sizeOf cX8_sizeOf 3 (some .int)) rm_m_sizeOf [] [.int (x0)] Q := by
  refine ent_Ri (by decide +kernel) rfl (Nat.le_of_ble_eq_true rfl) [(0, .int (x0))] rfl (fun K C N => ?_)
  refine y_iconst C dX8_sizeOf_0 ic_0 ?_
  refine y_istore_n C dX8_sizeOf_1 rfl (Nat.le_of_ble_eq_true rfl) [(1, .int (0)), (0, .int (x0))] rfl ?_
  refine y_iload_n C dX8_sizeOf_2 1 rfl rfl ?_
  refine y_istore_n C dX8_sizeOf_3 rfl (Nat.le_of_ble_eq_true rfl) [(2, .int (x0)), (1, .int (0)), (0, .int (x0))] rfl ?_
  obtain ⟨n_1, h_2⟩ := h
  exact Y.sub (wk_m_sizeOf_b4 C N n_1 (0) (x0) h_2) [1, 0] rfl
/-! OverHillModel chorusOf()I: m_chorusOf -/
abbrev rm_m_chorusOf : Room := { frames := 103, cells := 0, slots := 0, locals := 3491 }
def wp_m_chorusOf_b4 (S : St) (Q : Int32 → Prop) : Nat → Int32 → Int32 → Prop
  | 0 => fun _ _ => False
  | n + 1 => fun x1 x2 => (((1 <<< ((S.1 7 9) &&& 31)) ≤ x2 → Q x1) ∧ (¬ (1 <<< ((S.1 7 9) &&& 31)) ≤ x2 → wp_m_sizeOf (x2) (fun r_6 => wp_m_sizeOf (x1) (fun r_9 => ((r_6 ≤ r_9 → wp_m_chorusOf_b4 S Q n (x1) ((x2 + 1))) ∧ (¬ r_6 ≤ r_9 → wp_m_togetherOf S (x2) (0) (fun r_15 => (((lg_cmp r_15 (-1)) = 0 → wp_m_chorusOf_b4 S Q n (x1) ((x2 + 1))) ∧ (¬ (lg_cmp r_15 (-1)) = 0 → wp_m_chorusOf_b4 S Q n (x2) ((x2 + 1)))))))))))
def wp_m_chorusOf (S : St) (Q : Int32 → Prop) : Prop :=
  (∃ z, wp_m_chorusOf_b4 S Q z (0) (1))
set_option maxRecDepth 100000 in
theorem wk_m_chorusOf_b4 {G : Gx} {K : Kx} {A : Nat → Nat} (C : KOk G K RX8 cX8_chorusOf rm_m_chorusOf 3 (some .int)) {S : St} {Q : Int32 → Prop} (N : KRi K Q) : ∀ (n : Nat), ∀ (x1 : Int32) (x2 : Int32), wp_m_chorusOf_b4 S Q n x1 x2 → Y G K 0 0 (wM G A S) 4 [(0, .ref (A 0)), (1, .int (x1)), (2, .int (x2))] [] := by
  intro n
  induction n with
  | zero => intro x1 x2 h; exact h.elim
  | succ n ih =>
    intro x1 x2 h
    dsimp only [wp_m_chorusOf_b4] at h
    refine y_iload_n C dX8_chorusOf_4 2 rfl rfl ?_
    refine y_iconst C dX8_chorusOf_5 ic_1 ?_
    refine y_aload_n C dX8_chorusOf_6 0 rfl rfl ?_
    refine yg_X8_34_wM0 C dX8_chorusOf_7 ?_
    refine y_bipush C dX8_chorusOf_10 bp_9 ?_
    refine y_iald C (wM_7 ..) tn_9 vi_9_55 dX8_chorusOf_12 ?_
    refine y_ishl C dX8_chorusOf_13 ?_
    refine y_icmp_ge C (tgt := 49) dX8_chorusOf_14 rfl (fun c_3 => ?_) (fun c_3 => ?_)
    · have h_4 := (h).1 c_3
      refine y_iload_n C dX8_chorusOf_49 1 rfl rfl ?_
      exact y_iretR C N rfl (h_4) dX8_chorusOf_50
    · have h_5 := (h).2 c_3
      refine y_iload_n C dX8_chorusOf_17 2 rfl rfl ?_
      refine y_callRiS (As := [.int (x2)]) (rest := []) C cs_X8_404 (met_m_sizeOf G (x2) _ (h_5)) (fun _ _ => pw_nil) ⟨rfl, rfl, Nat.le_of_ble_eq_true rfl, Nat.le_of_ble_eq_true rfl⟩ rfl rfl (Nat.le_of_ble_eq_true rfl) dX8_chorusOf_18 ⟨Nat.zero_le _, Nat.zero_le _⟩ (fun r_6 h_7 => ?_)
      refine y_iload_n C dX8_chorusOf_21 1 rfl rfl ?_
      refine y_callRiS (As := [.int (x1)]) (rest := [.int (r_6)]) C cs_X8_404 (met_m_sizeOf G (x1) _ (h_7)) (fun _ _ => pw_nil) ⟨rfl, rfl, Nat.le_of_ble_eq_true rfl, Nat.le_of_ble_eq_true rfl⟩ rfl rfl (Nat.le_of_ble_eq_true rfl) dX8_chorusOf_22 ⟨Nat.zero_le _, Nat.zero_le _⟩ (fun r_9 h_10 => ?_)
      refine y_icmp_le C (tgt := 43) dX8_chorusOf_25 rfl (fun c_12 => ?_) (fun c_12 => ?_)
      · have h_13 := (h_10).1 c_12
        refine y_iinc C dX8_chorusOf_43 2 rfl (Nat.le_of_ble_eq_true rfl) (ii_1 _) [(2, .int ((x2 + 1))), (0, .ref (A 0)), (1, .int (x1))] rfl ?_
        refine y_goto C (tgt := 4) dX8_chorusOf_46 rfl ?_
        exact Y.sub (ih (x1) ((x2 + 1)) (h_13)) [1, 2, 0] rfl
      · have h_14 := (h_10).2 c_12
        refine y_aload_n C dX8_chorusOf_28 0 rfl rfl ?_
        refine y_iload_n C dX8_chorusOf_29 2 rfl rfl ?_
        refine y_iconst C dX8_chorusOf_30 ic_0 ?_
        refine y_callRlV (As := [.int (x2), .int (0)]) (rest := []) C cs_X8_394 (met_m_togetherOf G A S (x2) (0) _ (h_14)) (fun _ h => h) (wM_0 ..) rfl rfl ⟨rfl, rfl, Nat.le_of_ble_eq_true rfl, Nat.le_of_ble_eq_true rfl⟩ rfl rfl (Nat.le_of_ble_eq_true rfl) dX8_chorusOf_31 ⟨Nat.zero_le _, Nat.zero_le _⟩ (fun r_15 h_16 => ?_)
        refine y_ldc2 C dX8_chorusOf_34 q1764 ?_
        refine y_lcmp C dX8_chorusOf_37 ?_
        refine y_if_eq C (tgt := 43) dX8_chorusOf_38 rfl (fun c_18 => ?_) (fun c_18 => ?_)
        · have h_19 := (h_16).1 c_18
          refine y_iinc C dX8_chorusOf_43 2 rfl (Nat.le_of_ble_eq_true rfl) (ii_1 _) [(2, .int ((x2 + 1))), (0, .ref (A 0)), (1, .int (x1))] rfl ?_
          refine y_goto C (tgt := 4) dX8_chorusOf_46 rfl ?_
          exact Y.sub (ih (x1) ((x2 + 1)) (h_19)) [1, 2, 0] rfl
        · have h_20 := (h_16).2 c_18
          refine y_iload_n C dX8_chorusOf_41 2 rfl rfl ?_
          refine y_istore_n C dX8_chorusOf_42 rfl (Nat.le_of_ble_eq_true rfl) [(1, .int (x2)), (0, .ref (A 0)), (2, .int (x2))] rfl ?_
          refine y_iinc C dX8_chorusOf_43 2 rfl (Nat.le_of_ble_eq_true rfl) (ii_1 _) [(2, .int ((x2 + 1))), (1, .int (x2)), (0, .ref (A 0))] rfl ?_
          refine y_goto C (tgt := 4) dX8_chorusOf_46 rfl ?_
          exact Y.sub (ih (x2) ((x2 + 1)) (h_20)) [2, 1, 0] rfl
set_option maxRecDepth 100000 in
theorem met_m_chorusOf (G : Gx) (A : Nat → Nat) (S : St) (Q : Int32 → Prop) (h : wp_m_chorusOf S Q) : Ri G yX8_chorusOf (ws_ yX8_chorusOf cX8_chorusOf 3 (some .int)) rm_m_chorusOf (wM G A S) [.ref (A 0)] Q := by
  refine ent_Ri (by decide +kernel) rfl (Nat.le_of_ble_eq_true rfl) [(0, .ref (A 0))] rfl (fun K C N => ?_)
  refine y_iconst C dX8_chorusOf_0 ic_0 ?_
  refine y_istore_n C dX8_chorusOf_1 rfl (Nat.le_of_ble_eq_true rfl) [(1, .int (0)), (0, .ref (A 0))] rfl ?_
  refine y_iconst C dX8_chorusOf_2 ic_1 ?_
  refine y_istore_n C dX8_chorusOf_3 rfl (Nat.le_of_ble_eq_true rfl) [(2, .int (1)), (1, .int (0)), (0, .ref (A 0))] rfl ?_
  obtain ⟨n_1, h_2⟩ := h
  exact Y.sub (wk_m_chorusOf_b4 C N n_1 (0) (1) h_2) [2, 1, 0] rfl
/-! OverHillModel most()I: m_most -/
abbrev rm_m_most : Room := { frames := 104, cells := 0, slots := 0, locals := 3513 }
def wp_m_most (S : St) (Q : Int32 → St → Prop) : Prop :=
  wp_m_isDance (sI S 0 0 0) (fun r_1 => ((r_1 = 0 → Q (-2) (sI S 0 0 0)) ∧ (¬ r_1 = 0 → wp_m_chorusOf (sI S 0 0 0) (fun r_7 => wp_m_sizeOf (r_7) (fun r_10 => Q r_10 (sI S 0 0 0))))))
set_option maxRecDepth 100000 in
theorem met_m_most (G : Gx) (A : Nat → Nat) (S : St) (Q : Int32 → St → Prop) (h : wp_m_most S Q) : Mi G yX8_most (ws_ yX8_most cX8_most 1 (some .int)) rm_m_most (wM G A S) [.ref (A 0)] (wM G A) Q := by
  refine ent_Mi (by decide +kernel) rfl (Nat.le_of_ble_eq_true rfl) [(0, .ref (A 0))] rfl (fun K B C M N => ?_)
  refine y_aload_n C dX8_most_0 0 rfl rfl ?_
  refine y_iconst C dX8_most_1 ic_0 ?_
  refine yp_X8_80_wM0 C M dX8_most_2 ?_
  refine y_aload_n C dX8_most_5 0 rfl rfl ?_
  refine y_callRiV (As := []) (rest := []) C cs_X8_254 (met_m_isDance G A (sI S 0 0 0) _ (h)) (fun _ h => h) (wM_0 ..) rfl rfl ⟨rfl, rfl, Nat.le_of_ble_eq_true rfl, Nat.le_of_ble_eq_true rfl⟩ rfl rfl (Nat.le_of_ble_eq_true rfl) dX8_most_6 ⟨Nat.zero_le _, Nat.zero_le _⟩ (fun r_1 h_2 => ?_)
  refine y_if_eq C (tgt := 22) dX8_most_9 rfl (fun c_4 => ?_) (fun c_4 => ?_)
  · have h_5 := (h_2).1 c_4
    refine y_bipush C dX8_most_22 bpm2 ?_
    exact y_iretM C M N rfl (S := (sI S 0 0 0)) rfl (h_5) dX8_most_24
  · have h_6 := (h_2).2 c_4
    refine y_aload_n C dX8_most_12 0 rfl rfl ?_
    refine y_callRiV (As := []) (rest := []) C cs_X8_407 (met_m_chorusOf G A (sI S 0 0 0) _ (h_6)) (fun _ h => h) (wM_0 ..) rfl rfl ⟨rfl, rfl, Nat.le_of_ble_eq_true rfl, Nat.le_of_ble_eq_true rfl⟩ rfl rfl (Nat.le_of_ble_eq_true rfl) dX8_most_13 ⟨Nat.zero_le _, Nat.zero_le _⟩ (fun r_7 h_8 => ?_)
    refine y_callRiS (As := [.int (r_7)]) (rest := []) C cs_X8_404 (met_m_sizeOf G (r_7) _ (h_8)) (fun _ _ => pw_nil) ⟨rfl, rfl, Nat.le_of_ble_eq_true rfl, Nat.le_of_ble_eq_true rfl⟩ rfl rfl (Nat.le_of_ble_eq_true rfl) dX8_most_16 ⟨Nat.zero_le _, Nat.zero_le _⟩ (fun r_10 h_11 => ?_)
    refine y_goto C (tgt := 24) dX8_most_19 rfl ?_
    exact y_iretM C M N rfl (S := (sI S 0 0 0)) rfl (h_11) dX8_most_24
/-! OverHillModel chorus()I: m_chorus -/
abbrev rm_m_chorus : Room := { frames := 104, cells := 0, slots := 0, locals := 3513 }
def wp_m_chorus (S : St) (Q : Int32 → St → Prop) : Prop :=
  wp_m_isDance (sI S 0 0 0) (fun r_1 => ((r_1 = 0 → Q (-2) (sI S 0 0 0)) ∧ (¬ r_1 = 0 → wp_m_chorusOf (sI S 0 0 0) (fun r_7 => Q r_7 (sI S 0 0 0)))))
set_option maxRecDepth 100000 in
theorem met_m_chorus (G : Gx) (A : Nat → Nat) (S : St) (Q : Int32 → St → Prop) (h : wp_m_chorus S Q) : Mi G yX8_chorus (ws_ yX8_chorus cX8_chorus 1 (some .int)) rm_m_chorus (wM G A S) [.ref (A 0)] (wM G A) Q := by
  refine ent_Mi (by decide +kernel) rfl (Nat.le_of_ble_eq_true rfl) [(0, .ref (A 0))] rfl (fun K B C M N => ?_)
  refine y_aload_n C dX8_chorus_0 0 rfl rfl ?_
  refine y_iconst C dX8_chorus_1 ic_0 ?_
  refine yp_X8_80_wM0 C M dX8_chorus_2 ?_
  refine y_aload_n C dX8_chorus_5 0 rfl rfl ?_
  refine y_callRiV (As := []) (rest := []) C cs_X8_254 (met_m_isDance G A (sI S 0 0 0) _ (h)) (fun _ h => h) (wM_0 ..) rfl rfl ⟨rfl, rfl, Nat.le_of_ble_eq_true rfl, Nat.le_of_ble_eq_true rfl⟩ rfl rfl (Nat.le_of_ble_eq_true rfl) dX8_chorus_6 ⟨Nat.zero_le _, Nat.zero_le _⟩ (fun r_1 h_2 => ?_)
  refine y_if_eq C (tgt := 19) dX8_chorus_9 rfl (fun c_4 => ?_) (fun c_4 => ?_)
  · have h_5 := (h_2).1 c_4
    refine y_bipush C dX8_chorus_19 bpm2 ?_
    exact y_iretM C M N rfl (S := (sI S 0 0 0)) rfl (h_5) dX8_chorus_21
  · have h_6 := (h_2).2 c_4
    refine y_aload_n C dX8_chorus_12 0 rfl rfl ?_
    refine y_callRiV (As := []) (rest := []) C cs_X8_407 (met_m_chorusOf G A (sI S 0 0 0) _ (h_6)) (fun _ h => h) (wM_0 ..) rfl rfl ⟨rfl, rfl, Nat.le_of_ble_eq_true rfl, Nat.le_of_ble_eq_true rfl⟩ rfl rfl (Nat.le_of_ble_eq_true rfl) dX8_chorus_13 ⟨Nat.zero_le _, Nat.zero_le _⟩ (fun r_7 h_8 => ?_)
    refine y_goto C (tgt := 21) dX8_chorus_16 rfl ?_
    exact y_iretM C M N rfl (S := (sI S 0 0 0)) rfl (h_8) dX8_chorus_21
/-! OverHillModel treaties()I: m_treaties -/
abbrev rm_m_treaties : Room := { frames := 2, cells := 0, slots := 0, locals := 61 }
def wp_m_treaties_b27 (Q : Int32 → St → Prop) (K19 : St → Int32 → Int32 → Prop) : Nat → St → Int32 → Int32 → Int32 → Prop
  | 0 => fun _ _ _ _ => False
  | n + 1 => fun S x1 x2 x3 => ((6 ≤ x3 → K19 S (x1) ((x2 + 1))) ∧ (¬ 6 ≤ x3 → (vp_in x2 30 ∧ wp_m_isBit ((S.1 9 (x2).toNatClampNeg)) (x3) (fun r_17 => ((r_17 = 0 → wp_m_treaties_b27 Q K19 n S ((x1 + 0)) (x2) ((x3 + 1))) ∧ (¬ r_17 = 0 → (vp_in x3 30 ∧ wp_m_isBit ((S.1 9 (x3).toNatClampNeg)) (x2) (fun r_23 => ((r_23 = 0 → wp_m_treaties_b27 Q K19 n S ((x1 + 0)) (x2) ((x3 + 1))) ∧ (¬ r_23 = 0 → wp_m_treaties_b27 Q K19 n S ((x1 + 1)) (x2) ((x3 + 1))))))))))))
def wp_m_treaties_b19 (Q : Int32 → St → Prop) : Nat → St → Int32 → Int32 → Prop
  | 0 => fun _ _ _ => False
  | n + 1 => fun S x1 x2 => ((6 ≤ x2 → Q x1 S) ∧ (¬ 6 ≤ x2 → (∃ z, wp_m_treaties_b27 Q (fun Sy y1 y2 => wp_m_treaties_b19 Q n Sy y1 y2) z S (x1) (x2) (0))))
def wp_m_treaties (S : St) (Q : Int32 → St → Prop) : Prop :=
  wp_m_isDance (sI S 0 0 0) (fun r_1 => ((¬ r_1 = 0 → (∃ z, wp_m_treaties_b19 Q z (sI S 0 0 0) (0) (0))) ∧ (r_1 = 0 → Q (-2) (sI S 0 0 0))))
set_option maxRecDepth 100000 in
theorem wk_m_treaties_b27 {G : Gx} {K : Kx} {A : Nat → Nat} (C : KOk G K RX8 cX8_treaties rm_m_treaties 4 (some .int)) {B : Nat → Prop} (M : KM G K B) {Q : Int32 → St → Prop} (N : KQi G K B (wM G A) Q) (K19 : St → Int32 → Int32 → Prop) (hK19 : ∀ (S : St) (x1 : Int32) (x2 : Int32), K19 S x1 x2 → Y G K 0 0 (wM G A S) 19 [(0, .ref (A 0)), (1, .int (x1)), (2, .int (x2))] []) : ∀ (n : Nat), ∀ (S : St) (x1 : Int32) (x2 : Int32) (x3 : Int32), wp_m_treaties_b27 Q K19 n S x1 x2 x3 → Y G K 0 0 (wM G A S) 27 [(0, .ref (A 0)), (1, .int (x1)), (2, .int (x2)), (3, .int (x3))] [] := by
  intro n
  induction n with
  | zero => intro S x1 x2 x3 h; exact h.elim
  | succ n ih =>
    intro S x1 x2 x3 h
    dsimp only [wp_m_treaties_b27] at h
    refine y_iload_n C dX8_treaties_27 3 rfl rfl ?_
    refine y_bipush C dX8_treaties_28 bp_6 ?_
    refine y_icmp_ge C (tgt := 73) dX8_treaties_30 rfl (fun c_14 => ?_) (fun c_14 => ?_)
    · have h_15 := (h).1 c_14
      refine y_iinc C dX8_treaties_73 2 rfl (Nat.le_of_ble_eq_true rfl) (ii_1 _) [(2, .int ((x2 + 1))), (0, .ref (A 0)), (1, .int (x1)), (3, .int (x3))] rfl ?_
      refine y_goto C (tgt := 19) dX8_treaties_76 rfl ?_
      exact Y.sub (hK19 S (x1) ((x2 + 1)) (h_15)) [1, 2, 0] rfl
    · have h_16 := (h).2 c_14
      refine y_iload_n C dX8_treaties_33 1 rfl rfl ?_
      refine y_aload_n C dX8_treaties_34 0 rfl rfl ?_
      refine yg_X8_40_wM0 C dX8_treaties_35 ?_
      refine y_iload_n C dX8_treaties_38 2 rfl rfl ?_
      refine y_iald C (wM_9 ..) rfl (h_16).1 dX8_treaties_39 ?_
      refine y_iload_n C dX8_treaties_40 3 rfl rfl ?_
      refine y_callRiS (As := [.int ((S.1 9 (x2).toNatClampNeg)), .int (x3)]) (rest := [.int (x1)]) C cs_X8_280 (met_m_isBit G ((S.1 9 (x2).toNatClampNeg)) (x3) _ ((h_16).2)) (fun _ _ => pw_nil) ⟨rfl, rfl, Nat.le_of_ble_eq_true rfl, Nat.le_of_ble_eq_true rfl⟩ rfl rfl (Nat.le_of_ble_eq_true rfl) dX8_treaties_41 ⟨Nat.zero_le _, Nat.zero_le _⟩ (fun r_17 h_18 => ?_)
      refine y_if_eq C (tgt := 64) dX8_treaties_44 rfl (fun c_20 => ?_) (fun c_20 => ?_)
      · have h_21 := (h_18).1 c_20
        refine y_iconst C dX8_treaties_64 ic_0 ?_
        refine y_iadd C dX8_treaties_65 ?_
        refine y_istore_n C dX8_treaties_66 rfl (Nat.le_of_ble_eq_true rfl) [(1, .int ((x1 + 0))), (0, .ref (A 0)), (2, .int (x2)), (3, .int (x3))] rfl ?_
        refine y_iinc C dX8_treaties_67 3 rfl (Nat.le_of_ble_eq_true rfl) (ii_1 _) [(3, .int ((x3 + 1))), (1, .int ((x1 + 0))), (0, .ref (A 0)), (2, .int (x2))] rfl ?_
        refine y_goto C (tgt := 27) dX8_treaties_70 rfl ?_
        exact Y.sub (ih S ((x1 + 0)) (x2) ((x3 + 1)) (h_21)) [2, 1, 3, 0] rfl
      · have h_22 := (h_18).2 c_20
        refine y_aload_n C dX8_treaties_47 0 rfl rfl ?_
        refine yg_X8_40_wM0 C dX8_treaties_48 ?_
        refine y_iload_n C dX8_treaties_51 3 rfl rfl ?_
        refine y_iald C (wM_9 ..) rfl (h_22).1 dX8_treaties_52 ?_
        refine y_iload_n C dX8_treaties_53 2 rfl rfl ?_
        refine y_callRiS (As := [.int ((S.1 9 (x3).toNatClampNeg)), .int (x2)]) (rest := [.int (x1)]) C cs_X8_280 (met_m_isBit G ((S.1 9 (x3).toNatClampNeg)) (x2) _ ((h_22).2)) (fun _ _ => pw_nil) ⟨rfl, rfl, Nat.le_of_ble_eq_true rfl, Nat.le_of_ble_eq_true rfl⟩ rfl rfl (Nat.le_of_ble_eq_true rfl) dX8_treaties_54 ⟨Nat.zero_le _, Nat.zero_le _⟩ (fun r_23 h_24 => ?_)
        refine y_if_eq C (tgt := 64) dX8_treaties_57 rfl (fun c_26 => ?_) (fun c_26 => ?_)
        · have h_27 := (h_24).1 c_26
          refine y_iconst C dX8_treaties_64 ic_0 ?_
          refine y_iadd C dX8_treaties_65 ?_
          refine y_istore_n C dX8_treaties_66 rfl (Nat.le_of_ble_eq_true rfl) [(1, .int ((x1 + 0))), (0, .ref (A 0)), (2, .int (x2)), (3, .int (x3))] rfl ?_
          refine y_iinc C dX8_treaties_67 3 rfl (Nat.le_of_ble_eq_true rfl) (ii_1 _) [(3, .int ((x3 + 1))), (1, .int ((x1 + 0))), (0, .ref (A 0)), (2, .int (x2))] rfl ?_
          refine y_goto C (tgt := 27) dX8_treaties_70 rfl ?_
          exact Y.sub (ih S ((x1 + 0)) (x2) ((x3 + 1)) (h_27)) [2, 1, 3, 0] rfl
        · have h_28 := (h_24).2 c_26
          refine y_iconst C dX8_treaties_60 ic_1 ?_
          refine y_goto C (tgt := 65) dX8_treaties_61 rfl ?_
          refine y_iadd C dX8_treaties_65 ?_
          refine y_istore_n C dX8_treaties_66 rfl (Nat.le_of_ble_eq_true rfl) [(1, .int ((x1 + 1))), (0, .ref (A 0)), (2, .int (x2)), (3, .int (x3))] rfl ?_
          refine y_iinc C dX8_treaties_67 3 rfl (Nat.le_of_ble_eq_true rfl) (ii_1 _) [(3, .int ((x3 + 1))), (1, .int ((x1 + 1))), (0, .ref (A 0)), (2, .int (x2))] rfl ?_
          refine y_goto C (tgt := 27) dX8_treaties_70 rfl ?_
          exact Y.sub (ih S ((x1 + 1)) (x2) ((x3 + 1)) (h_28)) [2, 1, 3, 0] rfl
set_option maxRecDepth 100000 in
theorem wk_m_treaties_b19 {G : Gx} {K : Kx} {A : Nat → Nat} (C : KOk G K RX8 cX8_treaties rm_m_treaties 4 (some .int)) {B : Nat → Prop} (M : KM G K B) {Q : Int32 → St → Prop} (N : KQi G K B (wM G A) Q) : ∀ (n : Nat), ∀ (S : St) (x1 : Int32) (x2 : Int32), wp_m_treaties_b19 Q n S x1 x2 → Y G K 0 0 (wM G A S) 19 [(0, .ref (A 0)), (1, .int (x1)), (2, .int (x2))] [] := by
  intro n
  induction n with
  | zero => intro S x1 x2 h; exact h.elim
  | succ n ih =>
    intro S x1 x2 h
    dsimp only [wp_m_treaties_b19] at h
    refine y_iload_n C dX8_treaties_19 2 rfl rfl ?_
    refine y_bipush C dX8_treaties_20 bp_6 ?_
    refine y_icmp_ge C (tgt := 79) dX8_treaties_22 rfl (fun c_9 => ?_) (fun c_9 => ?_)
    · have h_10 := (h).1 c_9
      refine y_iload_n C dX8_treaties_79 1 rfl rfl ?_
      exact y_iretM C M N rfl (S := S) rfl (h_10) dX8_treaties_80
    · have h_11 := (h).2 c_9
      refine y_iconst C dX8_treaties_25 ic_0 ?_
      refine y_istore_n C dX8_treaties_26 rfl (Nat.le_of_ble_eq_true rfl) [(3, .int (0)), (0, .ref (A 0)), (1, .int (x1)), (2, .int (x2))] rfl ?_
      obtain ⟨n_12, h_13⟩ := h_11
      exact Y.sub (wk_m_treaties_b27 C M N (fun Sy y1 y2 => wp_m_treaties_b19 Q n Sy y1 y2) ih n_12 S (x1) (x2) (0) h_13) [1, 2, 3, 0] rfl
set_option maxRecDepth 100000 in
theorem met_m_treaties (G : Gx) (A : Nat → Nat) (S : St) (Q : Int32 → St → Prop) (h : wp_m_treaties S Q) : Mi G yX8_treaties (ws_ yX8_treaties cX8_treaties 4 (some .int)) rm_m_treaties (wM G A S) [.ref (A 0)] (wM G A) Q := by
  refine ent_Mi (by decide +kernel) rfl (Nat.le_of_ble_eq_true rfl) [(0, .ref (A 0))] rfl (fun K B C M N => ?_)
  refine y_aload_n C dX8_treaties_0 0 rfl rfl ?_
  refine y_iconst C dX8_treaties_1 ic_0 ?_
  refine yp_X8_80_wM0 C M dX8_treaties_2 ?_
  refine y_aload_n C dX8_treaties_5 0 rfl rfl ?_
  refine y_callRiV (As := []) (rest := []) C cs_X8_254 (met_m_isDance G A (sI S 0 0 0) _ (h)) (fun _ h => h) (wM_0 ..) rfl rfl ⟨rfl, rfl, Nat.le_of_ble_eq_true rfl, Nat.le_of_ble_eq_true rfl⟩ rfl rfl (Nat.le_of_ble_eq_true rfl) dX8_treaties_6 ⟨Nat.zero_le _, Nat.zero_le _⟩ (fun r_1 h_2 => ?_)
  refine y_if_ne C (tgt := 15) dX8_treaties_9 rfl (fun c_4 => ?_) (fun c_4 => ?_)
  · have h_5 := (h_2).1 c_4
    refine y_iconst C dX8_treaties_15 ic_0 ?_
    refine y_istore_n C dX8_treaties_16 rfl (Nat.le_of_ble_eq_true rfl) [(1, .int (0)), (0, .ref (A 0))] rfl ?_
    refine y_iconst C dX8_treaties_17 ic_0 ?_
    refine y_istore_n C dX8_treaties_18 rfl (Nat.le_of_ble_eq_true rfl) [(2, .int (0)), (1, .int (0)), (0, .ref (A 0))] rfl ?_
    obtain ⟨n_6, h_7⟩ := h_5
    exact Y.sub (wk_m_treaties_b19 C M N n_6 (sI S 0 0 0) (0) (0) h_7) [2, 1, 0] rfl
  · have h_8 := (h_2).2 c_4
    refine y_bipush C dX8_treaties_12 bpm2 ?_
    exact y_iretM C M N rfl (S := (sI S 0 0 0)) rfl (h_8) dX8_treaties_14
/-! OverHillModel leads(I)I: m_leads -/
abbrev rm_m_leads : Room := { frames := 2, cells := 0, slots := 0, locals := 65 }
def wp_m_leads_b29 (Q : Int32 → St → Prop) (x1 : Int32) : Nat → St → Int32 → Int32 → Prop
  | 0 => fun _ _ _ => False
  | n + 1 => fun S x2 x3 => ((6 ≤ x3 → Q x2 S) ∧ (¬ 6 ≤ x3 → ((¬ x1 = 0 → (vp_in x3 30 ∧ wp_m_sizeOf ((S.1 9 (x3).toNatClampNeg)) (fun r_20 => (vp_in x2 30 ∧ wp_m_sizeOf ((S.1 9 (x2).toNatClampNeg)) (fun r_23 => ((r_23 ≤ r_20 → wp_m_leads_b29 Q x1 n S (x2) ((x3 + 1))) ∧ (¬ r_23 ≤ r_20 → wp_m_leads_b29 Q x1 n S (x3) ((x3 + 1))))))))) ∧ (x1 = 0 → (vp_in x3 30 ∧ wp_m_sizeOf ((S.1 9 (x3).toNatClampNeg)) (fun r_30 => (vp_in x2 30 ∧ wp_m_sizeOf ((S.1 9 (x2).toNatClampNeg)) (fun r_33 => ((r_30 ≤ r_33 → wp_m_leads_b29 Q x1 n S (x2) ((x3 + 1))) ∧ (¬ r_30 ≤ r_33 → wp_m_leads_b29 Q x1 n S (x3) ((x3 + 1))))))))))))
def wp_m_leads (S : St) (x1 : Int32) (Q : Int32 → St → Prop) : Prop :=
  wp_m_isDance (sI S 0 0 0) (fun r_1 => ((r_1 = 0 → Q (-2) (sI S 0 0 0)) ∧ (¬ r_1 = 0 → wp_m_in ((x1).toInt64) (0) (1) (fun r_7 => ((¬ r_7 = 0 → (∃ z, wp_m_leads_b29 Q (x1) z (sI S 0 0 0) (0) (1))) ∧ (r_7 = 0 → Q (-2) (sI S 0 0 0)))))))
set_option maxRecDepth 100000 in
theorem wk_m_leads_b29 {G : Gx} {K : Kx} {A : Nat → Nat} (C : KOk G K RX8 cX8_leads rm_m_leads 4 (some .int)) {B : Nat → Prop} (M : KM G K B) {Q : Int32 → St → Prop} (N : KQi G K B (wM G A) Q) (x1 : Int32) : ∀ (n : Nat), ∀ (S : St) (x2 : Int32) (x3 : Int32), wp_m_leads_b29 Q x1 n S x2 x3 → Y G K 0 0 (wM G A S) 29 [(0, .ref (A 0)), (1, .int (x1)), (2, .int (x2)), (3, .int (x3))] [] := by
  intro n
  induction n with
  | zero => intro S x2 x3 h; exact h.elim
  | succ n ih =>
    intro S x2 x3 h
    dsimp only [wp_m_leads_b29] at h
    refine y_iload_n C dX8_leads_29 3 rfl rfl ?_
    refine y_bipush C dX8_leads_30 bp_6 ?_
    refine y_icmp_ge C (tgt := 92) dX8_leads_32 rfl (fun c_15 => ?_) (fun c_15 => ?_)
    · have h_16 := (h).1 c_15
      refine y_iload_n C dX8_leads_92 2 rfl rfl ?_
      exact y_iretM C M N rfl (S := S) rfl (h_16) dX8_leads_93
    · have h_17 := (h).2 c_15
      refine y_iload_n C dX8_leads_35 1 rfl rfl ?_
      refine y_if_ne C (tgt := 63) dX8_leads_36 rfl (fun c_18 => ?_) (fun c_18 => ?_)
      · have h_19 := (h_17).1 c_18
        refine y_aload_n C dX8_leads_63 0 rfl rfl ?_
        refine yg_X8_40_wM0 C dX8_leads_64 ?_
        refine y_iload_n C dX8_leads_67 3 rfl rfl ?_
        refine y_iald C (wM_9 ..) rfl (h_19).1 dX8_leads_68 ?_
        refine y_callRiS (As := [.int ((S.1 9 (x3).toNatClampNeg))]) (rest := []) C cs_X8_404 (met_m_sizeOf G ((S.1 9 (x3).toNatClampNeg)) _ ((h_19).2)) (fun _ _ => pw_nil) ⟨rfl, rfl, Nat.le_of_ble_eq_true rfl, Nat.le_of_ble_eq_true rfl⟩ rfl rfl (Nat.le_of_ble_eq_true rfl) dX8_leads_69 ⟨Nat.zero_le _, Nat.zero_le _⟩ (fun r_20 h_21 => ?_)
        refine y_aload_n C dX8_leads_72 0 rfl rfl ?_
        refine yg_X8_40_wM0 C dX8_leads_73 ?_
        refine y_iload_n C dX8_leads_76 2 rfl rfl ?_
        refine y_iald C (wM_9 ..) rfl (h_21).1 dX8_leads_77 ?_
        refine y_callRiS (As := [.int ((S.1 9 (x2).toNatClampNeg))]) (rest := [.int (r_20)]) C cs_X8_404 (met_m_sizeOf G ((S.1 9 (x2).toNatClampNeg)) _ ((h_21).2)) (fun _ _ => pw_nil) ⟨rfl, rfl, Nat.le_of_ble_eq_true rfl, Nat.le_of_ble_eq_true rfl⟩ rfl rfl (Nat.le_of_ble_eq_true rfl) dX8_leads_78 ⟨Nat.zero_le _, Nat.zero_le _⟩ (fun r_23 h_24 => ?_)
        refine y_icmp_ge C (tgt := 86) dX8_leads_81 rfl (fun c_26 => ?_) (fun c_26 => ?_)
        · have h_27 := (h_24).1 c_26
          refine y_iinc C dX8_leads_86 3 rfl (Nat.le_of_ble_eq_true rfl) (ii_1 _) [(3, .int ((x3 + 1))), (0, .ref (A 0)), (1, .int (x1)), (2, .int (x2))] rfl ?_
          refine y_goto C (tgt := 29) dX8_leads_89 rfl ?_
          exact Y.sub (ih S (x2) ((x3 + 1)) (h_27)) [1, 2, 3, 0] rfl
        · have h_28 := (h_24).2 c_26
          refine y_iload_n C dX8_leads_84 3 rfl rfl ?_
          refine y_istore_n C dX8_leads_85 rfl (Nat.le_of_ble_eq_true rfl) [(2, .int (x3)), (0, .ref (A 0)), (1, .int (x1)), (3, .int (x3))] rfl ?_
          refine y_iinc C dX8_leads_86 3 rfl (Nat.le_of_ble_eq_true rfl) (ii_1 _) [(3, .int ((x3 + 1))), (2, .int (x3)), (0, .ref (A 0)), (1, .int (x1))] rfl ?_
          refine y_goto C (tgt := 29) dX8_leads_89 rfl ?_
          exact Y.sub (ih S (x3) ((x3 + 1)) (h_28)) [2, 3, 1, 0] rfl
      · have h_29 := (h_17).2 c_18
        refine y_aload_n C dX8_leads_39 0 rfl rfl ?_
        refine yg_X8_40_wM0 C dX8_leads_40 ?_
        refine y_iload_n C dX8_leads_43 3 rfl rfl ?_
        refine y_iald C (wM_9 ..) rfl (h_29).1 dX8_leads_44 ?_
        refine y_callRiS (As := [.int ((S.1 9 (x3).toNatClampNeg))]) (rest := []) C cs_X8_404 (met_m_sizeOf G ((S.1 9 (x3).toNatClampNeg)) _ ((h_29).2)) (fun _ _ => pw_nil) ⟨rfl, rfl, Nat.le_of_ble_eq_true rfl, Nat.le_of_ble_eq_true rfl⟩ rfl rfl (Nat.le_of_ble_eq_true rfl) dX8_leads_45 ⟨Nat.zero_le _, Nat.zero_le _⟩ (fun r_30 h_31 => ?_)
        refine y_aload_n C dX8_leads_48 0 rfl rfl ?_
        refine yg_X8_40_wM0 C dX8_leads_49 ?_
        refine y_iload_n C dX8_leads_52 2 rfl rfl ?_
        refine y_iald C (wM_9 ..) rfl (h_31).1 dX8_leads_53 ?_
        refine y_callRiS (As := [.int ((S.1 9 (x2).toNatClampNeg))]) (rest := [.int (r_30)]) C cs_X8_404 (met_m_sizeOf G ((S.1 9 (x2).toNatClampNeg)) _ ((h_31).2)) (fun _ _ => pw_nil) ⟨rfl, rfl, Nat.le_of_ble_eq_true rfl, Nat.le_of_ble_eq_true rfl⟩ rfl rfl (Nat.le_of_ble_eq_true rfl) dX8_leads_54 ⟨Nat.zero_le _, Nat.zero_le _⟩ (fun r_33 h_34 => ?_)
        refine y_icmp_le C (tgt := 86) dX8_leads_57 rfl (fun c_36 => ?_) (fun c_36 => ?_)
        · have h_37 := (h_34).1 c_36
          refine y_iinc C dX8_leads_86 3 rfl (Nat.le_of_ble_eq_true rfl) (ii_1 _) [(3, .int ((x3 + 1))), (0, .ref (A 0)), (1, .int (x1)), (2, .int (x2))] rfl ?_
          refine y_goto C (tgt := 29) dX8_leads_89 rfl ?_
          exact Y.sub (ih S (x2) ((x3 + 1)) (h_37)) [1, 2, 3, 0] rfl
        · have h_38 := (h_34).2 c_36
          refine y_goto C (tgt := 84) dX8_leads_60 rfl ?_
          refine y_iload_n C dX8_leads_84 3 rfl rfl ?_
          refine y_istore_n C dX8_leads_85 rfl (Nat.le_of_ble_eq_true rfl) [(2, .int (x3)), (0, .ref (A 0)), (1, .int (x1)), (3, .int (x3))] rfl ?_
          refine y_iinc C dX8_leads_86 3 rfl (Nat.le_of_ble_eq_true rfl) (ii_1 _) [(3, .int ((x3 + 1))), (2, .int (x3)), (0, .ref (A 0)), (1, .int (x1))] rfl ?_
          refine y_goto C (tgt := 29) dX8_leads_89 rfl ?_
          exact Y.sub (ih S (x3) ((x3 + 1)) (h_38)) [2, 3, 1, 0] rfl
set_option maxRecDepth 100000 in
theorem met_m_leads (G : Gx) (A : Nat → Nat) (S : St) (x1 : Int32) (Q : Int32 → St → Prop) (h : wp_m_leads S x1 Q) : Mi G yX8_leads (ws_ yX8_leads cX8_leads 4 (some .int)) rm_m_leads (wM G A S) [.ref (A 0), .int (x1)] (wM G A) Q := by
  refine ent_Mi (by decide +kernel) rfl (Nat.le_of_ble_eq_true rfl) [(0, .ref (A 0)), (1, .int (x1))] rfl (fun K B C M N => ?_)
  refine y_aload_n C dX8_leads_0 0 rfl rfl ?_
  refine y_iconst C dX8_leads_1 ic_0 ?_
  refine yp_X8_80_wM0 C M dX8_leads_2 ?_
  refine y_aload_n C dX8_leads_5 0 rfl rfl ?_
  refine y_callRiV (As := []) (rest := []) C cs_X8_254 (met_m_isDance G A (sI S 0 0 0) _ (h)) (fun _ h => h) (wM_0 ..) rfl rfl ⟨rfl, rfl, Nat.le_of_ble_eq_true rfl, Nat.le_of_ble_eq_true rfl⟩ rfl rfl (Nat.le_of_ble_eq_true rfl) dX8_leads_6 ⟨Nat.zero_le _, Nat.zero_le _⟩ (fun r_1 h_2 => ?_)
  refine y_if_eq C (tgt := 22) dX8_leads_9 rfl (fun c_4 => ?_) (fun c_4 => ?_)
  · have h_5 := (h_2).1 c_4
    refine y_bipush C dX8_leads_22 bpm2 ?_
    exact y_iretM C M N rfl (S := (sI S 0 0 0)) rfl (h_5) dX8_leads_24
  · have h_6 := (h_2).2 c_4
    refine y_iload_n C dX8_leads_12 1 rfl rfl ?_
    refine y_i2l C dX8_leads_13 rfl ?_
    refine y_lconst C dX8_leads_14 lc_0 ?_
    refine y_lconst C dX8_leads_15 lc_1 ?_
    refine y_callRiS (As := [.long ((x1).toInt64), .long (0), .long (1)]) (rest := []) C cs_X8_85 (met_m_in G ((x1).toInt64) (0) (1) _ (h_6)) (fun _ _ => pw_nil) ⟨rfl, rfl, Nat.le_of_ble_eq_true rfl, Nat.le_of_ble_eq_true rfl⟩ rfl rfl (Nat.le_of_ble_eq_true rfl) dX8_leads_16 ⟨Nat.zero_le _, Nat.zero_le _⟩ (fun r_7 h_8 => ?_)
    refine y_if_ne C (tgt := 25) dX8_leads_19 rfl (fun c_10 => ?_) (fun c_10 => ?_)
    · have h_11 := (h_8).1 c_10
      refine y_iconst C dX8_leads_25 ic_0 ?_
      refine y_istore_n C dX8_leads_26 rfl (Nat.le_of_ble_eq_true rfl) [(2, .int (0)), (0, .ref (A 0)), (1, .int (x1))] rfl ?_
      refine y_iconst C dX8_leads_27 ic_1 ?_
      refine y_istore_n C dX8_leads_28 rfl (Nat.le_of_ble_eq_true rfl) [(3, .int (1)), (2, .int (0)), (0, .ref (A 0)), (1, .int (x1))] rfl ?_
      obtain ⟨n_12, h_13⟩ := h_11
      exact Y.sub (wk_m_leads_b29 C M N (x1) n_12 (sI S 0 0 0) (0) (1) h_13) [2, 3, 1, 0] rfl
    · have h_14 := (h_8).2 c_10
      refine y_bipush C dX8_leads_22 bpm2 ?_
      exact y_iretM C M N rfl (S := (sI S 0 0 0)) rfl (h_14) dX8_leads_24
/-! OverHillModel laysGame()V: m_laysGame -/
abbrev rm_m_laysGame : Room := { frames := 1, cells := 0, slots := 0, locals := 40 }
def wp_m_laysGame_b2 (Q : St → Prop) : Nat → St → Int32 → Prop
  | 0 => fun _ _ => False
  | n + 1 => fun S x1 => ((24576 ≤ x1 → Q S) ∧ (¬ 24576 ≤ x1 → (vp_in x1 24576 ∧ wp_m_laysGame_b2 Q n (sI S 21 (x1).toNatClampNeg 0) ((x1 + 1)))))
def wp_m_laysGame (S : St) (Q : St → Prop) : Prop :=
  (∃ z, wp_m_laysGame_b2 Q z S (0))
set_option maxRecDepth 100000 in
theorem wk_m_laysGame_b2 {G : Gx} {K : Kx} {A : Nat → Nat} (C : KOk G K RX8 cX8_laysGame rm_m_laysGame 2 none) {B : Nat → Prop} (M : KM G K B) {Q : St → Prop} (N : KQv G K B (wM G A) Q) : ∀ (n : Nat), ∀ (S : St) (x1 : Int32), wp_m_laysGame_b2 Q n S x1 → Y G K 0 0 (wM G A S) 2 [(0, .ref (A 0)), (1, .int (x1))] [] := by
  intro n
  induction n with
  | zero => intro S x1 h; exact h.elim
  | succ n ih =>
    intro S x1 h
    dsimp only [wp_m_laysGame_b2] at h
    refine y_iload_n C dX8_laysGame_2 1 rfl rfl ?_
    refine y_sipush C dX8_laysGame_3 sp_24576 ?_
    refine y_icmp_ge C (tgt := 22) dX8_laysGame_6 rfl (fun c_3 => ?_) (fun c_3 => ?_)
    · have h_4 := (h).1 c_3
      exact y_vretM C M N rfl (S := S) rfl (h_4) dX8_laysGame_22
    · have h_5 := (h).2 c_3
      refine y_aload_n C dX8_laysGame_9 0 rfl rfl ?_
      refine yg_X8_77_wM0 C dX8_laysGame_10 ?_
      refine y_iload_n C dX8_laysGame_13 1 rfl rfl ?_
      refine y_iconst C dX8_laysGame_14 ic_0 ?_
      refine y_iast C M (wM_21 ..) rfl (wM_s21 ..) (h_5).1 dX8_laysGame_15 ?_
      refine y_iinc C dX8_laysGame_16 1 rfl (Nat.le_of_ble_eq_true rfl) (ii_1 _) [(1, .int ((x1 + 1))), (0, .ref (A 0))] rfl ?_
      refine y_goto C (tgt := 2) dX8_laysGame_19 rfl ?_
      exact Y.sub (ih (sI S 21 (x1).toNatClampNeg 0) ((x1 + 1)) ((h_5).2)) [1, 0] rfl
set_option maxRecDepth 100000 in
theorem met_m_laysGame (G : Gx) (A : Nat → Nat) (S : St) (Q : St → Prop) (h : wp_m_laysGame S Q) : Mv G yX8_laysGame (ws_ yX8_laysGame cX8_laysGame 2 none) rm_m_laysGame (wM G A S) [.ref (A 0)] (wM G A) Q := by
  refine ent_Mv (by decide +kernel) rfl (Nat.le_of_ble_eq_true rfl) [(0, .ref (A 0))] rfl (fun K B C M N => ?_)
  refine y_iconst C dX8_laysGame_0 ic_0 ?_
  refine y_istore_n C dX8_laysGame_1 rfl (Nat.le_of_ble_eq_true rfl) [(1, .int (0)), (0, .ref (A 0))] rfl ?_
  obtain ⟨n_1, h_2⟩ := h
  exact Y.sub (wk_m_laysGame_b2 C M N n_1 S (0) h_2) [1, 0] rfl
/-! OverHillModel isPlay(III)Z: m_isPlay -/
abbrev rm_m_isPlay : Room := { frames := 2, cells := 0, slots := 0, locals := 61 }
def wp_m_isPlay (S : St) (x1 : Int32) (x2 : Int32) (x3 : Int32) (Q : Int32 → Prop) : Prop :=
  (vp_in x2 30 ∧ wp_m_isBit ((S.1 9 (x2).toNatClampNeg)) (x3) (fun r_1 => ((r_1 = 0 → Q 0) ∧ (¬ r_1 = 0 → ((2 ≤ ((x1 >>> ((2 * x3) &&& 31)) &&& 3) → Q 0) ∧ (¬ 2 ≤ ((x1 >>> ((2 * x3) &&& 31)) &&& 3) → Q 1))))))
set_option maxRecDepth 100000 in
theorem met_m_isPlay (G : Gx) (A : Nat → Nat) (S : St) (x1 : Int32) (x2 : Int32) (x3 : Int32) (Q : Int32 → Prop) (h : wp_m_isPlay S x1 x2 x3 Q) : Ri G yX8_isPlay (ws_ yX8_isPlay cX8_isPlay 4 (some .boolean)) rm_m_isPlay (wM G A S) [.ref (A 0), .int (x1), .int (x2), .int (x3)] Q := by
  refine ent_Ri (by decide +kernel) rfl (Nat.le_of_ble_eq_true rfl) [(0, .ref (A 0)), (1, .int (x1)), (2, .int (x2)), (3, .int (x3))] rfl (fun K C N => ?_)
  refine y_aload_n C dX8_isPlay_0 0 rfl rfl ?_
  refine yg_X8_40_wM0 C dX8_isPlay_1 ?_
  refine y_iload_n C dX8_isPlay_4 2 rfl rfl ?_
  refine y_iald C (wM_9 ..) rfl (h).1 dX8_isPlay_5 ?_
  refine y_iload_n C dX8_isPlay_6 3 rfl rfl ?_
  refine y_callRiS (As := [.int ((S.1 9 (x2).toNatClampNeg)), .int (x3)]) (rest := []) C cs_X8_280 (met_m_isBit G ((S.1 9 (x2).toNatClampNeg)) (x3) _ ((h).2)) (fun _ _ => pw_nil) ⟨rfl, rfl, Nat.le_of_ble_eq_true rfl, Nat.le_of_ble_eq_true rfl⟩ rfl rfl (Nat.le_of_ble_eq_true rfl) dX8_isPlay_7 ⟨Nat.zero_le _, Nat.zero_le _⟩ (fun r_1 h_2 => ?_)
  refine y_if_eq C (tgt := 28) dX8_isPlay_10 rfl (fun c_4 => ?_) (fun c_4 => ?_)
  · have h_5 := (h_2).1 c_4
    refine y_iconst C dX8_isPlay_28 ic_0 ?_
    exact y_zretR C N rfl rfl (h_5) dX8_isPlay_29
  · have h_6 := (h_2).2 c_4
    refine y_iload_n C dX8_isPlay_13 1 rfl rfl ?_
    refine y_iconst C dX8_isPlay_14 ic_2 ?_
    refine y_iload_n C dX8_isPlay_15 3 rfl rfl ?_
    refine y_imul C dX8_isPlay_16 ?_
    refine y_ishr C dX8_isPlay_17 ?_
    refine y_iconst C dX8_isPlay_18 ic_3 ?_
    refine y_iand C dX8_isPlay_19 ?_
    refine y_iconst C dX8_isPlay_20 ic_2 ?_
    refine y_icmp_ge C (tgt := 28) dX8_isPlay_21 rfl (fun c_7 => ?_) (fun c_7 => ?_)
    · have h_8 := (h_6).1 c_7
      refine y_iconst C dX8_isPlay_28 ic_0 ?_
      exact y_zretR C N rfl rfl (h_8) dX8_isPlay_29
    · have h_9 := (h_6).2 c_7
      refine y_iconst C dX8_isPlay_24 ic_1 ?_
      refine y_goto C (tgt := 29) dX8_isPlay_25 rfl ?_
      exact y_zretR C N rfl rfl (h_9) dX8_isPlay_29
/-! OverHillModel winsFrom(II)Z: m_winsFrom -/
abbrev rm_m_winsFrom (d : Nat) : Room := { frames := 3 + d, cells := 0, slots := 0, locals := 84 + 35 * d }
def wp_m_winsFrom_b84 (Rec : St → Int32 → Int32 → (Int32 → St → Prop) → Prop) (Q : Int32 → St → Prop) (S : St) (x3 : Int32) : Prop :=
  (vp_in x3 24576 ∧ ((¬ (S.1 21 (x3).toNatClampNeg) = 1 → Q 0 S) ∧ ((S.1 21 (x3).toNatClampNeg) = 1 → Q 1 S)))
def wp_m_winsFrom_b26 (Rec : St → Int32 → Int32 → (Int32 → St → Prop) → Prop) (Q : Int32 → St → Prop) (x1 : Int32) (x2 : Int32) : Nat → St → Int32 → Int32 → Prop
  | 0 => fun _ _ _ => False
  | n + 1 => fun S x3 x4 => ((6 ≤ x4 → wp_m_winsFrom_b84 Rec Q S (x3)) ∧ (¬ 6 ≤ x4 → (vp_in x3 24576 ∧ ((¬ (S.1 21 (x3).toNatClampNeg) = 2 → wp_m_winsFrom_b84 Rec Q S (x3)) ∧ ((S.1 21 (x3).toNatClampNeg) = 2 → wp_m_isPlay S (x1) (x2) (x4) (fun r_15 => ((r_15 = 0 → wp_m_winsFrom_b26 Rec Q x1 x2 n S (x3) ((x4 + 1))) ∧ (¬ r_15 = 0 → Rec S ((x1 + (1 <<< ((2 * x4) &&& 31)))) (x4) (fun r_21 S_23 => ((¬ r_21 = 0 → wp_m_winsFrom_b26 Rec Q x1 x2 n S_23 (x3) ((x4 + 1))) ∧ (r_21 = 0 → (vp_in x3 24576 ∧ wp_m_winsFrom_b26 Rec Q x1 x2 n (sI S_23 21 (x3).toNatClampNeg 1) (x3) ((x4 + 1))))))))))))))
def wp_m_winsFrom_e (Rec : St → Int32 → Int32 → (Int32 → St → Prop) → Prop) (S : St) (x1 : Int32) (x2 : Int32) (Q : Int32 → St → Prop) : Prop :=
  (vp_in ((6 * x1) + x2) 24576 ∧ ((¬ (S.1 21 (((6 * x1) + x2)).toNatClampNeg) = 0 → wp_m_winsFrom_b84 Rec Q S (((6 * x1) + x2))) ∧ ((S.1 21 (((6 * x1) + x2)).toNatClampNeg) = 0 → (vp_in ((6 * x1) + x2) 24576 ∧ (∃ z, wp_m_winsFrom_b26 Rec Q (x1) (x2) z (sI S 21 (((6 * x1) + x2)).toNatClampNeg 2) (((6 * x1) + x2)) (0))))))
def wp_m_winsFrom : Nat → St → Int32 → Int32 → (Int32 → St → Prop) → Prop
  | 0 => fun _ _ _ _ => False
  | d + 1 => wp_m_winsFrom_e (wp_m_winsFrom d)
theorem rmr_m_winsFrom (d : Nat) : (rm_m_winsFrom d).cells = 0 ∧ (rm_m_winsFrom d).slots = 0 ∧ (rm_m_winsFrom d).frames + 1 ≤ (rm_m_winsFrom (d + 1)).frames ∧ 8 + (5 + 11) + (rm_m_winsFrom d).locals ≤ (rm_m_winsFrom (d + 1)).locals := ⟨rfl, rfl, by simp only [rm_m_winsFrom]; omega, by simp only [rm_m_winsFrom]; omega⟩
set_option maxRecDepth 100000 in
theorem wk_m_winsFrom_b84 {G : Gx} {K : Kx} {A : Nat → Nat} {d : Nat} (C : KOk G K RX8 cX8_winsFrom (rm_m_winsFrom (d + 1)) 5 (some .boolean)) {B : Nat → Prop} (M : KM G K B) {Rec : St → Int32 → Int32 → (Int32 → St → Prop) → Prop} (hRec : ∀ (S : St) (x1 : Int32) (x2 : Int32) (Q : Int32 → St → Prop), Rec S x1 x2 Q → Mi G yX8_winsFrom (ws_ yX8_winsFrom cX8_winsFrom 5 (some .boolean)) (rm_m_winsFrom d) (wM G A S) [.ref (A 0), .int (x1), .int (x2)] (wM G A) Q) {Q : Int32 → St → Prop} (N : KQi G K B (wM G A) Q) (S : St) (x3 : Int32) (h : wp_m_winsFrom_b84 Rec Q S x3) : Y G K 0 0 (wM G A S) 84 [(0, .ref (A 0)), (3, .int (x3))] [] := by
  refine y_aload_n C dX8_winsFrom_84 0 rfl rfl ?_
  refine yg_X8_77_wM0 C dX8_winsFrom_85 ?_
  refine y_iload_n C dX8_winsFrom_88 1 rfl rfl ?_
  refine y_iald C (wM_21 ..) rfl (h).1 dX8_winsFrom_89 ?_
  refine y_iconst C dX8_winsFrom_90 ic_1 ?_
  refine y_icmp_ne C (tgt := 98) dX8_winsFrom_91 rfl (fun c_6 => ?_) (fun c_6 => ?_)
  · have h_7 := ((h).2).1 c_6
    refine y_iconst C dX8_winsFrom_98 ic_0 ?_
    exact y_zretM C M N rfl rfl (S := S) rfl (h_7) dX8_winsFrom_99
  · have h_8 := ((h).2).2 c_6
    refine y_iconst C dX8_winsFrom_94 ic_1 ?_
    refine y_goto C (tgt := 99) dX8_winsFrom_95 rfl ?_
    exact y_zretM C M N rfl rfl (S := S) rfl (h_8) dX8_winsFrom_99
set_option maxRecDepth 100000 in
theorem wk_m_winsFrom_b26 {G : Gx} {K : Kx} {A : Nat → Nat} {d : Nat} (C : KOk G K RX8 cX8_winsFrom (rm_m_winsFrom (d + 1)) 5 (some .boolean)) {B : Nat → Prop} (M : KM G K B) {Rec : St → Int32 → Int32 → (Int32 → St → Prop) → Prop} (hRec : ∀ (S : St) (x1 : Int32) (x2 : Int32) (Q : Int32 → St → Prop), Rec S x1 x2 Q → Mi G yX8_winsFrom (ws_ yX8_winsFrom cX8_winsFrom 5 (some .boolean)) (rm_m_winsFrom d) (wM G A S) [.ref (A 0), .int (x1), .int (x2)] (wM G A) Q) {Q : Int32 → St → Prop} (N : KQi G K B (wM G A) Q) (x1 : Int32) (x2 : Int32) : ∀ (n : Nat), ∀ (S : St) (x3 : Int32) (x4 : Int32), wp_m_winsFrom_b26 Rec Q x1 x2 n S x3 x4 → Y G K 0 0 (wM G A S) 26 [(0, .ref (A 0)), (1, .int (x1)), (2, .int (x2)), (3, .int (x3)), (4, .int (x4))] [] := by
  intro n
  induction n with
  | zero => intro S x3 x4 h; exact h.elim
  | succ n ih =>
    intro S x3 x4 h
    dsimp only [wp_m_winsFrom_b26] at h
    refine y_iload C dX8_winsFrom_26 4 rfl ?_
    refine y_bipush C dX8_winsFrom_28 bp_6 ?_
    refine y_icmp_ge C (tgt := 84) dX8_winsFrom_30 rfl (fun c_9 => ?_) (fun c_9 => ?_)
    · have h_10 := (h).1 c_9
      exact Y.sub (wk_m_winsFrom_b84 C M hRec N S (x3) (h_10)) [0, 3] rfl
    · have h_11 := (h).2 c_9
      refine y_aload_n C dX8_winsFrom_33 0 rfl rfl ?_
      refine yg_X8_77_wM0 C dX8_winsFrom_34 ?_
      refine y_iload_n C dX8_winsFrom_37 3 rfl rfl ?_
      refine y_iald C (wM_21 ..) rfl (h_11).1 dX8_winsFrom_38 ?_
      refine y_iconst C dX8_winsFrom_39 ic_2 ?_
      refine y_icmp_ne C (tgt := 84) dX8_winsFrom_40 rfl (fun c_12 => ?_) (fun c_12 => ?_)
      · have h_13 := ((h_11).2).1 c_12
        exact Y.sub (wk_m_winsFrom_b84 C M hRec N S (x3) (h_13)) [0, 3] rfl
      · have h_14 := ((h_11).2).2 c_12
        refine y_aload_n C dX8_winsFrom_43 0 rfl rfl ?_
        refine y_iload_n C dX8_winsFrom_44 1 rfl rfl ?_
        refine y_iload_n C dX8_winsFrom_45 2 rfl rfl ?_
        refine y_iload C dX8_winsFrom_46 4 rfl ?_
        refine y_callRiV (As := [.int (x1), .int (x2), .int (x4)]) (rest := []) C cs_X8_410 (met_m_isPlay G A S (x1) (x2) (x4) _ (h_14)) (fun _ h => h) (wM_0 ..) rfl rfl ⟨rfl, rfl, by simp only [rm_m_winsFrom, rm_m_isPlay]; omega, by simp only [rm_m_winsFrom, rm_m_isPlay]; omega⟩ rfl rfl (Nat.le_of_ble_eq_true rfl) dX8_winsFrom_48 ⟨Nat.zero_le _, Nat.zero_le _⟩ (fun r_15 h_16 => ?_)
        refine y_if_eq C (tgt := 78) dX8_winsFrom_51 rfl (fun c_18 => ?_) (fun c_18 => ?_)
        · have h_19 := (h_16).1 c_18
          refine y_iinc C dX8_winsFrom_78 4 rfl (Nat.le_of_ble_eq_true rfl) (ii_1 _) [(4, .int ((x4 + 1))), (0, .ref (A 0)), (1, .int (x1)), (2, .int (x2)), (3, .int (x3))] rfl ?_
          refine y_goto C (tgt := 26) dX8_winsFrom_81 rfl ?_
          exact Y.sub (ih S (x3) ((x4 + 1)) (h_19)) [1, 2, 3, 4, 0] rfl
        · have h_20 := (h_16).2 c_18
          refine y_aload_n C dX8_winsFrom_54 0 rfl rfl ?_
          refine y_iload_n C dX8_winsFrom_55 1 rfl rfl ?_
          refine y_iconst C dX8_winsFrom_56 ic_1 ?_
          refine y_iconst C dX8_winsFrom_57 ic_2 ?_
          refine y_iload C dX8_winsFrom_58 4 rfl ?_
          refine y_imul C dX8_winsFrom_60 ?_
          refine y_ishl C dX8_winsFrom_61 ?_
          refine y_iadd C dX8_winsFrom_62 ?_
          refine y_iload C dX8_winsFrom_63 4 rfl ?_
          refine y_callMiV (k' := 0) (n' := 0) (As := [.int ((x1 + (1 <<< ((2 * x4) &&& 31)))), .int (x4)]) (rest := []) C M cs_X8_413 (hRec S ((x1 + (1 <<< ((2 * x4) &&& 31)))) (x4) _ (h_20)) (wM_0 ..) rfl rfl (rmr_m_winsFrom d) rfl rfl (Nat.le_of_ble_eq_true rfl) dX8_winsFrom_65 ⟨Nat.zero_le _, Nat.zero_le _⟩ rfl rfl (fun r_21 S_23 h_22 => ?_)
          refine y_if_ne C (tgt := 78) dX8_winsFrom_68 rfl (fun c_24 => ?_) (fun c_24 => ?_)
          · have h_25 := (h_22).1 c_24
            refine y_iinc C dX8_winsFrom_78 4 rfl (Nat.le_of_ble_eq_true rfl) (ii_1 _) [(4, .int ((x4 + 1))), (0, .ref (A 0)), (1, .int (x1)), (2, .int (x2)), (3, .int (x3))] rfl ?_
            refine y_goto C (tgt := 26) dX8_winsFrom_81 rfl ?_
            exact Y.sub (ih S_23 (x3) ((x4 + 1)) (h_25)) [1, 2, 3, 4, 0] rfl
          · have h_26 := (h_22).2 c_24
            refine y_aload_n C dX8_winsFrom_71 0 rfl rfl ?_
            refine yg_X8_77_wM0 C dX8_winsFrom_72 ?_
            refine y_iload_n C dX8_winsFrom_75 3 rfl rfl ?_
            refine y_iconst C dX8_winsFrom_76 ic_1 ?_
            refine y_iast C M (wM_21 ..) rfl (wM_s21 ..) (h_26).1 dX8_winsFrom_77 ?_
            refine y_iinc C dX8_winsFrom_78 4 rfl (Nat.le_of_ble_eq_true rfl) (ii_1 _) [(4, .int ((x4 + 1))), (0, .ref (A 0)), (1, .int (x1)), (2, .int (x2)), (3, .int (x3))] rfl ?_
            refine y_goto C (tgt := 26) dX8_winsFrom_81 rfl ?_
            exact Y.sub (ih (sI S_23 21 (x3).toNatClampNeg 1) (x3) ((x4 + 1)) ((h_26).2)) [1, 2, 3, 4, 0] rfl
set_option maxRecDepth 100000 in
theorem mez_m_winsFrom (G : Gx) (A : Nat → Nat) {d : Nat} {Rec : St → Int32 → Int32 → (Int32 → St → Prop) → Prop} (hRec : ∀ (S : St) (x1 : Int32) (x2 : Int32) (Q : Int32 → St → Prop), Rec S x1 x2 Q → Mi G yX8_winsFrom (ws_ yX8_winsFrom cX8_winsFrom 5 (some .boolean)) (rm_m_winsFrom d) (wM G A S) [.ref (A 0), .int (x1), .int (x2)] (wM G A) Q) (S : St) (x1 : Int32) (x2 : Int32) (Q : Int32 → St → Prop) (h : wp_m_winsFrom_e Rec S x1 x2 Q) : Mi G yX8_winsFrom (ws_ yX8_winsFrom cX8_winsFrom 5 (some .boolean)) (rm_m_winsFrom (d + 1)) (wM G A S) [.ref (A 0), .int (x1), .int (x2)] (wM G A) Q := by
  refine ent_Mi (by decide +kernel) rfl (Nat.le_of_ble_eq_true rfl) [(0, .ref (A 0)), (1, .int (x1)), (2, .int (x2))] rfl (fun K B C M N => ?_)
  refine y_bipush C dX8_winsFrom_0 bp_6 ?_
  refine y_iload_n C dX8_winsFrom_2 1 rfl rfl ?_
  refine y_imul C dX8_winsFrom_3 ?_
  refine y_iload_n C dX8_winsFrom_4 2 rfl rfl ?_
  refine y_iadd C dX8_winsFrom_5 ?_
  refine y_istore_n C dX8_winsFrom_6 rfl (Nat.le_of_ble_eq_true rfl) [(3, .int (((6 * x1) + x2))), (0, .ref (A 0)), (1, .int (x1)), (2, .int (x2))] rfl ?_
  refine y_aload_n C dX8_winsFrom_7 1 rfl rfl ?_
  refine yg_X8_77_wM0 C dX8_winsFrom_8 ?_
  refine y_iload_n C dX8_winsFrom_11 0 rfl rfl ?_
  refine y_iald C (wM_21 ..) rfl (h).1 dX8_winsFrom_12 ?_
  refine y_if_ne C (tgt := 84) dX8_winsFrom_13 rfl (fun c_1 => ?_) (fun c_1 => ?_)
  · have h_2 := ((h).2).1 c_1
    exact Y.sub (wk_m_winsFrom_b84 C M hRec N S (((6 * x1) + x2)) (h_2)) [1, 0] rfl
  · have h_3 := ((h).2).2 c_1
    refine y_aload_n C dX8_winsFrom_16 1 rfl rfl ?_
    refine yg_X8_77_wM0 C dX8_winsFrom_17 ?_
    refine y_iload_n C dX8_winsFrom_20 0 rfl rfl ?_
    refine y_iconst C dX8_winsFrom_21 ic_2 ?_
    refine y_iast C M (wM_21 ..) rfl (wM_s21 ..) (h_3).1 dX8_winsFrom_22 ?_
    refine y_iconst C dX8_winsFrom_23 ic_0 ?_
    refine y_istore C dX8_winsFrom_24 (Nat.le_of_ble_eq_true rfl) [(4, .int (0)), (3, .int (((6 * x1) + x2))), (0, .ref (A 0)), (1, .int (x1)), (2, .int (x2))] rfl ?_
    obtain ⟨n_4, h_5⟩ := (h_3).2
    exact Y.sub (wk_m_winsFrom_b26 C M hRec N (x1) (x2) n_4 (sI S 21 (((6 * x1) + x2)).toNatClampNeg 2) (((6 * x1) + x2)) (0) h_5) [2, 3, 4, 1, 0] rfl
set_option maxRecDepth 100000 in
theorem met_m_winsFrom (G : Gx) (d : Nat) (A : Nat → Nat) : ∀ (S : St) (x1 : Int32) (x2 : Int32) (Q : Int32 → St → Prop), wp_m_winsFrom d S x1 x2 Q → Mi G yX8_winsFrom (ws_ yX8_winsFrom cX8_winsFrom 5 (some .boolean)) (rm_m_winsFrom d) (wM G A S) [.ref (A 0), .int (x1), .int (x2)] (wM G A) Q := by
  induction d with
  | zero => intro S x1 x2 Q h; exact h.elim
  | succ d ih => intro S x1 x2 Q h; exact mez_m_winsFrom G A (d := d) ih S x1 x2 Q h
/-! OverHillModel game(I)I: m_game -/
abbrev rm_m_game : Room := { frames := 24, cells := 0, slots := 0, locals := 808 }
def wp_m_game (S : St) (x1 : Int32) (Q : Int32 → St → Prop) : Prop :=
  wp_m_isDance (sI S 0 0 0) (fun r_1 => ((r_1 = 0 → Q (-2) (sI S 0 0 0)) ∧ (¬ r_1 = 0 → wp_m_isStep ((x1).toInt64) (fun r_7 => ((¬ r_7 = 0 → wp_m_laysGame (sI S 0 0 0) (fun S_14 => wp_m_winsFrom 20 S_14 ((1 <<< ((2 * x1) &&& 31))) (x1) (fun r_15 S_17 => ((r_15 = 0 → Q 0 S_17) ∧ (¬ r_15 = 0 → Q 1 S_17))))) ∧ (r_7 = 0 → Q (-2) (sI S 0 0 0)))))))
set_option maxRecDepth 100000 in
theorem met_m_game (G : Gx) (A : Nat → Nat) (S : St) (x1 : Int32) (Q : Int32 → St → Prop) (h : wp_m_game S x1 Q) : Mi G yX8_game (ws_ yX8_game cX8_game 2 (some .int)) rm_m_game (wM G A S) [.ref (A 0), .int (x1)] (wM G A) Q := by
  refine ent_Mi (by decide +kernel) rfl (Nat.le_of_ble_eq_true rfl) [(0, .ref (A 0)), (1, .int (x1))] rfl (fun K B C M N => ?_)
  refine y_aload_n C dX8_game_0 0 rfl rfl ?_
  refine y_iconst C dX8_game_1 ic_0 ?_
  refine yp_X8_80_wM0 C M dX8_game_2 ?_
  refine y_aload_n C dX8_game_5 0 rfl rfl ?_
  refine y_callRiV (As := []) (rest := []) C cs_X8_254 (met_m_isDance G A (sI S 0 0 0) _ (h)) (fun _ h => h) (wM_0 ..) rfl rfl ⟨rfl, rfl, Nat.le_of_ble_eq_true rfl, Nat.le_of_ble_eq_true rfl⟩ rfl rfl (Nat.le_of_ble_eq_true rfl) dX8_game_6 ⟨Nat.zero_le _, Nat.zero_le _⟩ (fun r_1 h_2 => ?_)
  refine y_if_eq C (tgt := 20) dX8_game_9 rfl (fun c_4 => ?_) (fun c_4 => ?_)
  · have h_5 := (h_2).1 c_4
    refine y_bipush C dX8_game_20 bpm2 ?_
    exact y_iretM C M N rfl (S := (sI S 0 0 0)) rfl (h_5) dX8_game_22
  · have h_6 := (h_2).2 c_4
    refine y_iload_n C dX8_game_12 1 rfl rfl ?_
    refine y_i2l C dX8_game_13 rfl ?_
    refine y_callRiS (As := [.long ((x1).toInt64)]) (rest := []) C cs_X8_267 (met_m_isStep G ((x1).toInt64) _ (h_6)) (fun _ _ => pw_nil) ⟨rfl, rfl, Nat.le_of_ble_eq_true rfl, Nat.le_of_ble_eq_true rfl⟩ rfl rfl (Nat.le_of_ble_eq_true rfl) dX8_game_14 ⟨Nat.zero_le _, Nat.zero_le _⟩ (fun r_7 h_8 => ?_)
    refine y_if_ne C (tgt := 23) dX8_game_17 rfl (fun c_10 => ?_) (fun c_10 => ?_)
    · have h_11 := (h_8).1 c_10
      refine y_aload_n C dX8_game_23 0 rfl rfl ?_
      refine y_callMvV (k' := 0) (n' := 0) (As := []) (rest := []) C M cs_X8_416 (met_m_laysGame G A (sI S 0 0 0) _ (h_11)) (wM_0 ..) rfl rfl ⟨rfl, rfl, Nat.le_of_ble_eq_true rfl, Nat.le_of_ble_eq_true rfl⟩ rfl rfl (Nat.le_of_ble_eq_true rfl) dX8_game_24 ⟨Nat.zero_le _, Nat.zero_le _⟩ rfl rfl (fun S_14 h_13 => ?_)
      refine y_aload_n C dX8_game_27 0 rfl rfl ?_
      refine y_iconst C dX8_game_28 ic_1 ?_
      refine y_iconst C dX8_game_29 ic_2 ?_
      refine y_iload_n C dX8_game_30 1 rfl rfl ?_
      refine y_imul C dX8_game_31 ?_
      refine y_ishl C dX8_game_32 ?_
      refine y_iload_n C dX8_game_33 1 rfl rfl ?_
      refine y_callMiV (k' := 0) (n' := 0) (As := [.int ((1 <<< ((2 * x1) &&& 31))), .int (x1)]) (rest := []) C M cs_X8_413 (met_m_winsFrom G 20 A S_14 ((1 <<< ((2 * x1) &&& 31))) (x1) _ (h_13)) (wM_0 ..) rfl rfl ⟨rfl, rfl, Nat.le_of_ble_eq_true rfl, Nat.le_of_ble_eq_true rfl⟩ rfl rfl (Nat.le_of_ble_eq_true rfl) dX8_game_34 ⟨Nat.zero_le _, Nat.zero_le _⟩ rfl rfl (fun r_15 S_17 h_16 => ?_)
      refine y_if_eq C (tgt := 44) dX8_game_37 rfl (fun c_18 => ?_) (fun c_18 => ?_)
      · have h_19 := (h_16).1 c_18
        refine y_iconst C dX8_game_44 ic_0 ?_
        exact y_iretM C M N rfl (S := S_17) rfl (h_19) dX8_game_45
      · have h_20 := (h_16).2 c_18
        refine y_iconst C dX8_game_40 ic_1 ?_
        refine y_goto C (tgt := 45) dX8_game_41 rfl ?_
        exact y_iretM C M N rfl (S := S_17) rfl (h_20) dX8_game_45
    · have h_21 := (h_8).2 c_10
      refine y_bipush C dX8_game_20 bpm2 ?_
      exact y_iretM C M N rfl (S := (sI S 0 0 0)) rfl (h_21) dX8_game_22
/-! OverHillModel plays(I)I: m_plays -/
abbrev rm_m_plays : Room := { frames := 24, cells := 0, slots := 0, locals := 808 }
def wp_m_plays_b35 (Q : Int32 → St → Prop) (x1 : Int32) : Nat → St → Int32 → Int32 → Prop
  | 0 => fun _ _ _ => False
  | n + 1 => fun S x2 x3 => ((6 ≤ x3 → Q (-1) S) ∧ (¬ 6 ≤ x3 → wp_m_isPlay S (x2) (x1) (x3) (fun r_21 => ((r_21 = 0 → wp_m_plays_b35 Q x1 n S (x2) ((x3 + 1))) ∧ (¬ r_21 = 0 → wp_m_winsFrom 20 S ((x2 + (1 <<< ((2 * x3) &&& 31)))) (x3) (fun r_27 S_29 => ((¬ r_27 = 0 → wp_m_plays_b35 Q x1 n S_29 (x2) ((x3 + 1))) ∧ (r_27 = 0 → Q x3 S_29))))))))
def wp_m_plays (S : St) (x1 : Int32) (Q : Int32 → St → Prop) : Prop :=
  wp_m_isDance (sI S 0 0 0) (fun r_1 => ((r_1 = 0 → Q (-2) (sI S 0 0 0)) ∧ (¬ r_1 = 0 → wp_m_isStep ((x1).toInt64) (fun r_7 => ((¬ r_7 = 0 → wp_m_laysGame (sI S 0 0 0) (fun S_14 => (∃ z, wp_m_plays_b35 Q (x1) z S_14 ((1 <<< ((2 * x1) &&& 31))) (0)))) ∧ (r_7 = 0 → Q (-2) (sI S 0 0 0)))))))
set_option maxRecDepth 100000 in
theorem wk_m_plays_b35 {G : Gx} {K : Kx} {A : Nat → Nat} (C : KOk G K RX8 cX8_plays rm_m_plays 4 (some .int)) {B : Nat → Prop} (M : KM G K B) {Q : Int32 → St → Prop} (N : KQi G K B (wM G A) Q) (x1 : Int32) : ∀ (n : Nat), ∀ (S : St) (x2 : Int32) (x3 : Int32), wp_m_plays_b35 Q x1 n S x2 x3 → Y G K 0 0 (wM G A S) 35 [(0, .ref (A 0)), (1, .int (x1)), (2, .int (x2)), (3, .int (x3))] [] := by
  intro n
  induction n with
  | zero => intro S x2 x3 h; exact h.elim
  | succ n ih =>
    intro S x2 x3 h
    dsimp only [wp_m_plays_b35] at h
    refine y_iload_n C dX8_plays_35 3 rfl rfl ?_
    refine y_bipush C dX8_plays_36 bp_6 ?_
    refine y_icmp_ge C (tgt := 74) dX8_plays_38 rfl (fun c_18 => ?_) (fun c_18 => ?_)
    · have h_19 := (h).1 c_18
      refine y_iconst C dX8_plays_74 icm1 ?_
      exact y_iretM C M N rfl (S := S) rfl (h_19) dX8_plays_75
    · have h_20 := (h).2 c_18
      refine y_aload_n C dX8_plays_41 0 rfl rfl ?_
      refine y_iload_n C dX8_plays_42 2 rfl rfl ?_
      refine y_iload_n C dX8_plays_43 1 rfl rfl ?_
      refine y_iload_n C dX8_plays_44 3 rfl rfl ?_
      refine y_callRiV (As := [.int (x2), .int (x1), .int (x3)]) (rest := []) C cs_X8_410 (met_m_isPlay G A S (x2) (x1) (x3) _ (h_20)) (fun _ h => h) (wM_0 ..) rfl rfl ⟨rfl, rfl, Nat.le_of_ble_eq_true rfl, Nat.le_of_ble_eq_true rfl⟩ rfl rfl (Nat.le_of_ble_eq_true rfl) dX8_plays_45 ⟨Nat.zero_le _, Nat.zero_le _⟩ (fun r_21 h_22 => ?_)
      refine y_if_eq C (tgt := 68) dX8_plays_48 rfl (fun c_24 => ?_) (fun c_24 => ?_)
      · have h_25 := (h_22).1 c_24
        refine y_iinc C dX8_plays_68 3 rfl (Nat.le_of_ble_eq_true rfl) (ii_1 _) [(3, .int ((x3 + 1))), (0, .ref (A 0)), (1, .int (x1)), (2, .int (x2))] rfl ?_
        refine y_goto C (tgt := 35) dX8_plays_71 rfl ?_
        exact Y.sub (ih S (x2) ((x3 + 1)) (h_25)) [1, 2, 3, 0] rfl
      · have h_26 := (h_22).2 c_24
        refine y_aload_n C dX8_plays_51 0 rfl rfl ?_
        refine y_iload_n C dX8_plays_52 2 rfl rfl ?_
        refine y_iconst C dX8_plays_53 ic_1 ?_
        refine y_iconst C dX8_plays_54 ic_2 ?_
        refine y_iload_n C dX8_plays_55 3 rfl rfl ?_
        refine y_imul C dX8_plays_56 ?_
        refine y_ishl C dX8_plays_57 ?_
        refine y_iadd C dX8_plays_58 ?_
        refine y_iload_n C dX8_plays_59 3 rfl rfl ?_
        refine y_callMiV (k' := 0) (n' := 0) (As := [.int ((x2 + (1 <<< ((2 * x3) &&& 31)))), .int (x3)]) (rest := []) C M cs_X8_413 (met_m_winsFrom G 20 A S ((x2 + (1 <<< ((2 * x3) &&& 31)))) (x3) _ (h_26)) (wM_0 ..) rfl rfl ⟨rfl, rfl, Nat.le_of_ble_eq_true rfl, Nat.le_of_ble_eq_true rfl⟩ rfl rfl (Nat.le_of_ble_eq_true rfl) dX8_plays_60 ⟨Nat.zero_le _, Nat.zero_le _⟩ rfl rfl (fun r_27 S_29 h_28 => ?_)
        refine y_if_ne C (tgt := 68) dX8_plays_63 rfl (fun c_30 => ?_) (fun c_30 => ?_)
        · have h_31 := (h_28).1 c_30
          refine y_iinc C dX8_plays_68 3 rfl (Nat.le_of_ble_eq_true rfl) (ii_1 _) [(3, .int ((x3 + 1))), (0, .ref (A 0)), (1, .int (x1)), (2, .int (x2))] rfl ?_
          refine y_goto C (tgt := 35) dX8_plays_71 rfl ?_
          exact Y.sub (ih S_29 (x2) ((x3 + 1)) (h_31)) [1, 2, 3, 0] rfl
        · have h_32 := (h_28).2 c_30
          refine y_iload_n C dX8_plays_66 3 rfl rfl ?_
          exact y_iretM C M N rfl (S := S_29) rfl (h_32) dX8_plays_67
set_option maxRecDepth 100000 in
theorem met_m_plays (G : Gx) (A : Nat → Nat) (S : St) (x1 : Int32) (Q : Int32 → St → Prop) (h : wp_m_plays S x1 Q) : Mi G yX8_plays (ws_ yX8_plays cX8_plays 4 (some .int)) rm_m_plays (wM G A S) [.ref (A 0), .int (x1)] (wM G A) Q := by
  refine ent_Mi (by decide +kernel) rfl (Nat.le_of_ble_eq_true rfl) [(0, .ref (A 0)), (1, .int (x1))] rfl (fun K B C M N => ?_)
  refine y_aload_n C dX8_plays_0 0 rfl rfl ?_
  refine y_iconst C dX8_plays_1 ic_0 ?_
  refine yp_X8_80_wM0 C M dX8_plays_2 ?_
  refine y_aload_n C dX8_plays_5 0 rfl rfl ?_
  refine y_callRiV (As := []) (rest := []) C cs_X8_254 (met_m_isDance G A (sI S 0 0 0) _ (h)) (fun _ h => h) (wM_0 ..) rfl rfl ⟨rfl, rfl, Nat.le_of_ble_eq_true rfl, Nat.le_of_ble_eq_true rfl⟩ rfl rfl (Nat.le_of_ble_eq_true rfl) dX8_plays_6 ⟨Nat.zero_le _, Nat.zero_le _⟩ (fun r_1 h_2 => ?_)
  refine y_if_eq C (tgt := 20) dX8_plays_9 rfl (fun c_4 => ?_) (fun c_4 => ?_)
  · have h_5 := (h_2).1 c_4
    refine y_bipush C dX8_plays_20 bpm2 ?_
    exact y_iretM C M N rfl (S := (sI S 0 0 0)) rfl (h_5) dX8_plays_22
  · have h_6 := (h_2).2 c_4
    refine y_iload_n C dX8_plays_12 1 rfl rfl ?_
    refine y_i2l C dX8_plays_13 rfl ?_
    refine y_callRiS (As := [.long ((x1).toInt64)]) (rest := []) C cs_X8_267 (met_m_isStep G ((x1).toInt64) _ (h_6)) (fun _ _ => pw_nil) ⟨rfl, rfl, Nat.le_of_ble_eq_true rfl, Nat.le_of_ble_eq_true rfl⟩ rfl rfl (Nat.le_of_ble_eq_true rfl) dX8_plays_14 ⟨Nat.zero_le _, Nat.zero_le _⟩ (fun r_7 h_8 => ?_)
    refine y_if_ne C (tgt := 23) dX8_plays_17 rfl (fun c_10 => ?_) (fun c_10 => ?_)
    · have h_11 := (h_8).1 c_10
      refine y_aload_n C dX8_plays_23 0 rfl rfl ?_
      refine y_callMvV (k' := 0) (n' := 0) (As := []) (rest := []) C M cs_X8_416 (met_m_laysGame G A (sI S 0 0 0) _ (h_11)) (wM_0 ..) rfl rfl ⟨rfl, rfl, Nat.le_of_ble_eq_true rfl, Nat.le_of_ble_eq_true rfl⟩ rfl rfl (Nat.le_of_ble_eq_true rfl) dX8_plays_24 ⟨Nat.zero_le _, Nat.zero_le _⟩ rfl rfl (fun S_14 h_13 => ?_)
      refine y_iconst C dX8_plays_27 ic_1 ?_
      refine y_iconst C dX8_plays_28 ic_2 ?_
      refine y_iload_n C dX8_plays_29 1 rfl rfl ?_
      refine y_imul C dX8_plays_30 ?_
      refine y_ishl C dX8_plays_31 ?_
      refine y_istore_n C dX8_plays_32 rfl (Nat.le_of_ble_eq_true rfl) [(2, .int ((1 <<< ((2 * x1) &&& 31)))), (0, .ref (A 0)), (1, .int (x1))] rfl ?_
      refine y_iconst C dX8_plays_33 ic_0 ?_
      refine y_istore_n C dX8_plays_34 rfl (Nat.le_of_ble_eq_true rfl) [(3, .int (0)), (2, .int ((1 <<< ((2 * x1) &&& 31)))), (0, .ref (A 0)), (1, .int (x1))] rfl ?_
      obtain ⟨n_15, h_16⟩ := h_13
      exact Y.sub (wk_m_plays_b35 C M N (x1) n_15 S_14 ((1 <<< ((2 * x1) &&& 31))) (0) h_16) [2, 3, 1, 0] rfl
    · have h_17 := (h_8).2 c_10
      refine y_bipush C dX8_plays_20 bpm2 ?_
      exact y_iretM C M N rfl (S := (sI S 0 0 0)) rfl (h_17) dX8_plays_22
/-! OverHillModel isRain(II)Z: m_isRain -/
abbrev rm_m_isRain : Room := { frames := 2, cells := 0, slots := 0, locals := 65 }
def wp_m_isRain (S : St) (x1 : Int32) (x2 : Int32) (Q : Int32 → Prop) : Prop :=
  wp_m_isDance S (fun r_1 => ((r_1 = 0 → Q 0) ∧ (¬ r_1 = 0 → wp_m_in ((x1).toInt64) (1) (9) (fun r_7 => ((r_7 = 0 → Q 0) ∧ (¬ r_7 = 0 → wp_m_in ((x2).toInt64) (0) (1) (fun r_13 => ((r_13 = 0 → Q 0) ∧ (¬ r_13 = 0 → Q 1)))))))))
set_option maxRecDepth 100000 in
theorem met_m_isRain (G : Gx) (A : Nat → Nat) (S : St) (x1 : Int32) (x2 : Int32) (Q : Int32 → Prop) (h : wp_m_isRain S x1 x2 Q) : Ri G yX8_isRain (ws_ yX8_isRain cX8_isRain 3 (some .boolean)) rm_m_isRain (wM G A S) [.ref (A 0), .int (x1), .int (x2)] Q := by
  refine ent_Ri (by decide +kernel) rfl (Nat.le_of_ble_eq_true rfl) [(0, .ref (A 0)), (1, .int (x1)), (2, .int (x2))] rfl (fun K C N => ?_)
  refine y_aload_n C dX8_isRain_0 0 rfl rfl ?_
  refine y_callRiV (As := []) (rest := []) C cs_X8_254 (met_m_isDance G A S _ (h)) (fun _ h => h) (wM_0 ..) rfl rfl ⟨rfl, rfl, Nat.le_of_ble_eq_true rfl, Nat.le_of_ble_eq_true rfl⟩ rfl rfl (Nat.le_of_ble_eq_true rfl) dX8_isRain_1 ⟨Nat.zero_le _, Nat.zero_le _⟩ (fun r_1 h_2 => ?_)
  refine y_if_eq C (tgt := 33) dX8_isRain_4 rfl (fun c_4 => ?_) (fun c_4 => ?_)
  · have h_5 := (h_2).1 c_4
    refine y_iconst C dX8_isRain_33 ic_0 ?_
    exact y_zretR C N rfl rfl (h_5) dX8_isRain_34
  · have h_6 := (h_2).2 c_4
    refine y_iload_n C dX8_isRain_7 1 rfl rfl ?_
    refine y_i2l C dX8_isRain_8 rfl ?_
    refine y_lconst C dX8_isRain_9 lc_1 ?_
    refine y_ldc2 C dX8_isRain_10 q2216 ?_
    refine y_callRiS (As := [.long ((x1).toInt64), .long (1), .long (9)]) (rest := []) C cs_X8_85 (met_m_in G ((x1).toInt64) (1) (9) _ (h_6)) (fun _ _ => pw_nil) ⟨rfl, rfl, Nat.le_of_ble_eq_true rfl, Nat.le_of_ble_eq_true rfl⟩ rfl rfl (Nat.le_of_ble_eq_true rfl) dX8_isRain_13 ⟨Nat.zero_le _, Nat.zero_le _⟩ (fun r_7 h_8 => ?_)
    refine y_if_eq C (tgt := 33) dX8_isRain_16 rfl (fun c_10 => ?_) (fun c_10 => ?_)
    · have h_11 := (h_8).1 c_10
      refine y_iconst C dX8_isRain_33 ic_0 ?_
      exact y_zretR C N rfl rfl (h_11) dX8_isRain_34
    · have h_12 := (h_8).2 c_10
      refine y_iload_n C dX8_isRain_19 2 rfl rfl ?_
      refine y_i2l C dX8_isRain_20 rfl ?_
      refine y_lconst C dX8_isRain_21 lc_0 ?_
      refine y_lconst C dX8_isRain_22 lc_1 ?_
      refine y_callRiS (As := [.long ((x2).toInt64), .long (0), .long (1)]) (rest := []) C cs_X8_85 (met_m_in G ((x2).toInt64) (0) (1) _ (h_12)) (fun _ _ => pw_nil) ⟨rfl, rfl, Nat.le_of_ble_eq_true rfl, Nat.le_of_ble_eq_true rfl⟩ rfl rfl (Nat.le_of_ble_eq_true rfl) dX8_isRain_23 ⟨Nat.zero_le _, Nat.zero_le _⟩ (fun r_13 h_14 => ?_)
      refine y_if_eq C (tgt := 33) dX8_isRain_26 rfl (fun c_16 => ?_) (fun c_16 => ?_)
      · have h_17 := (h_14).1 c_16
        refine y_iconst C dX8_isRain_33 ic_0 ?_
        exact y_zretR C N rfl rfl (h_17) dX8_isRain_34
      · have h_18 := (h_14).2 c_16
        refine y_iconst C dX8_isRain_29 ic_1 ?_
        refine y_goto C (tgt := 34) dX8_isRain_30 rfl ?_
        exact y_zretR C N rfl rfl (h_18) dX8_isRain_34
/-! OverHillModel power(JI)J: m_power -/
abbrev rm_m_power : Room := { frames := 1, cells := 0, slots := 0, locals := 40 }
def wp_m_power_b5 (Q : Int64 → Prop) (x0 : Int64) (x2 : Int32) : Nat → Int64 → Int32 → Prop
  | 0 => fun _ _ => False
  | n + 1 => fun x3 x5 => ((x2 ≤ x5 → Q x3) ∧ (¬ x2 ≤ x5 → wp_m_power_b5 Q x0 x2 n ((x3 * x0)) ((x5 + 1))))
def wp_m_power (x0 : Int64) (x2 : Int32) (Q : Int64 → Prop) : Prop :=
  (∃ z, wp_m_power_b5 Q (x0) (x2) z (1) (0))
set_option maxRecDepth 100000 in
theorem wk_m_power_b5 {G : Gx} {K : Kx} (C : KOk G K RX8 cX8_power rm_m_power 6 (some .long)) {Q : Int64 → Prop} (N : KRl K Q) (x0 : Int64) (x2 : Int32) : ∀ (n : Nat), ∀ (x3 : Int64) (x5 : Int32), wp_m_power_b5 Q x0 x2 n x3 x5 → Y G K 0 0 [] 5 [(0, .long (x0)), (2, .int (x2)), (3, .long (x3)), (5, .int (x5))] [] := by
  intro n
  induction n with
  | zero => intro x3 x5 h; exact h.elim
  | succ n ih =>
    intro x3 x5 h
    dsimp only [wp_m_power_b5] at h
    refine y_iload C dX8_power_5 3 rfl ?_
    refine y_iload_n C dX8_power_7 1 rfl rfl ?_
    refine y_icmp_ge C (tgt := 21) dX8_power_8 rfl (fun c_3 => ?_) (fun c_3 => ?_)
    · have h_4 := (h).1 c_3
      refine y_lload_n C dX8_power_21 2 rfl rfl ?_
      exact y_lretR C N rfl (h_4) dX8_power_22
    · have h_5 := (h).2 c_3
      refine y_lload_n C dX8_power_11 2 rfl rfl ?_
      refine y_lload_n C dX8_power_12 0 rfl rfl ?_
      refine y_lmul C dX8_power_13 ?_
      refine y_lstore_n C dX8_power_14 rfl (Nat.le_of_ble_eq_true rfl) [(3, .long ((x3 * x0))), (0, .long (x0)), (2, .int (x2)), (5, .int (x5))] rfl ?_
      refine y_iinc C dX8_power_15 3 rfl (Nat.le_of_ble_eq_true rfl) (ii_1 _) [(5, .int ((x5 + 1))), (3, .long ((x3 * x0))), (0, .long (x0)), (2, .int (x2))] rfl ?_
      refine y_goto C (tgt := 5) dX8_power_18 rfl ?_
      exact Y.sub (ih ((x3 * x0)) ((x5 + 1)) (h_5)) [2, 3, 1, 0] rfl
set_option maxRecDepth 100000 in
theorem met_m_power (G : Gx) (x0 : Int64) (x2 : Int32) (Q : Int64 → Prop) (h : wp_m_power x0 x2 Q) : Rl G yX8_power (ws_ yX8_power cX8_power 6 (some .long)) rm_m_power [] [.long (x0), .int (x2)] Q := by
  refine ent_Rl (by decide +kernel) rfl (Nat.le_of_ble_eq_true rfl) [(0, .long (x0)), (2, .int (x2))] rfl (fun K C N => ?_)
  refine y_lconst C dX8_power_0 lc_1 ?_
  refine y_lstore_n C dX8_power_1 rfl (Nat.le_of_ble_eq_true rfl) [(3, .long (1)), (0, .long (x0)), (2, .int (x2))] rfl ?_
  refine y_iconst C dX8_power_2 ic_0 ?_
  refine y_istore C dX8_power_3 (Nat.le_of_ble_eq_true rfl) [(5, .int (0)), (3, .long (1)), (0, .long (x0)), (2, .int (x2))] rfl ?_
  obtain ⟨n_1, h_2⟩ := h
  exact Y.sub (wk_m_power_b5 C N (x0) (x2) n_1 (1) (0) h_2) [2, 3, 1, 0] rfl
/-! OverHillModel part(JJI)J: m_part -/
abbrev rm_m_part : Room := { frames := 102, cells := 0, slots := 0, locals := 3463 }
def wp_m_part (x0 : Int64) (x2 : Int64) (x4 : Int32) (Q : Int64 → Prop) : Prop :=
  ((¬ x4 = 0 → wp_m_commonLong 100 (x0) (x2) (fun r_3 => (¬ r_3 = 0 ∧ Q (x2 / r_3)))) ∧ (x4 = 0 → wp_m_commonLong 100 (x0) (x2) (fun r_7 => (¬ r_7 = 0 ∧ Q (x0 / r_7)))))
set_option maxRecDepth 100000 in
theorem met_m_part (G : Gx) (x0 : Int64) (x2 : Int64) (x4 : Int32) (Q : Int64 → Prop) (h : wp_m_part x0 x2 x4 Q) : Rl G yX8_part (ws_ yX8_part cX8_part 5 (some .long)) rm_m_part [] [.long (x0), .long (x2), .int (x4)] Q := by
  refine ent_Rl (by decide +kernel) rfl (Nat.le_of_ble_eq_true rfl) [(0, .long (x0)), (2, .long (x2)), (4, .int (x4))] rfl (fun K C N => ?_)
  refine y_iload C dX8_part_0 2 rfl ?_
  refine y_if_ne C (tgt := 9) dX8_part_2 rfl (fun c_1 => ?_) (fun c_1 => ?_)
  · have h_2 := (h).1 c_1
    refine y_lload_n C dX8_part_9 1 rfl rfl ?_
    refine y_lload_n C dX8_part_10 0 rfl rfl ?_
    refine y_lload_n C dX8_part_11 1 rfl rfl ?_
    refine y_callRlS (As := [.long (x0), .long (x2)]) (rest := [.long (x2)]) C cs_X8_318 (met_m_commonLong G 100 (x0) (x2) _ (h_2)) (fun _ h => h) ⟨rfl, rfl, Nat.le_of_ble_eq_true rfl, Nat.le_of_ble_eq_true rfl⟩ rfl rfl (Nat.le_of_ble_eq_true rfl) dX8_part_12 ⟨Nat.zero_le _, Nat.zero_le _⟩ (fun r_3 h_4 => ?_)
    refine y_ldiv C dX8_part_15 (h_4).1 ?_
    exact y_lretR C N rfl ((h_4).2) dX8_part_16
  · have h_6 := (h).2 c_1
    refine y_lload_n C dX8_part_5 0 rfl rfl ?_
    refine y_goto C (tgt := 10) dX8_part_6 rfl ?_
    refine y_lload_n C dX8_part_10 0 rfl rfl ?_
    refine y_lload_n C dX8_part_11 1 rfl rfl ?_
    refine y_callRlS (As := [.long (x0), .long (x2)]) (rest := [.long (x0)]) C cs_X8_318 (met_m_commonLong G 100 (x0) (x2) _ (h_6)) (fun _ h => h) ⟨rfl, rfl, Nat.le_of_ble_eq_true rfl, Nat.le_of_ble_eq_true rfl⟩ rfl rfl (Nat.le_of_ble_eq_true rfl) dX8_part_12 ⟨Nat.zero_le _, Nat.zero_le _⟩ (fun r_7 h_8 => ?_)
    refine y_ldiv C dX8_part_15 (h_8).1 ?_
    exact y_lretR C N rfl ((h_8).2) dX8_part_16
/-! OverHillModel dry(II)J: m_dry -/
abbrev rm_m_dry : Room := { frames := 103, cells := 0, slots := 0, locals := 3487 }
def wp_m_dry (S : St) (x1 : Int32) (x2 : Int32) (Q : Int64 → St → Prop) : Prop :=
  wp_m_isRain (sI S 0 0 0) (x1) (x2) (fun r_1 => ((r_1 = 0 → Q (-2) (sI S 0 0 0)) ∧ (¬ r_1 = 0 → wp_m_power ((100 - (((sI S 0 0 0).1 7 2)).toInt64)) (x1) (fun r_7 => wp_m_power (100) (x1) (fun r_10 => wp_m_part (r_7) (r_10) (x2) (fun r_13 => Q r_13 (sI S 0 0 0)))))))
set_option maxRecDepth 100000 in
theorem met_m_dry (G : Gx) (A : Nat → Nat) (S : St) (x1 : Int32) (x2 : Int32) (Q : Int64 → St → Prop) (h : wp_m_dry S x1 x2 Q) : Ml G yX8_dry (ws_ yX8_dry cX8_dry 3 (some .long)) rm_m_dry (wM G A S) [.ref (A 0), .int (x1), .int (x2)] (wM G A) Q := by
  refine ent_Ml (by decide +kernel) rfl (Nat.le_of_ble_eq_true rfl) [(0, .ref (A 0)), (1, .int (x1)), (2, .int (x2))] rfl (fun K B C M N => ?_)
  refine y_aload_n C dX8_dry_0 0 rfl rfl ?_
  refine y_iconst C dX8_dry_1 ic_0 ?_
  refine yp_X8_80_wM0 C M dX8_dry_2 ?_
  refine y_aload_n C dX8_dry_5 0 rfl rfl ?_
  refine y_iload_n C dX8_dry_6 1 rfl rfl ?_
  refine y_iload_n C dX8_dry_7 2 rfl rfl ?_
  refine y_callRiV (As := [.int (x1), .int (x2)]) (rest := []) C cs_X8_421 (met_m_isRain G A (sI S 0 0 0) (x1) (x2) _ (h)) (fun _ h => h) (wM_0 ..) rfl rfl ⟨rfl, rfl, Nat.le_of_ble_eq_true rfl, Nat.le_of_ble_eq_true rfl⟩ rfl rfl (Nat.le_of_ble_eq_true rfl) dX8_dry_8 ⟨Nat.zero_le _, Nat.zero_le _⟩ (fun r_1 h_2 => ?_)
  refine y_if_eq C (tgt := 43) dX8_dry_11 rfl (fun c_4 => ?_) (fun c_4 => ?_)
  · have h_5 := (h_2).1 c_4
    refine y_ldc2 C dX8_dry_43 q2156 ?_
    exact y_lretM C M N rfl (S := (sI S 0 0 0)) rfl (h_5) dX8_dry_46
  · have h_6 := (h_2).2 c_4
    refine y_ldc2 C dX8_dry_14 q2217 ?_
    refine y_aload_n C dX8_dry_17 0 rfl rfl ?_
    refine yg_X8_34_wM0 C dX8_dry_18 ?_
    refine y_iconst C dX8_dry_21 ic_2 ?_
    refine y_iald C (wM_7 ..) tn_2 vi_2_55 dX8_dry_22 ?_
    refine y_i2l C dX8_dry_23 rfl ?_
    refine y_lsub C dX8_dry_24 ?_
    refine y_iload_n C dX8_dry_25 1 rfl rfl ?_
    refine y_callRlS (As := [.long ((100 - (((sI S 0 0 0).1 7 2)).toInt64)), .int (x1)]) (rest := []) C cs_X8_426 (met_m_power G ((100 - (((sI S 0 0 0).1 7 2)).toInt64)) (x1) _ (h_6)) (fun _ _ => pw_nil) ⟨rfl, rfl, Nat.le_of_ble_eq_true rfl, Nat.le_of_ble_eq_true rfl⟩ rfl rfl (Nat.le_of_ble_eq_true rfl) dX8_dry_26 ⟨Nat.zero_le _, Nat.zero_le _⟩ (fun r_7 h_8 => ?_)
    refine y_ldc2 C dX8_dry_29 q2217 ?_
    refine y_iload_n C dX8_dry_32 1 rfl rfl ?_
    refine y_callRlS (As := [.long (100), .int (x1)]) (rest := [.long (r_7)]) C cs_X8_426 (met_m_power G (100) (x1) _ (h_8)) (fun _ _ => pw_nil) ⟨rfl, rfl, Nat.le_of_ble_eq_true rfl, Nat.le_of_ble_eq_true rfl⟩ rfl rfl (Nat.le_of_ble_eq_true rfl) dX8_dry_33 ⟨Nat.zero_le _, Nat.zero_le _⟩ (fun r_10 h_11 => ?_)
    refine y_iload_n C dX8_dry_36 2 rfl rfl ?_
    refine y_callRlS (As := [.long (r_7), .long (r_10), .int (x2)]) (rest := []) C cs_X8_429 (met_m_part G (r_7) (r_10) (x2) _ (h_11)) (fun _ _ => pw_nil) ⟨rfl, rfl, Nat.le_of_ble_eq_true rfl, Nat.le_of_ble_eq_true rfl⟩ rfl rfl (Nat.le_of_ble_eq_true rfl) dX8_dry_37 ⟨Nat.zero_le _, Nat.zero_le _⟩ (fun r_13 h_14 => ?_)
    refine y_goto C (tgt := 46) dX8_dry_40 rfl ?_
    exact y_lretM C M N rfl (S := (sI S 0 0 0)) rfl (h_14) dX8_dry_46
/-! OverHillModel wet(III)J: m_wet -/
abbrev rm_m_wet : Room := { frames := 103, cells := 0, slots := 0, locals := 3487 }
def wp_m_wet_b35 (Q : Int64 → St → Prop) (x1 : Int32) (x2 : Int32) (x3 : Int32) : Nat → St → Int64 → Int32 → Prop
  | 0 => fun _ _ _ => False
  | n + 1 => fun S x4 x6 => ((x2 ≤ x6 → wp_m_power (((S.1 7 2)).toInt64) (x2) (fun r_17 => wp_m_power ((100 - ((S.1 7 2)).toInt64)) ((x1 - x2)) (fun r_20 => wp_m_power (100) (x1) (fun r_23 => wp_m_part (((x4 * r_17) * r_20)) (r_23) (x3) (fun r_26 => Q r_26 S))))) ∧ (¬ x2 ≤ x6 → (¬ ((x6 + 1)).toInt64 = 0 ∧ wp_m_wet_b35 Q x1 x2 x3 n S (((x4 * ((x1 - x6)).toInt64) / ((x6 + 1)).toInt64)) ((x6 + 1)))))
def wp_m_wet (S : St) (x1 : Int32) (x2 : Int32) (x3 : Int32) (Q : Int64 → St → Prop) : Prop :=
  wp_m_isRain (sI S 0 0 0) (x1) (x3) (fun r_1 => ((r_1 = 0 → Q (-2) (sI S 0 0 0)) ∧ (¬ r_1 = 0 → wp_m_in ((x2).toInt64) (0) ((x1).toInt64) (fun r_7 => ((¬ r_7 = 0 → (∃ z, wp_m_wet_b35 Q (x1) (x2) (x3) z (sI S 0 0 0) (1) (0))) ∧ (r_7 = 0 → Q (-2) (sI S 0 0 0)))))))
set_option maxRecDepth 100000 in
theorem wk_m_wet_b35 {G : Gx} {K : Kx} {A : Nat → Nat} (C : KOk G K RX8 cX8_wet rm_m_wet 7 (some .long)) {B : Nat → Prop} (M : KM G K B) {Q : Int64 → St → Prop} (N : KQl G K B (wM G A) Q) (x1 : Int32) (x2 : Int32) (x3 : Int32) : ∀ (n : Nat), ∀ (S : St) (x4 : Int64) (x6 : Int32), wp_m_wet_b35 Q x1 x2 x3 n S x4 x6 → Y G K 0 0 (wM G A S) 35 [(0, .ref (A 0)), (1, .int (x1)), (2, .int (x2)), (3, .int (x3)), (4, .long (x4)), (6, .int (x6))] [] := by
  intro n
  induction n with
  | zero => intro S x4 x6 h; exact h.elim
  | succ n ih =>
    intro S x4 x6 h
    dsimp only [wp_m_wet_b35] at h
    refine y_iload C dX8_wet_35 5 rfl ?_
    refine y_iload_n C dX8_wet_37 2 rfl rfl ?_
    refine y_icmp_ge C (tgt := 63) dX8_wet_38 rfl (fun c_15 => ?_) (fun c_15 => ?_)
    · have h_16 := (h).1 c_15
      refine y_lload C dX8_wet_63 4 rfl ?_
      refine y_aload_n C dX8_wet_65 0 rfl rfl ?_
      refine yg_X8_34_wM0 C dX8_wet_66 ?_
      refine y_iconst C dX8_wet_69 ic_2 ?_
      refine y_iald C (wM_7 ..) tn_2 vi_2_55 dX8_wet_70 ?_
      refine y_i2l C dX8_wet_71 rfl ?_
      refine y_iload_n C dX8_wet_72 2 rfl rfl ?_
      refine y_callRlS (As := [.long (((S.1 7 2)).toInt64), .int (x2)]) (rest := [.long (x4)]) C cs_X8_426 (met_m_power G (((S.1 7 2)).toInt64) (x2) _ (h_16)) (fun _ _ => pw_nil) ⟨rfl, rfl, Nat.le_of_ble_eq_true rfl, Nat.le_of_ble_eq_true rfl⟩ rfl rfl (Nat.le_of_ble_eq_true rfl) dX8_wet_73 ⟨Nat.zero_le _, Nat.zero_le _⟩ (fun r_17 h_18 => ?_)
      refine y_lmul C dX8_wet_76 ?_
      refine y_ldc2 C dX8_wet_77 q2217 ?_
      refine y_aload_n C dX8_wet_80 0 rfl rfl ?_
      refine yg_X8_34_wM0 C dX8_wet_81 ?_
      refine y_iconst C dX8_wet_84 ic_2 ?_
      refine y_iald C (wM_7 ..) tn_2 vi_2_55 dX8_wet_85 ?_
      refine y_i2l C dX8_wet_86 rfl ?_
      refine y_lsub C dX8_wet_87 ?_
      refine y_iload_n C dX8_wet_88 1 rfl rfl ?_
      refine y_iload_n C dX8_wet_89 2 rfl rfl ?_
      refine y_isub C dX8_wet_90 ?_
      refine y_callRlS (As := [.long ((100 - ((S.1 7 2)).toInt64)), .int ((x1 - x2))]) (rest := [.long ((x4 * r_17))]) C cs_X8_426 (met_m_power G ((100 - ((S.1 7 2)).toInt64)) ((x1 - x2)) _ (h_18)) (fun _ _ => pw_nil) ⟨rfl, rfl, Nat.le_of_ble_eq_true rfl, Nat.le_of_ble_eq_true rfl⟩ rfl rfl (Nat.le_of_ble_eq_true rfl) dX8_wet_91 ⟨Nat.zero_le _, Nat.zero_le _⟩ (fun r_20 h_21 => ?_)
      refine y_lmul C dX8_wet_94 ?_
      refine y_ldc2 C dX8_wet_95 q2217 ?_
      refine y_iload_n C dX8_wet_98 1 rfl rfl ?_
      refine y_callRlS (As := [.long (100), .int (x1)]) (rest := [.long (((x4 * r_17) * r_20))]) C cs_X8_426 (met_m_power G (100) (x1) _ (h_21)) (fun _ _ => pw_nil) ⟨rfl, rfl, Nat.le_of_ble_eq_true rfl, Nat.le_of_ble_eq_true rfl⟩ rfl rfl (Nat.le_of_ble_eq_true rfl) dX8_wet_99 ⟨Nat.zero_le _, Nat.zero_le _⟩ (fun r_23 h_24 => ?_)
      refine y_iload_n C dX8_wet_102 3 rfl rfl ?_
      refine y_callRlS (As := [.long (((x4 * r_17) * r_20)), .long (r_23), .int (x3)]) (rest := []) C cs_X8_429 (met_m_part G (((x4 * r_17) * r_20)) (r_23) (x3) _ (h_24)) (fun _ _ => pw_nil) ⟨rfl, rfl, Nat.le_of_ble_eq_true rfl, Nat.le_of_ble_eq_true rfl⟩ rfl rfl (Nat.le_of_ble_eq_true rfl) dX8_wet_103 ⟨Nat.zero_le _, Nat.zero_le _⟩ (fun r_26 h_27 => ?_)
      exact y_lretM C M N rfl (S := S) rfl (h_27) dX8_wet_106
    · have h_29 := (h).2 c_15
      refine y_lload C dX8_wet_41 4 rfl ?_
      refine y_iload_n C dX8_wet_43 1 rfl rfl ?_
      refine y_iload C dX8_wet_44 5 rfl ?_
      refine y_isub C dX8_wet_46 ?_
      refine y_i2l C dX8_wet_47 rfl ?_
      refine y_lmul C dX8_wet_48 ?_
      refine y_iload C dX8_wet_49 5 rfl ?_
      refine y_iconst C dX8_wet_51 ic_1 ?_
      refine y_iadd C dX8_wet_52 ?_
      refine y_i2l C dX8_wet_53 rfl ?_
      refine y_ldiv C dX8_wet_54 (h_29).1 ?_
      refine y_lstore C dX8_wet_55 (Nat.le_of_ble_eq_true rfl) [(4, .long (((x4 * ((x1 - x6)).toInt64) / ((x6 + 1)).toInt64))), (0, .ref (A 0)), (1, .int (x1)), (2, .int (x2)), (3, .int (x3)), (6, .int (x6))] rfl ?_
      refine y_iinc C dX8_wet_57 5 rfl (Nat.le_of_ble_eq_true rfl) (ii_1 _) [(6, .int ((x6 + 1))), (4, .long (((x4 * ((x1 - x6)).toInt64) / ((x6 + 1)).toInt64))), (0, .ref (A 0)), (1, .int (x1)), (2, .int (x2)), (3, .int (x3))] rfl ?_
      refine y_goto C (tgt := 35) dX8_wet_60 rfl ?_
      exact Y.sub (ih S (((x4 * ((x1 - x6)).toInt64) / ((x6 + 1)).toInt64)) ((x6 + 1)) ((h_29).2)) [2, 3, 4, 5, 1, 0] rfl
set_option maxRecDepth 100000 in
theorem met_m_wet (G : Gx) (A : Nat → Nat) (S : St) (x1 : Int32) (x2 : Int32) (x3 : Int32) (Q : Int64 → St → Prop) (h : wp_m_wet S x1 x2 x3 Q) : Ml G yX8_wet (ws_ yX8_wet cX8_wet 7 (some .long)) rm_m_wet (wM G A S) [.ref (A 0), .int (x1), .int (x2), .int (x3)] (wM G A) Q := by
  refine ent_Ml (by decide +kernel) rfl (Nat.le_of_ble_eq_true rfl) [(0, .ref (A 0)), (1, .int (x1)), (2, .int (x2)), (3, .int (x3))] rfl (fun K B C M N => ?_)
  refine y_aload_n C dX8_wet_0 0 rfl rfl ?_
  refine y_iconst C dX8_wet_1 ic_0 ?_
  refine yp_X8_80_wM0 C M dX8_wet_2 ?_
  refine y_aload_n C dX8_wet_5 0 rfl rfl ?_
  refine y_iload_n C dX8_wet_6 1 rfl rfl ?_
  refine y_iload_n C dX8_wet_7 3 rfl rfl ?_
  refine y_callRiV (As := [.int (x1), .int (x3)]) (rest := []) C cs_X8_421 (met_m_isRain G A (sI S 0 0 0) (x1) (x3) _ (h)) (fun _ h => h) (wM_0 ..) rfl rfl ⟨rfl, rfl, Nat.le_of_ble_eq_true rfl, Nat.le_of_ble_eq_true rfl⟩ rfl rfl (Nat.le_of_ble_eq_true rfl) dX8_wet_8 ⟨Nat.zero_le _, Nat.zero_le _⟩ (fun r_1 h_2 => ?_)
  refine y_if_eq C (tgt := 25) dX8_wet_11 rfl (fun c_4 => ?_) (fun c_4 => ?_)
  · have h_5 := (h_2).1 c_4
    refine y_ldc2 C dX8_wet_25 q2156 ?_
    exact y_lretM C M N rfl (S := (sI S 0 0 0)) rfl (h_5) dX8_wet_28
  · have h_6 := (h_2).2 c_4
    refine y_iload_n C dX8_wet_14 2 rfl rfl ?_
    refine y_i2l C dX8_wet_15 rfl ?_
    refine y_lconst C dX8_wet_16 lc_0 ?_
    refine y_iload_n C dX8_wet_17 1 rfl rfl ?_
    refine y_i2l C dX8_wet_18 rfl ?_
    refine y_callRiS (As := [.long ((x2).toInt64), .long (0), .long ((x1).toInt64)]) (rest := []) C cs_X8_85 (met_m_in G ((x2).toInt64) (0) ((x1).toInt64) _ (h_6)) (fun _ _ => pw_nil) ⟨rfl, rfl, Nat.le_of_ble_eq_true rfl, Nat.le_of_ble_eq_true rfl⟩ rfl rfl (Nat.le_of_ble_eq_true rfl) dX8_wet_19 ⟨Nat.zero_le _, Nat.zero_le _⟩ (fun r_7 h_8 => ?_)
    refine y_if_ne C (tgt := 29) dX8_wet_22 rfl (fun c_10 => ?_) (fun c_10 => ?_)
    · have h_11 := (h_8).1 c_10
      refine y_lconst C dX8_wet_29 lc_1 ?_
      refine y_lstore C dX8_wet_30 (Nat.le_of_ble_eq_true rfl) [(4, .long (1)), (0, .ref (A 0)), (1, .int (x1)), (2, .int (x2)), (3, .int (x3))] rfl ?_
      refine y_iconst C dX8_wet_32 ic_0 ?_
      refine y_istore C dX8_wet_33 (Nat.le_of_ble_eq_true rfl) [(6, .int (0)), (4, .long (1)), (0, .ref (A 0)), (1, .int (x1)), (2, .int (x2)), (3, .int (x3))] rfl ?_
      obtain ⟨n_12, h_13⟩ := h_11
      exact Y.sub (wk_m_wet_b35 C M N (x1) (x2) (x3) n_12 (sI S 0 0 0) (1) (0) h_13) [2, 3, 4, 5, 1, 0] rfl
    · have h_14 := (h_8).2 c_10
      refine y_ldc2 C dX8_wet_25 q2156 ?_
      exact y_lretM C M N rfl (S := (sI S 0 0 0)) rfl (h_14) dX8_wet_28
/-! OverHillModel isDraw(II)Z: m_isDraw -/
abbrev rm_m_isDraw : Room := { frames := 2, cells := 0, slots := 0, locals := 65 }
def wp_m_isDraw (S : St) (x1 : Int32) (x2 : Int32) (Q : Int32 → Prop) : Prop :=
  wp_m_isDance S (fun r_1 => ((r_1 = 0 → Q 0) ∧ (¬ r_1 = 0 → wp_m_in ((x1).toInt64) (0) (2000000000) (fun r_7 => ((r_7 = 0 → Q 0) ∧ (¬ r_7 = 0 → wp_m_in ((x2).toInt64) (1) (100) (fun r_13 => ((r_13 = 0 → Q 0) ∧ (¬ r_13 = 0 → Q 1)))))))))
set_option maxRecDepth 100000 in
theorem met_m_isDraw (G : Gx) (A : Nat → Nat) (S : St) (x1 : Int32) (x2 : Int32) (Q : Int32 → Prop) (h : wp_m_isDraw S x1 x2 Q) : Ri G yX8_isDraw (ws_ yX8_isDraw cX8_isDraw 3 (some .boolean)) rm_m_isDraw (wM G A S) [.ref (A 0), .int (x1), .int (x2)] Q := by
  refine ent_Ri (by decide +kernel) rfl (Nat.le_of_ble_eq_true rfl) [(0, .ref (A 0)), (1, .int (x1)), (2, .int (x2))] rfl (fun K C N => ?_)
  refine y_aload_n C dX8_isDraw_0 0 rfl rfl ?_
  refine y_callRiV (As := []) (rest := []) C cs_X8_254 (met_m_isDance G A S _ (h)) (fun _ h => h) (wM_0 ..) rfl rfl ⟨rfl, rfl, Nat.le_of_ble_eq_true rfl, Nat.le_of_ble_eq_true rfl⟩ rfl rfl (Nat.le_of_ble_eq_true rfl) dX8_isDraw_1 ⟨Nat.zero_le _, Nat.zero_le _⟩ (fun r_1 h_2 => ?_)
  refine y_if_eq C (tgt := 35) dX8_isDraw_4 rfl (fun c_4 => ?_) (fun c_4 => ?_)
  · have h_5 := (h_2).1 c_4
    refine y_iconst C dX8_isDraw_35 ic_0 ?_
    exact y_zretR C N rfl rfl (h_5) dX8_isDraw_36
  · have h_6 := (h_2).2 c_4
    refine y_iload_n C dX8_isDraw_7 1 rfl rfl ?_
    refine y_i2l C dX8_isDraw_8 rfl ?_
    refine y_lconst C dX8_isDraw_9 lc_0 ?_
    refine y_ldc2 C dX8_isDraw_10 q2236 ?_
    refine y_callRiS (As := [.long ((x1).toInt64), .long (0), .long (2000000000)]) (rest := []) C cs_X8_85 (met_m_in G ((x1).toInt64) (0) (2000000000) _ (h_6)) (fun _ _ => pw_nil) ⟨rfl, rfl, Nat.le_of_ble_eq_true rfl, Nat.le_of_ble_eq_true rfl⟩ rfl rfl (Nat.le_of_ble_eq_true rfl) dX8_isDraw_13 ⟨Nat.zero_le _, Nat.zero_le _⟩ (fun r_7 h_8 => ?_)
    refine y_if_eq C (tgt := 35) dX8_isDraw_16 rfl (fun c_10 => ?_) (fun c_10 => ?_)
    · have h_11 := (h_8).1 c_10
      refine y_iconst C dX8_isDraw_35 ic_0 ?_
      exact y_zretR C N rfl rfl (h_11) dX8_isDraw_36
    · have h_12 := (h_8).2 c_10
      refine y_iload_n C dX8_isDraw_19 2 rfl rfl ?_
      refine y_i2l C dX8_isDraw_20 rfl ?_
      refine y_lconst C dX8_isDraw_21 lc_1 ?_
      refine y_ldc2 C dX8_isDraw_22 q2217 ?_
      refine y_callRiS (As := [.long ((x2).toInt64), .long (1), .long (100)]) (rest := []) C cs_X8_85 (met_m_in G ((x2).toInt64) (1) (100) _ (h_12)) (fun _ _ => pw_nil) ⟨rfl, rfl, Nat.le_of_ble_eq_true rfl, Nat.le_of_ble_eq_true rfl⟩ rfl rfl (Nat.le_of_ble_eq_true rfl) dX8_isDraw_25 ⟨Nat.zero_le _, Nat.zero_le _⟩ (fun r_13 h_14 => ?_)
      refine y_if_eq C (tgt := 35) dX8_isDraw_28 rfl (fun c_16 => ?_) (fun c_16 => ?_)
      · have h_17 := (h_14).1 c_16
        refine y_iconst C dX8_isDraw_35 ic_0 ?_
        exact y_zretR C N rfl rfl (h_17) dX8_isDraw_36
      · have h_18 := (h_14).2 c_16
        refine y_iconst C dX8_isDraw_31 ic_1 ?_
        refine y_goto C (tgt := 36) dX8_isDraw_32 rfl ?_
        exact y_zretR C N rfl rfl (h_18) dX8_isDraw_36
/-! OverHillModel isBelow(I)Z: m_isBelow -/
abbrev rm_m_isBelow : Room := { frames := 1, cells := 0, slots := 0, locals := 40 }
def wp_m_isBelow (S : St) (x1 : Int32) (Q : Int32 → St → Prop) : Prop :=
  ((0 ≤ (lg_cmp (lrm (((sL S 0 44 (lrm ((1103515245 * (S.2 0 44)) + 12345) 2147483648)).2 0 44) / 65536) 100) (x1).toInt64) → Q 0 (sL S 0 44 (lrm ((1103515245 * (S.2 0 44)) + 12345) 2147483648))) ∧ (¬ 0 ≤ (lg_cmp (lrm (((sL S 0 44 (lrm ((1103515245 * (S.2 0 44)) + 12345) 2147483648)).2 0 44) / 65536) 100) (x1).toInt64) → Q 1 (sL S 0 44 (lrm ((1103515245 * (S.2 0 44)) + 12345) 2147483648))))
set_option maxRecDepth 100000 in
theorem met_m_isBelow (G : Gx) (A : Nat → Nat) (S : St) (x1 : Int32) (Q : Int32 → St → Prop) (h : wp_m_isBelow S x1 Q) : Mi G yX8_isBelow (ws_ yX8_isBelow cX8_isBelow 2 (some .boolean)) rm_m_isBelow (wM G A S) [.ref (A 0), .int (x1)] (wM G A) Q := by
  refine ent_Mi (by decide +kernel) rfl (Nat.le_of_ble_eq_true rfl) [(0, .ref (A 0)), (1, .int (x1))] rfl (fun K B C M N => ?_)
  refine y_aload_n C dX8_isBelow_0 0 rfl rfl ?_
  refine y_ldc2 C dX8_isBelow_1 q2245 ?_
  refine y_aload_n C dX8_isBelow_4 0 rfl rfl ?_
  refine yg_X8_435_wM0 C dX8_isBelow_5 ?_
  refine y_lmul C dX8_isBelow_8 ?_
  refine y_ldc2 C dX8_isBelow_9 q2246 ?_
  refine y_ladd C dX8_isBelow_12 ?_
  refine y_ldc2 C dX8_isBelow_13 q2247 ?_
  refine y_lrem C dX8_isBelow_16 nz_J_2147483648 ?_
  refine yp_X8_435_wM0 C M dX8_isBelow_17 ?_
  refine y_aload_n C dX8_isBelow_20 0 rfl rfl ?_
  refine yg_X8_435_wM0 C dX8_isBelow_21 ?_
  refine y_ldc2 C dX8_isBelow_24 q2248 ?_
  refine y_ldiv C dX8_isBelow_27 nz_J_65536 ?_
  refine y_ldc2 C dX8_isBelow_28 q2217 ?_
  refine y_lrem C dX8_isBelow_31 nz_J_100 ?_
  refine y_iload_n C dX8_isBelow_32 1 rfl rfl ?_
  refine y_i2l C dX8_isBelow_33 rfl ?_
  refine y_lcmp C dX8_isBelow_34 ?_
  refine y_if_ge C (tgt := 42) dX8_isBelow_35 rfl (fun c_1 => ?_) (fun c_1 => ?_)
  · have h_2 := (h).1 c_1
    refine y_iconst C dX8_isBelow_42 ic_0 ?_
    exact y_zretM C M N rfl rfl (S := (sL S 0 44 (lrm ((1103515245 * (S.2 0 44)) + 12345) 2147483648))) rfl (h_2) dX8_isBelow_43
  · have h_3 := (h).2 c_1
    refine y_iconst C dX8_isBelow_38 ic_1 ?_
    refine y_goto C (tgt := 43) dX8_isBelow_39 rfl ?_
    exact y_zretM C M N rfl rfl (S := (sL S 0 44 (lrm ((1103515245 * (S.2 0 44)) + 12345) 2147483648))) rfl (h_3) dX8_isBelow_43
/-! OverHillModel slips(I)I: m_slips -/
abbrev rm_m_slips : Room := { frames := 2, cells := 0, slots := 0, locals := 61 }
def wp_m_slips (S : St) (x1 : Int32) (Q : Int32 → St → Prop) : Prop :=
  wp_m_isBelow S ((S.1 7 1)) (fun r_1 S_3 => ((¬ r_1 = 0 → Q (irm (x1 + 1) 6) (sI S_3 0 43 ((S_3.1 0 43) + 1))) ∧ (r_1 = 0 → Q x1 S_3)))
set_option maxRecDepth 100000 in
theorem met_m_slips (G : Gx) (A : Nat → Nat) (S : St) (x1 : Int32) (Q : Int32 → St → Prop) (h : wp_m_slips S x1 Q) : Mi G yX8_slips (ws_ yX8_slips cX8_slips 2 (some .int)) rm_m_slips (wM G A S) [.ref (A 0), .int (x1)] (wM G A) Q := by
  refine ent_Mi (by decide +kernel) rfl (Nat.le_of_ble_eq_true rfl) [(0, .ref (A 0)), (1, .int (x1))] rfl (fun K B C M N => ?_)
  refine y_aload_n C dX8_slips_0 0 rfl rfl ?_
  refine y_aload_n C dX8_slips_1 0 rfl rfl ?_
  refine yg_X8_34_wM0 C dX8_slips_2 ?_
  refine y_iconst C dX8_slips_5 ic_1 ?_
  refine y_iald C (wM_7 ..) tn_1 vi_1_55 dX8_slips_6 ?_
  refine y_callMiV (k' := 0) (n' := 0) (As := [.int ((S.1 7 1))]) (rest := []) C M cs_X8_456 (met_m_isBelow G A S ((S.1 7 1)) _ (h)) (wM_0 ..) rfl rfl ⟨rfl, rfl, Nat.le_of_ble_eq_true rfl, Nat.le_of_ble_eq_true rfl⟩ rfl rfl (Nat.le_of_ble_eq_true rfl) dX8_slips_7 ⟨Nat.zero_le _, Nat.zero_le _⟩ rfl rfl (fun r_1 S_3 h_2 => ?_)
  refine y_if_ne C (tgt := 15) dX8_slips_10 rfl (fun c_4 => ?_) (fun c_4 => ?_)
  · have h_5 := (h_2).1 c_4
    refine y_aload_n C dX8_slips_15 0 rfl rfl ?_
    refine y_dup C dX8_slips_16 rfl ?_
    refine yg_X8_453_wM0 C dX8_slips_17 ?_
    refine y_iconst C dX8_slips_20 ic_1 ?_
    refine y_iadd C dX8_slips_21 ?_
    refine yp_X8_453_wM0 C M dX8_slips_22 ?_
    refine y_iload_n C dX8_slips_25 1 rfl rfl ?_
    refine y_iconst C dX8_slips_26 ic_1 ?_
    refine y_iadd C dX8_slips_27 ?_
    refine y_bipush C dX8_slips_28 bp_6 ?_
    refine y_irem C dX8_slips_30 nz_I_6 ?_
    exact y_iretM C M N rfl (S := (sI S_3 0 43 ((S_3.1 0 43) + 1))) rfl (h_5) dX8_slips_31
  · have h_6 := (h_2).2 c_4
    refine y_iload_n C dX8_slips_13 1 rfl rfl ?_
    exact y_iretM C M N rfl (S := S_3) rfl (h_6) dX8_slips_14
/-! OverHillModel draws(JI)V: m_draws -/
abbrev rm_m_draws : Room := { frames := 4, cells := 0, slots := 0, locals := 105 }
def wp_m_draws_b210 (Q : St → Prop) (x3 : Int32) (K45 : St → Int32 → Int32 → Int32 → Prop) (S : St) (x4 : Int32) (x5 : Int32) (x6 : Int32) (s0 : Int32) (s1 : Int32) : Prop :=
  (((s1 + s0) ≤ 0 → K45 (sI S 0 40 ((S.1 0 40) + (s1 + s0))) (x4) (x5) ((x6 + 1))) ∧ (¬ (s1 + s0) ≤ 0 → ((¬ ((sI S 0 40 ((S.1 0 40) + (s1 + s0))).1 0 41) = (-1) → K45 (sI S 0 40 ((S.1 0 40) + (s1 + s0))) (x4) (x5) ((x6 + 1))) ∧ (((sI S 0 40 ((S.1 0 40) + (s1 + s0))).1 0 41) = (-1) → K45 (sI (sI S 0 40 ((S.1 0 40) + (s1 + s0))) 0 41 x6) (x4) (x5) ((x6 + 1))))))
def wp_m_draws_b195 (Q : St → Prop) (x3 : Int32) (K45 : St → Int32 → Int32 → Int32 → Prop) (S : St) (x4 : Int32) (x5 : Int32) (x6 : Int32) (s0 : Int32) : Prop :=
  wp_m_isHole S (1) (x6) (fun r_42 => ((r_42 = 0 → wp_m_draws_b210 Q (x3) K45 S (x4) (x5) (x6) (0) (s0)) ∧ (¬ r_42 = 0 → wp_m_draws_b210 Q (x3) K45 S (x4) (x5) (x6) (1) (s0))))
def wp_m_draws_b180 (Q : St → Prop) (x3 : Int32) (K45 : St → Int32 → Int32 → Int32 → Prop) (S : St) (x4 : Int32) (x5 : Int32) (x6 : Int32) : Prop :=
  wp_m_isHole S (0) (x6) (fun r_36 => ((r_36 = 0 → wp_m_draws_b195 Q (x3) K45 S (x4) (x5) (x6) (0)) ∧ (¬ r_36 = 0 → wp_m_draws_b195 Q (x3) K45 S (x4) (x5) (x6) (1))))
def wp_m_draws_b135 (Q : St → Prop) (x3 : Int32) (K45 : St → Int32 → Int32 → Int32 → Prop) (S : St) (x4 : Int32) (x5 : Int32) (x6 : Int32) : Prop :=
  wp_m_lengthOf S (1) (fun r_24 => ((r_24 ≤ 0 → wp_m_draws_b180 Q (x3) K45 S (x4) (x5) (x6)) ∧ (¬ r_24 ≤ 0 → (vp_in (12 + x5) 120 ∧ wp_m_slips S ((S.1 8 ((12 + x5)).toNatClampNeg)) (fun r_30 S_32 => (vp_in (200 + x6) 400 ∧ wp_m_lengthOf (sI S_32 18 ((200 + x6)).toNatClampNeg r_30) (1) (fun r_33 => (¬ r_33 = 0 ∧ wp_m_draws_b180 Q (x3) K45 (sI S_32 18 ((200 + x6)).toNatClampNeg r_30) (x4) ((irm (x5 + 1) r_33)) (x6)))))))))
def wp_m_draws_b45 (Q : St → Prop) (x3 : Int32) : Nat → St → Int32 → Int32 → Int32 → Prop
  | 0 => fun _ _ _ _ => False
  | n + 1 => fun S x4 x5 x6 => ((x3 ≤ x6 → Q S) ∧ (¬ x3 ≤ x6 → (vp_in x6 400 ∧ (vp_in (200 + x6) 400 ∧ wp_m_isBelow (sI (sI S 18 (x6).toNatClampNeg (-1)) 18 ((200 + x6)).toNatClampNeg (-1)) (((sI (sI S 18 (x6).toNatClampNeg (-1)) 18 ((200 + x6)).toNatClampNeg (-1)).1 7 2)) (fun r_6 S_8 => ((r_6 = 0 → wp_m_lengthOf S_8 (0) (fun r_11 => ((r_11 ≤ 0 → wp_m_draws_b135 Q (x3) (fun Sy y4 y5 y6 => wp_m_draws_b45 Q x3 n Sy y4 y5 y6) S_8 (x4) (x5) (x6)) ∧ (¬ r_11 ≤ 0 → (vp_in x4 120 ∧ wp_m_slips S_8 ((S_8.1 8 (x4).toNatClampNeg)) (fun r_17 S_19 => (vp_in x6 400 ∧ wp_m_lengthOf (sI S_19 18 (x6).toNatClampNeg r_17) (0) (fun r_20 => (¬ r_20 = 0 ∧ wp_m_draws_b135 Q (x3) (fun Sy y4 y5 y6 => wp_m_draws_b45 Q x3 n Sy y4 y5 y6) (sI S_19 18 (x6).toNatClampNeg r_17) ((irm (x4 + 1) r_20)) (x5) (x6)))))))))) ∧ (¬ r_6 = 0 → wp_m_draws_b180 Q (x3) (fun Sy y4 y5 y6 => wp_m_draws_b45 Q x3 n Sy y4 y5 y6) (sI S_8 0 42 ((S_8.1 0 42) + 1)) (x4) (x5) (x6))))))))
def wp_m_draws (S : St) (x1 : Int64) (x3 : Int32) (Q : St → Prop) : Prop :=
  (∃ z, wp_m_draws_b45 Q (x3) z (sI (sI (sI (sI (sL S 0 44 x1) 0 40 0) 0 41 (-1)) 0 42 0) 0 43 0) (((sI (sI (sI (sI (sL S 0 44 x1) 0 40 0) 0 41 (-1)) 0 42 0) 0 43 0).1 7 5)) (((sI (sI (sI (sI (sL S 0 44 x1) 0 40 0) 0 41 (-1)) 0 42 0) 0 43 0).1 7 6)) (0))
set_option maxRecDepth 100000 in
theorem wk_m_draws_b210 {G : Gx} {K : Kx} {A : Nat → Nat} (C : KOk G K RX8 cX8_draws rm_m_draws 8 none) {B : Nat → Prop} (M : KM G K B) {Q : St → Prop} (N : KQv G K B (wM G A) Q) (x3 : Int32) (K45 : St → Int32 → Int32 → Int32 → Prop) (hK45 : ∀ (S : St) (x4 : Int32) (x5 : Int32) (x6 : Int32), K45 S x4 x5 x6 → Y G K 0 0 (wM G A S) 45 [(0, .ref (A 0)), (3, .int (x3)), (4, .int (x4)), (5, .int (x5)), (6, .int (x6))] []) (S : St) (x4 : Int32) (x5 : Int32) (x6 : Int32) (s0 : Int32) (s1 : Int32) (h : wp_m_draws_b210 Q x3 K45 S x4 x5 x6 s0 s1) : Y G K 0 0 (wM G A S) 210 [(0, .ref (A 0)), (3, .int (x3)), (4, .int (x4)), (5, .int (x5)), (6, .int (x6))] [.int (s0), .int (s1)] := by
  refine y_iadd C dX8_draws_210 ?_
  refine y_istore C dX8_draws_211 (Nat.le_of_ble_eq_true rfl) [(7, .int ((s1 + s0))), (0, .ref (A 0)), (3, .int (x3)), (4, .int (x4)), (5, .int (x5)), (6, .int (x6))] rfl ?_
  refine y_aload_n C dX8_draws_213 1 rfl rfl ?_
  refine y_dup C dX8_draws_214 rfl ?_
  refine yg_X8_444_wM0 C dX8_draws_215 ?_
  refine y_iload C dX8_draws_218 0 rfl ?_
  refine y_iadd C dX8_draws_220 ?_
  refine yp_X8_444_wM0 C M dX8_draws_221 ?_
  refine y_iload C dX8_draws_224 0 rfl ?_
  refine y_if_le C (tgt := 243) dX8_draws_226 rfl (fun c_48 => ?_) (fun c_48 => ?_)
  · have h_49 := (h).1 c_48
    refine y_iinc C dX8_draws_243 5 rfl (Nat.le_of_ble_eq_true rfl) (ii_1 _) [(6, .int ((x6 + 1))), (7, .int ((s1 + s0))), (0, .ref (A 0)), (3, .int (x3)), (4, .int (x4)), (5, .int (x5))] rfl ?_
    refine y_goto C (tgt := 45) dX8_draws_246 rfl ?_
    exact Y.sub (hK45 (sI S 0 40 ((S.1 0 40) + (s1 + s0))) (x4) (x5) ((x6 + 1)) (h_49)) [2, 3, 4, 5, 0] rfl
  · have h_50 := (h).2 c_48
    refine y_aload_n C dX8_draws_229 1 rfl rfl ?_
    refine yg_X8_447_wM0 C dX8_draws_230 ?_
    refine y_iconst C dX8_draws_233 icm1 ?_
    refine y_icmp_ne C (tgt := 243) dX8_draws_234 rfl (fun c_51 => ?_) (fun c_51 => ?_)
    · have h_52 := (h_50).1 c_51
      refine y_iinc C dX8_draws_243 5 rfl (Nat.le_of_ble_eq_true rfl) (ii_1 _) [(6, .int ((x6 + 1))), (7, .int ((s1 + s0))), (0, .ref (A 0)), (3, .int (x3)), (4, .int (x4)), (5, .int (x5))] rfl ?_
      refine y_goto C (tgt := 45) dX8_draws_246 rfl ?_
      exact Y.sub (hK45 (sI S 0 40 ((S.1 0 40) + (s1 + s0))) (x4) (x5) ((x6 + 1)) (h_52)) [2, 3, 4, 5, 0] rfl
    · have h_53 := (h_50).2 c_51
      refine y_aload_n C dX8_draws_237 1 rfl rfl ?_
      refine y_iload C dX8_draws_238 5 rfl ?_
      refine yp_X8_447_wM0 C M dX8_draws_240 ?_
      refine y_iinc C dX8_draws_243 5 rfl (Nat.le_of_ble_eq_true rfl) (ii_1 _) [(6, .int ((x6 + 1))), (7, .int ((s1 + s0))), (0, .ref (A 0)), (3, .int (x3)), (4, .int (x4)), (5, .int (x5))] rfl ?_
      refine y_goto C (tgt := 45) dX8_draws_246 rfl ?_
      exact Y.sub (hK45 (sI (sI S 0 40 ((S.1 0 40) + (s1 + s0))) 0 41 x6) (x4) (x5) ((x6 + 1)) (h_53)) [2, 3, 4, 5, 0] rfl
set_option maxRecDepth 100000 in
theorem wk_m_draws_b195 {G : Gx} {K : Kx} {A : Nat → Nat} (C : KOk G K RX8 cX8_draws rm_m_draws 8 none) {B : Nat → Prop} (M : KM G K B) {Q : St → Prop} (N : KQv G K B (wM G A) Q) (x3 : Int32) (K45 : St → Int32 → Int32 → Int32 → Prop) (hK45 : ∀ (S : St) (x4 : Int32) (x5 : Int32) (x6 : Int32), K45 S x4 x5 x6 → Y G K 0 0 (wM G A S) 45 [(0, .ref (A 0)), (3, .int (x3)), (4, .int (x4)), (5, .int (x5)), (6, .int (x6))] []) (S : St) (x4 : Int32) (x5 : Int32) (x6 : Int32) (s0 : Int32) (h : wp_m_draws_b195 Q x3 K45 S x4 x5 x6 s0) : Y G K 0 0 (wM G A S) 195 [(0, .ref (A 0)), (3, .int (x3)), (4, .int (x4)), (5, .int (x5)), (6, .int (x6))] [.int (s0)] := by
  refine y_aload_n C dX8_draws_195 0 rfl rfl ?_
  refine y_iconst C dX8_draws_196 ic_1 ?_
  refine y_iload C dX8_draws_197 4 rfl ?_
  refine y_callRiV (As := [.int (1), .int (x6)]) (rest := [.int (s0)]) C cs_X8_293 (met_m_isHole G A S (1) (x6) _ (h)) (fun _ h => h) (wM_0 ..) rfl rfl ⟨rfl, rfl, Nat.le_of_ble_eq_true rfl, Nat.le_of_ble_eq_true rfl⟩ rfl rfl (Nat.le_of_ble_eq_true rfl) dX8_draws_199 ⟨Nat.zero_le _, Nat.zero_le _⟩ (fun r_42 h_43 => ?_)
  refine y_if_eq C (tgt := 209) dX8_draws_202 rfl (fun c_45 => ?_) (fun c_45 => ?_)
  · have h_46 := (h_43).1 c_45
    refine y_iconst C dX8_draws_209 ic_0 ?_
    exact Y.sub (wk_m_draws_b210 C M N (x3) K45 hK45 S (x4) (x5) (x6) (0) (s0) (h_46)) [0, 1, 2, 3, 4] rfl
  · have h_47 := (h_43).2 c_45
    refine y_iconst C dX8_draws_205 ic_1 ?_
    refine y_goto C (tgt := 210) dX8_draws_206 rfl ?_
    exact Y.sub (wk_m_draws_b210 C M N (x3) K45 hK45 S (x4) (x5) (x6) (1) (s0) (h_47)) [0, 1, 2, 3, 4] rfl
set_option maxRecDepth 100000 in
theorem wk_m_draws_b180 {G : Gx} {K : Kx} {A : Nat → Nat} (C : KOk G K RX8 cX8_draws rm_m_draws 8 none) {B : Nat → Prop} (M : KM G K B) {Q : St → Prop} (N : KQv G K B (wM G A) Q) (x3 : Int32) (K45 : St → Int32 → Int32 → Int32 → Prop) (hK45 : ∀ (S : St) (x4 : Int32) (x5 : Int32) (x6 : Int32), K45 S x4 x5 x6 → Y G K 0 0 (wM G A S) 45 [(0, .ref (A 0)), (3, .int (x3)), (4, .int (x4)), (5, .int (x5)), (6, .int (x6))] []) (S : St) (x4 : Int32) (x5 : Int32) (x6 : Int32) (h : wp_m_draws_b180 Q x3 K45 S x4 x5 x6) : Y G K 0 0 (wM G A S) 180 [(0, .ref (A 0)), (3, .int (x3)), (4, .int (x4)), (5, .int (x5)), (6, .int (x6))] [] := by
  refine y_aload_n C dX8_draws_180 0 rfl rfl ?_
  refine y_iconst C dX8_draws_181 ic_0 ?_
  refine y_iload C dX8_draws_182 4 rfl ?_
  refine y_callRiV (As := [.int (0), .int (x6)]) (rest := []) C cs_X8_293 (met_m_isHole G A S (0) (x6) _ (h)) (fun _ h => h) (wM_0 ..) rfl rfl ⟨rfl, rfl, Nat.le_of_ble_eq_true rfl, Nat.le_of_ble_eq_true rfl⟩ rfl rfl (Nat.le_of_ble_eq_true rfl) dX8_draws_184 ⟨Nat.zero_le _, Nat.zero_le _⟩ (fun r_36 h_37 => ?_)
  refine y_if_eq C (tgt := 194) dX8_draws_187 rfl (fun c_39 => ?_) (fun c_39 => ?_)
  · have h_40 := (h_37).1 c_39
    refine y_iconst C dX8_draws_194 ic_0 ?_
    exact Y.sub (wk_m_draws_b195 C M N (x3) K45 hK45 S (x4) (x5) (x6) (0) (h_40)) [0, 1, 2, 3, 4] rfl
  · have h_41 := (h_37).2 c_39
    refine y_iconst C dX8_draws_190 ic_1 ?_
    refine y_goto C (tgt := 195) dX8_draws_191 rfl ?_
    exact Y.sub (wk_m_draws_b195 C M N (x3) K45 hK45 S (x4) (x5) (x6) (1) (h_41)) [0, 1, 2, 3, 4] rfl
set_option maxRecDepth 100000 in
theorem wk_m_draws_b135 {G : Gx} {K : Kx} {A : Nat → Nat} (C : KOk G K RX8 cX8_draws rm_m_draws 8 none) {B : Nat → Prop} (M : KM G K B) {Q : St → Prop} (N : KQv G K B (wM G A) Q) (x3 : Int32) (K45 : St → Int32 → Int32 → Int32 → Prop) (hK45 : ∀ (S : St) (x4 : Int32) (x5 : Int32) (x6 : Int32), K45 S x4 x5 x6 → Y G K 0 0 (wM G A S) 45 [(0, .ref (A 0)), (3, .int (x3)), (4, .int (x4)), (5, .int (x5)), (6, .int (x6))] []) (S : St) (x4 : Int32) (x5 : Int32) (x6 : Int32) (h : wp_m_draws_b135 Q x3 K45 S x4 x5 x6) : Y G K 0 0 (wM G A S) 135 [(0, .ref (A 0)), (3, .int (x3)), (4, .int (x4)), (5, .int (x5)), (6, .int (x6))] [] := by
  refine y_aload_n C dX8_draws_135 0 rfl rfl ?_
  refine y_iconst C dX8_draws_136 ic_1 ?_
  refine y_callRiV (As := [.int (1)]) (rest := []) C cs_X8_264 (met_m_lengthOf G A S (1) _ (h)) (fun _ h => h) (wM_0 ..) rfl rfl ⟨rfl, rfl, Nat.le_of_ble_eq_true rfl, Nat.le_of_ble_eq_true rfl⟩ rfl rfl (Nat.le_of_ble_eq_true rfl) dX8_draws_137 ⟨Nat.zero_le _, Nat.zero_le _⟩ (fun r_24 h_25 => ?_)
  refine y_if_le C (tgt := 180) dX8_draws_140 rfl (fun c_27 => ?_) (fun c_27 => ?_)
  · have h_28 := (h_25).1 c_27
    exact Y.sub (wk_m_draws_b180 C M N (x3) K45 hK45 S (x4) (x5) (x6) (h_28)) [0, 1, 2, 3, 4] rfl
  · have h_29 := (h_25).2 c_27
    refine y_aload_n C dX8_draws_143 0 rfl rfl ?_
    refine yg_X8_68_wM0 C dX8_draws_144 ?_
    refine y_sipush C dX8_draws_147 sp_200 ?_
    refine y_iload C dX8_draws_150 4 rfl ?_
    refine y_iadd C dX8_draws_152 ?_
    refine y_aload_n C dX8_draws_153 0 rfl rfl ?_
    refine y_aload_n C dX8_draws_154 0 rfl rfl ?_
    refine yg_X8_37_wM0 C dX8_draws_155 ?_
    refine y_bipush C dX8_draws_158 bp_12 ?_
    refine y_iload C dX8_draws_160 3 rfl ?_
    refine y_iadd C dX8_draws_162 ?_
    refine y_iald C (wM_8 ..) rfl (h_29).1 dX8_draws_163 ?_
    refine y_callMiV (k' := 0) (n' := 0) (As := [.int ((S.1 8 ((12 + x5)).toNatClampNeg))]) (rest := [.int ((200 + x6)), .ref (A 18)]) C M cs_X8_459 (met_m_slips G A S ((S.1 8 ((12 + x5)).toNatClampNeg)) _ ((h_29).2)) (wM_0 ..) rfl rfl ⟨rfl, rfl, Nat.le_of_ble_eq_true rfl, Nat.le_of_ble_eq_true rfl⟩ rfl rfl (Nat.le_of_ble_eq_true rfl) dX8_draws_164 ⟨Nat.zero_le _, Nat.zero_le _⟩ rfl rfl (fun r_30 S_32 h_31 => ?_)
    refine y_iast C M (wM_18 ..) rfl (wM_s18 ..) (h_31).1 dX8_draws_167 ?_
    refine y_iload C dX8_draws_168 3 rfl ?_
    refine y_iconst C dX8_draws_170 ic_1 ?_
    refine y_iadd C dX8_draws_171 ?_
    refine y_aload_n C dX8_draws_172 0 rfl rfl ?_
    refine y_iconst C dX8_draws_173 ic_1 ?_
    refine y_callRiV (As := [.int (1)]) (rest := [.int ((x5 + 1))]) C cs_X8_264 (met_m_lengthOf G A (sI S_32 18 ((200 + x6)).toNatClampNeg r_30) (1) _ ((h_31).2)) (fun _ h => h) (wM_0 ..) rfl rfl ⟨rfl, rfl, Nat.le_of_ble_eq_true rfl, Nat.le_of_ble_eq_true rfl⟩ rfl rfl (Nat.le_of_ble_eq_true rfl) dX8_draws_174 ⟨Nat.zero_le _, Nat.zero_le _⟩ (fun r_33 h_34 => ?_)
    refine y_irem C dX8_draws_177 (h_34).1 ?_
    refine y_istore C dX8_draws_178 (Nat.le_of_ble_eq_true rfl) [(5, .int ((irm (x5 + 1) r_33))), (0, .ref (A 0)), (3, .int (x3)), (4, .int (x4)), (6, .int (x6))] rfl ?_
    exact Y.sub (wk_m_draws_b180 C M N (x3) K45 hK45 (sI S_32 18 ((200 + x6)).toNatClampNeg r_30) (x4) ((irm (x5 + 1) r_33)) (x6) ((h_34).2)) [1, 2, 3, 0, 4] rfl
set_option maxRecDepth 100000 in
theorem wk_m_draws_b45 {G : Gx} {K : Kx} {A : Nat → Nat} (C : KOk G K RX8 cX8_draws rm_m_draws 8 none) {B : Nat → Prop} (M : KM G K B) {Q : St → Prop} (N : KQv G K B (wM G A) Q) (x3 : Int32) : ∀ (n : Nat), ∀ (S : St) (x4 : Int32) (x5 : Int32) (x6 : Int32), wp_m_draws_b45 Q x3 n S x4 x5 x6 → Y G K 0 0 (wM G A S) 45 [(0, .ref (A 0)), (3, .int (x3)), (4, .int (x4)), (5, .int (x5)), (6, .int (x6))] [] := by
  intro n
  induction n with
  | zero => intro S x4 x5 x6 h; exact h.elim
  | succ n ih =>
    intro S x4 x5 x6 h
    dsimp only [wp_m_draws_b45] at h
    refine y_iload C dX8_draws_45 4 rfl ?_
    refine y_iload_n C dX8_draws_47 1 rfl rfl ?_
    refine y_icmp_ge C (tgt := 249) dX8_draws_48 rfl (fun c_3 => ?_) (fun c_3 => ?_)
    · have h_4 := (h).1 c_3
      exact y_vretM C M N rfl (S := S) rfl (h_4) dX8_draws_249
    · have h_5 := (h).2 c_3
      refine y_aload_n C dX8_draws_51 0 rfl rfl ?_
      refine yg_X8_68_wM0 C dX8_draws_52 ?_
      refine y_iload C dX8_draws_55 4 rfl ?_
      refine y_iconst C dX8_draws_57 icm1 ?_
      refine y_iast C M (wM_18 ..) rfl (wM_s18 ..) (h_5).1 dX8_draws_58 ?_
      refine y_aload_n C dX8_draws_59 0 rfl rfl ?_
      refine yg_X8_68_wM0 C dX8_draws_60 ?_
      refine y_sipush C dX8_draws_63 sp_200 ?_
      refine y_iload C dX8_draws_66 4 rfl ?_
      refine y_iadd C dX8_draws_68 ?_
      refine y_iconst C dX8_draws_69 icm1 ?_
      refine y_iast C M (wM_18 ..) rfl (wM_s18 ..) ((h_5).2).1 dX8_draws_70 ?_
      refine y_aload_n C dX8_draws_71 0 rfl rfl ?_
      refine y_aload_n C dX8_draws_72 0 rfl rfl ?_
      refine yg_X8_34_wM0 C dX8_draws_73 ?_
      refine y_iconst C dX8_draws_76 ic_2 ?_
      refine y_iald C (wM_7 ..) tn_2 vi_2_55 dX8_draws_77 ?_
      refine y_callMiV (k' := 0) (n' := 0) (As := [.int (((sI (sI S 18 (x6).toNatClampNeg (-1)) 18 ((200 + x6)).toNatClampNeg (-1)).1 7 2))]) (rest := []) C M cs_X8_456 (met_m_isBelow G A (sI (sI S 18 (x6).toNatClampNeg (-1)) 18 ((200 + x6)).toNatClampNeg (-1)) (((sI (sI S 18 (x6).toNatClampNeg (-1)) 18 ((200 + x6)).toNatClampNeg (-1)).1 7 2)) _ (((h_5).2).2)) (wM_0 ..) rfl rfl ⟨rfl, rfl, Nat.le_of_ble_eq_true rfl, Nat.le_of_ble_eq_true rfl⟩ rfl rfl (Nat.le_of_ble_eq_true rfl) dX8_draws_78 ⟨Nat.zero_le _, Nat.zero_le _⟩ rfl rfl (fun r_6 S_8 h_7 => ?_)
      refine y_if_eq C (tgt := 97) dX8_draws_81 rfl (fun c_9 => ?_) (fun c_9 => ?_)
      · have h_10 := (h_7).1 c_9
        refine y_aload_n C dX8_draws_97 0 rfl rfl ?_
        refine y_iconst C dX8_draws_98 ic_0 ?_
        refine y_callRiV (As := [.int (0)]) (rest := []) C cs_X8_264 (met_m_lengthOf G A S_8 (0) _ (h_10)) (fun _ h => h) (wM_0 ..) rfl rfl ⟨rfl, rfl, Nat.le_of_ble_eq_true rfl, Nat.le_of_ble_eq_true rfl⟩ rfl rfl (Nat.le_of_ble_eq_true rfl) dX8_draws_99 ⟨Nat.zero_le _, Nat.zero_le _⟩ (fun r_11 h_12 => ?_)
        refine y_if_le C (tgt := 135) dX8_draws_102 rfl (fun c_14 => ?_) (fun c_14 => ?_)
        · have h_15 := (h_12).1 c_14
          exact Y.sub (wk_m_draws_b135 C M N (x3) (fun Sy y4 y5 y6 => wp_m_draws_b45 Q x3 n Sy y4 y5 y6) ih S_8 (x4) (x5) (x6) (h_15)) [0, 1, 2, 3, 4] rfl
        · have h_16 := (h_12).2 c_14
          refine y_aload_n C dX8_draws_105 0 rfl rfl ?_
          refine yg_X8_68_wM0 C dX8_draws_106 ?_
          refine y_iload C dX8_draws_109 4 rfl ?_
          refine y_aload_n C dX8_draws_111 0 rfl rfl ?_
          refine y_aload_n C dX8_draws_112 0 rfl rfl ?_
          refine yg_X8_37_wM0 C dX8_draws_113 ?_
          refine y_iload C dX8_draws_116 2 rfl ?_
          refine y_iald C (wM_8 ..) rfl (h_16).1 dX8_draws_118 ?_
          refine y_callMiV (k' := 0) (n' := 0) (As := [.int ((S_8.1 8 (x4).toNatClampNeg))]) (rest := [.int (x6), .ref (A 18)]) C M cs_X8_459 (met_m_slips G A S_8 ((S_8.1 8 (x4).toNatClampNeg)) _ ((h_16).2)) (wM_0 ..) rfl rfl ⟨rfl, rfl, Nat.le_of_ble_eq_true rfl, Nat.le_of_ble_eq_true rfl⟩ rfl rfl (Nat.le_of_ble_eq_true rfl) dX8_draws_119 ⟨Nat.zero_le _, Nat.zero_le _⟩ rfl rfl (fun r_17 S_19 h_18 => ?_)
          refine y_iast C M (wM_18 ..) rfl (wM_s18 ..) (h_18).1 dX8_draws_122 ?_
          refine y_iload C dX8_draws_123 2 rfl ?_
          refine y_iconst C dX8_draws_125 ic_1 ?_
          refine y_iadd C dX8_draws_126 ?_
          refine y_aload_n C dX8_draws_127 0 rfl rfl ?_
          refine y_iconst C dX8_draws_128 ic_0 ?_
          refine y_callRiV (As := [.int (0)]) (rest := [.int ((x4 + 1))]) C cs_X8_264 (met_m_lengthOf G A (sI S_19 18 (x6).toNatClampNeg r_17) (0) _ ((h_18).2)) (fun _ h => h) (wM_0 ..) rfl rfl ⟨rfl, rfl, Nat.le_of_ble_eq_true rfl, Nat.le_of_ble_eq_true rfl⟩ rfl rfl (Nat.le_of_ble_eq_true rfl) dX8_draws_129 ⟨Nat.zero_le _, Nat.zero_le _⟩ (fun r_20 h_21 => ?_)
          refine y_irem C dX8_draws_132 (h_21).1 ?_
          refine y_istore C dX8_draws_133 (Nat.le_of_ble_eq_true rfl) [(4, .int ((irm (x4 + 1) r_20))), (0, .ref (A 0)), (3, .int (x3)), (5, .int (x5)), (6, .int (x6))] rfl ?_
          exact Y.sub (wk_m_draws_b135 C M N (x3) (fun Sy y4 y5 y6 => wp_m_draws_b45 Q x3 n Sy y4 y5 y6) ih (sI S_19 18 (x6).toNatClampNeg r_17) ((irm (x4 + 1) r_20)) (x5) (x6) ((h_21).2)) [1, 2, 0, 3, 4] rfl
      · have h_23 := (h_7).2 c_9
        refine y_aload_n C dX8_draws_84 0 rfl rfl ?_
        refine y_dup C dX8_draws_85 rfl ?_
        refine yg_X8_450_wM0 C dX8_draws_86 ?_
        refine y_iconst C dX8_draws_89 ic_1 ?_
        refine y_iadd C dX8_draws_90 ?_
        refine yp_X8_450_wM0 C M dX8_draws_91 ?_
        refine y_goto C (tgt := 180) dX8_draws_94 rfl ?_
        exact Y.sub (wk_m_draws_b180 C M N (x3) (fun Sy y4 y5 y6 => wp_m_draws_b45 Q x3 n Sy y4 y5 y6) ih (sI S_8 0 42 ((S_8.1 0 42) + 1)) (x4) (x5) (x6) (h_23)) [0, 1, 2, 3, 4] rfl
set_option maxRecDepth 100000 in
theorem met_m_draws (G : Gx) (A : Nat → Nat) (S : St) (x1 : Int64) (x3 : Int32) (Q : St → Prop) (h : wp_m_draws S x1 x3 Q) : Mv G yX8_draws (ws_ yX8_draws cX8_draws 8 none) rm_m_draws (wM G A S) [.ref (A 0), .long (x1), .int (x3)] (wM G A) Q := by
  refine ent_Mv (by decide +kernel) rfl (Nat.le_of_ble_eq_true rfl) [(0, .ref (A 0)), (1, .long (x1)), (3, .int (x3))] rfl (fun K B C M N => ?_)
  refine y_aload_n C dX8_draws_0 0 rfl rfl ?_
  refine y_lload_n C dX8_draws_1 1 rfl rfl ?_
  refine yp_X8_435_wM0 C M dX8_draws_2 ?_
  refine y_aload_n C dX8_draws_5 0 rfl rfl ?_
  refine y_iconst C dX8_draws_6 ic_0 ?_
  refine yp_X8_444_wM0 C M dX8_draws_7 ?_
  refine y_aload_n C dX8_draws_10 0 rfl rfl ?_
  refine y_iconst C dX8_draws_11 icm1 ?_
  refine yp_X8_447_wM0 C M dX8_draws_12 ?_
  refine y_aload_n C dX8_draws_15 0 rfl rfl ?_
  refine y_iconst C dX8_draws_16 ic_0 ?_
  refine yp_X8_450_wM0 C M dX8_draws_17 ?_
  refine y_aload_n C dX8_draws_20 0 rfl rfl ?_
  refine y_iconst C dX8_draws_21 ic_0 ?_
  refine yp_X8_453_wM0 C M dX8_draws_22 ?_
  refine y_aload_n C dX8_draws_25 0 rfl rfl ?_
  refine yg_X8_34_wM0 C dX8_draws_26 ?_
  refine y_iconst C dX8_draws_29 ic_5 ?_
  refine y_iald C (wM_7 ..) tn_5 vi_5_55 dX8_draws_30 ?_
  refine y_istore C dX8_draws_31 (Nat.le_of_ble_eq_true rfl) [(4, .int (((sI (sI (sI (sI (sL S 0 44 x1) 0 40 0) 0 41 (-1)) 0 42 0) 0 43 0).1 7 5))), (0, .ref (A 0)), (1, .long (x1)), (3, .int (x3))] rfl ?_
  refine y_aload_n C dX8_draws_33 1 rfl rfl ?_
  refine yg_X8_34_wM0 C dX8_draws_34 ?_
  refine y_bipush C dX8_draws_37 bp_6 ?_
  refine y_iald C (wM_7 ..) tn_6 vi_6_55 dX8_draws_39 ?_
  refine y_istore C dX8_draws_40 (Nat.le_of_ble_eq_true rfl) [(5, .int (((sI (sI (sI (sI (sL S 0 44 x1) 0 40 0) 0 41 (-1)) 0 42 0) 0 43 0).1 7 6))), (4, .int (((sI (sI (sI (sI (sL S 0 44 x1) 0 40 0) 0 41 (-1)) 0 42 0) 0 43 0).1 7 5))), (0, .ref (A 0)), (1, .long (x1)), (3, .int (x3))] rfl ?_
  refine y_iconst C dX8_draws_42 ic_0 ?_
  refine y_istore C dX8_draws_43 (Nat.le_of_ble_eq_true rfl) [(6, .int (0)), (5, .int (((sI (sI (sI (sI (sL S 0 44 x1) 0 40 0) 0 41 (-1)) 0 42 0) 0 43 0).1 7 6))), (4, .int (((sI (sI (sI (sI (sL S 0 44 x1) 0 40 0) 0 41 (-1)) 0 42 0) 0 43 0).1 7 5))), (0, .ref (A 0)), (1, .long (x1)), (3, .int (x3))] rfl ?_
  obtain ⟨n_1, h_2⟩ := h
  exact Y.sub (wk_m_draws_b45 C M N (x3) n_1 (sI (sI (sI (sI (sL S 0 44 x1) 0 40 0) 0 41 (-1)) 0 42 0) 0 43 0) (((sI (sI (sI (sI (sL S 0 44 x1) 0 40 0) 0 41 (-1)) 0 42 0) 0 43 0).1 7 5)) (((sI (sI (sI (sI (sL S 0 44 x1) 0 40 0) 0 41 (-1)) 0 42 0) 0 43 0).1 7 6)) (0) h_2) [3, 5, 2, 1, 0] rfl
/-! OverHillModel drawn(III)I: m_drawn -/
abbrev rm_m_drawn : Room := { frames := 5, cells := 0, slots := 0, locals := 132 }
def wp_m_drawn (S : St) (x1 : Int32) (x2 : Int32) (x3 : Int32) (Q : Int32 → St → Prop) : Prop :=
  wp_m_isDraw (sI S 0 0 0) (x1) (x2) (fun r_1 => ((r_1 = 0 → Q (-2) (sI S 0 0 0)) ∧ (¬ r_1 = 0 → wp_m_in ((x3).toInt64) (0) (3) (fun r_7 => ((¬ r_7 = 0 → wp_m_draws (sI S 0 0 0) ((x1).toInt64) (x2) (fun S_14 => ((¬ x3 = 0 → ((¬ x3 = 1 → ((¬ x3 = 2 → Q (S_14.1 0 43) S_14) ∧ (x3 = 2 → Q (S_14.1 0 42) S_14))) ∧ (x3 = 1 → Q (S_14.1 0 41) S_14))) ∧ (x3 = 0 → Q (S_14.1 0 40) S_14)))) ∧ (r_7 = 0 → Q (-2) (sI S 0 0 0)))))))
set_option maxRecDepth 100000 in
theorem met_m_drawn (G : Gx) (A : Nat → Nat) (S : St) (x1 : Int32) (x2 : Int32) (x3 : Int32) (Q : Int32 → St → Prop) (h : wp_m_drawn S x1 x2 x3 Q) : Mi G yX8_drawn (ws_ yX8_drawn cX8_drawn 4 (some .int)) rm_m_drawn (wM G A S) [.ref (A 0), .int (x1), .int (x2), .int (x3)] (wM G A) Q := by
  refine ent_Mi (by decide +kernel) rfl (Nat.le_of_ble_eq_true rfl) [(0, .ref (A 0)), (1, .int (x1)), (2, .int (x2)), (3, .int (x3))] rfl (fun K B C M N => ?_)
  refine y_aload_n C dX8_drawn_0 0 rfl rfl ?_
  refine y_iconst C dX8_drawn_1 ic_0 ?_
  refine yp_X8_80_wM0 C M dX8_drawn_2 ?_
  refine y_aload_n C dX8_drawn_5 0 rfl rfl ?_
  refine y_iload_n C dX8_drawn_6 1 rfl rfl ?_
  refine y_iload_n C dX8_drawn_7 2 rfl rfl ?_
  refine y_callRiV (As := [.int (x1), .int (x2)]) (rest := []) C cs_X8_464 (met_m_isDraw G A (sI S 0 0 0) (x1) (x2) _ (h)) (fun _ h => h) (wM_0 ..) rfl rfl ⟨rfl, rfl, Nat.le_of_ble_eq_true rfl, Nat.le_of_ble_eq_true rfl⟩ rfl rfl (Nat.le_of_ble_eq_true rfl) dX8_drawn_8 ⟨Nat.zero_le _, Nat.zero_le _⟩ (fun r_1 h_2 => ?_)
  refine y_if_eq C (tgt := 26) dX8_drawn_11 rfl (fun c_4 => ?_) (fun c_4 => ?_)
  · have h_5 := (h_2).1 c_4
    refine y_bipush C dX8_drawn_26 bpm2 ?_
    exact y_iretM C M N rfl (S := (sI S 0 0 0)) rfl (h_5) dX8_drawn_28
  · have h_6 := (h_2).2 c_4
    refine y_iload_n C dX8_drawn_14 3 rfl rfl ?_
    refine y_i2l C dX8_drawn_15 rfl ?_
    refine y_lconst C dX8_drawn_16 lc_0 ?_
    refine y_ldc2 C dX8_drawn_17 q1709 ?_
    refine y_callRiS (As := [.long ((x3).toInt64), .long (0), .long (3)]) (rest := []) C cs_X8_85 (met_m_in G ((x3).toInt64) (0) (3) _ (h_6)) (fun _ _ => pw_nil) ⟨rfl, rfl, Nat.le_of_ble_eq_true rfl, Nat.le_of_ble_eq_true rfl⟩ rfl rfl (Nat.le_of_ble_eq_true rfl) dX8_drawn_20 ⟨Nat.zero_le _, Nat.zero_le _⟩ (fun r_7 h_8 => ?_)
    refine y_if_ne C (tgt := 29) dX8_drawn_23 rfl (fun c_10 => ?_) (fun c_10 => ?_)
    · have h_11 := (h_8).1 c_10
      refine y_aload_n C dX8_drawn_29 0 rfl rfl ?_
      refine y_iload_n C dX8_drawn_30 1 rfl rfl ?_
      refine y_i2l C dX8_drawn_31 rfl ?_
      refine y_iload_n C dX8_drawn_32 2 rfl rfl ?_
      refine y_callMvV (k' := 0) (n' := 0) (As := [.long ((x1).toInt64), .int (x2)]) (rest := []) C M cs_X8_467 (met_m_draws G A (sI S 0 0 0) ((x1).toInt64) (x2) _ (h_11)) (wM_0 ..) rfl rfl ⟨rfl, rfl, Nat.le_of_ble_eq_true rfl, Nat.le_of_ble_eq_true rfl⟩ rfl rfl (Nat.le_of_ble_eq_true rfl) dX8_drawn_33 ⟨Nat.zero_le _, Nat.zero_le _⟩ rfl rfl (fun S_14 h_13 => ?_)
      refine y_iload_n C dX8_drawn_36 3 rfl rfl ?_
      refine y_if_ne C (tgt := 47) dX8_drawn_37 rfl (fun c_15 => ?_) (fun c_15 => ?_)
      · have h_16 := (h_13).1 c_15
        refine y_iload_n C dX8_drawn_47 3 rfl rfl ?_
        refine y_iconst C dX8_drawn_48 ic_1 ?_
        refine y_icmp_ne C (tgt := 59) dX8_drawn_49 rfl (fun c_17 => ?_) (fun c_17 => ?_)
        · have h_18 := (h_16).1 c_17
          refine y_iload_n C dX8_drawn_59 3 rfl rfl ?_
          refine y_iconst C dX8_drawn_60 ic_2 ?_
          refine y_icmp_ne C (tgt := 71) dX8_drawn_61 rfl (fun c_19 => ?_) (fun c_19 => ?_)
          · have h_20 := (h_18).1 c_19
            refine y_aload_n C dX8_drawn_71 0 rfl rfl ?_
            refine yg_X8_453_wM0 C dX8_drawn_72 ?_
            exact y_iretM C M N rfl (S := S_14) rfl (h_20) dX8_drawn_75
          · have h_21 := (h_18).2 c_19
            refine y_aload_n C dX8_drawn_64 0 rfl rfl ?_
            refine yg_X8_450_wM0 C dX8_drawn_65 ?_
            refine y_goto C (tgt := 75) dX8_drawn_68 rfl ?_
            exact y_iretM C M N rfl (S := S_14) rfl (h_21) dX8_drawn_75
        · have h_22 := (h_16).2 c_17
          refine y_aload_n C dX8_drawn_52 0 rfl rfl ?_
          refine yg_X8_447_wM0 C dX8_drawn_53 ?_
          refine y_goto C (tgt := 75) dX8_drawn_56 rfl ?_
          exact y_iretM C M N rfl (S := S_14) rfl (h_22) dX8_drawn_75
      · have h_23 := (h_13).2 c_15
        refine y_aload_n C dX8_drawn_40 0 rfl rfl ?_
        refine yg_X8_444_wM0 C dX8_drawn_41 ?_
        refine y_goto C (tgt := 75) dX8_drawn_44 rfl ?_
        exact y_iretM C M N rfl (S := S_14) rfl (h_23) dX8_drawn_75
    · have h_24 := (h_8).2 c_10
      refine y_bipush C dX8_drawn_26 bpm2 ?_
      exact y_iretM C M N rfl (S := (sI S 0 0 0)) rfl (h_24) dX8_drawn_28
/-! OverHillModel nights(III)I: m_nights -/
abbrev rm_m_nights : Room := { frames := 5, cells := 0, slots := 0, locals := 132 }
def wp_m_nights_b35 (Q : Int32 → St → Prop) (x1 : Int32) (x2 : Int32) (x3 : Int32) : Nat → St → Int32 → Int32 → Prop
  | 0 => fun _ _ _ => False
  | n + 1 => fun S x4 x5 => ((x2 ≤ x5 → Q x4 S) ∧ (¬ x2 ≤ x5 → wp_m_draws S (((x1).toInt64 + (x5).toInt64)) (x3) (fun S_20 => ((¬ (S_20.1 0 40) = 0 → wp_m_nights_b35 Q x1 x2 x3 n S_20 ((x4 + 0)) ((x5 + 1))) ∧ ((S_20.1 0 40) = 0 → wp_m_nights_b35 Q x1 x2 x3 n S_20 ((x4 + 1)) ((x5 + 1)))))))
def wp_m_nights (S : St) (x1 : Int32) (x2 : Int32) (x3 : Int32) (Q : Int32 → St → Prop) : Prop :=
  wp_m_isDraw (sI S 0 0 0) (x1) (x3) (fun r_1 => ((r_1 = 0 → Q (-2) (sI S 0 0 0)) ∧ (¬ r_1 = 0 → wp_m_in ((x2).toInt64) (1) (20) (fun r_7 => ((¬ r_7 = 0 → (∃ z, wp_m_nights_b35 Q (x1) (x2) (x3) z (sI S 0 0 0) (0) (0))) ∧ (r_7 = 0 → Q (-2) (sI S 0 0 0)))))))
set_option maxRecDepth 100000 in
theorem wk_m_nights_b35 {G : Gx} {K : Kx} {A : Nat → Nat} (C : KOk G K RX8 cX8_nights rm_m_nights 6 (some .int)) {B : Nat → Prop} (M : KM G K B) {Q : Int32 → St → Prop} (N : KQi G K B (wM G A) Q) (x1 : Int32) (x2 : Int32) (x3 : Int32) : ∀ (n : Nat), ∀ (S : St) (x4 : Int32) (x5 : Int32), wp_m_nights_b35 Q x1 x2 x3 n S x4 x5 → Y G K 0 0 (wM G A S) 35 [(0, .ref (A 0)), (1, .int (x1)), (2, .int (x2)), (3, .int (x3)), (4, .int (x4)), (5, .int (x5))] [] := by
  intro n
  induction n with
  | zero => intro S x4 x5 h; exact h.elim
  | succ n ih =>
    intro S x4 x5 h
    dsimp only [wp_m_nights_b35] at h
    refine y_iload C dX8_nights_35 5 rfl ?_
    refine y_iload_n C dX8_nights_37 2 rfl rfl ?_
    refine y_icmp_ge C (tgt := 75) dX8_nights_38 rfl (fun c_15 => ?_) (fun c_15 => ?_)
    · have h_16 := (h).1 c_15
      refine y_iload C dX8_nights_75 4 rfl ?_
      exact y_iretM C M N rfl (S := S) rfl (h_16) dX8_nights_77
    · have h_17 := (h).2 c_15
      refine y_aload_n C dX8_nights_41 0 rfl rfl ?_
      refine y_iload_n C dX8_nights_42 1 rfl rfl ?_
      refine y_i2l C dX8_nights_43 rfl ?_
      refine y_iload C dX8_nights_44 5 rfl ?_
      refine y_i2l C dX8_nights_46 rfl ?_
      refine y_ladd C dX8_nights_47 ?_
      refine y_iload_n C dX8_nights_48 3 rfl rfl ?_
      refine y_callMvV (k' := 0) (n' := 0) (As := [.long (((x1).toInt64 + (x5).toInt64)), .int (x3)]) (rest := []) C M cs_X8_467 (met_m_draws G A S (((x1).toInt64 + (x5).toInt64)) (x3) _ (h_17)) (wM_0 ..) rfl rfl ⟨rfl, rfl, Nat.le_of_ble_eq_true rfl, Nat.le_of_ble_eq_true rfl⟩ rfl rfl (Nat.le_of_ble_eq_true rfl) dX8_nights_49 ⟨Nat.zero_le _, Nat.zero_le _⟩ rfl rfl (fun S_20 h_19 => ?_)
      refine y_iload C dX8_nights_52 4 rfl ?_
      refine y_aload_n C dX8_nights_54 0 rfl rfl ?_
      refine yg_X8_444_wM0 C dX8_nights_55 ?_
      refine y_if_ne C (tgt := 65) dX8_nights_58 rfl (fun c_21 => ?_) (fun c_21 => ?_)
      · have h_22 := (h_19).1 c_21
        refine y_iconst C dX8_nights_65 ic_0 ?_
        refine y_iadd C dX8_nights_66 ?_
        refine y_istore C dX8_nights_67 (Nat.le_of_ble_eq_true rfl) [(4, .int ((x4 + 0))), (0, .ref (A 0)), (1, .int (x1)), (2, .int (x2)), (3, .int (x3)), (5, .int (x5))] rfl ?_
        refine y_iinc C dX8_nights_69 5 rfl (Nat.le_of_ble_eq_true rfl) (ii_1 _) [(5, .int ((x5 + 1))), (4, .int ((x4 + 0))), (0, .ref (A 0)), (1, .int (x1)), (2, .int (x2)), (3, .int (x3))] rfl ?_
        refine y_goto C (tgt := 35) dX8_nights_72 rfl ?_
        exact Y.sub (ih S_20 ((x4 + 0)) ((x5 + 1)) (h_22)) [2, 3, 4, 5, 1, 0] rfl
      · have h_23 := (h_19).2 c_21
        refine y_iconst C dX8_nights_61 ic_1 ?_
        refine y_goto C (tgt := 66) dX8_nights_62 rfl ?_
        refine y_iadd C dX8_nights_66 ?_
        refine y_istore C dX8_nights_67 (Nat.le_of_ble_eq_true rfl) [(4, .int ((x4 + 1))), (0, .ref (A 0)), (1, .int (x1)), (2, .int (x2)), (3, .int (x3)), (5, .int (x5))] rfl ?_
        refine y_iinc C dX8_nights_69 5 rfl (Nat.le_of_ble_eq_true rfl) (ii_1 _) [(5, .int ((x5 + 1))), (4, .int ((x4 + 1))), (0, .ref (A 0)), (1, .int (x1)), (2, .int (x2)), (3, .int (x3))] rfl ?_
        refine y_goto C (tgt := 35) dX8_nights_72 rfl ?_
        exact Y.sub (ih S_20 ((x4 + 1)) ((x5 + 1)) (h_23)) [2, 3, 4, 5, 1, 0] rfl
set_option maxRecDepth 100000 in
theorem met_m_nights (G : Gx) (A : Nat → Nat) (S : St) (x1 : Int32) (x2 : Int32) (x3 : Int32) (Q : Int32 → St → Prop) (h : wp_m_nights S x1 x2 x3 Q) : Mi G yX8_nights (ws_ yX8_nights cX8_nights 6 (some .int)) rm_m_nights (wM G A S) [.ref (A 0), .int (x1), .int (x2), .int (x3)] (wM G A) Q := by
  refine ent_Mi (by decide +kernel) rfl (Nat.le_of_ble_eq_true rfl) [(0, .ref (A 0)), (1, .int (x1)), (2, .int (x2)), (3, .int (x3))] rfl (fun K B C M N => ?_)
  refine y_aload_n C dX8_nights_0 0 rfl rfl ?_
  refine y_iconst C dX8_nights_1 ic_0 ?_
  refine yp_X8_80_wM0 C M dX8_nights_2 ?_
  refine y_aload_n C dX8_nights_5 0 rfl rfl ?_
  refine y_iload_n C dX8_nights_6 1 rfl rfl ?_
  refine y_iload_n C dX8_nights_7 3 rfl rfl ?_
  refine y_callRiV (As := [.int (x1), .int (x3)]) (rest := []) C cs_X8_464 (met_m_isDraw G A (sI S 0 0 0) (x1) (x3) _ (h)) (fun _ h => h) (wM_0 ..) rfl rfl ⟨rfl, rfl, Nat.le_of_ble_eq_true rfl, Nat.le_of_ble_eq_true rfl⟩ rfl rfl (Nat.le_of_ble_eq_true rfl) dX8_nights_8 ⟨Nat.zero_le _, Nat.zero_le _⟩ (fun r_1 h_2 => ?_)
  refine y_if_eq C (tgt := 26) dX8_nights_11 rfl (fun c_4 => ?_) (fun c_4 => ?_)
  · have h_5 := (h_2).1 c_4
    refine y_bipush C dX8_nights_26 bpm2 ?_
    exact y_iretM C M N rfl (S := (sI S 0 0 0)) rfl (h_5) dX8_nights_28
  · have h_6 := (h_2).2 c_4
    refine y_iload_n C dX8_nights_14 2 rfl rfl ?_
    refine y_i2l C dX8_nights_15 rfl ?_
    refine y_lconst C dX8_nights_16 lc_1 ?_
    refine y_ldc2 C dX8_nights_17 q2257 ?_
    refine y_callRiS (As := [.long ((x2).toInt64), .long (1), .long (20)]) (rest := []) C cs_X8_85 (met_m_in G ((x2).toInt64) (1) (20) _ (h_6)) (fun _ _ => pw_nil) ⟨rfl, rfl, Nat.le_of_ble_eq_true rfl, Nat.le_of_ble_eq_true rfl⟩ rfl rfl (Nat.le_of_ble_eq_true rfl) dX8_nights_20 ⟨Nat.zero_le _, Nat.zero_le _⟩ (fun r_7 h_8 => ?_)
    refine y_if_ne C (tgt := 29) dX8_nights_23 rfl (fun c_10 => ?_) (fun c_10 => ?_)
    · have h_11 := (h_8).1 c_10
      refine y_iconst C dX8_nights_29 ic_0 ?_
      refine y_istore C dX8_nights_30 (Nat.le_of_ble_eq_true rfl) [(4, .int (0)), (0, .ref (A 0)), (1, .int (x1)), (2, .int (x2)), (3, .int (x3))] rfl ?_
      refine y_iconst C dX8_nights_32 ic_0 ?_
      refine y_istore C dX8_nights_33 (Nat.le_of_ble_eq_true rfl) [(5, .int (0)), (4, .int (0)), (0, .ref (A 0)), (1, .int (x1)), (2, .int (x2)), (3, .int (x3))] rfl ?_
      obtain ⟨n_12, h_13⟩ := h_11
      exact Y.sub (wk_m_nights_b35 C M N (x1) (x2) (x3) n_12 (sI S 0 0 0) (0) (0) h_13) [2, 3, 4, 5, 1, 0] rfl
    · have h_14 := (h_8).2 c_10
      refine y_bipush C dX8_nights_26 bpm2 ?_
      exact y_iretM C M N rfl (S := (sI S 0 0 0)) rfl (h_14) dX8_nights_28
/-! OverHillModel changes(IIII)V: m_changes -/
abbrev rm_m_changes : Room := { frames := 1, cells := 0, slots := 0, locals := 40 }
def wp_m_changes (S : St) (x1 : Int32) (x2 : Int32) (x3 : Int32) (x4 : Int32) (Q : St → Prop) : Prop :=
  (vp_in (4 * (S.1 7 10)) 800 ∧ (vp_in ((4 * (S.1 7 10)) + 1) 800 ∧ (vp_in ((4 * (S.1 7 10)) + 2) 800 ∧ (vp_in ((4 * (S.1 7 10)) + 3) 800 ∧ Q (sI (sI (sI (sI (sI S 14 ((4 * (S.1 7 10))).toNatClampNeg x1) 14 (((4 * (S.1 7 10)) + 1)).toNatClampNeg x2) 14 (((4 * (S.1 7 10)) + 2)).toNatClampNeg x3) 14 (((4 * (S.1 7 10)) + 3)).toNatClampNeg x4) 7 10 (((sI (sI (sI (sI S 14 ((4 * (S.1 7 10))).toNatClampNeg x1) 14 (((4 * (S.1 7 10)) + 1)).toNatClampNeg x2) 14 (((4 * (S.1 7 10)) + 2)).toNatClampNeg x3) 14 (((4 * (S.1 7 10)) + 3)).toNatClampNeg x4).1 7 10) + 1))))))
set_option maxRecDepth 100000 in
theorem met_m_changes (G : Gx) (A : Nat → Nat) (S : St) (x1 : Int32) (x2 : Int32) (x3 : Int32) (x4 : Int32) (Q : St → Prop) (h : wp_m_changes S x1 x2 x3 x4 Q) : Mv G yX8_changes (ws_ yX8_changes cX8_changes 6 none) rm_m_changes (wM G A S) [.ref (A 0), .int (x1), .int (x2), .int (x3), .int (x4)] (wM G A) Q := by
  refine ent_Mv (by decide +kernel) rfl (Nat.le_of_ble_eq_true rfl) [(0, .ref (A 0)), (1, .int (x1)), (2, .int (x2)), (3, .int (x3)), (4, .int (x4))] rfl (fun K B C M N => ?_)
  refine y_iconst C dX8_changes_0 ic_4 ?_
  refine y_aload_n C dX8_changes_1 0 rfl rfl ?_
  refine yg_X8_34_wM0 C dX8_changes_2 ?_
  refine y_bipush C dX8_changes_5 bp_10 ?_
  refine y_iald C (wM_7 ..) tn_10 vi_10_55 dX8_changes_7 ?_
  refine y_imul C dX8_changes_8 ?_
  refine y_istore C dX8_changes_9 (Nat.le_of_ble_eq_true rfl) [(5, .int ((4 * (S.1 7 10)))), (0, .ref (A 0)), (1, .int (x1)), (2, .int (x2)), (3, .int (x3)), (4, .int (x4))] rfl ?_
  refine y_aload_n C dX8_changes_11 1 rfl rfl ?_
  refine yg_X8_56_wM0 C dX8_changes_12 ?_
  refine y_iload C dX8_changes_15 0 rfl ?_
  refine y_iload_n C dX8_changes_17 2 rfl rfl ?_
  refine y_iast C M (wM_14 ..) rfl (wM_s14 ..) (h).1 dX8_changes_18 ?_
  refine y_aload_n C dX8_changes_19 1 rfl rfl ?_
  refine yg_X8_56_wM0 C dX8_changes_20 ?_
  refine y_iload C dX8_changes_23 0 rfl ?_
  refine y_iconst C dX8_changes_25 ic_1 ?_
  refine y_iadd C dX8_changes_26 ?_
  refine y_iload_n C dX8_changes_27 3 rfl rfl ?_
  refine y_iast C M (wM_14 ..) rfl (wM_s14 ..) ((h).2).1 dX8_changes_28 ?_
  refine y_aload_n C dX8_changes_29 1 rfl rfl ?_
  refine yg_X8_56_wM0 C dX8_changes_30 ?_
  refine y_iload C dX8_changes_33 0 rfl ?_
  refine y_iconst C dX8_changes_35 ic_2 ?_
  refine y_iadd C dX8_changes_36 ?_
  refine y_iload_n C dX8_changes_37 4 rfl rfl ?_
  refine y_iast C M (wM_14 ..) rfl (wM_s14 ..) (((h).2).2).1 dX8_changes_38 ?_
  refine y_aload_n C dX8_changes_39 1 rfl rfl ?_
  refine yg_X8_56_wM0 C dX8_changes_40 ?_
  refine y_iload C dX8_changes_43 0 rfl ?_
  refine y_iconst C dX8_changes_45 ic_3 ?_
  refine y_iadd C dX8_changes_46 ?_
  refine y_iload C dX8_changes_47 5 rfl ?_
  refine y_iast C M (wM_14 ..) rfl (wM_s14 ..) ((((h).2).2).2).1 dX8_changes_49 ?_
  refine y_aload_n C dX8_changes_50 1 rfl rfl ?_
  refine yg_X8_34_wM0 C dX8_changes_51 ?_
  refine y_bipush C dX8_changes_54 bp_10 ?_
  refine y_dup2 C dX8_changes_56 rfl rfl ?_
  refine y_iald C (wM_7 ..) tn_10 vi_10_55 dX8_changes_57 ?_
  refine y_iconst C dX8_changes_58 ic_1 ?_
  refine y_iadd C dX8_changes_59 ?_
  refine y_iast C M (wM_7 ..) tn_10 (wM_s7 ..) vi_10_55 dX8_changes_60 ?_
  exact y_vretM C M N rfl (S := (sI (sI (sI (sI (sI S 14 ((4 * (S.1 7 10))).toNatClampNeg x1) 14 (((4 * (S.1 7 10)) + 1)).toNatClampNeg x2) 14 (((4 * (S.1 7 10)) + 2)).toNatClampNeg x3) 14 (((4 * (S.1 7 10)) + 3)).toNatClampNeg x4) 7 10 (((sI (sI (sI (sI S 14 ((4 * (S.1 7 10))).toNatClampNeg x1) 14 (((4 * (S.1 7 10)) + 1)).toNatClampNeg x2) 14 (((4 * (S.1 7 10)) + 2)).toNatClampNeg x3) 14 (((4 * (S.1 7 10)) + 3)).toNatClampNeg x4).1 7 10) + 1))) rfl (((((h).2).2).2).2) dX8_changes_61
/-! OverHillModel stumble(IIII)I: m_stumble -/
abbrev rm_m_stumble : Room := { frames := 3, cells := 0, slots := 0, locals := 86 }
def wp_m_stumble (S : St) (x1 : Int32) (x2 : Int32) (x3 : Int32) (x4 : Int32) (Q : Int32 → St → Prop) : Prop :=
  wp_m_isSide (sI S 0 0 0) (x1) (fun r_1 => ((r_1 = 0 → Q (-2) (sI S 0 0 0)) ∧ (¬ r_1 = 0 → wp_m_isBeat ((x2).toInt64) (fun r_7 => ((r_7 = 0 → Q (-2) (sI S 0 0 0)) ∧ (¬ r_7 = 0 → wp_m_isStep ((x3).toInt64) (fun r_13 => ((r_13 = 0 → Q (-2) (sI S 0 0 0)) ∧ (¬ r_13 = 0 → wp_m_in ((x4).toInt64) (0) (9) (fun r_19 => ((¬ r_19 = 0 → ((((sI S 0 0 0).1 7 7) = 8 → Q (-5) (sI S 0 0 0)) ∧ (¬ ((sI S 0 0 0).1 7 7) = 8 → wp_m_isStumbled (sI S 0 0 0) (0) (x1) (x2) (fun r_27 => ((¬ r_27 = 0 → Q (-5) (sI S 0 0 0)) ∧ (r_27 = 0 → ((¬ ((sI S 0 0 0).1 7 10) = 40 → (vp_in (4 * ((sI S 0 0 0).1 7 7)) 160 ∧ (vp_in ((4 * ((sI S 0 0 0).1 7 7)) + 1) 160 ∧ (vp_in ((4 * ((sI S 0 0 0).1 7 7)) + 2) 160 ∧ (vp_in ((4 * ((sI S 0 0 0).1 7 7)) + 3) 160 ∧ wp_m_changes (sI (sI (sI (sI (sI S 0 0 0) 10 ((4 * ((sI S 0 0 0).1 7 7))).toNatClampNeg x1) 10 (((4 * ((sI S 0 0 0).1 7 7)) + 1)).toNatClampNeg x2) 10 (((4 * ((sI S 0 0 0).1 7 7)) + 2)).toNatClampNeg x3) 10 (((4 * ((sI S 0 0 0).1 7 7)) + 3)).toNatClampNeg x4) (0) (0) (0) (0) (fun S_37 => Q (((sI S_37 7 7 ((S_37.1 7 7) + 1)).1 7 7) - 1) (sI S_37 7 7 ((S_37.1 7 7) + 1)))))))) ∧ (((sI S 0 0 0).1 7 10) = 40 → Q (-5) (sI S 0 0 0))))))))) ∧ (r_19 = 0 → Q (-2) (sI S 0 0 0)))))))))))))
set_option maxRecDepth 100000 in
theorem met_m_stumble (G : Gx) (A : Nat → Nat) (S : St) (x1 : Int32) (x2 : Int32) (x3 : Int32) (x4 : Int32) (Q : Int32 → St → Prop) (h : wp_m_stumble S x1 x2 x3 x4 Q) : Mi G yX8_stumble (ws_ yX8_stumble cX8_stumble 6 (some .int)) rm_m_stumble (wM G A S) [.ref (A 0), .int (x1), .int (x2), .int (x3), .int (x4)] (wM G A) Q := by
  refine ent_Mi (by decide +kernel) rfl (Nat.le_of_ble_eq_true rfl) [(0, .ref (A 0)), (1, .int (x1)), (2, .int (x2)), (3, .int (x3)), (4, .int (x4))] rfl (fun K B C M N => ?_)
  refine y_aload_n C dX8_stumble_0 0 rfl rfl ?_
  refine y_iconst C dX8_stumble_1 ic_0 ?_
  refine yp_X8_80_wM0 C M dX8_stumble_2 ?_
  refine y_aload_n C dX8_stumble_5 0 rfl rfl ?_
  refine y_iload_n C dX8_stumble_6 1 rfl rfl ?_
  refine y_callRiV (As := [.int (x1)]) (rest := []) C cs_X8_261 (met_m_isSide G A (sI S 0 0 0) (x1) _ (h)) (fun _ h => h) (wM_0 ..) rfl rfl ⟨rfl, rfl, Nat.le_of_ble_eq_true rfl, Nat.le_of_ble_eq_true rfl⟩ rfl rfl (Nat.le_of_ble_eq_true rfl) dX8_stumble_7 ⟨Nat.zero_le _, Nat.zero_le _⟩ (fun r_1 h_2 => ?_)
  refine y_if_eq C (tgt := 42) dX8_stumble_10 rfl (fun c_4 => ?_) (fun c_4 => ?_)
  · have h_5 := (h_2).1 c_4
    refine y_bipush C dX8_stumble_42 bpm2 ?_
    exact y_iretM C M N rfl (S := (sI S 0 0 0)) rfl (h_5) dX8_stumble_44
  · have h_6 := (h_2).2 c_4
    refine y_iload_n C dX8_stumble_13 2 rfl rfl ?_
    refine y_i2l C dX8_stumble_14 rfl ?_
    refine y_callRiS (As := [.long ((x2).toInt64)]) (rest := []) C cs_X8_270 (met_m_isBeat G ((x2).toInt64) _ (h_6)) (fun _ _ => pw_nil) ⟨rfl, rfl, Nat.le_of_ble_eq_true rfl, Nat.le_of_ble_eq_true rfl⟩ rfl rfl (Nat.le_of_ble_eq_true rfl) dX8_stumble_15 ⟨Nat.zero_le _, Nat.zero_le _⟩ (fun r_7 h_8 => ?_)
    refine y_if_eq C (tgt := 42) dX8_stumble_18 rfl (fun c_10 => ?_) (fun c_10 => ?_)
    · have h_11 := (h_8).1 c_10
      refine y_bipush C dX8_stumble_42 bpm2 ?_
      exact y_iretM C M N rfl (S := (sI S 0 0 0)) rfl (h_11) dX8_stumble_44
    · have h_12 := (h_8).2 c_10
      refine y_iload_n C dX8_stumble_21 3 rfl rfl ?_
      refine y_i2l C dX8_stumble_22 rfl ?_
      refine y_callRiS (As := [.long ((x3).toInt64)]) (rest := []) C cs_X8_267 (met_m_isStep G ((x3).toInt64) _ (h_12)) (fun _ _ => pw_nil) ⟨rfl, rfl, Nat.le_of_ble_eq_true rfl, Nat.le_of_ble_eq_true rfl⟩ rfl rfl (Nat.le_of_ble_eq_true rfl) dX8_stumble_23 ⟨Nat.zero_le _, Nat.zero_le _⟩ (fun r_13 h_14 => ?_)
      refine y_if_eq C (tgt := 42) dX8_stumble_26 rfl (fun c_16 => ?_) (fun c_16 => ?_)
      · have h_17 := (h_14).1 c_16
        refine y_bipush C dX8_stumble_42 bpm2 ?_
        exact y_iretM C M N rfl (S := (sI S 0 0 0)) rfl (h_17) dX8_stumble_44
      · have h_18 := (h_14).2 c_16
        refine y_iload C dX8_stumble_29 4 rfl ?_
        refine y_i2l C dX8_stumble_31 rfl ?_
        refine y_lconst C dX8_stumble_32 lc_0 ?_
        refine y_ldc2 C dX8_stumble_33 q2216 ?_
        refine y_callRiS (As := [.long ((x4).toInt64), .long (0), .long (9)]) (rest := []) C cs_X8_85 (met_m_in G ((x4).toInt64) (0) (9) _ (h_18)) (fun _ _ => pw_nil) ⟨rfl, rfl, Nat.le_of_ble_eq_true rfl, Nat.le_of_ble_eq_true rfl⟩ rfl rfl (Nat.le_of_ble_eq_true rfl) dX8_stumble_36 ⟨Nat.zero_le _, Nat.zero_le _⟩ (fun r_19 h_20 => ?_)
        refine y_if_ne C (tgt := 45) dX8_stumble_39 rfl (fun c_22 => ?_) (fun c_22 => ?_)
        · have h_23 := (h_20).1 c_22
          refine y_aload_n C dX8_stumble_45 0 rfl rfl ?_
          refine yg_X8_34_wM0 C dX8_stumble_46 ?_
          refine y_bipush C dX8_stumble_49 bp_7 ?_
          refine y_iald C (wM_7 ..) tn_7 vi_7_55 dX8_stumble_51 ?_
          refine y_bipush C dX8_stumble_52 bp_8 ?_
          refine y_icmp_eq C (tgt := 79) dX8_stumble_54 rfl (fun c_24 => ?_) (fun c_24 => ?_)
          · have h_25 := (h_23).1 c_24
            refine y_bipush C dX8_stumble_79 bpm5 ?_
            exact y_iretM C M N rfl (S := (sI S 0 0 0)) rfl (h_25) dX8_stumble_81
          · have h_26 := (h_23).2 c_24
            refine y_aload_n C dX8_stumble_57 0 rfl rfl ?_
            refine y_iconst C dX8_stumble_58 ic_0 ?_
            refine y_iload_n C dX8_stumble_59 1 rfl rfl ?_
            refine y_iload_n C dX8_stumble_60 2 rfl rfl ?_
            refine y_callRiV (As := [.int (0), .int (x1), .int (x2)]) (rest := []) C cs_X8_187 (met_m_isStumbled G A (sI S 0 0 0) (0) (x1) (x2) _ (h_26)) (fun _ h => h) (wM_0 ..) rfl rfl ⟨rfl, rfl, Nat.le_of_ble_eq_true rfl, Nat.le_of_ble_eq_true rfl⟩ rfl rfl (Nat.le_of_ble_eq_true rfl) dX8_stumble_61 ⟨Nat.zero_le _, Nat.zero_le _⟩ (fun r_27 h_28 => ?_)
            refine y_if_ne C (tgt := 79) dX8_stumble_64 rfl (fun c_30 => ?_) (fun c_30 => ?_)
            · have h_31 := (h_28).1 c_30
              refine y_bipush C dX8_stumble_79 bpm5 ?_
              exact y_iretM C M N rfl (S := (sI S 0 0 0)) rfl (h_31) dX8_stumble_81
            · have h_32 := (h_28).2 c_30
              refine y_aload_n C dX8_stumble_67 0 rfl rfl ?_
              refine yg_X8_34_wM0 C dX8_stumble_68 ?_
              refine y_bipush C dX8_stumble_71 bp_10 ?_
              refine y_iald C (wM_7 ..) tn_10 vi_10_55 dX8_stumble_73 ?_
              refine y_bipush C dX8_stumble_74 bp_40 ?_
              refine y_icmp_ne C (tgt := 82) dX8_stumble_76 rfl (fun c_33 => ?_) (fun c_33 => ?_)
              · have h_34 := (h_32).1 c_33
                refine y_iconst C dX8_stumble_82 ic_4 ?_
                refine y_aload_n C dX8_stumble_83 0 rfl rfl ?_
                refine yg_X8_34_wM0 C dX8_stumble_84 ?_
                refine y_bipush C dX8_stumble_87 bp_7 ?_
                refine y_iald C (wM_7 ..) tn_7 vi_7_55 dX8_stumble_89 ?_
                refine y_imul C dX8_stumble_90 ?_
                refine y_istore C dX8_stumble_91 (Nat.le_of_ble_eq_true rfl) [(5, .int ((4 * ((sI S 0 0 0).1 7 7)))), (0, .ref (A 0)), (1, .int (x1)), (2, .int (x2)), (3, .int (x3)), (4, .int (x4))] rfl ?_
                refine y_aload_n C dX8_stumble_93 1 rfl rfl ?_
                refine yg_X8_43_wM0 C dX8_stumble_94 ?_
                refine y_iload C dX8_stumble_97 0 rfl ?_
                refine y_iload_n C dX8_stumble_99 2 rfl rfl ?_
                refine y_iast C M (wM_10 ..) rfl (wM_s10 ..) (h_34).1 dX8_stumble_100 ?_
                refine y_aload_n C dX8_stumble_101 1 rfl rfl ?_
                refine yg_X8_43_wM0 C dX8_stumble_102 ?_
                refine y_iload C dX8_stumble_105 0 rfl ?_
                refine y_iconst C dX8_stumble_107 ic_1 ?_
                refine y_iadd C dX8_stumble_108 ?_
                refine y_iload_n C dX8_stumble_109 3 rfl rfl ?_
                refine y_iast C M (wM_10 ..) rfl (wM_s10 ..) ((h_34).2).1 dX8_stumble_110 ?_
                refine y_aload_n C dX8_stumble_111 1 rfl rfl ?_
                refine yg_X8_43_wM0 C dX8_stumble_112 ?_
                refine y_iload C dX8_stumble_115 0 rfl ?_
                refine y_iconst C dX8_stumble_117 ic_2 ?_
                refine y_iadd C dX8_stumble_118 ?_
                refine y_iload_n C dX8_stumble_119 4 rfl rfl ?_
                refine y_iast C M (wM_10 ..) rfl (wM_s10 ..) (((h_34).2).2).1 dX8_stumble_120 ?_
                refine y_aload_n C dX8_stumble_121 1 rfl rfl ?_
                refine yg_X8_43_wM0 C dX8_stumble_122 ?_
                refine y_iload C dX8_stumble_125 0 rfl ?_
                refine y_iconst C dX8_stumble_127 ic_3 ?_
                refine y_iadd C dX8_stumble_128 ?_
                refine y_iload C dX8_stumble_129 5 rfl ?_
                refine y_iast C M (wM_10 ..) rfl (wM_s10 ..) ((((h_34).2).2).2).1 dX8_stumble_131 ?_
                refine y_aload_n C dX8_stumble_132 1 rfl rfl ?_
                refine y_iconst C dX8_stumble_133 ic_0 ?_
                refine y_iconst C dX8_stumble_134 ic_0 ?_
                refine y_iconst C dX8_stumble_135 ic_0 ?_
                refine y_iconst C dX8_stumble_136 ic_0 ?_
                refine y_callMvV (k' := 0) (n' := 0) (As := [.int (0), .int (0), .int (0), .int (0)]) (rest := []) C M cs_X8_473 (met_m_changes G A (sI (sI (sI (sI (sI S 0 0 0) 10 ((4 * ((sI S 0 0 0).1 7 7))).toNatClampNeg x1) 10 (((4 * ((sI S 0 0 0).1 7 7)) + 1)).toNatClampNeg x2) 10 (((4 * ((sI S 0 0 0).1 7 7)) + 2)).toNatClampNeg x3) 10 (((4 * ((sI S 0 0 0).1 7 7)) + 3)).toNatClampNeg x4) (0) (0) (0) (0) _ (((((h_34).2).2).2).2)) (wM_0 ..) rfl rfl ⟨rfl, rfl, Nat.le_of_ble_eq_true rfl, Nat.le_of_ble_eq_true rfl⟩ rfl rfl (Nat.le_of_ble_eq_true rfl) dX8_stumble_137 ⟨Nat.zero_le _, Nat.zero_le _⟩ rfl rfl (fun S_37 h_36 => ?_)
                refine y_aload_n C dX8_stumble_140 1 rfl rfl ?_
                refine yg_X8_34_wM0 C dX8_stumble_141 ?_
                refine y_bipush C dX8_stumble_144 bp_7 ?_
                refine y_dup2 C dX8_stumble_146 rfl rfl ?_
                refine y_iald C (wM_7 ..) tn_7 vi_7_55 dX8_stumble_147 ?_
                refine y_iconst C dX8_stumble_148 ic_1 ?_
                refine y_iadd C dX8_stumble_149 ?_
                refine y_iast C M (wM_7 ..) tn_7 (wM_s7 ..) vi_7_55 dX8_stumble_150 ?_
                refine y_aload_n C dX8_stumble_151 1 rfl rfl ?_
                refine yg_X8_34_wM0 C dX8_stumble_152 ?_
                refine y_bipush C dX8_stumble_155 bp_7 ?_
                refine y_iald C (wM_7 ..) tn_7 vi_7_55 dX8_stumble_157 ?_
                refine y_iconst C dX8_stumble_158 ic_1 ?_
                refine y_isub C dX8_stumble_159 ?_
                exact y_iretM C M N rfl (S := (sI S_37 7 7 ((S_37.1 7 7) + 1))) rfl (h_36) dX8_stumble_160
              · have h_38 := (h_32).2 c_33
                refine y_bipush C dX8_stumble_79 bpm5 ?_
                exact y_iretM C M N rfl (S := (sI S 0 0 0)) rfl (h_38) dX8_stumble_81
        · have h_39 := (h_20).2 c_22
          refine y_bipush C dX8_stumble_42 bpm2 ?_
          exact y_iretM C M N rfl (S := (sI S 0 0 0)) rfl (h_39) dX8_stumble_44
/-! OverHillModel mud(II)I: m_mud -/
abbrev rm_m_mud : Room := { frames := 3, cells := 0, slots := 0, locals := 86 }
def wp_m_mud_b62 (Q : Int32 → St → Prop) (x1 : Int32) (x2 : Int32) (S : St) (s0 : Int32) : Prop :=
  wp_m_changes S (1) (0) (x1) (s0) (fun S_27 => ((¬ x2 = 1 → (vp_in x1 1000 ∧ Q s0 (sI S_27 11 (x1).toNatClampNeg (vp_nar .boolean 0)))) ∧ (x2 = 1 → (vp_in x1 1000 ∧ Q s0 (sI S_27 11 (x1).toNatClampNeg (vp_nar .boolean 1))))))
def wp_m_mud (S : St) (x1 : Int32) (x2 : Int32) (Q : Int32 → St → Prop) : Prop :=
  wp_m_isDance (sI S 0 0 0) (fun r_1 => ((r_1 = 0 → Q (-2) (sI S 0 0 0)) ∧ (¬ r_1 = 0 → wp_m_isBeat ((x1).toInt64) (fun r_7 => ((r_7 = 0 → Q (-2) (sI S 0 0 0)) ∧ (¬ r_7 = 0 → wp_m_in ((x2).toInt64) (0) (1) (fun r_13 => ((¬ r_13 = 0 → ((¬ ((sI S 0 0 0).1 7 10) = 40 → (vp_in x1 1000 ∧ ((((sI S 0 0 0).1 11 (x1).toNatClampNeg) = 0 → wp_m_mud_b62 Q (x1) (x2) (sI S 0 0 0) (0)) ∧ (¬ ((sI S 0 0 0).1 11 (x1).toNatClampNeg) = 0 → wp_m_mud_b62 Q (x1) (x2) (sI S 0 0 0) (1))))) ∧ (((sI S 0 0 0).1 7 10) = 40 → Q (-5) (sI S 0 0 0)))) ∧ (r_13 = 0 → Q (-2) (sI S 0 0 0))))))))))
set_option maxRecDepth 100000 in
theorem wk_m_mud_b62 {G : Gx} {K : Kx} {A : Nat → Nat} (C : KOk G K RX8 cX8_mud rm_m_mud 4 (some .int)) {B : Nat → Prop} (M : KM G K B) {Q : Int32 → St → Prop} (N : KQi G K B (wM G A) Q) (x1 : Int32) (x2 : Int32) (S : St) (s0 : Int32) (h : wp_m_mud_b62 Q x1 x2 S s0) : Y G K 0 0 (wM G A S) 62 [(0, .ref (A 0)), (1, .int (x1)), (2, .int (x2))] [.int (s0)] := by
  refine y_istore_n C dX8_mud_62 rfl (Nat.le_of_ble_eq_true rfl) [(3, .int (s0)), (0, .ref (A 0)), (1, .int (x1)), (2, .int (x2))] rfl ?_
  refine y_aload_n C dX8_mud_63 1 rfl rfl ?_
  refine y_iconst C dX8_mud_64 ic_1 ?_
  refine y_iconst C dX8_mud_65 ic_0 ?_
  refine y_iload_n C dX8_mud_66 2 rfl rfl ?_
  refine y_iload_n C dX8_mud_67 0 rfl rfl ?_
  refine y_callMvV (k' := 0) (n' := 0) (As := [.int (1), .int (0), .int (x1), .int (s0)]) (rest := []) C M cs_X8_473 (met_m_changes G A S (1) (0) (x1) (s0) _ (h)) (wM_0 ..) rfl rfl ⟨rfl, rfl, Nat.le_of_ble_eq_true rfl, Nat.le_of_ble_eq_true rfl⟩ rfl rfl (Nat.le_of_ble_eq_true rfl) dX8_mud_68 ⟨Nat.zero_le _, Nat.zero_le _⟩ rfl rfl (fun S_27 h_26 => ?_)
  refine y_aload_n C dX8_mud_71 1 rfl rfl ?_
  refine yg_X8_46_wM0 C dX8_mud_72 ?_
  refine y_iload_n C dX8_mud_75 2 rfl rfl ?_
  refine y_iload_n C dX8_mud_76 3 rfl rfl ?_
  refine y_iconst C dX8_mud_77 ic_1 ?_
  refine y_icmp_ne C (tgt := 85) dX8_mud_78 rfl (fun c_28 => ?_) (fun c_28 => ?_)
  · have h_29 := (h_26).1 c_28
    refine y_iconst C dX8_mud_85 ic_0 ?_
    refine y_zast C M (wM_11 ..) rfl (wM_s11 ..) (h_29).1 dX8_mud_86 ?_
    refine y_iload_n C dX8_mud_87 0 rfl rfl ?_
    exact y_iretM C M N rfl (S := (sI S_27 11 (x1).toNatClampNeg (vp_nar .boolean 0))) rfl ((h_29).2) dX8_mud_88
  · have h_30 := (h_26).2 c_28
    refine y_iconst C dX8_mud_81 ic_1 ?_
    refine y_goto C (tgt := 86) dX8_mud_82 rfl ?_
    refine y_zast C M (wM_11 ..) rfl (wM_s11 ..) (h_30).1 dX8_mud_86 ?_
    refine y_iload_n C dX8_mud_87 0 rfl rfl ?_
    exact y_iretM C M N rfl (S := (sI S_27 11 (x1).toNatClampNeg (vp_nar .boolean 1))) rfl ((h_30).2) dX8_mud_88
set_option maxRecDepth 100000 in
theorem met_m_mud (G : Gx) (A : Nat → Nat) (S : St) (x1 : Int32) (x2 : Int32) (Q : Int32 → St → Prop) (h : wp_m_mud S x1 x2 Q) : Mi G yX8_mud (ws_ yX8_mud cX8_mud 4 (some .int)) rm_m_mud (wM G A S) [.ref (A 0), .int (x1), .int (x2)] (wM G A) Q := by
  refine ent_Mi (by decide +kernel) rfl (Nat.le_of_ble_eq_true rfl) [(0, .ref (A 0)), (1, .int (x1)), (2, .int (x2))] rfl (fun K B C M N => ?_)
  refine y_aload_n C dX8_mud_0 0 rfl rfl ?_
  refine y_iconst C dX8_mud_1 ic_0 ?_
  refine yp_X8_80_wM0 C M dX8_mud_2 ?_
  refine y_aload_n C dX8_mud_5 0 rfl rfl ?_
  refine y_callRiV (As := []) (rest := []) C cs_X8_254 (met_m_isDance G A (sI S 0 0 0) _ (h)) (fun _ h => h) (wM_0 ..) rfl rfl ⟨rfl, rfl, Nat.le_of_ble_eq_true rfl, Nat.le_of_ble_eq_true rfl⟩ rfl rfl (Nat.le_of_ble_eq_true rfl) dX8_mud_6 ⟨Nat.zero_le _, Nat.zero_le _⟩ (fun r_1 h_2 => ?_)
  refine y_if_eq C (tgt := 30) dX8_mud_9 rfl (fun c_4 => ?_) (fun c_4 => ?_)
  · have h_5 := (h_2).1 c_4
    refine y_bipush C dX8_mud_30 bpm2 ?_
    exact y_iretM C M N rfl (S := (sI S 0 0 0)) rfl (h_5) dX8_mud_32
  · have h_6 := (h_2).2 c_4
    refine y_iload_n C dX8_mud_12 1 rfl rfl ?_
    refine y_i2l C dX8_mud_13 rfl ?_
    refine y_callRiS (As := [.long ((x1).toInt64)]) (rest := []) C cs_X8_270 (met_m_isBeat G ((x1).toInt64) _ (h_6)) (fun _ _ => pw_nil) ⟨rfl, rfl, Nat.le_of_ble_eq_true rfl, Nat.le_of_ble_eq_true rfl⟩ rfl rfl (Nat.le_of_ble_eq_true rfl) dX8_mud_14 ⟨Nat.zero_le _, Nat.zero_le _⟩ (fun r_7 h_8 => ?_)
    refine y_if_eq C (tgt := 30) dX8_mud_17 rfl (fun c_10 => ?_) (fun c_10 => ?_)
    · have h_11 := (h_8).1 c_10
      refine y_bipush C dX8_mud_30 bpm2 ?_
      exact y_iretM C M N rfl (S := (sI S 0 0 0)) rfl (h_11) dX8_mud_32
    · have h_12 := (h_8).2 c_10
      refine y_iload_n C dX8_mud_20 2 rfl rfl ?_
      refine y_i2l C dX8_mud_21 rfl ?_
      refine y_lconst C dX8_mud_22 lc_0 ?_
      refine y_lconst C dX8_mud_23 lc_1 ?_
      refine y_callRiS (As := [.long ((x2).toInt64), .long (0), .long (1)]) (rest := []) C cs_X8_85 (met_m_in G ((x2).toInt64) (0) (1) _ (h_12)) (fun _ _ => pw_nil) ⟨rfl, rfl, Nat.le_of_ble_eq_true rfl, Nat.le_of_ble_eq_true rfl⟩ rfl rfl (Nat.le_of_ble_eq_true rfl) dX8_mud_24 ⟨Nat.zero_le _, Nat.zero_le _⟩ (fun r_13 h_14 => ?_)
      refine y_if_ne C (tgt := 33) dX8_mud_27 rfl (fun c_16 => ?_) (fun c_16 => ?_)
      · have h_17 := (h_14).1 c_16
        refine y_aload_n C dX8_mud_33 0 rfl rfl ?_
        refine yg_X8_34_wM0 C dX8_mud_34 ?_
        refine y_bipush C dX8_mud_37 bp_10 ?_
        refine y_iald C (wM_7 ..) tn_10 vi_10_55 dX8_mud_39 ?_
        refine y_bipush C dX8_mud_40 bp_40 ?_
        refine y_icmp_ne C (tgt := 48) dX8_mud_42 rfl (fun c_18 => ?_) (fun c_18 => ?_)
        · have h_19 := (h_17).1 c_18
          refine y_aload_n C dX8_mud_48 0 rfl rfl ?_
          refine yg_X8_46_wM0 C dX8_mud_49 ?_
          refine y_iload_n C dX8_mud_52 1 rfl rfl ?_
          refine y_zald C (wM_11 ..) rfl (h_19).1 dX8_mud_53 ?_
          refine y_if_eq C (tgt := 61) dX8_mud_54 rfl (fun c_20 => ?_) (fun c_20 => ?_)
          · have h_21 := ((h_19).2).1 c_20
            refine y_iconst C dX8_mud_61 ic_0 ?_
            exact Y.sub (wk_m_mud_b62 C M N (x1) (x2) (sI S 0 0 0) (0) (h_21)) [0, 1, 2] rfl
          · have h_22 := ((h_19).2).2 c_20
            refine y_iconst C dX8_mud_57 ic_1 ?_
            refine y_goto C (tgt := 62) dX8_mud_58 rfl ?_
            exact Y.sub (wk_m_mud_b62 C M N (x1) (x2) (sI S 0 0 0) (1) (h_22)) [0, 1, 2] rfl
        · have h_23 := (h_17).2 c_18
          refine y_bipush C dX8_mud_45 bpm5 ?_
          exact y_iretM C M N rfl (S := (sI S 0 0 0)) rfl (h_23) dX8_mud_47
      · have h_24 := (h_14).2 c_16
        refine y_bipush C dX8_mud_30 bpm2 ?_
        exact y_iretM C M N rfl (S := (sI S 0 0 0)) rfl (h_24) dX8_mud_32
/-! OverHillModel teach(III)I: m_teach -/
abbrev rm_m_teach : Room := { frames := 3, cells := 0, slots := 0, locals := 86 }
def wp_m_teach (S : St) (x1 : Int32) (x2 : Int32) (x3 : Int32) (Q : Int32 → St → Prop) : Prop :=
  wp_m_isSide (sI S 0 0 0) (x1) (fun r_1 => ((r_1 = 0 → Q (-2) (sI S 0 0 0)) ∧ (¬ r_1 = 0 → wp_m_lengthOf (sI S 0 0 0) (x1) (fun r_7 => wp_m_in ((x2).toInt64) (0) (((r_7 - 1)).toInt64) (fun r_10 => ((r_10 = 0 → Q (-2) (sI S 0 0 0)) ∧ (¬ r_10 = 0 → wp_m_isStep ((x3).toInt64) (fun r_16 => ((¬ r_16 = 0 → ((¬ ((sI S 0 0 0).1 7 10) = 40 → (vp_in ((12 * x1) + x2) 120 ∧ wp_m_changes (sI S 0 0 0) (2) (x1) (x2) (((sI S 0 0 0).1 8 (((12 * x1) + x2)).toNatClampNeg)) (fun S_25 => (vp_in ((12 * x1) + x2) 120 ∧ Q ((sI S 0 0 0).1 8 (((12 * x1) + x2)).toNatClampNeg) (sI S_25 8 (((12 * x1) + x2)).toNatClampNeg x3))))) ∧ (((sI S 0 0 0).1 7 10) = 40 → Q (-5) (sI S 0 0 0)))) ∧ (r_16 = 0 → Q (-2) (sI S 0 0 0)))))))))))
set_option maxRecDepth 100000 in
theorem met_m_teach (G : Gx) (A : Nat → Nat) (S : St) (x1 : Int32) (x2 : Int32) (x3 : Int32) (Q : Int32 → St → Prop) (h : wp_m_teach S x1 x2 x3 Q) : Mi G yX8_teach (ws_ yX8_teach cX8_teach 5 (some .int)) rm_m_teach (wM G A S) [.ref (A 0), .int (x1), .int (x2), .int (x3)] (wM G A) Q := by
  refine ent_Mi (by decide +kernel) rfl (Nat.le_of_ble_eq_true rfl) [(0, .ref (A 0)), (1, .int (x1)), (2, .int (x2)), (3, .int (x3))] rfl (fun K B C M N => ?_)
  refine y_aload_n C dX8_teach_0 0 rfl rfl ?_
  refine y_iconst C dX8_teach_1 ic_0 ?_
  refine yp_X8_80_wM0 C M dX8_teach_2 ?_
  refine y_aload_n C dX8_teach_5 0 rfl rfl ?_
  refine y_iload_n C dX8_teach_6 1 rfl rfl ?_
  refine y_callRiV (As := [.int (x1)]) (rest := []) C cs_X8_261 (met_m_isSide G A (sI S 0 0 0) (x1) _ (h)) (fun _ h => h) (wM_0 ..) rfl rfl ⟨rfl, rfl, Nat.le_of_ble_eq_true rfl, Nat.le_of_ble_eq_true rfl⟩ rfl rfl (Nat.le_of_ble_eq_true rfl) dX8_teach_7 ⟨Nat.zero_le _, Nat.zero_le _⟩ (fun r_1 h_2 => ?_)
  refine y_if_eq C (tgt := 38) dX8_teach_10 rfl (fun c_4 => ?_) (fun c_4 => ?_)
  · have h_5 := (h_2).1 c_4
    refine y_bipush C dX8_teach_38 bpm2 ?_
    exact y_iretM C M N rfl (S := (sI S 0 0 0)) rfl (h_5) dX8_teach_40
  · have h_6 := (h_2).2 c_4
    refine y_iload_n C dX8_teach_13 2 rfl rfl ?_
    refine y_i2l C dX8_teach_14 rfl ?_
    refine y_lconst C dX8_teach_15 lc_0 ?_
    refine y_aload_n C dX8_teach_16 0 rfl rfl ?_
    refine y_iload_n C dX8_teach_17 1 rfl rfl ?_
    refine y_callRiV (As := [.int (x1)]) (rest := [.long (0), .long ((x2).toInt64)]) C cs_X8_264 (met_m_lengthOf G A (sI S 0 0 0) (x1) _ (h_6)) (fun _ h => h) (wM_0 ..) rfl rfl ⟨rfl, rfl, Nat.le_of_ble_eq_true rfl, Nat.le_of_ble_eq_true rfl⟩ rfl rfl (Nat.le_of_ble_eq_true rfl) dX8_teach_18 ⟨Nat.zero_le _, Nat.zero_le _⟩ (fun r_7 h_8 => ?_)
    refine y_iconst C dX8_teach_21 ic_1 ?_
    refine y_isub C dX8_teach_22 ?_
    refine y_i2l C dX8_teach_23 rfl ?_
    refine y_callRiS (As := [.long ((x2).toInt64), .long (0), .long (((r_7 - 1)).toInt64)]) (rest := []) C cs_X8_85 (met_m_in G ((x2).toInt64) (0) (((r_7 - 1)).toInt64) _ (h_8)) (fun _ _ => pw_nil) ⟨rfl, rfl, Nat.le_of_ble_eq_true rfl, Nat.le_of_ble_eq_true rfl⟩ rfl rfl (Nat.le_of_ble_eq_true rfl) dX8_teach_24 ⟨Nat.zero_le _, Nat.zero_le _⟩ (fun r_10 h_11 => ?_)
    refine y_if_eq C (tgt := 38) dX8_teach_27 rfl (fun c_13 => ?_) (fun c_13 => ?_)
    · have h_14 := (h_11).1 c_13
      refine y_bipush C dX8_teach_38 bpm2 ?_
      exact y_iretM C M N rfl (S := (sI S 0 0 0)) rfl (h_14) dX8_teach_40
    · have h_15 := (h_11).2 c_13
      refine y_iload_n C dX8_teach_30 3 rfl rfl ?_
      refine y_i2l C dX8_teach_31 rfl ?_
      refine y_callRiS (As := [.long ((x3).toInt64)]) (rest := []) C cs_X8_267 (met_m_isStep G ((x3).toInt64) _ (h_15)) (fun _ _ => pw_nil) ⟨rfl, rfl, Nat.le_of_ble_eq_true rfl, Nat.le_of_ble_eq_true rfl⟩ rfl rfl (Nat.le_of_ble_eq_true rfl) dX8_teach_32 ⟨Nat.zero_le _, Nat.zero_le _⟩ (fun r_16 h_17 => ?_)
      refine y_if_ne C (tgt := 41) dX8_teach_35 rfl (fun c_19 => ?_) (fun c_19 => ?_)
      · have h_20 := (h_17).1 c_19
        refine y_aload_n C dX8_teach_41 0 rfl rfl ?_
        refine yg_X8_34_wM0 C dX8_teach_42 ?_
        refine y_bipush C dX8_teach_45 bp_10 ?_
        refine y_iald C (wM_7 ..) tn_10 vi_10_55 dX8_teach_47 ?_
        refine y_bipush C dX8_teach_48 bp_40 ?_
        refine y_icmp_ne C (tgt := 56) dX8_teach_50 rfl (fun c_21 => ?_) (fun c_21 => ?_)
        · have h_22 := (h_20).1 c_21
          refine y_aload_n C dX8_teach_56 0 rfl rfl ?_
          refine yg_X8_37_wM0 C dX8_teach_57 ?_
          refine y_bipush C dX8_teach_60 bp_12 ?_
          refine y_iload_n C dX8_teach_62 1 rfl rfl ?_
          refine y_imul C dX8_teach_63 ?_
          refine y_iload_n C dX8_teach_64 2 rfl rfl ?_
          refine y_iadd C dX8_teach_65 ?_
          refine y_iald C (wM_8 ..) rfl (h_22).1 dX8_teach_66 ?_
          refine y_istore C dX8_teach_67 (Nat.le_of_ble_eq_true rfl) [(4, .int (((sI S 0 0 0).1 8 (((12 * x1) + x2)).toNatClampNeg))), (0, .ref (A 0)), (1, .int (x1)), (2, .int (x2)), (3, .int (x3))] rfl ?_
          refine y_aload_n C dX8_teach_69 1 rfl rfl ?_
          refine y_iconst C dX8_teach_70 ic_2 ?_
          refine y_iload_n C dX8_teach_71 2 rfl rfl ?_
          refine y_iload_n C dX8_teach_72 3 rfl rfl ?_
          refine y_iload C dX8_teach_73 0 rfl ?_
          refine y_callMvV (k' := 0) (n' := 0) (As := [.int (2), .int (x1), .int (x2), .int (((sI S 0 0 0).1 8 (((12 * x1) + x2)).toNatClampNeg))]) (rest := []) C M cs_X8_473 (met_m_changes G A (sI S 0 0 0) (2) (x1) (x2) (((sI S 0 0 0).1 8 (((12 * x1) + x2)).toNatClampNeg)) _ ((h_22).2)) (wM_0 ..) rfl rfl ⟨rfl, rfl, Nat.le_of_ble_eq_true rfl, Nat.le_of_ble_eq_true rfl⟩ rfl rfl (Nat.le_of_ble_eq_true rfl) dX8_teach_75 ⟨Nat.zero_le _, Nat.zero_le _⟩ rfl rfl (fun S_25 h_24 => ?_)
          refine y_aload_n C dX8_teach_78 1 rfl rfl ?_
          refine yg_X8_37_wM0 C dX8_teach_79 ?_
          refine y_bipush C dX8_teach_82 bp_12 ?_
          refine y_iload_n C dX8_teach_84 2 rfl rfl ?_
          refine y_imul C dX8_teach_85 ?_
          refine y_iload_n C dX8_teach_86 3 rfl rfl ?_
          refine y_iadd C dX8_teach_87 ?_
          refine y_iload_n C dX8_teach_88 4 rfl rfl ?_
          refine y_iast C M (wM_8 ..) rfl (wM_s8 ..) (h_24).1 dX8_teach_89 ?_
          refine y_iload C dX8_teach_90 0 rfl ?_
          exact y_iretM C M N rfl (S := (sI S_25 8 (((12 * x1) + x2)).toNatClampNeg x3)) rfl ((h_24).2) dX8_teach_92
        · have h_26 := (h_20).2 c_21
          refine y_bipush C dX8_teach_53 bpm5 ?_
          exact y_iretM C M N rfl (S := (sI S 0 0 0)) rfl (h_26) dX8_teach_55
      · have h_27 := (h_17).2 c_19
        refine y_bipush C dX8_teach_38 bpm2 ?_
        exact y_iretM C M N rfl (S := (sI S 0 0 0)) rfl (h_27) dX8_teach_40
/-! OverHillModel undo()I: m_undo -/
abbrev rm_m_undo : Room := { frames := 2, cells := 0, slots := 0, locals := 60 }
def wp_m_undo (S : St) (Q : Int32 → St → Prop) : Prop :=
  wp_m_isDance (sI S 0 0 0) (fun r_1 => ((¬ r_1 = 0 → ((¬ ((sI S 0 0 0).1 7 10) = 0 → (vp_in (4 * ((sI (sI S 0 0 0) 7 10 (((sI S 0 0 0).1 7 10) - 1)).1 7 10)) 800 ∧ ((¬ ((sI (sI S 0 0 0) 7 10 (((sI S 0 0 0).1 7 10) - 1)).1 14 ((4 * ((sI (sI S 0 0 0) 7 10 (((sI S 0 0 0).1 7 10) - 1)).1 7 10))).toNatClampNeg) = 0 → (vp_in (4 * ((sI (sI S 0 0 0) 7 10 (((sI S 0 0 0).1 7 10) - 1)).1 7 10)) 800 ∧ ((¬ ((sI (sI S 0 0 0) 7 10 (((sI S 0 0 0).1 7 10) - 1)).1 14 ((4 * ((sI (sI S 0 0 0) 7 10 (((sI S 0 0 0).1 7 10) - 1)).1 7 10))).toNatClampNeg) = 1 → (vp_in ((4 * ((sI (sI S 0 0 0) 7 10 (((sI S 0 0 0).1 7 10) - 1)).1 7 10)) + 1) 800 ∧ (vp_in ((4 * ((sI (sI S 0 0 0) 7 10 (((sI S 0 0 0).1 7 10) - 1)).1 7 10)) + 2) 800 ∧ (vp_in ((4 * ((sI (sI S 0 0 0) 7 10 (((sI S 0 0 0).1 7 10) - 1)).1 7 10)) + 3) 800 ∧ (vp_in ((12 * ((sI (sI S 0 0 0) 7 10 (((sI S 0 0 0).1 7 10) - 1)).1 14 (((4 * ((sI (sI S 0 0 0) 7 10 (((sI S 0 0 0).1 7 10) - 1)).1 7 10)) + 1)).toNatClampNeg)) + ((sI (sI S 0 0 0) 7 10 (((sI S 0 0 0).1 7 10) - 1)).1 14 (((4 * ((sI (sI S 0 0 0) 7 10 (((sI S 0 0 0).1 7 10) - 1)).1 7 10)) + 2)).toNatClampNeg)) 120 ∧ Q ((sI (sI (sI S 0 0 0) 7 10 (((sI S 0 0 0).1 7 10) - 1)) 8 (((12 * ((sI (sI S 0 0 0) 7 10 (((sI S 0 0 0).1 7 10) - 1)).1 14 (((4 * ((sI (sI S 0 0 0) 7 10 (((sI S 0 0 0).1 7 10) - 1)).1 7 10)) + 1)).toNatClampNeg)) + ((sI (sI S 0 0 0) 7 10 (((sI S 0 0 0).1 7 10) - 1)).1 14 (((4 * ((sI (sI S 0 0 0) 7 10 (((sI S 0 0 0).1 7 10) - 1)).1 7 10)) + 2)).toNatClampNeg))).toNatClampNeg ((sI (sI S 0 0 0) 7 10 (((sI S 0 0 0).1 7 10) - 1)).1 14 (((4 * ((sI (sI S 0 0 0) 7 10 (((sI S 0 0 0).1 7 10) - 1)).1 7 10)) + 3)).toNatClampNeg)).1 7 10) (sI (sI (sI S 0 0 0) 7 10 (((sI S 0 0 0).1 7 10) - 1)) 8 (((12 * ((sI (sI S 0 0 0) 7 10 (((sI S 0 0 0).1 7 10) - 1)).1 14 (((4 * ((sI (sI S 0 0 0) 7 10 (((sI S 0 0 0).1 7 10) - 1)).1 7 10)) + 1)).toNatClampNeg)) + ((sI (sI S 0 0 0) 7 10 (((sI S 0 0 0).1 7 10) - 1)).1 14 (((4 * ((sI (sI S 0 0 0) 7 10 (((sI S 0 0 0).1 7 10) - 1)).1 7 10)) + 2)).toNatClampNeg))).toNatClampNeg ((sI (sI S 0 0 0) 7 10 (((sI S 0 0 0).1 7 10) - 1)).1 14 (((4 * ((sI (sI S 0 0 0) 7 10 (((sI S 0 0 0).1 7 10) - 1)).1 7 10)) + 3)).toNatClampNeg))))))) ∧ (((sI (sI S 0 0 0) 7 10 (((sI S 0 0 0).1 7 10) - 1)).1 14 ((4 * ((sI (sI S 0 0 0) 7 10 (((sI S 0 0 0).1 7 10) - 1)).1 7 10))).toNatClampNeg) = 1 → (vp_in ((4 * ((sI (sI S 0 0 0) 7 10 (((sI S 0 0 0).1 7 10) - 1)).1 7 10)) + 2) 800 ∧ (vp_in ((4 * ((sI (sI S 0 0 0) 7 10 (((sI S 0 0 0).1 7 10) - 1)).1 7 10)) + 3) 800 ∧ ((¬ ((sI (sI S 0 0 0) 7 10 (((sI S 0 0 0).1 7 10) - 1)).1 14 (((4 * ((sI (sI S 0 0 0) 7 10 (((sI S 0 0 0).1 7 10) - 1)).1 7 10)) + 3)).toNatClampNeg) = 1 → (vp_in ((sI (sI S 0 0 0) 7 10 (((sI S 0 0 0).1 7 10) - 1)).1 14 (((4 * ((sI (sI S 0 0 0) 7 10 (((sI S 0 0 0).1 7 10) - 1)).1 7 10)) + 2)).toNatClampNeg) 1000 ∧ Q ((sI (sI (sI S 0 0 0) 7 10 (((sI S 0 0 0).1 7 10) - 1)) 11 (((sI (sI S 0 0 0) 7 10 (((sI S 0 0 0).1 7 10) - 1)).1 14 (((4 * ((sI (sI S 0 0 0) 7 10 (((sI S 0 0 0).1 7 10) - 1)).1 7 10)) + 2)).toNatClampNeg)).toNatClampNeg (vp_nar .boolean 0)).1 7 10) (sI (sI (sI S 0 0 0) 7 10 (((sI S 0 0 0).1 7 10) - 1)) 11 (((sI (sI S 0 0 0) 7 10 (((sI S 0 0 0).1 7 10) - 1)).1 14 (((4 * ((sI (sI S 0 0 0) 7 10 (((sI S 0 0 0).1 7 10) - 1)).1 7 10)) + 2)).toNatClampNeg)).toNatClampNeg (vp_nar .boolean 0)))) ∧ (((sI (sI S 0 0 0) 7 10 (((sI S 0 0 0).1 7 10) - 1)).1 14 (((4 * ((sI (sI S 0 0 0) 7 10 (((sI S 0 0 0).1 7 10) - 1)).1 7 10)) + 3)).toNatClampNeg) = 1 → (vp_in ((sI (sI S 0 0 0) 7 10 (((sI S 0 0 0).1 7 10) - 1)).1 14 (((4 * ((sI (sI S 0 0 0) 7 10 (((sI S 0 0 0).1 7 10) - 1)).1 7 10)) + 2)).toNatClampNeg) 1000 ∧ Q ((sI (sI (sI S 0 0 0) 7 10 (((sI S 0 0 0).1 7 10) - 1)) 11 (((sI (sI S 0 0 0) 7 10 (((sI S 0 0 0).1 7 10) - 1)).1 14 (((4 * ((sI (sI S 0 0 0) 7 10 (((sI S 0 0 0).1 7 10) - 1)).1 7 10)) + 2)).toNatClampNeg)).toNatClampNeg (vp_nar .boolean 1)).1 7 10) (sI (sI (sI S 0 0 0) 7 10 (((sI S 0 0 0).1 7 10) - 1)) 11 (((sI (sI S 0 0 0) 7 10 (((sI S 0 0 0).1 7 10) - 1)).1 14 (((4 * ((sI (sI S 0 0 0) 7 10 (((sI S 0 0 0).1 7 10) - 1)).1 7 10)) + 2)).toNatClampNeg)).toNatClampNeg (vp_nar .boolean 1))))))))))) ∧ (((sI (sI S 0 0 0) 7 10 (((sI S 0 0 0).1 7 10) - 1)).1 14 ((4 * ((sI (sI S 0 0 0) 7 10 (((sI S 0 0 0).1 7 10) - 1)).1 7 10))).toNatClampNeg) = 0 → Q ((sI (sI (sI S 0 0 0) 7 10 (((sI S 0 0 0).1 7 10) - 1)) 7 7 (((sI (sI S 0 0 0) 7 10 (((sI S 0 0 0).1 7 10) - 1)).1 7 7) - 1)).1 7 10) (sI (sI (sI S 0 0 0) 7 10 (((sI S 0 0 0).1 7 10) - 1)) 7 7 (((sI (sI S 0 0 0) 7 10 (((sI S 0 0 0).1 7 10) - 1)).1 7 7) - 1)))))) ∧ (((sI S 0 0 0).1 7 10) = 0 → Q (-5) (sI S 0 0 0)))) ∧ (r_1 = 0 → Q (-2) (sI S 0 0 0))))
set_option maxRecDepth 100000 in
theorem met_m_undo (G : Gx) (A : Nat → Nat) (S : St) (Q : Int32 → St → Prop) (h : wp_m_undo S Q) : Mi G yX8_undo (ws_ yX8_undo cX8_undo 2 (some .int)) rm_m_undo (wM G A S) [.ref (A 0)] (wM G A) Q := by
  refine ent_Mi (by decide +kernel) rfl (Nat.le_of_ble_eq_true rfl) [(0, .ref (A 0))] rfl (fun K B C M N => ?_)
  refine y_aload_n C dX8_undo_0 0 rfl rfl ?_
  refine y_iconst C dX8_undo_1 ic_0 ?_
  refine yp_X8_80_wM0 C M dX8_undo_2 ?_
  refine y_aload_n C dX8_undo_5 0 rfl rfl ?_
  refine y_callRiV (As := []) (rest := []) C cs_X8_254 (met_m_isDance G A (sI S 0 0 0) _ (h)) (fun _ h => h) (wM_0 ..) rfl rfl ⟨rfl, rfl, Nat.le_of_ble_eq_true rfl, Nat.le_of_ble_eq_true rfl⟩ rfl rfl (Nat.le_of_ble_eq_true rfl) dX8_undo_6 ⟨Nat.zero_le _, Nat.zero_le _⟩ (fun r_1 h_2 => ?_)
  refine y_if_ne C (tgt := 15) dX8_undo_9 rfl (fun c_4 => ?_) (fun c_4 => ?_)
  · have h_5 := (h_2).1 c_4
    refine y_aload_n C dX8_undo_15 0 rfl rfl ?_
    refine yg_X8_34_wM0 C dX8_undo_16 ?_
    refine y_bipush C dX8_undo_19 bp_10 ?_
    refine y_iald C (wM_7 ..) tn_10 vi_10_55 dX8_undo_21 ?_
    refine y_if_ne C (tgt := 28) dX8_undo_22 rfl (fun c_6 => ?_) (fun c_6 => ?_)
    · have h_7 := (h_5).1 c_6
      refine y_aload_n C dX8_undo_28 0 rfl rfl ?_
      refine yg_X8_34_wM0 C dX8_undo_29 ?_
      refine y_bipush C dX8_undo_32 bp_10 ?_
      refine y_dup2 C dX8_undo_34 rfl rfl ?_
      refine y_iald C (wM_7 ..) tn_10 vi_10_55 dX8_undo_35 ?_
      refine y_iconst C dX8_undo_36 ic_1 ?_
      refine y_isub C dX8_undo_37 ?_
      refine y_iast C M (wM_7 ..) tn_10 (wM_s7 ..) vi_10_55 dX8_undo_38 ?_
      refine y_iconst C dX8_undo_39 ic_4 ?_
      refine y_aload_n C dX8_undo_40 0 rfl rfl ?_
      refine yg_X8_34_wM0 C dX8_undo_41 ?_
      refine y_bipush C dX8_undo_44 bp_10 ?_
      refine y_iald C (wM_7 ..) tn_10 vi_10_55 dX8_undo_46 ?_
      refine y_imul C dX8_undo_47 ?_
      refine y_istore_n C dX8_undo_48 rfl (Nat.le_of_ble_eq_true rfl) [(1, .int ((4 * ((sI (sI S 0 0 0) 7 10 (((sI S 0 0 0).1 7 10) - 1)).1 7 10)))), (0, .ref (A 0))] rfl ?_
      refine y_aload_n C dX8_undo_49 1 rfl rfl ?_
      refine yg_X8_56_wM0 C dX8_undo_50 ?_
      refine y_iload_n C dX8_undo_53 0 rfl rfl ?_
      refine y_iald C (wM_14 ..) rfl (h_7).1 dX8_undo_54 ?_
      refine y_if_ne C (tgt := 72) dX8_undo_55 rfl (fun c_8 => ?_) (fun c_8 => ?_)
      · have h_9 := ((h_7).2).1 c_8
        refine y_aload_n C dX8_undo_72 1 rfl rfl ?_
        refine yg_X8_56_wM0 C dX8_undo_73 ?_
        refine y_iload_n C dX8_undo_76 0 rfl rfl ?_
        refine y_iald C (wM_14 ..) rfl (h_9).1 dX8_undo_77 ?_
        refine y_iconst C dX8_undo_78 ic_1 ?_
        refine y_icmp_ne C (tgt := 115) dX8_undo_79 rfl (fun c_10 => ?_) (fun c_10 => ?_)
        · have h_11 := ((h_9).2).1 c_10
          refine y_aload_n C dX8_undo_115 1 rfl rfl ?_
          refine yg_X8_37_wM0 C dX8_undo_116 ?_
          refine y_bipush C dX8_undo_119 bp_12 ?_
          refine y_aload_n C dX8_undo_121 1 rfl rfl ?_
          refine yg_X8_56_wM0 C dX8_undo_122 ?_
          refine y_iload_n C dX8_undo_125 0 rfl rfl ?_
          refine y_iconst C dX8_undo_126 ic_1 ?_
          refine y_iadd C dX8_undo_127 ?_
          refine y_iald C (wM_14 ..) rfl (h_11).1 dX8_undo_128 ?_
          refine y_imul C dX8_undo_129 ?_
          refine y_aload_n C dX8_undo_130 1 rfl rfl ?_
          refine yg_X8_56_wM0 C dX8_undo_131 ?_
          refine y_iload_n C dX8_undo_134 0 rfl rfl ?_
          refine y_iconst C dX8_undo_135 ic_2 ?_
          refine y_iadd C dX8_undo_136 ?_
          refine y_iald C (wM_14 ..) rfl ((h_11).2).1 dX8_undo_137 ?_
          refine y_iadd C dX8_undo_138 ?_
          refine y_aload_n C dX8_undo_139 1 rfl rfl ?_
          refine yg_X8_56_wM0 C dX8_undo_140 ?_
          refine y_iload_n C dX8_undo_143 0 rfl rfl ?_
          refine y_iconst C dX8_undo_144 ic_3 ?_
          refine y_iadd C dX8_undo_145 ?_
          refine y_iald C (wM_14 ..) rfl (((h_11).2).2).1 dX8_undo_146 ?_
          refine y_iast C M (wM_8 ..) rfl (wM_s8 ..) ((((h_11).2).2).2).1 dX8_undo_147 ?_
          refine y_aload_n C dX8_undo_148 1 rfl rfl ?_
          refine yg_X8_34_wM0 C dX8_undo_149 ?_
          refine y_bipush C dX8_undo_152 bp_10 ?_
          refine y_iald C (wM_7 ..) tn_10 vi_10_55 dX8_undo_154 ?_
          exact y_iretM C M N rfl (S := (sI (sI (sI S 0 0 0) 7 10 (((sI S 0 0 0).1 7 10) - 1)) 8 (((12 * ((sI (sI S 0 0 0) 7 10 (((sI S 0 0 0).1 7 10) - 1)).1 14 (((4 * ((sI (sI S 0 0 0) 7 10 (((sI S 0 0 0).1 7 10) - 1)).1 7 10)) + 1)).toNatClampNeg)) + ((sI (sI S 0 0 0) 7 10 (((sI S 0 0 0).1 7 10) - 1)).1 14 (((4 * ((sI (sI S 0 0 0) 7 10 (((sI S 0 0 0).1 7 10) - 1)).1 7 10)) + 2)).toNatClampNeg))).toNatClampNeg ((sI (sI S 0 0 0) 7 10 (((sI S 0 0 0).1 7 10) - 1)).1 14 (((4 * ((sI (sI S 0 0 0) 7 10 (((sI S 0 0 0).1 7 10) - 1)).1 7 10)) + 3)).toNatClampNeg))) rfl (((((h_11).2).2).2).2) dX8_undo_155
        · have h_12 := ((h_9).2).2 c_10
          refine y_aload_n C dX8_undo_82 1 rfl rfl ?_
          refine yg_X8_46_wM0 C dX8_undo_83 ?_
          refine y_aload_n C dX8_undo_86 1 rfl rfl ?_
          refine yg_X8_56_wM0 C dX8_undo_87 ?_
          refine y_iload_n C dX8_undo_90 0 rfl rfl ?_
          refine y_iconst C dX8_undo_91 ic_2 ?_
          refine y_iadd C dX8_undo_92 ?_
          refine y_iald C (wM_14 ..) rfl (h_12).1 dX8_undo_93 ?_
          refine y_aload_n C dX8_undo_94 1 rfl rfl ?_
          refine yg_X8_56_wM0 C dX8_undo_95 ?_
          refine y_iload_n C dX8_undo_98 0 rfl rfl ?_
          refine y_iconst C dX8_undo_99 ic_3 ?_
          refine y_iadd C dX8_undo_100 ?_
          refine y_iald C (wM_14 ..) rfl ((h_12).2).1 dX8_undo_101 ?_
          refine y_iconst C dX8_undo_102 ic_1 ?_
          refine y_icmp_ne C (tgt := 110) dX8_undo_103 rfl (fun c_13 => ?_) (fun c_13 => ?_)
          · have h_14 := (((h_12).2).2).1 c_13
            refine y_iconst C dX8_undo_110 ic_0 ?_
            refine y_zast C M (wM_11 ..) rfl (wM_s11 ..) (h_14).1 dX8_undo_111 ?_
            refine y_goto C (tgt := 148) dX8_undo_112 rfl ?_
            refine y_aload_n C dX8_undo_148 1 rfl rfl ?_
            refine yg_X8_34_wM0 C dX8_undo_149 ?_
            refine y_bipush C dX8_undo_152 bp_10 ?_
            refine y_iald C (wM_7 ..) tn_10 vi_10_55 dX8_undo_154 ?_
            exact y_iretM C M N rfl (S := (sI (sI (sI S 0 0 0) 7 10 (((sI S 0 0 0).1 7 10) - 1)) 11 (((sI (sI S 0 0 0) 7 10 (((sI S 0 0 0).1 7 10) - 1)).1 14 (((4 * ((sI (sI S 0 0 0) 7 10 (((sI S 0 0 0).1 7 10) - 1)).1 7 10)) + 2)).toNatClampNeg)).toNatClampNeg (vp_nar .boolean 0))) rfl ((h_14).2) dX8_undo_155
          · have h_15 := (((h_12).2).2).2 c_13
            refine y_iconst C dX8_undo_106 ic_1 ?_
            refine y_goto C (tgt := 111) dX8_undo_107 rfl ?_
            refine y_zast C M (wM_11 ..) rfl (wM_s11 ..) (h_15).1 dX8_undo_111 ?_
            refine y_goto C (tgt := 148) dX8_undo_112 rfl ?_
            refine y_aload_n C dX8_undo_148 1 rfl rfl ?_
            refine yg_X8_34_wM0 C dX8_undo_149 ?_
            refine y_bipush C dX8_undo_152 bp_10 ?_
            refine y_iald C (wM_7 ..) tn_10 vi_10_55 dX8_undo_154 ?_
            exact y_iretM C M N rfl (S := (sI (sI (sI S 0 0 0) 7 10 (((sI S 0 0 0).1 7 10) - 1)) 11 (((sI (sI S 0 0 0) 7 10 (((sI S 0 0 0).1 7 10) - 1)).1 14 (((4 * ((sI (sI S 0 0 0) 7 10 (((sI S 0 0 0).1 7 10) - 1)).1 7 10)) + 2)).toNatClampNeg)).toNatClampNeg (vp_nar .boolean 1))) rfl ((h_15).2) dX8_undo_155
      · have h_16 := ((h_7).2).2 c_8
        refine y_aload_n C dX8_undo_58 1 rfl rfl ?_
        refine yg_X8_34_wM0 C dX8_undo_59 ?_
        refine y_bipush C dX8_undo_62 bp_7 ?_
        refine y_dup2 C dX8_undo_64 rfl rfl ?_
        refine y_iald C (wM_7 ..) tn_7 vi_7_55 dX8_undo_65 ?_
        refine y_iconst C dX8_undo_66 ic_1 ?_
        refine y_isub C dX8_undo_67 ?_
        refine y_iast C M (wM_7 ..) tn_7 (wM_s7 ..) vi_7_55 dX8_undo_68 ?_
        refine y_goto C (tgt := 148) dX8_undo_69 rfl ?_
        refine y_aload_n C dX8_undo_148 1 rfl rfl ?_
        refine yg_X8_34_wM0 C dX8_undo_149 ?_
        refine y_bipush C dX8_undo_152 bp_10 ?_
        refine y_iald C (wM_7 ..) tn_10 vi_10_55 dX8_undo_154 ?_
        exact y_iretM C M N rfl (S := (sI (sI (sI S 0 0 0) 7 10 (((sI S 0 0 0).1 7 10) - 1)) 7 7 (((sI (sI S 0 0 0) 7 10 (((sI S 0 0 0).1 7 10) - 1)).1 7 7) - 1))) rfl (h_16) dX8_undo_155
    · have h_17 := (h_5).2 c_6
      refine y_bipush C dX8_undo_25 bpm5 ?_
      exact y_iretM C M N rfl (S := (sI S 0 0 0)) rfl (h_17) dX8_undo_27
  · have h_18 := (h_2).2 c_4
    refine y_bipush C dX8_undo_12 bpm2 ?_
    exact y_iretM C M N rfl (S := (sI S 0 0 0)) rfl (h_18) dX8_undo_14
/-! OverHillModel count(I)I: m_count -/
abbrev rm_m_count : Room := { frames := 2, cells := 0, slots := 0, locals := 61 }
def wp_m_count_b189 (Q : Int32 → St → Prop) : Nat → St → Int32 → Int32 → Prop
  | 0 => fun _ _ _ => False
  | n + 1 => fun S x2 x3 => ((4 ≤ x3 → Q x2 S) ∧ (¬ 4 ≤ x3 → (vp_in x3 4 ∧ ((¬ (S.1 1 (x3).toNatClampNeg) = (-1) → wp_m_count_b189 Q n S ((x2 + 1)) ((x3 + 1))) ∧ ((S.1 1 (x3).toNatClampNeg) = (-1) → wp_m_count_b189 Q n S ((x2 + 0)) ((x3 + 1)))))))
def wp_m_count_b119 (Q : Int32 → St → Prop) : Nat → St → Int32 → Int32 → Prop
  | 0 => fun _ _ _ => False
  | n + 1 => fun S x2 x3 => ((200 ≤ x3 → Q x2 S) ∧ (¬ 200 ≤ x3 → (vp_in x3 1000 ∧ (((S.1 11 (x3).toNatClampNeg) = 0 → wp_m_count_b119 Q n S ((x2 + 0)) ((x3 + 1))) ∧ (¬ (S.1 11 (x3).toNatClampNeg) = 0 → wp_m_count_b119 Q n S ((x2 + 1)) ((x3 + 1)))))))
def wp_m_count (S : St) (x1 : Int32) (Q : Int32 → St → Prop) : Prop :=
  (((x1).toInt < 0 ∨ 12 < (x1).toInt → Q (-1) (sI S 0 0 0)) ∧ (x1 = 0 → Q ((sI S 0 0 0).1 7 0) (sI S 0 0 0)) ∧ (x1 = 1 → Q ((sI S 0 0 0).1 7 1) (sI S 0 0 0)) ∧ (x1 = 2 → Q ((sI S 0 0 0).1 7 2) (sI S 0 0 0)) ∧ (x1 = 3 → wp_m_lengthOf (sI S 0 0 0) (0) (fun r_7 => Q r_7 (sI S 0 0 0))) ∧ (x1 = 4 → wp_m_lengthOf (sI S 0 0 0) (1) (fun r_11 => Q r_11 (sI S 0 0 0))) ∧ (x1 = 5 → Q ((sI S 0 0 0).1 7 7) (sI S 0 0 0)) ∧ (x1 = 6 → (∃ z, wp_m_count_b119 Q z (sI S 0 0 0) (0) (0))) ∧ (x1 = 7 → Q ((sI S 0 0 0).1 7 8) (sI S 0 0 0)) ∧ (x1 = 8 → Q ((sI S 0 0 0).1 7 9) (sI S 0 0 0)) ∧ (x1 = 9 → Q ((sI S 0 0 0).1 7 10) (sI S 0 0 0)) ∧ (x1 = 10 → Q ((sI S 0 0 0).1 6 0) (sI S 0 0 0)) ∧ (x1 = 11 → Q ((sI S 0 0 0).1 0 6) (sI S 0 0 0)) ∧ (x1 = 12 → (∃ z, wp_m_count_b189 Q z (sI S 0 0 0) (0) (0))))
set_option maxRecDepth 100000 in
theorem wk_m_count_b189 {G : Gx} {K : Kx} {A : Nat → Nat} (C : KOk G K RX8 cX8_count rm_m_count 4 (some .int)) {B : Nat → Prop} (M : KM G K B) {Q : Int32 → St → Prop} (N : KQi G K B (wM G A) Q) : ∀ (n : Nat), ∀ (S : St) (x2 : Int32) (x3 : Int32), wp_m_count_b189 Q n S x2 x3 → Y G K 0 0 (wM G A S) 189 [(0, .ref (A 0)), (2, .int (x2)), (3, .int (x3))] [] := by
  intro n
  induction n with
  | zero => intro S x2 x3 h; exact h.elim
  | succ n ih =>
    intro S x2 x3 h
    dsimp only [wp_m_count_b189] at h
    refine y_iload_n C dX8_count_189 2 rfl rfl ?_
    refine y_iconst C dX8_count_190 ic_4 ?_
    refine y_icmp_ge C (tgt := 218) dX8_count_191 rfl (fun c_32 => ?_) (fun c_32 => ?_)
    · have h_33 := (h).1 c_32
      refine y_iload_n C dX8_count_218 1 rfl rfl ?_
      exact y_iretM C M N rfl (S := S) rfl (h_33) dX8_count_219
    · have h_34 := (h).2 c_32
      refine y_iload_n C dX8_count_194 1 rfl rfl ?_
      refine y_aload_n C dX8_count_195 0 rfl rfl ?_
      refine yg_X8_7_wM0 C dX8_count_196 ?_
      refine y_iload_n C dX8_count_199 2 rfl rfl ?_
      refine y_iald C (wM_1 ..) rfl (h_34).1 dX8_count_200 ?_
      refine y_iconst C dX8_count_201 icm1 ?_
      refine y_icmp_ne C (tgt := 209) dX8_count_202 rfl (fun c_35 => ?_) (fun c_35 => ?_)
      · have h_36 := ((h_34).2).1 c_35
        refine y_iconst C dX8_count_209 ic_1 ?_
        refine y_iadd C dX8_count_210 ?_
        refine y_istore_n C dX8_count_211 rfl (Nat.le_of_ble_eq_true rfl) [(2, .int ((x2 + 1))), (0, .ref (A 0)), (3, .int (x3))] rfl ?_
        refine y_iinc C dX8_count_212 2 rfl (Nat.le_of_ble_eq_true rfl) (ii_1 _) [(3, .int ((x3 + 1))), (2, .int ((x2 + 1))), (0, .ref (A 0))] rfl ?_
        refine y_goto C (tgt := 189) dX8_count_215 rfl ?_
        exact Y.sub (ih S ((x2 + 1)) ((x3 + 1)) (h_36)) [2, 1, 0] rfl
      · have h_37 := ((h_34).2).2 c_35
        refine y_iconst C dX8_count_205 ic_0 ?_
        refine y_goto C (tgt := 210) dX8_count_206 rfl ?_
        refine y_iadd C dX8_count_210 ?_
        refine y_istore_n C dX8_count_211 rfl (Nat.le_of_ble_eq_true rfl) [(2, .int ((x2 + 0))), (0, .ref (A 0)), (3, .int (x3))] rfl ?_
        refine y_iinc C dX8_count_212 2 rfl (Nat.le_of_ble_eq_true rfl) (ii_1 _) [(3, .int ((x3 + 1))), (2, .int ((x2 + 0))), (0, .ref (A 0))] rfl ?_
        refine y_goto C (tgt := 189) dX8_count_215 rfl ?_
        exact Y.sub (ih S ((x2 + 0)) ((x3 + 1)) (h_37)) [2, 1, 0] rfl
set_option maxRecDepth 100000 in
theorem wk_m_count_b119 {G : Gx} {K : Kx} {A : Nat → Nat} (C : KOk G K RX8 cX8_count rm_m_count 4 (some .int)) {B : Nat → Prop} (M : KM G K B) {Q : Int32 → St → Prop} (N : KQi G K B (wM G A) Q) : ∀ (n : Nat), ∀ (S : St) (x2 : Int32) (x3 : Int32), wp_m_count_b119 Q n S x2 x3 → Y G K 0 0 (wM G A S) 119 [(0, .ref (A 0)), (2, .int (x2)), (3, .int (x3))] [] := by
  intro n
  induction n with
  | zero => intro S x2 x3 h; exact h.elim
  | succ n ih =>
    intro S x2 x3 h
    dsimp only [wp_m_count_b119] at h
    refine y_iload_n C dX8_count_119 2 rfl rfl ?_
    refine y_sipush C dX8_count_120 sp_200 ?_
    refine y_icmp_ge C (tgt := 149) dX8_count_123 rfl (fun c_26 => ?_) (fun c_26 => ?_)
    · have h_27 := (h).1 c_26
      refine y_iload_n C dX8_count_149 1 rfl rfl ?_
      exact y_iretM C M N rfl (S := S) rfl (h_27) dX8_count_150
    · have h_28 := (h).2 c_26
      refine y_iload_n C dX8_count_126 1 rfl rfl ?_
      refine y_aload_n C dX8_count_127 0 rfl rfl ?_
      refine yg_X8_46_wM0 C dX8_count_128 ?_
      refine y_iload_n C dX8_count_131 2 rfl rfl ?_
      refine y_zald C (wM_11 ..) rfl (h_28).1 dX8_count_132 ?_
      refine y_if_eq C (tgt := 140) dX8_count_133 rfl (fun c_29 => ?_) (fun c_29 => ?_)
      · have h_30 := ((h_28).2).1 c_29
        refine y_iconst C dX8_count_140 ic_0 ?_
        refine y_iadd C dX8_count_141 ?_
        refine y_istore_n C dX8_count_142 rfl (Nat.le_of_ble_eq_true rfl) [(2, .int ((x2 + 0))), (0, .ref (A 0)), (3, .int (x3))] rfl ?_
        refine y_iinc C dX8_count_143 2 rfl (Nat.le_of_ble_eq_true rfl) (ii_1 _) [(3, .int ((x3 + 1))), (2, .int ((x2 + 0))), (0, .ref (A 0))] rfl ?_
        refine y_goto C (tgt := 119) dX8_count_146 rfl ?_
        exact Y.sub (ih S ((x2 + 0)) ((x3 + 1)) (h_30)) [2, 1, 0] rfl
      · have h_31 := ((h_28).2).2 c_29
        refine y_iconst C dX8_count_136 ic_1 ?_
        refine y_goto C (tgt := 141) dX8_count_137 rfl ?_
        refine y_iadd C dX8_count_141 ?_
        refine y_istore_n C dX8_count_142 rfl (Nat.le_of_ble_eq_true rfl) [(2, .int ((x2 + 1))), (0, .ref (A 0)), (3, .int (x3))] rfl ?_
        refine y_iinc C dX8_count_143 2 rfl (Nat.le_of_ble_eq_true rfl) (ii_1 _) [(3, .int ((x3 + 1))), (2, .int ((x2 + 1))), (0, .ref (A 0))] rfl ?_
        refine y_goto C (tgt := 119) dX8_count_146 rfl ?_
        exact Y.sub (ih S ((x2 + 1)) ((x3 + 1)) (h_31)) [2, 1, 0] rfl
set_option maxRecDepth 100000 in
theorem met_m_count (G : Gx) (A : Nat → Nat) (S : St) (x1 : Int32) (Q : Int32 → St → Prop) (h : wp_m_count S x1 Q) : Mi G yX8_count (ws_ yX8_count cX8_count 4 (some .int)) rm_m_count (wM G A S) [.ref (A 0), .int (x1)] (wM G A) Q := by
  refine ent_Mi (by decide +kernel) rfl (Nat.le_of_ble_eq_true rfl) [(0, .ref (A 0)), (1, .int (x1))] rfl (fun K B C M N => ?_)
  refine y_aload_n C dX8_count_0 0 rfl rfl ?_
  refine y_iconst C dX8_count_1 ic_0 ?_
  refine yp_X8_80_wM0 C M dX8_count_2 ?_
  refine y_iconst C dX8_count_5 ic_0 ?_
  refine y_istore_n C dX8_count_6 rfl (Nat.le_of_ble_eq_true rfl) [(2, .int (0)), (0, .ref (A 0)), (1, .int (x1))] rfl ?_
  refine y_iload_n C dX8_count_7 2 rfl rfl ?_
  refine y_tsw C (lo := 0) (hi := 12) dX8_count_8 (tgt := 220) rfl (fun c_2 => ?_) (fun c_2 => ?_)
  · have h_1 := (h).1 c_2
    refine y_iconst C dX8_count_220 icm1 ?_
    exact y_iretM C M N rfl (S := (sI S 0 0 0)) rfl (h_1) dX8_count_221
  · rcases y_cases12 c_2 with c_2 | c_2 | c_2 | c_2 | c_2 | c_2 | c_2 | c_2 | c_2 | c_2 | c_2 | c_2 | c_2
    · have h_3 := ((h).2).1 c_2
      refine y_tswIn C dX8_count_8 c_2 (tgt := 76) (by decide) (by decide) rfl rfl ?_
      refine y_aload_n C dX8_count_76 1 rfl rfl ?_
      refine yg_X8_34_wM0 C dX8_count_77 ?_
      refine y_iconst C dX8_count_80 ic_0 ?_
      refine y_iald C (wM_7 ..) tn_0 vi_0_55 dX8_count_81 ?_
      exact y_iretM C M N rfl (S := (sI S 0 0 0)) rfl (h_3) dX8_count_82
    · have h_4 := (((h).2).2).1 c_2
      refine y_tswIn C dX8_count_8 c_2 (tgt := 83) (by decide) (by decide) rfl rfl ?_
      refine y_aload_n C dX8_count_83 1 rfl rfl ?_
      refine yg_X8_34_wM0 C dX8_count_84 ?_
      refine y_iconst C dX8_count_87 ic_1 ?_
      refine y_iald C (wM_7 ..) tn_1 vi_1_55 dX8_count_88 ?_
      exact y_iretM C M N rfl (S := (sI S 0 0 0)) rfl (h_4) dX8_count_89
    · have h_5 := ((((h).2).2).2).1 c_2
      refine y_tswIn C dX8_count_8 c_2 (tgt := 90) (by decide) (by decide) rfl rfl ?_
      refine y_aload_n C dX8_count_90 1 rfl rfl ?_
      refine yg_X8_34_wM0 C dX8_count_91 ?_
      refine y_iconst C dX8_count_94 ic_2 ?_
      refine y_iald C (wM_7 ..) tn_2 vi_2_55 dX8_count_95 ?_
      exact y_iretM C M N rfl (S := (sI S 0 0 0)) rfl (h_5) dX8_count_96
    · have h_6 := (((((h).2).2).2).2).1 c_2
      refine y_tswIn C dX8_count_8 c_2 (tgt := 97) (by decide) (by decide) rfl rfl ?_
      refine y_aload_n C dX8_count_97 1 rfl rfl ?_
      refine y_iconst C dX8_count_98 ic_0 ?_
      refine y_callRiV (As := [.int (0)]) (rest := []) C cs_X8_264 (met_m_lengthOf G A (sI S 0 0 0) (0) _ (h_6)) (fun _ h => h) (wM_0 ..) rfl rfl ⟨rfl, rfl, Nat.le_of_ble_eq_true rfl, Nat.le_of_ble_eq_true rfl⟩ rfl rfl (Nat.le_of_ble_eq_true rfl) dX8_count_99 ⟨Nat.zero_le _, Nat.zero_le _⟩ (fun r_7 h_8 => ?_)
      exact y_iretM C M N rfl (S := (sI S 0 0 0)) rfl (h_8) dX8_count_102
    · have h_10 := ((((((h).2).2).2).2).2).1 c_2
      refine y_tswIn C dX8_count_8 c_2 (tgt := 103) (by decide) (by decide) rfl rfl ?_
      refine y_aload_n C dX8_count_103 1 rfl rfl ?_
      refine y_iconst C dX8_count_104 ic_1 ?_
      refine y_callRiV (As := [.int (1)]) (rest := []) C cs_X8_264 (met_m_lengthOf G A (sI S 0 0 0) (1) _ (h_10)) (fun _ h => h) (wM_0 ..) rfl rfl ⟨rfl, rfl, Nat.le_of_ble_eq_true rfl, Nat.le_of_ble_eq_true rfl⟩ rfl rfl (Nat.le_of_ble_eq_true rfl) dX8_count_105 ⟨Nat.zero_le _, Nat.zero_le _⟩ (fun r_11 h_12 => ?_)
      exact y_iretM C M N rfl (S := (sI S 0 0 0)) rfl (h_12) dX8_count_108
    · have h_14 := (((((((h).2).2).2).2).2).2).1 c_2
      refine y_tswIn C dX8_count_8 c_2 (tgt := 109) (by decide) (by decide) rfl rfl ?_
      refine y_aload_n C dX8_count_109 1 rfl rfl ?_
      refine yg_X8_34_wM0 C dX8_count_110 ?_
      refine y_bipush C dX8_count_113 bp_7 ?_
      refine y_iald C (wM_7 ..) tn_7 vi_7_55 dX8_count_115 ?_
      exact y_iretM C M N rfl (S := (sI S 0 0 0)) rfl (h_14) dX8_count_116
    · have h_15 := ((((((((h).2).2).2).2).2).2).2).1 c_2
      refine y_tswIn C dX8_count_8 c_2 (tgt := 117) (by decide) (by decide) rfl rfl ?_
      refine y_iconst C dX8_count_117 ic_0 ?_
      refine y_istore_n C dX8_count_118 rfl (Nat.le_of_ble_eq_true rfl) [(3, .int (0)), (2, .int (0)), (0, .ref (A 0)), (1, .int (x1))] rfl ?_
      obtain ⟨n_16, h_17⟩ := h_15
      exact Y.sub (wk_m_count_b119 C M N n_16 (sI S 0 0 0) (0) (0) h_17) [2, 1, 0] rfl
    · have h_18 := (((((((((h).2).2).2).2).2).2).2).2).1 c_2
      refine y_tswIn C dX8_count_8 c_2 (tgt := 151) (by decide) (by decide) rfl rfl ?_
      refine y_aload_n C dX8_count_151 1 rfl rfl ?_
      refine yg_X8_34_wM0 C dX8_count_152 ?_
      refine y_bipush C dX8_count_155 bp_8 ?_
      refine y_iald C (wM_7 ..) tn_8 vi_8_55 dX8_count_157 ?_
      exact y_iretM C M N rfl (S := (sI S 0 0 0)) rfl (h_18) dX8_count_158
    · have h_19 := ((((((((((h).2).2).2).2).2).2).2).2).2).1 c_2
      refine y_tswIn C dX8_count_8 c_2 (tgt := 159) (by decide) (by decide) rfl rfl ?_
      refine y_aload_n C dX8_count_159 1 rfl rfl ?_
      refine yg_X8_34_wM0 C dX8_count_160 ?_
      refine y_bipush C dX8_count_163 bp_9 ?_
      refine y_iald C (wM_7 ..) tn_9 vi_9_55 dX8_count_165 ?_
      exact y_iretM C M N rfl (S := (sI S 0 0 0)) rfl (h_19) dX8_count_166
    · have h_20 := (((((((((((h).2).2).2).2).2).2).2).2).2).2).1 c_2
      refine y_tswIn C dX8_count_8 c_2 (tgt := 167) (by decide) (by decide) rfl rfl ?_
      refine y_aload_n C dX8_count_167 1 rfl rfl ?_
      refine yg_X8_34_wM0 C dX8_count_168 ?_
      refine y_bipush C dX8_count_171 bp_10 ?_
      refine y_iald C (wM_7 ..) tn_10 vi_10_55 dX8_count_173 ?_
      exact y_iretM C M N rfl (S := (sI S 0 0 0)) rfl (h_20) dX8_count_174
    · have h_21 := ((((((((((((h).2).2).2).2).2).2).2).2).2).2).2).1 c_2
      refine y_tswIn C dX8_count_8 c_2 (tgt := 175) (by decide) (by decide) rfl rfl ?_
      refine y_aload_n C dX8_count_175 1 rfl rfl ?_
      refine yg_X8_31_wM0 C dX8_count_176 ?_
      refine y_iconst C dX8_count_179 ic_0 ?_
      refine y_iald C (wM_6 ..) tn_0 vi_0_5 dX8_count_180 ?_
      exact y_iretM C M N rfl (S := (sI S 0 0 0)) rfl (h_21) dX8_count_181
    · have h_22 := (((((((((((((h).2).2).2).2).2).2).2).2).2).2).2).2).1 c_2
      refine y_tswIn C dX8_count_8 c_2 (tgt := 182) (by decide) (by decide) rfl rfl ?_
      refine y_aload_n C dX8_count_182 1 rfl rfl ?_
      refine yg_X8_97_wM0 C dX8_count_183 ?_
      exact y_iretM C M N rfl (S := (sI S 0 0 0)) rfl (h_22) dX8_count_186
    · have h_23 := (((((((((((((h).2).2).2).2).2).2).2).2).2).2).2).2).2 c_2
      refine y_tswIn C dX8_count_8 c_2 (tgt := 187) (by decide) (by decide) rfl rfl ?_
      refine y_iconst C dX8_count_187 ic_0 ?_
      refine y_istore_n C dX8_count_188 rfl (Nat.le_of_ble_eq_true rfl) [(3, .int (0)), (2, .int (0)), (0, .ref (A 0)), (1, .int (x1))] rfl ?_
      obtain ⟨n_24, h_25⟩ := h_23
      exact Y.sub (wk_m_count_b189 C M N n_24 (sI S 0 0 0) (0) (0) h_25) [2, 1, 0] rfl
/-! OverHillModel image(I)I: m_image -/
abbrev rm_m_image : Room := { frames := 3, cells := 0, slots := 0, locals := 87 }
def wp_m_image (S : St) (x1 : Int32) (Q : Int32 → St → Prop) : Prop :=
  wp_m_in ((x1).toInt64) (0) (2) (fun r_1 => ((¬ r_1 = 0 → wp_m_copyDance (sI S 0 0 0) (0) ((1 + x1)) (fun S_8 => (vp_in x1 3 ∧ Q 0 (sI S_8 15 (x1).toNatClampNeg (vp_nar .boolean 1))))) ∧ (r_1 = 0 → Q (-2) (sI S 0 0 0))))
set_option maxRecDepth 100000 in
theorem met_m_image (G : Gx) (A : Nat → Nat) (S : St) (x1 : Int32) (Q : Int32 → St → Prop) (h : wp_m_image S x1 Q) : Mi G yX8_image (ws_ yX8_image cX8_image 2 (some .int)) rm_m_image (wM G A S) [.ref (A 0), .int (x1)] (wM G A) Q := by
  refine ent_Mi (by decide +kernel) rfl (Nat.le_of_ble_eq_true rfl) [(0, .ref (A 0)), (1, .int (x1))] rfl (fun K B C M N => ?_)
  refine y_aload_n C dX8_image_0 0 rfl rfl ?_
  refine y_iconst C dX8_image_1 ic_0 ?_
  refine yp_X8_80_wM0 C M dX8_image_2 ?_
  refine y_iload_n C dX8_image_5 1 rfl rfl ?_
  refine y_i2l C dX8_image_6 rfl ?_
  refine y_lconst C dX8_image_7 lc_0 ?_
  refine y_ldc2 C dX8_image_8 q2286 ?_
  refine y_callRiS (As := [.long ((x1).toInt64), .long (0), .long (2)]) (rest := []) C cs_X8_85 (met_m_in G ((x1).toInt64) (0) (2) _ (h)) (fun _ _ => pw_nil) ⟨rfl, rfl, Nat.le_of_ble_eq_true rfl, Nat.le_of_ble_eq_true rfl⟩ rfl rfl (Nat.le_of_ble_eq_true rfl) dX8_image_11 ⟨Nat.zero_le _, Nat.zero_le _⟩ (fun r_1 h_2 => ?_)
  refine y_if_ne C (tgt := 20) dX8_image_14 rfl (fun c_4 => ?_) (fun c_4 => ?_)
  · have h_5 := (h_2).1 c_4
    refine y_aload_n C dX8_image_20 0 rfl rfl ?_
    refine y_iconst C dX8_image_21 ic_0 ?_
    refine y_iconst C dX8_image_22 ic_1 ?_
    refine y_iload_n C dX8_image_23 1 rfl rfl ?_
    refine y_iadd C dX8_image_24 ?_
    refine y_callMvV (k' := 0) (n' := 0) (As := [.int (0), .int ((1 + x1))]) (rest := []) C M cs_X8_247 (met_m_copyDance G A (sI S 0 0 0) (0) ((1 + x1)) _ (h_5)) (wM_0 ..) rfl rfl ⟨rfl, rfl, Nat.le_of_ble_eq_true rfl, Nat.le_of_ble_eq_true rfl⟩ rfl rfl (Nat.le_of_ble_eq_true rfl) dX8_image_25 ⟨Nat.zero_le _, Nat.zero_le _⟩ rfl rfl (fun S_8 h_7 => ?_)
    refine y_aload_n C dX8_image_28 0 rfl rfl ?_
    refine yg_X8_59_wM0 C dX8_image_29 ?_
    refine y_iload_n C dX8_image_32 1 rfl rfl ?_
    refine y_iconst C dX8_image_33 ic_1 ?_
    refine y_zast C M (wM_15 ..) rfl (wM_s15 ..) (h_7).1 dX8_image_34 ?_
    refine y_iconst C dX8_image_35 ic_0 ?_
    exact y_iretM C M N rfl (S := (sI S_8 15 (x1).toNatClampNeg (vp_nar .boolean 1))) rfl ((h_7).2) dX8_image_36
  · have h_9 := (h_2).2 c_4
    refine y_bipush C dX8_image_17 bpm2 ?_
    exact y_iretM C M N rfl (S := (sI S 0 0 0)) rfl (h_9) dX8_image_19
/-! OverHillModel back(I)I: m_back -/
abbrev rm_m_back : Room := { frames := 3, cells := 0, slots := 0, locals := 87 }
def wp_m_back (S : St) (x1 : Int32) (Q : Int32 → St → Prop) : Prop :=
  wp_m_in ((x1).toInt64) (0) (2) (fun r_1 => ((¬ r_1 = 0 → (vp_in x1 3 ∧ ((¬ ((sI S 0 0 0).1 15 (x1).toNatClampNeg) = 0 → wp_m_copyDance (sI S 0 0 0) ((1 + x1)) (0) (fun S_10 => Q 0 S_10)) ∧ (((sI S 0 0 0).1 15 (x1).toNatClampNeg) = 0 → Q (-6) (sI S 0 0 0))))) ∧ (r_1 = 0 → Q (-2) (sI S 0 0 0))))
set_option maxRecDepth 100000 in
theorem met_m_back (G : Gx) (A : Nat → Nat) (S : St) (x1 : Int32) (Q : Int32 → St → Prop) (h : wp_m_back S x1 Q) : Mi G yX8_back (ws_ yX8_back cX8_back 2 (some .int)) rm_m_back (wM G A S) [.ref (A 0), .int (x1)] (wM G A) Q := by
  refine ent_Mi (by decide +kernel) rfl (Nat.le_of_ble_eq_true rfl) [(0, .ref (A 0)), (1, .int (x1))] rfl (fun K B C M N => ?_)
  refine y_aload_n C dX8_back_0 0 rfl rfl ?_
  refine y_iconst C dX8_back_1 ic_0 ?_
  refine yp_X8_80_wM0 C M dX8_back_2 ?_
  refine y_iload_n C dX8_back_5 1 rfl rfl ?_
  refine y_i2l C dX8_back_6 rfl ?_
  refine y_lconst C dX8_back_7 lc_0 ?_
  refine y_ldc2 C dX8_back_8 q2286 ?_
  refine y_callRiS (As := [.long ((x1).toInt64), .long (0), .long (2)]) (rest := []) C cs_X8_85 (met_m_in G ((x1).toInt64) (0) (2) _ (h)) (fun _ _ => pw_nil) ⟨rfl, rfl, Nat.le_of_ble_eq_true rfl, Nat.le_of_ble_eq_true rfl⟩ rfl rfl (Nat.le_of_ble_eq_true rfl) dX8_back_11 ⟨Nat.zero_le _, Nat.zero_le _⟩ (fun r_1 h_2 => ?_)
  refine y_if_ne C (tgt := 20) dX8_back_14 rfl (fun c_4 => ?_) (fun c_4 => ?_)
  · have h_5 := (h_2).1 c_4
    refine y_aload_n C dX8_back_20 0 rfl rfl ?_
    refine yg_X8_59_wM0 C dX8_back_21 ?_
    refine y_iload_n C dX8_back_24 1 rfl rfl ?_
    refine y_zald C (wM_15 ..) rfl (h_5).1 dX8_back_25 ?_
    refine y_if_ne C (tgt := 32) dX8_back_26 rfl (fun c_6 => ?_) (fun c_6 => ?_)
    · have h_7 := ((h_5).2).1 c_6
      refine y_aload_n C dX8_back_32 0 rfl rfl ?_
      refine y_iconst C dX8_back_33 ic_1 ?_
      refine y_iload_n C dX8_back_34 1 rfl rfl ?_
      refine y_iadd C dX8_back_35 ?_
      refine y_iconst C dX8_back_36 ic_0 ?_
      refine y_callMvV (k' := 0) (n' := 0) (As := [.int ((1 + x1)), .int (0)]) (rest := []) C M cs_X8_247 (met_m_copyDance G A (sI S 0 0 0) ((1 + x1)) (0) _ (h_7)) (wM_0 ..) rfl rfl ⟨rfl, rfl, Nat.le_of_ble_eq_true rfl, Nat.le_of_ble_eq_true rfl⟩ rfl rfl (Nat.le_of_ble_eq_true rfl) dX8_back_37 ⟨Nat.zero_le _, Nat.zero_le _⟩ rfl rfl (fun S_10 h_9 => ?_)
      refine y_iconst C dX8_back_40 ic_0 ?_
      exact y_iretM C M N rfl (S := S_10) rfl (h_9) dX8_back_41
    · have h_11 := ((h_5).2).2 c_6
      refine y_bipush C dX8_back_29 bpm6 ?_
      exact y_iretM C M N rfl (S := (sI S 0 0 0)) rfl (h_11) dX8_back_31
  · have h_12 := (h_2).2 c_4
    refine y_bipush C dX8_back_17 bpm2 ?_
    exact y_iretM C M N rfl (S := (sI S 0 0 0)) rfl (h_12) dX8_back_19
