/-! printed by tools/gen.py -/
set_option maxRecDepth 100000
theorem sp_160 : (Int16.ofInt (160)).toInt32 = (160 : Int32) := by decide
theorem bp_100 : (Int8.ofInt (100)).toInt32 = (100 : Int32) := by decide
theorem vi_0_5 : vp_in 0 5 := by unfold vp_in; decide
theorem tn_0 : (0 : Int32).toNatClampNeg = 0 := by decide
theorem bpm4 : (Int8.ofInt (-4)).toInt32 = (-4 : Int32) := by decide
theorem lc_1 : Int64.ofNat ((1 : Fin 2) : Nat) = (1 : Int64) := by decide
theorem vi_7_55 : vp_in 7 55 := by unfold vp_in; decide
theorem tn_7 : (7 : Int32).toNatClampNeg = 7 := by decide
theorem sp_201 : (Int16.ofInt (201)).toInt32 = (201 : Int32) := by decide
theorem bp_99 : (Int8.ofInt (99)).toInt32 = (99 : Int32) := by decide
theorem vi_0_55 : vp_in 0 55 := by unfold vp_in; decide
theorem spm1000 : (Int16.ofInt (-1000)).toInt32 = (-1000 : Int32) := by decide
theorem vi_3_55 : vp_in 3 55 := by unfold vp_in; decide
theorem tn_3 : (3 : Int32).toNatClampNeg = 3 := by decide
theorem vi_4_55 : vp_in 4 55 := by unfold vp_in; decide
theorem vi_5_55 : vp_in 5 55 := by unfold vp_in; decide
theorem tn_5 : (5 : Int32).toNatClampNeg = 5 := by decide
theorem vi_6_55 : vp_in 6 55 := by unfold vp_in; decide
theorem tn_6 : (6 : Int32).toNatClampNeg = 6 := by decide
theorem yp_X8_159_wM0 {G : Gx} {K : Kx} {cc : ByteArray} {rm : Room} {nL : Nat} {ret : Option FieldType} {k n pc : Nat} {B : Nat → Prop} {A : Nat → Nat} {S : St} {lv : List (Nat × Value)} {st : List Value} {v : Int32} (C : KOk G K RX8 cc rm nL ret) (M : KM G K B) (hdg : decode cc pc = .ok (.putfield 159, 3)) (kk : Y G K k n (wM G A (sI S 0 14 v)) (pc + 3) lv st) : Y G K k n (wM G A S) pc lv (.int v :: .ref (A 0) :: st) := y_put C M (ref := "OverHillModel") (Cn := RX8) (T := TX8) (N := 45) in_X8 (wM_0 ..) rfl 14 (by decide) tyX8 tyX8_ok (by decide +kernel) q1580 (fun _ _ h => h) rfl (ty := .int) (by decide +kernel) rfl rfl (Nat.le_of_ble_eq_true rfl) (wM_p0_14 ..) hdg kk
theorem yg_X8_135_wM0 {G : Gx} {K : Kx} {cc : ByteArray} {rm : Room} {nL : Nat} {ret : Option FieldType} {k n pc : Nat} {A : Nat → Nat} {S : St} {lv : List (Nat × Value)} {st : List Value} (C : KOk G K RX8 cc rm nL ret) (hdg : decode cc pc = .ok (.getfield 135, 3)) (kk : Y G K k n (wM G A S) (pc + 3) lv (.int (S.1 0 13) :: st)) : Y G K k n (wM G A S) pc lv (.ref (A 0) :: st) := y_get C (ref := "OverHillModel") (Cn := RX8) (T := TX8) (N := 45) in_X8 (wM_0 ..) rfl 13 (by decide) q1579 (fun _ _ h => h) (fs_M0_f13 A S) hdg kk
theorem yp_X8_27_wM0 {G : Gx} {K : Kx} {cc : ByteArray} {rm : Room} {nL : Nat} {ret : Option FieldType} {k n pc : Nat} {B : Nat → Prop} {A : Nat → Nat} {S : St} {lv : List (Nat × Value)} {st : List Value} {v : Int32} (C : KOk G K RX8 cc rm nL ret) (M : KM G K B) (hdg : decode cc pc = .ok (.putfield 27, 3)) (kk : Y G K k n (wM G A (sI S 0 15 v)) (pc + 3) lv st) : Y G K k n (wM G A S) pc lv (.int v :: .ref (A 0) :: st) := y_put C M (ref := "OverHillModel") (Cn := RX8) (T := TX8) (N := 45) in_X8 (wM_0 ..) rfl 15 (by decide) tyX8 tyX8_ok (by decide +kernel) q1581 (fun _ _ h => h) rfl (ty := .int) (by decide +kernel) rfl rfl (Nat.le_of_ble_eq_true rfl) (wM_p0_15 ..) hdg kk
theorem yg_X8_56_wM0 {G : Gx} {K : Kx} {cc : ByteArray} {rm : Room} {nL : Nat} {ret : Option FieldType} {k n pc : Nat} {A : Nat → Nat} {S : St} {lv : List (Nat × Value)} {st : List Value} (C : KOk G K RX8 cc rm nL ret) (hdg : decode cc pc = .ok (.getfield 56, 3)) (kk : Y G K k n (wM G A S) (pc + 3) lv (.ref (A 14) :: st)) : Y G K k n (wM G A S) pc lv (.ref (A 0) :: st) := y_get C (ref := "OverHillModel") (Cn := RX8) (T := TX8) (N := 45) in_X8 (wM_0 ..) rfl 24 (by decide) q1590 (fun _ _ h => h) (fs_M0_f24 A S) hdg kk
theorem yg_X8_65_wM0 {G : Gx} {K : Kx} {cc : ByteArray} {rm : Room} {nL : Nat} {ret : Option FieldType} {k n pc : Nat} {A : Nat → Nat} {S : St} {lv : List (Nat × Value)} {st : List Value} (C : KOk G K RX8 cc rm nL ret) (hdg : decode cc pc = .ok (.getfield 65, 3)) (kk : Y G K k n (wM G A S) (pc + 3) lv (.ref (A 17) :: st)) : Y G K k n (wM G A S) pc lv (.ref (A 0) :: st) := y_get C (ref := "OverHillModel") (Cn := RX8) (T := TX8) (N := 45) in_X8 (wM_0 ..) rfl 27 (by decide) q1593 (fun _ _ h => h) (fs_M0_f27 A S) hdg kk
theorem yg_X8_68_wM0 {G : Gx} {K : Kx} {cc : ByteArray} {rm : Room} {nL : Nat} {ret : Option FieldType} {k n pc : Nat} {A : Nat → Nat} {S : St} {lv : List (Nat × Value)} {st : List Value} (C : KOk G K RX8 cc rm nL ret) (hdg : decode cc pc = .ok (.getfield 68, 3)) (kk : Y G K k n (wM G A S) (pc + 3) lv (.ref (A 18) :: st)) : Y G K k n (wM G A S) pc lv (.ref (A 0) :: st) := y_get C (ref := "OverHillModel") (Cn := RX8) (T := TX8) (N := 45) in_X8 (wM_0 ..) rfl 28 (by decide) q1594 (fun _ _ h => h) (fs_M0_f28 A S) hdg kk
theorem yp_X8_303_wM0 {G : Gx} {K : Kx} {cc : ByteArray} {rm : Room} {nL : Nat} {ret : Option FieldType} {k n pc : Nat} {B : Nat → Prop} {A : Nat → Nat} {S : St} {lv : List (Nat × Value)} {st : List Value} {v : Int32} (C : KOk G K RX8 cc rm nL ret) (M : KM G K B) (hdg : decode cc pc = .ok (.putfield 303, 3)) (kk : Y G K k n (wM G A (sI S 0 29 v)) (pc + 3) lv st) : Y G K k n (wM G A S) pc lv (.int v :: .ref (A 0) :: st) := y_put C M (ref := "OverHillModel") (Cn := RX8) (T := TX8) (N := 45) in_X8 (wM_0 ..) rfl 29 (by decide) tyX8 tyX8_ok (by decide +kernel) q1595 (fun _ _ h => h) rfl (ty := .int) (by decide +kernel) rfl rfl (Nat.le_of_ble_eq_true rfl) (wM_p0_29 ..) hdg kk
theorem yp_X8_306_wM0 {G : Gx} {K : Kx} {cc : ByteArray} {rm : Room} {nL : Nat} {ret : Option FieldType} {k n pc : Nat} {B : Nat → Prop} {A : Nat → Nat} {S : St} {lv : List (Nat × Value)} {st : List Value} {v : Int32} (C : KOk G K RX8 cc rm nL ret) (M : KM G K B) (hdg : decode cc pc = .ok (.putfield 306, 3)) (kk : Y G K k n (wM G A (sI S 0 30 v)) (pc + 3) lv st) : Y G K k n (wM G A S) pc lv (.int v :: .ref (A 0) :: st) := y_put C M (ref := "OverHillModel") (Cn := RX8) (T := TX8) (N := 45) in_X8 (wM_0 ..) rfl 30 (by decide) tyX8 tyX8_ok (by decide +kernel) q1596 (fun _ _ h => h) rfl (ty := .int) (by decide +kernel) rfl rfl (Nat.le_of_ble_eq_true rfl) (wM_p0_30 ..) hdg kk
theorem yg_X8_303_wM0 {G : Gx} {K : Kx} {cc : ByteArray} {rm : Room} {nL : Nat} {ret : Option FieldType} {k n pc : Nat} {A : Nat → Nat} {S : St} {lv : List (Nat × Value)} {st : List Value} (C : KOk G K RX8 cc rm nL ret) (hdg : decode cc pc = .ok (.getfield 303, 3)) (kk : Y G K k n (wM G A S) (pc + 3) lv (.int (S.1 0 29) :: st)) : Y G K k n (wM G A S) pc lv (.ref (A 0) :: st) := y_get C (ref := "OverHillModel") (Cn := RX8) (T := TX8) (N := 45) in_X8 (wM_0 ..) rfl 29 (by decide) q1595 (fun _ _ h => h) (fs_M0_f29 A S) hdg kk
theorem yg_X8_306_wM0 {G : Gx} {K : Kx} {cc : ByteArray} {rm : Room} {nL : Nat} {ret : Option FieldType} {k n pc : Nat} {A : Nat → Nat} {S : St} {lv : List (Nat × Value)} {st : List Value} (C : KOk G K RX8 cc rm nL ret) (hdg : decode cc pc = .ok (.getfield 306, 3)) (kk : Y G K k n (wM G A S) (pc + 3) lv (.int (S.1 0 30) :: st)) : Y G K k n (wM G A S) pc lv (.ref (A 0) :: st) := y_get C (ref := "OverHillModel") (Cn := RX8) (T := TX8) (N := 45) in_X8 (wM_0 ..) rfl 30 (by decide) q1596 (fun _ _ h => h) (fs_M0_f30 A S) hdg kk
theorem cs_X8_250 : CsS RX8 250 yX8_copyRow cX8_copyRow 5 none 4 := ⟨lw_S q1861 q1862 q150 q1863, by decide +kernel⟩
theorem cs_X8_224 : CsV RX8 224 yX8_clears cX8_clears 2 none 0 := ⟨lw_V q1744 q1746 qs72 q150 q1747, by decide +kernel⟩
theorem cs_X8_227 : CsV RX8 227 yX8_begins cX8_begins 1 none 0 := ⟨lw_V q1752 q1754 qs74 q150 q1755, by decide +kernel⟩
theorem cs_X8_238 : CsV RX8 238 yX8_line cX8_line 5 none 0 := ⟨lw_V q1801 q1803 qs84 q150 q1804, by decide +kernel⟩
theorem cs_X8_244 : CsV RX8 244 yX8_isOver cX8_isOver 1 none 0 := ⟨lw_V q1853 q1855 qs94 q150 q1856, by decide +kernel⟩
theorem cs_X8_247 : CsV RX8 247 yX8_copyDance cX8_copyDance 4 none 2 := ⟨lw_V q1857 q1859 qs95 q150 q1860, by decide +kernel⟩
theorem cs_X8_241 : CsV RX8 241 yX8_ends cX8_ends 1 none 0 := ⟨lw_V q1849 q1851 qs93 q150 q1852, by decide +kernel⟩
theorem cs_X8_254 : CsV RX8 254 yX8_isDance cX8_isDance 1 (some .boolean) 0 := ⟨lw_V q1872 q1874 qs97 q150 q1875, by decide +kernel⟩
theorem cs_X8_261 : CsV RX8 261 yX8_isSide cX8_isSide 2 (some .boolean) 1 := ⟨lw_V q1868 q1870 qs96 q150 q1871, by decide +kernel⟩
theorem cs_X8_264 : CsV RX8 264 yX8_lengthOf cX8_lengthOf 2 (some .int) 1 := ⟨lw_V q1876 q1878 qs98 q150 q1879, by decide +kernel⟩
theorem cs_X8_267 : CsS RX8 267 yX8_isStep cX8_isStep 2 (some .boolean) 1 := ⟨lw_S q1884 q1885 q150 q1886, by decide +kernel⟩
theorem cs_X8_270 : CsS RX8 270 yX8_isBeat cX8_isBeat 2 (some .boolean) 1 := ⟨lw_S q1896 q1897 q150 q1898, by decide +kernel⟩
theorem cs_X8_273 : CsV RX8 273 yX8_dances cX8_dances 13 none 5 := ⟨lw_V q1912 q1914 qs101 q150 q1915, by decide +kernel⟩
theorem cs_X8_277 : CsV RX8 277 yX8_laysBut cX8_laysBut 2 none 1 := ⟨lw_V q1908 q1910 qs100 q150 q1911, by decide +kernel⟩
theorem cs_X8_290 : CsV RX8 290 yX8_lays cX8_lays 1 none 0 := ⟨lw_V q1904 q1906 qs99 q150 q1907, by decide +kernel⟩
theorem cs_X8_284 : CsV RX8 284 yX8_hearsAt cX8_hearsAt 3 (some .int) 2 := ⟨lw_V q1924 q1926 qs102 q150 q1927, by decide +kernel⟩
theorem cs_X8_280 : CsS RX8 280 yX8_isBit cX8_isBit 2 (some .boolean) 2 := ⟨lw_S q1944 q1945 q150 q1946, by decide +kernel⟩
theorem cs_X8_287 : CsV RX8 287 yX8_clashes cX8_clashes 3 (some .boolean) 2 := ⟨lw_V q1940 q1942 qs104 q150 q1943, by decide +kernel⟩
theorem cs_X8_293 : CsV RX8 293 yX8_isHole cX8_isHole 3 (some .boolean) 2 := ⟨lw_V q1936 q1938 qs103 q150 q1939, by decide +kernel⟩
theorem cs_X8_296 : CsV RX8 296 yX8_isSpan cX8_isSpan 3 (some .boolean) 2 := ⟨lw_V q1955 q1957 qs105 q150 q1958, by decide +kernel⟩
theorem cs_X8_299 : CsV RX8 299 yX8_holesOf cX8_holesOf 6 (some .int) 3 := ⟨lw_V q1959 q1961 qs106 q150 q1962, by decide +kernel⟩
theorem cs_X8_309 : CsV RX8 309 yX8_laysRun cX8_laysRun 5 none 2 := ⟨lw_V q1967 q1969 qs107 q150 q1970, by decide +kernel⟩
theorem cs_X8_312 : CsV RX8 312 yX8_allHoles cX8_allHoles 1 (some .int) 0 := ⟨lw_V q1979 q1981 qs108 q150 q1982, by decide +kernel⟩
theorem cs_X8_315 : CsS RX8 315 yX8_common cX8_common 2 (some .int) 2 := ⟨lw_S q1999 q2000 q150 q2001, by decide +kernel⟩
theorem cs_X8_322 : CsV RX8 322 yX8_areRounds cX8_areRounds 1 (some .boolean) 0 := ⟨lw_V q1991 q1993 qs109 q150 q1994, by decide +kernel⟩
theorem cs_X8_325 : CsV RX8 325 yX8_periodOf cX8_periodOf 1 (some .int) 0 := ⟨lw_V q1995 q1997 qs110 q150 q1998, by decide +kernel⟩
theorem cs_X8_328 : CsV RX8 328 yX8_plain cX8_plain 4 (some .int) 3 := ⟨lw_V q2014 q2016 qs112 q150 q2017, by decide +kernel⟩
theorem cs_X8_331 : CsV RX8 331 yX8_shiftedOf cX8_shiftedOf 5 (some .int) 1 := ⟨lw_V q2010 q2012 qs111 q150 q2013, by decide +kernel⟩
/-! OverHillModel ends()V: m_ends -/
abbrev rm_m_ends : Room := { frames := 3, cells := 0, slots := 0, locals := 84 }
def wp_m_ends (S : St) (Q : St → Prop) : Prop :=
  (((S.1 0 8) = 3 → ((¬ (S.1 0 12) = 0 → Q S) ∧ ((S.1 0 12) = 0 → wp_m_next S (fun S_8 => Q S_8)))) ∧ (¬ (S.1 0 8) = 3 → wp_m_fails S (1) (fun S_12 => ((¬ (S_12.1 0 12) = 0 → Q S_12) ∧ ((S_12.1 0 12) = 0 → wp_m_next S_12 (fun S_18 => Q S_18))))))
set_option maxRecDepth 100000 in
theorem met_m_ends (G : Gx) (A : Nat → Nat) (S : St) (Q : St → Prop) (h : wp_m_ends S Q) : Mv G yX8_ends (ws_ yX8_ends cX8_ends 1 none) rm_m_ends (wM G A S) [.ref (A 0)] (wM G A) Q := by
  refine ent_Mv (by decide +kernel) rfl (Nat.le_of_ble_eq_true rfl) [(0, .ref (A 0))] rfl (fun K B C M N => ?_)
  refine y_aload_n C dX8_ends_0 0 rfl rfl ?_
  refine yg_X8_121_wM0 C dX8_ends_1 ?_
  refine y_iconst C dX8_ends_4 ic_3 ?_
  refine y_icmp_eq C (tgt := 13) dX8_ends_5 rfl (fun c_1 => ?_) (fun c_1 => ?_)
  · have h_2 := (h).1 c_1
    refine y_aload_n C dX8_ends_13 0 rfl rfl ?_
    refine yg_X8_132_wM0 C dX8_ends_14 ?_
    refine y_if_ne C (tgt := 24) dX8_ends_17 rfl (fun c_3 => ?_) (fun c_3 => ?_)
    · have h_4 := (h_2).1 c_3
      exact y_vretM C M N rfl (S := S) rfl (h_4) dX8_ends_24
    · have h_5 := (h_2).2 c_3
      refine y_aload_n C dX8_ends_20 0 rfl rfl ?_
      refine y_callMvV (k' := 0) (n' := 0) (As := []) (rest := []) C M cs_X8_142 (met_m_next G A S _ (h_5)) (wM_0 ..) rfl rfl ⟨rfl, rfl, Nat.le_of_ble_eq_true rfl, Nat.le_of_ble_eq_true rfl⟩ rfl rfl (Nat.le_of_ble_eq_true rfl) dX8_ends_21 ⟨Nat.zero_le _, Nat.zero_le _⟩ rfl rfl (fun S_8 h_7 => ?_)
      exact y_vretM C M N rfl (S := S_8) rfl (h_7) dX8_ends_24
  · have h_9 := (h).2 c_1
    refine y_aload_n C dX8_ends_8 0 rfl rfl ?_
    refine y_iconst C dX8_ends_9 ic_1 ?_
    refine y_callMvV (k' := 0) (n' := 0) (As := [.int (1)]) (rest := []) C M cs_X8_148 (met_m_fails G A S (1) _ (h_9)) (wM_0 ..) rfl rfl ⟨rfl, rfl, Nat.le_of_ble_eq_true rfl, Nat.le_of_ble_eq_true rfl⟩ rfl rfl (Nat.le_of_ble_eq_true rfl) dX8_ends_10 ⟨Nat.zero_le _, Nat.zero_le _⟩ rfl rfl (fun S_12 h_11 => ?_)
    refine y_aload_n C dX8_ends_13 0 rfl rfl ?_
    refine yg_X8_132_wM0 C dX8_ends_14 ?_
    refine y_if_ne C (tgt := 24) dX8_ends_17 rfl (fun c_13 => ?_) (fun c_13 => ?_)
    · have h_14 := (h_11).1 c_13
      exact y_vretM C M N rfl (S := S_12) rfl (h_14) dX8_ends_24
    · have h_15 := (h_11).2 c_13
      refine y_aload_n C dX8_ends_20 0 rfl rfl ?_
      refine y_callMvV (k' := 0) (n' := 0) (As := []) (rest := []) C M cs_X8_142 (met_m_next G A S_12 _ (h_15)) (wM_0 ..) rfl rfl ⟨rfl, rfl, Nat.le_of_ble_eq_true rfl, Nat.le_of_ble_eq_true rfl⟩ rfl rfl (Nat.le_of_ble_eq_true rfl) dX8_ends_21 ⟨Nat.zero_le _, Nat.zero_le _⟩ rfl rfl (fun S_18 h_17 => ?_)
      exact y_vretM C M N rfl (S := S_18) rfl (h_17) dX8_ends_24
/-! OverHillModel isOver()V: m_isOver -/
abbrev rm_m_isOver : Room := { frames := 1, cells := 0, slots := 0, locals := 40 }
def wp_m_isOver (S : St) (Q : St → Prop) : Prop :=
  ((¬ ((sI (sI S 0 6 0) 0 14 ((sI S 0 6 0).1 0 12)).1 0 12) = 0 → Q (sI (sI (sI S 0 6 0) 0 14 ((sI S 0 6 0).1 0 12)) 0 15 ((sI (sI S 0 6 0) 0 14 ((sI S 0 6 0).1 0 12)).1 0 13))) ∧ (((sI (sI S 0 6 0) 0 14 ((sI S 0 6 0).1 0 12)).1 0 12) = 0 → Q (sI (sI (sI S 0 6 0) 0 14 ((sI S 0 6 0).1 0 12)) 0 15 (-1))))
set_option maxRecDepth 100000 in
theorem met_m_isOver (G : Gx) (A : Nat → Nat) (S : St) (Q : St → Prop) (h : wp_m_isOver S Q) : Mv G yX8_isOver (ws_ yX8_isOver cX8_isOver 1 none) rm_m_isOver (wM G A S) [.ref (A 0)] (wM G A) Q := by
  refine ent_Mv (by decide +kernel) rfl (Nat.le_of_ble_eq_true rfl) [(0, .ref (A 0))] rfl (fun K B C M N => ?_)
  refine y_aload_n C dX8_isOver_0 0 rfl rfl ?_
  refine y_iconst C dX8_isOver_1 ic_0 ?_
  refine yp_X8_97_wM0 C M dX8_isOver_2 ?_
  refine y_aload_n C dX8_isOver_5 0 rfl rfl ?_
  refine y_aload_n C dX8_isOver_6 0 rfl rfl ?_
  refine yg_X8_132_wM0 C dX8_isOver_7 ?_
  refine yp_X8_159_wM0 C M dX8_isOver_10 ?_
  refine y_aload_n C dX8_isOver_13 0 rfl rfl ?_
  refine y_aload_n C dX8_isOver_14 0 rfl rfl ?_
  refine yg_X8_132_wM0 C dX8_isOver_15 ?_
  refine y_if_ne C (tgt := 25) dX8_isOver_18 rfl (fun c_1 => ?_) (fun c_1 => ?_)
  · have h_2 := (h).1 c_1
    refine y_aload_n C dX8_isOver_25 0 rfl rfl ?_
    refine yg_X8_135_wM0 C dX8_isOver_26 ?_
    refine yp_X8_27_wM0 C M dX8_isOver_29 ?_
    exact y_vretM C M N rfl (S := (sI (sI (sI S 0 6 0) 0 14 ((sI S 0 6 0).1 0 12)) 0 15 ((sI (sI S 0 6 0) 0 14 ((sI S 0 6 0).1 0 12)).1 0 13))) rfl (h_2) dX8_isOver_32
  · have h_3 := (h).2 c_1
    refine y_iconst C dX8_isOver_21 icm1 ?_
    refine y_goto C (tgt := 29) dX8_isOver_22 rfl ?_
    refine yp_X8_27_wM0 C M dX8_isOver_29 ?_
    exact y_vretM C M N rfl (S := (sI (sI (sI S 0 6 0) 0 14 ((sI S 0 6 0).1 0 12)) 0 15 (-1))) rfl (h_3) dX8_isOver_32
/-! OverHillModel copyDance(II)V: m_copyDance -/
abbrev rm_m_copyDance : Room := { frames := 2, cells := 0, slots := 0, locals := 64 }
def wp_m_copyDance_b90 (Q : St → Prop) (x1 : Int32) (x2 : Int32) : Nat → St → Int32 → Prop
  | 0 => fun _ _ => False
  | n + 1 => fun S x3 => ((200 ≤ x3 → Q S) ∧ (¬ 200 ≤ x3 → (vp_in ((200 * x1) + x3) 1000 ∧ (vp_in ((200 * x2) + x3) 1000 ∧ wp_m_copyDance_b90 Q x1 x2 n (sI S 11 (((200 * x2) + x3)).toNatClampNeg (vp_nar .boolean (S.1 11 (((200 * x1) + x3)).toNatClampNeg))) ((x3 + 1))))))
def wp_m_copyDance (S : St) (x1 : Int32) (x2 : Int32) (Q : St → Prop) : Prop :=
  wp_m_copyRow_6 S (1) (x1) (x2) (fun S_3 => wp_m_copyRow_7 S_3 (11) (x1) (x2) (fun S_6 => wp_m_copyRow_8 S_6 (24) (x1) (x2) (fun S_9 => wp_m_copyRow_9 S_9 (6) (x1) (x2) (fun S_12 => wp_m_copyRow_10 S_12 (32) (x1) (x2) (fun S_15 => wp_m_copyRow_12 S_15 (24) (x1) (x2) (fun S_18 => wp_m_copyRow_13 S_18 (10) (x1) (x2) (fun S_21 => wp_m_copyRow_14 S_21 (160) (x1) (x2) (fun S_24 => (∃ z, wp_m_copyDance_b90 Q (x1) (x2) z S_24 (0))))))))))
set_option maxRecDepth 100000 in
theorem wk_m_copyDance_b90 {G : Gx} {K : Kx} {A : Nat → Nat} (C : KOk G K RX8 cX8_copyDance rm_m_copyDance 4 none) {B : Nat → Prop} (M : KM G K B) {Q : St → Prop} (N : KQv G K B (wM G A) Q) (x1 : Int32) (x2 : Int32) : ∀ (n : Nat), ∀ (S : St) (x3 : Int32), wp_m_copyDance_b90 Q x1 x2 n S x3 → Y G K 0 0 (wM G A S) 90 [(0, .ref (A 0)), (1, .int (x1)), (2, .int (x2)), (3, .int (x3))] [] := by
  intro n
  induction n with
  | zero => intro S x3 h; exact h.elim
  | succ n ih =>
    intro S x3 h
    dsimp only [wp_m_copyDance_b90] at h
    refine y_iload_n C dX8_copyDance_90 3 rfl rfl ?_
    refine y_sipush C dX8_copyDance_91 sp_200 ?_
    refine y_icmp_ge C (tgt := 127) dX8_copyDance_94 rfl (fun c_27 => ?_) (fun c_27 => ?_)
    · have h_28 := (h).1 c_27
      exact y_vretM C M N rfl (S := S) rfl (h_28) dX8_copyDance_127
    · have h_29 := (h).2 c_27
      refine y_aload_n C dX8_copyDance_97 0 rfl rfl ?_
      refine yg_X8_46_wM0 C dX8_copyDance_98 ?_
      refine y_sipush C dX8_copyDance_101 sp_200 ?_
      refine y_iload_n C dX8_copyDance_104 2 rfl rfl ?_
      refine y_imul C dX8_copyDance_105 ?_
      refine y_iload_n C dX8_copyDance_106 3 rfl rfl ?_
      refine y_iadd C dX8_copyDance_107 ?_
      refine y_aload_n C dX8_copyDance_108 0 rfl rfl ?_
      refine yg_X8_46_wM0 C dX8_copyDance_109 ?_
      refine y_sipush C dX8_copyDance_112 sp_200 ?_
      refine y_iload_n C dX8_copyDance_115 1 rfl rfl ?_
      refine y_imul C dX8_copyDance_116 ?_
      refine y_iload_n C dX8_copyDance_117 3 rfl rfl ?_
      refine y_iadd C dX8_copyDance_118 ?_
      refine y_zald C (wM_11 ..) rfl (h_29).1 dX8_copyDance_119 ?_
      refine y_zast C M (wM_11 ..) rfl (wM_s11 ..) ((h_29).2).1 dX8_copyDance_120 ?_
      refine y_iinc C dX8_copyDance_121 3 rfl (Nat.le_of_ble_eq_true rfl) (ii_1 _) [(3, .int ((x3 + 1))), (0, .ref (A 0)), (1, .int (x1)), (2, .int (x2))] rfl ?_
      refine y_goto C (tgt := 90) dX8_copyDance_124 rfl ?_
      exact Y.sub (ih (sI S 11 (((200 * x2) + x3)).toNatClampNeg (vp_nar .boolean (S.1 11 (((200 * x1) + x3)).toNatClampNeg))) ((x3 + 1)) (((h_29).2).2)) [1, 2, 3, 0] rfl
set_option maxRecDepth 100000 in
theorem met_m_copyDance (G : Gx) (A : Nat → Nat) (S : St) (x1 : Int32) (x2 : Int32) (Q : St → Prop) (h : wp_m_copyDance S x1 x2 Q) : Mv G yX8_copyDance (ws_ yX8_copyDance cX8_copyDance 4 none) rm_m_copyDance (wM G A S) [.ref (A 0), .int (x1), .int (x2)] (wM G A) Q := by
  refine ent_Mv (by decide +kernel) rfl (Nat.le_of_ble_eq_true rfl) [(0, .ref (A 0)), (1, .int (x1)), (2, .int (x2))] rfl (fun K B C M N => ?_)
  refine y_aload_n C dX8_copyDance_0 0 rfl rfl ?_
  refine yg_X8_31_wM0 C dX8_copyDance_1 ?_
  refine y_iconst C dX8_copyDance_4 ic_1 ?_
  refine y_iload_n C dX8_copyDance_5 1 rfl rfl ?_
  refine y_iload_n C dX8_copyDance_6 2 rfl rfl ?_
  refine y_callMvS (k' := 0) (n' := 0) (As := [.ref (A 6), .int (1), .int (x1), .int (x2)]) (rest := []) C M cs_X8_250 (met_m_copyRow_6 G A S (1) (x1) (x2) _ (h)) ⟨rfl, rfl, Nat.le_of_ble_eq_true rfl, Nat.le_of_ble_eq_true rfl⟩ rfl rfl (Nat.le_of_ble_eq_true rfl) dX8_copyDance_7 ⟨Nat.zero_le _, Nat.zero_le _⟩ rfl rfl (fun S_3 h_2 => ?_)
  refine y_aload_n C dX8_copyDance_10 0 rfl rfl ?_
  refine yg_X8_34_wM0 C dX8_copyDance_11 ?_
  refine y_bipush C dX8_copyDance_14 bp_11 ?_
  refine y_iload_n C dX8_copyDance_16 1 rfl rfl ?_
  refine y_iload_n C dX8_copyDance_17 2 rfl rfl ?_
  refine y_callMvS (k' := 0) (n' := 0) (As := [.ref (A 7), .int (11), .int (x1), .int (x2)]) (rest := []) C M cs_X8_250 (met_m_copyRow_7 G A S_3 (11) (x1) (x2) _ (h_2)) ⟨rfl, rfl, Nat.le_of_ble_eq_true rfl, Nat.le_of_ble_eq_true rfl⟩ rfl rfl (Nat.le_of_ble_eq_true rfl) dX8_copyDance_18 ⟨Nat.zero_le _, Nat.zero_le _⟩ rfl rfl (fun S_6 h_5 => ?_)
  refine y_aload_n C dX8_copyDance_21 0 rfl rfl ?_
  refine yg_X8_37_wM0 C dX8_copyDance_22 ?_
  refine y_bipush C dX8_copyDance_25 bp_24 ?_
  refine y_iload_n C dX8_copyDance_27 1 rfl rfl ?_
  refine y_iload_n C dX8_copyDance_28 2 rfl rfl ?_
  refine y_callMvS (k' := 0) (n' := 0) (As := [.ref (A 8), .int (24), .int (x1), .int (x2)]) (rest := []) C M cs_X8_250 (met_m_copyRow_8 G A S_6 (24) (x1) (x2) _ (h_5)) ⟨rfl, rfl, Nat.le_of_ble_eq_true rfl, Nat.le_of_ble_eq_true rfl⟩ rfl rfl (Nat.le_of_ble_eq_true rfl) dX8_copyDance_29 ⟨Nat.zero_le _, Nat.zero_le _⟩ rfl rfl (fun S_9 h_8 => ?_)
  refine y_aload_n C dX8_copyDance_32 0 rfl rfl ?_
  refine yg_X8_40_wM0 C dX8_copyDance_33 ?_
  refine y_bipush C dX8_copyDance_36 bp_6 ?_
  refine y_iload_n C dX8_copyDance_38 1 rfl rfl ?_
  refine y_iload_n C dX8_copyDance_39 2 rfl rfl ?_
  refine y_callMvS (k' := 0) (n' := 0) (As := [.ref (A 9), .int (6), .int (x1), .int (x2)]) (rest := []) C M cs_X8_250 (met_m_copyRow_9 G A S_9 (6) (x1) (x2) _ (h_8)) ⟨rfl, rfl, Nat.le_of_ble_eq_true rfl, Nat.le_of_ble_eq_true rfl⟩ rfl rfl (Nat.le_of_ble_eq_true rfl) dX8_copyDance_40 ⟨Nat.zero_le _, Nat.zero_le _⟩ rfl rfl (fun S_12 h_11 => ?_)
  refine y_aload_n C dX8_copyDance_43 0 rfl rfl ?_
  refine yg_X8_43_wM0 C dX8_copyDance_44 ?_
  refine y_bipush C dX8_copyDance_47 bp_32 ?_
  refine y_iload_n C dX8_copyDance_49 1 rfl rfl ?_
  refine y_iload_n C dX8_copyDance_50 2 rfl rfl ?_
  refine y_callMvS (k' := 0) (n' := 0) (As := [.ref (A 10), .int (32), .int (x1), .int (x2)]) (rest := []) C M cs_X8_250 (met_m_copyRow_10 G A S_12 (32) (x1) (x2) _ (h_11)) ⟨rfl, rfl, Nat.le_of_ble_eq_true rfl, Nat.le_of_ble_eq_true rfl⟩ rfl rfl (Nat.le_of_ble_eq_true rfl) dX8_copyDance_51 ⟨Nat.zero_le _, Nat.zero_le _⟩ rfl rfl (fun S_15 h_14 => ?_)
  refine y_aload_n C dX8_copyDance_54 0 rfl rfl ?_
  refine yg_X8_50_wM0 C dX8_copyDance_55 ?_
  refine y_bipush C dX8_copyDance_58 bp_24 ?_
  refine y_iload_n C dX8_copyDance_60 1 rfl rfl ?_
  refine y_iload_n C dX8_copyDance_61 2 rfl rfl ?_
  refine y_callMvS (k' := 0) (n' := 0) (As := [.ref (A 12), .int (24), .int (x1), .int (x2)]) (rest := []) C M cs_X8_250 (met_m_copyRow_12 G A S_15 (24) (x1) (x2) _ (h_14)) ⟨rfl, rfl, Nat.le_of_ble_eq_true rfl, Nat.le_of_ble_eq_true rfl⟩ rfl rfl (Nat.le_of_ble_eq_true rfl) dX8_copyDance_62 ⟨Nat.zero_le _, Nat.zero_le _⟩ rfl rfl (fun S_18 h_17 => ?_)
  refine y_aload_n C dX8_copyDance_65 0 rfl rfl ?_
  refine yg_X8_53_wM0 C dX8_copyDance_66 ?_
  refine y_bipush C dX8_copyDance_69 bp_10 ?_
  refine y_iload_n C dX8_copyDance_71 1 rfl rfl ?_
  refine y_iload_n C dX8_copyDance_72 2 rfl rfl ?_
  refine y_callMvS (k' := 0) (n' := 0) (As := [.ref (A 13), .int (10), .int (x1), .int (x2)]) (rest := []) C M cs_X8_250 (met_m_copyRow_13 G A S_18 (10) (x1) (x2) _ (h_17)) ⟨rfl, rfl, Nat.le_of_ble_eq_true rfl, Nat.le_of_ble_eq_true rfl⟩ rfl rfl (Nat.le_of_ble_eq_true rfl) dX8_copyDance_73 ⟨Nat.zero_le _, Nat.zero_le _⟩ rfl rfl (fun S_21 h_20 => ?_)
  refine y_aload_n C dX8_copyDance_76 0 rfl rfl ?_
  refine yg_X8_56_wM0 C dX8_copyDance_77 ?_
  refine y_sipush C dX8_copyDance_80 sp_160 ?_
  refine y_iload_n C dX8_copyDance_83 1 rfl rfl ?_
  refine y_iload_n C dX8_copyDance_84 2 rfl rfl ?_
  refine y_callMvS (k' := 0) (n' := 0) (As := [.ref (A 14), .int (160), .int (x1), .int (x2)]) (rest := []) C M cs_X8_250 (met_m_copyRow_14 G A S_21 (160) (x1) (x2) _ (h_20)) ⟨rfl, rfl, Nat.le_of_ble_eq_true rfl, Nat.le_of_ble_eq_true rfl⟩ rfl rfl (Nat.le_of_ble_eq_true rfl) dX8_copyDance_85 ⟨Nat.zero_le _, Nat.zero_le _⟩ rfl rfl (fun S_24 h_23 => ?_)
  refine y_iconst C dX8_copyDance_88 ic_0 ?_
  refine y_istore_n C dX8_copyDance_89 rfl (Nat.le_of_ble_eq_true rfl) [(3, .int (0)), (0, .ref (A 0)), (1, .int (x1)), (2, .int (x2))] rfl ?_
  obtain ⟨n_25, h_26⟩ := h_23
  exact Y.sub (wk_m_copyDance_b90 C M N (x1) (x2) n_25 S_24 (0) h_26) [1, 2, 3, 0] rfl
/-! OverHillModel dance()I: m_dance -/
abbrev rm_m_dance : Room := { frames := 8, cells := 0, slots := 0, locals := 200 }
def wp_m_dance_b119 (Q : Int32 → St → Prop) (S : St) : Prop :=
  wp_m_isOver S (fun S_47 => (((S_47.1 0 12) = 0 → wp_m_copyDance S_47 (4) (0) (fun S_52 => Q (S_52.1 6 0) S_52)) ∧ (¬ (S_47.1 0 12) = 0 → Q (-4) S_47)))
def wp_m_dance_b106 (Q : Int32 → St → Prop) (K13 : St → Prop) (S : St) : Prop :=
  K13 (sI S 6 4 ((S.1 6 4) + 1))
def wp_m_dance_b95 (Q : Int32 → St → Prop) (K13 : St → Prop) (S : St) : Prop :=
  wp_m_isGood S (fun r_54 => ((r_54 = 0 → wp_m_dance_b106 Q K13 S) ∧ (¬ r_54 = 0 → wp_m_ends S (fun S_62 => wp_m_dance_b106 Q K13 S_62))))
def wp_m_dance_b13 (Q : Int32 → St → Prop) : Nat → St → Prop
  | 0 => fun _ => False
  | n + 1 => fun S => wp_m_isGood S (fun r_9 => ((r_9 = 0 → wp_m_dance_b119 Q S) ∧ (¬ r_9 = 0 → (((S.1 0 8) = 0 → wp_m_dance_b119 Q S) ∧ (¬ (S.1 0 8) = 0 → ((¬ (S.1 6 4) = 0 → wp_m_line S (fun S_22 => wp_m_dance_b95 Q (fun Sy => wp_m_dance_b13 Q n Sy) S_22)) ∧ ((S.1 6 4) = 0 → wp_m_asks S (2155739) (fun S_26 => wp_m_number S_26 (5146) (0) (20) (fun r_27 S_29 => wp_m_reads S_29 (0) (r_27) (fun S_32 => wp_m_number S_32 (298288) (0) (100) (fun r_33 S_35 => wp_m_reads S_35 (1) (r_33) (fun S_38 => wp_m_number S_38 (355280) (0) (100) (fun r_39 S_41 => wp_m_reads S_41 (2) (r_39) (fun S_44 => wp_m_dance_b95 Q (fun Sy => wp_m_dance_b13 Q n Sy) S_44))))))))))))))
def wp_m_dance (S : St) (Q : Int32 → St → Prop) : Prop :=
  wp_m_clears (sI S 0 0 0) (fun S_3 => wp_m_begins S_3 (fun S_6 => (∃ z, wp_m_dance_b13 Q z S_6)))
set_option maxRecDepth 100000 in
theorem wk_m_dance_b119 {G : Gx} {K : Kx} {A : Nat → Nat} (C : KOk G K RX8 cX8_dance rm_m_dance 1 (some .int)) {B : Nat → Prop} (M : KM G K B) {Q : Int32 → St → Prop} (N : KQi G K B (wM G A) Q) (S : St) (h : wp_m_dance_b119 Q S) : Y G K 0 0 (wM G A S) 119 [(0, .ref (A 0))] [] := by
  refine y_aload_n C dX8_dance_119 0 rfl rfl ?_
  refine y_callMvV (k' := 0) (n' := 0) (As := []) (rest := []) C M cs_X8_244 (met_m_isOver G A S _ (h)) (wM_0 ..) rfl rfl ⟨rfl, rfl, Nat.le_of_ble_eq_true rfl, Nat.le_of_ble_eq_true rfl⟩ rfl rfl (Nat.le_of_ble_eq_true rfl) dX8_dance_120 ⟨Nat.zero_le _, Nat.zero_le _⟩ rfl rfl (fun S_47 h_46 => ?_)
  refine y_aload_n C dX8_dance_123 0 rfl rfl ?_
  refine yg_X8_132_wM0 C dX8_dance_124 ?_
  refine y_if_eq C (tgt := 133) dX8_dance_127 rfl (fun c_48 => ?_) (fun c_48 => ?_)
  · have h_49 := (h_46).1 c_48
    refine y_aload_n C dX8_dance_133 0 rfl rfl ?_
    refine y_iconst C dX8_dance_134 ic_4 ?_
    refine y_iconst C dX8_dance_135 ic_0 ?_
    refine y_callMvV (k' := 0) (n' := 0) (As := [.int (4), .int (0)]) (rest := []) C M cs_X8_247 (met_m_copyDance G A S_47 (4) (0) _ (h_49)) (wM_0 ..) rfl rfl ⟨rfl, rfl, Nat.le_of_ble_eq_true rfl, Nat.le_of_ble_eq_true rfl⟩ rfl rfl (Nat.le_of_ble_eq_true rfl) dX8_dance_136 ⟨Nat.zero_le _, Nat.zero_le _⟩ rfl rfl (fun S_52 h_51 => ?_)
    refine y_aload_n C dX8_dance_139 0 rfl rfl ?_
    refine yg_X8_31_wM0 C dX8_dance_140 ?_
    refine y_iconst C dX8_dance_143 ic_0 ?_
    refine y_iald C (wM_6 ..) tn_0 vi_0_5 dX8_dance_144 ?_
    exact y_iretM C M N rfl (S := S_52) rfl (h_51) dX8_dance_145
  · have h_53 := (h_46).2 c_48
    refine y_bipush C dX8_dance_130 bpm4 ?_
    exact y_iretM C M N rfl (S := S_47) rfl (h_53) dX8_dance_132
set_option maxRecDepth 100000 in
theorem wk_m_dance_b106 {G : Gx} {K : Kx} {A : Nat → Nat} (C : KOk G K RX8 cX8_dance rm_m_dance 1 (some .int)) {B : Nat → Prop} (M : KM G K B) {Q : Int32 → St → Prop} (N : KQi G K B (wM G A) Q) (K13 : St → Prop) (hK13 : ∀ (S : St), K13 S → Y G K 0 0 (wM G A S) 13 [(0, .ref (A 0))] []) (S : St) (h : wp_m_dance_b106 Q K13 S) : Y G K 0 0 (wM G A S) 106 [(0, .ref (A 0))] [] := by
  refine y_aload_n C dX8_dance_106 0 rfl rfl ?_
  refine yg_X8_31_wM0 C dX8_dance_107 ?_
  refine y_iconst C dX8_dance_110 ic_4 ?_
  refine y_dup2 C dX8_dance_111 rfl rfl ?_
  refine y_iald C (wM_6 ..) tn_4 vi_4_5 dX8_dance_112 ?_
  refine y_iconst C dX8_dance_113 ic_1 ?_
  refine y_iadd C dX8_dance_114 ?_
  refine y_iast C M (wM_6 ..) tn_4 (wM_s6 ..) vi_4_5 dX8_dance_115 ?_
  refine y_goto C (tgt := 13) dX8_dance_116 rfl ?_
  exact Y.sub (hK13 (sI S 6 4 ((S.1 6 4) + 1)) (h)) [0] rfl
set_option maxRecDepth 100000 in
theorem wk_m_dance_b95 {G : Gx} {K : Kx} {A : Nat → Nat} (C : KOk G K RX8 cX8_dance rm_m_dance 1 (some .int)) {B : Nat → Prop} (M : KM G K B) {Q : Int32 → St → Prop} (N : KQi G K B (wM G A) Q) (K13 : St → Prop) (hK13 : ∀ (S : St), K13 S → Y G K 0 0 (wM G A S) 13 [(0, .ref (A 0))] []) (S : St) (h : wp_m_dance_b95 Q K13 S) : Y G K 0 0 (wM G A S) 95 [(0, .ref (A 0))] [] := by
  refine y_aload_n C dX8_dance_95 0 rfl rfl ?_
  refine y_callRiV (As := []) (rest := []) C cs_X8_168 (met_m_isGood G A S _ (h)) (fun _ h => h) (wM_0 ..) rfl rfl ⟨rfl, rfl, Nat.le_of_ble_eq_true rfl, Nat.le_of_ble_eq_true rfl⟩ rfl rfl (Nat.le_of_ble_eq_true rfl) dX8_dance_96 ⟨Nat.zero_le _, Nat.zero_le _⟩ (fun r_54 h_55 => ?_)
  refine y_if_eq C (tgt := 106) dX8_dance_99 rfl (fun c_57 => ?_) (fun c_57 => ?_)
  · have h_58 := (h_55).1 c_57
    exact Y.sub (wk_m_dance_b106 C M N K13 hK13 S (h_58)) [0] rfl
  · have h_59 := (h_55).2 c_57
    refine y_aload_n C dX8_dance_102 0 rfl rfl ?_
    refine y_callMvV (k' := 0) (n' := 0) (As := []) (rest := []) C M cs_X8_241 (met_m_ends G A S _ (h_59)) (wM_0 ..) rfl rfl ⟨rfl, rfl, Nat.le_of_ble_eq_true rfl, Nat.le_of_ble_eq_true rfl⟩ rfl rfl (Nat.le_of_ble_eq_true rfl) dX8_dance_103 ⟨Nat.zero_le _, Nat.zero_le _⟩ rfl rfl (fun S_62 h_61 => ?_)
    exact Y.sub (wk_m_dance_b106 C M N K13 hK13 S_62 (h_61)) [0] rfl
set_option maxRecDepth 100000 in
theorem wk_m_dance_b13 {G : Gx} {K : Kx} {A : Nat → Nat} (C : KOk G K RX8 cX8_dance rm_m_dance 1 (some .int)) {B : Nat → Prop} (M : KM G K B) {Q : Int32 → St → Prop} (N : KQi G K B (wM G A) Q) : ∀ (n : Nat), ∀ (S : St), wp_m_dance_b13 Q n S → Y G K 0 0 (wM G A S) 13 [(0, .ref (A 0))] [] := by
  intro n
  induction n with
  | zero => intro S h; exact h.elim
  | succ n ih =>
    intro S h
    dsimp only [wp_m_dance_b13] at h
    refine y_aload_n C dX8_dance_13 0 rfl rfl ?_
    refine y_callRiV (As := []) (rest := []) C cs_X8_168 (met_m_isGood G A S _ (h)) (fun _ h => h) (wM_0 ..) rfl rfl ⟨rfl, rfl, Nat.le_of_ble_eq_true rfl, Nat.le_of_ble_eq_true rfl⟩ rfl rfl (Nat.le_of_ble_eq_true rfl) dX8_dance_14 ⟨Nat.zero_le _, Nat.zero_le _⟩ (fun r_9 h_10 => ?_)
    refine y_if_eq C (tgt := 119) dX8_dance_17 rfl (fun c_12 => ?_) (fun c_12 => ?_)
    · have h_13 := (h_10).1 c_12
      exact Y.sub (wk_m_dance_b119 C M N S (h_13)) [0] rfl
    · have h_14 := (h_10).2 c_12
      refine y_aload_n C dX8_dance_20 0 rfl rfl ?_
      refine yg_X8_121_wM0 C dX8_dance_21 ?_
      refine y_if_eq C (tgt := 119) dX8_dance_24 rfl (fun c_15 => ?_) (fun c_15 => ?_)
      · have h_16 := (h_14).1 c_15
        exact Y.sub (wk_m_dance_b119 C M N S (h_16)) [0] rfl
      · have h_17 := (h_14).2 c_15
        refine y_aload_n C dX8_dance_27 0 rfl rfl ?_
        refine yg_X8_31_wM0 C dX8_dance_28 ?_
        refine y_iconst C dX8_dance_31 ic_4 ?_
        refine y_iald C (wM_6 ..) tn_4 vi_4_5 dX8_dance_32 ?_
        refine y_if_ne C (tgt := 91) dX8_dance_33 rfl (fun c_18 => ?_) (fun c_18 => ?_)
        · have h_19 := (h_17).1 c_18
          refine y_aload_n C dX8_dance_91 0 rfl rfl ?_
          refine y_callMvV (k' := 0) (n' := 0) (As := []) (rest := []) C M cs_X8_238 (met_m_line G A S _ (h_19)) (wM_0 ..) rfl rfl ⟨rfl, rfl, Nat.le_of_ble_eq_true rfl, Nat.le_of_ble_eq_true rfl⟩ rfl rfl (Nat.le_of_ble_eq_true rfl) dX8_dance_92 ⟨Nat.zero_le _, Nat.zero_le _⟩ rfl rfl (fun S_22 h_21 => ?_)
          exact Y.sub (wk_m_dance_b95 C M N (fun Sy => wp_m_dance_b13 Q n Sy) ih S_22 (h_21)) [0] rfl
        · have h_23 := (h_17).2 c_18
          refine y_aload_n C dX8_dance_36 0 rfl rfl ?_
          refine y_ldc2 C dX8_dance_37 q1773 ?_
          refine y_callMvV (k' := 0) (n' := 0) (As := [.long (2155739)]) (rest := []) C M cs_X8_151 (met_m_asks G A S (2155739) _ (h_23)) (wM_0 ..) rfl rfl ⟨rfl, rfl, Nat.le_of_ble_eq_true rfl, Nat.le_of_ble_eq_true rfl⟩ rfl rfl (Nat.le_of_ble_eq_true rfl) dX8_dance_40 ⟨Nat.zero_le _, Nat.zero_le _⟩ rfl rfl (fun S_26 h_25 => ?_)
          refine y_aload_n C dX8_dance_43 0 rfl rfl ?_
          refine y_iconst C dX8_dance_44 ic_0 ?_
          refine y_aload_n C dX8_dance_45 0 rfl rfl ?_
          refine y_ldc2 C dX8_dance_46 q1790 ?_
          refine y_iconst C dX8_dance_49 ic_0 ?_
          refine y_bipush C dX8_dance_50 bp_20 ?_
          refine y_callMiV (k' := 0) (n' := 0) (As := [.long (5146), .int (0), .int (20)]) (rest := [.int (0), .ref (A 0)]) C M cs_X8_174 (met_m_number G A S_26 (5146) (0) (20) _ (h_25)) (wM_0 ..) rfl rfl ⟨rfl, rfl, Nat.le_of_ble_eq_true rfl, Nat.le_of_ble_eq_true rfl⟩ rfl rfl (Nat.le_of_ble_eq_true rfl) dX8_dance_52 ⟨Nat.zero_le _, Nat.zero_le _⟩ rfl rfl (fun r_27 S_29 h_28 => ?_)
          refine y_callMvV (k' := 0) (n' := 0) (As := [.int (0), .int (r_27)]) (rest := []) C M cs_X8_177 (met_m_reads G A S_29 (0) (r_27) _ (h_28)) (wM_0 ..) rfl rfl ⟨rfl, rfl, Nat.le_of_ble_eq_true rfl, Nat.le_of_ble_eq_true rfl⟩ rfl rfl (Nat.le_of_ble_eq_true rfl) dX8_dance_55 ⟨Nat.zero_le _, Nat.zero_le _⟩ rfl rfl (fun S_32 h_31 => ?_)
          refine y_aload_n C dX8_dance_58 0 rfl rfl ?_
          refine y_iconst C dX8_dance_59 ic_1 ?_
          refine y_aload_n C dX8_dance_60 0 rfl rfl ?_
          refine y_ldc2 C dX8_dance_61 q1799 ?_
          refine y_iconst C dX8_dance_64 ic_0 ?_
          refine y_bipush C dX8_dance_65 bp_100 ?_
          refine y_callMiV (k' := 0) (n' := 0) (As := [.long (298288), .int (0), .int (100)]) (rest := [.int (1), .ref (A 0)]) C M cs_X8_174 (met_m_number G A S_32 (298288) (0) (100) _ (h_31)) (wM_0 ..) rfl rfl ⟨rfl, rfl, Nat.le_of_ble_eq_true rfl, Nat.le_of_ble_eq_true rfl⟩ rfl rfl (Nat.le_of_ble_eq_true rfl) dX8_dance_67 ⟨Nat.zero_le _, Nat.zero_le _⟩ rfl rfl (fun r_33 S_35 h_34 => ?_)
          refine y_callMvV (k' := 0) (n' := 0) (As := [.int (1), .int (r_33)]) (rest := []) C M cs_X8_177 (met_m_reads G A S_35 (1) (r_33) _ (h_34)) (wM_0 ..) rfl rfl ⟨rfl, rfl, Nat.le_of_ble_eq_true rfl, Nat.le_of_ble_eq_true rfl⟩ rfl rfl (Nat.le_of_ble_eq_true rfl) dX8_dance_70 ⟨Nat.zero_le _, Nat.zero_le _⟩ rfl rfl (fun S_38 h_37 => ?_)
          refine y_aload_n C dX8_dance_73 0 rfl rfl ?_
          refine y_iconst C dX8_dance_74 ic_2 ?_
          refine y_aload_n C dX8_dance_75 0 rfl rfl ?_
          refine y_ldc2 C dX8_dance_76 q1800 ?_
          refine y_iconst C dX8_dance_79 ic_0 ?_
          refine y_bipush C dX8_dance_80 bp_100 ?_
          refine y_callMiV (k' := 0) (n' := 0) (As := [.long (355280), .int (0), .int (100)]) (rest := [.int (2), .ref (A 0)]) C M cs_X8_174 (met_m_number G A S_38 (355280) (0) (100) _ (h_37)) (wM_0 ..) rfl rfl ⟨rfl, rfl, Nat.le_of_ble_eq_true rfl, Nat.le_of_ble_eq_true rfl⟩ rfl rfl (Nat.le_of_ble_eq_true rfl) dX8_dance_82 ⟨Nat.zero_le _, Nat.zero_le _⟩ rfl rfl (fun r_39 S_41 h_40 => ?_)
          refine y_callMvV (k' := 0) (n' := 0) (As := [.int (2), .int (r_39)]) (rest := []) C M cs_X8_177 (met_m_reads G A S_41 (2) (r_39) _ (h_40)) (wM_0 ..) rfl rfl ⟨rfl, rfl, Nat.le_of_ble_eq_true rfl, Nat.le_of_ble_eq_true rfl⟩ rfl rfl (Nat.le_of_ble_eq_true rfl) dX8_dance_85 ⟨Nat.zero_le _, Nat.zero_le _⟩ rfl rfl (fun S_44 h_43 => ?_)
          refine y_goto C (tgt := 95) dX8_dance_88 rfl ?_
          exact Y.sub (wk_m_dance_b95 C M N (fun Sy => wp_m_dance_b13 Q n Sy) ih S_44 (h_43)) [0] rfl
set_option maxRecDepth 100000 in
theorem met_m_dance (G : Gx) (A : Nat → Nat) (S : St) (Q : Int32 → St → Prop) (h : wp_m_dance S Q) : Mi G yX8_dance (ws_ yX8_dance cX8_dance 1 (some .int)) rm_m_dance (wM G A S) [.ref (A 0)] (wM G A) Q := by
  refine ent_Mi (by decide +kernel) rfl (Nat.le_of_ble_eq_true rfl) [(0, .ref (A 0))] rfl (fun K B C M N => ?_)
  refine y_aload_n C dX8_dance_0 0 rfl rfl ?_
  refine y_iconst C dX8_dance_1 ic_0 ?_
  refine yp_X8_80_wM0 C M dX8_dance_2 ?_
  refine y_aload_n C dX8_dance_5 0 rfl rfl ?_
  refine y_callMvV (k' := 0) (n' := 0) (As := []) (rest := []) C M cs_X8_224 (met_m_clears G A (sI S 0 0 0) _ (h)) (wM_0 ..) rfl rfl ⟨rfl, rfl, Nat.le_of_ble_eq_true rfl, Nat.le_of_ble_eq_true rfl⟩ rfl rfl (Nat.le_of_ble_eq_true rfl) dX8_dance_6 ⟨Nat.zero_le _, Nat.zero_le _⟩ rfl rfl (fun S_3 h_2 => ?_)
  refine y_aload_n C dX8_dance_9 0 rfl rfl ?_
  refine y_callMvV (k' := 0) (n' := 0) (As := []) (rest := []) C M cs_X8_227 (met_m_begins G A S_3 _ (h_2)) (wM_0 ..) rfl rfl ⟨rfl, rfl, Nat.le_of_ble_eq_true rfl, Nat.le_of_ble_eq_true rfl⟩ rfl rfl (Nat.le_of_ble_eq_true rfl) dX8_dance_10 ⟨Nat.zero_le _, Nat.zero_le _⟩ rfl rfl (fun S_6 h_5 => ?_)
  obtain ⟨n_7, h_8⟩ := h_5
  exact Y.sub (wk_m_dance_b13 C M N n_7 S_6 h_8) [0] rfl
/-! OverHillModel isDance()Z: m_isDance -/
abbrev rm_m_isDance : Room := { frames := 1, cells := 0, slots := 0, locals := 40 }
def wp_m_isDance (S : St) (Q : Int32 → Prop) : Prop :=
  (((S.1 6 0) ≤ 0 → Q 0) ∧ (¬ (S.1 6 0) ≤ 0 → Q 1))
set_option maxRecDepth 100000 in
theorem met_m_isDance (G : Gx) (A : Nat → Nat) (S : St) (Q : Int32 → Prop) (h : wp_m_isDance S Q) : Ri G yX8_isDance (ws_ yX8_isDance cX8_isDance 1 (some .boolean)) rm_m_isDance (wM G A S) [.ref (A 0)] Q := by
  refine ent_Ri (by decide +kernel) rfl (Nat.le_of_ble_eq_true rfl) [(0, .ref (A 0))] rfl (fun K C N => ?_)
  refine y_aload_n C dX8_isDance_0 0 rfl rfl ?_
  refine yg_X8_31_wM0 C dX8_isDance_1 ?_
  refine y_iconst C dX8_isDance_4 ic_0 ?_
  refine y_iald C (wM_6 ..) tn_0 vi_0_5 dX8_isDance_5 ?_
  refine y_if_le C (tgt := 13) dX8_isDance_6 rfl (fun c_1 => ?_) (fun c_1 => ?_)
  · have h_2 := (h).1 c_1
    refine y_iconst C dX8_isDance_13 ic_0 ?_
    exact y_zretR C N rfl rfl (h_2) dX8_isDance_14
  · have h_3 := (h).2 c_1
    refine y_iconst C dX8_isDance_9 ic_1 ?_
    refine y_goto C (tgt := 14) dX8_isDance_10 rfl ?_
    exact y_zretR C N rfl rfl (h_3) dX8_isDance_14
/-! OverHillModel isSide(I)Z: m_isSide -/
abbrev rm_m_isSide : Room := { frames := 2, cells := 0, slots := 0, locals := 65 }
def wp_m_isSide (S : St) (x1 : Int32) (Q : Int32 → Prop) : Prop :=
  wp_m_isDance S (fun r_1 => ((r_1 = 0 → Q 0) ∧ (¬ r_1 = 0 → wp_m_in ((x1).toInt64) (0) (1) (fun r_7 => ((r_7 = 0 → Q 0) ∧ (¬ r_7 = 0 → Q 1))))))
set_option maxRecDepth 100000 in
theorem met_m_isSide (G : Gx) (A : Nat → Nat) (S : St) (x1 : Int32) (Q : Int32 → Prop) (h : wp_m_isSide S x1 Q) : Ri G yX8_isSide (ws_ yX8_isSide cX8_isSide 2 (some .boolean)) rm_m_isSide (wM G A S) [.ref (A 0), .int (x1)] Q := by
  refine ent_Ri (by decide +kernel) rfl (Nat.le_of_ble_eq_true rfl) [(0, .ref (A 0)), (1, .int (x1))] rfl (fun K C N => ?_)
  refine y_aload_n C dX8_isSide_0 0 rfl rfl ?_
  refine y_callRiV (As := []) (rest := []) C cs_X8_254 (met_m_isDance G A S _ (h)) (fun _ h => h) (wM_0 ..) rfl rfl ⟨rfl, rfl, Nat.le_of_ble_eq_true rfl, Nat.le_of_ble_eq_true rfl⟩ rfl rfl (Nat.le_of_ble_eq_true rfl) dX8_isSide_1 ⟨Nat.zero_le _, Nat.zero_le _⟩ (fun r_1 h_2 => ?_)
  refine y_if_eq C (tgt := 21) dX8_isSide_4 rfl (fun c_4 => ?_) (fun c_4 => ?_)
  · have h_5 := (h_2).1 c_4
    refine y_iconst C dX8_isSide_21 ic_0 ?_
    exact y_zretR C N rfl rfl (h_5) dX8_isSide_22
  · have h_6 := (h_2).2 c_4
    refine y_iload_n C dX8_isSide_7 1 rfl rfl ?_
    refine y_i2l C dX8_isSide_8 rfl ?_
    refine y_lconst C dX8_isSide_9 lc_0 ?_
    refine y_lconst C dX8_isSide_10 lc_1 ?_
    refine y_callRiS (As := [.long ((x1).toInt64), .long (0), .long (1)]) (rest := []) C cs_X8_85 (met_m_in G ((x1).toInt64) (0) (1) _ (h_6)) (fun _ _ => pw_nil) ⟨rfl, rfl, Nat.le_of_ble_eq_true rfl, Nat.le_of_ble_eq_true rfl⟩ rfl rfl (Nat.le_of_ble_eq_true rfl) dX8_isSide_11 ⟨Nat.zero_le _, Nat.zero_le _⟩ (fun r_7 h_8 => ?_)
    refine y_if_eq C (tgt := 21) dX8_isSide_14 rfl (fun c_10 => ?_) (fun c_10 => ?_)
    · have h_11 := (h_8).1 c_10
      refine y_iconst C dX8_isSide_21 ic_0 ?_
      exact y_zretR C N rfl rfl (h_11) dX8_isSide_22
    · have h_12 := (h_8).2 c_10
      refine y_iconst C dX8_isSide_17 ic_1 ?_
      refine y_goto C (tgt := 22) dX8_isSide_18 rfl ?_
      exact y_zretR C N rfl rfl (h_12) dX8_isSide_22
/-! OverHillModel lengthOf(I)I: m_lengthOf -/
abbrev rm_m_lengthOf : Room := { frames := 1, cells := 0, slots := 0, locals := 40 }
def wp_m_lengthOf (S : St) (x1 : Int32) (Q : Int32 → Prop) : Prop :=
  (vp_in (3 + x1) 55 ∧ Q (S.1 7 ((3 + x1)).toNatClampNeg))
set_option maxRecDepth 100000 in
theorem met_m_lengthOf (G : Gx) (A : Nat → Nat) (S : St) (x1 : Int32) (Q : Int32 → Prop) (h : wp_m_lengthOf S x1 Q) : Ri G yX8_lengthOf (ws_ yX8_lengthOf cX8_lengthOf 2 (some .int)) rm_m_lengthOf (wM G A S) [.ref (A 0), .int (x1)] Q := by
  refine ent_Ri (by decide +kernel) rfl (Nat.le_of_ble_eq_true rfl) [(0, .ref (A 0)), (1, .int (x1))] rfl (fun K C N => ?_)
  refine y_aload_n C dX8_lengthOf_0 0 rfl rfl ?_
  refine yg_X8_34_wM0 C dX8_lengthOf_1 ?_
  refine y_iconst C dX8_lengthOf_4 ic_3 ?_
  refine y_iload_n C dX8_lengthOf_5 1 rfl rfl ?_
  refine y_iadd C dX8_lengthOf_6 ?_
  refine y_iald C (wM_7 ..) rfl (h).1 dX8_lengthOf_7 ?_
  exact y_iretR C N rfl ((h).2) dX8_lengthOf_8
/-! OverHillModel step(II)I: m_step -/
abbrev rm_m_step : Room := { frames := 3, cells := 0, slots := 0, locals := 86 }
def wp_m_step (S : St) (x1 : Int32) (x2 : Int32) (Q : Int32 → St → Prop) : Prop :=
  wp_m_isSide (sI S 0 0 0) (x1) (fun r_1 => ((¬ r_1 = 0 → wp_m_lengthOf (sI S 0 0 0) (x1) (fun r_6 => wp_m_in ((x2).toInt64) (0) (((r_6 - 1)).toInt64) (fun r_9 => ((r_9 = 0 → Q (-1) (sI S 0 0 0)) ∧ (¬ r_9 = 0 → (vp_in ((12 * x1) + x2) 120 ∧ Q ((sI S 0 0 0).1 8 (((12 * x1) + x2)).toNatClampNeg) (sI S 0 0 0))))))) ∧ (r_1 = 0 → Q (-2) (sI S 0 0 0))))
set_option maxRecDepth 100000 in
theorem met_m_step (G : Gx) (A : Nat → Nat) (S : St) (x1 : Int32) (x2 : Int32) (Q : Int32 → St → Prop) (h : wp_m_step S x1 x2 Q) : Mi G yX8_step (ws_ yX8_step cX8_step 3 (some .int)) rm_m_step (wM G A S) [.ref (A 0), .int (x1), .int (x2)] (wM G A) Q := by
  refine ent_Mi (by decide +kernel) rfl (Nat.le_of_ble_eq_true rfl) [(0, .ref (A 0)), (1, .int (x1)), (2, .int (x2))] rfl (fun K B C M N => ?_)
  refine y_aload_n C dX8_step_0 0 rfl rfl ?_
  refine y_iconst C dX8_step_1 ic_0 ?_
  refine yp_X8_80_wM0 C M dX8_step_2 ?_
  refine y_aload_n C dX8_step_5 0 rfl rfl ?_
  refine y_iload_n C dX8_step_6 1 rfl rfl ?_
  refine y_callRiV (As := [.int (x1)]) (rest := []) C cs_X8_261 (met_m_isSide G A (sI S 0 0 0) (x1) _ (h)) (fun _ h => h) (wM_0 ..) rfl rfl ⟨rfl, rfl, Nat.le_of_ble_eq_true rfl, Nat.le_of_ble_eq_true rfl⟩ rfl rfl (Nat.le_of_ble_eq_true rfl) dX8_step_7 ⟨Nat.zero_le _, Nat.zero_le _⟩ (fun r_1 h_2 => ?_)
  refine y_if_ne C (tgt := 18) dX8_step_10 rfl (fun c_4 => ?_) (fun c_4 => ?_)
  · have h_5 := (h_2).1 c_4
    refine y_iload_n C dX8_step_18 2 rfl rfl ?_
    refine y_i2l C dX8_step_19 rfl ?_
    refine y_lconst C dX8_step_20 lc_0 ?_
    refine y_aload_n C dX8_step_21 0 rfl rfl ?_
    refine y_iload_n C dX8_step_22 1 rfl rfl ?_
    refine y_callRiV (As := [.int (x1)]) (rest := [.long (0), .long ((x2).toInt64)]) C cs_X8_264 (met_m_lengthOf G A (sI S 0 0 0) (x1) _ (h_5)) (fun _ h => h) (wM_0 ..) rfl rfl ⟨rfl, rfl, Nat.le_of_ble_eq_true rfl, Nat.le_of_ble_eq_true rfl⟩ rfl rfl (Nat.le_of_ble_eq_true rfl) dX8_step_23 ⟨Nat.zero_le _, Nat.zero_le _⟩ (fun r_6 h_7 => ?_)
    refine y_iconst C dX8_step_26 ic_1 ?_
    refine y_isub C dX8_step_27 ?_
    refine y_i2l C dX8_step_28 rfl ?_
    refine y_callRiS (As := [.long ((x2).toInt64), .long (0), .long (((r_6 - 1)).toInt64)]) (rest := []) C cs_X8_85 (met_m_in G ((x2).toInt64) (0) (((r_6 - 1)).toInt64) _ (h_7)) (fun _ _ => pw_nil) ⟨rfl, rfl, Nat.le_of_ble_eq_true rfl, Nat.le_of_ble_eq_true rfl⟩ rfl rfl (Nat.le_of_ble_eq_true rfl) dX8_step_29 ⟨Nat.zero_le _, Nat.zero_le _⟩ (fun r_9 h_10 => ?_)
    refine y_if_eq C (tgt := 49) dX8_step_32 rfl (fun c_12 => ?_) (fun c_12 => ?_)
    · have h_13 := (h_10).1 c_12
      refine y_iconst C dX8_step_49 icm1 ?_
      exact y_iretM C M N rfl (S := (sI S 0 0 0)) rfl (h_13) dX8_step_50
    · have h_14 := (h_10).2 c_12
      refine y_aload_n C dX8_step_35 0 rfl rfl ?_
      refine yg_X8_37_wM0 C dX8_step_36 ?_
      refine y_bipush C dX8_step_39 bp_12 ?_
      refine y_iload_n C dX8_step_41 1 rfl rfl ?_
      refine y_imul C dX8_step_42 ?_
      refine y_iload_n C dX8_step_43 2 rfl rfl ?_
      refine y_iadd C dX8_step_44 ?_
      refine y_iald C (wM_8 ..) rfl (h_14).1 dX8_step_45 ?_
      refine y_goto C (tgt := 50) dX8_step_46 rfl ?_
      exact y_iretM C M N rfl (S := (sI S 0 0 0)) rfl ((h_14).2) dX8_step_50
  · have h_15 := (h_2).2 c_4
    refine y_bipush C dX8_step_13 bpm2 ?_
    refine y_goto C (tgt := 50) dX8_step_15 rfl ?_
    exact y_iretM C M N rfl (S := (sI S 0 0 0)) rfl (h_15) dX8_step_50
/-! OverHillModel isStep(J)Z: m_isStep -/
abbrev rm_m_isStep : Room := { frames := 2, cells := 0, slots := 0, locals := 65 }
def wp_m_isStep (x0 : Int64) (Q : Int32 → Prop) : Prop :=
  wp_m_in (x0) (0) (5) (fun r_1 => (narrow .boolean (.int r_1) = .int r_1 ∧ Q r_1))
set_option maxRecDepth 100000 in
theorem met_m_isStep (G : Gx) (x0 : Int64) (Q : Int32 → Prop) (h : wp_m_isStep x0 Q) : Ri G yX8_isStep (ws_ yX8_isStep cX8_isStep 2 (some .boolean)) rm_m_isStep [] [.long (x0)] Q := by
  refine ent_Ri (by decide +kernel) rfl (Nat.le_of_ble_eq_true rfl) [(0, .long (x0))] rfl (fun K C N => ?_)
  refine y_lload_n C dX8_isStep_0 0 rfl rfl ?_
  refine y_lconst C dX8_isStep_1 lc_0 ?_
  refine y_ldc2 C dX8_isStep_2 q1887 ?_
  refine y_callRiS (As := [.long (x0), .long (0), .long (5)]) (rest := []) C cs_X8_85 (met_m_in G (x0) (0) (5) _ (h)) (fun _ h => h) ⟨rfl, rfl, Nat.le_of_ble_eq_true rfl, Nat.le_of_ble_eq_true rfl⟩ rfl rfl (Nat.le_of_ble_eq_true rfl) dX8_isStep_5 ⟨Nat.zero_le _, Nat.zero_le _⟩ (fun r_1 h_2 => ?_)
  exact y_zretR C N rfl (h_2).1 ((h_2).2) dX8_isStep_8
/-! OverHillModel answers(I)I: m_answers -/
abbrev rm_m_answers : Room := { frames := 3, cells := 0, slots := 0, locals := 86 }
def wp_m_answers (S : St) (x1 : Int32) (Q : Int32 → St → Prop) : Prop :=
  wp_m_isDance (sI S 0 0 0) (fun r_1 => ((r_1 = 0 → Q (-2) (sI S 0 0 0)) ∧ (¬ r_1 = 0 → wp_m_isStep ((x1).toInt64) (fun r_7 => ((r_7 = 0 → Q (-2) (sI S 0 0 0)) ∧ (¬ r_7 = 0 → (vp_in x1 30 ∧ Q ((sI S 0 0 0).1 9 (x1).toNatClampNeg) (sI S 0 0 0))))))))
set_option maxRecDepth 100000 in
theorem met_m_answers (G : Gx) (A : Nat → Nat) (S : St) (x1 : Int32) (Q : Int32 → St → Prop) (h : wp_m_answers S x1 Q) : Mi G yX8_answers (ws_ yX8_answers cX8_answers 2 (some .int)) rm_m_answers (wM G A S) [.ref (A 0), .int (x1)] (wM G A) Q := by
  refine ent_Mi (by decide +kernel) rfl (Nat.le_of_ble_eq_true rfl) [(0, .ref (A 0)), (1, .int (x1))] rfl (fun K B C M N => ?_)
  refine y_aload_n C dX8_answers_0 0 rfl rfl ?_
  refine y_iconst C dX8_answers_1 ic_0 ?_
  refine yp_X8_80_wM0 C M dX8_answers_2 ?_
  refine y_aload_n C dX8_answers_5 0 rfl rfl ?_
  refine y_callRiV (As := []) (rest := []) C cs_X8_254 (met_m_isDance G A (sI S 0 0 0) _ (h)) (fun _ h => h) (wM_0 ..) rfl rfl ⟨rfl, rfl, Nat.le_of_ble_eq_true rfl, Nat.le_of_ble_eq_true rfl⟩ rfl rfl (Nat.le_of_ble_eq_true rfl) dX8_answers_6 ⟨Nat.zero_le _, Nat.zero_le _⟩ (fun r_1 h_2 => ?_)
  refine y_if_eq C (tgt := 29) dX8_answers_9 rfl (fun c_4 => ?_) (fun c_4 => ?_)
  · have h_5 := (h_2).1 c_4
    refine y_bipush C dX8_answers_29 bpm2 ?_
    exact y_iretM C M N rfl (S := (sI S 0 0 0)) rfl (h_5) dX8_answers_31
  · have h_6 := (h_2).2 c_4
    refine y_iload_n C dX8_answers_12 1 rfl rfl ?_
    refine y_i2l C dX8_answers_13 rfl ?_
    refine y_callRiS (As := [.long ((x1).toInt64)]) (rest := []) C cs_X8_267 (met_m_isStep G ((x1).toInt64) _ (h_6)) (fun _ _ => pw_nil) ⟨rfl, rfl, Nat.le_of_ble_eq_true rfl, Nat.le_of_ble_eq_true rfl⟩ rfl rfl (Nat.le_of_ble_eq_true rfl) dX8_answers_14 ⟨Nat.zero_le _, Nat.zero_le _⟩ (fun r_7 h_8 => ?_)
    refine y_if_eq C (tgt := 29) dX8_answers_17 rfl (fun c_10 => ?_) (fun c_10 => ?_)
    · have h_11 := (h_8).1 c_10
      refine y_bipush C dX8_answers_29 bpm2 ?_
      exact y_iretM C M N rfl (S := (sI S 0 0 0)) rfl (h_11) dX8_answers_31
    · have h_12 := (h_8).2 c_10
      refine y_aload_n C dX8_answers_20 0 rfl rfl ?_
      refine yg_X8_40_wM0 C dX8_answers_21 ?_
      refine y_iload_n C dX8_answers_24 1 rfl rfl ?_
      refine y_iald C (wM_9 ..) rfl (h_12).1 dX8_answers_25 ?_
      refine y_goto C (tgt := 31) dX8_answers_26 rfl ?_
      exact y_iretM C M N rfl (S := (sI S 0 0 0)) rfl ((h_12).2) dX8_answers_31
/-! OverHillModel stumbled(II)I: m_stumbled -/
abbrev rm_m_stumbled : Room := { frames := 2, cells := 0, slots := 0, locals := 65 }
def wp_m_stumbled (S : St) (x1 : Int32) (x2 : Int32) (Q : Int32 → St → Prop) : Prop :=
  wp_m_in ((x1).toInt64) (0) (((((sI S 0 0 0).1 7 7) - 1)).toInt64) (fun r_1 => ((r_1 = 0 → Q (-2) (sI S 0 0 0)) ∧ (¬ r_1 = 0 → wp_m_in ((x2).toInt64) (0) (3) (fun r_7 => ((r_7 = 0 → Q (-2) (sI S 0 0 0)) ∧ (¬ r_7 = 0 → (vp_in ((4 * x1) + x2) 160 ∧ Q ((sI S 0 0 0).1 10 (((4 * x1) + x2)).toNatClampNeg) (sI S 0 0 0))))))))
set_option maxRecDepth 100000 in
theorem met_m_stumbled (G : Gx) (A : Nat → Nat) (S : St) (x1 : Int32) (x2 : Int32) (Q : Int32 → St → Prop) (h : wp_m_stumbled S x1 x2 Q) : Mi G yX8_stumbled (ws_ yX8_stumbled cX8_stumbled 3 (some .int)) rm_m_stumbled (wM G A S) [.ref (A 0), .int (x1), .int (x2)] (wM G A) Q := by
  refine ent_Mi (by decide +kernel) rfl (Nat.le_of_ble_eq_true rfl) [(0, .ref (A 0)), (1, .int (x1)), (2, .int (x2))] rfl (fun K B C M N => ?_)
  refine y_aload_n C dX8_stumbled_0 0 rfl rfl ?_
  refine y_iconst C dX8_stumbled_1 ic_0 ?_
  refine yp_X8_80_wM0 C M dX8_stumbled_2 ?_
  refine y_iload_n C dX8_stumbled_5 1 rfl rfl ?_
  refine y_i2l C dX8_stumbled_6 rfl ?_
  refine y_lconst C dX8_stumbled_7 lc_0 ?_
  refine y_aload_n C dX8_stumbled_8 0 rfl rfl ?_
  refine yg_X8_34_wM0 C dX8_stumbled_9 ?_
  refine y_bipush C dX8_stumbled_12 bp_7 ?_
  refine y_iald C (wM_7 ..) tn_7 vi_7_55 dX8_stumbled_14 ?_
  refine y_iconst C dX8_stumbled_15 ic_1 ?_
  refine y_isub C dX8_stumbled_16 ?_
  refine y_i2l C dX8_stumbled_17 rfl ?_
  refine y_callRiS (As := [.long ((x1).toInt64), .long (0), .long (((((sI S 0 0 0).1 7 7) - 1)).toInt64)]) (rest := []) C cs_X8_85 (met_m_in G ((x1).toInt64) (0) (((((sI S 0 0 0).1 7 7) - 1)).toInt64) _ (h)) (fun _ _ => pw_nil) ⟨rfl, rfl, Nat.le_of_ble_eq_true rfl, Nat.le_of_ble_eq_true rfl⟩ rfl rfl (Nat.le_of_ble_eq_true rfl) dX8_stumbled_18 ⟨Nat.zero_le _, Nat.zero_le _⟩ (fun r_1 h_2 => ?_)
  refine y_if_eq C (tgt := 49) dX8_stumbled_21 rfl (fun c_4 => ?_) (fun c_4 => ?_)
  · have h_5 := (h_2).1 c_4
    refine y_bipush C dX8_stumbled_49 bpm2 ?_
    exact y_iretM C M N rfl (S := (sI S 0 0 0)) rfl (h_5) dX8_stumbled_51
  · have h_6 := (h_2).2 c_4
    refine y_iload_n C dX8_stumbled_24 2 rfl rfl ?_
    refine y_i2l C dX8_stumbled_25 rfl ?_
    refine y_lconst C dX8_stumbled_26 lc_0 ?_
    refine y_ldc2 C dX8_stumbled_27 q1709 ?_
    refine y_callRiS (As := [.long ((x2).toInt64), .long (0), .long (3)]) (rest := []) C cs_X8_85 (met_m_in G ((x2).toInt64) (0) (3) _ (h_6)) (fun _ _ => pw_nil) ⟨rfl, rfl, Nat.le_of_ble_eq_true rfl, Nat.le_of_ble_eq_true rfl⟩ rfl rfl (Nat.le_of_ble_eq_true rfl) dX8_stumbled_30 ⟨Nat.zero_le _, Nat.zero_le _⟩ (fun r_7 h_8 => ?_)
    refine y_if_eq C (tgt := 49) dX8_stumbled_33 rfl (fun c_10 => ?_) (fun c_10 => ?_)
    · have h_11 := (h_8).1 c_10
      refine y_bipush C dX8_stumbled_49 bpm2 ?_
      exact y_iretM C M N rfl (S := (sI S 0 0 0)) rfl (h_11) dX8_stumbled_51
    · have h_12 := (h_8).2 c_10
      refine y_aload_n C dX8_stumbled_36 0 rfl rfl ?_
      refine yg_X8_43_wM0 C dX8_stumbled_37 ?_
      refine y_iconst C dX8_stumbled_40 ic_4 ?_
      refine y_iload_n C dX8_stumbled_41 1 rfl rfl ?_
      refine y_imul C dX8_stumbled_42 ?_
      refine y_iload_n C dX8_stumbled_43 2 rfl rfl ?_
      refine y_iadd C dX8_stumbled_44 ?_
      refine y_iald C (wM_10 ..) rfl (h_12).1 dX8_stumbled_45 ?_
      refine y_goto C (tgt := 51) dX8_stumbled_46 rfl ?_
      exact y_iretM C M N rfl (S := (sI S 0 0 0)) rfl ((h_12).2) dX8_stumbled_51
/-! OverHillModel isBeat(J)Z: m_isBeat -/
abbrev rm_m_isBeat : Room := { frames := 2, cells := 0, slots := 0, locals := 65 }
def wp_m_isBeat (x0 : Int64) (Q : Int32 → Prop) : Prop :=
  wp_m_in (x0) (0) (199) (fun r_1 => (narrow .boolean (.int r_1) = .int r_1 ∧ Q r_1))
set_option maxRecDepth 100000 in
theorem met_m_isBeat (G : Gx) (x0 : Int64) (Q : Int32 → Prop) (h : wp_m_isBeat x0 Q) : Ri G yX8_isBeat (ws_ yX8_isBeat cX8_isBeat 2 (some .boolean)) rm_m_isBeat [] [.long (x0)] Q := by
  refine ent_Ri (by decide +kernel) rfl (Nat.le_of_ble_eq_true rfl) [(0, .long (x0))] rfl (fun K C N => ?_)
  refine y_lload_n C dX8_isBeat_0 0 rfl rfl ?_
  refine y_lconst C dX8_isBeat_1 lc_0 ?_
  refine y_ldc2 C dX8_isBeat_2 q1899 ?_
  refine y_callRiS (As := [.long (x0), .long (0), .long (199)]) (rest := []) C cs_X8_85 (met_m_in G (x0) (0) (199) _ (h)) (fun _ h => h) ⟨rfl, rfl, Nat.le_of_ble_eq_true rfl, Nat.le_of_ble_eq_true rfl⟩ rfl rfl (Nat.le_of_ble_eq_true rfl) dX8_isBeat_5 ⟨Nat.zero_le _, Nat.zero_le _⟩ (fun r_1 h_2 => ?_)
  exact y_zretR C N rfl (h_2).1 ((h_2).2) dX8_isBeat_8
/-! OverHillModel muddy(I)I: m_muddy -/
abbrev rm_m_muddy : Room := { frames := 3, cells := 0, slots := 0, locals := 86 }
def wp_m_muddy (S : St) (x1 : Int32) (Q : Int32 → St → Prop) : Prop :=
  wp_m_isDance (sI S 0 0 0) (fun r_1 => ((r_1 = 0 → Q (-2) (sI S 0 0 0)) ∧ (¬ r_1 = 0 → wp_m_isBeat ((x1).toInt64) (fun r_7 => ((r_7 = 0 → Q (-2) (sI S 0 0 0)) ∧ (¬ r_7 = 0 → (vp_in x1 1000 ∧ ((((sI S 0 0 0).1 11 (x1).toNatClampNeg) = 0 → Q 0 (sI S 0 0 0)) ∧ (¬ ((sI S 0 0 0).1 11 (x1).toNatClampNeg) = 0 → Q 1 (sI S 0 0 0))))))))))
set_option maxRecDepth 100000 in
theorem met_m_muddy (G : Gx) (A : Nat → Nat) (S : St) (x1 : Int32) (Q : Int32 → St → Prop) (h : wp_m_muddy S x1 Q) : Mi G yX8_muddy (ws_ yX8_muddy cX8_muddy 2 (some .int)) rm_m_muddy (wM G A S) [.ref (A 0), .int (x1)] (wM G A) Q := by
  refine ent_Mi (by decide +kernel) rfl (Nat.le_of_ble_eq_true rfl) [(0, .ref (A 0)), (1, .int (x1))] rfl (fun K B C M N => ?_)
  refine y_aload_n C dX8_muddy_0 0 rfl rfl ?_
  refine y_iconst C dX8_muddy_1 ic_0 ?_
  refine yp_X8_80_wM0 C M dX8_muddy_2 ?_
  refine y_aload_n C dX8_muddy_5 0 rfl rfl ?_
  refine y_callRiV (As := []) (rest := []) C cs_X8_254 (met_m_isDance G A (sI S 0 0 0) _ (h)) (fun _ h => h) (wM_0 ..) rfl rfl ⟨rfl, rfl, Nat.le_of_ble_eq_true rfl, Nat.le_of_ble_eq_true rfl⟩ rfl rfl (Nat.le_of_ble_eq_true rfl) dX8_muddy_6 ⟨Nat.zero_le _, Nat.zero_le _⟩ (fun r_1 h_2 => ?_)
  refine y_if_eq C (tgt := 37) dX8_muddy_9 rfl (fun c_4 => ?_) (fun c_4 => ?_)
  · have h_5 := (h_2).1 c_4
    refine y_bipush C dX8_muddy_37 bpm2 ?_
    exact y_iretM C M N rfl (S := (sI S 0 0 0)) rfl (h_5) dX8_muddy_39
  · have h_6 := (h_2).2 c_4
    refine y_iload_n C dX8_muddy_12 1 rfl rfl ?_
    refine y_i2l C dX8_muddy_13 rfl ?_
    refine y_callRiS (As := [.long ((x1).toInt64)]) (rest := []) C cs_X8_270 (met_m_isBeat G ((x1).toInt64) _ (h_6)) (fun _ _ => pw_nil) ⟨rfl, rfl, Nat.le_of_ble_eq_true rfl, Nat.le_of_ble_eq_true rfl⟩ rfl rfl (Nat.le_of_ble_eq_true rfl) dX8_muddy_14 ⟨Nat.zero_le _, Nat.zero_le _⟩ (fun r_7 h_8 => ?_)
    refine y_if_eq C (tgt := 37) dX8_muddy_17 rfl (fun c_10 => ?_) (fun c_10 => ?_)
    · have h_11 := (h_8).1 c_10
      refine y_bipush C dX8_muddy_37 bpm2 ?_
      exact y_iretM C M N rfl (S := (sI S 0 0 0)) rfl (h_11) dX8_muddy_39
    · have h_12 := (h_8).2 c_10
      refine y_aload_n C dX8_muddy_20 0 rfl rfl ?_
      refine yg_X8_46_wM0 C dX8_muddy_21 ?_
      refine y_iload_n C dX8_muddy_24 1 rfl rfl ?_
      refine y_zald C (wM_11 ..) rfl (h_12).1 dX8_muddy_25 ?_
      refine y_if_eq C (tgt := 33) dX8_muddy_26 rfl (fun c_13 => ?_) (fun c_13 => ?_)
      · have h_14 := ((h_12).2).1 c_13
        refine y_iconst C dX8_muddy_33 ic_0 ?_
        refine y_goto C (tgt := 39) dX8_muddy_34 rfl ?_
        exact y_iretM C M N rfl (S := (sI S 0 0 0)) rfl (h_14) dX8_muddy_39
      · have h_15 := ((h_12).2).2 c_13
        refine y_iconst C dX8_muddy_29 ic_1 ?_
        refine y_goto C (tgt := 39) dX8_muddy_30 rfl ?_
        exact y_iretM C M N rfl (S := (sI S 0 0 0)) rfl (h_15) dX8_muddy_39
/-! OverHillModel dances(IIIII)V: m_dances -/
abbrev rm_m_dances : Room := { frames := 2, cells := 0, slots := 0, locals := 61 }
def wp_m_dances_b210 (Q : St → Prop) (x1 : Int32) (x2 : Int32) (x3 : Int32) (x4 : Int32) (x5 : Int32) (K20 : St → Int32 → Int32 → Int32 → Prop) (S : St) (x6 : Int32) (x7 : Int32) (x8 : Int32) (x9 : Int32) (x10 : Int32) (x11 : Int32) : Prop :=
  (vp_in x9 400 ∧ (¬ x6 = 0 ∧ (¬ x6 = 0 ∧ K20 (sI S 18 (x9).toNatClampNeg x10) (x6) ((irm ((irm ((x7 + 1) - x11) x6) + x6) x6)) ((x8 + 1)))))
def wp_m_dances_b122 (Q : St → Prop) (x1 : Int32) (x2 : Int32) (x3 : Int32) (x4 : Int32) (x5 : Int32) (K20 : St → Int32 → Int32 → Int32 → Prop) : Nat → St → Int32 → Int32 → Int32 → Int32 → Int32 → Int32 → Int32 → Prop
  | 0 => fun _ _ _ _ _ _ _ _ => False
  | n + 1 => fun S x6 x7 x8 x9 x10 x11 x12 => (((S.1 7 7) ≤ x12 → wp_m_dances_b210 Q (x1) (x2) (x3) (x4) (x5) K20 S (x6) (x7) (x8) (x9) (x10) (x11)) ∧ (¬ (S.1 7 7) ≤ x12 → ((x2 = 99 → wp_m_dances_b210 Q (x1) (x2) (x3) (x4) (x5) K20 S (x6) (x7) (x8) (x9) (x10) (x11)) ∧ (¬ x2 = 99 → ((x12 = x2 → wp_m_dances_b122 Q x1 x2 x3 x4 x5 K20 n S (x6) (x7) (x8) (x9) (x10) (x11) ((x12 + 1))) ∧ (¬ x12 = x2 → (vp_in (4 * x12) 160 ∧ ((¬ (S.1 10 ((4 * x12)).toNatClampNeg) = x1 → wp_m_dances_b122 Q x1 x2 x3 x4 x5 K20 n S (x6) (x7) (x8) (x9) (x10) (x11) ((x12 + 1))) ∧ ((S.1 10 ((4 * x12)).toNatClampNeg) = x1 → (vp_in ((4 * x12) + 1) 160 ∧ (((S.1 10 (((4 * x12) + 1)).toNatClampNeg) = x8 → (vp_in ((4 * x12) + 2) 160 ∧ (vp_in ((4 * x12) + 3) 160 ∧ wp_m_dances_b122 Q x1 x2 x3 x4 x5 K20 n S (x6) (x7) (x8) (x9) ((S.1 10 (((4 * x12) + 2)).toNatClampNeg)) ((S.1 10 (((4 * x12) + 3)).toNatClampNeg)) ((x12 + 1))))) ∧ (¬ (S.1 10 (((4 * x12) + 1)).toNatClampNeg) = x8 → wp_m_dances_b122 Q x1 x2 x3 x4 x5 K20 n S (x6) (x7) (x8) (x9) (x10) (x11) ((x12 + 1))))))))))))))
def wp_m_dances_b61 (Q : St → Prop) (x1 : Int32) (x2 : Int32) (x3 : Int32) (x4 : Int32) (x5 : Int32) (K20 : St → Int32 → Int32 → Int32 → Prop) (S : St) (x6 : Int32) (x7 : Int32) (x8 : Int32) (x9 : Int32) (s0 : Int32) (s1 : Int32) : Prop :=
  (vp_in s1 402 ∧ (vp_in x9 400 ∧ ((x6 = 0 → K20 (sI (sI S 17 (s1).toNatClampNeg s0) 18 (x9).toNatClampNeg (-1)) (x6) (x7) ((x8 + 1))) ∧ (¬ x6 = 0 → (vp_in x8 1000 ∧ ((((sI (sI S 17 (s1).toNatClampNeg s0) 18 (x9).toNatClampNeg (-1)).1 11 (x8).toNatClampNeg) = 0 → (vp_in ((12 * x1) + x7) 120 ∧ ((¬ x8 = x3 → (∃ z, wp_m_dances_b122 Q (x1) (x2) (x3) (x4) (x5) K20 z (sI (sI S 17 (s1).toNatClampNeg s0) 18 (x9).toNatClampNeg (-1)) (x6) (x7) (x8) (x9) (((sI (sI S 17 (s1).toNatClampNeg s0) 18 (x9).toNatClampNeg (-1)).1 8 (((12 * x1) + x7)).toNatClampNeg)) (0) (0))) ∧ (x8 = x3 → (∃ z, wp_m_dances_b122 Q (x1) (x2) (x3) (x4) (x5) K20 z (sI (sI S 17 (s1).toNatClampNeg s0) 18 (x9).toNatClampNeg (-1)) (x6) (x7) (x8) (x9) (x4) (x5) (0)))))) ∧ (¬ ((sI (sI S 17 (s1).toNatClampNeg s0) 18 (x9).toNatClampNeg (-1)).1 11 (x8).toNatClampNeg) = 0 → K20 (sI (sI S 17 (s1).toNatClampNeg s0) 18 (x9).toNatClampNeg (-1)) (x6) (x7) ((x8 + 1)))))))))
def wp_m_dances_b20 (Q : St → Prop) (x1 : Int32) (x2 : Int32) (x3 : Int32) (x4 : Int32) (x5 : Int32) : Nat → St → Int32 → Int32 → Int32 → Prop
  | 0 => fun _ _ _ _ => False
  | n + 1 => fun S x6 x7 x8 => ((200 ≤ x8 → Q S) ∧ (¬ 200 ≤ x8 → ((¬ x6 = 0 → wp_m_dances_b61 Q (x1) (x2) (x3) (x4) (x5) (fun Sy y6 y7 y8 => wp_m_dances_b20 Q x1 x2 x3 x4 x5 n Sy y6 y7 y8) S (x6) (x7) (x8) (((200 * x1) + x8)) (x7) (((201 * x1) + x8))) ∧ (x6 = 0 → wp_m_dances_b61 Q (x1) (x2) (x3) (x4) (x5) (fun Sy y6 y7 y8 => wp_m_dances_b20 Q x1 x2 x3 x4 x5 n Sy y6 y7 y8) S (x6) (x7) (x8) (((200 * x1) + x8)) ((-1)) (((201 * x1) + x8))))))
def wp_m_dances (S : St) (x1 : Int32) (x2 : Int32) (x3 : Int32) (x4 : Int32) (x5 : Int32) (Q : St → Prop) : Prop :=
  wp_m_lengthOf S (x1) (fun r_1 => (vp_in (5 + x1) 55 ∧ (∃ z, wp_m_dances_b20 Q (x1) (x2) (x3) (x4) (x5) z S (r_1) ((S.1 7 ((5 + x1)).toNatClampNeg)) (0))))
set_option maxRecDepth 100000 in
theorem wk_m_dances_b210 {G : Gx} {K : Kx} {A : Nat → Nat} (C : KOk G K RX8 cX8_dances rm_m_dances 13 none) {B : Nat → Prop} (M : KM G K B) {Q : St → Prop} (N : KQv G K B (wM G A) Q) (x1 : Int32) (x2 : Int32) (x3 : Int32) (x4 : Int32) (x5 : Int32) (K20 : St → Int32 → Int32 → Int32 → Prop) (hK20 : ∀ (S : St) (x6 : Int32) (x7 : Int32) (x8 : Int32), K20 S x6 x7 x8 → Y G K 0 0 (wM G A S) 20 [(0, .ref (A 0)), (1, .int (x1)), (2, .int (x2)), (3, .int (x3)), (4, .int (x4)), (5, .int (x5)), (6, .int (x6)), (7, .int (x7)), (8, .int (x8))] []) (S : St) (x6 : Int32) (x7 : Int32) (x8 : Int32) (x9 : Int32) (x10 : Int32) (x11 : Int32) (h : wp_m_dances_b210 Q x1 x2 x3 x4 x5 K20 S x6 x7 x8 x9 x10 x11) : Y G K 0 0 (wM G A S) 210 [(0, .ref (A 0)), (1, .int (x1)), (2, .int (x2)), (3, .int (x3)), (4, .int (x4)), (5, .int (x5)), (6, .int (x6)), (7, .int (x7)), (8, .int (x8)), (9, .int (x9)), (10, .int (x10)), (11, .int (x11))] [] := by
  refine y_aload_n C dX8_dances_210 0 rfl rfl ?_
  refine yg_X8_68_wM0 C dX8_dances_211 ?_
  refine y_iload C dX8_dances_214 9 rfl ?_
  refine y_iload C dX8_dances_216 10 rfl ?_
  refine y_iast C M (wM_18 ..) rfl (wM_s18 ..) (h).1 dX8_dances_218 ?_
  refine y_iload C dX8_dances_219 7 rfl ?_
  refine y_iconst C dX8_dances_221 ic_1 ?_
  refine y_iadd C dX8_dances_222 ?_
  refine y_iload C dX8_dances_223 11 rfl ?_
  refine y_isub C dX8_dances_225 ?_
  refine y_iload C dX8_dances_226 6 rfl ?_
  refine y_irem C dX8_dances_228 ((h).2).1 ?_
  refine y_iload C dX8_dances_229 6 rfl ?_
  refine y_iadd C dX8_dances_231 ?_
  refine y_iload C dX8_dances_232 6 rfl ?_
  refine y_irem C dX8_dances_234 (((h).2).2).1 ?_
  refine y_istore C dX8_dances_235 (Nat.le_of_ble_eq_true rfl) [(7, .int ((irm ((irm ((x7 + 1) - x11) x6) + x6) x6))), (0, .ref (A 0)), (1, .int (x1)), (2, .int (x2)), (3, .int (x3)), (4, .int (x4)), (5, .int (x5)), (6, .int (x6)), (8, .int (x8)), (9, .int (x9)), (10, .int (x10)), (11, .int (x11))] rfl ?_
  refine y_iinc C dX8_dances_237 8 rfl (Nat.le_of_ble_eq_true rfl) (ii_1 _) [(8, .int ((x8 + 1))), (7, .int ((irm ((irm ((x7 + 1) - x11) x6) + x6) x6))), (0, .ref (A 0)), (1, .int (x1)), (2, .int (x2)), (3, .int (x3)), (4, .int (x4)), (5, .int (x5)), (6, .int (x6)), (9, .int (x9)), (10, .int (x10)), (11, .int (x11))] rfl ?_
  refine y_goto C (tgt := 20) dX8_dances_240 rfl ?_
  exact Y.sub (hK20 (sI S 18 (x9).toNatClampNeg x10) (x6) ((irm ((irm ((x7 + 1) - x11) x6) + x6) x6)) ((x8 + 1)) ((((h).2).2).2)) [2, 3, 4, 5, 6, 7, 8, 1, 0] rfl
set_option maxRecDepth 100000 in
theorem wk_m_dances_b122 {G : Gx} {K : Kx} {A : Nat → Nat} (C : KOk G K RX8 cX8_dances rm_m_dances 13 none) {B : Nat → Prop} (M : KM G K B) {Q : St → Prop} (N : KQv G K B (wM G A) Q) (x1 : Int32) (x2 : Int32) (x3 : Int32) (x4 : Int32) (x5 : Int32) (K20 : St → Int32 → Int32 → Int32 → Prop) (hK20 : ∀ (S : St) (x6 : Int32) (x7 : Int32) (x8 : Int32), K20 S x6 x7 x8 → Y G K 0 0 (wM G A S) 20 [(0, .ref (A 0)), (1, .int (x1)), (2, .int (x2)), (3, .int (x3)), (4, .int (x4)), (5, .int (x5)), (6, .int (x6)), (7, .int (x7)), (8, .int (x8))] []) : ∀ (n : Nat), ∀ (S : St) (x6 : Int32) (x7 : Int32) (x8 : Int32) (x9 : Int32) (x10 : Int32) (x11 : Int32) (x12 : Int32), wp_m_dances_b122 Q x1 x2 x3 x4 x5 K20 n S x6 x7 x8 x9 x10 x11 x12 → Y G K 0 0 (wM G A S) 122 [(0, .ref (A 0)), (1, .int (x1)), (2, .int (x2)), (3, .int (x3)), (4, .int (x4)), (5, .int (x5)), (6, .int (x6)), (7, .int (x7)), (8, .int (x8)), (9, .int (x9)), (10, .int (x10)), (11, .int (x11)), (12, .int (x12))] [] := by
  intro n
  induction n with
  | zero => intro S x6 x7 x8 x9 x10 x11 x12 h; exact h.elim
  | succ n ih =>
    intro S x6 x7 x8 x9 x10 x11 x12 h
    dsimp only [wp_m_dances_b122] at h
    refine y_iload C dX8_dances_122 12 rfl ?_
    refine y_aload_n C dX8_dances_124 0 rfl rfl ?_
    refine yg_X8_34_wM0 C dX8_dances_125 ?_
    refine y_bipush C dX8_dances_128 bp_7 ?_
    refine y_iald C (wM_7 ..) tn_7 vi_7_55 dX8_dances_130 ?_
    refine y_icmp_ge C (tgt := 210) dX8_dances_131 rfl (fun c_25 => ?_) (fun c_25 => ?_)
    · have h_26 := (h).1 c_25
      exact Y.sub (wk_m_dances_b210 C M N (x1) (x2) (x3) (x4) (x5) K20 hK20 S (x6) (x7) (x8) (x9) (x10) (x11) (h_26)) [0, 1, 2, 3, 4, 5, 6, 7, 8, 9, 10, 11] rfl
    · have h_27 := (h).2 c_25
      refine y_iload_n C dX8_dances_134 2 rfl rfl ?_
      refine y_bipush C dX8_dances_135 bp_99 ?_
      refine y_icmp_eq C (tgt := 210) dX8_dances_137 rfl (fun c_28 => ?_) (fun c_28 => ?_)
      · have h_29 := (h_27).1 c_28
        exact Y.sub (wk_m_dances_b210 C M N (x1) (x2) (x3) (x4) (x5) K20 hK20 S (x6) (x7) (x8) (x9) (x10) (x11) (h_29)) [0, 1, 2, 3, 4, 5, 6, 7, 8, 9, 10, 11] rfl
      · have h_30 := (h_27).2 c_28
        refine y_iload C dX8_dances_140 12 rfl ?_
        refine y_iload_n C dX8_dances_142 2 rfl rfl ?_
        refine y_icmp_eq C (tgt := 204) dX8_dances_143 rfl (fun c_31 => ?_) (fun c_31 => ?_)
        · have h_32 := (h_30).1 c_31
          refine y_iinc C dX8_dances_204 12 rfl (Nat.le_of_ble_eq_true rfl) (ii_1 _) [(12, .int ((x12 + 1))), (0, .ref (A 0)), (1, .int (x1)), (2, .int (x2)), (3, .int (x3)), (4, .int (x4)), (5, .int (x5)), (6, .int (x6)), (7, .int (x7)), (8, .int (x8)), (9, .int (x9)), (10, .int (x10)), (11, .int (x11))] rfl ?_
          refine y_goto C (tgt := 122) dX8_dances_207 rfl ?_
          exact Y.sub (ih S (x6) (x7) (x8) (x9) (x10) (x11) ((x12 + 1)) (h_32)) [1, 2, 3, 4, 5, 6, 7, 8, 9, 10, 11, 12, 0] rfl
        · have h_33 := (h_30).2 c_31
          refine y_aload_n C dX8_dances_146 0 rfl rfl ?_
          refine yg_X8_43_wM0 C dX8_dances_147 ?_
          refine y_iconst C dX8_dances_150 ic_4 ?_
          refine y_iload C dX8_dances_151 12 rfl ?_
          refine y_imul C dX8_dances_153 ?_
          refine y_iald C (wM_10 ..) rfl (h_33).1 dX8_dances_154 ?_
          refine y_iload_n C dX8_dances_155 1 rfl rfl ?_
          refine y_icmp_ne C (tgt := 204) dX8_dances_156 rfl (fun c_34 => ?_) (fun c_34 => ?_)
          · have h_35 := ((h_33).2).1 c_34
            refine y_iinc C dX8_dances_204 12 rfl (Nat.le_of_ble_eq_true rfl) (ii_1 _) [(12, .int ((x12 + 1))), (0, .ref (A 0)), (1, .int (x1)), (2, .int (x2)), (3, .int (x3)), (4, .int (x4)), (5, .int (x5)), (6, .int (x6)), (7, .int (x7)), (8, .int (x8)), (9, .int (x9)), (10, .int (x10)), (11, .int (x11))] rfl ?_
            refine y_goto C (tgt := 122) dX8_dances_207 rfl ?_
            exact Y.sub (ih S (x6) (x7) (x8) (x9) (x10) (x11) ((x12 + 1)) (h_35)) [1, 2, 3, 4, 5, 6, 7, 8, 9, 10, 11, 12, 0] rfl
          · have h_36 := ((h_33).2).2 c_34
            refine y_aload_n C dX8_dances_159 0 rfl rfl ?_
            refine yg_X8_43_wM0 C dX8_dances_160 ?_
            refine y_iconst C dX8_dances_163 ic_4 ?_
            refine y_iload C dX8_dances_164 12 rfl ?_
            refine y_imul C dX8_dances_166 ?_
            refine y_iconst C dX8_dances_167 ic_1 ?_
            refine y_iadd C dX8_dances_168 ?_
            refine y_iald C (wM_10 ..) rfl (h_36).1 dX8_dances_169 ?_
            refine y_iload C dX8_dances_170 8 rfl ?_
            refine y_icmp_eq C (tgt := 178) dX8_dances_172 rfl (fun c_37 => ?_) (fun c_37 => ?_)
            · have h_38 := ((h_36).2).1 c_37
              refine y_aload_n C dX8_dances_178 0 rfl rfl ?_
              refine yg_X8_43_wM0 C dX8_dances_179 ?_
              refine y_iconst C dX8_dances_182 ic_4 ?_
              refine y_iload C dX8_dances_183 12 rfl ?_
              refine y_imul C dX8_dances_185 ?_
              refine y_iconst C dX8_dances_186 ic_2 ?_
              refine y_iadd C dX8_dances_187 ?_
              refine y_iald C (wM_10 ..) rfl (h_38).1 dX8_dances_188 ?_
              refine y_istore C dX8_dances_189 (Nat.le_of_ble_eq_true rfl) [(10, .int ((S.1 10 (((4 * x12) + 2)).toNatClampNeg))), (0, .ref (A 0)), (1, .int (x1)), (2, .int (x2)), (3, .int (x3)), (4, .int (x4)), (5, .int (x5)), (6, .int (x6)), (7, .int (x7)), (8, .int (x8)), (9, .int (x9)), (11, .int (x11)), (12, .int (x12))] rfl ?_
              refine y_aload_n C dX8_dances_191 1 rfl rfl ?_
              refine yg_X8_43_wM0 C dX8_dances_192 ?_
              refine y_iconst C dX8_dances_195 ic_4 ?_
              refine y_iload C dX8_dances_196 12 rfl ?_
              refine y_imul C dX8_dances_198 ?_
              refine y_iconst C dX8_dances_199 ic_3 ?_
              refine y_iadd C dX8_dances_200 ?_
              refine y_iald C (wM_10 ..) rfl ((h_38).2).1 dX8_dances_201 ?_
              refine y_istore C dX8_dances_202 (Nat.le_of_ble_eq_true rfl) [(11, .int ((S.1 10 (((4 * x12) + 3)).toNatClampNeg))), (10, .int ((S.1 10 (((4 * x12) + 2)).toNatClampNeg))), (0, .ref (A 0)), (1, .int (x1)), (2, .int (x2)), (3, .int (x3)), (4, .int (x4)), (5, .int (x5)), (6, .int (x6)), (7, .int (x7)), (8, .int (x8)), (9, .int (x9)), (12, .int (x12))] rfl ?_
              refine y_iinc C dX8_dances_204 12 rfl (Nat.le_of_ble_eq_true rfl) (ii_1 _) [(12, .int ((x12 + 1))), (11, .int ((S.1 10 (((4 * x12) + 3)).toNatClampNeg))), (10, .int ((S.1 10 (((4 * x12) + 2)).toNatClampNeg))), (0, .ref (A 0)), (1, .int (x1)), (2, .int (x2)), (3, .int (x3)), (4, .int (x4)), (5, .int (x5)), (6, .int (x6)), (7, .int (x7)), (8, .int (x8)), (9, .int (x9))] rfl ?_
              refine y_goto C (tgt := 122) dX8_dances_207 rfl ?_
              exact Y.sub (ih S (x6) (x7) (x8) (x9) ((S.1 10 (((4 * x12) + 2)).toNatClampNeg)) ((S.1 10 (((4 * x12) + 3)).toNatClampNeg)) ((x12 + 1)) (((h_38).2).2)) [3, 4, 5, 6, 7, 8, 9, 10, 11, 12, 2, 1, 0] rfl
            · have h_39 := ((h_36).2).2 c_37
              refine y_goto C (tgt := 204) dX8_dances_175 rfl ?_
              refine y_iinc C dX8_dances_204 12 rfl (Nat.le_of_ble_eq_true rfl) (ii_1 _) [(12, .int ((x12 + 1))), (0, .ref (A 0)), (1, .int (x1)), (2, .int (x2)), (3, .int (x3)), (4, .int (x4)), (5, .int (x5)), (6, .int (x6)), (7, .int (x7)), (8, .int (x8)), (9, .int (x9)), (10, .int (x10)), (11, .int (x11))] rfl ?_
              refine y_goto C (tgt := 122) dX8_dances_207 rfl ?_
              exact Y.sub (ih S (x6) (x7) (x8) (x9) (x10) (x11) ((x12 + 1)) (h_39)) [1, 2, 3, 4, 5, 6, 7, 8, 9, 10, 11, 12, 0] rfl
set_option maxRecDepth 100000 in
theorem wk_m_dances_b61 {G : Gx} {K : Kx} {A : Nat → Nat} (C : KOk G K RX8 cX8_dances rm_m_dances 13 none) {B : Nat → Prop} (M : KM G K B) {Q : St → Prop} (N : KQv G K B (wM G A) Q) (x1 : Int32) (x2 : Int32) (x3 : Int32) (x4 : Int32) (x5 : Int32) (K20 : St → Int32 → Int32 → Int32 → Prop) (hK20 : ∀ (S : St) (x6 : Int32) (x7 : Int32) (x8 : Int32), K20 S x6 x7 x8 → Y G K 0 0 (wM G A S) 20 [(0, .ref (A 0)), (1, .int (x1)), (2, .int (x2)), (3, .int (x3)), (4, .int (x4)), (5, .int (x5)), (6, .int (x6)), (7, .int (x7)), (8, .int (x8))] []) (S : St) (x6 : Int32) (x7 : Int32) (x8 : Int32) (x9 : Int32) (s0 : Int32) (s1 : Int32) (h : wp_m_dances_b61 Q x1 x2 x3 x4 x5 K20 S x6 x7 x8 x9 s0 s1) : Y G K 0 0 (wM G A S) 61 [(0, .ref (A 0)), (1, .int (x1)), (2, .int (x2)), (3, .int (x3)), (4, .int (x4)), (5, .int (x5)), (6, .int (x6)), (7, .int (x7)), (8, .int (x8)), (9, .int (x9))] [.int (s0), .int (s1), .ref (A 17)] := by
  refine y_iast C M (wM_17 ..) rfl (wM_s17 ..) (h).1 dX8_dances_61 ?_
  refine y_aload_n C dX8_dances_62 0 rfl rfl ?_
  refine yg_X8_68_wM0 C dX8_dances_63 ?_
  refine y_iload C dX8_dances_66 9 rfl ?_
  refine y_iconst C dX8_dances_68 icm1 ?_
  refine y_iast C M (wM_18 ..) rfl (wM_s18 ..) ((h).2).1 dX8_dances_69 ?_
  refine y_iload C dX8_dances_70 6 rfl ?_
  refine y_if_eq C (tgt := 237) dX8_dances_72 rfl (fun c_12 => ?_) (fun c_12 => ?_)
  · have h_13 := (((h).2).2).1 c_12
    refine y_iinc C dX8_dances_237 8 rfl (Nat.le_of_ble_eq_true rfl) (ii_1 _) [(8, .int ((x8 + 1))), (0, .ref (A 0)), (1, .int (x1)), (2, .int (x2)), (3, .int (x3)), (4, .int (x4)), (5, .int (x5)), (6, .int (x6)), (7, .int (x7)), (9, .int (x9))] rfl ?_
    refine y_goto C (tgt := 20) dX8_dances_240 rfl ?_
    exact Y.sub (hK20 (sI (sI S 17 (s1).toNatClampNeg s0) 18 (x9).toNatClampNeg (-1)) (x6) (x7) ((x8 + 1)) (h_13)) [1, 2, 3, 4, 5, 6, 7, 8, 0] rfl
  · have h_14 := (((h).2).2).2 c_12
    refine y_aload_n C dX8_dances_75 0 rfl rfl ?_
    refine yg_X8_46_wM0 C dX8_dances_76 ?_
    refine y_iload C dX8_dances_79 8 rfl ?_
    refine y_zald C (wM_11 ..) rfl (h_14).1 dX8_dances_81 ?_
    refine y_if_eq C (tgt := 88) dX8_dances_82 rfl (fun c_15 => ?_) (fun c_15 => ?_)
    · have h_16 := ((h_14).2).1 c_15
      refine y_aload_n C dX8_dances_88 0 rfl rfl ?_
      refine yg_X8_37_wM0 C dX8_dances_89 ?_
      refine y_bipush C dX8_dances_92 bp_12 ?_
      refine y_iload_n C dX8_dances_94 1 rfl rfl ?_
      refine y_imul C dX8_dances_95 ?_
      refine y_iload C dX8_dances_96 7 rfl ?_
      refine y_iadd C dX8_dances_98 ?_
      refine y_iald C (wM_8 ..) rfl (h_16).1 dX8_dances_99 ?_
      refine y_istore C dX8_dances_100 (Nat.le_of_ble_eq_true rfl) [(10, .int (((sI (sI S 17 (s1).toNatClampNeg s0) 18 (x9).toNatClampNeg (-1)).1 8 (((12 * x1) + x7)).toNatClampNeg))), (0, .ref (A 0)), (1, .int (x1)), (2, .int (x2)), (3, .int (x3)), (4, .int (x4)), (5, .int (x5)), (6, .int (x6)), (7, .int (x7)), (8, .int (x8)), (9, .int (x9))] rfl ?_
      refine y_iconst C dX8_dances_102 ic_0 ?_
      refine y_istore C dX8_dances_103 (Nat.le_of_ble_eq_true rfl) [(11, .int (0)), (10, .int (((sI (sI S 17 (s1).toNatClampNeg s0) 18 (x9).toNatClampNeg (-1)).1 8 (((12 * x1) + x7)).toNatClampNeg))), (0, .ref (A 0)), (1, .int (x1)), (2, .int (x2)), (3, .int (x3)), (4, .int (x4)), (5, .int (x5)), (6, .int (x6)), (7, .int (x7)), (8, .int (x8)), (9, .int (x9))] rfl ?_
      refine y_iload C dX8_dances_105 10 rfl ?_
      refine y_iload_n C dX8_dances_107 5 rfl rfl ?_
      refine y_icmp_ne C (tgt := 119) dX8_dances_108 rfl (fun c_17 => ?_) (fun c_17 => ?_)
      · have h_18 := ((h_16).2).1 c_17
        refine y_iconst C dX8_dances_119 ic_0 ?_
        refine y_istore C dX8_dances_120 (Nat.le_of_ble_eq_true rfl) [(12, .int (0)), (11, .int (0)), (10, .int (((sI (sI S 17 (s1).toNatClampNeg s0) 18 (x9).toNatClampNeg (-1)).1 8 (((12 * x1) + x7)).toNatClampNeg))), (0, .ref (A 0)), (1, .int (x1)), (2, .int (x2)), (3, .int (x3)), (4, .int (x4)), (5, .int (x5)), (6, .int (x6)), (7, .int (x7)), (8, .int (x8)), (9, .int (x9))] rfl ?_
        obtain ⟨n_19, h_20⟩ := h_18
        exact Y.sub (wk_m_dances_b122 C M N (x1) (x2) (x3) (x4) (x5) K20 hK20 n_19 (sI (sI S 17 (s1).toNatClampNeg s0) 18 (x9).toNatClampNeg (-1)) (x6) (x7) (x8) (x9) (((sI (sI S 17 (s1).toNatClampNeg s0) 18 (x9).toNatClampNeg (-1)).1 8 (((12 * x1) + x7)).toNatClampNeg)) (0) (0) h_20) [3, 4, 5, 6, 7, 8, 9, 10, 11, 12, 2, 1, 0] rfl
      · have h_21 := ((h_16).2).2 c_17
        refine y_iload C dX8_dances_111 6 rfl ?_
        refine y_istore C dX8_dances_113 (Nat.le_of_ble_eq_true rfl) [(10, .int (x4)), (11, .int (0)), (0, .ref (A 0)), (1, .int (x1)), (2, .int (x2)), (3, .int (x3)), (4, .int (x4)), (5, .int (x5)), (6, .int (x6)), (7, .int (x7)), (8, .int (x8)), (9, .int (x9))] rfl ?_
        refine y_iload C dX8_dances_115 7 rfl ?_
        refine y_istore C dX8_dances_117 (Nat.le_of_ble_eq_true rfl) [(11, .int (x5)), (10, .int (x4)), (0, .ref (A 0)), (1, .int (x1)), (2, .int (x2)), (3, .int (x3)), (4, .int (x4)), (5, .int (x5)), (6, .int (x6)), (7, .int (x7)), (8, .int (x8)), (9, .int (x9))] rfl ?_
        refine y_iconst C dX8_dances_119 ic_0 ?_
        refine y_istore C dX8_dances_120 (Nat.le_of_ble_eq_true rfl) [(12, .int (0)), (11, .int (x5)), (10, .int (x4)), (0, .ref (A 0)), (1, .int (x1)), (2, .int (x2)), (3, .int (x3)), (4, .int (x4)), (5, .int (x5)), (6, .int (x6)), (7, .int (x7)), (8, .int (x8)), (9, .int (x9))] rfl ?_
        obtain ⟨n_22, h_23⟩ := h_21
        exact Y.sub (wk_m_dances_b122 C M N (x1) (x2) (x3) (x4) (x5) K20 hK20 n_22 (sI (sI S 17 (s1).toNatClampNeg s0) 18 (x9).toNatClampNeg (-1)) (x6) (x7) (x8) (x9) (x4) (x5) (0) h_23) [3, 4, 5, 6, 7, 8, 9, 10, 11, 12, 2, 1, 0] rfl
    · have h_24 := ((h_14).2).2 c_15
      refine y_goto C (tgt := 237) dX8_dances_85 rfl ?_
      refine y_iinc C dX8_dances_237 8 rfl (Nat.le_of_ble_eq_true rfl) (ii_1 _) [(8, .int ((x8 + 1))), (0, .ref (A 0)), (1, .int (x1)), (2, .int (x2)), (3, .int (x3)), (4, .int (x4)), (5, .int (x5)), (6, .int (x6)), (7, .int (x7)), (9, .int (x9))] rfl ?_
      refine y_goto C (tgt := 20) dX8_dances_240 rfl ?_
      exact Y.sub (hK20 (sI (sI S 17 (s1).toNatClampNeg s0) 18 (x9).toNatClampNeg (-1)) (x6) (x7) ((x8 + 1)) (h_24)) [1, 2, 3, 4, 5, 6, 7, 8, 0] rfl
set_option maxRecDepth 100000 in
theorem wk_m_dances_b20 {G : Gx} {K : Kx} {A : Nat → Nat} (C : KOk G K RX8 cX8_dances rm_m_dances 13 none) {B : Nat → Prop} (M : KM G K B) {Q : St → Prop} (N : KQv G K B (wM G A) Q) (x1 : Int32) (x2 : Int32) (x3 : Int32) (x4 : Int32) (x5 : Int32) : ∀ (n : Nat), ∀ (S : St) (x6 : Int32) (x7 : Int32) (x8 : Int32), wp_m_dances_b20 Q x1 x2 x3 x4 x5 n S x6 x7 x8 → Y G K 0 0 (wM G A S) 20 [(0, .ref (A 0)), (1, .int (x1)), (2, .int (x2)), (3, .int (x3)), (4, .int (x4)), (5, .int (x5)), (6, .int (x6)), (7, .int (x7)), (8, .int (x8))] [] := by
  intro n
  induction n with
  | zero => intro S x6 x7 x8 h; exact h.elim
  | succ n ih =>
    intro S x6 x7 x8 h
    dsimp only [wp_m_dances_b20] at h
    refine y_iload C dX8_dances_20 8 rfl ?_
    refine y_sipush C dX8_dances_22 sp_200 ?_
    refine y_icmp_ge C (tgt := 243) dX8_dances_25 rfl (fun c_6 => ?_) (fun c_6 => ?_)
    · have h_7 := (h).1 c_6
      exact y_vretM C M N rfl (S := S) rfl (h_7) dX8_dances_243
    · have h_8 := (h).2 c_6
      refine y_sipush C dX8_dances_28 sp_200 ?_
      refine y_iload_n C dX8_dances_31 1 rfl rfl ?_
      refine y_imul C dX8_dances_32 ?_
      refine y_iload C dX8_dances_33 8 rfl ?_
      refine y_iadd C dX8_dances_35 ?_
      refine y_istore C dX8_dances_36 (Nat.le_of_ble_eq_true rfl) [(9, .int (((200 * x1) + x8))), (0, .ref (A 0)), (1, .int (x1)), (2, .int (x2)), (3, .int (x3)), (4, .int (x4)), (5, .int (x5)), (6, .int (x6)), (7, .int (x7)), (8, .int (x8))] rfl ?_
      refine y_aload_n C dX8_dances_38 1 rfl rfl ?_
      refine yg_X8_65_wM0 C dX8_dances_39 ?_
      refine y_sipush C dX8_dances_42 sp_201 ?_
      refine y_iload_n C dX8_dances_45 2 rfl rfl ?_
      refine y_imul C dX8_dances_46 ?_
      refine y_iload C dX8_dances_47 9 rfl ?_
      refine y_iadd C dX8_dances_49 ?_
      refine y_iload C dX8_dances_50 7 rfl ?_
      refine y_if_ne C (tgt := 59) dX8_dances_52 rfl (fun c_9 => ?_) (fun c_9 => ?_)
      · have h_10 := (h_8).1 c_9
        refine y_iload C dX8_dances_59 8 rfl ?_
        exact Y.sub (wk_m_dances_b61 C M N (x1) (x2) (x3) (x4) (x5) (fun Sy y6 y7 y8 => wp_m_dances_b20 Q x1 x2 x3 x4 x5 n Sy y6 y7 y8) ih S (x6) (x7) (x8) (((200 * x1) + x8)) (x7) (((201 * x1) + x8)) (h_10)) [1, 2, 3, 4, 5, 6, 7, 8, 9, 0] rfl
      · have h_11 := (h_8).2 c_9
        refine y_iconst C dX8_dances_55 icm1 ?_
        refine y_goto C (tgt := 61) dX8_dances_56 rfl ?_
        exact Y.sub (wk_m_dances_b61 C M N (x1) (x2) (x3) (x4) (x5) (fun Sy y6 y7 y8 => wp_m_dances_b20 Q x1 x2 x3 x4 x5 n Sy y6 y7 y8) ih S (x6) (x7) (x8) (((200 * x1) + x8)) ((-1)) (((201 * x1) + x8)) (h_11)) [1, 2, 3, 4, 5, 6, 7, 8, 9, 0] rfl
set_option maxRecDepth 100000 in
theorem met_m_dances (G : Gx) (A : Nat → Nat) (S : St) (x1 : Int32) (x2 : Int32) (x3 : Int32) (x4 : Int32) (x5 : Int32) (Q : St → Prop) (h : wp_m_dances S x1 x2 x3 x4 x5 Q) : Mv G yX8_dances (ws_ yX8_dances cX8_dances 13 none) rm_m_dances (wM G A S) [.ref (A 0), .int (x1), .int (x2), .int (x3), .int (x4), .int (x5)] (wM G A) Q := by
  refine ent_Mv (by decide +kernel) rfl (Nat.le_of_ble_eq_true rfl) [(0, .ref (A 0)), (1, .int (x1)), (2, .int (x2)), (3, .int (x3)), (4, .int (x4)), (5, .int (x5))] rfl (fun K B C M N => ?_)
  refine y_aload_n C dX8_dances_0 0 rfl rfl ?_
  refine y_iload_n C dX8_dances_1 1 rfl rfl ?_
  refine y_callRiV (As := [.int (x1)]) (rest := []) C cs_X8_264 (met_m_lengthOf G A S (x1) _ (h)) (fun _ h => h) (wM_0 ..) rfl rfl ⟨rfl, rfl, Nat.le_of_ble_eq_true rfl, Nat.le_of_ble_eq_true rfl⟩ rfl rfl (Nat.le_of_ble_eq_true rfl) dX8_dances_2 ⟨Nat.zero_le _, Nat.zero_le _⟩ (fun r_1 h_2 => ?_)
  refine y_istore C dX8_dances_5 (Nat.le_of_ble_eq_true rfl) [(6, .int (r_1)), (0, .ref (A 0)), (1, .int (x1)), (2, .int (x2)), (3, .int (x3)), (4, .int (x4)), (5, .int (x5))] rfl ?_
  refine y_aload_n C dX8_dances_7 1 rfl rfl ?_
  refine yg_X8_34_wM0 C dX8_dances_8 ?_
  refine y_iconst C dX8_dances_11 ic_5 ?_
  refine y_iload_n C dX8_dances_12 2 rfl rfl ?_
  refine y_iadd C dX8_dances_13 ?_
  refine y_iald C (wM_7 ..) rfl (h_2).1 dX8_dances_14 ?_
  refine y_istore C dX8_dances_15 (Nat.le_of_ble_eq_true rfl) [(7, .int ((S.1 7 ((5 + x1)).toNatClampNeg))), (6, .int (r_1)), (0, .ref (A 0)), (1, .int (x1)), (2, .int (x2)), (3, .int (x3)), (4, .int (x4)), (5, .int (x5))] rfl ?_
  refine y_iconst C dX8_dances_17 ic_0 ?_
  refine y_istore C dX8_dances_18 (Nat.le_of_ble_eq_true rfl) [(8, .int (0)), (7, .int ((S.1 7 ((5 + x1)).toNatClampNeg))), (6, .int (r_1)), (0, .ref (A 0)), (1, .int (x1)), (2, .int (x2)), (3, .int (x3)), (4, .int (x4)), (5, .int (x5))] rfl ?_
  obtain ⟨n_4, h_5⟩ := (h_2).2
  exact Y.sub (wk_m_dances_b20 C M N (x1) (x2) (x3) (x4) (x5) n_4 S (r_1) ((S.1 7 ((5 + x1)).toNatClampNeg)) (0) h_5) [3, 4, 5, 6, 7, 8, 2, 1, 0] rfl
/-! OverHillModel laysBut(I)V: m_laysBut -/
abbrev rm_m_laysBut : Room := { frames := 3, cells := 0, slots := 0, locals := 93 }
def wp_m_laysBut (S : St) (x1 : Int32) (Q : St → Prop) : Prop :=
  wp_m_dances S (0) (x1) ((-1)) (0) (0) (fun S_3 => wp_m_dances S_3 (1) (x1) ((-1)) (0) (0) (fun S_6 => Q S_6))
set_option maxRecDepth 100000 in
theorem met_m_laysBut (G : Gx) (A : Nat → Nat) (S : St) (x1 : Int32) (Q : St → Prop) (h : wp_m_laysBut S x1 Q) : Mv G yX8_laysBut (ws_ yX8_laysBut cX8_laysBut 2 none) rm_m_laysBut (wM G A S) [.ref (A 0), .int (x1)] (wM G A) Q := by
  refine ent_Mv (by decide +kernel) rfl (Nat.le_of_ble_eq_true rfl) [(0, .ref (A 0)), (1, .int (x1))] rfl (fun K B C M N => ?_)
  refine y_aload_n C dX8_laysBut_0 0 rfl rfl ?_
  refine y_iconst C dX8_laysBut_1 ic_0 ?_
  refine y_iload_n C dX8_laysBut_2 1 rfl rfl ?_
  refine y_iconst C dX8_laysBut_3 icm1 ?_
  refine y_iconst C dX8_laysBut_4 ic_0 ?_
  refine y_iconst C dX8_laysBut_5 ic_0 ?_
  refine y_callMvV (k' := 0) (n' := 0) (As := [.int (0), .int (x1), .int ((-1)), .int (0), .int (0)]) (rest := []) C M cs_X8_273 (met_m_dances G A S (0) (x1) ((-1)) (0) (0) _ (h)) (wM_0 ..) rfl rfl ⟨rfl, rfl, Nat.le_of_ble_eq_true rfl, Nat.le_of_ble_eq_true rfl⟩ rfl rfl (Nat.le_of_ble_eq_true rfl) dX8_laysBut_6 ⟨Nat.zero_le _, Nat.zero_le _⟩ rfl rfl (fun S_3 h_2 => ?_)
  refine y_aload_n C dX8_laysBut_9 0 rfl rfl ?_
  refine y_iconst C dX8_laysBut_10 ic_1 ?_
  refine y_iload_n C dX8_laysBut_11 1 rfl rfl ?_
  refine y_iconst C dX8_laysBut_12 icm1 ?_
  refine y_iconst C dX8_laysBut_13 ic_0 ?_
  refine y_iconst C dX8_laysBut_14 ic_0 ?_
  refine y_callMvV (k' := 0) (n' := 0) (As := [.int (1), .int (x1), .int ((-1)), .int (0), .int (0)]) (rest := []) C M cs_X8_273 (met_m_dances G A S_3 (1) (x1) ((-1)) (0) (0) _ (h_2)) (wM_0 ..) rfl rfl ⟨rfl, rfl, Nat.le_of_ble_eq_true rfl, Nat.le_of_ble_eq_true rfl⟩ rfl rfl (Nat.le_of_ble_eq_true rfl) dX8_laysBut_15 ⟨Nat.zero_le _, Nat.zero_le _⟩ rfl rfl (fun S_6 h_5 => ?_)
  exact y_vretM C M N rfl (S := S_6) rfl (h_5) dX8_laysBut_18
/-! OverHillModel lays()V: m_lays -/
abbrev rm_m_lays : Room := { frames := 4, cells := 0, slots := 0, locals := 114 }
def wp_m_lays (S : St) (Q : St → Prop) : Prop :=
  wp_m_laysBut S ((-1)) (fun S_3 => Q S_3)
set_option maxRecDepth 100000 in
theorem met_m_lays (G : Gx) (A : Nat → Nat) (S : St) (Q : St → Prop) (h : wp_m_lays S Q) : Mv G yX8_lays (ws_ yX8_lays cX8_lays 1 none) rm_m_lays (wM G A S) [.ref (A 0)] (wM G A) Q := by
  refine ent_Mv (by decide +kernel) rfl (Nat.le_of_ble_eq_true rfl) [(0, .ref (A 0))] rfl (fun K B C M N => ?_)
  refine y_aload_n C dX8_lays_0 0 rfl rfl ?_
  refine y_iconst C dX8_lays_1 icm1 ?_
  refine y_callMvV (k' := 0) (n' := 0) (As := [.int ((-1))]) (rest := []) C M cs_X8_277 (met_m_laysBut G A S ((-1)) _ (h)) (wM_0 ..) rfl rfl ⟨rfl, rfl, Nat.le_of_ble_eq_true rfl, Nat.le_of_ble_eq_true rfl⟩ rfl rfl (Nat.le_of_ble_eq_true rfl) dX8_lays_2 ⟨Nat.zero_le _, Nat.zero_le _⟩ rfl rfl (fun S_3 h_2 => ?_)
  exact y_vretM C M N rfl (S := S_3) rfl (h_2) dX8_lays_5
/-! OverHillModel place(II)I: m_place -/
abbrev rm_m_place : Room := { frames := 5, cells := 0, slots := 0, locals := 134 }
def wp_m_place (S : St) (x1 : Int32) (x2 : Int32) (Q : Int32 → St → Prop) : Prop :=
  wp_m_isSide (sI S 0 0 0) (x1) (fun r_1 => ((r_1 = 0 → Q (-2) (sI S 0 0 0)) ∧ (¬ r_1 = 0 → wp_m_isBeat ((x2).toInt64) (fun r_7 => ((¬ r_7 = 0 → wp_m_lays (sI S 0 0 0) (fun S_14 => (vp_in ((201 * x1) + x2) 402 ∧ Q (S_14.1 17 (((201 * x1) + x2)).toNatClampNeg) S_14))) ∧ (r_7 = 0 → Q (-2) (sI S 0 0 0)))))))
set_option maxRecDepth 100000 in
theorem met_m_place (G : Gx) (A : Nat → Nat) (S : St) (x1 : Int32) (x2 : Int32) (Q : Int32 → St → Prop) (h : wp_m_place S x1 x2 Q) : Mi G yX8_place (ws_ yX8_place cX8_place 3 (some .int)) rm_m_place (wM G A S) [.ref (A 0), .int (x1), .int (x2)] (wM G A) Q := by
  refine ent_Mi (by decide +kernel) rfl (Nat.le_of_ble_eq_true rfl) [(0, .ref (A 0)), (1, .int (x1)), (2, .int (x2))] rfl (fun K B C M N => ?_)
  refine y_aload_n C dX8_place_0 0 rfl rfl ?_
  refine y_iconst C dX8_place_1 ic_0 ?_
  refine yp_X8_80_wM0 C M dX8_place_2 ?_
  refine y_aload_n C dX8_place_5 0 rfl rfl ?_
  refine y_iload_n C dX8_place_6 1 rfl rfl ?_
  refine y_callRiV (As := [.int (x1)]) (rest := []) C cs_X8_261 (met_m_isSide G A (sI S 0 0 0) (x1) _ (h)) (fun _ h => h) (wM_0 ..) rfl rfl ⟨rfl, rfl, Nat.le_of_ble_eq_true rfl, Nat.le_of_ble_eq_true rfl⟩ rfl rfl (Nat.le_of_ble_eq_true rfl) dX8_place_7 ⟨Nat.zero_le _, Nat.zero_le _⟩ (fun r_1 h_2 => ?_)
  refine y_if_eq C (tgt := 21) dX8_place_10 rfl (fun c_4 => ?_) (fun c_4 => ?_)
  · have h_5 := (h_2).1 c_4
    refine y_bipush C dX8_place_21 bpm2 ?_
    exact y_iretM C M N rfl (S := (sI S 0 0 0)) rfl (h_5) dX8_place_23
  · have h_6 := (h_2).2 c_4
    refine y_iload_n C dX8_place_13 2 rfl rfl ?_
    refine y_i2l C dX8_place_14 rfl ?_
    refine y_callRiS (As := [.long ((x2).toInt64)]) (rest := []) C cs_X8_270 (met_m_isBeat G ((x2).toInt64) _ (h_6)) (fun _ _ => pw_nil) ⟨rfl, rfl, Nat.le_of_ble_eq_true rfl, Nat.le_of_ble_eq_true rfl⟩ rfl rfl (Nat.le_of_ble_eq_true rfl) dX8_place_15 ⟨Nat.zero_le _, Nat.zero_le _⟩ (fun r_7 h_8 => ?_)
    refine y_if_ne C (tgt := 24) dX8_place_18 rfl (fun c_10 => ?_) (fun c_10 => ?_)
    · have h_11 := (h_8).1 c_10
      refine y_aload_n C dX8_place_24 0 rfl rfl ?_
      refine y_callMvV (k' := 0) (n' := 0) (As := []) (rest := []) C M cs_X8_290 (met_m_lays G A (sI S 0 0 0) _ (h_11)) (wM_0 ..) rfl rfl ⟨rfl, rfl, Nat.le_of_ble_eq_true rfl, Nat.le_of_ble_eq_true rfl⟩ rfl rfl (Nat.le_of_ble_eq_true rfl) dX8_place_25 ⟨Nat.zero_le _, Nat.zero_le _⟩ rfl rfl (fun S_14 h_13 => ?_)
      refine y_aload_n C dX8_place_28 0 rfl rfl ?_
      refine yg_X8_65_wM0 C dX8_place_29 ?_
      refine y_sipush C dX8_place_32 sp_201 ?_
      refine y_iload_n C dX8_place_35 1 rfl rfl ?_
      refine y_imul C dX8_place_36 ?_
      refine y_iload_n C dX8_place_37 2 rfl rfl ?_
      refine y_iadd C dX8_place_38 ?_
      refine y_iald C (wM_17 ..) rfl (h_13).1 dX8_place_39 ?_
      exact y_iretM C M N rfl (S := S_14) rfl ((h_13).2) dX8_place_40
    · have h_15 := (h_8).2 c_10
      refine y_bipush C dX8_place_21 bpm2 ?_
      exact y_iretM C M N rfl (S := (sI S 0 0 0)) rfl (h_15) dX8_place_23
/-! OverHillModel danced(II)I: m_danced -/
abbrev rm_m_danced : Room := { frames := 5, cells := 0, slots := 0, locals := 134 }
def wp_m_danced (S : St) (x1 : Int32) (x2 : Int32) (Q : Int32 → St → Prop) : Prop :=
  wp_m_isSide (sI S 0 0 0) (x1) (fun r_1 => ((r_1 = 0 → Q (-2) (sI S 0 0 0)) ∧ (¬ r_1 = 0 → wp_m_isBeat ((x2).toInt64) (fun r_7 => ((¬ r_7 = 0 → wp_m_lays (sI S 0 0 0) (fun S_14 => (vp_in ((200 * x1) + x2) 400 ∧ Q (S_14.1 18 (((200 * x1) + x2)).toNatClampNeg) S_14))) ∧ (r_7 = 0 → Q (-2) (sI S 0 0 0)))))))
set_option maxRecDepth 100000 in
theorem met_m_danced (G : Gx) (A : Nat → Nat) (S : St) (x1 : Int32) (x2 : Int32) (Q : Int32 → St → Prop) (h : wp_m_danced S x1 x2 Q) : Mi G yX8_danced (ws_ yX8_danced cX8_danced 3 (some .int)) rm_m_danced (wM G A S) [.ref (A 0), .int (x1), .int (x2)] (wM G A) Q := by
  refine ent_Mi (by decide +kernel) rfl (Nat.le_of_ble_eq_true rfl) [(0, .ref (A 0)), (1, .int (x1)), (2, .int (x2))] rfl (fun K B C M N => ?_)
  refine y_aload_n C dX8_danced_0 0 rfl rfl ?_
  refine y_iconst C dX8_danced_1 ic_0 ?_
  refine yp_X8_80_wM0 C M dX8_danced_2 ?_
  refine y_aload_n C dX8_danced_5 0 rfl rfl ?_
  refine y_iload_n C dX8_danced_6 1 rfl rfl ?_
  refine y_callRiV (As := [.int (x1)]) (rest := []) C cs_X8_261 (met_m_isSide G A (sI S 0 0 0) (x1) _ (h)) (fun _ h => h) (wM_0 ..) rfl rfl ⟨rfl, rfl, Nat.le_of_ble_eq_true rfl, Nat.le_of_ble_eq_true rfl⟩ rfl rfl (Nat.le_of_ble_eq_true rfl) dX8_danced_7 ⟨Nat.zero_le _, Nat.zero_le _⟩ (fun r_1 h_2 => ?_)
  refine y_if_eq C (tgt := 21) dX8_danced_10 rfl (fun c_4 => ?_) (fun c_4 => ?_)
  · have h_5 := (h_2).1 c_4
    refine y_bipush C dX8_danced_21 bpm2 ?_
    exact y_iretM C M N rfl (S := (sI S 0 0 0)) rfl (h_5) dX8_danced_23
  · have h_6 := (h_2).2 c_4
    refine y_iload_n C dX8_danced_13 2 rfl rfl ?_
    refine y_i2l C dX8_danced_14 rfl ?_
    refine y_callRiS (As := [.long ((x2).toInt64)]) (rest := []) C cs_X8_270 (met_m_isBeat G ((x2).toInt64) _ (h_6)) (fun _ _ => pw_nil) ⟨rfl, rfl, Nat.le_of_ble_eq_true rfl, Nat.le_of_ble_eq_true rfl⟩ rfl rfl (Nat.le_of_ble_eq_true rfl) dX8_danced_15 ⟨Nat.zero_le _, Nat.zero_le _⟩ (fun r_7 h_8 => ?_)
    refine y_if_ne C (tgt := 24) dX8_danced_18 rfl (fun c_10 => ?_) (fun c_10 => ?_)
    · have h_11 := (h_8).1 c_10
      refine y_aload_n C dX8_danced_24 0 rfl rfl ?_
      refine y_callMvV (k' := 0) (n' := 0) (As := []) (rest := []) C M cs_X8_290 (met_m_lays G A (sI S 0 0 0) _ (h_11)) (wM_0 ..) rfl rfl ⟨rfl, rfl, Nat.le_of_ble_eq_true rfl, Nat.le_of_ble_eq_true rfl⟩ rfl rfl (Nat.le_of_ble_eq_true rfl) dX8_danced_25 ⟨Nat.zero_le _, Nat.zero_le _⟩ rfl rfl (fun S_14 h_13 => ?_)
      refine y_aload_n C dX8_danced_28 0 rfl rfl ?_
      refine yg_X8_68_wM0 C dX8_danced_29 ?_
      refine y_sipush C dX8_danced_32 sp_200 ?_
      refine y_iload_n C dX8_danced_35 1 rfl rfl ?_
      refine y_imul C dX8_danced_36 ?_
      refine y_iload_n C dX8_danced_37 2 rfl rfl ?_
      refine y_iadd C dX8_danced_38 ?_
      refine y_iald C (wM_18 ..) rfl (h_13).1 dX8_danced_39 ?_
      exact y_iretM C M N rfl (S := S_14) rfl ((h_13).2) dX8_danced_40
    · have h_15 := (h_8).2 c_10
      refine y_bipush C dX8_danced_21 bpm2 ?_
      exact y_iretM C M N rfl (S := (sI S 0 0 0)) rfl (h_15) dX8_danced_23
/-! OverHillModel hearsAt(II)I: m_hearsAt -/
abbrev rm_m_hearsAt : Room := { frames := 1, cells := 0, slots := 0, locals := 40 }
def wp_m_hearsAt (S : St) (x1 : Int32) (x2 : Int32) (Q : Int32 → Prop) : Prop :=
  (((S.1 7 0) ≤ x2 → (vp_in (((200 * (1 - x1)) + x2) - (S.1 7 0)) 400 ∧ Q (S.1 18 ((((200 * (1 - x1)) + x2) - (S.1 7 0))).toNatClampNeg))) ∧ (¬ (S.1 7 0) ≤ x2 → Q (-1)))
set_option maxRecDepth 100000 in
theorem met_m_hearsAt (G : Gx) (A : Nat → Nat) (S : St) (x1 : Int32) (x2 : Int32) (Q : Int32 → Prop) (h : wp_m_hearsAt S x1 x2 Q) : Ri G yX8_hearsAt (ws_ yX8_hearsAt cX8_hearsAt 3 (some .int)) rm_m_hearsAt (wM G A S) [.ref (A 0), .int (x1), .int (x2)] Q := by
  refine ent_Ri (by decide +kernel) rfl (Nat.le_of_ble_eq_true rfl) [(0, .ref (A 0)), (1, .int (x1)), (2, .int (x2))] rfl (fun K C N => ?_)
  refine y_iload_n C dX8_hearsAt_0 2 rfl rfl ?_
  refine y_aload_n C dX8_hearsAt_1 0 rfl rfl ?_
  refine yg_X8_34_wM0 C dX8_hearsAt_2 ?_
  refine y_iconst C dX8_hearsAt_5 ic_0 ?_
  refine y_iald C (wM_7 ..) tn_0 vi_0_55 dX8_hearsAt_6 ?_
  refine y_icmp_ge C (tgt := 14) dX8_hearsAt_7 rfl (fun c_1 => ?_) (fun c_1 => ?_)
  · have h_2 := (h).1 c_1
    refine y_aload_n C dX8_hearsAt_14 0 rfl rfl ?_
    refine yg_X8_68_wM0 C dX8_hearsAt_15 ?_
    refine y_sipush C dX8_hearsAt_18 sp_200 ?_
    refine y_iconst C dX8_hearsAt_21 ic_1 ?_
    refine y_iload_n C dX8_hearsAt_22 1 rfl rfl ?_
    refine y_isub C dX8_hearsAt_23 ?_
    refine y_imul C dX8_hearsAt_24 ?_
    refine y_iload_n C dX8_hearsAt_25 2 rfl rfl ?_
    refine y_iadd C dX8_hearsAt_26 ?_
    refine y_aload_n C dX8_hearsAt_27 0 rfl rfl ?_
    refine yg_X8_34_wM0 C dX8_hearsAt_28 ?_
    refine y_iconst C dX8_hearsAt_31 ic_0 ?_
    refine y_iald C (wM_7 ..) tn_0 vi_0_55 dX8_hearsAt_32 ?_
    refine y_isub C dX8_hearsAt_33 ?_
    refine y_iald C (wM_18 ..) rfl (h_2).1 dX8_hearsAt_34 ?_
    exact y_iretR C N rfl ((h_2).2) dX8_hearsAt_35
  · have h_3 := (h).2 c_1
    refine y_iconst C dX8_hearsAt_10 icm1 ?_
    refine y_goto C (tgt := 35) dX8_hearsAt_11 rfl ?_
    exact y_iretR C N rfl (h_3) dX8_hearsAt_35
/-! OverHillModel hears(II)I: m_hears -/
abbrev rm_m_hears : Room := { frames := 5, cells := 0, slots := 0, locals := 134 }
def wp_m_hears (S : St) (x1 : Int32) (x2 : Int32) (Q : Int32 → St → Prop) : Prop :=
  wp_m_isSide (sI S 0 0 0) (x1) (fun r_1 => ((r_1 = 0 → Q (-2) (sI S 0 0 0)) ∧ (¬ r_1 = 0 → wp_m_isBeat ((x2).toInt64) (fun r_7 => ((¬ r_7 = 0 → wp_m_lays (sI S 0 0 0) (fun S_14 => wp_m_hearsAt S_14 (x1) (x2) (fun r_15 => Q r_15 S_14))) ∧ (r_7 = 0 → Q (-2) (sI S 0 0 0)))))))
set_option maxRecDepth 100000 in
theorem met_m_hears (G : Gx) (A : Nat → Nat) (S : St) (x1 : Int32) (x2 : Int32) (Q : Int32 → St → Prop) (h : wp_m_hears S x1 x2 Q) : Mi G yX8_hears (ws_ yX8_hears cX8_hears 3 (some .int)) rm_m_hears (wM G A S) [.ref (A 0), .int (x1), .int (x2)] (wM G A) Q := by
  refine ent_Mi (by decide +kernel) rfl (Nat.le_of_ble_eq_true rfl) [(0, .ref (A 0)), (1, .int (x1)), (2, .int (x2))] rfl (fun K B C M N => ?_)
  refine y_aload_n C dX8_hears_0 0 rfl rfl ?_
  refine y_iconst C dX8_hears_1 ic_0 ?_
  refine yp_X8_80_wM0 C M dX8_hears_2 ?_
  refine y_aload_n C dX8_hears_5 0 rfl rfl ?_
  refine y_iload_n C dX8_hears_6 1 rfl rfl ?_
  refine y_callRiV (As := [.int (x1)]) (rest := []) C cs_X8_261 (met_m_isSide G A (sI S 0 0 0) (x1) _ (h)) (fun _ h => h) (wM_0 ..) rfl rfl ⟨rfl, rfl, Nat.le_of_ble_eq_true rfl, Nat.le_of_ble_eq_true rfl⟩ rfl rfl (Nat.le_of_ble_eq_true rfl) dX8_hears_7 ⟨Nat.zero_le _, Nat.zero_le _⟩ (fun r_1 h_2 => ?_)
  refine y_if_eq C (tgt := 21) dX8_hears_10 rfl (fun c_4 => ?_) (fun c_4 => ?_)
  · have h_5 := (h_2).1 c_4
    refine y_bipush C dX8_hears_21 bpm2 ?_
    exact y_iretM C M N rfl (S := (sI S 0 0 0)) rfl (h_5) dX8_hears_23
  · have h_6 := (h_2).2 c_4
    refine y_iload_n C dX8_hears_13 2 rfl rfl ?_
    refine y_i2l C dX8_hears_14 rfl ?_
    refine y_callRiS (As := [.long ((x2).toInt64)]) (rest := []) C cs_X8_270 (met_m_isBeat G ((x2).toInt64) _ (h_6)) (fun _ _ => pw_nil) ⟨rfl, rfl, Nat.le_of_ble_eq_true rfl, Nat.le_of_ble_eq_true rfl⟩ rfl rfl (Nat.le_of_ble_eq_true rfl) dX8_hears_15 ⟨Nat.zero_le _, Nat.zero_le _⟩ (fun r_7 h_8 => ?_)
    refine y_if_ne C (tgt := 24) dX8_hears_18 rfl (fun c_10 => ?_) (fun c_10 => ?_)
    · have h_11 := (h_8).1 c_10
      refine y_aload_n C dX8_hears_24 0 rfl rfl ?_
      refine y_callMvV (k' := 0) (n' := 0) (As := []) (rest := []) C M cs_X8_290 (met_m_lays G A (sI S 0 0 0) _ (h_11)) (wM_0 ..) rfl rfl ⟨rfl, rfl, Nat.le_of_ble_eq_true rfl, Nat.le_of_ble_eq_true rfl⟩ rfl rfl (Nat.le_of_ble_eq_true rfl) dX8_hears_25 ⟨Nat.zero_le _, Nat.zero_le _⟩ rfl rfl (fun S_14 h_13 => ?_)
      refine y_aload_n C dX8_hears_28 0 rfl rfl ?_
      refine y_iload_n C dX8_hears_29 1 rfl rfl ?_
      refine y_iload_n C dX8_hears_30 2 rfl rfl ?_
      refine y_callRiV (As := [.int (x1), .int (x2)]) (rest := []) C cs_X8_284 (met_m_hearsAt G A S_14 (x1) (x2) _ (h_13)) (fun _ h => h) (wM_0 ..) rfl rfl ⟨rfl, rfl, Nat.le_of_ble_eq_true rfl, Nat.le_of_ble_eq_true rfl⟩ rfl rfl (Nat.le_of_ble_eq_true rfl) dX8_hears_31 ⟨Nat.zero_le _, Nat.zero_le _⟩ (fun r_15 h_16 => ?_)
      exact y_iretM C M N rfl (S := S_14) rfl (h_16) dX8_hears_34
    · have h_18 := (h_8).2 c_10
      refine y_bipush C dX8_hears_21 bpm2 ?_
      exact y_iretM C M N rfl (S := (sI S 0 0 0)) rfl (h_18) dX8_hears_23
/-! OverHillModel late(II)I: m_late -/
abbrev rm_m_late : Room := { frames := 5, cells := 0, slots := 0, locals := 134 }
def wp_m_late (S : St) (x1 : Int32) (x2 : Int32) (Q : Int32 → St → Prop) : Prop :=
  wp_m_isSide (sI S 0 0 0) (x1) (fun r_1 => ((r_1 = 0 → Q (-2) (sI S 0 0 0)) ∧ (¬ r_1 = 0 → wp_m_isBeat ((x2).toInt64) (fun r_7 => ((¬ r_7 = 0 → wp_m_lengthOf (sI S 0 0 0) (x1) (fun r_12 => ((¬ r_12 = 0 → wp_m_lays (sI S 0 0 0) (fun S_19 => (vp_in (5 + x1) 55 ∧ (vp_in ((201 * x1) + x2) 402 ∧ (¬ r_12 = 0 ∧ (¬ r_12 = 0 ∧ Q (irm ((irm (((S_19.1 7 ((5 + x1)).toNatClampNeg) + x2) - (S_19.1 17 (((201 * x1) + x2)).toNatClampNeg)) r_12) + r_12) r_12) S_19)))))) ∧ (r_12 = 0 → Q (-1) (sI S 0 0 0))))) ∧ (r_7 = 0 → Q (-2) (sI S 0 0 0)))))))
set_option maxRecDepth 100000 in
theorem met_m_late (G : Gx) (A : Nat → Nat) (S : St) (x1 : Int32) (x2 : Int32) (Q : Int32 → St → Prop) (h : wp_m_late S x1 x2 Q) : Mi G yX8_late (ws_ yX8_late cX8_late 4 (some .int)) rm_m_late (wM G A S) [.ref (A 0), .int (x1), .int (x2)] (wM G A) Q := by
  refine ent_Mi (by decide +kernel) rfl (Nat.le_of_ble_eq_true rfl) [(0, .ref (A 0)), (1, .int (x1)), (2, .int (x2))] rfl (fun K B C M N => ?_)
  refine y_aload_n C dX8_late_0 0 rfl rfl ?_
  refine y_iconst C dX8_late_1 ic_0 ?_
  refine yp_X8_80_wM0 C M dX8_late_2 ?_
  refine y_aload_n C dX8_late_5 0 rfl rfl ?_
  refine y_iload_n C dX8_late_6 1 rfl rfl ?_
  refine y_callRiV (As := [.int (x1)]) (rest := []) C cs_X8_261 (met_m_isSide G A (sI S 0 0 0) (x1) _ (h)) (fun _ h => h) (wM_0 ..) rfl rfl ⟨rfl, rfl, Nat.le_of_ble_eq_true rfl, Nat.le_of_ble_eq_true rfl⟩ rfl rfl (Nat.le_of_ble_eq_true rfl) dX8_late_7 ⟨Nat.zero_le _, Nat.zero_le _⟩ (fun r_1 h_2 => ?_)
  refine y_if_eq C (tgt := 21) dX8_late_10 rfl (fun c_4 => ?_) (fun c_4 => ?_)
  · have h_5 := (h_2).1 c_4
    refine y_bipush C dX8_late_21 bpm2 ?_
    exact y_iretM C M N rfl (S := (sI S 0 0 0)) rfl (h_5) dX8_late_23
  · have h_6 := (h_2).2 c_4
    refine y_iload_n C dX8_late_13 2 rfl rfl ?_
    refine y_i2l C dX8_late_14 rfl ?_
    refine y_callRiS (As := [.long ((x2).toInt64)]) (rest := []) C cs_X8_270 (met_m_isBeat G ((x2).toInt64) _ (h_6)) (fun _ _ => pw_nil) ⟨rfl, rfl, Nat.le_of_ble_eq_true rfl, Nat.le_of_ble_eq_true rfl⟩ rfl rfl (Nat.le_of_ble_eq_true rfl) dX8_late_15 ⟨Nat.zero_le _, Nat.zero_le _⟩ (fun r_7 h_8 => ?_)
    refine y_if_ne C (tgt := 24) dX8_late_18 rfl (fun c_10 => ?_) (fun c_10 => ?_)
    · have h_11 := (h_8).1 c_10
      refine y_aload_n C dX8_late_24 0 rfl rfl ?_
      refine y_iload_n C dX8_late_25 1 rfl rfl ?_
      refine y_callRiV (As := [.int (x1)]) (rest := []) C cs_X8_264 (met_m_lengthOf G A (sI S 0 0 0) (x1) _ (h_11)) (fun _ h => h) (wM_0 ..) rfl rfl ⟨rfl, rfl, Nat.le_of_ble_eq_true rfl, Nat.le_of_ble_eq_true rfl⟩ rfl rfl (Nat.le_of_ble_eq_true rfl) dX8_late_26 ⟨Nat.zero_le _, Nat.zero_le _⟩ (fun r_12 h_13 => ?_)
      refine y_istore_n C dX8_late_29 rfl (Nat.le_of_ble_eq_true rfl) [(3, .int (r_12)), (0, .ref (A 0)), (1, .int (x1)), (2, .int (x2))] rfl ?_
      refine y_iload_n C dX8_late_30 0 rfl rfl ?_
      refine y_if_ne C (tgt := 36) dX8_late_31 rfl (fun c_15 => ?_) (fun c_15 => ?_)
      · have h_16 := (h_13).1 c_15
        refine y_aload_n C dX8_late_36 1 rfl rfl ?_
        refine y_callMvV (k' := 0) (n' := 0) (As := []) (rest := []) C M cs_X8_290 (met_m_lays G A (sI S 0 0 0) _ (h_16)) (wM_0 ..) rfl rfl ⟨rfl, rfl, Nat.le_of_ble_eq_true rfl, Nat.le_of_ble_eq_true rfl⟩ rfl rfl (Nat.le_of_ble_eq_true rfl) dX8_late_37 ⟨Nat.zero_le _, Nat.zero_le _⟩ rfl rfl (fun S_19 h_18 => ?_)
        refine y_aload_n C dX8_late_40 1 rfl rfl ?_
        refine yg_X8_34_wM0 C dX8_late_41 ?_
        refine y_iconst C dX8_late_44 ic_5 ?_
        refine y_iload_n C dX8_late_45 2 rfl rfl ?_
        refine y_iadd C dX8_late_46 ?_
        refine y_iald C (wM_7 ..) rfl (h_18).1 dX8_late_47 ?_
        refine y_iload_n C dX8_late_48 3 rfl rfl ?_
        refine y_iadd C dX8_late_49 ?_
        refine y_aload_n C dX8_late_50 1 rfl rfl ?_
        refine yg_X8_65_wM0 C dX8_late_51 ?_
        refine y_sipush C dX8_late_54 sp_201 ?_
        refine y_iload_n C dX8_late_57 2 rfl rfl ?_
        refine y_imul C dX8_late_58 ?_
        refine y_iload_n C dX8_late_59 3 rfl rfl ?_
        refine y_iadd C dX8_late_60 ?_
        refine y_iald C (wM_17 ..) rfl ((h_18).2).1 dX8_late_61 ?_
        refine y_isub C dX8_late_62 ?_
        refine y_iload_n C dX8_late_63 0 rfl rfl ?_
        refine y_irem C dX8_late_64 (((h_18).2).2).1 ?_
        refine y_iload_n C dX8_late_65 0 rfl rfl ?_
        refine y_iadd C dX8_late_66 ?_
        refine y_iload_n C dX8_late_67 0 rfl rfl ?_
        refine y_irem C dX8_late_68 ((((h_18).2).2).2).1 ?_
        exact y_iretM C M N rfl (S := S_19) rfl (((((h_18).2).2).2).2) dX8_late_69
      · have h_20 := (h_13).2 c_15
        refine y_iconst C dX8_late_34 icm1 ?_
        exact y_iretM C M N rfl (S := (sI S 0 0 0)) rfl (h_20) dX8_late_35
    · have h_21 := (h_8).2 c_10
      refine y_bipush C dX8_late_21 bpm2 ?_
      exact y_iretM C M N rfl (S := (sI S 0 0 0)) rfl (h_21) dX8_late_23
/-! OverHillModel isBit(II)Z: m_isBit -/
abbrev rm_m_isBit : Room := { frames := 1, cells := 0, slots := 0, locals := 40 }
def wp_m_isBit (x0 : Int32) (x1 : Int32) (Q : Int32 → Prop) : Prop :=
  ((¬ ((x0 >>> (x1 &&& 31)) &&& 1) = 1 → Q 0) ∧ (((x0 >>> (x1 &&& 31)) &&& 1) = 1 → Q 1))
set_option maxRecDepth 100000 in
theorem met_m_isBit (G : Gx) (x0 : Int32) (x1 : Int32) (Q : Int32 → Prop) (h : wp_m_isBit x0 x1 Q) : Ri G yX8_isBit (ws_ yX8_isBit cX8_isBit 2 (some .boolean)) rm_m_isBit [] [.int (x0), .int (x1)] Q := by
  refine ent_Ri (by decide +kernel) rfl (Nat.le_of_ble_eq_true rfl) [(0, .int (x0)), (1, .int (x1))] rfl (fun K C N => ?_)
  refine y_iload_n C dX8_isBit_0 0 rfl rfl ?_
  refine y_iload_n C dX8_isBit_1 1 rfl rfl ?_
  refine y_ishr C dX8_isBit_2 ?_
  refine y_iconst C dX8_isBit_3 ic_1 ?_
  refine y_iand C dX8_isBit_4 ?_
  refine y_iconst C dX8_isBit_5 ic_1 ?_
  refine y_icmp_ne C (tgt := 13) dX8_isBit_6 rfl (fun c_1 => ?_) (fun c_1 => ?_)
  · have h_2 := (h).1 c_1
    refine y_iconst C dX8_isBit_13 ic_0 ?_
    exact y_zretR C N rfl rfl (h_2) dX8_isBit_14
  · have h_3 := (h).2 c_1
    refine y_iconst C dX8_isBit_9 ic_1 ?_
    refine y_goto C (tgt := 14) dX8_isBit_10 rfl ?_
    exact y_zretR C N rfl rfl (h_3) dX8_isBit_14
/-! OverHillModel clashes(II)Z: m_clashes -/
abbrev rm_m_clashes : Room := { frames := 2, cells := 0, slots := 0, locals := 61 }
def wp_m_clashes (S : St) (x1 : Int32) (x2 : Int32) (Q : Int32 → Prop) : Prop :=
  ((x1 = (-1) → Q 0) ∧ (¬ x1 = (-1) → ((x2 = (-1) → Q 0) ∧ (¬ x2 = (-1) → (vp_in x1 30 ∧ wp_m_isBit ((S.1 9 (x1).toNatClampNeg)) (x2) (fun r_7 => ((¬ r_7 = 0 → Q 0) ∧ (r_7 = 0 → Q 1))))))))
set_option maxRecDepth 100000 in
theorem met_m_clashes (G : Gx) (A : Nat → Nat) (S : St) (x1 : Int32) (x2 : Int32) (Q : Int32 → Prop) (h : wp_m_clashes S x1 x2 Q) : Ri G yX8_clashes (ws_ yX8_clashes cX8_clashes 3 (some .boolean)) rm_m_clashes (wM G A S) [.ref (A 0), .int (x1), .int (x2)] Q := by
  refine ent_Ri (by decide +kernel) rfl (Nat.le_of_ble_eq_true rfl) [(0, .ref (A 0)), (1, .int (x1)), (2, .int (x2))] rfl (fun K C N => ?_)
  refine y_iload_n C dX8_clashes_0 1 rfl rfl ?_
  refine y_iconst C dX8_clashes_1 icm1 ?_
  refine y_icmp_eq C (tgt := 27) dX8_clashes_2 rfl (fun c_1 => ?_) (fun c_1 => ?_)
  · have h_2 := (h).1 c_1
    refine y_iconst C dX8_clashes_27 ic_0 ?_
    exact y_zretR C N rfl rfl (h_2) dX8_clashes_28
  · have h_3 := (h).2 c_1
    refine y_iload_n C dX8_clashes_5 2 rfl rfl ?_
    refine y_iconst C dX8_clashes_6 icm1 ?_
    refine y_icmp_eq C (tgt := 27) dX8_clashes_7 rfl (fun c_4 => ?_) (fun c_4 => ?_)
    · have h_5 := (h_3).1 c_4
      refine y_iconst C dX8_clashes_27 ic_0 ?_
      exact y_zretR C N rfl rfl (h_5) dX8_clashes_28
    · have h_6 := (h_3).2 c_4
      refine y_aload_n C dX8_clashes_10 0 rfl rfl ?_
      refine yg_X8_40_wM0 C dX8_clashes_11 ?_
      refine y_iload_n C dX8_clashes_14 1 rfl rfl ?_
      refine y_iald C (wM_9 ..) rfl (h_6).1 dX8_clashes_15 ?_
      refine y_iload_n C dX8_clashes_16 2 rfl rfl ?_
      refine y_callRiS (As := [.int ((S.1 9 (x1).toNatClampNeg)), .int (x2)]) (rest := []) C cs_X8_280 (met_m_isBit G ((S.1 9 (x1).toNatClampNeg)) (x2) _ ((h_6).2)) (fun _ _ => pw_nil) ⟨rfl, rfl, Nat.le_of_ble_eq_true rfl, Nat.le_of_ble_eq_true rfl⟩ rfl rfl (Nat.le_of_ble_eq_true rfl) dX8_clashes_17 ⟨Nat.zero_le _, Nat.zero_le _⟩ (fun r_7 h_8 => ?_)
      refine y_if_ne C (tgt := 27) dX8_clashes_20 rfl (fun c_10 => ?_) (fun c_10 => ?_)
      · have h_11 := (h_8).1 c_10
        refine y_iconst C dX8_clashes_27 ic_0 ?_
        exact y_zretR C N rfl rfl (h_11) dX8_clashes_28
      · have h_12 := (h_8).2 c_10
        refine y_iconst C dX8_clashes_23 ic_1 ?_
        refine y_goto C (tgt := 28) dX8_clashes_24 rfl ?_
        exact y_zretR C N rfl rfl (h_12) dX8_clashes_28
/-! OverHillModel isHole(II)Z: m_isHole -/
abbrev rm_m_isHole : Room := { frames := 3, cells := 0, slots := 0, locals := 83 }
def wp_m_isHole (S : St) (x1 : Int32) (x2 : Int32) (Q : Int32 → Prop) : Prop :=
  (vp_in ((200 * x1) + x2) 400 ∧ wp_m_hearsAt S (x1) (x2) (fun r_1 => wp_m_clashes S ((S.1 18 (((200 * x1) + x2)).toNatClampNeg)) (r_1) (fun r_4 => (narrow .boolean (.int r_4) = .int r_4 ∧ Q r_4))))
set_option maxRecDepth 100000 in
theorem met_m_isHole (G : Gx) (A : Nat → Nat) (S : St) (x1 : Int32) (x2 : Int32) (Q : Int32 → Prop) (h : wp_m_isHole S x1 x2 Q) : Ri G yX8_isHole (ws_ yX8_isHole cX8_isHole 3 (some .boolean)) rm_m_isHole (wM G A S) [.ref (A 0), .int (x1), .int (x2)] Q := by
  refine ent_Ri (by decide +kernel) rfl (Nat.le_of_ble_eq_true rfl) [(0, .ref (A 0)), (1, .int (x1)), (2, .int (x2))] rfl (fun K C N => ?_)
  refine y_aload_n C dX8_isHole_0 0 rfl rfl ?_
  refine y_aload_n C dX8_isHole_1 0 rfl rfl ?_
  refine yg_X8_68_wM0 C dX8_isHole_2 ?_
  refine y_sipush C dX8_isHole_5 sp_200 ?_
  refine y_iload_n C dX8_isHole_8 1 rfl rfl ?_
  refine y_imul C dX8_isHole_9 ?_
  refine y_iload_n C dX8_isHole_10 2 rfl rfl ?_
  refine y_iadd C dX8_isHole_11 ?_
  refine y_iald C (wM_18 ..) rfl (h).1 dX8_isHole_12 ?_
  refine y_aload_n C dX8_isHole_13 0 rfl rfl ?_
  refine y_iload_n C dX8_isHole_14 1 rfl rfl ?_
  refine y_iload_n C dX8_isHole_15 2 rfl rfl ?_
  refine y_callRiV (As := [.int (x1), .int (x2)]) (rest := [.int ((S.1 18 (((200 * x1) + x2)).toNatClampNeg)), .ref (A 0)]) C cs_X8_284 (met_m_hearsAt G A S (x1) (x2) _ ((h).2)) (fun _ h => h) (wM_0 ..) rfl rfl ⟨rfl, rfl, Nat.le_of_ble_eq_true rfl, Nat.le_of_ble_eq_true rfl⟩ rfl rfl (Nat.le_of_ble_eq_true rfl) dX8_isHole_16 ⟨Nat.zero_le _, Nat.zero_le _⟩ (fun r_1 h_2 => ?_)
  refine y_callRiV (As := [.int ((S.1 18 (((200 * x1) + x2)).toNatClampNeg)), .int (r_1)]) (rest := []) C cs_X8_287 (met_m_clashes G A S ((S.1 18 (((200 * x1) + x2)).toNatClampNeg)) (r_1) _ (h_2)) (fun _ h => h) (wM_0 ..) rfl rfl ⟨rfl, rfl, Nat.le_of_ble_eq_true rfl, Nat.le_of_ble_eq_true rfl⟩ rfl rfl (Nat.le_of_ble_eq_true rfl) dX8_isHole_19 ⟨Nat.zero_le _, Nat.zero_le _⟩ (fun r_4 h_5 => ?_)
  exact y_zretR C N rfl (h_5).1 ((h_5).2) dX8_isHole_22
/-! OverHillModel hole(II)I: m_hole -/
abbrev rm_m_hole : Room := { frames := 5, cells := 0, slots := 0, locals := 134 }
def wp_m_hole (S : St) (x1 : Int32) (x2 : Int32) (Q : Int32 → St → Prop) : Prop :=
  wp_m_isSide (sI S 0 0 0) (x1) (fun r_1 => ((r_1 = 0 → Q (-2) (sI S 0 0 0)) ∧ (¬ r_1 = 0 → wp_m_isBeat ((x2).toInt64) (fun r_7 => ((¬ r_7 = 0 → wp_m_lays (sI S 0 0 0) (fun S_14 => wp_m_isHole S_14 (x1) (x2) (fun r_15 => ((r_15 = 0 → Q 0 S_14) ∧ (¬ r_15 = 0 → Q 1 S_14))))) ∧ (r_7 = 0 → Q (-2) (sI S 0 0 0)))))))
set_option maxRecDepth 100000 in
theorem met_m_hole (G : Gx) (A : Nat → Nat) (S : St) (x1 : Int32) (x2 : Int32) (Q : Int32 → St → Prop) (h : wp_m_hole S x1 x2 Q) : Mi G yX8_hole (ws_ yX8_hole cX8_hole 3 (some .int)) rm_m_hole (wM G A S) [.ref (A 0), .int (x1), .int (x2)] (wM G A) Q := by
  refine ent_Mi (by decide +kernel) rfl (Nat.le_of_ble_eq_true rfl) [(0, .ref (A 0)), (1, .int (x1)), (2, .int (x2))] rfl (fun K B C M N => ?_)
  refine y_aload_n C dX8_hole_0 0 rfl rfl ?_
  refine y_iconst C dX8_hole_1 ic_0 ?_
  refine yp_X8_80_wM0 C M dX8_hole_2 ?_
  refine y_aload_n C dX8_hole_5 0 rfl rfl ?_
  refine y_iload_n C dX8_hole_6 1 rfl rfl ?_
  refine y_callRiV (As := [.int (x1)]) (rest := []) C cs_X8_261 (met_m_isSide G A (sI S 0 0 0) (x1) _ (h)) (fun _ h => h) (wM_0 ..) rfl rfl ⟨rfl, rfl, Nat.le_of_ble_eq_true rfl, Nat.le_of_ble_eq_true rfl⟩ rfl rfl (Nat.le_of_ble_eq_true rfl) dX8_hole_7 ⟨Nat.zero_le _, Nat.zero_le _⟩ (fun r_1 h_2 => ?_)
  refine y_if_eq C (tgt := 21) dX8_hole_10 rfl (fun c_4 => ?_) (fun c_4 => ?_)
  · have h_5 := (h_2).1 c_4
    refine y_bipush C dX8_hole_21 bpm2 ?_
    exact y_iretM C M N rfl (S := (sI S 0 0 0)) rfl (h_5) dX8_hole_23
  · have h_6 := (h_2).2 c_4
    refine y_iload_n C dX8_hole_13 2 rfl rfl ?_
    refine y_i2l C dX8_hole_14 rfl ?_
    refine y_callRiS (As := [.long ((x2).toInt64)]) (rest := []) C cs_X8_270 (met_m_isBeat G ((x2).toInt64) _ (h_6)) (fun _ _ => pw_nil) ⟨rfl, rfl, Nat.le_of_ble_eq_true rfl, Nat.le_of_ble_eq_true rfl⟩ rfl rfl (Nat.le_of_ble_eq_true rfl) dX8_hole_15 ⟨Nat.zero_le _, Nat.zero_le _⟩ (fun r_7 h_8 => ?_)
    refine y_if_ne C (tgt := 24) dX8_hole_18 rfl (fun c_10 => ?_) (fun c_10 => ?_)
    · have h_11 := (h_8).1 c_10
      refine y_aload_n C dX8_hole_24 0 rfl rfl ?_
      refine y_callMvV (k' := 0) (n' := 0) (As := []) (rest := []) C M cs_X8_290 (met_m_lays G A (sI S 0 0 0) _ (h_11)) (wM_0 ..) rfl rfl ⟨rfl, rfl, Nat.le_of_ble_eq_true rfl, Nat.le_of_ble_eq_true rfl⟩ rfl rfl (Nat.le_of_ble_eq_true rfl) dX8_hole_25 ⟨Nat.zero_le _, Nat.zero_le _⟩ rfl rfl (fun S_14 h_13 => ?_)
      refine y_aload_n C dX8_hole_28 0 rfl rfl ?_
      refine y_iload_n C dX8_hole_29 1 rfl rfl ?_
      refine y_iload_n C dX8_hole_30 2 rfl rfl ?_
      refine y_callRiV (As := [.int (x1), .int (x2)]) (rest := []) C cs_X8_293 (met_m_isHole G A S_14 (x1) (x2) _ (h_13)) (fun _ h => h) (wM_0 ..) rfl rfl ⟨rfl, rfl, Nat.le_of_ble_eq_true rfl, Nat.le_of_ble_eq_true rfl⟩ rfl rfl (Nat.le_of_ble_eq_true rfl) dX8_hole_31 ⟨Nat.zero_le _, Nat.zero_le _⟩ (fun r_15 h_16 => ?_)
      refine y_if_eq C (tgt := 41) dX8_hole_34 rfl (fun c_18 => ?_) (fun c_18 => ?_)
      · have h_19 := (h_16).1 c_18
        refine y_iconst C dX8_hole_41 ic_0 ?_
        exact y_iretM C M N rfl (S := S_14) rfl (h_19) dX8_hole_42
      · have h_20 := (h_16).2 c_18
        refine y_iconst C dX8_hole_37 ic_1 ?_
        refine y_goto C (tgt := 42) dX8_hole_38 rfl ?_
        exact y_iretM C M N rfl (S := S_14) rfl (h_20) dX8_hole_42
    · have h_21 := (h_8).2 c_10
      refine y_bipush C dX8_hole_21 bpm2 ?_
      exact y_iretM C M N rfl (S := (sI S 0 0 0)) rfl (h_21) dX8_hole_23
/-! OverHillModel next(II)I: m_next_2 -/
abbrev rm_m_next_2 : Room := { frames := 5, cells := 0, slots := 0, locals := 134 }
def wp_m_next_2_b30 (Q : Int32 → St → Prop) (x1 : Int32) : Nat → St → Int32 → Prop
  | 0 => fun _ _ => False
  | n + 1 => fun S x3 => ((200 ≤ x3 → Q (-1) S) ∧ (¬ 200 ≤ x3 → wp_m_isHole S (x1) (x3) (fun r_21 => ((r_21 = 0 → wp_m_next_2_b30 Q x1 n S ((x3 + 1))) ∧ (¬ r_21 = 0 → Q x3 S)))))
def wp_m_next_2 (S : St) (x1 : Int32) (x2 : Int32) (Q : Int32 → St → Prop) : Prop :=
  wp_m_isSide (sI S 0 0 0) (x1) (fun r_1 => ((r_1 = 0 → Q (-2) (sI S 0 0 0)) ∧ (¬ r_1 = 0 → wp_m_isBeat ((x2).toInt64) (fun r_7 => ((¬ r_7 = 0 → wp_m_lays (sI S 0 0 0) (fun S_14 => (∃ z, wp_m_next_2_b30 Q (x1) z S_14 (x2)))) ∧ (r_7 = 0 → Q (-2) (sI S 0 0 0)))))))
set_option maxRecDepth 100000 in
theorem wk_m_next_2_b30 {G : Gx} {K : Kx} {A : Nat → Nat} (C : KOk G K RX8 cX8_next_2 rm_m_next_2 4 (some .int)) {B : Nat → Prop} (M : KM G K B) {Q : Int32 → St → Prop} (N : KQi G K B (wM G A) Q) (x1 : Int32) : ∀ (n : Nat), ∀ (S : St) (x3 : Int32), wp_m_next_2_b30 Q x1 n S x3 → Y G K 0 0 (wM G A S) 30 [(0, .ref (A 0)), (1, .int (x1)), (3, .int (x3))] [] := by
  intro n
  induction n with
  | zero => intro S x3 h; exact h.elim
  | succ n ih =>
    intro S x3 h
    dsimp only [wp_m_next_2_b30] at h
    refine y_iload_n C dX8_next_2_30 2 rfl rfl ?_
    refine y_sipush C dX8_next_2_31 sp_200 ?_
    refine y_icmp_ge C (tgt := 54) dX8_next_2_34 rfl (fun c_18 => ?_) (fun c_18 => ?_)
    · have h_19 := (h).1 c_18
      refine y_iconst C dX8_next_2_54 icm1 ?_
      exact y_iretM C M N rfl (S := S) rfl (h_19) dX8_next_2_55
    · have h_20 := (h).2 c_18
      refine y_aload_n C dX8_next_2_37 0 rfl rfl ?_
      refine y_iload_n C dX8_next_2_38 1 rfl rfl ?_
      refine y_iload_n C dX8_next_2_39 2 rfl rfl ?_
      refine y_callRiV (As := [.int (x1), .int (x3)]) (rest := []) C cs_X8_293 (met_m_isHole G A S (x1) (x3) _ (h_20)) (fun _ h => h) (wM_0 ..) rfl rfl ⟨rfl, rfl, Nat.le_of_ble_eq_true rfl, Nat.le_of_ble_eq_true rfl⟩ rfl rfl (Nat.le_of_ble_eq_true rfl) dX8_next_2_40 ⟨Nat.zero_le _, Nat.zero_le _⟩ (fun r_21 h_22 => ?_)
      refine y_if_eq C (tgt := 48) dX8_next_2_43 rfl (fun c_24 => ?_) (fun c_24 => ?_)
      · have h_25 := (h_22).1 c_24
        refine y_iinc C dX8_next_2_48 2 rfl (Nat.le_of_ble_eq_true rfl) (ii_1 _) [(3, .int ((x3 + 1))), (0, .ref (A 0)), (1, .int (x1))] rfl ?_
        refine y_goto C (tgt := 30) dX8_next_2_51 rfl ?_
        exact Y.sub (ih S ((x3 + 1)) (h_25)) [1, 2, 0] rfl
      · have h_26 := (h_22).2 c_24
        refine y_iload_n C dX8_next_2_46 2 rfl rfl ?_
        exact y_iretM C M N rfl (S := S) rfl (h_26) dX8_next_2_47
set_option maxRecDepth 100000 in
theorem met_m_next_2 (G : Gx) (A : Nat → Nat) (S : St) (x1 : Int32) (x2 : Int32) (Q : Int32 → St → Prop) (h : wp_m_next_2 S x1 x2 Q) : Mi G yX8_next_2 (ws_ yX8_next_2 cX8_next_2 4 (some .int)) rm_m_next_2 (wM G A S) [.ref (A 0), .int (x1), .int (x2)] (wM G A) Q := by
  refine ent_Mi (by decide +kernel) rfl (Nat.le_of_ble_eq_true rfl) [(0, .ref (A 0)), (1, .int (x1)), (2, .int (x2))] rfl (fun K B C M N => ?_)
  refine y_aload_n C dX8_next_2_0 0 rfl rfl ?_
  refine y_iconst C dX8_next_2_1 ic_0 ?_
  refine yp_X8_80_wM0 C M dX8_next_2_2 ?_
  refine y_aload_n C dX8_next_2_5 0 rfl rfl ?_
  refine y_iload_n C dX8_next_2_6 1 rfl rfl ?_
  refine y_callRiV (As := [.int (x1)]) (rest := []) C cs_X8_261 (met_m_isSide G A (sI S 0 0 0) (x1) _ (h)) (fun _ h => h) (wM_0 ..) rfl rfl ⟨rfl, rfl, Nat.le_of_ble_eq_true rfl, Nat.le_of_ble_eq_true rfl⟩ rfl rfl (Nat.le_of_ble_eq_true rfl) dX8_next_2_7 ⟨Nat.zero_le _, Nat.zero_le _⟩ (fun r_1 h_2 => ?_)
  refine y_if_eq C (tgt := 21) dX8_next_2_10 rfl (fun c_4 => ?_) (fun c_4 => ?_)
  · have h_5 := (h_2).1 c_4
    refine y_bipush C dX8_next_2_21 bpm2 ?_
    exact y_iretM C M N rfl (S := (sI S 0 0 0)) rfl (h_5) dX8_next_2_23
  · have h_6 := (h_2).2 c_4
    refine y_iload_n C dX8_next_2_13 2 rfl rfl ?_
    refine y_i2l C dX8_next_2_14 rfl ?_
    refine y_callRiS (As := [.long ((x2).toInt64)]) (rest := []) C cs_X8_270 (met_m_isBeat G ((x2).toInt64) _ (h_6)) (fun _ _ => pw_nil) ⟨rfl, rfl, Nat.le_of_ble_eq_true rfl, Nat.le_of_ble_eq_true rfl⟩ rfl rfl (Nat.le_of_ble_eq_true rfl) dX8_next_2_15 ⟨Nat.zero_le _, Nat.zero_le _⟩ (fun r_7 h_8 => ?_)
    refine y_if_ne C (tgt := 24) dX8_next_2_18 rfl (fun c_10 => ?_) (fun c_10 => ?_)
    · have h_11 := (h_8).1 c_10
      refine y_aload_n C dX8_next_2_24 0 rfl rfl ?_
      refine y_callMvV (k' := 0) (n' := 0) (As := []) (rest := []) C M cs_X8_290 (met_m_lays G A (sI S 0 0 0) _ (h_11)) (wM_0 ..) rfl rfl ⟨rfl, rfl, Nat.le_of_ble_eq_true rfl, Nat.le_of_ble_eq_true rfl⟩ rfl rfl (Nat.le_of_ble_eq_true rfl) dX8_next_2_25 ⟨Nat.zero_le _, Nat.zero_le _⟩ rfl rfl (fun S_14 h_13 => ?_)
      refine y_iload_n C dX8_next_2_28 2 rfl rfl ?_
      refine y_istore_n C dX8_next_2_29 rfl (Nat.le_of_ble_eq_true rfl) [(3, .int (x2)), (0, .ref (A 0)), (1, .int (x1)), (2, .int (x2))] rfl ?_
      obtain ⟨n_15, h_16⟩ := h_13
      exact Y.sub (wk_m_next_2_b30 C M N (x1) n_15 S_14 (x2) h_16) [1, 2, 0] rfl
    · have h_17 := (h_8).2 c_10
      refine y_bipush C dX8_next_2_21 bpm2 ?_
      exact y_iretM C M N rfl (S := (sI S 0 0 0)) rfl (h_17) dX8_next_2_23
/-! OverHillModel isSpan(II)Z: m_isSpan -/
abbrev rm_m_isSpan : Room := { frames := 3, cells := 0, slots := 0, locals := 86 }
def wp_m_isSpan (S : St) (x1 : Int32) (x2 : Int32) (Q : Int32 → Prop) : Prop :=
  wp_m_isDance S (fun r_1 => ((r_1 = 0 → Q 0) ∧ (¬ r_1 = 0 → wp_m_isBeat ((x1).toInt64) (fun r_7 => ((r_7 = 0 → Q 0) ∧ (¬ r_7 = 0 → wp_m_in ((x2).toInt64) ((x1).toInt64) (199) (fun r_13 => ((r_13 = 0 → Q 0) ∧ (¬ r_13 = 0 → Q 1)))))))))
set_option maxRecDepth 100000 in
theorem met_m_isSpan (G : Gx) (A : Nat → Nat) (S : St) (x1 : Int32) (x2 : Int32) (Q : Int32 → Prop) (h : wp_m_isSpan S x1 x2 Q) : Ri G yX8_isSpan (ws_ yX8_isSpan cX8_isSpan 3 (some .boolean)) rm_m_isSpan (wM G A S) [.ref (A 0), .int (x1), .int (x2)] Q := by
  refine ent_Ri (by decide +kernel) rfl (Nat.le_of_ble_eq_true rfl) [(0, .ref (A 0)), (1, .int (x1)), (2, .int (x2))] rfl (fun K C N => ?_)
  refine y_aload_n C dX8_isSpan_0 0 rfl rfl ?_
  refine y_callRiV (As := []) (rest := []) C cs_X8_254 (met_m_isDance G A S _ (h)) (fun _ h => h) (wM_0 ..) rfl rfl ⟨rfl, rfl, Nat.le_of_ble_eq_true rfl, Nat.le_of_ble_eq_true rfl⟩ rfl rfl (Nat.le_of_ble_eq_true rfl) dX8_isSpan_1 ⟨Nat.zero_le _, Nat.zero_le _⟩ (fun r_1 h_2 => ?_)
  refine y_if_eq C (tgt := 32) dX8_isSpan_4 rfl (fun c_4 => ?_) (fun c_4 => ?_)
  · have h_5 := (h_2).1 c_4
    refine y_iconst C dX8_isSpan_32 ic_0 ?_
    exact y_zretR C N rfl rfl (h_5) dX8_isSpan_33
  · have h_6 := (h_2).2 c_4
    refine y_iload_n C dX8_isSpan_7 1 rfl rfl ?_
    refine y_i2l C dX8_isSpan_8 rfl ?_
    refine y_callRiS (As := [.long ((x1).toInt64)]) (rest := []) C cs_X8_270 (met_m_isBeat G ((x1).toInt64) _ (h_6)) (fun _ _ => pw_nil) ⟨rfl, rfl, Nat.le_of_ble_eq_true rfl, Nat.le_of_ble_eq_true rfl⟩ rfl rfl (Nat.le_of_ble_eq_true rfl) dX8_isSpan_9 ⟨Nat.zero_le _, Nat.zero_le _⟩ (fun r_7 h_8 => ?_)
    refine y_if_eq C (tgt := 32) dX8_isSpan_12 rfl (fun c_10 => ?_) (fun c_10 => ?_)
    · have h_11 := (h_8).1 c_10
      refine y_iconst C dX8_isSpan_32 ic_0 ?_
      exact y_zretR C N rfl rfl (h_11) dX8_isSpan_33
    · have h_12 := (h_8).2 c_10
      refine y_iload_n C dX8_isSpan_15 2 rfl rfl ?_
      refine y_i2l C dX8_isSpan_16 rfl ?_
      refine y_iload_n C dX8_isSpan_17 1 rfl rfl ?_
      refine y_i2l C dX8_isSpan_18 rfl ?_
      refine y_ldc2 C dX8_isSpan_19 q1899 ?_
      refine y_callRiS (As := [.long ((x2).toInt64), .long ((x1).toInt64), .long (199)]) (rest := []) C cs_X8_85 (met_m_in G ((x2).toInt64) ((x1).toInt64) (199) _ (h_12)) (fun _ _ => pw_nil) ⟨rfl, rfl, Nat.le_of_ble_eq_true rfl, Nat.le_of_ble_eq_true rfl⟩ rfl rfl (Nat.le_of_ble_eq_true rfl) dX8_isSpan_22 ⟨Nat.zero_le _, Nat.zero_le _⟩ (fun r_13 h_14 => ?_)
      refine y_if_eq C (tgt := 32) dX8_isSpan_25 rfl (fun c_16 => ?_) (fun c_16 => ?_)
      · have h_17 := (h_14).1 c_16
        refine y_iconst C dX8_isSpan_32 ic_0 ?_
        exact y_zretR C N rfl rfl (h_17) dX8_isSpan_33
      · have h_18 := (h_14).2 c_16
        refine y_iconst C dX8_isSpan_28 ic_1 ?_
        refine y_goto C (tgt := 33) dX8_isSpan_29 rfl ?_
        exact y_zretR C N rfl rfl (h_18) dX8_isSpan_33
/-! OverHillModel holesOf(III)I: m_holesOf -/
abbrev rm_m_holesOf : Room := { frames := 4, cells := 0, slots := 0, locals := 105 }
def wp_m_holesOf_b6 (S : St) (Q : Int32 → Prop) (x1 : Int32) (x3 : Int32) : Nat → Int32 → Int32 → Prop
  | 0 => fun _ _ => False
  | n + 1 => fun x4 x5 => ((x3 < x5 → Q x4) ∧ (¬ x3 < x5 → wp_m_isHole S (x1) (x5) (fun r_6 => ((r_6 = 0 → wp_m_holesOf_b6 S Q x1 x3 n ((x4 + 0)) ((x5 + 1))) ∧ (¬ r_6 = 0 → wp_m_holesOf_b6 S Q x1 x3 n ((x4 + 1)) ((x5 + 1)))))))
def wp_m_holesOf (S : St) (x1 : Int32) (x2 : Int32) (x3 : Int32) (Q : Int32 → Prop) : Prop :=
  (∃ z, wp_m_holesOf_b6 S Q (x1) (x3) z (0) (x2))
set_option maxRecDepth 100000 in
theorem wk_m_holesOf_b6 {G : Gx} {K : Kx} {A : Nat → Nat} (C : KOk G K RX8 cX8_holesOf rm_m_holesOf 6 (some .int)) {S : St} {Q : Int32 → Prop} (N : KRi K Q) (x1 : Int32) (x3 : Int32) : ∀ (n : Nat), ∀ (x4 : Int32) (x5 : Int32), wp_m_holesOf_b6 S Q x1 x3 n x4 x5 → Y G K 0 0 (wM G A S) 6 [(0, .ref (A 0)), (1, .int (x1)), (3, .int (x3)), (4, .int (x4)), (5, .int (x5))] [] := by
  intro n
  induction n with
  | zero => intro x4 x5 h; exact h.elim
  | succ n ih =>
    intro x4 x5 h
    dsimp only [wp_m_holesOf_b6] at h
    refine y_iload C dX8_holesOf_6 4 rfl ?_
    refine y_iload_n C dX8_holesOf_8 2 rfl rfl ?_
    refine y_icmp_gt C (tgt := 38) dX8_holesOf_9 rfl (fun c_3 => ?_) (fun c_3 => ?_)
    · have h_4 := (h).1 c_3
      refine y_iload C dX8_holesOf_38 3 rfl ?_
      exact y_iretR C N rfl (h_4) dX8_holesOf_40
    · have h_5 := (h).2 c_3
      refine y_iload C dX8_holesOf_12 3 rfl ?_
      refine y_aload_n C dX8_holesOf_14 0 rfl rfl ?_
      refine y_iload_n C dX8_holesOf_15 1 rfl rfl ?_
      refine y_iload C dX8_holesOf_16 4 rfl ?_
      refine y_callRiV (As := [.int (x1), .int (x5)]) (rest := [.int (x4)]) C cs_X8_293 (met_m_isHole G A S (x1) (x5) _ (h_5)) (fun _ h => h) (wM_0 ..) rfl rfl ⟨rfl, rfl, Nat.le_of_ble_eq_true rfl, Nat.le_of_ble_eq_true rfl⟩ rfl rfl (Nat.le_of_ble_eq_true rfl) dX8_holesOf_18 ⟨Nat.zero_le _, Nat.zero_le _⟩ (fun r_6 h_7 => ?_)
      refine y_if_eq C (tgt := 28) dX8_holesOf_21 rfl (fun c_9 => ?_) (fun c_9 => ?_)
      · have h_10 := (h_7).1 c_9
        refine y_iconst C dX8_holesOf_28 ic_0 ?_
        refine y_iadd C dX8_holesOf_29 ?_
        refine y_istore C dX8_holesOf_30 (Nat.le_of_ble_eq_true rfl) [(4, .int ((x4 + 0))), (0, .ref (A 0)), (1, .int (x1)), (3, .int (x3)), (5, .int (x5))] rfl ?_
        refine y_iinc C dX8_holesOf_32 4 rfl (Nat.le_of_ble_eq_true rfl) (ii_1 _) [(5, .int ((x5 + 1))), (4, .int ((x4 + 0))), (0, .ref (A 0)), (1, .int (x1)), (3, .int (x3))] rfl ?_
        refine y_goto C (tgt := 6) dX8_holesOf_35 rfl ?_
        exact Y.sub (ih ((x4 + 0)) ((x5 + 1)) (h_10)) [2, 3, 4, 1, 0] rfl
      · have h_11 := (h_7).2 c_9
        refine y_iconst C dX8_holesOf_24 ic_1 ?_
        refine y_goto C (tgt := 29) dX8_holesOf_25 rfl ?_
        refine y_iadd C dX8_holesOf_29 ?_
        refine y_istore C dX8_holesOf_30 (Nat.le_of_ble_eq_true rfl) [(4, .int ((x4 + 1))), (0, .ref (A 0)), (1, .int (x1)), (3, .int (x3)), (5, .int (x5))] rfl ?_
        refine y_iinc C dX8_holesOf_32 4 rfl (Nat.le_of_ble_eq_true rfl) (ii_1 _) [(5, .int ((x5 + 1))), (4, .int ((x4 + 1))), (0, .ref (A 0)), (1, .int (x1)), (3, .int (x3))] rfl ?_
        refine y_goto C (tgt := 6) dX8_holesOf_35 rfl ?_
        exact Y.sub (ih ((x4 + 1)) ((x5 + 1)) (h_11)) [2, 3, 4, 1, 0] rfl
set_option maxRecDepth 100000 in
theorem met_m_holesOf (G : Gx) (A : Nat → Nat) (S : St) (x1 : Int32) (x2 : Int32) (x3 : Int32) (Q : Int32 → Prop) (h : wp_m_holesOf S x1 x2 x3 Q) : Ri G yX8_holesOf (ws_ yX8_holesOf cX8_holesOf 6 (some .int)) rm_m_holesOf (wM G A S) [.ref (A 0), .int (x1), .int (x2), .int (x3)] Q := by
  refine ent_Ri (by decide +kernel) rfl (Nat.le_of_ble_eq_true rfl) [(0, .ref (A 0)), (1, .int (x1)), (2, .int (x2)), (3, .int (x3))] rfl (fun K C N => ?_)
  refine y_iconst C dX8_holesOf_0 ic_0 ?_
  refine y_istore C dX8_holesOf_1 (Nat.le_of_ble_eq_true rfl) [(4, .int (0)), (0, .ref (A 0)), (1, .int (x1)), (2, .int (x2)), (3, .int (x3))] rfl ?_
  refine y_iload_n C dX8_holesOf_3 3 rfl rfl ?_
  refine y_istore C dX8_holesOf_4 (Nat.le_of_ble_eq_true rfl) [(5, .int (x2)), (4, .int (0)), (0, .ref (A 0)), (1, .int (x1)), (2, .int (x2)), (3, .int (x3))] rfl ?_
  obtain ⟨n_1, h_2⟩ := h
  exact Y.sub (wk_m_holesOf_b6 C N (x1) (x3) n_1 (0) (x2) h_2) [2, 3, 5, 1, 0] rfl
/-! OverHillModel holes(III)I: m_holes -/
abbrev rm_m_holes : Room := { frames := 5, cells := 0, slots := 0, locals := 134 }
def wp_m_holes (S : St) (x1 : Int32) (x2 : Int32) (x3 : Int32) (Q : Int32 → St → Prop) : Prop :=
  wp_m_isSide (sI S 0 0 0) (x1) (fun r_1 => ((r_1 = 0 → Q (-2) (sI S 0 0 0)) ∧ (¬ r_1 = 0 → wp_m_isSpan (sI S 0 0 0) (x2) (x3) (fun r_7 => ((¬ r_7 = 0 → wp_m_lays (sI S 0 0 0) (fun S_14 => wp_m_holesOf S_14 (x1) (x2) (x3) (fun r_15 => Q r_15 S_14))) ∧ (r_7 = 0 → Q (-2) (sI S 0 0 0)))))))
set_option maxRecDepth 100000 in
theorem met_m_holes (G : Gx) (A : Nat → Nat) (S : St) (x1 : Int32) (x2 : Int32) (x3 : Int32) (Q : Int32 → St → Prop) (h : wp_m_holes S x1 x2 x3 Q) : Mi G yX8_holes (ws_ yX8_holes cX8_holes 4 (some .int)) rm_m_holes (wM G A S) [.ref (A 0), .int (x1), .int (x2), .int (x3)] (wM G A) Q := by
  refine ent_Mi (by decide +kernel) rfl (Nat.le_of_ble_eq_true rfl) [(0, .ref (A 0)), (1, .int (x1)), (2, .int (x2)), (3, .int (x3))] rfl (fun K B C M N => ?_)
  refine y_aload_n C dX8_holes_0 0 rfl rfl ?_
  refine y_iconst C dX8_holes_1 ic_0 ?_
  refine yp_X8_80_wM0 C M dX8_holes_2 ?_
  refine y_aload_n C dX8_holes_5 0 rfl rfl ?_
  refine y_iload_n C dX8_holes_6 1 rfl rfl ?_
  refine y_callRiV (As := [.int (x1)]) (rest := []) C cs_X8_261 (met_m_isSide G A (sI S 0 0 0) (x1) _ (h)) (fun _ h => h) (wM_0 ..) rfl rfl ⟨rfl, rfl, Nat.le_of_ble_eq_true rfl, Nat.le_of_ble_eq_true rfl⟩ rfl rfl (Nat.le_of_ble_eq_true rfl) dX8_holes_7 ⟨Nat.zero_le _, Nat.zero_le _⟩ (fun r_1 h_2 => ?_)
  refine y_if_eq C (tgt := 22) dX8_holes_10 rfl (fun c_4 => ?_) (fun c_4 => ?_)
  · have h_5 := (h_2).1 c_4
    refine y_bipush C dX8_holes_22 bpm2 ?_
    exact y_iretM C M N rfl (S := (sI S 0 0 0)) rfl (h_5) dX8_holes_24
  · have h_6 := (h_2).2 c_4
    refine y_aload_n C dX8_holes_13 0 rfl rfl ?_
    refine y_iload_n C dX8_holes_14 2 rfl rfl ?_
    refine y_iload_n C dX8_holes_15 3 rfl rfl ?_
    refine y_callRiV (As := [.int (x2), .int (x3)]) (rest := []) C cs_X8_296 (met_m_isSpan G A (sI S 0 0 0) (x2) (x3) _ (h_6)) (fun _ h => h) (wM_0 ..) rfl rfl ⟨rfl, rfl, Nat.le_of_ble_eq_true rfl, Nat.le_of_ble_eq_true rfl⟩ rfl rfl (Nat.le_of_ble_eq_true rfl) dX8_holes_16 ⟨Nat.zero_le _, Nat.zero_le _⟩ (fun r_7 h_8 => ?_)
    refine y_if_ne C (tgt := 25) dX8_holes_19 rfl (fun c_10 => ?_) (fun c_10 => ?_)
    · have h_11 := (h_8).1 c_10
      refine y_aload_n C dX8_holes_25 0 rfl rfl ?_
      refine y_callMvV (k' := 0) (n' := 0) (As := []) (rest := []) C M cs_X8_290 (met_m_lays G A (sI S 0 0 0) _ (h_11)) (wM_0 ..) rfl rfl ⟨rfl, rfl, Nat.le_of_ble_eq_true rfl, Nat.le_of_ble_eq_true rfl⟩ rfl rfl (Nat.le_of_ble_eq_true rfl) dX8_holes_26 ⟨Nat.zero_le _, Nat.zero_le _⟩ rfl rfl (fun S_14 h_13 => ?_)
      refine y_aload_n C dX8_holes_29 0 rfl rfl ?_
      refine y_iload_n C dX8_holes_30 1 rfl rfl ?_
      refine y_iload_n C dX8_holes_31 2 rfl rfl ?_
      refine y_iload_n C dX8_holes_32 3 rfl rfl ?_
      refine y_callRiV (As := [.int (x1), .int (x2), .int (x3)]) (rest := []) C cs_X8_299 (met_m_holesOf G A S_14 (x1) (x2) (x3) _ (h_13)) (fun _ h => h) (wM_0 ..) rfl rfl ⟨rfl, rfl, Nat.le_of_ble_eq_true rfl, Nat.le_of_ble_eq_true rfl⟩ rfl rfl (Nat.le_of_ble_eq_true rfl) dX8_holes_33 ⟨Nat.zero_le _, Nat.zero_le _⟩ (fun r_15 h_16 => ?_)
      exact y_iretM C M N rfl (S := S_14) rfl (h_16) dX8_holes_36
    · have h_18 := (h_8).2 c_10
      refine y_bipush C dX8_holes_22 bpm2 ?_
      exact y_iretM C M N rfl (S := (sI S 0 0 0)) rfl (h_18) dX8_holes_24
/-! OverHillModel laysRun(II)V: m_laysRun -/
abbrev rm_m_laysRun : Room := { frames := 5, cells := 0, slots := 0, locals := 134 }
def wp_m_laysRun_b52 (Q : St → Prop) (x2 : Int32) (K19 : St → Int32 → Int32 → Prop) (S : St) (x4 : Int32) (s0 : Int32) : Prop :=
  (((S.1 0 29) < s0 → K19 (sI (sI S 0 29 s0) 0 30 ((x4 - s0) + 1)) (s0) ((x4 + 1))) ∧ (¬ (S.1 0 29) < s0 → K19 S (s0) ((x4 + 1))))
def wp_m_laysRun_b45 (Q : St → Prop) (x2 : Int32) (K19 : St → Int32 → Int32 → Prop) (S : St) (x4 : Int32) : Prop :=
  wp_m_laysRun_b52 Q (x2) K19 S (x4) (0)
def wp_m_laysRun_b19 (Q : St → Prop) (x2 : Int32) : Nat → St → Int32 → Int32 → Prop
  | 0 => fun _ _ _ => False
  | n + 1 => fun S x3 x4 => ((x2 < x4 → Q S) ∧ (¬ x2 < x4 → wp_m_isHole S (0) (x4) (fun r_9 => ((¬ r_9 = 0 → wp_m_laysRun_b45 Q (x2) (fun Sy y3 y4 => wp_m_laysRun_b19 Q x2 n Sy y3 y4) S (x4)) ∧ (r_9 = 0 → wp_m_isHole S (1) (x4) (fun r_15 => ((r_15 = 0 → wp_m_laysRun_b52 Q (x2) (fun Sy y3 y4 => wp_m_laysRun_b19 Q x2 n Sy y3 y4) S (x4) ((x3 + 1))) ∧ (¬ r_15 = 0 → wp_m_laysRun_b45 Q (x2) (fun Sy y3 y4 => wp_m_laysRun_b19 Q x2 n Sy y3 y4) S (x4)))))))))
def wp_m_laysRun (S : St) (x1 : Int32) (x2 : Int32) (Q : St → Prop) : Prop :=
  wp_m_lays S (fun S_3 => (∃ z, wp_m_laysRun_b19 Q (x2) z (sI (sI S_3 0 29 0) 0 30 (-1)) (0) (x1)))
set_option maxRecDepth 100000 in
theorem wk_m_laysRun_b52 {G : Gx} {K : Kx} {A : Nat → Nat} (C : KOk G K RX8 cX8_laysRun rm_m_laysRun 5 none) {B : Nat → Prop} (M : KM G K B) {Q : St → Prop} (N : KQv G K B (wM G A) Q) (x2 : Int32) (K19 : St → Int32 → Int32 → Prop) (hK19 : ∀ (S : St) (x3 : Int32) (x4 : Int32), K19 S x3 x4 → Y G K 0 0 (wM G A S) 19 [(0, .ref (A 0)), (2, .int (x2)), (3, .int (x3)), (4, .int (x4))] []) (S : St) (x4 : Int32) (s0 : Int32) (h : wp_m_laysRun_b52 Q x2 K19 S x4 s0) : Y G K 0 0 (wM G A S) 52 [(0, .ref (A 0)), (2, .int (x2)), (4, .int (x4))] [.int (s0)] := by
  refine y_istore_n C dX8_laysRun_52 rfl (Nat.le_of_ble_eq_true rfl) [(3, .int (s0)), (0, .ref (A 0)), (2, .int (x2)), (4, .int (x4))] rfl ?_
  refine y_iload_n C dX8_laysRun_53 0 rfl rfl ?_
  refine y_aload_n C dX8_laysRun_54 1 rfl rfl ?_
  refine yg_X8_303_wM0 C dX8_laysRun_55 ?_
  refine y_icmp_gt C (tgt := 64) dX8_laysRun_58 rfl (fun c_21 => ?_) (fun c_21 => ?_)
  · have h_22 := (h).1 c_21
    refine y_aload_n C dX8_laysRun_64 1 rfl rfl ?_
    refine y_iload_n C dX8_laysRun_65 0 rfl rfl ?_
    refine yp_X8_303_wM0 C M dX8_laysRun_66 ?_
    refine y_aload_n C dX8_laysRun_69 1 rfl rfl ?_
    refine y_iload C dX8_laysRun_70 3 rfl ?_
    refine y_iload_n C dX8_laysRun_72 0 rfl rfl ?_
    refine y_isub C dX8_laysRun_73 ?_
    refine y_iconst C dX8_laysRun_74 ic_1 ?_
    refine y_iadd C dX8_laysRun_75 ?_
    refine yp_X8_306_wM0 C M dX8_laysRun_76 ?_
    refine y_iinc C dX8_laysRun_79 3 rfl (Nat.le_of_ble_eq_true rfl) (ii_1 _) [(4, .int ((x4 + 1))), (3, .int (s0)), (0, .ref (A 0)), (2, .int (x2))] rfl ?_
    refine y_goto C (tgt := 19) dX8_laysRun_82 rfl ?_
    exact Y.sub (hK19 (sI (sI S 0 29 s0) 0 30 ((x4 - s0) + 1)) (s0) ((x4 + 1)) (h_22)) [2, 3, 1, 0] rfl
  · have h_23 := (h).2 c_21
    refine y_goto C (tgt := 79) dX8_laysRun_61 rfl ?_
    refine y_iinc C dX8_laysRun_79 3 rfl (Nat.le_of_ble_eq_true rfl) (ii_1 _) [(4, .int ((x4 + 1))), (3, .int (s0)), (0, .ref (A 0)), (2, .int (x2))] rfl ?_
    refine y_goto C (tgt := 19) dX8_laysRun_82 rfl ?_
    exact Y.sub (hK19 S (s0) ((x4 + 1)) (h_23)) [2, 3, 1, 0] rfl
set_option maxRecDepth 100000 in
theorem wk_m_laysRun_b45 {G : Gx} {K : Kx} {A : Nat → Nat} (C : KOk G K RX8 cX8_laysRun rm_m_laysRun 5 none) {B : Nat → Prop} (M : KM G K B) {Q : St → Prop} (N : KQv G K B (wM G A) Q) (x2 : Int32) (K19 : St → Int32 → Int32 → Prop) (hK19 : ∀ (S : St) (x3 : Int32) (x4 : Int32), K19 S x3 x4 → Y G K 0 0 (wM G A S) 19 [(0, .ref (A 0)), (2, .int (x2)), (3, .int (x3)), (4, .int (x4))] []) (S : St) (x4 : Int32) (h : wp_m_laysRun_b45 Q x2 K19 S x4) : Y G K 0 0 (wM G A S) 45 [(0, .ref (A 0)), (2, .int (x2)), (4, .int (x4))] [] := by
  refine y_iconst C dX8_laysRun_45 ic_0 ?_
  refine y_goto C (tgt := 52) dX8_laysRun_46 rfl ?_
  exact Y.sub (wk_m_laysRun_b52 C M N (x2) K19 hK19 S (x4) (0) (h)) [0, 1, 2] rfl
set_option maxRecDepth 100000 in
theorem wk_m_laysRun_b19 {G : Gx} {K : Kx} {A : Nat → Nat} (C : KOk G K RX8 cX8_laysRun rm_m_laysRun 5 none) {B : Nat → Prop} (M : KM G K B) {Q : St → Prop} (N : KQv G K B (wM G A) Q) (x2 : Int32) : ∀ (n : Nat), ∀ (S : St) (x3 : Int32) (x4 : Int32), wp_m_laysRun_b19 Q x2 n S x3 x4 → Y G K 0 0 (wM G A S) 19 [(0, .ref (A 0)), (2, .int (x2)), (3, .int (x3)), (4, .int (x4))] [] := by
  intro n
  induction n with
  | zero => intro S x3 x4 h; exact h.elim
  | succ n ih =>
    intro S x3 x4 h
    dsimp only [wp_m_laysRun_b19] at h
    refine y_iload C dX8_laysRun_19 3 rfl ?_
    refine y_iload_n C dX8_laysRun_21 1 rfl rfl ?_
    refine y_icmp_gt C (tgt := 85) dX8_laysRun_22 rfl (fun c_6 => ?_) (fun c_6 => ?_)
    · have h_7 := (h).1 c_6
      exact y_vretM C M N rfl (S := S) rfl (h_7) dX8_laysRun_85
    · have h_8 := (h).2 c_6
      refine y_aload_n C dX8_laysRun_25 0 rfl rfl ?_
      refine y_iconst C dX8_laysRun_26 ic_0 ?_
      refine y_iload C dX8_laysRun_27 3 rfl ?_
      refine y_callRiV (As := [.int (0), .int (x4)]) (rest := []) C cs_X8_293 (met_m_isHole G A S (0) (x4) _ (h_8)) (fun _ h => h) (wM_0 ..) rfl rfl ⟨rfl, rfl, Nat.le_of_ble_eq_true rfl, Nat.le_of_ble_eq_true rfl⟩ rfl rfl (Nat.le_of_ble_eq_true rfl) dX8_laysRun_29 ⟨Nat.zero_le _, Nat.zero_le _⟩ (fun r_9 h_10 => ?_)
      refine y_if_ne C (tgt := 45) dX8_laysRun_32 rfl (fun c_12 => ?_) (fun c_12 => ?_)
      · have h_13 := (h_10).1 c_12
        exact Y.sub (wk_m_laysRun_b45 C M N (x2) (fun Sy y3 y4 => wp_m_laysRun_b19 Q x2 n Sy y3 y4) ih S (x4) (h_13)) [0, 1, 3] rfl
      · have h_14 := (h_10).2 c_12
        refine y_aload_n C dX8_laysRun_35 0 rfl rfl ?_
        refine y_iconst C dX8_laysRun_36 ic_1 ?_
        refine y_iload C dX8_laysRun_37 3 rfl ?_
        refine y_callRiV (As := [.int (1), .int (x4)]) (rest := []) C cs_X8_293 (met_m_isHole G A S (1) (x4) _ (h_14)) (fun _ h => h) (wM_0 ..) rfl rfl ⟨rfl, rfl, Nat.le_of_ble_eq_true rfl, Nat.le_of_ble_eq_true rfl⟩ rfl rfl (Nat.le_of_ble_eq_true rfl) dX8_laysRun_39 ⟨Nat.zero_le _, Nat.zero_le _⟩ (fun r_15 h_16 => ?_)
        refine y_if_eq C (tgt := 49) dX8_laysRun_42 rfl (fun c_18 => ?_) (fun c_18 => ?_)
        · have h_19 := (h_16).1 c_18
          refine y_iload_n C dX8_laysRun_49 2 rfl rfl ?_
          refine y_iconst C dX8_laysRun_50 ic_1 ?_
          refine y_iadd C dX8_laysRun_51 ?_
          exact Y.sub (wk_m_laysRun_b52 C M N (x2) (fun Sy y3 y4 => wp_m_laysRun_b19 Q x2 n Sy y3 y4) ih S (x4) ((x3 + 1)) (h_19)) [0, 1, 3] rfl
        · have h_20 := (h_16).2 c_18
          exact Y.sub (wk_m_laysRun_b45 C M N (x2) (fun Sy y3 y4 => wp_m_laysRun_b19 Q x2 n Sy y3 y4) ih S (x4) (h_20)) [0, 1, 3] rfl
set_option maxRecDepth 100000 in
theorem met_m_laysRun (G : Gx) (A : Nat → Nat) (S : St) (x1 : Int32) (x2 : Int32) (Q : St → Prop) (h : wp_m_laysRun S x1 x2 Q) : Mv G yX8_laysRun (ws_ yX8_laysRun cX8_laysRun 5 none) rm_m_laysRun (wM G A S) [.ref (A 0), .int (x1), .int (x2)] (wM G A) Q := by
  refine ent_Mv (by decide +kernel) rfl (Nat.le_of_ble_eq_true rfl) [(0, .ref (A 0)), (1, .int (x1)), (2, .int (x2))] rfl (fun K B C M N => ?_)
  refine y_aload_n C dX8_laysRun_0 0 rfl rfl ?_
  refine y_callMvV (k' := 0) (n' := 0) (As := []) (rest := []) C M cs_X8_290 (met_m_lays G A S _ (h)) (wM_0 ..) rfl rfl ⟨rfl, rfl, Nat.le_of_ble_eq_true rfl, Nat.le_of_ble_eq_true rfl⟩ rfl rfl (Nat.le_of_ble_eq_true rfl) dX8_laysRun_1 ⟨Nat.zero_le _, Nat.zero_le _⟩ rfl rfl (fun S_3 h_2 => ?_)
  refine y_aload_n C dX8_laysRun_4 0 rfl rfl ?_
  refine y_iconst C dX8_laysRun_5 ic_0 ?_
  refine yp_X8_303_wM0 C M dX8_laysRun_6 ?_
  refine y_aload_n C dX8_laysRun_9 0 rfl rfl ?_
  refine y_iconst C dX8_laysRun_10 icm1 ?_
  refine yp_X8_306_wM0 C M dX8_laysRun_11 ?_
  refine y_iconst C dX8_laysRun_14 ic_0 ?_
  refine y_istore_n C dX8_laysRun_15 rfl (Nat.le_of_ble_eq_true rfl) [(3, .int (0)), (0, .ref (A 0)), (1, .int (x1)), (2, .int (x2))] rfl ?_
  refine y_iload_n C dX8_laysRun_16 2 rfl rfl ?_
  refine y_istore C dX8_laysRun_17 (Nat.le_of_ble_eq_true rfl) [(4, .int (x1)), (3, .int (0)), (0, .ref (A 0)), (1, .int (x1)), (2, .int (x2))] rfl ?_
  obtain ⟨n_4, h_5⟩ := h_2
  exact Y.sub (wk_m_laysRun_b19 C M N (x2) n_4 (sI (sI S_3 0 29 0) 0 30 (-1)) (0) (x1) h_5) [2, 4, 1, 0] rfl
/-! OverHillModel run(II)I: m_run -/
abbrev rm_m_run : Room := { frames := 6, cells := 0, slots := 0, locals := 158 }
def wp_m_run (S : St) (x1 : Int32) (x2 : Int32) (Q : Int32 → St → Prop) : Prop :=
  wp_m_isSpan (sI S 0 0 0) (x1) (x2) (fun r_1 => ((¬ r_1 = 0 → wp_m_laysRun (sI S 0 0 0) (x1) (x2) (fun S_8 => Q (S_8.1 0 29) S_8)) ∧ (r_1 = 0 → Q (-2) (sI S 0 0 0))))
set_option maxRecDepth 100000 in
theorem met_m_run (G : Gx) (A : Nat → Nat) (S : St) (x1 : Int32) (x2 : Int32) (Q : Int32 → St → Prop) (h : wp_m_run S x1 x2 Q) : Mi G yX8_run (ws_ yX8_run cX8_run 3 (some .int)) rm_m_run (wM G A S) [.ref (A 0), .int (x1), .int (x2)] (wM G A) Q := by
  refine ent_Mi (by decide +kernel) rfl (Nat.le_of_ble_eq_true rfl) [(0, .ref (A 0)), (1, .int (x1)), (2, .int (x2))] rfl (fun K B C M N => ?_)
  refine y_aload_n C dX8_run_0 0 rfl rfl ?_
  refine y_iconst C dX8_run_1 ic_0 ?_
  refine yp_X8_80_wM0 C M dX8_run_2 ?_
  refine y_aload_n C dX8_run_5 0 rfl rfl ?_
  refine y_iload_n C dX8_run_6 1 rfl rfl ?_
  refine y_iload_n C dX8_run_7 2 rfl rfl ?_
  refine y_callRiV (As := [.int (x1), .int (x2)]) (rest := []) C cs_X8_296 (met_m_isSpan G A (sI S 0 0 0) (x1) (x2) _ (h)) (fun _ h => h) (wM_0 ..) rfl rfl ⟨rfl, rfl, Nat.le_of_ble_eq_true rfl, Nat.le_of_ble_eq_true rfl⟩ rfl rfl (Nat.le_of_ble_eq_true rfl) dX8_run_8 ⟨Nat.zero_le _, Nat.zero_le _⟩ (fun r_1 h_2 => ?_)
  refine y_if_ne C (tgt := 17) dX8_run_11 rfl (fun c_4 => ?_) (fun c_4 => ?_)
  · have h_5 := (h_2).1 c_4
    refine y_aload_n C dX8_run_17 0 rfl rfl ?_
    refine y_iload_n C dX8_run_18 1 rfl rfl ?_
    refine y_iload_n C dX8_run_19 2 rfl rfl ?_
    refine y_callMvV (k' := 0) (n' := 0) (As := [.int (x1), .int (x2)]) (rest := []) C M cs_X8_309 (met_m_laysRun G A (sI S 0 0 0) (x1) (x2) _ (h_5)) (wM_0 ..) rfl rfl ⟨rfl, rfl, Nat.le_of_ble_eq_true rfl, Nat.le_of_ble_eq_true rfl⟩ rfl rfl (Nat.le_of_ble_eq_true rfl) dX8_run_20 ⟨Nat.zero_le _, Nat.zero_le _⟩ rfl rfl (fun S_8 h_7 => ?_)
    refine y_aload_n C dX8_run_23 0 rfl rfl ?_
    refine yg_X8_303_wM0 C dX8_run_24 ?_
    exact y_iretM C M N rfl (S := S_8) rfl (h_7) dX8_run_27
  · have h_9 := (h_2).2 c_4
    refine y_bipush C dX8_run_14 bpm2 ?_
    exact y_iretM C M N rfl (S := (sI S 0 0 0)) rfl (h_9) dX8_run_16
/-! OverHillModel begins(II)I: m_begins_2 -/
abbrev rm_m_begins_2 : Room := { frames := 6, cells := 0, slots := 0, locals := 158 }
def wp_m_begins_2 (S : St) (x1 : Int32) (x2 : Int32) (Q : Int32 → St → Prop) : Prop :=
  wp_m_isSpan (sI S 0 0 0) (x1) (x2) (fun r_1 => ((¬ r_1 = 0 → wp_m_laysRun (sI S 0 0 0) (x1) (x2) (fun S_8 => Q (S_8.1 0 30) S_8)) ∧ (r_1 = 0 → Q (-2) (sI S 0 0 0))))
set_option maxRecDepth 100000 in
theorem met_m_begins_2 (G : Gx) (A : Nat → Nat) (S : St) (x1 : Int32) (x2 : Int32) (Q : Int32 → St → Prop) (h : wp_m_begins_2 S x1 x2 Q) : Mi G yX8_begins_2 (ws_ yX8_begins_2 cX8_begins_2 3 (some .int)) rm_m_begins_2 (wM G A S) [.ref (A 0), .int (x1), .int (x2)] (wM G A) Q := by
  refine ent_Mi (by decide +kernel) rfl (Nat.le_of_ble_eq_true rfl) [(0, .ref (A 0)), (1, .int (x1)), (2, .int (x2))] rfl (fun K B C M N => ?_)
  refine y_aload_n C dX8_begins_2_0 0 rfl rfl ?_
  refine y_iconst C dX8_begins_2_1 ic_0 ?_
  refine yp_X8_80_wM0 C M dX8_begins_2_2 ?_
  refine y_aload_n C dX8_begins_2_5 0 rfl rfl ?_
  refine y_iload_n C dX8_begins_2_6 1 rfl rfl ?_
  refine y_iload_n C dX8_begins_2_7 2 rfl rfl ?_
  refine y_callRiV (As := [.int (x1), .int (x2)]) (rest := []) C cs_X8_296 (met_m_isSpan G A (sI S 0 0 0) (x1) (x2) _ (h)) (fun _ h => h) (wM_0 ..) rfl rfl ⟨rfl, rfl, Nat.le_of_ble_eq_true rfl, Nat.le_of_ble_eq_true rfl⟩ rfl rfl (Nat.le_of_ble_eq_true rfl) dX8_begins_2_8 ⟨Nat.zero_le _, Nat.zero_le _⟩ (fun r_1 h_2 => ?_)
  refine y_if_ne C (tgt := 17) dX8_begins_2_11 rfl (fun c_4 => ?_) (fun c_4 => ?_)
  · have h_5 := (h_2).1 c_4
    refine y_aload_n C dX8_begins_2_17 0 rfl rfl ?_
    refine y_iload_n C dX8_begins_2_18 1 rfl rfl ?_
    refine y_iload_n C dX8_begins_2_19 2 rfl rfl ?_
    refine y_callMvV (k' := 0) (n' := 0) (As := [.int (x1), .int (x2)]) (rest := []) C M cs_X8_309 (met_m_laysRun G A (sI S 0 0 0) (x1) (x2) _ (h_5)) (wM_0 ..) rfl rfl ⟨rfl, rfl, Nat.le_of_ble_eq_true rfl, Nat.le_of_ble_eq_true rfl⟩ rfl rfl (Nat.le_of_ble_eq_true rfl) dX8_begins_2_20 ⟨Nat.zero_le _, Nat.zero_le _⟩ rfl rfl (fun S_8 h_7 => ?_)
    refine y_aload_n C dX8_begins_2_23 0 rfl rfl ?_
    refine yg_X8_306_wM0 C dX8_begins_2_24 ?_
    exact y_iretM C M N rfl (S := S_8) rfl (h_7) dX8_begins_2_27
  · have h_9 := (h_2).2 c_4
    refine y_bipush C dX8_begins_2_14 bpm2 ?_
    exact y_iretM C M N rfl (S := (sI S 0 0 0)) rfl (h_9) dX8_begins_2_16
/-! OverHillModel allHoles()I: m_allHoles -/
abbrev rm_m_allHoles : Room := { frames := 5, cells := 0, slots := 0, locals := 130 }
def wp_m_allHoles (S : St) (Q : Int32 → Prop) : Prop :=
  wp_m_holesOf S (0) (0) (199) (fun r_1 => wp_m_holesOf S (1) (0) (199) (fun r_4 => Q (r_1 + r_4)))
set_option maxRecDepth 100000 in
theorem met_m_allHoles (G : Gx) (A : Nat → Nat) (S : St) (Q : Int32 → Prop) (h : wp_m_allHoles S Q) : Ri G yX8_allHoles (ws_ yX8_allHoles cX8_allHoles 1 (some .int)) rm_m_allHoles (wM G A S) [.ref (A 0)] Q := by
  refine ent_Ri (by decide +kernel) rfl (Nat.le_of_ble_eq_true rfl) [(0, .ref (A 0))] rfl (fun K C N => ?_)
  refine y_aload_n C dX8_allHoles_0 0 rfl rfl ?_
  refine y_iconst C dX8_allHoles_1 ic_0 ?_
  refine y_iconst C dX8_allHoles_2 ic_0 ?_
  refine y_sipush C dX8_allHoles_3 sp_199 ?_
  refine y_callRiV (As := [.int (0), .int (0), .int (199)]) (rest := []) C cs_X8_299 (met_m_holesOf G A S (0) (0) (199) _ (h)) (fun _ h => h) (wM_0 ..) rfl rfl ⟨rfl, rfl, Nat.le_of_ble_eq_true rfl, Nat.le_of_ble_eq_true rfl⟩ rfl rfl (Nat.le_of_ble_eq_true rfl) dX8_allHoles_6 ⟨Nat.zero_le _, Nat.zero_le _⟩ (fun r_1 h_2 => ?_)
  refine y_aload_n C dX8_allHoles_9 0 rfl rfl ?_
  refine y_iconst C dX8_allHoles_10 ic_1 ?_
  refine y_iconst C dX8_allHoles_11 ic_0 ?_
  refine y_sipush C dX8_allHoles_12 sp_199 ?_
  refine y_callRiV (As := [.int (1), .int (0), .int (199)]) (rest := [.int (r_1)]) C cs_X8_299 (met_m_holesOf G A S (1) (0) (199) _ (h_2)) (fun _ h => h) (wM_0 ..) rfl rfl ⟨rfl, rfl, Nat.le_of_ble_eq_true rfl, Nat.le_of_ble_eq_true rfl⟩ rfl rfl (Nat.le_of_ble_eq_true rfl) dX8_allHoles_15 ⟨Nat.zero_le _, Nat.zero_le _⟩ (fun r_4 h_5 => ?_)
  refine y_iadd C dX8_allHoles_18 ?_
  exact y_iretR C N rfl (h_5) dX8_allHoles_19
/-! OverHillModel undoes(I)I: m_undoes -/
abbrev rm_m_undoes : Room := { frames := 6, cells := 0, slots := 0, locals := 150 }
def wp_m_undoes (S : St) (x1 : Int32) (Q : Int32 → St → Prop) : Prop :=
  wp_m_in ((x1).toInt64) (0) (((((sI S 0 0 0).1 7 7) - 1)).toInt64) (fun r_1 => ((¬ r_1 = 0 → wp_m_lays (sI S 0 0 0) (fun S_8 => wp_m_allHoles S_8 (fun r_9 => wp_m_laysBut S_8 (x1) (fun S_14 => wp_m_allHoles S_14 (fun r_15 => Q (r_9 - r_15) S_14))))) ∧ (r_1 = 0 → Q (-1000) (sI S 0 0 0))))
set_option maxRecDepth 100000 in
theorem met_m_undoes (G : Gx) (A : Nat → Nat) (S : St) (x1 : Int32) (Q : Int32 → St → Prop) (h : wp_m_undoes S x1 Q) : Mi G yX8_undoes (ws_ yX8_undoes cX8_undoes 3 (some .int)) rm_m_undoes (wM G A S) [.ref (A 0), .int (x1)] (wM G A) Q := by
  refine ent_Mi (by decide +kernel) rfl (Nat.le_of_ble_eq_true rfl) [(0, .ref (A 0)), (1, .int (x1))] rfl (fun K B C M N => ?_)
  refine y_aload_n C dX8_undoes_0 0 rfl rfl ?_
  refine y_iconst C dX8_undoes_1 ic_0 ?_
  refine yp_X8_80_wM0 C M dX8_undoes_2 ?_
  refine y_iload_n C dX8_undoes_5 1 rfl rfl ?_
  refine y_i2l C dX8_undoes_6 rfl ?_
  refine y_lconst C dX8_undoes_7 lc_0 ?_
  refine y_aload_n C dX8_undoes_8 0 rfl rfl ?_
  refine yg_X8_34_wM0 C dX8_undoes_9 ?_
  refine y_bipush C dX8_undoes_12 bp_7 ?_
  refine y_iald C (wM_7 ..) tn_7 vi_7_55 dX8_undoes_14 ?_
  refine y_iconst C dX8_undoes_15 ic_1 ?_
  refine y_isub C dX8_undoes_16 ?_
  refine y_i2l C dX8_undoes_17 rfl ?_
  refine y_callRiS (As := [.long ((x1).toInt64), .long (0), .long (((((sI S 0 0 0).1 7 7) - 1)).toInt64)]) (rest := []) C cs_X8_85 (met_m_in G ((x1).toInt64) (0) (((((sI S 0 0 0).1 7 7) - 1)).toInt64) _ (h)) (fun _ _ => pw_nil) ⟨rfl, rfl, Nat.le_of_ble_eq_true rfl, Nat.le_of_ble_eq_true rfl⟩ rfl rfl (Nat.le_of_ble_eq_true rfl) dX8_undoes_18 ⟨Nat.zero_le _, Nat.zero_le _⟩ (fun r_1 h_2 => ?_)
  refine y_if_ne C (tgt := 28) dX8_undoes_21 rfl (fun c_4 => ?_) (fun c_4 => ?_)
  · have h_5 := (h_2).1 c_4
    refine y_aload_n C dX8_undoes_28 0 rfl rfl ?_
    refine y_callMvV (k' := 0) (n' := 0) (As := []) (rest := []) C M cs_X8_290 (met_m_lays G A (sI S 0 0 0) _ (h_5)) (wM_0 ..) rfl rfl ⟨rfl, rfl, Nat.le_of_ble_eq_true rfl, Nat.le_of_ble_eq_true rfl⟩ rfl rfl (Nat.le_of_ble_eq_true rfl) dX8_undoes_29 ⟨Nat.zero_le _, Nat.zero_le _⟩ rfl rfl (fun S_8 h_7 => ?_)
    refine y_aload_n C dX8_undoes_32 0 rfl rfl ?_
    refine y_callRiV (As := []) (rest := []) C cs_X8_312 (met_m_allHoles G A S_8 _ (h_7)) (fun _ h => h) (wM_0 ..) rfl rfl ⟨rfl, rfl, Nat.le_of_ble_eq_true rfl, Nat.le_of_ble_eq_true rfl⟩ rfl rfl (Nat.le_of_ble_eq_true rfl) dX8_undoes_33 ⟨Nat.zero_le _, Nat.zero_le _⟩ (fun r_9 h_10 => ?_)
    refine y_istore_n C dX8_undoes_36 rfl (Nat.le_of_ble_eq_true rfl) [(2, .int (r_9)), (0, .ref (A 0)), (1, .int (x1))] rfl ?_
    refine y_aload_n C dX8_undoes_37 1 rfl rfl ?_
    refine y_iload_n C dX8_undoes_38 2 rfl rfl ?_
    refine y_callMvV (k' := 0) (n' := 0) (As := [.int (x1)]) (rest := []) C M cs_X8_277 (met_m_laysBut G A S_8 (x1) _ (h_10)) (wM_0 ..) rfl rfl ⟨rfl, rfl, Nat.le_of_ble_eq_true rfl, Nat.le_of_ble_eq_true rfl⟩ rfl rfl (Nat.le_of_ble_eq_true rfl) dX8_undoes_39 ⟨Nat.zero_le _, Nat.zero_le _⟩ rfl rfl (fun S_14 h_13 => ?_)
    refine y_iload_n C dX8_undoes_42 0 rfl rfl ?_
    refine y_aload_n C dX8_undoes_43 1 rfl rfl ?_
    refine y_callRiV (As := []) (rest := [.int (r_9)]) C cs_X8_312 (met_m_allHoles G A S_14 _ (h_13)) (fun _ h => h) (wM_0 ..) rfl rfl ⟨rfl, rfl, Nat.le_of_ble_eq_true rfl, Nat.le_of_ble_eq_true rfl⟩ rfl rfl (Nat.le_of_ble_eq_true rfl) dX8_undoes_44 ⟨Nat.zero_le _, Nat.zero_le _⟩ (fun r_15 h_16 => ?_)
    refine y_isub C dX8_undoes_47 ?_
    exact y_iretM C M N rfl (S := S_14) rfl (h_16) dX8_undoes_48
  · have h_18 := (h_2).2 c_4
    refine y_sipush C dX8_undoes_24 spm1000 ?_
    exact y_iretM C M N rfl (S := (sI S 0 0 0)) rfl (h_18) dX8_undoes_27
/-! OverHillModel causes(II)I: m_causes -/
abbrev rm_m_causes : Room := { frames := 5, cells := 0, slots := 0, locals := 134 }
def wp_m_causes_b44 (Q : Int32 → St → Prop) (x1 : Int32) (x2 : Int32) : Nat → St → Int32 → Int32 → Prop
  | 0 => fun _ _ _ => False
  | n + 1 => fun S x3 x4 => (((S.1 7 7) ≤ x4 → Q x3 S) ∧ (¬ (S.1 7 7) ≤ x4 → wp_m_laysBut S (x4) (fun S_29 => wp_m_isHole S_29 (x1) (x2) (fun r_30 => ((r_30 = 0 → wp_m_causes_b44 Q x1 x2 n S_29 ((x3 ||| (1 <<< (x4 &&& 31)))) ((x4 + 1))) ∧ (¬ r_30 = 0 → wp_m_causes_b44 Q x1 x2 n S_29 ((x3 ||| 0)) ((x4 + 1))))))))
def wp_m_causes (S : St) (x1 : Int32) (x2 : Int32) (Q : Int32 → St → Prop) : Prop :=
  wp_m_isSide (sI S 0 0 0) (x1) (fun r_1 => ((r_1 = 0 → Q (-2) (sI S 0 0 0)) ∧ (¬ r_1 = 0 → wp_m_isBeat ((x2).toInt64) (fun r_7 => ((¬ r_7 = 0 → wp_m_lays (sI S 0 0 0) (fun S_14 => wp_m_isHole S_14 (x1) (x2) (fun r_15 => ((¬ r_15 = 0 → (∃ z, wp_m_causes_b44 Q (x1) (x2) z S_14 (0) (0))) ∧ (r_15 = 0 → Q 0 S_14))))) ∧ (r_7 = 0 → Q (-2) (sI S 0 0 0)))))))
set_option maxRecDepth 100000 in
theorem wk_m_causes_b44 {G : Gx} {K : Kx} {A : Nat → Nat} (C : KOk G K RX8 cX8_causes rm_m_causes 5 (some .int)) {B : Nat → Prop} (M : KM G K B) {Q : Int32 → St → Prop} (N : KQi G K B (wM G A) Q) (x1 : Int32) (x2 : Int32) : ∀ (n : Nat), ∀ (S : St) (x3 : Int32) (x4 : Int32), wp_m_causes_b44 Q x1 x2 n S x3 x4 → Y G K 0 0 (wM G A S) 44 [(0, .ref (A 0)), (1, .int (x1)), (2, .int (x2)), (3, .int (x3)), (4, .int (x4))] [] := by
  intro n
  induction n with
  | zero => intro S x3 x4 h; exact h.elim
  | succ n ih =>
    intro S x3 x4 h
    dsimp only [wp_m_causes_b44] at h
    refine y_iload C dX8_causes_44 4 rfl ?_
    refine y_aload_n C dX8_causes_46 0 rfl rfl ?_
    refine yg_X8_34_wM0 C dX8_causes_47 ?_
    refine y_bipush C dX8_causes_50 bp_7 ?_
    refine y_iald C (wM_7 ..) tn_7 vi_7_55 dX8_causes_52 ?_
    refine y_icmp_ge C (tgt := 88) dX8_causes_53 rfl (fun c_24 => ?_) (fun c_24 => ?_)
    · have h_25 := (h).1 c_24
      refine y_iload_n C dX8_causes_88 3 rfl rfl ?_
      exact y_iretM C M N rfl (S := S) rfl (h_25) dX8_causes_89
    · have h_26 := (h).2 c_24
      refine y_aload_n C dX8_causes_56 0 rfl rfl ?_
      refine y_iload C dX8_causes_57 4 rfl ?_
      refine y_callMvV (k' := 0) (n' := 0) (As := [.int (x4)]) (rest := []) C M cs_X8_277 (met_m_laysBut G A S (x4) _ (h_26)) (wM_0 ..) rfl rfl ⟨rfl, rfl, Nat.le_of_ble_eq_true rfl, Nat.le_of_ble_eq_true rfl⟩ rfl rfl (Nat.le_of_ble_eq_true rfl) dX8_causes_59 ⟨Nat.zero_le _, Nat.zero_le _⟩ rfl rfl (fun S_29 h_28 => ?_)
      refine y_iload_n C dX8_causes_62 3 rfl rfl ?_
      refine y_aload_n C dX8_causes_63 0 rfl rfl ?_
      refine y_iload_n C dX8_causes_64 1 rfl rfl ?_
      refine y_iload_n C dX8_causes_65 2 rfl rfl ?_
      refine y_callRiV (As := [.int (x1), .int (x2)]) (rest := [.int (x3)]) C cs_X8_293 (met_m_isHole G A S_29 (x1) (x2) _ (h_28)) (fun _ h => h) (wM_0 ..) rfl rfl ⟨rfl, rfl, Nat.le_of_ble_eq_true rfl, Nat.le_of_ble_eq_true rfl⟩ rfl rfl (Nat.le_of_ble_eq_true rfl) dX8_causes_66 ⟨Nat.zero_le _, Nat.zero_le _⟩ (fun r_30 h_31 => ?_)
      refine y_if_eq C (tgt := 76) dX8_causes_69 rfl (fun c_33 => ?_) (fun c_33 => ?_)
      · have h_34 := (h_31).1 c_33
        refine y_iconst C dX8_causes_76 ic_1 ?_
        refine y_iload C dX8_causes_77 4 rfl ?_
        refine y_ishl C dX8_causes_79 ?_
        refine y_ior C dX8_causes_80 ?_
        refine y_istore_n C dX8_causes_81 rfl (Nat.le_of_ble_eq_true rfl) [(3, .int ((x3 ||| (1 <<< (x4 &&& 31))))), (0, .ref (A 0)), (1, .int (x1)), (2, .int (x2)), (4, .int (x4))] rfl ?_
        refine y_iinc C dX8_causes_82 4 rfl (Nat.le_of_ble_eq_true rfl) (ii_1 _) [(4, .int ((x4 + 1))), (3, .int ((x3 ||| (1 <<< (x4 &&& 31))))), (0, .ref (A 0)), (1, .int (x1)), (2, .int (x2))] rfl ?_
        refine y_goto C (tgt := 44) dX8_causes_85 rfl ?_
        exact Y.sub (ih S_29 ((x3 ||| (1 <<< (x4 &&& 31)))) ((x4 + 1)) (h_34)) [2, 3, 4, 1, 0] rfl
      · have h_35 := (h_31).2 c_33
        refine y_iconst C dX8_causes_72 ic_0 ?_
        refine y_goto C (tgt := 80) dX8_causes_73 rfl ?_
        refine y_ior C dX8_causes_80 ?_
        refine y_istore_n C dX8_causes_81 rfl (Nat.le_of_ble_eq_true rfl) [(3, .int ((x3 ||| 0))), (0, .ref (A 0)), (1, .int (x1)), (2, .int (x2)), (4, .int (x4))] rfl ?_
        refine y_iinc C dX8_causes_82 4 rfl (Nat.le_of_ble_eq_true rfl) (ii_1 _) [(4, .int ((x4 + 1))), (3, .int ((x3 ||| 0))), (0, .ref (A 0)), (1, .int (x1)), (2, .int (x2))] rfl ?_
        refine y_goto C (tgt := 44) dX8_causes_85 rfl ?_
        exact Y.sub (ih S_29 ((x3 ||| 0)) ((x4 + 1)) (h_35)) [2, 3, 4, 1, 0] rfl
set_option maxRecDepth 100000 in
theorem met_m_causes (G : Gx) (A : Nat → Nat) (S : St) (x1 : Int32) (x2 : Int32) (Q : Int32 → St → Prop) (h : wp_m_causes S x1 x2 Q) : Mi G yX8_causes (ws_ yX8_causes cX8_causes 5 (some .int)) rm_m_causes (wM G A S) [.ref (A 0), .int (x1), .int (x2)] (wM G A) Q := by
  refine ent_Mi (by decide +kernel) rfl (Nat.le_of_ble_eq_true rfl) [(0, .ref (A 0)), (1, .int (x1)), (2, .int (x2))] rfl (fun K B C M N => ?_)
  refine y_aload_n C dX8_causes_0 0 rfl rfl ?_
  refine y_iconst C dX8_causes_1 ic_0 ?_
  refine yp_X8_80_wM0 C M dX8_causes_2 ?_
  refine y_aload_n C dX8_causes_5 0 rfl rfl ?_
  refine y_iload_n C dX8_causes_6 1 rfl rfl ?_
  refine y_callRiV (As := [.int (x1)]) (rest := []) C cs_X8_261 (met_m_isSide G A (sI S 0 0 0) (x1) _ (h)) (fun _ h => h) (wM_0 ..) rfl rfl ⟨rfl, rfl, Nat.le_of_ble_eq_true rfl, Nat.le_of_ble_eq_true rfl⟩ rfl rfl (Nat.le_of_ble_eq_true rfl) dX8_causes_7 ⟨Nat.zero_le _, Nat.zero_le _⟩ (fun r_1 h_2 => ?_)
  refine y_if_eq C (tgt := 21) dX8_causes_10 rfl (fun c_4 => ?_) (fun c_4 => ?_)
  · have h_5 := (h_2).1 c_4
    refine y_bipush C dX8_causes_21 bpm2 ?_
    exact y_iretM C M N rfl (S := (sI S 0 0 0)) rfl (h_5) dX8_causes_23
  · have h_6 := (h_2).2 c_4
    refine y_iload_n C dX8_causes_13 2 rfl rfl ?_
    refine y_i2l C dX8_causes_14 rfl ?_
    refine y_callRiS (As := [.long ((x2).toInt64)]) (rest := []) C cs_X8_270 (met_m_isBeat G ((x2).toInt64) _ (h_6)) (fun _ _ => pw_nil) ⟨rfl, rfl, Nat.le_of_ble_eq_true rfl, Nat.le_of_ble_eq_true rfl⟩ rfl rfl (Nat.le_of_ble_eq_true rfl) dX8_causes_15 ⟨Nat.zero_le _, Nat.zero_le _⟩ (fun r_7 h_8 => ?_)
    refine y_if_ne C (tgt := 24) dX8_causes_18 rfl (fun c_10 => ?_) (fun c_10 => ?_)
    · have h_11 := (h_8).1 c_10
      refine y_aload_n C dX8_causes_24 0 rfl rfl ?_
      refine y_callMvV (k' := 0) (n' := 0) (As := []) (rest := []) C M cs_X8_290 (met_m_lays G A (sI S 0 0 0) _ (h_11)) (wM_0 ..) rfl rfl ⟨rfl, rfl, Nat.le_of_ble_eq_true rfl, Nat.le_of_ble_eq_true rfl⟩ rfl rfl (Nat.le_of_ble_eq_true rfl) dX8_causes_25 ⟨Nat.zero_le _, Nat.zero_le _⟩ rfl rfl (fun S_14 h_13 => ?_)
      refine y_aload_n C dX8_causes_28 0 rfl rfl ?_
      refine y_iload_n C dX8_causes_29 1 rfl rfl ?_
      refine y_iload_n C dX8_causes_30 2 rfl rfl ?_
      refine y_callRiV (As := [.int (x1), .int (x2)]) (rest := []) C cs_X8_293 (met_m_isHole G A S_14 (x1) (x2) _ (h_13)) (fun _ h => h) (wM_0 ..) rfl rfl ⟨rfl, rfl, Nat.le_of_ble_eq_true rfl, Nat.le_of_ble_eq_true rfl⟩ rfl rfl (Nat.le_of_ble_eq_true rfl) dX8_causes_31 ⟨Nat.zero_le _, Nat.zero_le _⟩ (fun r_15 h_16 => ?_)
      refine y_if_ne C (tgt := 39) dX8_causes_34 rfl (fun c_18 => ?_) (fun c_18 => ?_)
      · have h_19 := (h_16).1 c_18
        refine y_iconst C dX8_causes_39 ic_0 ?_
        refine y_istore_n C dX8_causes_40 rfl (Nat.le_of_ble_eq_true rfl) [(3, .int (0)), (0, .ref (A 0)), (1, .int (x1)), (2, .int (x2))] rfl ?_
        refine y_iconst C dX8_causes_41 ic_0 ?_
        refine y_istore C dX8_causes_42 (Nat.le_of_ble_eq_true rfl) [(4, .int (0)), (3, .int (0)), (0, .ref (A 0)), (1, .int (x1)), (2, .int (x2))] rfl ?_
        obtain ⟨n_20, h_21⟩ := h_19
        exact Y.sub (wk_m_causes_b44 C M N (x1) (x2) n_20 S_14 (0) (0) h_21) [2, 3, 4, 1, 0] rfl
      · have h_22 := (h_16).2 c_18
        refine y_iconst C dX8_causes_37 ic_0 ?_
        exact y_iretM C M N rfl (S := S_14) rfl (h_22) dX8_causes_38
    · have h_23 := (h_8).2 c_10
      refine y_bipush C dX8_causes_21 bpm2 ?_
      exact y_iretM C M N rfl (S := (sI S 0 0 0)) rfl (h_23) dX8_causes_23
/-! OverHillModel areRounds()Z: m_areRounds -/
abbrev rm_m_areRounds : Room := { frames := 1, cells := 0, slots := 0, locals := 40 }
def wp_m_areRounds (S : St) (Q : Int32 → Prop) : Prop :=
  (((S.1 7 3) ≤ 0 → Q 0) ∧ (¬ (S.1 7 3) ≤ 0 → (((S.1 7 4) ≤ 0 → Q 0) ∧ (¬ (S.1 7 4) ≤ 0 → Q 1))))
set_option maxRecDepth 100000 in
theorem met_m_areRounds (G : Gx) (A : Nat → Nat) (S : St) (Q : Int32 → Prop) (h : wp_m_areRounds S Q) : Ri G yX8_areRounds (ws_ yX8_areRounds cX8_areRounds 1 (some .boolean)) rm_m_areRounds (wM G A S) [.ref (A 0)] Q := by
  refine ent_Ri (by decide +kernel) rfl (Nat.le_of_ble_eq_true rfl) [(0, .ref (A 0))] rfl (fun K C N => ?_)
  refine y_aload_n C dX8_areRounds_0 0 rfl rfl ?_
  refine yg_X8_34_wM0 C dX8_areRounds_1 ?_
  refine y_iconst C dX8_areRounds_4 ic_3 ?_
  refine y_iald C (wM_7 ..) tn_3 vi_3_55 dX8_areRounds_5 ?_
  refine y_if_le C (tgt := 22) dX8_areRounds_6 rfl (fun c_1 => ?_) (fun c_1 => ?_)
  · have h_2 := (h).1 c_1
    refine y_iconst C dX8_areRounds_22 ic_0 ?_
    exact y_zretR C N rfl rfl (h_2) dX8_areRounds_23
  · have h_3 := (h).2 c_1
    refine y_aload_n C dX8_areRounds_9 0 rfl rfl ?_
    refine yg_X8_34_wM0 C dX8_areRounds_10 ?_
    refine y_iconst C dX8_areRounds_13 ic_4 ?_
    refine y_iald C (wM_7 ..) tn_4 vi_4_55 dX8_areRounds_14 ?_
    refine y_if_le C (tgt := 22) dX8_areRounds_15 rfl (fun c_4 => ?_) (fun c_4 => ?_)
    · have h_5 := (h_3).1 c_4
      refine y_iconst C dX8_areRounds_22 ic_0 ?_
      exact y_zretR C N rfl rfl (h_5) dX8_areRounds_23
    · have h_6 := (h_3).2 c_4
      refine y_iconst C dX8_areRounds_18 ic_1 ?_
      refine y_goto C (tgt := 23) dX8_areRounds_19 rfl ?_
      exact y_zretR C N rfl rfl (h_6) dX8_areRounds_23
/-! OverHillModel common(II)I: m_common -/
abbrev rm_m_common (d : Nat) : Room := { frames := 1 + d, cells := 0, slots := 0, locals := 40 + 32 * d }
def wp_m_common_e (Rec : Int32 → Int32 → (Int32 → Prop) → Prop) (x0 : Int32) (x1 : Int32) (Q : Int32 → Prop) : Prop :=
  ((¬ x1 = 0 → (¬ x1 = 0 ∧ Rec (x1) ((irm x0 x1)) (fun r_3 => Q r_3))) ∧ (x1 = 0 → Q x0))
def wp_m_common : Nat → Int32 → Int32 → (Int32 → Prop) → Prop
  | 0 => fun _ _ _ => False
  | d + 1 => wp_m_common_e (wp_m_common d)
theorem rmr_m_common (d : Nat) : (rm_m_common d).cells = 0 ∧ (rm_m_common d).slots = 0 ∧ (rm_m_common d).frames + 1 ≤ (rm_m_common (d + 1)).frames ∧ 8 + (2 + 11) + (rm_m_common d).locals ≤ (rm_m_common (d + 1)).locals := ⟨rfl, rfl, by simp only [rm_m_common]; omega, by simp only [rm_m_common]; omega⟩
set_option maxRecDepth 100000 in
theorem mez_m_common (G : Gx) {d : Nat} {Rec : Int32 → Int32 → (Int32 → Prop) → Prop} (hRec : ∀ (x0 : Int32) (x1 : Int32) (Q : Int32 → Prop), Rec x0 x1 Q → Ri G yX8_common (ws_ yX8_common cX8_common 2 (some .int)) (rm_m_common d) [] [.int (x0), .int (x1)] Q) (x0 : Int32) (x1 : Int32) (Q : Int32 → Prop) (h : wp_m_common_e Rec x0 x1 Q) : Ri G yX8_common (ws_ yX8_common cX8_common 2 (some .int)) (rm_m_common (d + 1)) [] [.int (x0), .int (x1)] Q := by
  refine ent_Ri (by decide +kernel) rfl (Nat.le_of_ble_eq_true rfl) [(0, .int (x0)), (1, .int (x1))] rfl (fun K C N => ?_)
  refine y_iload_n C dX8_common_0 1 rfl rfl ?_
  refine y_if_ne C (tgt := 8) dX8_common_1 rfl (fun c_1 => ?_) (fun c_1 => ?_)
  · have h_2 := (h).1 c_1
    refine y_iload_n C dX8_common_8 1 rfl rfl ?_
    refine y_iload_n C dX8_common_9 0 rfl rfl ?_
    refine y_iload_n C dX8_common_10 1 rfl rfl ?_
    refine y_irem C dX8_common_11 (h_2).1 ?_
    refine y_callRiS (As := [.int (x1), .int ((irm x0 x1))]) (rest := []) C cs_X8_315 (hRec (x1) ((irm x0 x1)) _ ((h_2).2)) (fun _ h => h) (rmr_m_common d) rfl rfl (Nat.le_of_ble_eq_true rfl) dX8_common_12 ⟨Nat.zero_le _, Nat.zero_le _⟩ (fun r_3 h_4 => ?_)
    exact y_iretR C N rfl (h_4) dX8_common_15
  · have h_6 := (h).2 c_1
    refine y_iload_n C dX8_common_4 0 rfl rfl ?_
    refine y_goto C (tgt := 15) dX8_common_5 rfl ?_
    exact y_iretR C N rfl (h_6) dX8_common_15
set_option maxRecDepth 100000 in
theorem met_m_common (G : Gx) (d : Nat) : ∀ (x0 : Int32) (x1 : Int32) (Q : Int32 → Prop), wp_m_common d x0 x1 Q → Ri G yX8_common (ws_ yX8_common cX8_common 2 (some .int)) (rm_m_common d) [] [.int (x0), .int (x1)] Q := by
  induction d with
  | zero => intro x0 x1 Q h; exact h.elim
  | succ d ih => intro x0 x1 Q h; exact mez_m_common G (d := d) ih x0 x1 Q h
/-! OverHillModel periodOf()I: m_periodOf -/
abbrev rm_m_periodOf : Room := { frames := 102, cells := 0, slots := 0, locals := 3261 }
def wp_m_periodOf (S : St) (Q : Int32 → Prop) : Prop :=
  wp_m_lengthOf S (0) (fun r_1 => wp_m_lengthOf S (0) (fun r_4 => wp_m_lengthOf S (1) (fun r_7 => wp_m_common 100 (r_4) (r_7) (fun r_10 => (¬ r_10 = 0 ∧ wp_m_lengthOf S (1) (fun r_13 => Q ((r_1 / r_10) * r_13)))))))
set_option maxRecDepth 100000 in
theorem met_m_periodOf (G : Gx) (A : Nat → Nat) (S : St) (Q : Int32 → Prop) (h : wp_m_periodOf S Q) : Ri G yX8_periodOf (ws_ yX8_periodOf cX8_periodOf 1 (some .int)) rm_m_periodOf (wM G A S) [.ref (A 0)] Q := by
  refine ent_Ri (by decide +kernel) rfl (Nat.le_of_ble_eq_true rfl) [(0, .ref (A 0))] rfl (fun K C N => ?_)
  refine y_aload_n C dX8_periodOf_0 0 rfl rfl ?_
  refine y_iconst C dX8_periodOf_1 ic_0 ?_
  refine y_callRiV (As := [.int (0)]) (rest := []) C cs_X8_264 (met_m_lengthOf G A S (0) _ (h)) (fun _ h => h) (wM_0 ..) rfl rfl ⟨rfl, rfl, Nat.le_of_ble_eq_true rfl, Nat.le_of_ble_eq_true rfl⟩ rfl rfl (Nat.le_of_ble_eq_true rfl) dX8_periodOf_2 ⟨Nat.zero_le _, Nat.zero_le _⟩ (fun r_1 h_2 => ?_)
  refine y_aload_n C dX8_periodOf_5 0 rfl rfl ?_
  refine y_iconst C dX8_periodOf_6 ic_0 ?_
  refine y_callRiV (As := [.int (0)]) (rest := [.int (r_1)]) C cs_X8_264 (met_m_lengthOf G A S (0) _ (h_2)) (fun _ h => h) (wM_0 ..) rfl rfl ⟨rfl, rfl, Nat.le_of_ble_eq_true rfl, Nat.le_of_ble_eq_true rfl⟩ rfl rfl (Nat.le_of_ble_eq_true rfl) dX8_periodOf_7 ⟨Nat.zero_le _, Nat.zero_le _⟩ (fun r_4 h_5 => ?_)
  refine y_aload_n C dX8_periodOf_10 0 rfl rfl ?_
  refine y_iconst C dX8_periodOf_11 ic_1 ?_
  refine y_callRiV (As := [.int (1)]) (rest := [.int (r_4), .int (r_1)]) C cs_X8_264 (met_m_lengthOf G A S (1) _ (h_5)) (fun _ h => h) (wM_0 ..) rfl rfl ⟨rfl, rfl, Nat.le_of_ble_eq_true rfl, Nat.le_of_ble_eq_true rfl⟩ rfl rfl (Nat.le_of_ble_eq_true rfl) dX8_periodOf_12 ⟨Nat.zero_le _, Nat.zero_le _⟩ (fun r_7 h_8 => ?_)
  refine y_callRiS (As := [.int (r_4), .int (r_7)]) (rest := [.int (r_1)]) C cs_X8_315 (met_m_common G 100 (r_4) (r_7) _ (h_8)) (fun _ _ => pw_nil) ⟨rfl, rfl, Nat.le_of_ble_eq_true rfl, Nat.le_of_ble_eq_true rfl⟩ rfl rfl (Nat.le_of_ble_eq_true rfl) dX8_periodOf_15 ⟨Nat.zero_le _, Nat.zero_le _⟩ (fun r_10 h_11 => ?_)
  refine y_idiv C dX8_periodOf_18 (h_11).1 ?_
  refine y_aload_n C dX8_periodOf_19 0 rfl rfl ?_
  refine y_iconst C dX8_periodOf_20 ic_1 ?_
  refine y_callRiV (As := [.int (1)]) (rest := [.int ((r_1 / r_10))]) C cs_X8_264 (met_m_lengthOf G A S (1) _ ((h_11).2)) (fun _ h => h) (wM_0 ..) rfl rfl ⟨rfl, rfl, Nat.le_of_ble_eq_true rfl, Nat.le_of_ble_eq_true rfl⟩ rfl rfl (Nat.le_of_ble_eq_true rfl) dX8_periodOf_21 ⟨Nat.zero_le _, Nat.zero_le _⟩ (fun r_13 h_14 => ?_)
  refine y_imul C dX8_periodOf_24 ?_
  exact y_iretR C N rfl (h_14) dX8_periodOf_25
/-! OverHillModel period()I: m_period -/
abbrev rm_m_period : Room := { frames := 103, cells := 0, slots := 0, locals := 3281 }
def wp_m_period (S : St) (Q : Int32 → St → Prop) : Prop :=
  wp_m_isDance (sI S 0 0 0) (fun r_1 => ((¬ r_1 = 0 → wp_m_areRounds (sI S 0 0 0) (fun r_6 => ((r_6 = 0 → Q (-1) (sI S 0 0 0)) ∧ (¬ r_6 = 0 → wp_m_periodOf (sI S 0 0 0) (fun r_12 => Q r_12 (sI S 0 0 0)))))) ∧ (r_1 = 0 → Q (-2) (sI S 0 0 0))))
set_option maxRecDepth 100000 in
theorem met_m_period (G : Gx) (A : Nat → Nat) (S : St) (Q : Int32 → St → Prop) (h : wp_m_period S Q) : Mi G yX8_period (ws_ yX8_period cX8_period 1 (some .int)) rm_m_period (wM G A S) [.ref (A 0)] (wM G A) Q := by
  refine ent_Mi (by decide +kernel) rfl (Nat.le_of_ble_eq_true rfl) [(0, .ref (A 0))] rfl (fun K B C M N => ?_)
  refine y_aload_n C dX8_period_0 0 rfl rfl ?_
  refine y_iconst C dX8_period_1 ic_0 ?_
  refine yp_X8_80_wM0 C M dX8_period_2 ?_
  refine y_aload_n C dX8_period_5 0 rfl rfl ?_
  refine y_callRiV (As := []) (rest := []) C cs_X8_254 (met_m_isDance G A (sI S 0 0 0) _ (h)) (fun _ h => h) (wM_0 ..) rfl rfl ⟨rfl, rfl, Nat.le_of_ble_eq_true rfl, Nat.le_of_ble_eq_true rfl⟩ rfl rfl (Nat.le_of_ble_eq_true rfl) dX8_period_6 ⟨Nat.zero_le _, Nat.zero_le _⟩ (fun r_1 h_2 => ?_)
  refine y_if_ne C (tgt := 17) dX8_period_9 rfl (fun c_4 => ?_) (fun c_4 => ?_)
  · have h_5 := (h_2).1 c_4
    refine y_aload_n C dX8_period_17 0 rfl rfl ?_
    refine y_callRiV (As := []) (rest := []) C cs_X8_322 (met_m_areRounds G A (sI S 0 0 0) _ (h_5)) (fun _ h => h) (wM_0 ..) rfl rfl ⟨rfl, rfl, Nat.le_of_ble_eq_true rfl, Nat.le_of_ble_eq_true rfl⟩ rfl rfl (Nat.le_of_ble_eq_true rfl) dX8_period_18 ⟨Nat.zero_le _, Nat.zero_le _⟩ (fun r_6 h_7 => ?_)
    refine y_if_eq C (tgt := 31) dX8_period_21 rfl (fun c_9 => ?_) (fun c_9 => ?_)
    · have h_10 := (h_7).1 c_9
      refine y_iconst C dX8_period_31 icm1 ?_
      exact y_iretM C M N rfl (S := (sI S 0 0 0)) rfl (h_10) dX8_period_32
    · have h_11 := (h_7).2 c_9
      refine y_aload_n C dX8_period_24 0 rfl rfl ?_
      refine y_callRiV (As := []) (rest := []) C cs_X8_325 (met_m_periodOf G A (sI S 0 0 0) _ (h_11)) (fun _ h => h) (wM_0 ..) rfl rfl ⟨rfl, rfl, Nat.le_of_ble_eq_true rfl, Nat.le_of_ble_eq_true rfl⟩ rfl rfl (Nat.le_of_ble_eq_true rfl) dX8_period_25 ⟨Nat.zero_le _, Nat.zero_le _⟩ (fun r_12 h_13 => ?_)
      refine y_goto C (tgt := 32) dX8_period_28 rfl ?_
      exact y_iretM C M N rfl (S := (sI S 0 0 0)) rfl (h_13) dX8_period_32
  · have h_15 := (h_2).2 c_4
    refine y_bipush C dX8_period_12 bpm2 ?_
    refine y_goto C (tgt := 32) dX8_period_14 rfl ?_
    exact y_iretM C M N rfl (S := (sI S 0 0 0)) rfl (h_15) dX8_period_32
/-! OverHillModel meets(III)I: m_meets -/
abbrev rm_m_meets : Room := { frames := 103, cells := 0, slots := 0, locals := 3281 }
def wp_m_meets_b60 (Q : Int32 → St → Prop) (x1 : Int32) (x2 : Int32) (x3 : Int32) : Nat → St → Int32 → Prop
  | 0 => fun _ _ => False
  | n + 1 => fun S x4 => wp_m_periodOf S (fun r_33 => (((x3 + r_33) ≤ x4 → Q (-1) S) ∧ (¬ (x3 + r_33) ≤ x4 → wp_m_lengthOf S (0) (fun r_39 => (¬ r_39 = 0 ∧ ((¬ (irm ((S.1 7 5) + x4) r_39) = x1 → wp_m_meets_b60 Q x1 x2 x3 n S ((x4 + 1))) ∧ ((irm ((S.1 7 5) + x4) r_39) = x1 → wp_m_lengthOf S (1) (fun r_45 => (¬ r_45 = 0 ∧ ((¬ (irm ((S.1 7 6) + x4) r_45) = x2 → wp_m_meets_b60 Q x1 x2 x3 n S ((x4 + 1))) ∧ ((irm ((S.1 7 6) + x4) r_45) = x2 → Q x4 S)))))))))))
def wp_m_meets (S : St) (x1 : Int32) (x2 : Int32) (x3 : Int32) (Q : Int32 → St → Prop) : Prop :=
  wp_m_isDance (sI S 0 0 0) (fun r_1 => ((r_1 = 0 → Q (-2) (sI S 0 0 0)) ∧ (¬ r_1 = 0 → wp_m_lengthOf (sI S 0 0 0) (0) (fun r_7 => wp_m_in ((x1).toInt64) (0) (((r_7 - 1)).toInt64) (fun r_10 => ((r_10 = 0 → Q (-2) (sI S 0 0 0)) ∧ (¬ r_10 = 0 → wp_m_lengthOf (sI S 0 0 0) (1) (fun r_16 => wp_m_in ((x2).toInt64) (0) (((r_16 - 1)).toInt64) (fun r_19 => ((r_19 = 0 → Q (-2) (sI S 0 0 0)) ∧ (¬ r_19 = 0 → wp_m_isBeat ((x3).toInt64) (fun r_25 => ((¬ r_25 = 0 → (∃ z, wp_m_meets_b60 Q (x1) (x2) (x3) z (sI S 0 0 0) (x3))) ∧ (r_25 = 0 → Q (-2) (sI S 0 0 0)))))))))))))))
set_option maxRecDepth 100000 in
theorem wk_m_meets_b60 {G : Gx} {K : Kx} {A : Nat → Nat} (C : KOk G K RX8 cX8_meets rm_m_meets 5 (some .int)) {B : Nat → Prop} (M : KM G K B) {Q : Int32 → St → Prop} (N : KQi G K B (wM G A) Q) (x1 : Int32) (x2 : Int32) (x3 : Int32) : ∀ (n : Nat), ∀ (S : St) (x4 : Int32), wp_m_meets_b60 Q x1 x2 x3 n S x4 → Y G K 0 0 (wM G A S) 60 [(0, .ref (A 0)), (1, .int (x1)), (2, .int (x2)), (3, .int (x3)), (4, .int (x4))] [] := by
  intro n
  induction n with
  | zero => intro S x4 h; exact h.elim
  | succ n ih =>
    intro S x4 h
    dsimp only [wp_m_meets_b60] at h
    refine y_iload C dX8_meets_60 4 rfl ?_
    refine y_iload_n C dX8_meets_62 3 rfl rfl ?_
    refine y_aload_n C dX8_meets_63 0 rfl rfl ?_
    refine y_callRiV (As := []) (rest := [.int (x3), .int (x4)]) C cs_X8_325 (met_m_periodOf G A S _ (h)) (fun _ h => h) (wM_0 ..) rfl rfl ⟨rfl, rfl, Nat.le_of_ble_eq_true rfl, Nat.le_of_ble_eq_true rfl⟩ rfl rfl (Nat.le_of_ble_eq_true rfl) dX8_meets_64 ⟨Nat.zero_le _, Nat.zero_le _⟩ (fun r_33 h_34 => ?_)
    refine y_iadd C dX8_meets_67 ?_
    refine y_icmp_ge C (tgt := 119) dX8_meets_68 rfl (fun c_36 => ?_) (fun c_36 => ?_)
    · have h_37 := (h_34).1 c_36
      refine y_iconst C dX8_meets_119 icm1 ?_
      exact y_iretM C M N rfl (S := S) rfl (h_37) dX8_meets_120
    · have h_38 := (h_34).2 c_36
      refine y_aload_n C dX8_meets_71 0 rfl rfl ?_
      refine yg_X8_34_wM0 C dX8_meets_72 ?_
      refine y_iconst C dX8_meets_75 ic_5 ?_
      refine y_iald C (wM_7 ..) tn_5 vi_5_55 dX8_meets_76 ?_
      refine y_iload C dX8_meets_77 4 rfl ?_
      refine y_iadd C dX8_meets_79 ?_
      refine y_aload_n C dX8_meets_80 0 rfl rfl ?_
      refine y_iconst C dX8_meets_81 ic_0 ?_
      refine y_callRiV (As := [.int (0)]) (rest := [.int (((S.1 7 5) + x4))]) C cs_X8_264 (met_m_lengthOf G A S (0) _ (h_38)) (fun _ h => h) (wM_0 ..) rfl rfl ⟨rfl, rfl, Nat.le_of_ble_eq_true rfl, Nat.le_of_ble_eq_true rfl⟩ rfl rfl (Nat.le_of_ble_eq_true rfl) dX8_meets_82 ⟨Nat.zero_le _, Nat.zero_le _⟩ (fun r_39 h_40 => ?_)
      refine y_irem C dX8_meets_85 (h_40).1 ?_
      refine y_iload_n C dX8_meets_86 1 rfl rfl ?_
      refine y_icmp_ne C (tgt := 113) dX8_meets_87 rfl (fun c_42 => ?_) (fun c_42 => ?_)
      · have h_43 := ((h_40).2).1 c_42
        refine y_iinc C dX8_meets_113 4 rfl (Nat.le_of_ble_eq_true rfl) (ii_1 _) [(4, .int ((x4 + 1))), (0, .ref (A 0)), (1, .int (x1)), (2, .int (x2)), (3, .int (x3))] rfl ?_
        refine y_goto C (tgt := 60) dX8_meets_116 rfl ?_
        exact Y.sub (ih S ((x4 + 1)) (h_43)) [1, 2, 3, 4, 0] rfl
      · have h_44 := ((h_40).2).2 c_42
        refine y_aload_n C dX8_meets_90 0 rfl rfl ?_
        refine yg_X8_34_wM0 C dX8_meets_91 ?_
        refine y_bipush C dX8_meets_94 bp_6 ?_
        refine y_iald C (wM_7 ..) tn_6 vi_6_55 dX8_meets_96 ?_
        refine y_iload C dX8_meets_97 4 rfl ?_
        refine y_iadd C dX8_meets_99 ?_
        refine y_aload_n C dX8_meets_100 0 rfl rfl ?_
        refine y_iconst C dX8_meets_101 ic_1 ?_
        refine y_callRiV (As := [.int (1)]) (rest := [.int (((S.1 7 6) + x4))]) C cs_X8_264 (met_m_lengthOf G A S (1) _ (h_44)) (fun _ h => h) (wM_0 ..) rfl rfl ⟨rfl, rfl, Nat.le_of_ble_eq_true rfl, Nat.le_of_ble_eq_true rfl⟩ rfl rfl (Nat.le_of_ble_eq_true rfl) dX8_meets_102 ⟨Nat.zero_le _, Nat.zero_le _⟩ (fun r_45 h_46 => ?_)
        refine y_irem C dX8_meets_105 (h_46).1 ?_
        refine y_iload_n C dX8_meets_106 2 rfl rfl ?_
        refine y_icmp_ne C (tgt := 113) dX8_meets_107 rfl (fun c_48 => ?_) (fun c_48 => ?_)
        · have h_49 := ((h_46).2).1 c_48
          refine y_iinc C dX8_meets_113 4 rfl (Nat.le_of_ble_eq_true rfl) (ii_1 _) [(4, .int ((x4 + 1))), (0, .ref (A 0)), (1, .int (x1)), (2, .int (x2)), (3, .int (x3))] rfl ?_
          refine y_goto C (tgt := 60) dX8_meets_116 rfl ?_
          exact Y.sub (ih S ((x4 + 1)) (h_49)) [1, 2, 3, 4, 0] rfl
        · have h_50 := ((h_46).2).2 c_48
          refine y_iload C dX8_meets_110 4 rfl ?_
          exact y_iretM C M N rfl (S := S) rfl (h_50) dX8_meets_112
set_option maxRecDepth 100000 in
theorem met_m_meets (G : Gx) (A : Nat → Nat) (S : St) (x1 : Int32) (x2 : Int32) (x3 : Int32) (Q : Int32 → St → Prop) (h : wp_m_meets S x1 x2 x3 Q) : Mi G yX8_meets (ws_ yX8_meets cX8_meets 5 (some .int)) rm_m_meets (wM G A S) [.ref (A 0), .int (x1), .int (x2), .int (x3)] (wM G A) Q := by
  refine ent_Mi (by decide +kernel) rfl (Nat.le_of_ble_eq_true rfl) [(0, .ref (A 0)), (1, .int (x1)), (2, .int (x2)), (3, .int (x3))] rfl (fun K B C M N => ?_)
  refine y_aload_n C dX8_meets_0 0 rfl rfl ?_
  refine y_iconst C dX8_meets_1 ic_0 ?_
  refine yp_X8_80_wM0 C M dX8_meets_2 ?_
  refine y_aload_n C dX8_meets_5 0 rfl rfl ?_
  refine y_callRiV (As := []) (rest := []) C cs_X8_254 (met_m_isDance G A (sI S 0 0 0) _ (h)) (fun _ h => h) (wM_0 ..) rfl rfl ⟨rfl, rfl, Nat.le_of_ble_eq_true rfl, Nat.le_of_ble_eq_true rfl⟩ rfl rfl (Nat.le_of_ble_eq_true rfl) dX8_meets_6 ⟨Nat.zero_le _, Nat.zero_le _⟩ (fun r_1 h_2 => ?_)
  refine y_if_eq C (tgt := 54) dX8_meets_9 rfl (fun c_4 => ?_) (fun c_4 => ?_)
  · have h_5 := (h_2).1 c_4
    refine y_bipush C dX8_meets_54 bpm2 ?_
    exact y_iretM C M N rfl (S := (sI S 0 0 0)) rfl (h_5) dX8_meets_56
  · have h_6 := (h_2).2 c_4
    refine y_iload_n C dX8_meets_12 1 rfl rfl ?_
    refine y_i2l C dX8_meets_13 rfl ?_
    refine y_lconst C dX8_meets_14 lc_0 ?_
    refine y_aload_n C dX8_meets_15 0 rfl rfl ?_
    refine y_iconst C dX8_meets_16 ic_0 ?_
    refine y_callRiV (As := [.int (0)]) (rest := [.long (0), .long ((x1).toInt64)]) C cs_X8_264 (met_m_lengthOf G A (sI S 0 0 0) (0) _ (h_6)) (fun _ h => h) (wM_0 ..) rfl rfl ⟨rfl, rfl, Nat.le_of_ble_eq_true rfl, Nat.le_of_ble_eq_true rfl⟩ rfl rfl (Nat.le_of_ble_eq_true rfl) dX8_meets_17 ⟨Nat.zero_le _, Nat.zero_le _⟩ (fun r_7 h_8 => ?_)
    refine y_iconst C dX8_meets_20 ic_1 ?_
    refine y_isub C dX8_meets_21 ?_
    refine y_i2l C dX8_meets_22 rfl ?_
    refine y_callRiS (As := [.long ((x1).toInt64), .long (0), .long (((r_7 - 1)).toInt64)]) (rest := []) C cs_X8_85 (met_m_in G ((x1).toInt64) (0) (((r_7 - 1)).toInt64) _ (h_8)) (fun _ _ => pw_nil) ⟨rfl, rfl, Nat.le_of_ble_eq_true rfl, Nat.le_of_ble_eq_true rfl⟩ rfl rfl (Nat.le_of_ble_eq_true rfl) dX8_meets_23 ⟨Nat.zero_le _, Nat.zero_le _⟩ (fun r_10 h_11 => ?_)
    refine y_if_eq C (tgt := 54) dX8_meets_26 rfl (fun c_13 => ?_) (fun c_13 => ?_)
    · have h_14 := (h_11).1 c_13
      refine y_bipush C dX8_meets_54 bpm2 ?_
      exact y_iretM C M N rfl (S := (sI S 0 0 0)) rfl (h_14) dX8_meets_56
    · have h_15 := (h_11).2 c_13
      refine y_iload_n C dX8_meets_29 2 rfl rfl ?_
      refine y_i2l C dX8_meets_30 rfl ?_
      refine y_lconst C dX8_meets_31 lc_0 ?_
      refine y_aload_n C dX8_meets_32 0 rfl rfl ?_
      refine y_iconst C dX8_meets_33 ic_1 ?_
      refine y_callRiV (As := [.int (1)]) (rest := [.long (0), .long ((x2).toInt64)]) C cs_X8_264 (met_m_lengthOf G A (sI S 0 0 0) (1) _ (h_15)) (fun _ h => h) (wM_0 ..) rfl rfl ⟨rfl, rfl, Nat.le_of_ble_eq_true rfl, Nat.le_of_ble_eq_true rfl⟩ rfl rfl (Nat.le_of_ble_eq_true rfl) dX8_meets_34 ⟨Nat.zero_le _, Nat.zero_le _⟩ (fun r_16 h_17 => ?_)
      refine y_iconst C dX8_meets_37 ic_1 ?_
      refine y_isub C dX8_meets_38 ?_
      refine y_i2l C dX8_meets_39 rfl ?_
      refine y_callRiS (As := [.long ((x2).toInt64), .long (0), .long (((r_16 - 1)).toInt64)]) (rest := []) C cs_X8_85 (met_m_in G ((x2).toInt64) (0) (((r_16 - 1)).toInt64) _ (h_17)) (fun _ _ => pw_nil) ⟨rfl, rfl, Nat.le_of_ble_eq_true rfl, Nat.le_of_ble_eq_true rfl⟩ rfl rfl (Nat.le_of_ble_eq_true rfl) dX8_meets_40 ⟨Nat.zero_le _, Nat.zero_le _⟩ (fun r_19 h_20 => ?_)
      refine y_if_eq C (tgt := 54) dX8_meets_43 rfl (fun c_22 => ?_) (fun c_22 => ?_)
      · have h_23 := (h_20).1 c_22
        refine y_bipush C dX8_meets_54 bpm2 ?_
        exact y_iretM C M N rfl (S := (sI S 0 0 0)) rfl (h_23) dX8_meets_56
      · have h_24 := (h_20).2 c_22
        refine y_iload_n C dX8_meets_46 3 rfl rfl ?_
        refine y_i2l C dX8_meets_47 rfl ?_
        refine y_callRiS (As := [.long ((x3).toInt64)]) (rest := []) C cs_X8_270 (met_m_isBeat G ((x3).toInt64) _ (h_24)) (fun _ _ => pw_nil) ⟨rfl, rfl, Nat.le_of_ble_eq_true rfl, Nat.le_of_ble_eq_true rfl⟩ rfl rfl (Nat.le_of_ble_eq_true rfl) dX8_meets_48 ⟨Nat.zero_le _, Nat.zero_le _⟩ (fun r_25 h_26 => ?_)
        refine y_if_ne C (tgt := 57) dX8_meets_51 rfl (fun c_28 => ?_) (fun c_28 => ?_)
        · have h_29 := (h_26).1 c_28
          refine y_iload_n C dX8_meets_57 3 rfl rfl ?_
          refine y_istore C dX8_meets_58 (Nat.le_of_ble_eq_true rfl) [(4, .int (x3)), (0, .ref (A 0)), (1, .int (x1)), (2, .int (x2)), (3, .int (x3))] rfl ?_
          obtain ⟨n_30, h_31⟩ := h_29
          exact Y.sub (wk_m_meets_b60 C M N (x1) (x2) (x3) n_30 (sI S 0 0 0) (x3) h_31) [1, 2, 3, 4, 0] rfl
        · have h_32 := (h_26).2 c_28
          refine y_bipush C dX8_meets_54 bpm2 ?_
          exact y_iretM C M N rfl (S := (sI S 0 0 0)) rfl (h_32) dX8_meets_56
/-! OverHillModel plain(III)I: m_plain -/
abbrev rm_m_plain : Room := { frames := 2, cells := 0, slots := 0, locals := 61 }
def wp_m_plain (S : St) (x1 : Int32) (x2 : Int32) (x3 : Int32) (Q : Int32 → Prop) : Prop :=
  (vp_in (5 + x1) 55 ∧ wp_m_lengthOf S (x1) (fun r_1 => (¬ r_1 = 0 ∧ (vp_in ((12 * x1) + (irm (((S.1 7 ((5 + x1)).toNatClampNeg) + x2) + x3) r_1)) 120 ∧ Q (S.1 8 (((12 * x1) + (irm (((S.1 7 ((5 + x1)).toNatClampNeg) + x2) + x3) r_1))).toNatClampNeg)))))
set_option maxRecDepth 100000 in
theorem met_m_plain (G : Gx) (A : Nat → Nat) (S : St) (x1 : Int32) (x2 : Int32) (x3 : Int32) (Q : Int32 → Prop) (h : wp_m_plain S x1 x2 x3 Q) : Ri G yX8_plain (ws_ yX8_plain cX8_plain 4 (some .int)) rm_m_plain (wM G A S) [.ref (A 0), .int (x1), .int (x2), .int (x3)] Q := by
  refine ent_Ri (by decide +kernel) rfl (Nat.le_of_ble_eq_true rfl) [(0, .ref (A 0)), (1, .int (x1)), (2, .int (x2)), (3, .int (x3))] rfl (fun K C N => ?_)
  refine y_aload_n C dX8_plain_0 0 rfl rfl ?_
  refine yg_X8_37_wM0 C dX8_plain_1 ?_
  refine y_bipush C dX8_plain_4 bp_12 ?_
  refine y_iload_n C dX8_plain_6 1 rfl rfl ?_
  refine y_imul C dX8_plain_7 ?_
  refine y_aload_n C dX8_plain_8 0 rfl rfl ?_
  refine yg_X8_34_wM0 C dX8_plain_9 ?_
  refine y_iconst C dX8_plain_12 ic_5 ?_
  refine y_iload_n C dX8_plain_13 1 rfl rfl ?_
  refine y_iadd C dX8_plain_14 ?_
  refine y_iald C (wM_7 ..) rfl (h).1 dX8_plain_15 ?_
  refine y_iload_n C dX8_plain_16 2 rfl rfl ?_
  refine y_iadd C dX8_plain_17 ?_
  refine y_iload_n C dX8_plain_18 3 rfl rfl ?_
  refine y_iadd C dX8_plain_19 ?_
  refine y_aload_n C dX8_plain_20 0 rfl rfl ?_
  refine y_iload_n C dX8_plain_21 1 rfl rfl ?_
  refine y_callRiV (As := [.int (x1)]) (rest := [.int ((((S.1 7 ((5 + x1)).toNatClampNeg) + x2) + x3)), .int ((12 * x1)), .ref (A 8)]) C cs_X8_264 (met_m_lengthOf G A S (x1) _ ((h).2)) (fun _ h => h) (wM_0 ..) rfl rfl ⟨rfl, rfl, Nat.le_of_ble_eq_true rfl, Nat.le_of_ble_eq_true rfl⟩ rfl rfl (Nat.le_of_ble_eq_true rfl) dX8_plain_22 ⟨Nat.zero_le _, Nat.zero_le _⟩ (fun r_1 h_2 => ?_)
  refine y_irem C dX8_plain_25 (h_2).1 ?_
  refine y_iadd C dX8_plain_26 ?_
  refine y_iald C (wM_8 ..) rfl ((h_2).2).1 dX8_plain_27 ?_
  exact y_iretR C N rfl (((h_2).2).2) dX8_plain_28
/-! OverHillModel shiftedOf(I)I: m_shiftedOf -/
abbrev rm_m_shiftedOf : Room := { frames := 103, cells := 0, slots := 0, locals := 3281 }
def wp_m_shiftedOf_b54 (S : St) (Q : Int32 → Prop) (x1 : Int32) (K12 : Int32 → Int32 → Int32 → Prop) (x3 : Int32) (x4 : Int32) (s0 : Int32) (s1 : Int32) : Prop :=
  wp_m_plain S (1) (x4) (x1) (fun r_21 => wp_m_plain S (0) ((x4 - x3)) (0) (fun r_24 => wp_m_clashes S (r_21) (r_24) (fun r_27 => ((r_27 = 0 → K12 (((s1 + s0) + 0)) (x3) ((x4 + 1))) ∧ (¬ r_27 = 0 → K12 (((s1 + s0) + 1)) (x3) ((x4 + 1)))))))
def wp_m_shiftedOf_b12 (S : St) (Q : Int32 → Prop) (x1 : Int32) : Nat → Int32 → Int32 → Int32 → Prop
  | 0 => fun _ _ _ => False
  | n + 1 => fun x2 x3 x4 => wp_m_periodOf S (fun r_3 => (((x3 + r_3) ≤ x4 → Q x2) ∧ (¬ (x3 + r_3) ≤ x4 → wp_m_plain S (0) (x4) (0) (fun r_9 => wp_m_plain S (1) ((x4 - x3)) (x1) (fun r_12 => wp_m_clashes S (r_9) (r_12) (fun r_15 => ((r_15 = 0 → wp_m_shiftedOf_b54 S Q (x1) (fun y2 y3 y4 => wp_m_shiftedOf_b12 S Q x1 n y2 y3 y4) (x3) (x4) (0) (x2)) ∧ (¬ r_15 = 0 → wp_m_shiftedOf_b54 S Q (x1) (fun y2 y3 y4 => wp_m_shiftedOf_b12 S Q x1 n y2 y3 y4) (x3) (x4) (1) (x2)))))))))
def wp_m_shiftedOf (S : St) (x1 : Int32) (Q : Int32 → Prop) : Prop :=
  (∃ z, wp_m_shiftedOf_b12 S Q (x1) z (0) ((S.1 7 0)) ((S.1 7 0)))
set_option maxRecDepth 100000 in
theorem wk_m_shiftedOf_b54 {G : Gx} {K : Kx} {A : Nat → Nat} (C : KOk G K RX8 cX8_shiftedOf rm_m_shiftedOf 5 (some .int)) {S : St} {Q : Int32 → Prop} (N : KRi K Q) (x1 : Int32) (K12 : Int32 → Int32 → Int32 → Prop) (hK12 : ∀ (x2 : Int32) (x3 : Int32) (x4 : Int32), K12 x2 x3 x4 → Y G K 0 0 (wM G A S) 12 [(0, .ref (A 0)), (1, .int (x1)), (2, .int (x2)), (3, .int (x3)), (4, .int (x4))] []) (x3 : Int32) (x4 : Int32) (s0 : Int32) (s1 : Int32) (h : wp_m_shiftedOf_b54 S Q x1 K12 x3 x4 s0 s1) : Y G K 0 0 (wM G A S) 54 [(0, .ref (A 0)), (1, .int (x1)), (3, .int (x3)), (4, .int (x4))] [.int (s0), .int (s1)] := by
  refine y_iadd C dX8_shiftedOf_54 ?_
  refine y_istore_n C dX8_shiftedOf_55 rfl (Nat.le_of_ble_eq_true rfl) [(2, .int ((s1 + s0))), (0, .ref (A 0)), (1, .int (x1)), (3, .int (x3)), (4, .int (x4))] rfl ?_
  refine y_iload_n C dX8_shiftedOf_56 0 rfl rfl ?_
  refine y_aload_n C dX8_shiftedOf_57 1 rfl rfl ?_
  refine y_aload_n C dX8_shiftedOf_58 1 rfl rfl ?_
  refine y_iconst C dX8_shiftedOf_59 ic_1 ?_
  refine y_iload C dX8_shiftedOf_60 4 rfl ?_
  refine y_iload_n C dX8_shiftedOf_62 2 rfl rfl ?_
  refine y_callRiV (As := [.int (1), .int (x4), .int (x1)]) (rest := [.ref (A 0), .int ((s1 + s0))]) C cs_X8_328 (met_m_plain G A S (1) (x4) (x1) _ (h)) (fun _ h => h) (wM_0 ..) rfl rfl ⟨rfl, rfl, Nat.le_of_ble_eq_true rfl, Nat.le_of_ble_eq_true rfl⟩ rfl rfl (Nat.le_of_ble_eq_true rfl) dX8_shiftedOf_63 ⟨Nat.zero_le _, Nat.zero_le _⟩ (fun r_21 h_22 => ?_)
  refine y_aload_n C dX8_shiftedOf_66 1 rfl rfl ?_
  refine y_iconst C dX8_shiftedOf_67 ic_0 ?_
  refine y_iload C dX8_shiftedOf_68 4 rfl ?_
  refine y_iload_n C dX8_shiftedOf_70 3 rfl rfl ?_
  refine y_isub C dX8_shiftedOf_71 ?_
  refine y_iconst C dX8_shiftedOf_72 ic_0 ?_
  refine y_callRiV (As := [.int (0), .int ((x4 - x3)), .int (0)]) (rest := [.int (r_21), .ref (A 0), .int ((s1 + s0))]) C cs_X8_328 (met_m_plain G A S (0) ((x4 - x3)) (0) _ (h_22)) (fun _ h => h) (wM_0 ..) rfl rfl ⟨rfl, rfl, Nat.le_of_ble_eq_true rfl, Nat.le_of_ble_eq_true rfl⟩ rfl rfl (Nat.le_of_ble_eq_true rfl) dX8_shiftedOf_73 ⟨Nat.zero_le _, Nat.zero_le _⟩ (fun r_24 h_25 => ?_)
  refine y_callRiV (As := [.int (r_21), .int (r_24)]) (rest := [.int ((s1 + s0))]) C cs_X8_287 (met_m_clashes G A S (r_21) (r_24) _ (h_25)) (fun _ h => h) (wM_0 ..) rfl rfl ⟨rfl, rfl, Nat.le_of_ble_eq_true rfl, Nat.le_of_ble_eq_true rfl⟩ rfl rfl (Nat.le_of_ble_eq_true rfl) dX8_shiftedOf_76 ⟨Nat.zero_le _, Nat.zero_le _⟩ (fun r_27 h_28 => ?_)
  refine y_if_eq C (tgt := 86) dX8_shiftedOf_79 rfl (fun c_30 => ?_) (fun c_30 => ?_)
  · have h_31 := (h_28).1 c_30
    refine y_iconst C dX8_shiftedOf_86 ic_0 ?_
    refine y_iadd C dX8_shiftedOf_87 ?_
    refine y_istore_n C dX8_shiftedOf_88 rfl (Nat.le_of_ble_eq_true rfl) [(2, .int (((s1 + s0) + 0))), (0, .ref (A 0)), (1, .int (x1)), (3, .int (x3)), (4, .int (x4))] rfl ?_
    refine y_iinc C dX8_shiftedOf_89 4 rfl (Nat.le_of_ble_eq_true rfl) (ii_1 _) [(4, .int ((x4 + 1))), (2, .int (((s1 + s0) + 0))), (0, .ref (A 0)), (1, .int (x1)), (3, .int (x3))] rfl ?_
    refine y_goto C (tgt := 12) dX8_shiftedOf_92 rfl ?_
    exact Y.sub (hK12 (((s1 + s0) + 0)) (x3) ((x4 + 1)) (h_31)) [2, 3, 1, 4, 0] rfl
  · have h_32 := (h_28).2 c_30
    refine y_iconst C dX8_shiftedOf_82 ic_1 ?_
    refine y_goto C (tgt := 87) dX8_shiftedOf_83 rfl ?_
    refine y_iadd C dX8_shiftedOf_87 ?_
    refine y_istore_n C dX8_shiftedOf_88 rfl (Nat.le_of_ble_eq_true rfl) [(2, .int (((s1 + s0) + 1))), (0, .ref (A 0)), (1, .int (x1)), (3, .int (x3)), (4, .int (x4))] rfl ?_
    refine y_iinc C dX8_shiftedOf_89 4 rfl (Nat.le_of_ble_eq_true rfl) (ii_1 _) [(4, .int ((x4 + 1))), (2, .int (((s1 + s0) + 1))), (0, .ref (A 0)), (1, .int (x1)), (3, .int (x3))] rfl ?_
    refine y_goto C (tgt := 12) dX8_shiftedOf_92 rfl ?_
    exact Y.sub (hK12 (((s1 + s0) + 1)) (x3) ((x4 + 1)) (h_32)) [2, 3, 1, 4, 0] rfl
set_option maxRecDepth 100000 in
theorem wk_m_shiftedOf_b12 {G : Gx} {K : Kx} {A : Nat → Nat} (C : KOk G K RX8 cX8_shiftedOf rm_m_shiftedOf 5 (some .int)) {S : St} {Q : Int32 → Prop} (N : KRi K Q) (x1 : Int32) : ∀ (n : Nat), ∀ (x2 : Int32) (x3 : Int32) (x4 : Int32), wp_m_shiftedOf_b12 S Q x1 n x2 x3 x4 → Y G K 0 0 (wM G A S) 12 [(0, .ref (A 0)), (1, .int (x1)), (2, .int (x2)), (3, .int (x3)), (4, .int (x4))] [] := by
  intro n
  induction n with
  | zero => intro x2 x3 x4 h; exact h.elim
  | succ n ih =>
    intro x2 x3 x4 h
    dsimp only [wp_m_shiftedOf_b12] at h
    refine y_iload C dX8_shiftedOf_12 4 rfl ?_
    refine y_iload_n C dX8_shiftedOf_14 3 rfl rfl ?_
    refine y_aload_n C dX8_shiftedOf_15 0 rfl rfl ?_
    refine y_callRiV (As := []) (rest := [.int (x3), .int (x4)]) C cs_X8_325 (met_m_periodOf G A S _ (h)) (fun _ h => h) (wM_0 ..) rfl rfl ⟨rfl, rfl, Nat.le_of_ble_eq_true rfl, Nat.le_of_ble_eq_true rfl⟩ rfl rfl (Nat.le_of_ble_eq_true rfl) dX8_shiftedOf_16 ⟨Nat.zero_le _, Nat.zero_le _⟩ (fun r_3 h_4 => ?_)
    refine y_iadd C dX8_shiftedOf_19 ?_
    refine y_icmp_ge C (tgt := 95) dX8_shiftedOf_20 rfl (fun c_6 => ?_) (fun c_6 => ?_)
    · have h_7 := (h_4).1 c_6
      refine y_iload_n C dX8_shiftedOf_95 2 rfl rfl ?_
      exact y_iretR C N rfl (h_7) dX8_shiftedOf_96
    · have h_8 := (h_4).2 c_6
      refine y_iload_n C dX8_shiftedOf_23 2 rfl rfl ?_
      refine y_aload_n C dX8_shiftedOf_24 0 rfl rfl ?_
      refine y_aload_n C dX8_shiftedOf_25 0 rfl rfl ?_
      refine y_iconst C dX8_shiftedOf_26 ic_0 ?_
      refine y_iload C dX8_shiftedOf_27 4 rfl ?_
      refine y_iconst C dX8_shiftedOf_29 ic_0 ?_
      refine y_callRiV (As := [.int (0), .int (x4), .int (0)]) (rest := [.ref (A 0), .int (x2)]) C cs_X8_328 (met_m_plain G A S (0) (x4) (0) _ (h_8)) (fun _ h => h) (wM_0 ..) rfl rfl ⟨rfl, rfl, Nat.le_of_ble_eq_true rfl, Nat.le_of_ble_eq_true rfl⟩ rfl rfl (Nat.le_of_ble_eq_true rfl) dX8_shiftedOf_30 ⟨Nat.zero_le _, Nat.zero_le _⟩ (fun r_9 h_10 => ?_)
      refine y_aload_n C dX8_shiftedOf_33 0 rfl rfl ?_
      refine y_iconst C dX8_shiftedOf_34 ic_1 ?_
      refine y_iload C dX8_shiftedOf_35 4 rfl ?_
      refine y_iload_n C dX8_shiftedOf_37 3 rfl rfl ?_
      refine y_isub C dX8_shiftedOf_38 ?_
      refine y_iload_n C dX8_shiftedOf_39 1 rfl rfl ?_
      refine y_callRiV (As := [.int (1), .int ((x4 - x3)), .int (x1)]) (rest := [.int (r_9), .ref (A 0), .int (x2)]) C cs_X8_328 (met_m_plain G A S (1) ((x4 - x3)) (x1) _ (h_10)) (fun _ h => h) (wM_0 ..) rfl rfl ⟨rfl, rfl, Nat.le_of_ble_eq_true rfl, Nat.le_of_ble_eq_true rfl⟩ rfl rfl (Nat.le_of_ble_eq_true rfl) dX8_shiftedOf_40 ⟨Nat.zero_le _, Nat.zero_le _⟩ (fun r_12 h_13 => ?_)
      refine y_callRiV (As := [.int (r_9), .int (r_12)]) (rest := [.int (x2)]) C cs_X8_287 (met_m_clashes G A S (r_9) (r_12) _ (h_13)) (fun _ h => h) (wM_0 ..) rfl rfl ⟨rfl, rfl, Nat.le_of_ble_eq_true rfl, Nat.le_of_ble_eq_true rfl⟩ rfl rfl (Nat.le_of_ble_eq_true rfl) dX8_shiftedOf_43 ⟨Nat.zero_le _, Nat.zero_le _⟩ (fun r_15 h_16 => ?_)
      refine y_if_eq C (tgt := 53) dX8_shiftedOf_46 rfl (fun c_18 => ?_) (fun c_18 => ?_)
      · have h_19 := (h_16).1 c_18
        refine y_iconst C dX8_shiftedOf_53 ic_0 ?_
        exact Y.sub (wk_m_shiftedOf_b54 C N (x1) (fun y2 y3 y4 => wp_m_shiftedOf_b12 S Q x1 n y2 y3 y4) ih (x3) (x4) (0) (x2) (h_19)) [0, 1, 3, 4] rfl
      · have h_20 := (h_16).2 c_18
        refine y_iconst C dX8_shiftedOf_49 ic_1 ?_
        refine y_goto C (tgt := 54) dX8_shiftedOf_50 rfl ?_
        exact Y.sub (wk_m_shiftedOf_b54 C N (x1) (fun y2 y3 y4 => wp_m_shiftedOf_b12 S Q x1 n y2 y3 y4) ih (x3) (x4) (1) (x2) (h_20)) [0, 1, 3, 4] rfl
set_option maxRecDepth 100000 in
theorem met_m_shiftedOf (G : Gx) (A : Nat → Nat) (S : St) (x1 : Int32) (Q : Int32 → Prop) (h : wp_m_shiftedOf S x1 Q) : Ri G yX8_shiftedOf (ws_ yX8_shiftedOf cX8_shiftedOf 5 (some .int)) rm_m_shiftedOf (wM G A S) [.ref (A 0), .int (x1)] Q := by
  refine ent_Ri (by decide +kernel) rfl (Nat.le_of_ble_eq_true rfl) [(0, .ref (A 0)), (1, .int (x1))] rfl (fun K C N => ?_)
  refine y_iconst C dX8_shiftedOf_0 ic_0 ?_
  refine y_istore_n C dX8_shiftedOf_1 rfl (Nat.le_of_ble_eq_true rfl) [(2, .int (0)), (0, .ref (A 0)), (1, .int (x1))] rfl ?_
  refine y_aload_n C dX8_shiftedOf_2 1 rfl rfl ?_
  refine yg_X8_34_wM0 C dX8_shiftedOf_3 ?_
  refine y_iconst C dX8_shiftedOf_6 ic_0 ?_
  refine y_iald C (wM_7 ..) tn_0 vi_0_55 dX8_shiftedOf_7 ?_
  refine y_istore_n C dX8_shiftedOf_8 rfl (Nat.le_of_ble_eq_true rfl) [(3, .int ((S.1 7 0))), (2, .int (0)), (0, .ref (A 0)), (1, .int (x1))] rfl ?_
  refine y_iload_n C dX8_shiftedOf_9 0 rfl rfl ?_
  refine y_istore C dX8_shiftedOf_10 (Nat.le_of_ble_eq_true rfl) [(4, .int ((S.1 7 0))), (3, .int ((S.1 7 0))), (2, .int (0)), (0, .ref (A 0)), (1, .int (x1))] rfl ?_
  obtain ⟨n_1, h_2⟩ := h
  exact Y.sub (wk_m_shiftedOf_b12 C N (x1) n_1 (0) ((S.1 7 0)) ((S.1 7 0)) h_2) [3, 4, 2, 1, 0] rfl
/-! OverHillModel shifted(I)I: m_shifted -/
abbrev rm_m_shifted : Room := { frames := 104, cells := 0, slots := 0, locals := 3305 }
def wp_m_shifted (S : St) (x1 : Int32) (Q : Int32 → St → Prop) : Prop :=
  wp_m_isDance (sI S 0 0 0) (fun r_1 => ((r_1 = 0 → Q (-2) (sI S 0 0 0)) ∧ (¬ r_1 = 0 → wp_m_areRounds (sI S 0 0 0) (fun r_7 => ((r_7 = 0 → Q (-2) (sI S 0 0 0)) ∧ (¬ r_7 = 0 → wp_m_lengthOf (sI S 0 0 0) (1) (fun r_13 => wp_m_in ((x1).toInt64) (0) (((r_13 - 1)).toInt64) (fun r_16 => ((r_16 = 0 → Q (-2) (sI S 0 0 0)) ∧ (¬ r_16 = 0 → wp_m_shiftedOf (sI S 0 0 0) (x1) (fun r_22 => Q r_22 (sI S 0 0 0))))))))))))
set_option maxRecDepth 100000 in
theorem met_m_shifted (G : Gx) (A : Nat → Nat) (S : St) (x1 : Int32) (Q : Int32 → St → Prop) (h : wp_m_shifted S x1 Q) : Mi G yX8_shifted (ws_ yX8_shifted cX8_shifted 2 (some .int)) rm_m_shifted (wM G A S) [.ref (A 0), .int (x1)] (wM G A) Q := by
  refine ent_Mi (by decide +kernel) rfl (Nat.le_of_ble_eq_true rfl) [(0, .ref (A 0)), (1, .int (x1))] rfl (fun K B C M N => ?_)
  refine y_aload_n C dX8_shifted_0 0 rfl rfl ?_
  refine y_iconst C dX8_shifted_1 ic_0 ?_
  refine yp_X8_80_wM0 C M dX8_shifted_2 ?_
  refine y_aload_n C dX8_shifted_5 0 rfl rfl ?_
  refine y_callRiV (As := []) (rest := []) C cs_X8_254 (met_m_isDance G A (sI S 0 0 0) _ (h)) (fun _ h => h) (wM_0 ..) rfl rfl ⟨rfl, rfl, Nat.le_of_ble_eq_true rfl, Nat.le_of_ble_eq_true rfl⟩ rfl rfl (Nat.le_of_ble_eq_true rfl) dX8_shifted_6 ⟨Nat.zero_le _, Nat.zero_le _⟩ (fun r_1 h_2 => ?_)
  refine y_if_eq C (tgt := 44) dX8_shifted_9 rfl (fun c_4 => ?_) (fun c_4 => ?_)
  · have h_5 := (h_2).1 c_4
    refine y_bipush C dX8_shifted_44 bpm2 ?_
    exact y_iretM C M N rfl (S := (sI S 0 0 0)) rfl (h_5) dX8_shifted_46
  · have h_6 := (h_2).2 c_4
    refine y_aload_n C dX8_shifted_12 0 rfl rfl ?_
    refine y_callRiV (As := []) (rest := []) C cs_X8_322 (met_m_areRounds G A (sI S 0 0 0) _ (h_6)) (fun _ h => h) (wM_0 ..) rfl rfl ⟨rfl, rfl, Nat.le_of_ble_eq_true rfl, Nat.le_of_ble_eq_true rfl⟩ rfl rfl (Nat.le_of_ble_eq_true rfl) dX8_shifted_13 ⟨Nat.zero_le _, Nat.zero_le _⟩ (fun r_7 h_8 => ?_)
    refine y_if_eq C (tgt := 44) dX8_shifted_16 rfl (fun c_10 => ?_) (fun c_10 => ?_)
    · have h_11 := (h_8).1 c_10
      refine y_bipush C dX8_shifted_44 bpm2 ?_
      exact y_iretM C M N rfl (S := (sI S 0 0 0)) rfl (h_11) dX8_shifted_46
    · have h_12 := (h_8).2 c_10
      refine y_iload_n C dX8_shifted_19 1 rfl rfl ?_
      refine y_i2l C dX8_shifted_20 rfl ?_
      refine y_lconst C dX8_shifted_21 lc_0 ?_
      refine y_aload_n C dX8_shifted_22 0 rfl rfl ?_
      refine y_iconst C dX8_shifted_23 ic_1 ?_
      refine y_callRiV (As := [.int (1)]) (rest := [.long (0), .long ((x1).toInt64)]) C cs_X8_264 (met_m_lengthOf G A (sI S 0 0 0) (1) _ (h_12)) (fun _ h => h) (wM_0 ..) rfl rfl ⟨rfl, rfl, Nat.le_of_ble_eq_true rfl, Nat.le_of_ble_eq_true rfl⟩ rfl rfl (Nat.le_of_ble_eq_true rfl) dX8_shifted_24 ⟨Nat.zero_le _, Nat.zero_le _⟩ (fun r_13 h_14 => ?_)
      refine y_iconst C dX8_shifted_27 ic_1 ?_
      refine y_isub C dX8_shifted_28 ?_
      refine y_i2l C dX8_shifted_29 rfl ?_
      refine y_callRiS (As := [.long ((x1).toInt64), .long (0), .long (((r_13 - 1)).toInt64)]) (rest := []) C cs_X8_85 (met_m_in G ((x1).toInt64) (0) (((r_13 - 1)).toInt64) _ (h_14)) (fun _ _ => pw_nil) ⟨rfl, rfl, Nat.le_of_ble_eq_true rfl, Nat.le_of_ble_eq_true rfl⟩ rfl rfl (Nat.le_of_ble_eq_true rfl) dX8_shifted_30 ⟨Nat.zero_le _, Nat.zero_le _⟩ (fun r_16 h_17 => ?_)
      refine y_if_eq C (tgt := 44) dX8_shifted_33 rfl (fun c_19 => ?_) (fun c_19 => ?_)
      · have h_20 := (h_17).1 c_19
        refine y_bipush C dX8_shifted_44 bpm2 ?_
        exact y_iretM C M N rfl (S := (sI S 0 0 0)) rfl (h_20) dX8_shifted_46
      · have h_21 := (h_17).2 c_19
        refine y_aload_n C dX8_shifted_36 0 rfl rfl ?_
        refine y_iload_n C dX8_shifted_37 1 rfl rfl ?_
        refine y_callRiV (As := [.int (x1)]) (rest := []) C cs_X8_331 (met_m_shiftedOf G A (sI S 0 0 0) (x1) _ (h_21)) (fun _ h => h) (wM_0 ..) rfl rfl ⟨rfl, rfl, Nat.le_of_ble_eq_true rfl, Nat.le_of_ble_eq_true rfl⟩ rfl rfl (Nat.le_of_ble_eq_true rfl) dX8_shifted_38 ⟨Nat.zero_le _, Nat.zero_le _⟩ (fun r_22 h_23 => ?_)
        refine y_goto C (tgt := 46) dX8_shifted_41 rfl ?_
        exact y_iretM C M N rfl (S := (sI S 0 0 0)) rfl (h_23) dX8_shifted_46
/-! OverHillModel shift()I: m_shift -/
abbrev rm_m_shift : Room := { frames := 104, cells := 0, slots := 0, locals := 3305 }
def wp_m_shift_b24 (Q : Int32 → St → Prop) : Nat → St → Int32 → Prop
  | 0 => fun _ _ => False
  | n + 1 => fun S x1 => wp_m_lengthOf S (1) (fun r_15 => ((r_15 ≤ x1 → Q (-1) S) ∧ (¬ r_15 ≤ x1 → wp_m_shiftedOf S (x1) (fun r_21 => ((¬ r_21 = 0 → wp_m_shift_b24 Q n S ((x1 + 1))) ∧ (r_21 = 0 → Q x1 S))))))
def wp_m_shift (S : St) (Q : Int32 → St → Prop) : Prop :=
  wp_m_isDance (sI S 0 0 0) (fun r_1 => ((r_1 = 0 → Q (-2) (sI S 0 0 0)) ∧ (¬ r_1 = 0 → wp_m_areRounds (sI S 0 0 0) (fun r_7 => ((¬ r_7 = 0 → (∃ z, wp_m_shift_b24 Q z (sI S 0 0 0) (0))) ∧ (r_7 = 0 → Q (-2) (sI S 0 0 0)))))))
set_option maxRecDepth 100000 in
theorem wk_m_shift_b24 {G : Gx} {K : Kx} {A : Nat → Nat} (C : KOk G K RX8 cX8_shift rm_m_shift 2 (some .int)) {B : Nat → Prop} (M : KM G K B) {Q : Int32 → St → Prop} (N : KQi G K B (wM G A) Q) : ∀ (n : Nat), ∀ (S : St) (x1 : Int32), wp_m_shift_b24 Q n S x1 → Y G K 0 0 (wM G A S) 24 [(0, .ref (A 0)), (1, .int (x1))] [] := by
  intro n
  induction n with
  | zero => intro S x1 h; exact h.elim
  | succ n ih =>
    intro S x1 h
    dsimp only [wp_m_shift_b24] at h
    refine y_iload_n C dX8_shift_24 1 rfl rfl ?_
    refine y_aload_n C dX8_shift_25 0 rfl rfl ?_
    refine y_iconst C dX8_shift_26 ic_1 ?_
    refine y_callRiV (As := [.int (1)]) (rest := [.int (x1)]) C cs_X8_264 (met_m_lengthOf G A S (1) _ (h)) (fun _ h => h) (wM_0 ..) rfl rfl ⟨rfl, rfl, Nat.le_of_ble_eq_true rfl, Nat.le_of_ble_eq_true rfl⟩ rfl rfl (Nat.le_of_ble_eq_true rfl) dX8_shift_27 ⟨Nat.zero_le _, Nat.zero_le _⟩ (fun r_15 h_16 => ?_)
    refine y_icmp_ge C (tgt := 49) dX8_shift_30 rfl (fun c_18 => ?_) (fun c_18 => ?_)
    · have h_19 := (h_16).1 c_18
      refine y_iconst C dX8_shift_49 icm1 ?_
      exact y_iretM C M N rfl (S := S) rfl (h_19) dX8_shift_50
    · have h_20 := (h_16).2 c_18
      refine y_aload_n C dX8_shift_33 0 rfl rfl ?_
      refine y_iload_n C dX8_shift_34 1 rfl rfl ?_
      refine y_callRiV (As := [.int (x1)]) (rest := []) C cs_X8_331 (met_m_shiftedOf G A S (x1) _ (h_20)) (fun _ h => h) (wM_0 ..) rfl rfl ⟨rfl, rfl, Nat.le_of_ble_eq_true rfl, Nat.le_of_ble_eq_true rfl⟩ rfl rfl (Nat.le_of_ble_eq_true rfl) dX8_shift_35 ⟨Nat.zero_le _, Nat.zero_le _⟩ (fun r_21 h_22 => ?_)
      refine y_if_ne C (tgt := 43) dX8_shift_38 rfl (fun c_24 => ?_) (fun c_24 => ?_)
      · have h_25 := (h_22).1 c_24
        refine y_iinc C dX8_shift_43 1 rfl (Nat.le_of_ble_eq_true rfl) (ii_1 _) [(1, .int ((x1 + 1))), (0, .ref (A 0))] rfl ?_
        refine y_goto C (tgt := 24) dX8_shift_46 rfl ?_
        exact Y.sub (ih S ((x1 + 1)) (h_25)) [1, 0] rfl
      · have h_26 := (h_22).2 c_24
        refine y_iload_n C dX8_shift_41 1 rfl rfl ?_
        exact y_iretM C M N rfl (S := S) rfl (h_26) dX8_shift_42
set_option maxRecDepth 100000 in
theorem met_m_shift (G : Gx) (A : Nat → Nat) (S : St) (Q : Int32 → St → Prop) (h : wp_m_shift S Q) : Mi G yX8_shift (ws_ yX8_shift cX8_shift 2 (some .int)) rm_m_shift (wM G A S) [.ref (A 0)] (wM G A) Q := by
  refine ent_Mi (by decide +kernel) rfl (Nat.le_of_ble_eq_true rfl) [(0, .ref (A 0))] rfl (fun K B C M N => ?_)
  refine y_aload_n C dX8_shift_0 0 rfl rfl ?_
  refine y_iconst C dX8_shift_1 ic_0 ?_
  refine yp_X8_80_wM0 C M dX8_shift_2 ?_
  refine y_aload_n C dX8_shift_5 0 rfl rfl ?_
  refine y_callRiV (As := []) (rest := []) C cs_X8_254 (met_m_isDance G A (sI S 0 0 0) _ (h)) (fun _ h => h) (wM_0 ..) rfl rfl ⟨rfl, rfl, Nat.le_of_ble_eq_true rfl, Nat.le_of_ble_eq_true rfl⟩ rfl rfl (Nat.le_of_ble_eq_true rfl) dX8_shift_6 ⟨Nat.zero_le _, Nat.zero_le _⟩ (fun r_1 h_2 => ?_)
  refine y_if_eq C (tgt := 19) dX8_shift_9 rfl (fun c_4 => ?_) (fun c_4 => ?_)
  · have h_5 := (h_2).1 c_4
    refine y_bipush C dX8_shift_19 bpm2 ?_
    exact y_iretM C M N rfl (S := (sI S 0 0 0)) rfl (h_5) dX8_shift_21
  · have h_6 := (h_2).2 c_4
    refine y_aload_n C dX8_shift_12 0 rfl rfl ?_
    refine y_callRiV (As := []) (rest := []) C cs_X8_322 (met_m_areRounds G A (sI S 0 0 0) _ (h_6)) (fun _ h => h) (wM_0 ..) rfl rfl ⟨rfl, rfl, Nat.le_of_ble_eq_true rfl, Nat.le_of_ble_eq_true rfl⟩ rfl rfl (Nat.le_of_ble_eq_true rfl) dX8_shift_13 ⟨Nat.zero_le _, Nat.zero_le _⟩ (fun r_7 h_8 => ?_)
    refine y_if_ne C (tgt := 22) dX8_shift_16 rfl (fun c_10 => ?_) (fun c_10 => ?_)
    · have h_11 := (h_8).1 c_10
      refine y_iconst C dX8_shift_22 ic_0 ?_
      refine y_istore_n C dX8_shift_23 rfl (Nat.le_of_ble_eq_true rfl) [(1, .int (0)), (0, .ref (A 0))] rfl ?_
      obtain ⟨n_12, h_13⟩ := h_11
      exact Y.sub (wk_m_shift_b24 C M N n_12 (sI S 0 0 0) (0) h_13) [1, 0] rfl
    · have h_14 := (h_8).2 c_10
      refine y_bipush C dX8_shift_19 bpm2 ?_
      exact y_iretM C M N rfl (S := (sI S 0 0 0)) rfl (h_14) dX8_shift_21
/-! OverHillModel least()I: m_least -/
abbrev rm_m_least : Room := { frames := 104, cells := 0, slots := 0, locals := 3305 }
def wp_m_least_b26 (Q : Int32 → St → Prop) : Nat → St → Int32 → Int32 → Prop
  | 0 => fun _ _ _ => False
  | n + 1 => fun S x1 x2 => wp_m_lengthOf S (1) (fun r_15 => ((r_15 ≤ x2 → Q x1 S) ∧ (¬ r_15 ≤ x2 → wp_m_shiftedOf S (x2) (fun r_21 => wp_m_shiftedOf S (x1) (fun r_24 => ((r_24 ≤ r_21 → wp_m_least_b26 Q n S (x1) ((x2 + 1))) ∧ (¬ r_24 ≤ r_21 → wp_m_least_b26 Q n S (x2) ((x2 + 1)))))))))
def wp_m_least (S : St) (Q : Int32 → St → Prop) : Prop :=
  wp_m_isDance (sI S 0 0 0) (fun r_1 => ((r_1 = 0 → Q (-2) (sI S 0 0 0)) ∧ (¬ r_1 = 0 → wp_m_areRounds (sI S 0 0 0) (fun r_7 => ((¬ r_7 = 0 → (∃ z, wp_m_least_b26 Q z (sI S 0 0 0) (0) (1))) ∧ (r_7 = 0 → Q (-2) (sI S 0 0 0)))))))
set_option maxRecDepth 100000 in
theorem wk_m_least_b26 {G : Gx} {K : Kx} {A : Nat → Nat} (C : KOk G K RX8 cX8_least rm_m_least 3 (some .int)) {B : Nat → Prop} (M : KM G K B) {Q : Int32 → St → Prop} (N : KQi G K B (wM G A) Q) : ∀ (n : Nat), ∀ (S : St) (x1 : Int32) (x2 : Int32), wp_m_least_b26 Q n S x1 x2 → Y G K 0 0 (wM G A S) 26 [(0, .ref (A 0)), (1, .int (x1)), (2, .int (x2))] [] := by
  intro n
  induction n with
  | zero => intro S x1 x2 h; exact h.elim
  | succ n ih =>
    intro S x1 x2 h
    dsimp only [wp_m_least_b26] at h
    refine y_iload_n C dX8_least_26 2 rfl rfl ?_
    refine y_aload_n C dX8_least_27 0 rfl rfl ?_
    refine y_iconst C dX8_least_28 ic_1 ?_
    refine y_callRiV (As := [.int (1)]) (rest := [.int (x2)]) C cs_X8_264 (met_m_lengthOf G A S (1) _ (h)) (fun _ h => h) (wM_0 ..) rfl rfl ⟨rfl, rfl, Nat.le_of_ble_eq_true rfl, Nat.le_of_ble_eq_true rfl⟩ rfl rfl (Nat.le_of_ble_eq_true rfl) dX8_least_29 ⟨Nat.zero_le _, Nat.zero_le _⟩ (fun r_15 h_16 => ?_)
    refine y_icmp_ge C (tgt := 56) dX8_least_32 rfl (fun c_18 => ?_) (fun c_18 => ?_)
    · have h_19 := (h_16).1 c_18
      refine y_iload_n C dX8_least_56 1 rfl rfl ?_
      exact y_iretM C M N rfl (S := S) rfl (h_19) dX8_least_57
    · have h_20 := (h_16).2 c_18
      refine y_aload_n C dX8_least_35 0 rfl rfl ?_
      refine y_iload_n C dX8_least_36 2 rfl rfl ?_
      refine y_callRiV (As := [.int (x2)]) (rest := []) C cs_X8_331 (met_m_shiftedOf G A S (x2) _ (h_20)) (fun _ h => h) (wM_0 ..) rfl rfl ⟨rfl, rfl, Nat.le_of_ble_eq_true rfl, Nat.le_of_ble_eq_true rfl⟩ rfl rfl (Nat.le_of_ble_eq_true rfl) dX8_least_37 ⟨Nat.zero_le _, Nat.zero_le _⟩ (fun r_21 h_22 => ?_)
      refine y_aload_n C dX8_least_40 0 rfl rfl ?_
      refine y_iload_n C dX8_least_41 1 rfl rfl ?_
      refine y_callRiV (As := [.int (x1)]) (rest := [.int (r_21)]) C cs_X8_331 (met_m_shiftedOf G A S (x1) _ (h_22)) (fun _ h => h) (wM_0 ..) rfl rfl ⟨rfl, rfl, Nat.le_of_ble_eq_true rfl, Nat.le_of_ble_eq_true rfl⟩ rfl rfl (Nat.le_of_ble_eq_true rfl) dX8_least_42 ⟨Nat.zero_le _, Nat.zero_le _⟩ (fun r_24 h_25 => ?_)
      refine y_icmp_ge C (tgt := 50) dX8_least_45 rfl (fun c_27 => ?_) (fun c_27 => ?_)
      · have h_28 := (h_25).1 c_27
        refine y_iinc C dX8_least_50 2 rfl (Nat.le_of_ble_eq_true rfl) (ii_1 _) [(2, .int ((x2 + 1))), (0, .ref (A 0)), (1, .int (x1))] rfl ?_
        refine y_goto C (tgt := 26) dX8_least_53 rfl ?_
        exact Y.sub (ih S (x1) ((x2 + 1)) (h_28)) [1, 2, 0] rfl
      · have h_29 := (h_25).2 c_27
        refine y_iload_n C dX8_least_48 2 rfl rfl ?_
        refine y_istore_n C dX8_least_49 rfl (Nat.le_of_ble_eq_true rfl) [(1, .int (x2)), (0, .ref (A 0)), (2, .int (x2))] rfl ?_
        refine y_iinc C dX8_least_50 2 rfl (Nat.le_of_ble_eq_true rfl) (ii_1 _) [(2, .int ((x2 + 1))), (1, .int (x2)), (0, .ref (A 0))] rfl ?_
        refine y_goto C (tgt := 26) dX8_least_53 rfl ?_
        exact Y.sub (ih S (x2) ((x2 + 1)) (h_29)) [2, 1, 0] rfl
set_option maxRecDepth 100000 in
theorem met_m_least (G : Gx) (A : Nat → Nat) (S : St) (Q : Int32 → St → Prop) (h : wp_m_least S Q) : Mi G yX8_least (ws_ yX8_least cX8_least 3 (some .int)) rm_m_least (wM G A S) [.ref (A 0)] (wM G A) Q := by
  refine ent_Mi (by decide +kernel) rfl (Nat.le_of_ble_eq_true rfl) [(0, .ref (A 0))] rfl (fun K B C M N => ?_)
  refine y_aload_n C dX8_least_0 0 rfl rfl ?_
  refine y_iconst C dX8_least_1 ic_0 ?_
  refine yp_X8_80_wM0 C M dX8_least_2 ?_
  refine y_aload_n C dX8_least_5 0 rfl rfl ?_
  refine y_callRiV (As := []) (rest := []) C cs_X8_254 (met_m_isDance G A (sI S 0 0 0) _ (h)) (fun _ h => h) (wM_0 ..) rfl rfl ⟨rfl, rfl, Nat.le_of_ble_eq_true rfl, Nat.le_of_ble_eq_true rfl⟩ rfl rfl (Nat.le_of_ble_eq_true rfl) dX8_least_6 ⟨Nat.zero_le _, Nat.zero_le _⟩ (fun r_1 h_2 => ?_)
  refine y_if_eq C (tgt := 19) dX8_least_9 rfl (fun c_4 => ?_) (fun c_4 => ?_)
  · have h_5 := (h_2).1 c_4
    refine y_bipush C dX8_least_19 bpm2 ?_
    exact y_iretM C M N rfl (S := (sI S 0 0 0)) rfl (h_5) dX8_least_21
  · have h_6 := (h_2).2 c_4
    refine y_aload_n C dX8_least_12 0 rfl rfl ?_
    refine y_callRiV (As := []) (rest := []) C cs_X8_322 (met_m_areRounds G A (sI S 0 0 0) _ (h_6)) (fun _ h => h) (wM_0 ..) rfl rfl ⟨rfl, rfl, Nat.le_of_ble_eq_true rfl, Nat.le_of_ble_eq_true rfl⟩ rfl rfl (Nat.le_of_ble_eq_true rfl) dX8_least_13 ⟨Nat.zero_le _, Nat.zero_le _⟩ (fun r_7 h_8 => ?_)
    refine y_if_ne C (tgt := 22) dX8_least_16 rfl (fun c_10 => ?_) (fun c_10 => ?_)
    · have h_11 := (h_8).1 c_10
      refine y_iconst C dX8_least_22 ic_0 ?_
      refine y_istore_n C dX8_least_23 rfl (Nat.le_of_ble_eq_true rfl) [(1, .int (0)), (0, .ref (A 0))] rfl ?_
      refine y_iconst C dX8_least_24 ic_1 ?_
      refine y_istore_n C dX8_least_25 rfl (Nat.le_of_ble_eq_true rfl) [(2, .int (1)), (1, .int (0)), (0, .ref (A 0))] rfl ?_
      obtain ⟨n_12, h_13⟩ := h_11
      exact Y.sub (wk_m_least_b26 C M N n_12 (sI S 0 0 0) (0) (1) h_13) [2, 1, 0] rfl
    · have h_14 := (h_8).2 c_10
      refine y_bipush C dX8_least_19 bpm2 ?_
      exact y_iretM C M N rfl (S := (sI S 0 0 0)) rfl (h_14) dX8_least_21
/-! OverHillModel mayBe(II)I: m_mayBe -/
abbrev rm_m_mayBe : Room := { frames := 103, cells := 0, slots := 0, locals := 3281 }
def wp_m_mayBe_b136 (S : St) (Q : Int32 → Prop) (x1 : Int32) (x2 : Int32) (K15 : Int32 → Int32 → Int32 → Prop) (K89 : Int32 → Int32 → Int32 → Int32 → Int32 → Int32 → Prop) (x3 : Int32) (x4 : Int32) (x5 : Int32) (x6 : Int32) (x7 : Int32) (x8 : Int32) : Prop :=
  ((x7 = 0 → K89 (x3) (x4) (x5) (x6) (x7) ((x8 + 1))) ∧ (¬ x7 = 0 → wp_m_plain S ((1 - x1)) (x5) (0) (fun r_43 => (vp_in r_43 30 ∧ wp_m_isBit ((S.1 9 (r_43).toNatClampNeg)) (x8) (fun r_46 => ((¬ r_46 = 0 → K89 (x3) (x4) (x5) (x6) (x7) ((x8 + 1))) ∧ (r_46 = 0 → K89 ((x3 &&& ((1 <<< (x8 &&& 31)) ^^^ (-1)))) (x4) (x5) (x6) (x7) ((x8 + 1)))))))))
def wp_m_mayBe_b89 (S : St) (Q : Int32 → Prop) (x1 : Int32) (x2 : Int32) (K15 : Int32 → Int32 → Int32 → Prop) : Nat → Int32 → Int32 → Int32 → Int32 → Int32 → Int32 → Prop
  | 0 => fun _ _ _ _ _ _ => False
  | n + 1 => fun x3 x4 x5 x6 x7 x8 => ((6 ≤ x8 → K15 (x3) (x4) ((x5 + 1))) ∧ (¬ 6 ≤ x8 → ((x6 = 0 → wp_m_mayBe_b136 S Q (x1) (x2) K15 (fun y3 y4 y5 y6 y7 y8 => wp_m_mayBe_b89 S Q x1 x2 K15 n y3 y4 y5 y6 y7 y8) (x3) (x4) (x5) (x6) (x7) (x8)) ∧ (¬ x6 = 0 → (vp_in x8 30 ∧ wp_m_plain S ((1 - x1)) ((x5 - x4)) (0) (fun r_31 => wp_m_isBit ((S.1 9 (x8).toNatClampNeg)) (r_31) (fun r_34 => ((¬ r_34 = 0 → wp_m_mayBe_b136 S Q (x1) (x2) K15 (fun y3 y4 y5 y6 y7 y8 => wp_m_mayBe_b89 S Q x1 x2 K15 n y3 y4 y5 y6 y7 y8) (x3) (x4) (x5) (x6) (x7) (x8)) ∧ (r_34 = 0 → wp_m_mayBe_b136 S Q (x1) (x2) K15 (fun y3 y4 y5 y6 y7 y8 => wp_m_mayBe_b89 S Q x1 x2 K15 n y3 y4 y5 y6 y7 y8) ((x3 &&& ((1 <<< (x8 &&& 31)) ^^^ (-1)))) (x4) (x5) (x6) (x7) (x8))))))))))
def wp_m_mayBe_b53 (S : St) (Q : Int32 → Prop) (x1 : Int32) (x2 : Int32) (K15 : Int32 → Int32 → Int32 → Prop) (x3 : Int32) (x4 : Int32) (x5 : Int32) (s0 : Int32) : Prop :=
  (vp_in (5 + x1) 55 ∧ wp_m_lengthOf S (x1) (fun r_15 => (¬ r_15 = 0 ∧ ((¬ (irm (((S.1 7 ((5 + x1)).toNatClampNeg) + x5) - x4) r_15) = x2 → (∃ z, wp_m_mayBe_b89 S Q (x1) (x2) K15 z (x3) (x4) (x5) (s0) (0) (0))) ∧ ((irm (((S.1 7 ((5 + x1)).toNatClampNeg) + x5) - x4) r_15) = x2 → (∃ z, wp_m_mayBe_b89 S Q (x1) (x2) K15 z (x3) (x4) (x5) (s0) (1) (0)))))))
def wp_m_mayBe_b15 (S : St) (Q : Int32 → Prop) (x1 : Int32) (x2 : Int32) : Nat → Int32 → Int32 → Int32 → Prop
  | 0 => fun _ _ _ => False
  | n + 1 => fun x3 x4 x5 => wp_m_periodOf S (fun r_3 => (((x4 + r_3) ≤ x5 → Q x3) ∧ (¬ (x4 + r_3) ≤ x5 → (vp_in (5 + x1) 55 ∧ wp_m_lengthOf S (x1) (fun r_9 => (¬ r_9 = 0 ∧ ((¬ (irm ((S.1 7 ((5 + x1)).toNatClampNeg) + x5) r_9) = x2 → wp_m_mayBe_b53 S Q (x1) (x2) (fun y3 y4 y5 => wp_m_mayBe_b15 S Q x1 x2 n y3 y4 y5) (x3) (x4) (x5) (0)) ∧ ((irm ((S.1 7 ((5 + x1)).toNatClampNeg) + x5) r_9) = x2 → wp_m_mayBe_b53 S Q (x1) (x2) (fun y3 y4 y5 => wp_m_mayBe_b15 S Q x1 x2 n y3 y4 y5) (x3) (x4) (x5) (1)))))))))
def wp_m_mayBe (S : St) (x1 : Int32) (x2 : Int32) (Q : Int32 → Prop) : Prop :=
  (∃ z, wp_m_mayBe_b15 S Q (x1) (x2) z (63) ((S.1 7 0)) ((S.1 7 0)))
set_option maxRecDepth 100000 in
theorem wk_m_mayBe_b136 {G : Gx} {K : Kx} {A : Nat → Nat} (C : KOk G K RX8 cX8_mayBe rm_m_mayBe 9 (some .int)) {S : St} {Q : Int32 → Prop} (N : KRi K Q) (x1 : Int32) (x2 : Int32) (K15 : Int32 → Int32 → Int32 → Prop) (hK15 : ∀ (x3 : Int32) (x4 : Int32) (x5 : Int32), K15 x3 x4 x5 → Y G K 0 0 (wM G A S) 15 [(0, .ref (A 0)), (1, .int (x1)), (2, .int (x2)), (3, .int (x3)), (4, .int (x4)), (5, .int (x5))] []) (K89 : Int32 → Int32 → Int32 → Int32 → Int32 → Int32 → Prop) (hK89 : ∀ (x3 : Int32) (x4 : Int32) (x5 : Int32) (x6 : Int32) (x7 : Int32) (x8 : Int32), K89 x3 x4 x5 x6 x7 x8 → Y G K 0 0 (wM G A S) 89 [(0, .ref (A 0)), (1, .int (x1)), (2, .int (x2)), (3, .int (x3)), (4, .int (x4)), (5, .int (x5)), (6, .int (x6)), (7, .int (x7)), (8, .int (x8))] []) (x3 : Int32) (x4 : Int32) (x5 : Int32) (x6 : Int32) (x7 : Int32) (x8 : Int32) (h : wp_m_mayBe_b136 S Q x1 x2 K15 K89 x3 x4 x5 x6 x7 x8) : Y G K 0 0 (wM G A S) 136 [(0, .ref (A 0)), (1, .int (x1)), (2, .int (x2)), (3, .int (x3)), (4, .int (x4)), (5, .int (x5)), (6, .int (x6)), (7, .int (x7)), (8, .int (x8))] [] := by
  refine y_iload C dX8_mayBe_136 7 rfl ?_
  refine y_if_eq C (tgt := 173) dX8_mayBe_138 rfl (fun c_40 => ?_) (fun c_40 => ?_)
  · have h_41 := (h).1 c_40
    refine y_iinc C dX8_mayBe_173 8 rfl (Nat.le_of_ble_eq_true rfl) (ii_1 _) [(8, .int ((x8 + 1))), (0, .ref (A 0)), (1, .int (x1)), (2, .int (x2)), (3, .int (x3)), (4, .int (x4)), (5, .int (x5)), (6, .int (x6)), (7, .int (x7))] rfl ?_
    refine y_goto C (tgt := 89) dX8_mayBe_176 rfl ?_
    exact Y.sub (hK89 (x3) (x4) (x5) (x6) (x7) ((x8 + 1)) (h_41)) [1, 2, 3, 4, 5, 6, 7, 8, 0] rfl
  · have h_42 := (h).2 c_40
    refine y_aload_n C dX8_mayBe_141 0 rfl rfl ?_
    refine yg_X8_40_wM0 C dX8_mayBe_142 ?_
    refine y_aload_n C dX8_mayBe_145 0 rfl rfl ?_
    refine y_iconst C dX8_mayBe_146 ic_1 ?_
    refine y_iload_n C dX8_mayBe_147 1 rfl rfl ?_
    refine y_isub C dX8_mayBe_148 ?_
    refine y_iload C dX8_mayBe_149 5 rfl ?_
    refine y_iconst C dX8_mayBe_151 ic_0 ?_
    refine y_callRiV (As := [.int ((1 - x1)), .int (x5), .int (0)]) (rest := [.ref (A 9)]) C cs_X8_328 (met_m_plain G A S ((1 - x1)) (x5) (0) _ (h_42)) (fun _ h => h) (wM_0 ..) rfl rfl ⟨rfl, rfl, Nat.le_of_ble_eq_true rfl, Nat.le_of_ble_eq_true rfl⟩ rfl rfl (Nat.le_of_ble_eq_true rfl) dX8_mayBe_152 ⟨Nat.zero_le _, Nat.zero_le _⟩ (fun r_43 h_44 => ?_)
    refine y_iald C (wM_9 ..) rfl (h_44).1 dX8_mayBe_155 ?_
    refine y_iload C dX8_mayBe_156 8 rfl ?_
    refine y_callRiS (As := [.int ((S.1 9 (r_43).toNatClampNeg)), .int (x8)]) (rest := []) C cs_X8_280 (met_m_isBit G ((S.1 9 (r_43).toNatClampNeg)) (x8) _ ((h_44).2)) (fun _ _ => pw_nil) ⟨rfl, rfl, Nat.le_of_ble_eq_true rfl, Nat.le_of_ble_eq_true rfl⟩ rfl rfl (Nat.le_of_ble_eq_true rfl) dX8_mayBe_158 ⟨Nat.zero_le _, Nat.zero_le _⟩ (fun r_46 h_47 => ?_)
    refine y_if_ne C (tgt := 173) dX8_mayBe_161 rfl (fun c_49 => ?_) (fun c_49 => ?_)
    · have h_50 := (h_47).1 c_49
      refine y_iinc C dX8_mayBe_173 8 rfl (Nat.le_of_ble_eq_true rfl) (ii_1 _) [(8, .int ((x8 + 1))), (0, .ref (A 0)), (1, .int (x1)), (2, .int (x2)), (3, .int (x3)), (4, .int (x4)), (5, .int (x5)), (6, .int (x6)), (7, .int (x7))] rfl ?_
      refine y_goto C (tgt := 89) dX8_mayBe_176 rfl ?_
      exact Y.sub (hK89 (x3) (x4) (x5) (x6) (x7) ((x8 + 1)) (h_50)) [1, 2, 3, 4, 5, 6, 7, 8, 0] rfl
    · have h_51 := (h_47).2 c_49
      refine y_iload_n C dX8_mayBe_164 3 rfl rfl ?_
      refine y_iconst C dX8_mayBe_165 ic_1 ?_
      refine y_iload C dX8_mayBe_166 8 rfl ?_
      refine y_ishl C dX8_mayBe_168 ?_
      refine y_iconst C dX8_mayBe_169 icm1 ?_
      refine y_ixor C dX8_mayBe_170 ?_
      refine y_iand C dX8_mayBe_171 ?_
      refine y_istore_n C dX8_mayBe_172 rfl (Nat.le_of_ble_eq_true rfl) [(3, .int ((x3 &&& ((1 <<< (x8 &&& 31)) ^^^ (-1))))), (0, .ref (A 0)), (1, .int (x1)), (2, .int (x2)), (4, .int (x4)), (5, .int (x5)), (6, .int (x6)), (7, .int (x7)), (8, .int (x8))] rfl ?_
      refine y_iinc C dX8_mayBe_173 8 rfl (Nat.le_of_ble_eq_true rfl) (ii_1 _) [(8, .int ((x8 + 1))), (3, .int ((x3 &&& ((1 <<< (x8 &&& 31)) ^^^ (-1))))), (0, .ref (A 0)), (1, .int (x1)), (2, .int (x2)), (4, .int (x4)), (5, .int (x5)), (6, .int (x6)), (7, .int (x7))] rfl ?_
      refine y_goto C (tgt := 89) dX8_mayBe_176 rfl ?_
      exact Y.sub (hK89 ((x3 &&& ((1 <<< (x8 &&& 31)) ^^^ (-1)))) (x4) (x5) (x6) (x7) ((x8 + 1)) (h_51)) [2, 3, 4, 1, 5, 6, 7, 8, 0] rfl
set_option maxRecDepth 100000 in
theorem wk_m_mayBe_b89 {G : Gx} {K : Kx} {A : Nat → Nat} (C : KOk G K RX8 cX8_mayBe rm_m_mayBe 9 (some .int)) {S : St} {Q : Int32 → Prop} (N : KRi K Q) (x1 : Int32) (x2 : Int32) (K15 : Int32 → Int32 → Int32 → Prop) (hK15 : ∀ (x3 : Int32) (x4 : Int32) (x5 : Int32), K15 x3 x4 x5 → Y G K 0 0 (wM G A S) 15 [(0, .ref (A 0)), (1, .int (x1)), (2, .int (x2)), (3, .int (x3)), (4, .int (x4)), (5, .int (x5))] []) : ∀ (n : Nat), ∀ (x3 : Int32) (x4 : Int32) (x5 : Int32) (x6 : Int32) (x7 : Int32) (x8 : Int32), wp_m_mayBe_b89 S Q x1 x2 K15 n x3 x4 x5 x6 x7 x8 → Y G K 0 0 (wM G A S) 89 [(0, .ref (A 0)), (1, .int (x1)), (2, .int (x2)), (3, .int (x3)), (4, .int (x4)), (5, .int (x5)), (6, .int (x6)), (7, .int (x7)), (8, .int (x8))] [] := by
  intro n
  induction n with
  | zero => intro x3 x4 x5 x6 x7 x8 h; exact h.elim
  | succ n ih =>
    intro x3 x4 x5 x6 x7 x8 h
    dsimp only [wp_m_mayBe_b89] at h
    refine y_iload C dX8_mayBe_89 8 rfl ?_
    refine y_bipush C dX8_mayBe_91 bp_6 ?_
    refine y_icmp_ge C (tgt := 179) dX8_mayBe_93 rfl (fun c_25 => ?_) (fun c_25 => ?_)
    · have h_26 := (h).1 c_25
      refine y_iinc C dX8_mayBe_179 5 rfl (Nat.le_of_ble_eq_true rfl) (ii_1 _) [(5, .int ((x5 + 1))), (0, .ref (A 0)), (1, .int (x1)), (2, .int (x2)), (3, .int (x3)), (4, .int (x4)), (6, .int (x6)), (7, .int (x7)), (8, .int (x8))] rfl ?_
      refine y_goto C (tgt := 15) dX8_mayBe_182 rfl ?_
      exact Y.sub (hK15 (x3) (x4) ((x5 + 1)) (h_26)) [1, 2, 3, 4, 5, 0] rfl
    · have h_27 := (h).2 c_25
      refine y_iload C dX8_mayBe_96 6 rfl ?_
      refine y_if_eq C (tgt := 136) dX8_mayBe_98 rfl (fun c_28 => ?_) (fun c_28 => ?_)
      · have h_29 := (h_27).1 c_28
        exact Y.sub (wk_m_mayBe_b136 C N (x1) (x2) K15 hK15 (fun y3 y4 y5 y6 y7 y8 => wp_m_mayBe_b89 S Q x1 x2 K15 n y3 y4 y5 y6 y7 y8) ih (x3) (x4) (x5) (x6) (x7) (x8) (h_29)) [0, 1, 2, 3, 4, 5, 6, 7, 8] rfl
      · have h_30 := (h_27).2 c_28
        refine y_aload_n C dX8_mayBe_101 0 rfl rfl ?_
        refine yg_X8_40_wM0 C dX8_mayBe_102 ?_
        refine y_iload C dX8_mayBe_105 8 rfl ?_
        refine y_iald C (wM_9 ..) rfl (h_30).1 dX8_mayBe_107 ?_
        refine y_aload_n C dX8_mayBe_108 0 rfl rfl ?_
        refine y_iconst C dX8_mayBe_109 ic_1 ?_
        refine y_iload_n C dX8_mayBe_110 1 rfl rfl ?_
        refine y_isub C dX8_mayBe_111 ?_
        refine y_iload C dX8_mayBe_112 5 rfl ?_
        refine y_iload C dX8_mayBe_114 4 rfl ?_
        refine y_isub C dX8_mayBe_116 ?_
        refine y_iconst C dX8_mayBe_117 ic_0 ?_
        refine y_callRiV (As := [.int ((1 - x1)), .int ((x5 - x4)), .int (0)]) (rest := [.int ((S.1 9 (x8).toNatClampNeg))]) C cs_X8_328 (met_m_plain G A S ((1 - x1)) ((x5 - x4)) (0) _ ((h_30).2)) (fun _ h => h) (wM_0 ..) rfl rfl ⟨rfl, rfl, Nat.le_of_ble_eq_true rfl, Nat.le_of_ble_eq_true rfl⟩ rfl rfl (Nat.le_of_ble_eq_true rfl) dX8_mayBe_118 ⟨Nat.zero_le _, Nat.zero_le _⟩ (fun r_31 h_32 => ?_)
        refine y_callRiS (As := [.int ((S.1 9 (x8).toNatClampNeg)), .int (r_31)]) (rest := []) C cs_X8_280 (met_m_isBit G ((S.1 9 (x8).toNatClampNeg)) (r_31) _ (h_32)) (fun _ _ => pw_nil) ⟨rfl, rfl, Nat.le_of_ble_eq_true rfl, Nat.le_of_ble_eq_true rfl⟩ rfl rfl (Nat.le_of_ble_eq_true rfl) dX8_mayBe_121 ⟨Nat.zero_le _, Nat.zero_le _⟩ (fun r_34 h_35 => ?_)
        refine y_if_ne C (tgt := 136) dX8_mayBe_124 rfl (fun c_37 => ?_) (fun c_37 => ?_)
        · have h_38 := (h_35).1 c_37
          exact Y.sub (wk_m_mayBe_b136 C N (x1) (x2) K15 hK15 (fun y3 y4 y5 y6 y7 y8 => wp_m_mayBe_b89 S Q x1 x2 K15 n y3 y4 y5 y6 y7 y8) ih (x3) (x4) (x5) (x6) (x7) (x8) (h_38)) [0, 1, 2, 3, 4, 5, 6, 7, 8] rfl
        · have h_39 := (h_35).2 c_37
          refine y_iload_n C dX8_mayBe_127 3 rfl rfl ?_
          refine y_iconst C dX8_mayBe_128 ic_1 ?_
          refine y_iload C dX8_mayBe_129 8 rfl ?_
          refine y_ishl C dX8_mayBe_131 ?_
          refine y_iconst C dX8_mayBe_132 icm1 ?_
          refine y_ixor C dX8_mayBe_133 ?_
          refine y_iand C dX8_mayBe_134 ?_
          refine y_istore_n C dX8_mayBe_135 rfl (Nat.le_of_ble_eq_true rfl) [(3, .int ((x3 &&& ((1 <<< (x8 &&& 31)) ^^^ (-1))))), (0, .ref (A 0)), (1, .int (x1)), (2, .int (x2)), (4, .int (x4)), (5, .int (x5)), (6, .int (x6)), (7, .int (x7)), (8, .int (x8))] rfl ?_
          exact Y.sub (wk_m_mayBe_b136 C N (x1) (x2) K15 hK15 (fun y3 y4 y5 y6 y7 y8 => wp_m_mayBe_b89 S Q x1 x2 K15 n y3 y4 y5 y6 y7 y8) ih ((x3 &&& ((1 <<< (x8 &&& 31)) ^^^ (-1)))) (x4) (x5) (x6) (x7) (x8) (h_39)) [1, 2, 3, 0, 4, 5, 6, 7, 8] rfl
set_option maxRecDepth 100000 in
theorem wk_m_mayBe_b53 {G : Gx} {K : Kx} {A : Nat → Nat} (C : KOk G K RX8 cX8_mayBe rm_m_mayBe 9 (some .int)) {S : St} {Q : Int32 → Prop} (N : KRi K Q) (x1 : Int32) (x2 : Int32) (K15 : Int32 → Int32 → Int32 → Prop) (hK15 : ∀ (x3 : Int32) (x4 : Int32) (x5 : Int32), K15 x3 x4 x5 → Y G K 0 0 (wM G A S) 15 [(0, .ref (A 0)), (1, .int (x1)), (2, .int (x2)), (3, .int (x3)), (4, .int (x4)), (5, .int (x5))] []) (x3 : Int32) (x4 : Int32) (x5 : Int32) (s0 : Int32) (h : wp_m_mayBe_b53 S Q x1 x2 K15 x3 x4 x5 s0) : Y G K 0 0 (wM G A S) 53 [(0, .ref (A 0)), (1, .int (x1)), (2, .int (x2)), (3, .int (x3)), (4, .int (x4)), (5, .int (x5))] [.int (s0)] := by
  refine y_istore C dX8_mayBe_53 (Nat.le_of_ble_eq_true rfl) [(6, .int (s0)), (0, .ref (A 0)), (1, .int (x1)), (2, .int (x2)), (3, .int (x3)), (4, .int (x4)), (5, .int (x5))] rfl ?_
  refine y_aload_n C dX8_mayBe_55 1 rfl rfl ?_
  refine yg_X8_34_wM0 C dX8_mayBe_56 ?_
  refine y_iconst C dX8_mayBe_59 ic_5 ?_
  refine y_iload_n C dX8_mayBe_60 2 rfl rfl ?_
  refine y_iadd C dX8_mayBe_61 ?_
  refine y_iald C (wM_7 ..) rfl (h).1 dX8_mayBe_62 ?_
  refine y_iload C dX8_mayBe_63 6 rfl ?_
  refine y_iadd C dX8_mayBe_65 ?_
  refine y_iload C dX8_mayBe_66 5 rfl ?_
  refine y_isub C dX8_mayBe_68 ?_
  refine y_aload_n C dX8_mayBe_69 1 rfl rfl ?_
  refine y_iload_n C dX8_mayBe_70 2 rfl rfl ?_
  refine y_callRiV (As := [.int (x1)]) (rest := [.int ((((S.1 7 ((5 + x1)).toNatClampNeg) + x5) - x4))]) C cs_X8_264 (met_m_lengthOf G A S (x1) _ ((h).2)) (fun _ h => h) (wM_0 ..) rfl rfl ⟨rfl, rfl, Nat.le_of_ble_eq_true rfl, Nat.le_of_ble_eq_true rfl⟩ rfl rfl (Nat.le_of_ble_eq_true rfl) dX8_mayBe_71 ⟨Nat.zero_le _, Nat.zero_le _⟩ (fun r_15 h_16 => ?_)
  refine y_irem C dX8_mayBe_74 (h_16).1 ?_
  refine y_iload_n C dX8_mayBe_75 3 rfl rfl ?_
  refine y_icmp_ne C (tgt := 83) dX8_mayBe_76 rfl (fun c_18 => ?_) (fun c_18 => ?_)
  · have h_19 := ((h_16).2).1 c_18
    refine y_iconst C dX8_mayBe_83 ic_0 ?_
    refine y_istore C dX8_mayBe_84 (Nat.le_of_ble_eq_true rfl) [(7, .int (0)), (6, .int (s0)), (0, .ref (A 0)), (1, .int (x1)), (2, .int (x2)), (3, .int (x3)), (4, .int (x4)), (5, .int (x5))] rfl ?_
    refine y_iconst C dX8_mayBe_86 ic_0 ?_
    refine y_istore C dX8_mayBe_87 (Nat.le_of_ble_eq_true rfl) [(8, .int (0)), (7, .int (0)), (6, .int (s0)), (0, .ref (A 0)), (1, .int (x1)), (2, .int (x2)), (3, .int (x3)), (4, .int (x4)), (5, .int (x5))] rfl ?_
    obtain ⟨n_20, h_21⟩ := h_19
    exact Y.sub (wk_m_mayBe_b89 C N (x1) (x2) K15 hK15 n_20 (x3) (x4) (x5) (s0) (0) (0) h_21) [3, 4, 5, 6, 7, 8, 2, 1, 0] rfl
  · have h_22 := ((h_16).2).2 c_18
    refine y_iconst C dX8_mayBe_79 ic_1 ?_
    refine y_goto C (tgt := 84) dX8_mayBe_80 rfl ?_
    refine y_istore C dX8_mayBe_84 (Nat.le_of_ble_eq_true rfl) [(7, .int (1)), (6, .int (s0)), (0, .ref (A 0)), (1, .int (x1)), (2, .int (x2)), (3, .int (x3)), (4, .int (x4)), (5, .int (x5))] rfl ?_
    refine y_iconst C dX8_mayBe_86 ic_0 ?_
    refine y_istore C dX8_mayBe_87 (Nat.le_of_ble_eq_true rfl) [(8, .int (0)), (7, .int (1)), (6, .int (s0)), (0, .ref (A 0)), (1, .int (x1)), (2, .int (x2)), (3, .int (x3)), (4, .int (x4)), (5, .int (x5))] rfl ?_
    obtain ⟨n_23, h_24⟩ := h_22
    exact Y.sub (wk_m_mayBe_b89 C N (x1) (x2) K15 hK15 n_23 (x3) (x4) (x5) (s0) (1) (0) h_24) [3, 4, 5, 6, 7, 8, 2, 1, 0] rfl
set_option maxRecDepth 100000 in
theorem wk_m_mayBe_b15 {G : Gx} {K : Kx} {A : Nat → Nat} (C : KOk G K RX8 cX8_mayBe rm_m_mayBe 9 (some .int)) {S : St} {Q : Int32 → Prop} (N : KRi K Q) (x1 : Int32) (x2 : Int32) : ∀ (n : Nat), ∀ (x3 : Int32) (x4 : Int32) (x5 : Int32), wp_m_mayBe_b15 S Q x1 x2 n x3 x4 x5 → Y G K 0 0 (wM G A S) 15 [(0, .ref (A 0)), (1, .int (x1)), (2, .int (x2)), (3, .int (x3)), (4, .int (x4)), (5, .int (x5))] [] := by
  intro n
  induction n with
  | zero => intro x3 x4 x5 h; exact h.elim
  | succ n ih =>
    intro x3 x4 x5 h
    dsimp only [wp_m_mayBe_b15] at h
    refine y_iload C dX8_mayBe_15 5 rfl ?_
    refine y_iload C dX8_mayBe_17 4 rfl ?_
    refine y_aload_n C dX8_mayBe_19 0 rfl rfl ?_
    refine y_callRiV (As := []) (rest := [.int (x4), .int (x5)]) C cs_X8_325 (met_m_periodOf G A S _ (h)) (fun _ h => h) (wM_0 ..) rfl rfl ⟨rfl, rfl, Nat.le_of_ble_eq_true rfl, Nat.le_of_ble_eq_true rfl⟩ rfl rfl (Nat.le_of_ble_eq_true rfl) dX8_mayBe_20 ⟨Nat.zero_le _, Nat.zero_le _⟩ (fun r_3 h_4 => ?_)
    refine y_iadd C dX8_mayBe_23 ?_
    refine y_icmp_ge C (tgt := 185) dX8_mayBe_24 rfl (fun c_6 => ?_) (fun c_6 => ?_)
    · have h_7 := (h_4).1 c_6
      refine y_iload_n C dX8_mayBe_185 3 rfl rfl ?_
      exact y_iretR C N rfl (h_7) dX8_mayBe_186
    · have h_8 := (h_4).2 c_6
      refine y_aload_n C dX8_mayBe_27 0 rfl rfl ?_
      refine yg_X8_34_wM0 C dX8_mayBe_28 ?_
      refine y_iconst C dX8_mayBe_31 ic_5 ?_
      refine y_iload_n C dX8_mayBe_32 1 rfl rfl ?_
      refine y_iadd C dX8_mayBe_33 ?_
      refine y_iald C (wM_7 ..) rfl (h_8).1 dX8_mayBe_34 ?_
      refine y_iload C dX8_mayBe_35 5 rfl ?_
      refine y_iadd C dX8_mayBe_37 ?_
      refine y_aload_n C dX8_mayBe_38 0 rfl rfl ?_
      refine y_iload_n C dX8_mayBe_39 1 rfl rfl ?_
      refine y_callRiV (As := [.int (x1)]) (rest := [.int (((S.1 7 ((5 + x1)).toNatClampNeg) + x5))]) C cs_X8_264 (met_m_lengthOf G A S (x1) _ ((h_8).2)) (fun _ h => h) (wM_0 ..) rfl rfl ⟨rfl, rfl, Nat.le_of_ble_eq_true rfl, Nat.le_of_ble_eq_true rfl⟩ rfl rfl (Nat.le_of_ble_eq_true rfl) dX8_mayBe_40 ⟨Nat.zero_le _, Nat.zero_le _⟩ (fun r_9 h_10 => ?_)
      refine y_irem C dX8_mayBe_43 (h_10).1 ?_
      refine y_iload_n C dX8_mayBe_44 2 rfl rfl ?_
      refine y_icmp_ne C (tgt := 52) dX8_mayBe_45 rfl (fun c_12 => ?_) (fun c_12 => ?_)
      · have h_13 := ((h_10).2).1 c_12
        refine y_iconst C dX8_mayBe_52 ic_0 ?_
        exact Y.sub (wk_m_mayBe_b53 C N (x1) (x2) (fun y3 y4 y5 => wp_m_mayBe_b15 S Q x1 x2 n y3 y4 y5) ih (x3) (x4) (x5) (0) (h_13)) [0, 1, 2, 3, 4, 5] rfl
      · have h_14 := ((h_10).2).2 c_12
        refine y_iconst C dX8_mayBe_48 ic_1 ?_
        refine y_goto C (tgt := 53) dX8_mayBe_49 rfl ?_
        exact Y.sub (wk_m_mayBe_b53 C N (x1) (x2) (fun y3 y4 y5 => wp_m_mayBe_b15 S Q x1 x2 n y3 y4 y5) ih (x3) (x4) (x5) (1) (h_14)) [0, 1, 2, 3, 4, 5] rfl
set_option maxRecDepth 100000 in
theorem met_m_mayBe (G : Gx) (A : Nat → Nat) (S : St) (x1 : Int32) (x2 : Int32) (Q : Int32 → Prop) (h : wp_m_mayBe S x1 x2 Q) : Ri G yX8_mayBe (ws_ yX8_mayBe cX8_mayBe 9 (some .int)) rm_m_mayBe (wM G A S) [.ref (A 0), .int (x1), .int (x2)] Q := by
  refine ent_Ri (by decide +kernel) rfl (Nat.le_of_ble_eq_true rfl) [(0, .ref (A 0)), (1, .int (x1)), (2, .int (x2))] rfl (fun K C N => ?_)
  refine y_bipush C dX8_mayBe_0 bp_63 ?_
  refine y_istore_n C dX8_mayBe_2 rfl (Nat.le_of_ble_eq_true rfl) [(3, .int (63)), (0, .ref (A 0)), (1, .int (x1)), (2, .int (x2))] rfl ?_
  refine y_aload_n C dX8_mayBe_3 1 rfl rfl ?_
  refine yg_X8_34_wM0 C dX8_mayBe_4 ?_
  refine y_iconst C dX8_mayBe_7 ic_0 ?_
  refine y_iald C (wM_7 ..) tn_0 vi_0_55 dX8_mayBe_8 ?_
  refine y_istore C dX8_mayBe_9 (Nat.le_of_ble_eq_true rfl) [(4, .int ((S.1 7 0))), (3, .int (63)), (0, .ref (A 0)), (1, .int (x1)), (2, .int (x2))] rfl ?_
  refine y_iload C dX8_mayBe_11 0 rfl ?_
  refine y_istore C dX8_mayBe_13 (Nat.le_of_ble_eq_true rfl) [(5, .int ((S.1 7 0))), (4, .int ((S.1 7 0))), (3, .int (63)), (0, .ref (A 0)), (1, .int (x1)), (2, .int (x2))] rfl ?_
  obtain ⟨n_1, h_2⟩ := h
  exact Y.sub (wk_m_mayBe_b15 C N (x1) (x2) n_1 (63) ((S.1 7 0)) ((S.1 7 0)) h_2) [3, 4, 5, 2, 1, 0] rfl
