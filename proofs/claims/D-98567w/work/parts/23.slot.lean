/-! printed by tools/gen.py -/
set_option maxRecDepth 100000
def fs_Sb0 (A : Nat → Nat) (S : St) : List Value := [.ref (A 1)]
theorem fs_Sb0_f0 (A : Nat → Nat) (S : St) : (fs_Sb0 A S)[0]? = some (.ref (A 1)) := rfl
def wSb (u : Nat) (G : Gx) (A : Nat → Nat) (S : St) : va_W := [(A 0, .inr (6, fs_Sb0 A S)), (A 1, .inl (G.2.2.1 1, u, .inl (S.1 1)))]
theorem wSb_0 (u : Nat) (G : Gx) (A : Nat → Nat) (S : St) : (wSb u G A S)[0]? = some (A 0, .inr (6, fs_Sb0 A S)) := rfl
theorem wSb_1 (u : Nat) (G : Gx) (A : Nat → Nat) (S : St) : (wSb u G A S)[1]? = some (A 1, .inl (G.2.2.1 1, u, .inl (S.1 1))) := rfl
theorem wSb_s1 (u : Nat) (G : Gx) (A : Nat → Nat) (S : St) (k : Nat) (v : Int32) : (wSb u G A S).set 1 (A 1, .inl (G.2.2.1 1, u, .inl (upd (S.1 1) k v))) = wSb u G A (sI S 1 k v) := rfl
def fs_Ss0 (A : Nat → Nat) (S : St) : List Value := [.ref (A 1)]
theorem fs_Ss0_f0 (A : Nat → Nat) (S : St) : (fs_Ss0 A S)[0]? = some (.ref (A 1)) := rfl
def wSs (u : Nat) (G : Gx) (A : Nat → Nat) (S : St) : va_W := [(A 0, .inr (6, fs_Ss0 A S)), (A 1, .inl (G.2.2.1 4, u, .inl (S.1 1)))]
theorem wSs_0 (u : Nat) (G : Gx) (A : Nat → Nat) (S : St) : (wSs u G A S)[0]? = some (A 0, .inr (6, fs_Ss0 A S)) := rfl
theorem wSs_1 (u : Nat) (G : Gx) (A : Nat → Nat) (S : St) : (wSs u G A S)[1]? = some (A 1, .inl (G.2.2.1 4, u, .inl (S.1 1))) := rfl
theorem wSs_s1 (u : Nat) (G : Gx) (A : Nat → Nat) (S : St) (k : Nat) (v : Int32) : (wSs u G A S).set 1 (A 1, .inl (G.2.2.1 4, u, .inl (upd (S.1 1) k v))) = wSs u G A (sI S 1 k v) := rfl
def fs_Si0 (A : Nat → Nat) (S : St) : List Value := [.ref (A 1)]
theorem fs_Si0_f0 (A : Nat → Nat) (S : St) : (fs_Si0 A S)[0]? = some (.ref (A 1)) := rfl
def wSi (u : Nat) (G : Gx) (A : Nat → Nat) (S : St) : va_W := [(A 0, .inr (6, fs_Si0 A S)), (A 1, .inl (G.2.2.1 0, u, .inl (S.1 1)))]
theorem wSi_0 (u : Nat) (G : Gx) (A : Nat → Nat) (S : St) : (wSi u G A S)[0]? = some (A 0, .inr (6, fs_Si0 A S)) := rfl
theorem wSi_1 (u : Nat) (G : Gx) (A : Nat → Nat) (S : St) : (wSi u G A S)[1]? = some (A 1, .inl (G.2.2.1 0, u, .inl (S.1 1))) := rfl
theorem wSi_c1 (u : Nat) (G : Gx) (A : Nat → Nat) (S : St) (f : Nat → Int32) : (wSi u G A S).set 1 (A 1, .inl (G.2.2.1 0, u, .inl f)) = wSi u G A (sC S 1 f) := rfl
theorem wSi_s1 (u : Nat) (G : Gx) (A : Nat → Nat) (S : St) (k : Nat) (v : Int32) : (wSi u G A S).set 1 (A 1, .inl (G.2.2.1 0, u, .inl (upd (S.1 1) k v))) = wSi u G A (sI S 1 k v) := rfl
def fs_Sl0 (A : Nat → Nat) (S : St) : List Value := [.ref (A 1)]
theorem fs_Sl0_f0 (A : Nat → Nat) (S : St) : (fs_Sl0 A S)[0]? = some (.ref (A 1)) := rfl
def wSl (u : Nat) (G : Gx) (A : Nat → Nat) (S : St) : va_W := [(A 0, .inr (6, fs_Sl0 A S)), (A 1, .inl (G.2.2.1 3, u, .inr (.inl (S.2 1))))]
theorem wSl_0 (u : Nat) (G : Gx) (A : Nat → Nat) (S : St) : (wSl u G A S)[0]? = some (A 0, .inr (6, fs_Sl0 A S)) := rfl
theorem wSl_1 (u : Nat) (G : Gx) (A : Nat → Nat) (S : St) : (wSl u G A S)[1]? = some (A 1, .inl (G.2.2.1 3, u, .inr (.inl (S.2 1)))) := rfl
theorem wSl_s1 (u : Nat) (G : Gx) (A : Nat → Nat) (S : St) (k : Nat) (v : Int64) : (wSl u G A S).set 1 (A 1, .inl (G.2.2.1 3, u, .inr (.inl (vp_updL (S.2 1) k v)))) = wSl u G A (sL S 1 k v) := rfl
theorem yg_X7_7_wSb0 {G : Gx} {K : Kx} {cc : ByteArray} {rm : Room} {nL : Nat} {ret : Option FieldType} {k n pc : Nat} {A : Nat → Nat} {u : Nat} {S : St} {lv : List (Nat × Value)} {st : List Value} (C : KOk G K RX7 cc rm nL ret) (hdg : decode cc pc = .ok (.getfield 7, 3)) (kk : Y G K k n (wSb u G A S) (pc + 3) lv (.ref (A 1) :: st)) : Y G K k n (wSb u G A S) pc lv (.ref (A 0) :: st) := y_get C (ref := "OverHill$Slot") (Cn := RX7) (T := TX7) (N := 1) in_X7 (wSb_0 ..) rfl 0 (by decide) q371 (fun _ _ h => h) (fs_Sb0_f0 A S) hdg kk
theorem yg_X7_7_wSs0 {G : Gx} {K : Kx} {cc : ByteArray} {rm : Room} {nL : Nat} {ret : Option FieldType} {k n pc : Nat} {A : Nat → Nat} {u : Nat} {S : St} {lv : List (Nat × Value)} {st : List Value} (C : KOk G K RX7 cc rm nL ret) (hdg : decode cc pc = .ok (.getfield 7, 3)) (kk : Y G K k n (wSs u G A S) (pc + 3) lv (.ref (A 1) :: st)) : Y G K k n (wSs u G A S) pc lv (.ref (A 0) :: st) := y_get C (ref := "OverHill$Slot") (Cn := RX7) (T := TX7) (N := 1) in_X7 (wSs_0 ..) rfl 0 (by decide) q371 (fun _ _ h => h) (fs_Ss0_f0 A S) hdg kk
theorem yg_X7_7_wSi0 {G : Gx} {K : Kx} {cc : ByteArray} {rm : Room} {nL : Nat} {ret : Option FieldType} {k n pc : Nat} {A : Nat → Nat} {u : Nat} {S : St} {lv : List (Nat × Value)} {st : List Value} (C : KOk G K RX7 cc rm nL ret) (hdg : decode cc pc = .ok (.getfield 7, 3)) (kk : Y G K k n (wSi u G A S) (pc + 3) lv (.ref (A 1) :: st)) : Y G K k n (wSi u G A S) pc lv (.ref (A 0) :: st) := y_get C (ref := "OverHill$Slot") (Cn := RX7) (T := TX7) (N := 1) in_X7 (wSi_0 ..) rfl 0 (by decide) q371 (fun _ _ h => h) (fs_Si0_f0 A S) hdg kk
theorem yg_X7_7_wSl0 {G : Gx} {K : Kx} {cc : ByteArray} {rm : Room} {nL : Nat} {ret : Option FieldType} {k n pc : Nat} {A : Nat → Nat} {u : Nat} {S : St} {lv : List (Nat × Value)} {st : List Value} (C : KOk G K RX7 cc rm nL ret) (hdg : decode cc pc = .ok (.getfield 7, 3)) (kk : Y G K k n (wSl u G A S) (pc + 3) lv (.ref (A 1) :: st)) : Y G K k n (wSl u G A S) pc lv (.ref (A 0) :: st) := y_get C (ref := "OverHill$Slot") (Cn := RX7) (T := TX7) (N := 1) in_X7 (wSl_0 ..) rfl 0 (by decide) q371 (fun _ _ h => h) (fs_Sl0_f0 A S) hdg kk
/-! OverHill$Slot size()I: s_size_b -/
abbrev rm_s_size_b : Room := { frames := 1, cells := 0, slots := 0, locals := 40 }
def wp_s_size_b (u : Nat) (S : St) (Q : Int32 → Prop) : Prop :=
  Q (nI u)
set_option maxRecDepth 100000 in
theorem met_s_size_b (G : Gx) (A : Nat → Nat) (u : Nat) (S : St) (Q : Int32 → Prop) (h : wp_s_size_b u S Q) : Ri G yX7_size (ws_ yX7_size cX7_size 1 (some .int)) rm_s_size_b (wSb u G A S) [.ref (A 0)] Q := by
  refine ent_Ri (by decide +kernel) rfl (Nat.le_of_ble_eq_true rfl) [(0, .ref (A 0))] rfl (fun K C N => ?_)
  refine y_aload_n C dX7_size_0 0 rfl rfl ?_
  refine yg_X7_7_wSb0 C dX7_size_1 ?_
  refine y_instA C 1 (wSb_1 ..) rfl (fun _ h => h) q1120 dX7_size_4 ?_
  refine y_if_eq C (tgt := 21) dX7_size_7 rfl (fun c => absurd c (by decide)) (fun _ => ?_)
  refine y_aload_n C dX7_size_10 0 rfl rfl ?_
  refine yg_X7_7_wSb0 C dX7_size_11 ?_
  refine y_castA C 1 (wSb_1 ..) rfl (fun _ h => h) q1120 dX7_size_14 ?_
  refine y_alen C 1 (wSb_1 ..) rfl (v := nI u) rfl dX7_size_17 ?_
  refine y_goto C (tgt := 71) dX7_size_18 rfl ?_
  exact y_iretR C N rfl (h) dX7_size_71
/-! OverHill$Slot at(I)J: s_at_b -/
abbrev rm_s_at_b : Room := { frames := 1, cells := 0, slots := 0, locals := 40 }
def wp_s_at_b (u : Nat) (S : St) (x1 : Int32) (Q : Int64 → Prop) : Prop :=
  (vp_in x1 u ∧ Q ((S.1 1 (x1).toNatClampNeg)).toInt64)
set_option maxRecDepth 100000 in
theorem met_s_at_b (G : Gx) (A : Nat → Nat) (u : Nat) (S : St) (x1 : Int32) (Q : Int64 → Prop) (h : wp_s_at_b u S x1 Q) : Rl G yX7_at (ws_ yX7_at cX7_at 2 (some .long)) rm_s_at_b (wSb u G A S) [.ref (A 0), .int (x1)] Q := by
  refine ent_Rl (by decide +kernel) rfl (Nat.le_of_ble_eq_true rfl) [(0, .ref (A 0)), (1, .int (x1))] rfl (fun K C N => ?_)
  refine y_aload_n C dX7_at_0 0 rfl rfl ?_
  refine yg_X7_7_wSb0 C dX7_at_1 ?_
  refine y_instA C 1 (wSb_1 ..) rfl (fun _ h => h) q1120 dX7_at_4 ?_
  refine y_if_eq C (tgt := 23) dX7_at_7 rfl (fun c => absurd c (by decide)) (fun _ => ?_)
  refine y_aload_n C dX7_at_10 0 rfl rfl ?_
  refine yg_X7_7_wSb0 C dX7_at_11 ?_
  refine y_castA C 1 (wSb_1 ..) rfl (fun _ h => h) q1120 dX7_at_14 ?_
  refine y_iload_n C dX7_at_17 1 rfl rfl ?_
  refine y_bald C (wSb_1 ..) rfl (h).1 dX7_at_18 ?_
  refine y_i2l C dX7_at_19 rfl ?_
  refine y_goto C (tgt := 78) dX7_at_20 rfl ?_
  exact y_lretR C N rfl ((h).2) dX7_at_78
/-! OverHill$Slot put(IJ)V: s_put_b -/
abbrev rm_s_put_b : Room := { frames := 1, cells := 0, slots := 0, locals := 40 }
def wp_s_put_b (u : Nat) (S : St) (x1 : Int32) (x2 : Int64) (Q : St → Prop) : Prop :=
  (vp_in x1 u ∧ Q (sI S 1 (x1).toNatClampNeg (vp_nar .byte ((x2).toInt32).toInt8.toInt32)))
set_option maxRecDepth 100000 in
theorem met_s_put_b (G : Gx) (A : Nat → Nat) (u : Nat) (S : St) (x1 : Int32) (x2 : Int64) (Q : St → Prop) (h : wp_s_put_b u S x1 x2 Q) : Mv G yX7_put (ws_ yX7_put cX7_put 4 none) rm_s_put_b (wSb u G A S) [.ref (A 0), .int (x1), .long (x2)] (wSb u G A) Q := by
  refine ent_Mv (by decide +kernel) rfl (Nat.le_of_ble_eq_true rfl) [(0, .ref (A 0)), (1, .int (x1)), (2, .long (x2))] rfl (fun K B C M N => ?_)
  refine y_aload_n C dX7_put_0 0 rfl rfl ?_
  refine yg_X7_7_wSb0 C dX7_put_1 ?_
  refine y_instA C 1 (wSb_1 ..) rfl (fun _ h => h) q1120 dX7_put_4 ?_
  refine y_if_eq C (tgt := 25) dX7_put_7 rfl (fun c => absurd c (by decide)) (fun _ => ?_)
  refine y_aload_n C dX7_put_10 0 rfl rfl ?_
  refine yg_X7_7_wSb0 C dX7_put_11 ?_
  refine y_castA C 1 (wSb_1 ..) rfl (fun _ h => h) q1120 dX7_put_14 ?_
  refine y_iload_n C dX7_put_17 1 rfl rfl ?_
  refine y_lload_n C dX7_put_18 2 rfl rfl ?_
  refine y_l2i C dX7_put_19 ?_
  refine y_i2b C dX7_put_20 ?_
  refine y_bast C M (wSb_1 ..) rfl (wSb_s1 ..) (h).1 dX7_put_21 ?_
  refine y_goto C (tgt := 84) dX7_put_22 rfl ?_
  exact y_vretM C M N rfl (S := (sI S 1 (x1).toNatClampNeg (vp_nar .byte ((x2).toInt32).toInt8.toInt32))) rfl ((h).2) dX7_put_84
/-! OverHill$Slot size()I: s_size_s -/
abbrev rm_s_size_s : Room := { frames := 1, cells := 0, slots := 0, locals := 40 }
def wp_s_size_s (u : Nat) (S : St) (Q : Int32 → Prop) : Prop :=
  Q (nI u)
set_option maxRecDepth 100000 in
theorem met_s_size_s (G : Gx) (A : Nat → Nat) (u : Nat) (S : St) (Q : Int32 → Prop) (h : wp_s_size_s u S Q) : Ri G yX7_size (ws_ yX7_size cX7_size 1 (some .int)) rm_s_size_s (wSs u G A S) [.ref (A 0)] Q := by
  refine ent_Ri (by decide +kernel) rfl (Nat.le_of_ble_eq_true rfl) [(0, .ref (A 0))] rfl (fun K C N => ?_)
  refine y_aload_n C dX7_size_0 0 rfl rfl ?_
  refine yg_X7_7_wSs0 C dX7_size_1 ?_
  refine y_instAN C (Ca := "[S") (nm := "[B") 4 (wSs_1 ..) rfl (fun _ h => h) (by decide) q1120 dX7_size_4 ?_
  refine y_if_eq C (tgt := 21) dX7_size_7 rfl (fun _ => ?_) (fun c => absurd c (by decide))
  refine y_aload_n C dX7_size_21 0 rfl rfl ?_
  refine yg_X7_7_wSs0 C dX7_size_22 ?_
  refine y_instA C 4 (wSs_1 ..) rfl (fun _ h => h) q1121 dX7_size_25 ?_
  refine y_if_eq C (tgt := 42) dX7_size_28 rfl (fun c => absurd c (by decide)) (fun _ => ?_)
  refine y_aload_n C dX7_size_31 0 rfl rfl ?_
  refine yg_X7_7_wSs0 C dX7_size_32 ?_
  refine y_castA C 4 (wSs_1 ..) rfl (fun _ h => h) q1121 dX7_size_35 ?_
  refine y_alen C 4 (wSs_1 ..) rfl (v := nI u) rfl dX7_size_38 ?_
  refine y_goto C (tgt := 71) dX7_size_39 rfl ?_
  exact y_iretR C N rfl (h) dX7_size_71
/-! OverHill$Slot at(I)J: s_at_s -/
abbrev rm_s_at_s : Room := { frames := 1, cells := 0, slots := 0, locals := 40 }
def wp_s_at_s (u : Nat) (S : St) (x1 : Int32) (Q : Int64 → Prop) : Prop :=
  (vp_in x1 u ∧ Q ((S.1 1 (x1).toNatClampNeg)).toInt64)
set_option maxRecDepth 100000 in
theorem met_s_at_s (G : Gx) (A : Nat → Nat) (u : Nat) (S : St) (x1 : Int32) (Q : Int64 → Prop) (h : wp_s_at_s u S x1 Q) : Rl G yX7_at (ws_ yX7_at cX7_at 2 (some .long)) rm_s_at_s (wSs u G A S) [.ref (A 0), .int (x1)] Q := by
  refine ent_Rl (by decide +kernel) rfl (Nat.le_of_ble_eq_true rfl) [(0, .ref (A 0)), (1, .int (x1))] rfl (fun K C N => ?_)
  refine y_aload_n C dX7_at_0 0 rfl rfl ?_
  refine yg_X7_7_wSs0 C dX7_at_1 ?_
  refine y_instAN C (Ca := "[S") (nm := "[B") 4 (wSs_1 ..) rfl (fun _ h => h) (by decide) q1120 dX7_at_4 ?_
  refine y_if_eq C (tgt := 23) dX7_at_7 rfl (fun _ => ?_) (fun c => absurd c (by decide))
  refine y_aload_n C dX7_at_23 0 rfl rfl ?_
  refine yg_X7_7_wSs0 C dX7_at_24 ?_
  refine y_instA C 4 (wSs_1 ..) rfl (fun _ h => h) q1121 dX7_at_27 ?_
  refine y_if_eq C (tgt := 46) dX7_at_30 rfl (fun c => absurd c (by decide)) (fun _ => ?_)
  refine y_aload_n C dX7_at_33 0 rfl rfl ?_
  refine yg_X7_7_wSs0 C dX7_at_34 ?_
  refine y_castA C 4 (wSs_1 ..) rfl (fun _ h => h) q1121 dX7_at_37 ?_
  refine y_iload_n C dX7_at_40 1 rfl rfl ?_
  refine y_sald C (wSs_1 ..) rfl (h).1 dX7_at_41 ?_
  refine y_i2l C dX7_at_42 rfl ?_
  refine y_goto C (tgt := 78) dX7_at_43 rfl ?_
  exact y_lretR C N rfl ((h).2) dX7_at_78
/-! OverHill$Slot put(IJ)V: s_put_s -/
abbrev rm_s_put_s : Room := { frames := 1, cells := 0, slots := 0, locals := 40 }
def wp_s_put_s (u : Nat) (S : St) (x1 : Int32) (x2 : Int64) (Q : St → Prop) : Prop :=
  (vp_in x1 u ∧ Q (sI S 1 (x1).toNatClampNeg (vp_nar .short ((x2).toInt32).toInt16.toInt32)))
set_option maxRecDepth 100000 in
theorem met_s_put_s (G : Gx) (A : Nat → Nat) (u : Nat) (S : St) (x1 : Int32) (x2 : Int64) (Q : St → Prop) (h : wp_s_put_s u S x1 x2 Q) : Mv G yX7_put (ws_ yX7_put cX7_put 4 none) rm_s_put_s (wSs u G A S) [.ref (A 0), .int (x1), .long (x2)] (wSs u G A) Q := by
  refine ent_Mv (by decide +kernel) rfl (Nat.le_of_ble_eq_true rfl) [(0, .ref (A 0)), (1, .int (x1)), (2, .long (x2))] rfl (fun K B C M N => ?_)
  refine y_aload_n C dX7_put_0 0 rfl rfl ?_
  refine yg_X7_7_wSs0 C dX7_put_1 ?_
  refine y_instAN C (Ca := "[S") (nm := "[B") 4 (wSs_1 ..) rfl (fun _ h => h) (by decide) q1120 dX7_put_4 ?_
  refine y_if_eq C (tgt := 25) dX7_put_7 rfl (fun _ => ?_) (fun c => absurd c (by decide))
  refine y_aload_n C dX7_put_25 0 rfl rfl ?_
  refine yg_X7_7_wSs0 C dX7_put_26 ?_
  refine y_instA C 4 (wSs_1 ..) rfl (fun _ h => h) q1121 dX7_put_29 ?_
  refine y_if_eq C (tgt := 50) dX7_put_32 rfl (fun c => absurd c (by decide)) (fun _ => ?_)
  refine y_aload_n C dX7_put_35 0 rfl rfl ?_
  refine yg_X7_7_wSs0 C dX7_put_36 ?_
  refine y_castA C 4 (wSs_1 ..) rfl (fun _ h => h) q1121 dX7_put_39 ?_
  refine y_iload_n C dX7_put_42 1 rfl rfl ?_
  refine y_lload_n C dX7_put_43 2 rfl rfl ?_
  refine y_l2i C dX7_put_44 ?_
  refine y_i2s C dX7_put_45 ?_
  refine y_sast C M (wSs_1 ..) rfl (wSs_s1 ..) (h).1 dX7_put_46 ?_
  refine y_goto C (tgt := 84) dX7_put_47 rfl ?_
  exact y_vretM C M N rfl (S := (sI S 1 (x1).toNatClampNeg (vp_nar .short ((x2).toInt32).toInt16.toInt32))) rfl ((h).2) dX7_put_84
/-! OverHill$Slot size()I: s_size_i -/
abbrev rm_s_size_i : Room := { frames := 1, cells := 0, slots := 0, locals := 40 }
def wp_s_size_i (u : Nat) (S : St) (Q : Int32 → Prop) : Prop :=
  Q (nI u)
set_option maxRecDepth 100000 in
theorem met_s_size_i (G : Gx) (A : Nat → Nat) (u : Nat) (S : St) (Q : Int32 → Prop) (h : wp_s_size_i u S Q) : Ri G yX7_size (ws_ yX7_size cX7_size 1 (some .int)) rm_s_size_i (wSi u G A S) [.ref (A 0)] Q := by
  refine ent_Ri (by decide +kernel) rfl (Nat.le_of_ble_eq_true rfl) [(0, .ref (A 0))] rfl (fun K C N => ?_)
  refine y_aload_n C dX7_size_0 0 rfl rfl ?_
  refine yg_X7_7_wSi0 C dX7_size_1 ?_
  refine y_instAN C (Ca := "[I") (nm := "[B") 0 (wSi_1 ..) rfl (fun _ h => h) (by decide) q1120 dX7_size_4 ?_
  refine y_if_eq C (tgt := 21) dX7_size_7 rfl (fun _ => ?_) (fun c => absurd c (by decide))
  refine y_aload_n C dX7_size_21 0 rfl rfl ?_
  refine yg_X7_7_wSi0 C dX7_size_22 ?_
  refine y_instAN C (Ca := "[I") (nm := "[S") 0 (wSi_1 ..) rfl (fun _ h => h) (by decide) q1121 dX7_size_25 ?_
  refine y_if_eq C (tgt := 42) dX7_size_28 rfl (fun _ => ?_) (fun c => absurd c (by decide))
  refine y_aload_n C dX7_size_42 0 rfl rfl ?_
  refine yg_X7_7_wSi0 C dX7_size_43 ?_
  refine y_instA C 0 (wSi_1 ..) rfl (fun _ h => h) q1122 dX7_size_46 ?_
  refine y_if_eq C (tgt := 63) dX7_size_49 rfl (fun c => absurd c (by decide)) (fun _ => ?_)
  refine y_aload_n C dX7_size_52 0 rfl rfl ?_
  refine yg_X7_7_wSi0 C dX7_size_53 ?_
  refine y_castA C 0 (wSi_1 ..) rfl (fun _ h => h) q1122 dX7_size_56 ?_
  refine y_alen C 0 (wSi_1 ..) rfl (v := nI u) rfl dX7_size_59 ?_
  refine y_goto C (tgt := 71) dX7_size_60 rfl ?_
  exact y_iretR C N rfl (h) dX7_size_71
/-! OverHill$Slot at(I)J: s_at_i -/
abbrev rm_s_at_i : Room := { frames := 1, cells := 0, slots := 0, locals := 40 }
def wp_s_at_i (u : Nat) (S : St) (x1 : Int32) (Q : Int64 → Prop) : Prop :=
  (vp_in x1 u ∧ Q ((S.1 1 (x1).toNatClampNeg)).toInt64)
set_option maxRecDepth 100000 in
theorem met_s_at_i (G : Gx) (A : Nat → Nat) (u : Nat) (S : St) (x1 : Int32) (Q : Int64 → Prop) (h : wp_s_at_i u S x1 Q) : Rl G yX7_at (ws_ yX7_at cX7_at 2 (some .long)) rm_s_at_i (wSi u G A S) [.ref (A 0), .int (x1)] Q := by
  refine ent_Rl (by decide +kernel) rfl (Nat.le_of_ble_eq_true rfl) [(0, .ref (A 0)), (1, .int (x1))] rfl (fun K C N => ?_)
  refine y_aload_n C dX7_at_0 0 rfl rfl ?_
  refine yg_X7_7_wSi0 C dX7_at_1 ?_
  refine y_instAN C (Ca := "[I") (nm := "[B") 0 (wSi_1 ..) rfl (fun _ h => h) (by decide) q1120 dX7_at_4 ?_
  refine y_if_eq C (tgt := 23) dX7_at_7 rfl (fun _ => ?_) (fun c => absurd c (by decide))
  refine y_aload_n C dX7_at_23 0 rfl rfl ?_
  refine yg_X7_7_wSi0 C dX7_at_24 ?_
  refine y_instAN C (Ca := "[I") (nm := "[S") 0 (wSi_1 ..) rfl (fun _ h => h) (by decide) q1121 dX7_at_27 ?_
  refine y_if_eq C (tgt := 46) dX7_at_30 rfl (fun _ => ?_) (fun c => absurd c (by decide))
  refine y_aload_n C dX7_at_46 0 rfl rfl ?_
  refine yg_X7_7_wSi0 C dX7_at_47 ?_
  refine y_instA C 0 (wSi_1 ..) rfl (fun _ h => h) q1122 dX7_at_50 ?_
  refine y_if_eq C (tgt := 69) dX7_at_53 rfl (fun c => absurd c (by decide)) (fun _ => ?_)
  refine y_aload_n C dX7_at_56 0 rfl rfl ?_
  refine yg_X7_7_wSi0 C dX7_at_57 ?_
  refine y_castA C 0 (wSi_1 ..) rfl (fun _ h => h) q1122 dX7_at_60 ?_
  refine y_iload_n C dX7_at_63 1 rfl rfl ?_
  refine y_iald C (wSi_1 ..) rfl (h).1 dX7_at_64 ?_
  refine y_i2l C dX7_at_65 rfl ?_
  refine y_goto C (tgt := 78) dX7_at_66 rfl ?_
  exact y_lretR C N rfl ((h).2) dX7_at_78
/-! OverHill$Slot put(IJ)V: s_put_i -/
abbrev rm_s_put_i : Room := { frames := 1, cells := 0, slots := 0, locals := 40 }
def wp_s_put_i (u : Nat) (S : St) (x1 : Int32) (x2 : Int64) (Q : St → Prop) : Prop :=
  (vp_in x1 u ∧ Q (sI S 1 (x1).toNatClampNeg (x2).toInt32))
set_option maxRecDepth 100000 in
theorem met_s_put_i (G : Gx) (A : Nat → Nat) (u : Nat) (S : St) (x1 : Int32) (x2 : Int64) (Q : St → Prop) (h : wp_s_put_i u S x1 x2 Q) : Mv G yX7_put (ws_ yX7_put cX7_put 4 none) rm_s_put_i (wSi u G A S) [.ref (A 0), .int (x1), .long (x2)] (wSi u G A) Q := by
  refine ent_Mv (by decide +kernel) rfl (Nat.le_of_ble_eq_true rfl) [(0, .ref (A 0)), (1, .int (x1)), (2, .long (x2))] rfl (fun K B C M N => ?_)
  refine y_aload_n C dX7_put_0 0 rfl rfl ?_
  refine yg_X7_7_wSi0 C dX7_put_1 ?_
  refine y_instAN C (Ca := "[I") (nm := "[B") 0 (wSi_1 ..) rfl (fun _ h => h) (by decide) q1120 dX7_put_4 ?_
  refine y_if_eq C (tgt := 25) dX7_put_7 rfl (fun _ => ?_) (fun c => absurd c (by decide))
  refine y_aload_n C dX7_put_25 0 rfl rfl ?_
  refine yg_X7_7_wSi0 C dX7_put_26 ?_
  refine y_instAN C (Ca := "[I") (nm := "[S") 0 (wSi_1 ..) rfl (fun _ h => h) (by decide) q1121 dX7_put_29 ?_
  refine y_if_eq C (tgt := 50) dX7_put_32 rfl (fun _ => ?_) (fun c => absurd c (by decide))
  refine y_aload_n C dX7_put_50 0 rfl rfl ?_
  refine yg_X7_7_wSi0 C dX7_put_51 ?_
  refine y_instA C 0 (wSi_1 ..) rfl (fun _ h => h) q1122 dX7_put_54 ?_
  refine y_if_eq C (tgt := 74) dX7_put_57 rfl (fun c => absurd c (by decide)) (fun _ => ?_)
  refine y_aload_n C dX7_put_60 0 rfl rfl ?_
  refine yg_X7_7_wSi0 C dX7_put_61 ?_
  refine y_castA C 0 (wSi_1 ..) rfl (fun _ h => h) q1122 dX7_put_64 ?_
  refine y_iload_n C dX7_put_67 1 rfl rfl ?_
  refine y_lload_n C dX7_put_68 2 rfl rfl ?_
  refine y_l2i C dX7_put_69 ?_
  refine y_iast C M (wSi_1 ..) rfl (wSi_s1 ..) (h).1 dX7_put_70 ?_
  refine y_goto C (tgt := 84) dX7_put_71 rfl ?_
  exact y_vretM C M N rfl (S := (sI S 1 (x1).toNatClampNeg (x2).toInt32)) rfl ((h).2) dX7_put_84
/-! OverHill$Slot size()I: s_size_l -/
abbrev rm_s_size_l : Room := { frames := 1, cells := 0, slots := 0, locals := 40 }
def wp_s_size_l (u : Nat) (S : St) (Q : Int32 → Prop) : Prop :=
  Q (nI u)
set_option maxRecDepth 100000 in
theorem met_s_size_l (G : Gx) (A : Nat → Nat) (u : Nat) (S : St) (Q : Int32 → Prop) (h : wp_s_size_l u S Q) : Ri G yX7_size (ws_ yX7_size cX7_size 1 (some .int)) rm_s_size_l (wSl u G A S) [.ref (A 0)] Q := by
  refine ent_Ri (by decide +kernel) rfl (Nat.le_of_ble_eq_true rfl) [(0, .ref (A 0))] rfl (fun K C N => ?_)
  refine y_aload_n C dX7_size_0 0 rfl rfl ?_
  refine yg_X7_7_wSl0 C dX7_size_1 ?_
  refine y_instAN C (Ca := "[J") (nm := "[B") 3 (wSl_1 ..) rfl (fun _ h => h) (by decide) q1120 dX7_size_4 ?_
  refine y_if_eq C (tgt := 21) dX7_size_7 rfl (fun _ => ?_) (fun c => absurd c (by decide))
  refine y_aload_n C dX7_size_21 0 rfl rfl ?_
  refine yg_X7_7_wSl0 C dX7_size_22 ?_
  refine y_instAN C (Ca := "[J") (nm := "[S") 3 (wSl_1 ..) rfl (fun _ h => h) (by decide) q1121 dX7_size_25 ?_
  refine y_if_eq C (tgt := 42) dX7_size_28 rfl (fun _ => ?_) (fun c => absurd c (by decide))
  refine y_aload_n C dX7_size_42 0 rfl rfl ?_
  refine yg_X7_7_wSl0 C dX7_size_43 ?_
  refine y_instAN C (Ca := "[J") (nm := "[I") 3 (wSl_1 ..) rfl (fun _ h => h) (by decide) q1122 dX7_size_46 ?_
  refine y_if_eq C (tgt := 63) dX7_size_49 rfl (fun _ => ?_) (fun c => absurd c (by decide))
  refine y_aload_n C dX7_size_63 0 rfl rfl ?_
  refine yg_X7_7_wSl0 C dX7_size_64 ?_
  refine y_castA C 3 (wSl_1 ..) rfl (fun _ h => h) q1123 dX7_size_67 ?_
  refine y_alen C 3 (wSl_1 ..) rfl (v := nI u) rfl dX7_size_70 ?_
  exact y_iretR C N rfl (h) dX7_size_71
/-! OverHill$Slot at(I)J: s_at_l -/
abbrev rm_s_at_l : Room := { frames := 1, cells := 0, slots := 0, locals := 40 }
def wp_s_at_l (u : Nat) (S : St) (x1 : Int32) (Q : Int64 → Prop) : Prop :=
  (vp_in x1 u ∧ Q (S.2 1 (x1).toNatClampNeg))
set_option maxRecDepth 100000 in
theorem met_s_at_l (G : Gx) (A : Nat → Nat) (u : Nat) (S : St) (x1 : Int32) (Q : Int64 → Prop) (h : wp_s_at_l u S x1 Q) : Rl G yX7_at (ws_ yX7_at cX7_at 2 (some .long)) rm_s_at_l (wSl u G A S) [.ref (A 0), .int (x1)] Q := by
  refine ent_Rl (by decide +kernel) rfl (Nat.le_of_ble_eq_true rfl) [(0, .ref (A 0)), (1, .int (x1))] rfl (fun K C N => ?_)
  refine y_aload_n C dX7_at_0 0 rfl rfl ?_
  refine yg_X7_7_wSl0 C dX7_at_1 ?_
  refine y_instAN C (Ca := "[J") (nm := "[B") 3 (wSl_1 ..) rfl (fun _ h => h) (by decide) q1120 dX7_at_4 ?_
  refine y_if_eq C (tgt := 23) dX7_at_7 rfl (fun _ => ?_) (fun c => absurd c (by decide))
  refine y_aload_n C dX7_at_23 0 rfl rfl ?_
  refine yg_X7_7_wSl0 C dX7_at_24 ?_
  refine y_instAN C (Ca := "[J") (nm := "[S") 3 (wSl_1 ..) rfl (fun _ h => h) (by decide) q1121 dX7_at_27 ?_
  refine y_if_eq C (tgt := 46) dX7_at_30 rfl (fun _ => ?_) (fun c => absurd c (by decide))
  refine y_aload_n C dX7_at_46 0 rfl rfl ?_
  refine yg_X7_7_wSl0 C dX7_at_47 ?_
  refine y_instAN C (Ca := "[J") (nm := "[I") 3 (wSl_1 ..) rfl (fun _ h => h) (by decide) q1122 dX7_at_50 ?_
  refine y_if_eq C (tgt := 69) dX7_at_53 rfl (fun _ => ?_) (fun c => absurd c (by decide))
  refine y_aload_n C dX7_at_69 0 rfl rfl ?_
  refine yg_X7_7_wSl0 C dX7_at_70 ?_
  refine y_castA C 3 (wSl_1 ..) rfl (fun _ h => h) q1123 dX7_at_73 ?_
  refine y_iload_n C dX7_at_76 1 rfl rfl ?_
  refine y_lald C (wSl_1 ..) rfl (h).1 dX7_at_77 ?_
  exact y_lretR C N rfl ((h).2) dX7_at_78
/-! OverHill$Slot put(IJ)V: s_put_l -/
abbrev rm_s_put_l : Room := { frames := 1, cells := 0, slots := 0, locals := 40 }
def wp_s_put_l (u : Nat) (S : St) (x1 : Int32) (x2 : Int64) (Q : St → Prop) : Prop :=
  (vp_in x1 u ∧ Q (sL S 1 (x1).toNatClampNeg x2))
set_option maxRecDepth 100000 in
theorem met_s_put_l (G : Gx) (A : Nat → Nat) (u : Nat) (S : St) (x1 : Int32) (x2 : Int64) (Q : St → Prop) (h : wp_s_put_l u S x1 x2 Q) : Mv G yX7_put (ws_ yX7_put cX7_put 4 none) rm_s_put_l (wSl u G A S) [.ref (A 0), .int (x1), .long (x2)] (wSl u G A) Q := by
  refine ent_Mv (by decide +kernel) rfl (Nat.le_of_ble_eq_true rfl) [(0, .ref (A 0)), (1, .int (x1)), (2, .long (x2))] rfl (fun K B C M N => ?_)
  refine y_aload_n C dX7_put_0 0 rfl rfl ?_
  refine yg_X7_7_wSl0 C dX7_put_1 ?_
  refine y_instAN C (Ca := "[J") (nm := "[B") 3 (wSl_1 ..) rfl (fun _ h => h) (by decide) q1120 dX7_put_4 ?_
  refine y_if_eq C (tgt := 25) dX7_put_7 rfl (fun _ => ?_) (fun c => absurd c (by decide))
  refine y_aload_n C dX7_put_25 0 rfl rfl ?_
  refine yg_X7_7_wSl0 C dX7_put_26 ?_
  refine y_instAN C (Ca := "[J") (nm := "[S") 3 (wSl_1 ..) rfl (fun _ h => h) (by decide) q1121 dX7_put_29 ?_
  refine y_if_eq C (tgt := 50) dX7_put_32 rfl (fun _ => ?_) (fun c => absurd c (by decide))
  refine y_aload_n C dX7_put_50 0 rfl rfl ?_
  refine yg_X7_7_wSl0 C dX7_put_51 ?_
  refine y_instAN C (Ca := "[J") (nm := "[I") 3 (wSl_1 ..) rfl (fun _ h => h) (by decide) q1122 dX7_put_54 ?_
  refine y_if_eq C (tgt := 74) dX7_put_57 rfl (fun _ => ?_) (fun c => absurd c (by decide))
  refine y_aload_n C dX7_put_74 0 rfl rfl ?_
  refine yg_X7_7_wSl0 C dX7_put_75 ?_
  refine y_castA C 3 (wSl_1 ..) rfl (fun _ h => h) q1123 dX7_put_78 ?_
  refine y_iload_n C dX7_put_81 1 rfl rfl ?_
  refine y_lload_n C dX7_put_82 2 rfl rfl ?_
  refine y_last C M (wSl_1 ..) rfl (wSl_s1 ..) (h).1 dX7_put_83 ?_
  exact y_vretM C M N rfl (S := (sL S 1 (x1).toNatClampNeg x2)) rfl ((h).2) dX7_put_84
