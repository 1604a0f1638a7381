/-! printed by tools/mk_ref.py -/
set_option maxRecDepth 100000
theorem nn_10 : ¬ (10 : Int32) < 0 := by decide
theorem ad_iadd_0_1 : (0 : Int32) + (1 : Int32) = (1 : Int32) := by decide
theorem vi_0_10 : vp_in 0 10 := by unfold vp_in; decide
theorem al_10 : Int32.ofNat 10 = (10 : Int32) := rfl
theorem vi_1_10 : vp_in 1 10 := by unfold vp_in; decide
theorem ad_iadd_1_1 : (1 : Int32) + (1 : Int32) = (2 : Int32) := by decide
theorem vi_2_10 : vp_in 2 10 := by unfold vp_in; decide
theorem ad_iadd_2_1 : (2 : Int32) + (1 : Int32) = (3 : Int32) := by decide
theorem ci_J1_1 : CsI RJ1 1 yJ0_init cJ0_init 1 0 := ⟨lw_meth q386, ⟨q147, q384, q385, rfl⟩, by decide +kernel⟩
theorem ci_J2_1 : CsI RJ2 1 yJ1_init cJ1_init 1 0 := ⟨lw_meth q383, ⟨q148, q381, q382, rfl⟩, by decide +kernel⟩
theorem cs_J2_79 : CsS RJ2 79 yJ3_max cJ3_max 2 (some .int) 2 := ⟨lw_S q1444 q1166 q154 q1167, by decide +kernel⟩
theorem cs_J2_69 : CsV RJ2 69 yJ2_grow_2 cJ2_grow_2 4 (some (.array (.object "java/lang/Object"))) 1 := ⟨lw_V q1401 q1403 qs70 q149 q1404, by decide +kernel⟩
theorem cs_J2_129 : CsV RJ2 129 yJ2_grow cJ2_grow 1 (some (.array (.object "java/lang/Object"))) 0 := ⟨lw_V q1397 q1399 qs69 q149 q1400, by decide +kernel⟩
theorem cs_J2_131 : CsV RJ2 131 yJ2_add_2 cJ2_add_2 4 none 3 := ⟨lw_V q1393 q1395 qs68 q149 q1396, by decide +kernel⟩
theorem cs_J15_105 : CsS RJ15 105 yJ6_checkIndex cJ6_checkIndex 3 (some .int) 3 := ⟨lw_S q1460 q633 q157 q634, by decide +kernel⟩
theorem cs_J2_118 : CsS RJ2 118 yJ15_checkIndex cJ15_checkIndex 2 (some .int) 2 := ⟨lw_S q1457 q1458 q168 q1459, by decide +kernel⟩
theorem cs_J2_123 : CsV RJ2 123 yJ2_elementData cJ2_elementData 2 (some (.object "java/lang/Object")) 1 := ⟨lw_V q1461 q1462 q1463 q149 q1464, by decide +kernel⟩
abbrev rm_ac : Room := { frames := 2, cells := 0, slots := 0, locals := 40 }
set_option maxRecDepth 100000 in
theorem mk_ac (G : Gx) (a : Nat) : MvA G yJ0_init (ws_ yJ0_init cJ0_init 1 none) rm_ac [(a, .inr (10, [.int (0), .null, .int (0)]))] [.ref a] (fun _ : Unit => [(a, .inr (10, [.int (0), .null, .int (0)]))]) (fun _ : Unit => True) 0 0 := by
  refine ent_MvI (by decide +kernel) rfl rfl (Nat.le_of_ble_eq_true rfl) [(0, .ref a)] rfl (fun K B0 C M N KI => ?_)
  refine y_aload_n C dJ0_init_0 0 rfl rfl ?_
  refine y_objInit C q387 ⟨Nat.le_of_ble_eq_true rfl, Nat.le_of_ble_eq_true rfl⟩ dJ0_init_1 ?_
  exact y_vretM C M N rfl (S := ()) rfl trivial dJ0_init_4 ⟨Nat.le_of_ble_eq_true rfl, Nat.le_of_ble_eq_true rfl⟩
abbrev rm_al : Room := { frames := 3, cells := 0, slots := 0, locals := 70 }
set_option maxRecDepth 100000 in
theorem mk_al (G : Gx) (a : Nat) : MvA G yJ1_init (ws_ yJ1_init cJ1_init 1 none) rm_al [(a, .inr (10, [.int (0), .null, .int (0)]))] [.ref a] (fun _ : Unit => [(a, .inr (10, [.int (0), .null, .int (0)]))]) (fun _ : Unit => True) 0 0 := by
  refine ent_MvI (by decide +kernel) rfl rfl (Nat.le_of_ble_eq_true rfl) [(0, .ref a)] rfl (fun K B0 C M N KI => ?_)
  refine y_aload_n C dJ1_init_0 0 rfl rfl ?_
  refine y_callI C M (As := []) (rest := []) (wc := [(a, .inr (10, [.int (0), .null, .int (0)]))]) (wr := []) ci_J1_1 (mk_ac G (a)) [0] [] rfl rfl (by decide) (by decide) (by decide) ⟨rfl, rfl, Nat.le_of_ble_eq_true rfl, Nat.le_of_ble_eq_true rfl⟩ rfl rfl (Nat.le_of_ble_eq_true rfl) dJ1_init_1 ⟨Nat.le_of_ble_eq_true rfl, Nat.le_of_ble_eq_true rfl⟩ (k' := 0) (n' := 0) rfl rfl (fun _ h_1 => ?_)
  refine Y.eqw (w' := [(a, .inr (10, [.int (0), .null, .int (0)]))]) rfl ?_
  refine y_aload_n C dJ1_init_4 0 rfl rfl ?_
  refine y_iconst C dJ1_init_5 ic_0 ?_
  refine y_put C M (ref := "java/util/AbstractList") (Cn := RJ2) (T := TJ2) (N := 3) (q0 := 0) (fs := [.int (0), .null, .int (0)]) in_J2 rfl rfl 0 (by decide) tyJ2 tyJ2_ok (by decide +kernel) q392 (fun _ _ h => h) rfl (ty := tyJ2 0) (by decide +kernel) rfl rfl (Nat.le_of_ble_eq_true rfl) (w' := [(a, .inr (10, [.int (0), .null, .int (0)]))]) rfl dJ1_init_6 ?_
  exact y_vretM C M N rfl (S := ()) rfl trivial dJ1_init_9 ⟨Nat.le_of_ble_eq_true rfl, Nat.le_of_ble_eq_true rfl⟩
abbrev rm_list : Room := { frames := 4, cells := 0, slots := 0, locals := 100 }
set_option maxRecDepth 100000 in
theorem mk_list (G : Gx) (a : Nat) : MvA G yJ2_init (ws_ yJ2_init cJ2_init 1 none) rm_list [(a, .inr (10, [.int (0), .null, .int (0)]))] [.ref a] (fun _ : Unit => [(a, .inr (10, [.int (0), .ref (G.2.2.2 50), .int (0)]))]) (fun _ : Unit => True) 0 0 := by
  refine ent_MvI (by decide +kernel) rfl rfl (Nat.le_of_ble_eq_true rfl) [(0, .ref a)] rfl (fun K B0 C M N KI => ?_)
  refine y_aload_n C dJ2_init_0 0 rfl rfl ?_
  refine y_callI C M (As := []) (rest := []) (wc := [(a, .inr (10, [.int (0), .null, .int (0)]))]) (wr := []) ci_J2_1 (mk_al G (a)) [0] [] rfl rfl (by decide) (by decide) (by decide) ⟨rfl, rfl, Nat.le_of_ble_eq_true rfl, Nat.le_of_ble_eq_true rfl⟩ rfl rfl (Nat.le_of_ble_eq_true rfl) dJ2_init_1 ⟨Nat.le_of_ble_eq_true rfl, Nat.le_of_ble_eq_true rfl⟩ (k' := 0) (n' := 0) rfl rfl (fun _ h_1 => ?_)
  refine Y.eqw (w' := [(a, .inr (10, [.int (0), .null, .int (0)]))]) rfl ?_
  refine y_aload_n C dJ2_init_4 0 rfl rfl ?_
  refine y_gets C M (Cn := "java/util/ArrayList") (nm := "DEFAULTCAPACITY_EMPTY_ELEMENTDATA") (d := "[Ljava/lang/Object;") (v := .ref (G.2.2.2 50)) (fun _ _ _ h => h.2.2.2.2.2.2.2.2.2.2.1) q388 (fun _ _ h => h) dJ2_init_5 ?_
  refine y_put C M (ref := "java/util/ArrayList") (Cn := RJ2) (T := TJ2) (N := 3) (q0 := 0) (fs := [.int (0), .null, .int (0)]) in_J2 rfl rfl 1 (by decide) tyJ2 tyJ2_ok (by decide +kernel) q390 (fun _ _ h => h) rfl (ty := tyJ2 1) (by decide +kernel) rfl rfl (Nat.le_of_ble_eq_true rfl) (w' := [(a, .inr (10, [.int (0), .ref (G.2.2.2 50), .int (0)]))]) rfl dJ2_init_8 ?_
  exact y_vretM C M N rfl (S := ()) rfl trivial dJ2_init_11 ⟨Nat.le_of_ble_eq_true rfl, Nat.le_of_ble_eq_true rfl⟩
abbrev rm_size : Room := { frames := 1, cells := 0, slots := 0, locals := 40 }
set_option maxRecDepth 100000 in
theorem mk_size (G : Gx) (a : Nat) (v : Option Nat) (m s : Int32) : MiA G yJ2_size (ws_ yJ2_size cJ2_size 1 (some .int)) rm_size [(a, .inr (10, [.int (m), va_rf v, .int (s)]))] [.ref a] (fun _ : Unit => [(a, .inr (10, [.int (m), va_rf v, .int (s)]))]) (fun (r : Int32) (_ : Unit) => r = s) 0 0 := by
  refine ent_Mi (by decide +kernel) rfl (Nat.le_of_ble_eq_true rfl) [(0, .ref a)] rfl (fun K B0 C M N => ?_)
  refine y_aload_n C dJ2_size_0 0 rfl rfl ?_
  refine y_get C (ref := "java/util/ArrayList") (Cn := RJ2) (T := TJ2) (N := 3) (q0 := 0) (fs := [.int (m), va_rf v, .int (s)]) in_J2 rfl rfl 2 (by decide) q391 (fun _ _ h => h) rfl dJ2_size_1 ?_
  exact y_iretM C M N rfl (S := ()) rfl rfl dJ2_size_4 ⟨Nat.le_of_ble_eq_true rfl, Nat.le_of_ble_eq_true rfl⟩
abbrev rm_empty0 : Room := { frames := 1, cells := 0, slots := 0, locals := 40 }
set_option maxRecDepth 100000 in
theorem mk_empty0 (G : Gx) (a : Nat) (v : Option Nat) (m : Int32) : MiA G yJ2_isEmpty (ws_ yJ2_isEmpty cJ2_isEmpty 1 (some .boolean)) rm_empty0 [(a, .inr (10, [.int (m), va_rf v, .int (0)]))] [.ref a] (fun _ : Unit => [(a, .inr (10, [.int (m), va_rf v, .int (0)]))]) (fun (r : Int32) (_ : Unit) => r = 1) 0 0 := by
  refine ent_Mi (by decide +kernel) rfl (Nat.le_of_ble_eq_true rfl) [(0, .ref a)] rfl (fun K B0 C M N => ?_)
  refine y_aload_n C dJ2_isEmpty_0 0 rfl rfl ?_
  refine y_get C (ref := "java/util/ArrayList") (Cn := RJ2) (T := TJ2) (N := 3) (q0 := 0) (fs := [.int (m), va_rf v, .int (0)]) in_J2 rfl rfl 2 (by decide) q391 (fun _ _ h => h) rfl dJ2_isEmpty_1 ?_
  refine y_if_ne C (tgt := 11) dJ2_isEmpty_4 rfl (fun c => absurd c (by decide)) (fun _ => ?_)
  refine y_iconst C dJ2_isEmpty_7 ic_1 ?_
  refine y_goto C (tgt := 12) dJ2_isEmpty_8 rfl ?_
  exact y_zretM C M N rfl rfl (S := ()) rfl rfl dJ2_isEmpty_12 ⟨Nat.le_of_ble_eq_true rfl, Nat.le_of_ble_eq_true rfl⟩
abbrev rm_empty3 : Room := { frames := 1, cells := 0, slots := 0, locals := 40 }
set_option maxRecDepth 100000 in
theorem mk_empty3 (G : Gx) (a : Nat) (v : Option Nat) (m : Int32) : MiA G yJ2_isEmpty (ws_ yJ2_isEmpty cJ2_isEmpty 1 (some .boolean)) rm_empty3 [(a, .inr (10, [.int (m), va_rf v, .int (3)]))] [.ref a] (fun _ : Unit => [(a, .inr (10, [.int (m), va_rf v, .int (3)]))]) (fun (r : Int32) (_ : Unit) => r = 0) 0 0 := by
  refine ent_Mi (by decide +kernel) rfl (Nat.le_of_ble_eq_true rfl) [(0, .ref a)] rfl (fun K B0 C M N => ?_)
  refine y_aload_n C dJ2_isEmpty_0 0 rfl rfl ?_
  refine y_get C (ref := "java/util/ArrayList") (Cn := RJ2) (T := TJ2) (N := 3) (q0 := 0) (fs := [.int (m), va_rf v, .int (3)]) in_J2 rfl rfl 2 (by decide) q391 (fun _ _ h => h) rfl dJ2_isEmpty_1 ?_
  refine y_if_ne C (tgt := 11) dJ2_isEmpty_4 rfl (fun _ => ?_) (fun c => absurd c (by decide))
  refine y_iconst C dJ2_isEmpty_11 ic_0 ?_
  exact y_zretM C M N rfl rfl (S := ()) rfl rfl dJ2_isEmpty_12 ⟨Nat.le_of_ble_eq_true rfl, Nat.le_of_ble_eq_true rfl⟩
abbrev rm_grow2 : Room := { frames := 2, cells := 1, slots := 10, locals := 80 }
set_option maxRecDepth 100000 in
theorem mk_grow2 (G : Gx) (a : Nat) (m : Int32) : MqA G yJ2_grow_2 (ws_ yJ2_grow_2 cJ2_grow_2 4 (some (.array (.object "java/lang/Object")))) rm_grow2 [(a, .inr (10, [.int (m), .ref (G.2.2.2 50), .int (0)]))] [.ref a, .int (1)] (fun b : Nat => [(a, .inr (10, [.int (m), .ref b, .int (0)])), (b, .inl (G.2.2.1 6, 10, .inr (.inr (.inr (.inr (fun _ => none))))))]) (fun (r : Option Nat) (b : Nat) => r = some b) 1 10 := by
  refine ent_Mq (by decide +kernel) rfl (Nat.le_of_ble_eq_true rfl) [(0, .ref a), (1, .int (1))] rfl (fun K B0 C M N => ?_)
  refine y_aload_n C dJ2_grow_2_0 0 rfl rfl ?_
  refine y_get C (ref := "java/util/ArrayList") (Cn := RJ2) (T := TJ2) (N := 3) (q0 := 0) (fs := [.int (m), .ref (G.2.2.2 50), .int (0)]) in_J2 rfl rfl 1 (by decide) q390 (fun _ _ h => h) rfl dJ2_grow_2_1 ?_
  refine y_emptyLen C M dJ2_grow_2_4 ?_
  refine y_istore_n C dJ2_grow_2_5 rfl (Nat.le_of_ble_eq_true rfl) [(2, .int (0)), (0, .ref a), (1, .int (1))] rfl ?_
  refine y_iload_n C dJ2_grow_2_6 0 rfl rfl ?_
  refine y_if_gt C (tgt := 20) dJ2_grow_2_7 rfl (fun c => absurd c (by decide)) (fun _ => ?_)
  refine y_aload_n C dJ2_grow_2_10 1 rfl rfl ?_
  refine y_get C (ref := "java/util/ArrayList") (Cn := RJ2) (T := TJ2) (N := 3) (q0 := 0) (fs := [.int (m), .ref (G.2.2.2 50), .int (0)]) in_J2 rfl rfl 1 (by decide) q390 (fun _ _ h => h) rfl dJ2_grow_2_11 ?_
  refine y_gets C M (Cn := "java/util/ArrayList") (nm := "DEFAULTCAPACITY_EMPTY_ELEMENTDATA") (d := "[Ljava/lang/Object;") (v := .ref (G.2.2.2 50)) (fun _ _ _ h => h.2.2.2.2.2.2.2.2.2.2.1) q388 (fun _ _ h => h) dJ2_grow_2_14 ?_
  refine y_acmp_eq C (rx := some (G.2.2.2 50)) (ry := some (G.2.2.2 50)) (tgt := 45) dJ2_grow_2_17 rfl (fun _ => ?_) (fun c => absurd rfl c)
  refine y_aload_n C dJ2_grow_2_45 1 rfl rfl ?_
  refine y_bipush C dJ2_grow_2_46 bp_10 ?_
  refine y_iload_n C dJ2_grow_2_48 2 rfl rfl ?_
  refine y_callRiS (As := [.int (10), .int (1)]) (rest := [.ref a]) C cs_J2_79 (met_jm_max G 10 1 (fun z => z = 10) (by unfold wp_jm_max; decide)) (fun _ _ => pw_nil) ⟨rfl, rfl, Nat.le_of_ble_eq_true rfl, Nat.le_of_ble_eq_true rfl⟩ rfl rfl (Nat.le_of_ble_eq_true rfl) dJ2_grow_2_49 ⟨Nat.le_of_ble_eq_true rfl, Nat.le_of_ble_eq_true rfl⟩ (fun r_1 h_2 => ?_)
  subst h_2
  refine y_newq C M (E := "java/lang/Object") 6 rfl q1445 (fun _ _ _ h => h.2.2.2.2.2.2.2.2.2.2.2.2.2) nn_10 tn_10 (by decide) ⟨Nat.le_of_ble_eq_true rfl, Nat.le_of_ble_eq_true rfl⟩ dJ2_grow_2_52 (k' := 1) (n' := 10) rfl rfl (fun q_3 => [(a, .inr (10, [.int (m), .ref (G.2.2.2 50), .int (0)])), (q_3, .inl (G.2.2.1 6, 10, .inr (.inr (.inr (.inr (fun _ => none))))))]) (fun _ => rfl) (fun q_3 => ?_)
  refine y_dup_x1 C dJ2_grow_2_55 rfl rfl ?_
  refine y_put C M (ref := "java/util/ArrayList") (Cn := RJ2) (T := TJ2) (N := 3) (q0 := 0) (fs := [.int (m), .ref (G.2.2.2 50), .int (0)]) in_J2 rfl rfl 1 (by decide) tyJ2 tyJ2_ok (by decide +kernel) q390 (fun _ _ h => h) rfl (ty := tyJ2 1) (by decide +kernel) rfl rfl (Nat.le_of_ble_eq_true rfl) (w' := [(a, .inr (10, [.int (m), .ref q_3, .int (0)])), (q_3, .inl (G.2.2.1 6, 10, .inr (.inr (.inr (.inr (fun _ => none))))))]) rfl dJ2_grow_2_56 ?_
  exact y_aretM C M N rfl (by first | exact Or.inl ⟨_, rfl⟩ | exact Or.inr ⟨_, rfl⟩) (some (q_3)) (S := q_3) rfl rfl dJ2_grow_2_59 ⟨Nat.le_of_ble_eq_true rfl, Nat.le_of_ble_eq_true rfl⟩
abbrev rm_grow : Room := { frames := 3, cells := 1, slots := 10, locals := 120 }
set_option maxRecDepth 100000 in
theorem mk_grow (G : Gx) (a : Nat) (m : Int32) : MqA G yJ2_grow (ws_ yJ2_grow cJ2_grow 1 (some (.array (.object "java/lang/Object")))) rm_grow [(a, .inr (10, [.int (m), .ref (G.2.2.2 50), .int (0)]))] [.ref a] (fun b : Nat => [(a, .inr (10, [.int (m), .ref b, .int (0)])), (b, .inl (G.2.2.1 6, 10, .inr (.inr (.inr (.inr (fun _ => none))))))]) (fun (r : Option Nat) (b : Nat) => r = some b) 1 10 := by
  refine ent_Mq (by decide +kernel) rfl (Nat.le_of_ble_eq_true rfl) [(0, .ref a)] rfl (fun K B0 C M N => ?_)
  refine y_aload_n C dJ2_grow_0 0 rfl rfl ?_
  refine y_aload_n C dJ2_grow_1 0 rfl rfl ?_
  refine y_get C (ref := "java/util/ArrayList") (Cn := RJ2) (T := TJ2) (N := 3) (q0 := 0) (fs := [.int (m), .ref (G.2.2.2 50), .int (0)]) in_J2 rfl rfl 2 (by decide) q391 (fun _ _ h => h) rfl dJ2_grow_2 ?_
  refine y_iconst C dJ2_grow_5 ic_1 ?_
  refine y_iadd C dJ2_grow_6 ?_
  rw [ad_iadd_0_1]
  refine y_callFqV C M (As := [.int (1)]) (rest := []) (wc := [(a, .inr (10, [.int (m), .ref (G.2.2.2 50), .int (0)]))]) (wr := []) cs_J2_69 (mk_grow2 G (a) (m)) ⟨[0], [], rfl, rfl, by decide, by decide, by decide⟩ (q0 := 0) rfl rfl rfl ⟨rfl, rfl, Nat.le_of_ble_eq_true rfl, Nat.le_of_ble_eq_true rfl⟩ rfl rfl (Nat.le_of_ble_eq_true rfl) dJ2_grow_7 ⟨Nat.le_of_ble_eq_true rfl, Nat.le_of_ble_eq_true rfl⟩ (k' := 1) (n' := 10) rfl rfl (fun r_3 b_1 h_2 => ?_)
  subst h_2
  refine Y.eqw (w' := [(a, .inr (10, [.int (m), .ref b_1, .int (0)])), (b_1, .inl (G.2.2.1 6, 10, .inr (.inr (.inr (.inr (fun _ => none))))))]) rfl ?_
  refine Y.eqst (st' := [.ref b_1]) rfl ?_
  exact y_aretM C M N rfl (by first | exact Or.inl ⟨_, rfl⟩ | exact Or.inr ⟨_, rfl⟩) (some (b_1)) (S := b_1) rfl rfl dJ2_grow_10 ⟨Nat.le_of_ble_eq_true rfl, Nat.le_of_ble_eq_true rfl⟩
abbrev rm_add2_0 : Room := { frames := 4, cells := 1, slots := 10, locals := 160 }
set_option maxRecDepth 100000 in
theorem mk_add2_0 (G : Gx) (a : Nat) (m : Int32) : MvA G yJ2_add_2 (ws_ yJ2_add_2 cJ2_add_2 4 none) rm_add2_0 [(a, .inr (10, [.int (m), .ref (G.2.2.2 50), .int (0)]))] [.ref a, .null, .ref (G.2.2.2 50), .int (0)] (fun b : Nat => [(a, .inr (10, [.int (m), .ref b, .int (1)])), (b, .inl (G.2.2.1 6, 10, .inr (.inr (.inr (.inr (va_up (fun _ => none) 0 none))))))]) (fun b : Nat => True) 1 10 := by
  refine ent_Mv (by decide +kernel) rfl (Nat.le_of_ble_eq_true rfl) [(0, .ref a), (1, .null), (2, .ref (G.2.2.2 50)), (3, .int (0))] rfl (fun K B0 C M N => ?_)
  refine y_iload_n C dJ2_add_2_0 3 rfl rfl ?_
  refine y_aload_n C dJ2_add_2_1 2 rfl rfl ?_
  refine y_emptyLen C M dJ2_add_2_2 ?_
  refine y_icmp_ne C (tgt := 11) dJ2_add_2_3 rfl (fun c => absurd c (by decide)) (fun _ => ?_)
  refine y_aload_n C dJ2_add_2_6 0 rfl rfl ?_
  refine y_callFqV C M (As := []) (rest := []) (wc := [(a, .inr (10, [.int (m), .ref (G.2.2.2 50), .int (0)]))]) (wr := []) cs_J2_129 (mk_grow G (a) (m)) ⟨[0], [], rfl, rfl, by decide, by decide, by decide⟩ (q0 := 0) rfl rfl rfl ⟨rfl, rfl, Nat.le_of_ble_eq_true rfl, Nat.le_of_ble_eq_true rfl⟩ rfl rfl (Nat.le_of_ble_eq_true rfl) dJ2_add_2_7 ⟨Nat.le_of_ble_eq_true rfl, Nat.le_of_ble_eq_true rfl⟩ (k' := 1) (n' := 10) rfl rfl (fun r_3 b_1 h_2 => ?_)
  subst h_2
  refine Y.eqw (w' := [(a, .inr (10, [.int (m), .ref b_1, .int (0)])), (b_1, .inl (G.2.2.1 6, 10, .inr (.inr (.inr (.inr (fun _ => none))))))]) rfl ?_
  refine Y.eqst (st' := [.ref b_1]) rfl ?_
  refine y_astore_n C dJ2_add_2_10 rfl (Nat.le_of_ble_eq_true rfl) [(2, .ref b_1), (0, .ref a), (1, .null), (3, .int (0))] rfl ?_
  refine y_aload_n C dJ2_add_2_11 0 rfl rfl ?_
  refine y_iload_n C dJ2_add_2_12 3 rfl rfl ?_
  refine y_aload_nO C none dJ2_add_2_13 2 rfl rfl ?_
  refine y_aastN C M (q0 := 1) (f := fun _ => none) (t0 := 6) rfl rfl tn_0 (w' := [(a, .inr (10, [.int (m), .ref b_1, .int (0)])), (b_1, .inl (G.2.2.1 6, 10, .inr (.inr (.inr (.inr (va_up (fun _ => none) 0 none))))))]) rfl vi_0_10 dJ2_add_2_14 ?_
  refine y_aload_n C dJ2_add_2_15 1 rfl rfl ?_
  refine y_iload_n C dJ2_add_2_16 3 rfl rfl ?_
  refine y_iconst C dJ2_add_2_17 ic_1 ?_
  refine y_iadd C dJ2_add_2_18 ?_
  rw [ad_iadd_0_1]
  refine y_put C M (ref := "java/util/ArrayList") (Cn := RJ2) (T := TJ2) (N := 3) (q0 := 0) (fs := [.int (m), .ref b_1, .int (0)]) in_J2 rfl rfl 2 (by decide) tyJ2 tyJ2_ok (by decide +kernel) q391 (fun _ _ h => h) rfl (ty := tyJ2 2) (by decide +kernel) rfl rfl (Nat.le_of_ble_eq_true rfl) (w' := [(a, .inr (10, [.int (m), .ref b_1, .int (1)])), (b_1, .inl (G.2.2.1 6, 10, .inr (.inr (.inr (.inr (va_up (fun _ => none) 0 none))))))]) rfl dJ2_add_2_19 ?_
  exact y_vretM C M N rfl (S := b_1) rfl trivial dJ2_add_2_22 ⟨Nat.le_of_ble_eq_true rfl, Nat.le_of_ble_eq_true rfl⟩
abbrev rm_add_0 : Room := { frames := 5, cells := 1, slots := 10, locals := 220 }
set_option maxRecDepth 100000 in
theorem mk_add_0 (G : Gx) (a : Nat) (m : Int32) : MiA G yJ2_add (ws_ yJ2_add cJ2_add 2 (some .boolean)) rm_add_0 [(a, .inr (10, [.int (m), .ref (G.2.2.2 50), .int (0)]))] [.ref a, .null] (fun b : Nat => [(a, .inr (10, [.int ((m + 1)), .ref b, .int (1)])), (b, .inl (G.2.2.1 6, 10, .inr (.inr (.inr (.inr (va_up (fun _ => none) 0 none))))))]) (fun (r : Int32) (b : Nat) => r = 1) 1 10 := by
  refine ent_Mi (by decide +kernel) rfl (Nat.le_of_ble_eq_true rfl) [(0, .ref a), (1, .null)] rfl (fun K B0 C M N => ?_)
  refine y_aload_n C dJ2_add_0 0 rfl rfl ?_
  refine y_dup C dJ2_add_1 rfl ?_
  refine y_getS C (ref := "java/util/ArrayList") (Cn := RJ2) (T := TJ2) (N := 3) (q0 := 0) (fs := [.int (m), .ref (G.2.2.2 50), .int (0)]) in_J2 rfl rfl 0 (by decide) q393 q394 rfl dJ2_add_2 ?_
  refine y_iconst C dJ2_add_5 ic_1 ?_
  refine y_iadd C dJ2_add_6 ?_
  refine y_putS C M (ref := "java/util/ArrayList") (Cn := RJ2) (T := TJ2) (N := 3) (q0 := 0) (fs := [.int (m), .ref (G.2.2.2 50), .int (0)]) in_J2 rfl rfl 0 (by decide) tyJ2 tyJ2_ok (by decide +kernel) q393 q394 rfl (ty := tyJ2 0) (by decide +kernel) rfl rfl (Nat.le_of_ble_eq_true rfl) (w' := [(a, .inr (10, [.int ((m + 1)), .ref (G.2.2.2 50), .int (0)]))]) rfl dJ2_add_7 ?_
  refine y_aload_n C dJ2_add_10 0 rfl rfl ?_
  refine y_aload_nO C none dJ2_add_11 1 rfl rfl ?_
  refine y_aload_n C dJ2_add_12 0 rfl rfl ?_
  refine y_get C (ref := "java/util/ArrayList") (Cn := RJ2) (T := TJ2) (N := 3) (q0 := 0) (fs := [.int ((m + 1)), .ref (G.2.2.2 50), .int (0)]) in_J2 rfl rfl 1 (by decide) q390 (fun _ _ h => h) rfl dJ2_add_13 ?_
  refine y_aload_n C dJ2_add_16 0 rfl rfl ?_
  refine y_get C (ref := "java/util/ArrayList") (Cn := RJ2) (T := TJ2) (N := 3) (q0 := 0) (fs := [.int ((m + 1)), .ref (G.2.2.2 50), .int (0)]) in_J2 rfl rfl 2 (by decide) q391 (fun _ _ h => h) rfl dJ2_add_17 ?_
  refine y_callFvV C M (As := [.null, .ref (G.2.2.2 50), .int (0)]) (rest := []) (wc := [(a, .inr (10, [.int ((m + 1)), .ref (G.2.2.2 50), .int (0)]))]) (wr := []) cs_J2_131 (mk_add2_0 G (a) ((m + 1))) ⟨[0], [], rfl, rfl, by decide, by decide, by decide⟩ (q0 := 0) rfl rfl rfl ⟨rfl, rfl, Nat.le_of_ble_eq_true rfl, Nat.le_of_ble_eq_true rfl⟩ rfl rfl (Nat.le_of_ble_eq_true rfl) dJ2_add_20 ⟨Nat.le_of_ble_eq_true rfl, Nat.le_of_ble_eq_true rfl⟩ (k' := 1) (n' := 10) rfl rfl (fun b_1 h_2 => ?_)
  refine Y.eqw (w' := [(a, .inr (10, [.int ((m + 1)), .ref b_1, .int (1)])), (b_1, .inl (G.2.2.1 6, 10, .inr (.inr (.inr (.inr (va_up (fun _ => none) 0 none))))))]) rfl ?_
  refine y_iconst C dJ2_add_23 ic_1 ?_
  exact y_zretM C M N rfl rfl (S := b_1) rfl rfl dJ2_add_24 ⟨Nat.le_of_ble_eq_true rfl, Nat.le_of_ble_eq_true rfl⟩
abbrev rm_add2_1 : Room := { frames := 4, cells := 0, slots := 0, locals := 160 }
set_option maxRecDepth 100000 in
theorem mk_add2_1 (G : Gx) (a b : Nat) (f : Nat → Option Nat) (m : Int32) : MvA G yJ2_add_2 (ws_ yJ2_add_2 cJ2_add_2 4 none) rm_add2_1 [(a, .inr (10, [.int (m), .ref b, .int (1)])), (b, .inl (G.2.2.1 6, 10, .inr (.inr (.inr (.inr (f))))))] [.ref a, .null, .ref b, .int (1)] (fun _ : Unit => [(a, .inr (10, [.int (m), .ref b, .int (2)])), (b, .inl (G.2.2.1 6, 10, .inr (.inr (.inr (.inr (va_up (f) 1 none))))))]) (fun _ : Unit => True) 0 0 := by
  refine ent_Mv (by decide +kernel) rfl (Nat.le_of_ble_eq_true rfl) [(0, .ref a), (1, .null), (2, .ref b), (3, .int (1))] rfl (fun K B0 C M N => ?_)
  refine y_iload_n C dJ2_add_2_0 3 rfl rfl ?_
  refine y_aload_n C dJ2_add_2_1 2 rfl rfl ?_
  refine y_alen C (q0 := 1) 6 rfl rfl al_10 dJ2_add_2_2 ?_
  refine y_icmp_ne C (tgt := 11) dJ2_add_2_3 rfl (fun _ => ?_) (fun c => absurd c (by decide))
  refine y_aload_n C dJ2_add_2_11 2 rfl rfl ?_
  refine y_iload_n C dJ2_add_2_12 3 rfl rfl ?_
  refine y_aload_nO C none dJ2_add_2_13 1 rfl rfl ?_
  refine y_aastN C M (q0 := 1) (f := f) (t0 := 6) rfl rfl tn_1 (w' := [(a, .inr (10, [.int (m), .ref b, .int (1)])), (b, .inl (G.2.2.1 6, 10, .inr (.inr (.inr (.inr (va_up (f) 1 none))))))]) rfl vi_1_10 dJ2_add_2_14 ?_
  refine y_aload_n C dJ2_add_2_15 0 rfl rfl ?_
  refine y_iload_n C dJ2_add_2_16 3 rfl rfl ?_
  refine y_iconst C dJ2_add_2_17 ic_1 ?_
  refine y_iadd C dJ2_add_2_18 ?_
  rw [ad_iadd_1_1]
  refine y_put C M (ref := "java/util/ArrayList") (Cn := RJ2) (T := TJ2) (N := 3) (q0 := 0) (fs := [.int (m), .ref b, .int (1)]) in_J2 rfl rfl 2 (by decide) tyJ2 tyJ2_ok (by decide +kernel) q391 (fun _ _ h => h) rfl (ty := tyJ2 2) (by decide +kernel) rfl rfl (Nat.le_of_ble_eq_true rfl) (w' := [(a, .inr (10, [.int (m), .ref b, .int (2)])), (b, .inl (G.2.2.1 6, 10, .inr (.inr (.inr (.inr (va_up (f) 1 none))))))]) rfl dJ2_add_2_19 ?_
  exact y_vretM C M N rfl (S := ()) rfl trivial dJ2_add_2_22 ⟨Nat.le_of_ble_eq_true rfl, Nat.le_of_ble_eq_true rfl⟩
abbrev rm_add_1 : Room := { frames := 5, cells := 0, slots := 0, locals := 220 }
set_option maxRecDepth 100000 in
theorem mk_add_1 (G : Gx) (a b : Nat) (f : Nat → Option Nat) (m : Int32) : MiA G yJ2_add (ws_ yJ2_add cJ2_add 2 (some .boolean)) rm_add_1 [(a, .inr (10, [.int (m), .ref b, .int (1)])), (b, .inl (G.2.2.1 6, 10, .inr (.inr (.inr (.inr (f))))))] [.ref a, .null] (fun _ : Unit => [(a, .inr (10, [.int ((m + 1)), .ref b, .int (2)])), (b, .inl (G.2.2.1 6, 10, .inr (.inr (.inr (.inr (va_up (f) 1 none))))))]) (fun (r : Int32) (_ : Unit) => r = 1) 0 0 := by
  refine ent_Mi (by decide +kernel) rfl (Nat.le_of_ble_eq_true rfl) [(0, .ref a), (1, .null)] rfl (fun K B0 C M N => ?_)
  refine y_aload_n C dJ2_add_0 0 rfl rfl ?_
  refine y_dup C dJ2_add_1 rfl ?_
  refine y_getS C (ref := "java/util/ArrayList") (Cn := RJ2) (T := TJ2) (N := 3) (q0 := 0) (fs := [.int (m), .ref b, .int (1)]) in_J2 rfl rfl 0 (by decide) q393 q394 rfl dJ2_add_2 ?_
  refine y_iconst C dJ2_add_5 ic_1 ?_
  refine y_iadd C dJ2_add_6 ?_
  refine y_putS C M (ref := "java/util/ArrayList") (Cn := RJ2) (T := TJ2) (N := 3) (q0 := 0) (fs := [.int (m), .ref b, .int (1)]) in_J2 rfl rfl 0 (by decide) tyJ2 tyJ2_ok (by decide +kernel) q393 q394 rfl (ty := tyJ2 0) (by decide +kernel) rfl rfl (Nat.le_of_ble_eq_true rfl) (w' := [(a, .inr (10, [.int ((m + 1)), .ref b, .int (1)])), (b, .inl (G.2.2.1 6, 10, .inr (.inr (.inr (.inr (f))))))]) rfl dJ2_add_7 ?_
  refine y_aload_n C dJ2_add_10 0 rfl rfl ?_
  refine y_aload_nO C none dJ2_add_11 1 rfl rfl ?_
  refine y_aload_n C dJ2_add_12 0 rfl rfl ?_
  refine y_get C (ref := "java/util/ArrayList") (Cn := RJ2) (T := TJ2) (N := 3) (q0 := 0) (fs := [.int ((m + 1)), .ref b, .int (1)]) in_J2 rfl rfl 1 (by decide) q390 (fun _ _ h => h) rfl dJ2_add_13 ?_
  refine y_aload_n C dJ2_add_16 0 rfl rfl ?_
  refine y_get C (ref := "java/util/ArrayList") (Cn := RJ2) (T := TJ2) (N := 3) (q0 := 0) (fs := [.int ((m + 1)), .ref b, .int (1)]) in_J2 rfl rfl 2 (by decide) q391 (fun _ _ h => h) rfl dJ2_add_17 ?_
  refine y_callFvV C M (As := [.null, .ref b, .int (1)]) (rest := []) (wc := [(a, .inr (10, [.int ((m + 1)), .ref b, .int (1)])), (b, .inl (G.2.2.1 6, 10, .inr (.inr (.inr (.inr (f))))))]) (wr := []) cs_J2_131 (mk_add2_1 G (a) (b) (f) ((m + 1))) ⟨[0, 1], [], rfl, rfl, by decide, by decide, by decide⟩ (q0 := 0) rfl rfl rfl ⟨rfl, rfl, Nat.le_of_ble_eq_true rfl, Nat.le_of_ble_eq_true rfl⟩ rfl rfl (Nat.le_of_ble_eq_true rfl) dJ2_add_20 ⟨Nat.le_of_ble_eq_true rfl, Nat.le_of_ble_eq_true rfl⟩ (k' := 0) (n' := 0) rfl rfl (fun _ h_1 => ?_)
  refine Y.eqw (w' := [(a, .inr (10, [.int ((m + 1)), .ref b, .int (2)])), (b, .inl (G.2.2.1 6, 10, .inr (.inr (.inr (.inr (va_up (f) 1 none))))))]) rfl ?_
  refine y_iconst C dJ2_add_23 ic_1 ?_
  exact y_zretM C M N rfl rfl (S := ()) rfl rfl dJ2_add_24 ⟨Nat.le_of_ble_eq_true rfl, Nat.le_of_ble_eq_true rfl⟩
abbrev rm_add2_2 : Room := { frames := 4, cells := 0, slots := 0, locals := 160 }
set_option maxRecDepth 100000 in
theorem mk_add2_2 (G : Gx) (a b : Nat) (f : Nat → Option Nat) (m : Int32) : MvA G yJ2_add_2 (ws_ yJ2_add_2 cJ2_add_2 4 none) rm_add2_2 [(a, .inr (10, [.int (m), .ref b, .int (2)])), (b, .inl (G.2.2.1 6, 10, .inr (.inr (.inr (.inr (f))))))] [.ref a, .null, .ref b, .int (2)] (fun _ : Unit => [(a, .inr (10, [.int (m), .ref b, .int (3)])), (b, .inl (G.2.2.1 6, 10, .inr (.inr (.inr (.inr (va_up (f) 2 none))))))]) (fun _ : Unit => True) 0 0 := by
  refine ent_Mv (by decide +kernel) rfl (Nat.le_of_ble_eq_true rfl) [(0, .ref a), (1, .null), (2, .ref b), (3, .int (2))] rfl (fun K B0 C M N => ?_)
  refine y_iload_n C dJ2_add_2_0 3 rfl rfl ?_
  refine y_aload_n C dJ2_add_2_1 2 rfl rfl ?_
  refine y_alen C (q0 := 1) 6 rfl rfl al_10 dJ2_add_2_2 ?_
  refine y_icmp_ne C (tgt := 11) dJ2_add_2_3 rfl (fun _ => ?_) (fun c => absurd c (by decide))
  refine y_aload_n C dJ2_add_2_11 2 rfl rfl ?_
  refine y_iload_n C dJ2_add_2_12 3 rfl rfl ?_
  refine y_aload_nO C none dJ2_add_2_13 1 rfl rfl ?_
  refine y_aastN C M (q0 := 1) (f := f) (t0 := 6) rfl rfl tn_2 (w' := [(a, .inr (10, [.int (m), .ref b, .int (2)])), (b, .inl (G.2.2.1 6, 10, .inr (.inr (.inr (.inr (va_up (f) 2 none))))))]) rfl vi_2_10 dJ2_add_2_14 ?_
  refine y_aload_n C dJ2_add_2_15 0 rfl rfl ?_
  refine y_iload_n C dJ2_add_2_16 3 rfl rfl ?_
  refine y_iconst C dJ2_add_2_17 ic_1 ?_
  refine y_iadd C dJ2_add_2_18 ?_
  rw [ad_iadd_2_1]
  refine y_put C M (ref := "java/util/ArrayList") (Cn := RJ2) (T := TJ2) (N := 3) (q0 := 0) (fs := [.int (m), .ref b, .int (2)]) in_J2 rfl rfl 2 (by decide) tyJ2 tyJ2_ok (by decide +kernel) q391 (fun _ _ h => h) rfl (ty := tyJ2 2) (by decide +kernel) rfl rfl (Nat.le_of_ble_eq_true rfl) (w' := [(a, .inr (10, [.int (m), .ref b, .int (3)])), (b, .inl (G.2.2.1 6, 10, .inr (.inr (.inr (.inr (va_up (f) 2 none))))))]) rfl dJ2_add_2_19 ?_
  exact y_vretM C M N rfl (S := ()) rfl trivial dJ2_add_2_22 ⟨Nat.le_of_ble_eq_true rfl, Nat.le_of_ble_eq_true rfl⟩
abbrev rm_add_2 : Room := { frames := 5, cells := 0, slots := 0, locals := 220 }
set_option maxRecDepth 100000 in
theorem mk_add_2 (G : Gx) (a b : Nat) (f : Nat → Option Nat) (m : Int32) : MiA G yJ2_add (ws_ yJ2_add cJ2_add 2 (some .boolean)) rm_add_2 [(a, .inr (10, [.int (m), .ref b, .int (2)])), (b, .inl (G.2.2.1 6, 10, .inr (.inr (.inr (.inr (f))))))] [.ref a, .null] (fun _ : Unit => [(a, .inr (10, [.int ((m + 1)), .ref b, .int (3)])), (b, .inl (G.2.2.1 6, 10, .inr (.inr (.inr (.inr (va_up (f) 2 none))))))]) (fun (r : Int32) (_ : Unit) => r = 1) 0 0 := by
  refine ent_Mi (by decide +kernel) rfl (Nat.le_of_ble_eq_true rfl) [(0, .ref a), (1, .null)] rfl (fun K B0 C M N => ?_)
  refine y_aload_n C dJ2_add_0 0 rfl rfl ?_
  refine y_dup C dJ2_add_1 rfl ?_
  refine y_getS C (ref := "java/util/ArrayList") (Cn := RJ2) (T := TJ2) (N := 3) (q0 := 0) (fs := [.int (m), .ref b, .int (2)]) in_J2 rfl rfl 0 (by decide) q393 q394 rfl dJ2_add_2 ?_
  refine y_iconst C dJ2_add_5 ic_1 ?_
  refine y_iadd C dJ2_add_6 ?_
  refine y_putS C M (ref := "java/util/ArrayList") (Cn := RJ2) (T := TJ2) (N := 3) (q0 := 0) (fs := [.int (m), .ref b, .int (2)]) in_J2 rfl rfl 0 (by decide) tyJ2 tyJ2_ok (by decide +kernel) q393 q394 rfl (ty := tyJ2 0) (by decide +kernel) rfl rfl (Nat.le_of_ble_eq_true rfl) (w' := [(a, .inr (10, [.int ((m + 1)), .ref b, .int (2)])), (b, .inl (G.2.2.1 6, 10, .inr (.inr (.inr (.inr (f))))))]) rfl dJ2_add_7 ?_
  refine y_aload_n C dJ2_add_10 0 rfl rfl ?_
  refine y_aload_nO C none dJ2_add_11 1 rfl rfl ?_
  refine y_aload_n C dJ2_add_12 0 rfl rfl ?_
  refine y_get C (ref := "java/util/ArrayList") (Cn := RJ2) (T := TJ2) (N := 3) (q0 := 0) (fs := [.int ((m + 1)), .ref b, .int (2)]) in_J2 rfl rfl 1 (by decide) q390 (fun _ _ h => h) rfl dJ2_add_13 ?_
  refine y_aload_n C dJ2_add_16 0 rfl rfl ?_
  refine y_get C (ref := "java/util/ArrayList") (Cn := RJ2) (T := TJ2) (N := 3) (q0 := 0) (fs := [.int ((m + 1)), .ref b, .int (2)]) in_J2 rfl rfl 2 (by decide) q391 (fun _ _ h => h) rfl dJ2_add_17 ?_
  refine y_callFvV C M (As := [.null, .ref b, .int (2)]) (rest := []) (wc := [(a, .inr (10, [.int ((m + 1)), .ref b, .int (2)])), (b, .inl (G.2.2.1 6, 10, .inr (.inr (.inr (.inr (f))))))]) (wr := []) cs_J2_131 (mk_add2_2 G (a) (b) (f) ((m + 1))) ⟨[0, 1], [], rfl, rfl, by decide, by decide, by decide⟩ (q0 := 0) rfl rfl rfl ⟨rfl, rfl, Nat.le_of_ble_eq_true rfl, Nat.le_of_ble_eq_true rfl⟩ rfl rfl (Nat.le_of_ble_eq_true rfl) dJ2_add_20 ⟨Nat.le_of_ble_eq_true rfl, Nat.le_of_ble_eq_true rfl⟩ (k' := 0) (n' := 0) rfl rfl (fun _ h_1 => ?_)
  refine Y.eqw (w' := [(a, .inr (10, [.int ((m + 1)), .ref b, .int (3)])), (b, .inl (G.2.2.1 6, 10, .inr (.inr (.inr (.inr (va_up (f) 2 none))))))]) rfl ?_
  refine y_iconst C dJ2_add_23 ic_1 ?_
  exact y_zretM C M N rfl rfl (S := ()) rfl rfl dJ2_add_24 ⟨Nat.le_of_ble_eq_true rfl, Nat.le_of_ble_eq_true rfl⟩
abbrev rm_chkN : Room := { frames := 1, cells := 0, slots := 0, locals := 40 }
set_option maxRecDepth 100000 in
theorem mk_chkN (G : Gx) (i n : Int32) (h1 : ¬ i < 0) (h2 : i < n) : MiA G yJ6_checkIndex (ws_ yJ6_checkIndex cJ6_checkIndex 3 (some .int)) rm_chkN [] [.int (i), .int (n), .null] (fun _ : Unit => []) (fun (r : Int32) (_ : Unit) => r = i) 0 0 := by
  refine ent_Mi (by decide +kernel) rfl (Nat.le_of_ble_eq_true rfl) [(0, .int (i)), (1, .int (n)), (2, .null)] rfl (fun K B0 C M N => ?_)
  refine y_iload_n C dJ6_checkIndex_0 0 rfl rfl ?_
  refine y_if_lt C (tgt := 9) dJ6_checkIndex_1 rfl (fun c => absurd c (h1)) (fun _ => ?_)
  refine y_iload_n C dJ6_checkIndex_4 0 rfl rfl ?_
  refine y_iload_n C dJ6_checkIndex_5 1 rfl rfl ?_
  refine y_icmp_lt C (tgt := 16) dJ6_checkIndex_6 rfl (fun _ => ?_) (fun c => absurd c (fun z => z h2))
  refine y_iload_n C dJ6_checkIndex_16 0 rfl rfl ?_
  exact y_iretM C M N rfl (S := ()) rfl rfl dJ6_checkIndex_17 ⟨Nat.le_of_ble_eq_true rfl, Nat.le_of_ble_eq_true rfl⟩
abbrev rm_chkR : Room := { frames := 1, cells := 0, slots := 0, locals := 40 }
set_option maxRecDepth 100000 in
theorem mk_chkR (G : Gx) (a : Nat) (i n : Int32) (h1 : ¬ i < 0) (h2 : i < n) : MiA G yJ6_checkIndex (ws_ yJ6_checkIndex cJ6_checkIndex 3 (some .int)) rm_chkR [] [.int (i), .int (n), .ref a] (fun _ : Unit => []) (fun (r : Int32) (_ : Unit) => r = i) 0 0 := by
  refine ent_Mi (by decide +kernel) rfl (Nat.le_of_ble_eq_true rfl) [(0, .int (i)), (1, .int (n)), (2, .ref a)] rfl (fun K B0 C M N => ?_)
  refine y_iload_n C dJ6_checkIndex_0 0 rfl rfl ?_
  refine y_if_lt C (tgt := 9) dJ6_checkIndex_1 rfl (fun c => absurd c (h1)) (fun _ => ?_)
  refine y_iload_n C dJ6_checkIndex_4 0 rfl rfl ?_
  refine y_iload_n C dJ6_checkIndex_5 1 rfl rfl ?_
  refine y_icmp_lt C (tgt := 16) dJ6_checkIndex_6 rfl (fun _ => ?_) (fun c => absurd c (fun z => z h2))
  refine y_iload_n C dJ6_checkIndex_16 0 rfl rfl ?_
  exact y_iretM C M N rfl (S := ()) rfl rfl dJ6_checkIndex_17 ⟨Nat.le_of_ble_eq_true rfl, Nat.le_of_ble_eq_true rfl⟩
theorem mk_chkO (G : Gx) (o : Option Nat) (i n : Int32) (h1 : ¬ i < 0) (h2 : i < n) : MiA G yJ6_checkIndex (ws_ yJ6_checkIndex cJ6_checkIndex 3 (some .int)) rm_chkN [] [.int (i), .int (n), va_rf o] (fun _ : Unit => []) (fun r (_ : Unit) => r = i) 0 0 := by
  cases o with
  | none => exact mk_chkN G i n h1 h2
  | some a => exact mk_chkR G a i n h1 h2
abbrev rm_chkO_ : Room := { frames := 2, cells := 0, slots := 0, locals := 80 }
set_option maxRecDepth 100000 in
theorem mk_chkO_ (G : Gx) (i n : Int32) (h1 : ¬ i < 0) (h2 : i < n) : MiA G yJ15_checkIndex (ws_ yJ15_checkIndex cJ15_checkIndex 2 (some .int)) rm_chkO_ [] [.int (i), .int (n)] (fun _ : Unit => []) (fun (r : Int32) (_ : Unit) => r = i) 0 0 := by
  refine ent_Mi (by decide +kernel) rfl (Nat.le_of_ble_eq_true rfl) [(0, .int (i)), (1, .int (n))] rfl (fun K B0 C M N => ?_)
  refine y_iload_n C dJ15_checkIndex_0 0 rfl rfl ?_
  refine y_iload_n C dJ15_checkIndex_1 1 rfl rfl ?_
  refine y_null C dJ15_checkIndex_2 ?_
  refine y_callFiS C M (As := [.int (i), .int (n), .null]) (rest := []) (wc := []) (wr := []) cs_J15_105 (mk_chkN G (i) (n) h1 h2) ⟨[], [], rfl, rfl, by decide, by decide, by decide⟩ ⟨rfl, rfl, Nat.le_of_ble_eq_true rfl, Nat.le_of_ble_eq_true rfl⟩ rfl rfl (Nat.le_of_ble_eq_true rfl) dJ15_checkIndex_3 ⟨Nat.le_of_ble_eq_true rfl, Nat.le_of_ble_eq_true rfl⟩ (k' := 0) (n' := 0) rfl rfl (fun r_2 _ h_1 => ?_)
  subst h_1
  refine Y.eqw (w' := []) rfl ?_
  exact y_iretM C M N rfl (S := ()) rfl rfl dJ15_checkIndex_6 ⟨Nat.le_of_ble_eq_true rfl, Nat.le_of_ble_eq_true rfl⟩
abbrev rm_eld_0 : Room := { frames := 1, cells := 0, slots := 0, locals := 40 }
set_option maxRecDepth 100000 in
theorem mk_eld_0 (G : Gx) (a b : Nat) (f : Nat → Option Nat) (m : Int32) : MqA G yJ2_elementData (ws_ yJ2_elementData cJ2_elementData 2 (some (.object "java/lang/Object"))) rm_eld_0 [(a, .inr (10, [.int (m), .ref b, .int (3)])), (b, .inl (G.2.2.1 6, 10, .inr (.inr (.inr (.inr (f))))))] [.ref a, .int (0)] (fun _ : Unit => [(a, .inr (10, [.int (m), .ref b, .int (3)])), (b, .inl (G.2.2.1 6, 10, .inr (.inr (.inr (.inr (f))))))]) (fun (r : Option Nat) (_ : Unit) => r = f 0) 0 0 := by
  refine ent_Mq (by decide +kernel) rfl (Nat.le_of_ble_eq_true rfl) [(0, .ref a), (1, .int (0))] rfl (fun K B0 C M N => ?_)
  refine y_aload_n C dJ2_elementData_0 0 rfl rfl ?_
  refine y_get C (ref := "java/util/ArrayList") (Cn := RJ2) (T := TJ2) (N := 3) (q0 := 0) (fs := [.int (m), .ref b, .int (3)]) in_J2 rfl rfl 1 (by decide) q390 (fun _ _ h => h) rfl dJ2_elementData_1 ?_
  refine y_iload_n C dJ2_elementData_4 1 rfl rfl ?_
  refine y_aald C (q0 := 1) (f := f) (t0 := 6) rfl rfl tn_0 vi_0_10 dJ2_elementData_5 ?_
  exact y_aretM C M N rfl (by first | exact Or.inl ⟨_, rfl⟩ | exact Or.inr ⟨_, rfl⟩) ((f) 0) (S := ()) rfl rfl dJ2_elementData_6 ⟨Nat.le_of_ble_eq_true rfl, Nat.le_of_ble_eq_true rfl⟩
abbrev rm_get_0 : Room := { frames := 3, cells := 0, slots := 0, locals := 140 }
set_option maxRecDepth 100000 in
theorem mk_get_0 (G : Gx) (a b : Nat) (f : Nat → Option Nat) (m : Int32) : MqA G yJ2_get (ws_ yJ2_get cJ2_get 2 (some (.object "java/lang/Object"))) rm_get_0 [(a, .inr (10, [.int (m), .ref b, .int (3)])), (b, .inl (G.2.2.1 6, 10, .inr (.inr (.inr (.inr (f))))))] [.ref a, .int (0)] (fun _ : Unit => [(a, .inr (10, [.int (m), .ref b, .int (3)])), (b, .inl (G.2.2.1 6, 10, .inr (.inr (.inr (.inr (f))))))]) (fun (r : Option Nat) (_ : Unit) => r = f 0) 0 0 := by
  refine ent_Mq (by decide +kernel) rfl (Nat.le_of_ble_eq_true rfl) [(0, .ref a), (1, .int (0))] rfl (fun K B0 C M N => ?_)
  refine y_iload_n C dJ2_get_0 1 rfl rfl ?_
  refine y_aload_n C dJ2_get_1 0 rfl rfl ?_
  refine y_get C (ref := "java/util/ArrayList") (Cn := RJ2) (T := TJ2) (N := 3) (q0 := 0) (fs := [.int (m), .ref b, .int (3)]) in_J2 rfl rfl 2 (by decide) q391 (fun _ _ h => h) rfl dJ2_get_2 ?_
  refine y_callFiS C M (As := [.int (0), .int (3)]) (rest := []) (wc := []) (wr := [(a, .inr (10, [.int (m), .ref b, .int (3)])), (b, .inl (G.2.2.1 6, 10, .inr (.inr (.inr (.inr (f))))))]) cs_J2_118 (mk_chkO_ G (0) (3) (by decide) (by decide)) ⟨[], [0, 1], rfl, rfl, by decide, by decide, by decide⟩ ⟨rfl, rfl, Nat.le_of_ble_eq_true rfl, Nat.le_of_ble_eq_true rfl⟩ rfl rfl (Nat.le_of_ble_eq_true rfl) dJ2_get_5 ⟨Nat.le_of_ble_eq_true rfl, Nat.le_of_ble_eq_true rfl⟩ (k' := 0) (n' := 0) rfl rfl (fun r_2 _ h_1 => ?_)
  subst h_1
  refine Y.eqw (w' := [(a, .inr (10, [.int (m), .ref b, .int (3)])), (b, .inl (G.2.2.1 6, 10, .inr (.inr (.inr (.inr (f))))))]) rfl ?_
  refine y_pop C dJ2_get_8 rfl ?_
  refine y_aload_n C dJ2_get_9 0 rfl rfl ?_
  refine y_iload_n C dJ2_get_10 1 rfl rfl ?_
  refine y_callFqV C M (As := [.int (0)]) (rest := []) (wc := [(a, .inr (10, [.int (m), .ref b, .int (3)])), (b, .inl (G.2.2.1 6, 10, .inr (.inr (.inr (.inr (f))))))]) (wr := []) cs_J2_123 (mk_eld_0 G (a) (b) (f) (m)) ⟨[0, 1], [], rfl, rfl, by decide, by decide, by decide⟩ (q0 := 0) rfl rfl rfl ⟨rfl, rfl, Nat.le_of_ble_eq_true rfl, Nat.le_of_ble_eq_true rfl⟩ rfl rfl (Nat.le_of_ble_eq_true rfl) dJ2_get_11 ⟨Nat.le_of_ble_eq_true rfl, Nat.le_of_ble_eq_true rfl⟩ (k' := 0) (n' := 0) rfl rfl (fun r_4 _ h_3 => ?_)
  subst h_3
  refine Y.eqw (w' := [(a, .inr (10, [.int (m), .ref b, .int (3)])), (b, .inl (G.2.2.1 6, 10, .inr (.inr (.inr (.inr (f))))))]) rfl ?_
  refine Y.eqst (st' := [va_rf ((f) 0)]) rfl ?_
  exact y_aretM C M N rfl (by first | exact Or.inl ⟨_, rfl⟩ | exact Or.inr ⟨_, rfl⟩) ((f) 0) (S := ()) rfl rfl dJ2_get_14 ⟨Nat.le_of_ble_eq_true rfl, Nat.le_of_ble_eq_true rfl⟩
abbrev rm_set_0 : Room := { frames := 3, cells := 0, slots := 0, locals := 140 }
set_option maxRecDepth 100000 in
theorem mk_set_0 (G : Gx) (a b v : Nat) (f : Nat → Option Nat) (m : Int32) (fs : List Value) : MqA G yJ2_set (ws_ yJ2_set cJ2_set 4 (some (.object "java/lang/Object"))) rm_set_0 [(v, .inr (1, fs)), (a, .inr (10, [.int (m), .ref b, .int (3)])), (b, .inl (G.2.2.1 6, 10, .inr (.inr (.inr (.inr (f))))))] [.ref a, .int (0), .ref v] (fun _ : Unit => [(v, .inr (1, fs)), (a, .inr (10, [.int (m), .ref b, .int (3)])), (b, .inl (G.2.2.1 6, 10, .inr (.inr (.inr (.inr (va_up (f) 0 (some (v))))))))]) (fun (r : Option Nat) (_ : Unit) => r = f 0) 0 0 := by
  refine ent_Mq (by decide +kernel) rfl (Nat.le_of_ble_eq_true rfl) [(0, .ref a), (1, .int (0)), (2, .ref v)] rfl (fun K B0 C M N => ?_)
  refine y_iload_n C dJ2_set_0 1 rfl rfl ?_
  refine y_aload_n C dJ2_set_1 0 rfl rfl ?_
  refine y_get C (ref := "java/util/ArrayList") (Cn := RJ2) (T := TJ2) (N := 3) (q0 := 1) (fs := [.int (m), .ref b, .int (3)]) in_J2 rfl rfl 2 (by decide) q391 (fun _ _ h => h) rfl dJ2_set_2 ?_
  refine y_callFiS C M (As := [.int (0), .int (3)]) (rest := []) (wc := []) (wr := [(v, .inr (1, fs)), (a, .inr (10, [.int (m), .ref b, .int (3)])), (b, .inl (G.2.2.1 6, 10, .inr (.inr (.inr (.inr (f))))))]) cs_J2_118 (mk_chkO_ G (0) (3) (by decide) (by decide)) ⟨[], [0, 1, 2], rfl, rfl, by decide, by decide, by decide⟩ ⟨rfl, rfl, Nat.le_of_ble_eq_true rfl, Nat.le_of_ble_eq_true rfl⟩ rfl rfl (Nat.le_of_ble_eq_true rfl) dJ2_set_5 ⟨Nat.le_of_ble_eq_true rfl, Nat.le_of_ble_eq_true rfl⟩ (k' := 0) (n' := 0) rfl rfl (fun r_2 _ h_1 => ?_)
  subst h_1
  refine Y.eqw (w' := [(v, .inr (1, fs)), (a, .inr (10, [.int (m), .ref b, .int (3)])), (b, .inl (G.2.2.1 6, 10, .inr (.inr (.inr (.inr (f))))))]) rfl ?_
  refine y_pop C dJ2_set_8 rfl ?_
  refine y_aload_n C dJ2_set_9 0 rfl rfl ?_
  refine y_iload_n C dJ2_set_10 1 rfl rfl ?_
  refine y_callFqV C M (As := [.int (0)]) (rest := []) (wc := [(a, .inr (10, [.int (m), .ref b, .int (3)])), (b, .inl (G.2.2.1 6, 10, .inr (.inr (.inr (.inr (f))))))]) (wr := [(v, .inr (1, fs))]) cs_J2_123 (mk_eld_0 G (a) (b) (f) (m)) ⟨[1, 2], [0], rfl, rfl, by decide, by decide, by decide⟩ (q0 := 1) rfl rfl rfl ⟨rfl, rfl, Nat.le_of_ble_eq_true rfl, Nat.le_of_ble_eq_true rfl⟩ rfl rfl (Nat.le_of_ble_eq_true rfl) dJ2_set_11 ⟨Nat.le_of_ble_eq_true rfl, Nat.le_of_ble_eq_true rfl⟩ (k' := 0) (n' := 0) rfl rfl (fun r_4 _ h_3 => ?_)
  subst h_3
  refine Y.eqw (w' := [(v, .inr (1, fs)), (a, .inr (10, [.int (m), .ref b, .int (3)])), (b, .inl (G.2.2.1 6, 10, .inr (.inr (.inr (.inr (f))))))]) rfl ?_
  refine Y.eqst (st' := [va_rf ((f) 0)]) rfl ?_
  refine y_astore_nO C ((f) 0) dJ2_set_14 rfl (Nat.le_of_ble_eq_true rfl) [(3, va_rf ((f) 0)), (0, .ref a), (1, .int (0)), (2, .ref v)] rfl ?_
  refine y_aload_n C dJ2_set_15 1 rfl rfl ?_
  refine y_get C (ref := "java/util/ArrayList") (Cn := RJ2) (T := TJ2) (N := 3) (q0 := 1) (fs := [.int (m), .ref b, .int (3)]) in_J2 rfl rfl 1 (by decide) q390 (fun _ _ h => h) rfl dJ2_set_16 ?_
  refine y_iload_n C dJ2_set_19 2 rfl rfl ?_
  refine y_aload_n C dJ2_set_20 3 rfl rfl ?_
  refine y_aastO C M (q0 := 2) (qk := 0) (ci := 1) (f := f) (t0 := 6) rfl rfl q2298 rfl rfl tn_0 (w' := [(v, .inr (1, fs)), (a, .inr (10, [.int (m), .ref b, .int (3)])), (b, .inl (G.2.2.1 6, 10, .inr (.inr (.inr (.inr (va_up (f) 0 (some (v))))))))]) rfl vi_0_10 dJ2_set_21 ?_
  refine y_aload_nO C ((f) 0) dJ2_set_22 0 rfl rfl ?_
  exact y_aretM C M N rfl (by first | exact Or.inl ⟨_, rfl⟩ | exact Or.inr ⟨_, rfl⟩) ((f) 0) (S := ()) rfl rfl dJ2_set_23 ⟨Nat.le_of_ble_eq_true rfl, Nat.le_of_ble_eq_true rfl⟩
abbrev rm_eld_1 : Room := { frames := 1, cells := 0, slots := 0, locals := 40 }
set_option maxRecDepth 100000 in
theorem mk_eld_1 (G : Gx) (a b : Nat) (f : Nat → Option Nat) (m : Int32) : MqA G yJ2_elementData (ws_ yJ2_elementData cJ2_elementData 2 (some (.object "java/lang/Object"))) rm_eld_1 [(a, .inr (10, [.int (m), .ref b, .int (3)])), (b, .inl (G.2.2.1 6, 10, .inr (.inr (.inr (.inr (f))))))] [.ref a, .int (1)] (fun _ : Unit => [(a, .inr (10, [.int (m), .ref b, .int (3)])), (b, .inl (G.2.2.1 6, 10, .inr (.inr (.inr (.inr (f))))))]) (fun (r : Option Nat) (_ : Unit) => r = f 1) 0 0 := by
  refine ent_Mq (by decide +kernel) rfl (Nat.le_of_ble_eq_true rfl) [(0, .ref a), (1, .int (1))] rfl (fun K B0 C M N => ?_)
  refine y_aload_n C dJ2_elementData_0 0 rfl rfl ?_
  refine y_get C (ref := "java/util/ArrayList") (Cn := RJ2) (T := TJ2) (N := 3) (q0 := 0) (fs := [.int (m), .ref b, .int (3)]) in_J2 rfl rfl 1 (by decide) q390 (fun _ _ h => h) rfl dJ2_elementData_1 ?_
  refine y_iload_n C dJ2_elementData_4 1 rfl rfl ?_
  refine y_aald C (q0 := 1) (f := f) (t0 := 6) rfl rfl tn_1 vi_1_10 dJ2_elementData_5 ?_
  exact y_aretM C M N rfl (by first | exact Or.inl ⟨_, rfl⟩ | exact Or.inr ⟨_, rfl⟩) ((f) 1) (S := ()) rfl rfl dJ2_elementData_6 ⟨Nat.le_of_ble_eq_true rfl, Nat.le_of_ble_eq_true rfl⟩
abbrev rm_get_1 : Room := { frames := 3, cells := 0, slots := 0, locals := 140 }
set_option maxRecDepth 100000 in
theorem mk_get_1 (G : Gx) (a b : Nat) (f : Nat → Option Nat) (m : Int32) : MqA G yJ2_get (ws_ yJ2_get cJ2_get 2 (some (.object "java/lang/Object"))) rm_get_1 [(a, .inr (10, [.int (m), .ref b, .int (3)])), (b, .inl (G.2.2.1 6, 10, .inr (.inr (.inr (.inr (f))))))] [.ref a, .int (1)] (fun _ : Unit => [(a, .inr (10, [.int (m), .ref b, .int (3)])), (b, .inl (G.2.2.1 6, 10, .inr (.inr (.inr (.inr (f))))))]) (fun (r : Option Nat) (_ : Unit) => r = f 1) 0 0 := by
  refine ent_Mq (by decide +kernel) rfl (Nat.le_of_ble_eq_true rfl) [(0, .ref a), (1, .int (1))] rfl (fun K B0 C M N => ?_)
  refine y_iload_n C dJ2_get_0 1 rfl rfl ?_
  refine y_aload_n C dJ2_get_1 0 rfl rfl ?_
  refine y_get C (ref := "java/util/ArrayList") (Cn := RJ2) (T := TJ2) (N := 3) (q0 := 0) (fs := [.int (m), .ref b, .int (3)]) in_J2 rfl rfl 2 (by decide) q391 (fun _ _ h => h) rfl dJ2_get_2 ?_
  refine y_callFiS C M (As := [.int (1), .int (3)]) (rest := []) (wc := []) (wr := [(a, .inr (10, [.int (m), .ref b, .int (3)])), (b, .inl (G.2.2.1 6, 10, .inr (.inr (.inr (.inr (f))))))]) cs_J2_118 (mk_chkO_ G (1) (3) (by decide) (by decide)) ⟨[], [0, 1], rfl, rfl, by decide, by decide, by decide⟩ ⟨rfl, rfl, Nat.le_of_ble_eq_true rfl, Nat.le_of_ble_eq_true rfl⟩ rfl rfl (Nat.le_of_ble_eq_true rfl) dJ2_get_5 ⟨Nat.le_of_ble_eq_true rfl, Nat.le_of_ble_eq_true rfl⟩ (k' := 0) (n' := 0) rfl rfl (fun r_2 _ h_1 => ?_)
  subst h_1
  refine Y.eqw (w' := [(a, .inr (10, [.int (m), .ref b, .int (3)])), (b, .inl (G.2.2.1 6, 10, .inr (.inr (.inr (.inr (f))))))]) rfl ?_
  refine y_pop C dJ2_get_8 rfl ?_
  refine y_aload_n C dJ2_get_9 0 rfl rfl ?_
  refine y_iload_n C dJ2_get_10 1 rfl rfl ?_
  refine y_callFqV C M (As := [.int (1)]) (rest := []) (wc := [(a, .inr (10, [.int (m), .ref b, .int (3)])), (b, .inl (G.2.2.1 6, 10, .inr (.inr (.inr (.inr (f))))))]) (wr := []) cs_J2_123 (mk_eld_1 G (a) (b) (f) (m)) ⟨[0, 1], [], rfl, rfl, by decide, by decide, by decide⟩ (q0 := 0) rfl rfl rfl ⟨rfl, rfl, Nat.le_of_ble_eq_true rfl, Nat.le_of_ble_eq_true rfl⟩ rfl rfl (Nat.le_of_ble_eq_true rfl) dJ2_get_11 ⟨Nat.le_of_ble_eq_true rfl, Nat.le_of_ble_eq_true rfl⟩ (k' := 0) (n' := 0) rfl rfl (fun r_4 _ h_3 => ?_)
  subst h_3
  refine Y.eqw (w' := [(a, .inr (10, [.int (m), .ref b, .int (3)])), (b, .inl (G.2.2.1 6, 10, .inr (.inr (.inr (.inr (f))))))]) rfl ?_
  refine Y.eqst (st' := [va_rf ((f) 1)]) rfl ?_
  exact y_aretM C M N rfl (by first | exact Or.inl ⟨_, rfl⟩ | exact Or.inr ⟨_, rfl⟩) ((f) 1) (S := ()) rfl rfl dJ2_get_14 ⟨Nat.le_of_ble_eq_true rfl, Nat.le_of_ble_eq_true rfl⟩
abbrev rm_set_1 : Room := { frames := 3, cells := 0, slots := 0, locals := 140 }
set_option maxRecDepth 100000 in
theorem mk_set_1 (G : Gx) (a b v : Nat) (f : Nat → Option Nat) (m : Int32) (fs : List Value) : MqA G yJ2_set (ws_ yJ2_set cJ2_set 4 (some (.object "java/lang/Object"))) rm_set_1 [(v, .inr (1, fs)), (a, .inr (10, [.int (m), .ref b, .int (3)])), (b, .inl (G.2.2.1 6, 10, .inr (.inr (.inr (.inr (f))))))] [.ref a, .int (1), .ref v] (fun _ : Unit => [(v, .inr (1, fs)), (a, .inr (10, [.int (m), .ref b, .int (3)])), (b, .inl (G.2.2.1 6, 10, .inr (.inr (.inr (.inr (va_up (f) 1 (some (v))))))))]) (fun (r : Option Nat) (_ : Unit) => r = f 1) 0 0 := by
  refine ent_Mq (by decide +kernel) rfl (Nat.le_of_ble_eq_true rfl) [(0, .ref a), (1, .int (1)), (2, .ref v)] rfl (fun K B0 C M N => ?_)
  refine y_iload_n C dJ2_set_0 1 rfl rfl ?_
  refine y_aload_n C dJ2_set_1 0 rfl rfl ?_
  refine y_get C (ref := "java/util/ArrayList") (Cn := RJ2) (T := TJ2) (N := 3) (q0 := 1) (fs := [.int (m), .ref b, .int (3)]) in_J2 rfl rfl 2 (by decide) q391 (fun _ _ h => h) rfl dJ2_set_2 ?_
  refine y_callFiS C M (As := [.int (1), .int (3)]) (rest := []) (wc := []) (wr := [(v, .inr (1, fs)), (a, .inr (10, [.int (m), .ref b, .int (3)])), (b, .inl (G.2.2.1 6, 10, .inr (.inr (.inr (.inr (f))))))]) cs_J2_118 (mk_chkO_ G (1) (3) (by decide) (by decide)) ⟨[], [0, 1, 2], rfl, rfl, by decide, by decide, by decide⟩ ⟨rfl, rfl, Nat.le_of_ble_eq_true rfl, Nat.le_of_ble_eq_true rfl⟩ rfl rfl (Nat.le_of_ble_eq_true rfl) dJ2_set_5 ⟨Nat.le_of_ble_eq_true rfl, Nat.le_of_ble_eq_true rfl⟩ (k' := 0) (n' := 0) rfl rfl (fun r_2 _ h_1 => ?_)
  subst h_1
  refine Y.eqw (w' := [(v, .inr (1, fs)), (a, .inr (10, [.int (m), .ref b, .int (3)])), (b, .inl (G.2.2.1 6, 10, .inr (.inr (.inr (.inr (f))))))]) rfl ?_
  refine y_pop C dJ2_set_8 rfl ?_
  refine y_aload_n C dJ2_set_9 0 rfl rfl ?_
  refine y_iload_n C dJ2_set_10 1 rfl rfl ?_
  refine y_callFqV C M (As := [.int (1)]) (rest := []) (wc := [(a, .inr (10, [.int (m), .ref b, .int (3)])), (b, .inl (G.2.2.1 6, 10, .inr (.inr (.inr (.inr (f))))))]) (wr := [(v, .inr (1, fs))]) cs_J2_123 (mk_eld_1 G (a) (b) (f) (m)) ⟨[1, 2], [0], rfl, rfl, by decide, by decide, by decide⟩ (q0 := 1) rfl rfl rfl ⟨rfl, rfl, Nat.le_of_ble_eq_true rfl, Nat.le_of_ble_eq_true rfl⟩ rfl rfl (Nat.le_of_ble_eq_true rfl) dJ2_set_11 ⟨Nat.le_of_ble_eq_true rfl, Nat.le_of_ble_eq_true rfl⟩ (k' := 0) (n' := 0) rfl rfl (fun r_4 _ h_3 => ?_)
  subst h_3
  refine Y.eqw (w' := [(v, .inr (1, fs)), (a, .inr (10, [.int (m), .ref b, .int (3)])), (b, .inl (G.2.2.1 6, 10, .inr (.inr (.inr (.inr (f))))))]) rfl ?_
  refine Y.eqst (st' := [va_rf ((f) 1)]) rfl ?_
  refine y_astore_nO C ((f) 1) dJ2_set_14 rfl (Nat.le_of_ble_eq_true rfl) [(3, va_rf ((f) 1)), (0, .ref a), (1, .int (1)), (2, .ref v)] rfl ?_
  refine y_aload_n C dJ2_set_15 1 rfl rfl ?_
  refine y_get C (ref := "java/util/ArrayList") (Cn := RJ2) (T := TJ2) (N := 3) (q0 := 1) (fs := [.int (m), .ref b, .int (3)]) in_J2 rfl rfl 1 (by decide) q390 (fun _ _ h => h) rfl dJ2_set_16 ?_
  refine y_iload_n C dJ2_set_19 2 rfl rfl ?_
  refine y_aload_n C dJ2_set_20 3 rfl rfl ?_
  refine y_aastO C M (q0 := 2) (qk := 0) (ci := 1) (f := f) (t0 := 6) rfl rfl q2298 rfl rfl tn_1 (w' := [(v, .inr (1, fs)), (a, .inr (10, [.int (m), .ref b, .int (3)])), (b, .inl (G.2.2.1 6, 10, .inr (.inr (.inr (.inr (va_up (f) 1 (some (v))))))))]) rfl vi_1_10 dJ2_set_21 ?_
  refine y_aload_nO C ((f) 1) dJ2_set_22 0 rfl rfl ?_
  exact y_aretM C M N rfl (by first | exact Or.inl ⟨_, rfl⟩ | exact Or.inr ⟨_, rfl⟩) ((f) 1) (S := ()) rfl rfl dJ2_set_23 ⟨Nat.le_of_ble_eq_true rfl, Nat.le_of_ble_eq_true rfl⟩
abbrev rm_eld_2 : Room := { frames := 1, cells := 0, slots := 0, locals := 40 }
set_option maxRecDepth 100000 in
theorem mk_eld_2 (G : Gx) (a b : Nat) (f : Nat → Option Nat) (m : Int32) : MqA G yJ2_elementData (ws_ yJ2_elementData cJ2_elementData 2 (some (.object "java/lang/Object"))) rm_eld_2 [(a, .inr (10, [.int (m), .ref b, .int (3)])), (b, .inl (G.2.2.1 6, 10, .inr (.inr (.inr (.inr (f))))))] [.ref a, .int (2)] (fun _ : Unit => [(a, .inr (10, [.int (m), .ref b, .int (3)])), (b, .inl (G.2.2.1 6, 10, .inr (.inr (.inr (.inr (f))))))]) (fun (r : Option Nat) (_ : Unit) => r = f 2) 0 0 := by
  refine ent_Mq (by decide +kernel) rfl (Nat.le_of_ble_eq_true rfl) [(0, .ref a), (1, .int (2))] rfl (fun K B0 C M N => ?_)
  refine y_aload_n C dJ2_elementData_0 0 rfl rfl ?_
  refine y_get C (ref := "java/util/ArrayList") (Cn := RJ2) (T := TJ2) (N := 3) (q0 := 0) (fs := [.int (m), .ref b, .int (3)]) in_J2 rfl rfl 1 (by decide) q390 (fun _ _ h => h) rfl dJ2_elementData_1 ?_
  refine y_iload_n C dJ2_elementData_4 1 rfl rfl ?_
  refine y_aald C (q0 := 1) (f := f) (t0 := 6) rfl rfl tn_2 vi_2_10 dJ2_elementData_5 ?_
  exact y_aretM C M N rfl (by first | exact Or.inl ⟨_, rfl⟩ | exact Or.inr ⟨_, rfl⟩) ((f) 2) (S := ()) rfl rfl dJ2_elementData_6 ⟨Nat.le_of_ble_eq_true rfl, Nat.le_of_ble_eq_true rfl⟩
abbrev rm_get_2 : Room := { frames := 3, cells := 0, slots := 0, locals := 140 }
set_option maxRecDepth 100000 in
theorem mk_get_2 (G : Gx) (a b : Nat) (f : Nat → Option Nat) (m : Int32) : MqA G yJ2_get (ws_ yJ2_get cJ2_get 2 (some (.object "java/lang/Object"))) rm_get_2 [(a, .inr (10, [.int (m), .ref b, .int (3)])), (b, .inl (G.2.2.1 6, 10, .inr (.inr (.inr (.inr (f))))))] [.ref a, .int (2)] (fun _ : Unit => [(a, .inr (10, [.int (m), .ref b, .int (3)])), (b, .inl (G.2.2.1 6, 10, .inr (.inr (.inr (.inr (f))))))]) (fun (r : Option Nat) (_ : Unit) => r = f 2) 0 0 := by
  refine ent_Mq (by decide +kernel) rfl (Nat.le_of_ble_eq_true rfl) [(0, .ref a), (1, .int (2))] rfl (fun K B0 C M N => ?_)
  refine y_iload_n C dJ2_get_0 1 rfl rfl ?_
  refine y_aload_n C dJ2_get_1 0 rfl rfl ?_
  refine y_get C (ref := "java/util/ArrayList") (Cn := RJ2) (T := TJ2) (N := 3) (q0 := 0) (fs := [.int (m), .ref b, .int (3)]) in_J2 rfl rfl 2 (by decide) q391 (fun _ _ h => h) rfl dJ2_get_2 ?_
  refine y_callFiS C M (As := [.int (2), .int (3)]) (rest := []) (wc := []) (wr := [(a, .inr (10, [.int (m), .ref b, .int (3)])), (b, .inl (G.2.2.1 6, 10, .inr (.inr (.inr (.inr (f))))))]) cs_J2_118 (mk_chkO_ G (2) (3) (by decide) (by decide)) ⟨[], [0, 1], rfl, rfl, by decide, by decide, by decide⟩ ⟨rfl, rfl, Nat.le_of_ble_eq_true rfl, Nat.le_of_ble_eq_true rfl⟩ rfl rfl (Nat.le_of_ble_eq_true rfl) dJ2_get_5 ⟨Nat.le_of_ble_eq_true rfl, Nat.le_of_ble_eq_true rfl⟩ (k' := 0) (n' := 0) rfl rfl (fun r_2 _ h_1 => ?_)
  subst h_1
  refine Y.eqw (w' := [(a, .inr (10, [.int (m), .ref b, .int (3)])), (b, .inl (G.2.2.1 6, 10, .inr (.inr (.inr (.inr (f))))))]) rfl ?_
  refine y_pop C dJ2_get_8 rfl ?_
  refine y_aload_n C dJ2_get_9 0 rfl rfl ?_
  refine y_iload_n C dJ2_get_10 1 rfl rfl ?_
  refine y_callFqV C M (As := [.int (2)]) (rest := []) (wc := [(a, .inr (10, [.int (m), .ref b, .int (3)])), (b, .inl (G.2.2.1 6, 10, .inr (.inr (.inr (.inr (f))))))]) (wr := []) cs_J2_123 (mk_eld_2 G (a) (b) (f) (m)) ⟨[0, 1], [], rfl, rfl, by decide, by decide, by decide⟩ (q0 := 0) rfl rfl rfl ⟨rfl, rfl, Nat.le_of_ble_eq_true rfl, Nat.le_of_ble_eq_true rfl⟩ rfl rfl (Nat.le_of_ble_eq_true rfl) dJ2_get_11 ⟨Nat.le_of_ble_eq_true rfl, Nat.le_of_ble_eq_true rfl⟩ (k' := 0) (n' := 0) rfl rfl (fun r_4 _ h_3 => ?_)
  subst h_3
  refine Y.eqw (w' := [(a, .inr (10, [.int (m), .ref b, .int (3)])), (b, .inl (G.2.2.1 6, 10, .inr (.inr (.inr (.inr (f))))))]) rfl ?_
  refine Y.eqst (st' := [va_rf ((f) 2)]) rfl ?_
  exact y_aretM C M N rfl (by first | exact Or.inl ⟨_, rfl⟩ | exact Or.inr ⟨_, rfl⟩) ((f) 2) (S := ()) rfl rfl dJ2_get_14 ⟨Nat.le_of_ble_eq_true rfl, Nat.le_of_ble_eq_true rfl⟩
abbrev rm_set_2 : Room := { frames := 3, cells := 0, slots := 0, locals := 140 }
set_option maxRecDepth 100000 in
theorem mk_set_2 (G : Gx) (a b v : Nat) (f : Nat → Option Nat) (m : Int32) (fs : List Value) : MqA G yJ2_set (ws_ yJ2_set cJ2_set 4 (some (.object "java/lang/Object"))) rm_set_2 [(v, .inr (1, fs)), (a, .inr (10, [.int (m), .ref b, .int (3)])), (b, .inl (G.2.2.1 6, 10, .inr (.inr (.inr (.inr (f))))))] [.ref a, .int (2), .ref v] (fun _ : Unit => [(v, .inr (1, fs)), (a, .inr (10, [.int (m), .ref b, .int (3)])), (b, .inl (G.2.2.1 6, 10, .inr (.inr (.inr (.inr (va_up (f) 2 (some (v))))))))]) (fun (r : Option Nat) (_ : Unit) => r = f 2) 0 0 := by
  refine ent_Mq (by decide +kernel) rfl (Nat.le_of_ble_eq_true rfl) [(0, .ref a), (1, .int (2)), (2, .ref v)] rfl (fun K B0 C M N => ?_)
  refine y_iload_n C dJ2_set_0 1 rfl rfl ?_
  refine y_aload_n C dJ2_set_1 0 rfl rfl ?_
  refine y_get C (ref := "java/util/ArrayList") (Cn := RJ2) (T := TJ2) (N := 3) (q0 := 1) (fs := [.int (m), .ref b, .int (3)]) in_J2 rfl rfl 2 (by decide) q391 (fun _ _ h => h) rfl dJ2_set_2 ?_
  refine y_callFiS C M (As := [.int (2), .int (3)]) (rest := []) (wc := []) (wr := [(v, .inr (1, fs)), (a, .inr (10, [.int (m), .ref b, .int (3)])), (b, .inl (G.2.2.1 6, 10, .inr (.inr (.inr (.inr (f))))))]) cs_J2_118 (mk_chkO_ G (2) (3) (by decide) (by decide)) ⟨[], [0, 1, 2], rfl, rfl, by decide, by decide, by decide⟩ ⟨rfl, rfl, Nat.le_of_ble_eq_true rfl, Nat.le_of_ble_eq_true rfl⟩ rfl rfl (Nat.le_of_ble_eq_true rfl) dJ2_set_5 ⟨Nat.le_of_ble_eq_true rfl, Nat.le_of_ble_eq_true rfl⟩ (k' := 0) (n' := 0) rfl rfl (fun r_2 _ h_1 => ?_)
  subst h_1
  refine Y.eqw (w' := [(v, .inr (1, fs)), (a, .inr (10, [.int (m), .ref b, .int (3)])), (b, .inl (G.2.2.1 6, 10, .inr (.inr (.inr (.inr (f))))))]) rfl ?_
  refine y_pop C dJ2_set_8 rfl ?_
  refine y_aload_n C dJ2_set_9 0 rfl rfl ?_
  refine y_iload_n C dJ2_set_10 1 rfl rfl ?_
  refine y_callFqV C M (As := [.int (2)]) (rest := []) (wc := [(a, .inr (10, [.int (m), .ref b, .int (3)])), (b, .inl (G.2.2.1 6, 10, .inr (.inr (.inr (.inr (f))))))]) (wr := [(v, .inr (1, fs))]) cs_J2_123 (mk_eld_2 G (a) (b) (f) (m)) ⟨[1, 2], [0], rfl, rfl, by decide, by decide, by decide⟩ (q0 := 1) rfl rfl rfl ⟨rfl, rfl, Nat.le_of_ble_eq_true rfl, Nat.le_of_ble_eq_true rfl⟩ rfl rfl (Nat.le_of_ble_eq_true rfl) dJ2_set_11 ⟨Nat.le_of_ble_eq_true rfl, Nat.le_of_ble_eq_true rfl⟩ (k' := 0) (n' := 0) rfl rfl (fun r_4 _ h_3 => ?_)
  subst h_3
  refine Y.eqw (w' := [(v, .inr (1, fs)), (a, .inr (10, [.int (m), .ref b, .int (3)])), (b, .inl (G.2.2.1 6, 10, .inr (.inr (.inr (.inr (f))))))]) rfl ?_
  refine Y.eqst (st' := [va_rf ((f) 2)]) rfl ?_
  refine y_astore_nO C ((f) 2) dJ2_set_14 rfl (Nat.le_of_ble_eq_true rfl) [(3, va_rf ((f) 2)), (0, .ref a), (1, .int (2)), (2, .ref v)] rfl ?_
  refine y_aload_n C dJ2_set_15 1 rfl rfl ?_
  refine y_get C (ref := "java/util/ArrayList") (Cn := RJ2) (T := TJ2) (N := 3) (q0 := 1) (fs := [.int (m), .ref b, .int (3)]) in_J2 rfl rfl 1 (by decide) q390 (fun _ _ h => h) rfl dJ2_set_16 ?_
  refine y_iload_n C dJ2_set_19 2 rfl rfl ?_
  refine y_aload_n C dJ2_set_20 3 rfl rfl ?_
  refine y_aastO C M (q0 := 2) (qk := 0) (ci := 1) (f := f) (t0 := 6) rfl rfl q2298 rfl rfl tn_2 (w' := [(v, .inr (1, fs)), (a, .inr (10, [.int (m), .ref b, .int (3)])), (b, .inl (G.2.2.1 6, 10, .inr (.inr (.inr (.inr (va_up (f) 2 (some (v))))))))]) rfl vi_2_10 dJ2_set_21 ?_
  refine y_aload_nO C ((f) 2) dJ2_set_22 0 rfl rfl ?_
  exact y_aretM C M N rfl (by first | exact Or.inl ⟨_, rfl⟩ | exact Or.inr ⟨_, rfl⟩) ((f) 2) (S := ()) rfl rfl dJ2_set_23 ⟨Nat.le_of_ble_eq_true rfl, Nat.le_of_ble_eq_true rfl⟩
