/-! printed by tools/mk_ref.py -/
set_option maxRecDepth 100000
/-- a Fault's cell -/
def fltV (f : Int32 × Int32) : List Value := [.null, .null, .null, .null, .null, .int 0, .int f.1, .int f.2]
def xpF (wf : St → va_W) (X : Int32 × Int32 → St → Prop) : XPt := fun q E w' => E = "OverHill$Fault" ∧ ∃ (f : Int32 × Int32) (S : St), X f S ∧ w' = wf S ++ [(q, .inr (9, fltV f))]
theorem ci_J9_16 : CsI RJ9 16 yJ8_init_2 cJ8_init_2 5 4 := ⟨lw_meth q720, ⟨q159, q718, q719, rfl⟩, by decide +kernel⟩
theorem ci_X10_1 : CsI RX10 1 yJ9_init cJ9_init 5 4 := ⟨lw_meth q717, ⟨q160, q715, q716, rfl⟩, by decide +kernel⟩
abbrev rm_thr : Room := { frames := 2, cells := 0, slots := 0, locals := 60 }
set_option maxRecDepth 100000 in
theorem mk_thr (G : Gx) (a : Nat) : MvA G yJ8_init_2 (ws_ yJ8_init_2 cJ8_init_2 5 none) rm_thr [(a, .inr (9, [.null, .null, .null, .null, .null, .int (0), .int (0), .int (0)]))] [.ref a, .null, .null, .int (0), .int (0)] (fun _ : Unit => [(a, .inr (9, [.null, .null, .null, .null, .null, .int (0), .int (0), .int (0)]))]) (fun _ : Unit => True) 0 0 := by
  refine ent_Mv (by decide +kernel) rfl (Nat.le_of_ble_eq_true rfl) [(0, .ref a), (1, .null), (2, .null), (3, .int (0)), (4, .int (0))] rfl (fun K B0 C M N => ?_)
  refine y_aload_n C dJ8_init_2_0 0 rfl rfl ?_
  refine y_objInit C q681 ⟨Nat.le_of_ble_eq_true rfl, Nat.le_of_ble_eq_true rfl⟩ dJ8_init_2_1 ?_
  refine y_aload_n C dJ8_init_2_4 0 rfl rfl ?_
  refine y_aload_n C dJ8_init_2_5 0 rfl rfl ?_
  refine y_put C M (ref := "java/lang/Throwable") (Cn := RX10) (T := TX10) (N := 8) (q0 := 0) (fs := [.null, .null, .null, .null, .null, .int (0), .int (0), .int (0)]) in_X10 rfl rfl 0 (by decide) tyX10 tyX10_ok (by decide +kernel) q727 (fun _ _ h => h) rfl (ty := tyX10 0) (by decide +kernel) rfl rfl (Nat.le_of_ble_eq_true rfl) (w' := [(a, .inr (9, [.ref a, .null, .null, .null, .null, .int (0), .int (0), .int (0)]))]) rfl dJ8_init_2_6 ?_
  refine y_aload_n C dJ8_init_2_9 0 rfl rfl ?_
  refine y_getsq C M (Cn := "java/lang/Throwable") (nm := "UNASSIGNED_STACK") (d := "[Ljava/lang/StackTraceElement;") (fun _ _ _ h => h.2.1.1) q682 (fun _ _ h => h) dJ8_init_2_10 (fun o_1 => ?_)
  refine y_put C M (ref := "java/lang/Throwable") (Cn := RX10) (T := TX10) (N := 8) (q0 := 0) (fs := [.ref a, .null, .null, .null, .null, .int (0), .int (0), .int (0)]) in_X10 rfl rfl 1 (by decide) tyX10 tyX10_ok (by decide +kernel) q728 (fun _ _ h => h) rfl (ty := tyX10 1) (by decide +kernel) (by cases o_1 <;> rfl) (by cases o_1 <;> rfl) (Nat.le_of_ble_eq_true rfl) (w' := [(a, .inr (9, [.ref a, va_rf o_1, .null, .null, .null, .int (0), .int (0), .int (0)]))]) rfl dJ8_init_2_13 ?_
  refine y_aload_n C dJ8_init_2_16 0 rfl rfl ?_
  refine y_getsq C M (Cn := "java/lang/Throwable") (nm := "SUPPRESSED_SENTINEL") (d := "Ljava/util/List;") (fun _ _ _ h => h.2.2.1.1) q684 (fun _ _ h => h) dJ8_init_2_17 (fun o_2 => ?_)
  refine y_put C M (ref := "java/lang/Throwable") (Cn := RX10) (T := TX10) (N := 8) (q0 := 0) (fs := [.ref a, va_rf o_1, .null, .null, .null, .int (0), .int (0), .int (0)]) in_X10 rfl rfl 2 (by decide) tyX10 tyX10_ok (by decide +kernel) q729 (fun _ _ h => h) rfl (ty := tyX10 2) (by decide +kernel) (by cases o_2 <;> rfl) (by cases o_2 <;> rfl) (Nat.le_of_ble_eq_true rfl) (w' := [(a, .inr (9, [.ref a, va_rf o_1, va_rf o_2, .null, .null, .int (0), .int (0), .int (0)]))]) rfl dJ8_init_2_20 ?_
  refine y_iload C dJ8_init_2_23 4 rfl ?_
  refine y_if_eq C (tgt := 36) dJ8_init_2_25 rfl (fun _ => ?_) (fun c => absurd c (by decide))
  refine y_aload_n C dJ8_init_2_36 0 rfl rfl ?_
  refine y_null C dJ8_init_2_37 ?_
  refine y_put C M (ref := "java/lang/Throwable") (Cn := RX10) (T := TX10) (N := 8) (q0 := 0) (fs := [.ref a, va_rf o_1, va_rf o_2, .null, .null, .int (0), .int (0), .int (0)]) in_X10 rfl rfl 1 (by decide) tyX10 tyX10_ok (by decide +kernel) q728 (fun _ _ h => h) rfl (ty := tyX10 1) (by decide +kernel) rfl rfl (Nat.le_of_ble_eq_true rfl) (w' := [(a, .inr (9, [.ref a, .null, va_rf o_2, .null, .null, .int (0), .int (0), .int (0)]))]) rfl dJ8_init_2_38 ?_
  refine y_aload_n C dJ8_init_2_41 0 rfl rfl ?_
  refine y_aload_nO C none dJ8_init_2_42 1 rfl rfl ?_
  refine y_put C M (ref := "java/lang/Throwable") (Cn := RX10) (T := TX10) (N := 8) (q0 := 0) (fs := [.ref a, .null, va_rf o_2, .null, .null, .int (0), .int (0), .int (0)]) in_X10 rfl rfl 3 (by decide) tyX10 tyX10_ok (by decide +kernel) q726 (fun _ _ h => h) rfl (ty := tyX10 3) (by decide +kernel) rfl rfl (Nat.le_of_ble_eq_true rfl) (w' := [(a, .inr (9, [.ref a, .null, va_rf o_2, .null, .null, .int (0), .int (0), .int (0)]))]) rfl dJ8_init_2_43 ?_
  refine y_aload_n C dJ8_init_2_46 0 rfl rfl ?_
  refine y_aload_nO C none dJ8_init_2_47 2 rfl rfl ?_
  refine y_put C M (ref := "java/lang/Throwable") (Cn := RX10) (T := TX10) (N := 8) (q0 := 0) (fs := [.ref a, .null, va_rf o_2, .null, .null, .int (0), .int (0), .int (0)]) in_X10 rfl rfl 0 (by decide) tyX10 tyX10_ok (by decide +kernel) q727 (fun _ _ h => h) rfl (ty := tyX10 0) (by decide +kernel) rfl rfl (Nat.le_of_ble_eq_true rfl) (w' := [(a, .inr (9, [.null, .null, va_rf o_2, .null, .null, .int (0), .int (0), .int (0)]))]) rfl dJ8_init_2_48 ?_
  refine y_iload_n C dJ8_init_2_51 3 rfl rfl ?_
  refine y_if_ne C (tgt := 60) dJ8_init_2_52 rfl (fun c => absurd c (by decide)) (fun _ => ?_)
  refine y_aload_n C dJ8_init_2_55 0 rfl rfl ?_
  refine y_null C dJ8_init_2_56 ?_
  refine y_put C M (ref := "java/lang/Throwable") (Cn := RX10) (T := TX10) (N := 8) (q0 := 0) (fs := [.null, .null, va_rf o_2, .null, .null, .int (0), .int (0), .int (0)]) in_X10 rfl rfl 2 (by decide) tyX10 tyX10_ok (by decide +kernel) q729 (fun _ _ h => h) rfl (ty := tyX10 2) (by decide +kernel) rfl rfl (Nat.le_of_ble_eq_true rfl) (w' := [(a, .inr (9, [.null, .null, .null, .null, .null, .int (0), .int (0), .int (0)]))]) rfl dJ8_init_2_57 ?_
  exact y_vretM C M N rfl (S := ()) rfl trivial dJ8_init_2_60 ⟨Nat.le_of_ble_eq_true rfl, Nat.le_of_ble_eq_true rfl⟩
abbrev rm_exc : Room := { frames := 3, cells := 0, slots := 0, locals := 100 }
set_option maxRecDepth 100000 in
theorem mk_exc (G : Gx) (a : Nat) : MvA G yJ9_init (ws_ yJ9_init cJ9_init 5 none) rm_exc [(a, .inr (9, [.null, .null, .null, .null, .null, .int (0), .int (0), .int (0)]))] [.ref a, .null, .null, .int (0), .int (0)] (fun _ : Unit => [(a, .inr (9, [.null, .null, .null, .null, .null, .int (0), .int (0), .int (0)]))]) (fun _ : Unit => True) 0 0 := by
  refine ent_MvI (by decide +kernel) rfl rfl (Nat.le_of_ble_eq_true rfl) [(0, .ref a), (1, .null), (2, .null), (3, .int (0)), (4, .int (0))] rfl (fun K B0 C M N KI => ?_)
  refine y_aload_n C dJ9_init_0 0 rfl rfl ?_
  refine y_aload_nO C none dJ9_init_1 1 rfl rfl ?_
  refine y_aload_nO C none dJ9_init_2 2 rfl rfl ?_
  refine y_iload_n C dJ9_init_3 3 rfl rfl ?_
  refine y_iload C dJ9_init_4 4 rfl ?_
  refine y_callI C M (As := [.null, .null, .int (0), .int (0)]) (rest := []) (wc := [(a, .inr (9, [.null, .null, .null, .null, .null, .int (0), .int (0), .int (0)]))]) (wr := []) ci_J9_16 (mk_thr G (a)) [0] [] rfl rfl (by decide) (by decide) (by decide) ⟨rfl, rfl, Nat.le_of_ble_eq_true rfl, Nat.le_of_ble_eq_true rfl⟩ rfl rfl (Nat.le_of_ble_eq_true rfl) dJ9_init_6 ⟨Nat.le_of_ble_eq_true rfl, Nat.le_of_ble_eq_true rfl⟩ (k' := 0) (n' := 0) rfl rfl (fun _ h_1 => ?_)
  refine Y.eqw (w' := [(a, .inr (9, [.null, .null, .null, .null, .null, .int (0), .int (0), .int (0)]))]) rfl ?_
  exact y_vretM C M N rfl (S := ()) rfl trivial dJ9_init_9 ⟨Nat.le_of_ble_eq_true rfl, Nat.le_of_ble_eq_true rfl⟩
abbrev rm_fault : Room := { frames := 4, cells := 0, slots := 0, locals := 140 }
set_option maxRecDepth 100000 in
theorem mk_fault (G : Gx) (a : Nat) (kd pl : Int32) : MvA G yX10_init (ws_ yX10_init cX10_init 3 none) rm_fault [(a, .inr (9, [.null, .null, .null, .null, .null, .int (0), .int (0), .int (0)]))] [.ref a, .int (kd), .int (pl)] (fun _ : Unit => [(a, .inr (9, fltV (kd, pl)))]) (fun _ : Unit => True) 0 0 := by
  refine ent_MvI (by decide +kernel) rfl rfl (Nat.le_of_ble_eq_true rfl) [(0, .ref a), (1, .int (kd)), (2, .int (pl))] rfl (fun K B0 C M N KI => ?_)
  refine y_aload_n C dX10_init_0 0 rfl rfl ?_
  refine y_null C dX10_init_1 ?_
  refine y_null C dX10_init_2 ?_
  refine y_iconst C dX10_init_3 ic_0 ?_
  refine y_iconst C dX10_init_4 ic_0 ?_
  refine y_callI C M (As := [.null, .null, .int (0), .int (0)]) (rest := []) (wc := [(a, .inr (9, [.null, .null, .null, .null, .null, .int (0), .int (0), .int (0)]))]) (wr := []) ci_X10_1 (mk_exc G (a)) [0] [] rfl rfl (by decide) (by decide) (by decide) ⟨rfl, rfl, Nat.le_of_ble_eq_true rfl, Nat.le_of_ble_eq_true rfl⟩ rfl rfl (Nat.le_of_ble_eq_true rfl) dX10_init_5 ⟨Nat.le_of_ble_eq_true rfl, Nat.le_of_ble_eq_true rfl⟩ (k' := 0) (n' := 0) rfl rfl (fun _ h_1 => ?_)
  refine Y.eqw (w' := [(a, .inr (9, [.null, .null, .null, .null, .null, .int (0), .int (0), .int (0)]))]) rfl ?_
  refine y_aload_n C dX10_init_8 0 rfl rfl ?_
  refine y_iload_n C dX10_init_9 1 rfl rfl ?_
  refine y_putF C M KI (ref := "OverHill$Fault") (Cn := RX10) (T := TX10) (N := 8) (q0 := 0) (fs := [.null, .null, .null, .null, .null, .int (0), .int (0), .int (0)]) in_X10 rfl rfl 6 (by decide) tyX10 tyX10_ok (by decide +kernel) q721 (fun _ _ h => h) rfl rfl (ty := tyX10 6) (by decide +kernel) rfl rfl (Nat.le_of_ble_eq_true rfl) (w' := [(a, .inr (9, [.null, .null, .null, .null, .null, .int (0), .int (kd), .int (0)]))]) rfl dX10_init_10 ?_
  refine y_aload_n C dX10_init_13 0 rfl rfl ?_
  refine y_iload_n C dX10_init_14 2 rfl rfl ?_
  refine y_putF C M KI (ref := "OverHill$Fault") (Cn := RX10) (T := TX10) (N := 8) (q0 := 0) (fs := [.null, .null, .null, .null, .null, .int (0), .int (kd), .int (0)]) in_X10 rfl rfl 7 (by decide) tyX10 tyX10_ok (by decide +kernel) q723 (fun _ _ h => h) rfl rfl (ty := tyX10 7) (by decide +kernel) rfl rfl (Nat.le_of_ble_eq_true rfl) (w' := [(a, .inr (9, [.null, .null, .null, .null, .null, .int (0), .int (kd), .int (pl)]))]) rfl dX10_init_15 ?_
  exact y_vretM C M N rfl (S := ()) rfl trivial dX10_init_18 ⟨Nat.le_of_ble_eq_true rfl, Nat.le_of_ble_eq_true rfl⟩
