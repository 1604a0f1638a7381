/-! OverHill.dance (printed by tools/mk_dance.py) -/
set_option maxRecDepth 100000
theorem ci_X0_109 : CsI RX0 109 yX9_init cX9_init 2 1 := ⟨lw_meth q536, ⟨q151, q534, q535, rfl⟩, by decide +kernel⟩
theorem cs_X0_110 : CsV RX0 110 yX9_read cX9_read 1 (some (.object "OverHill$Dance")) 0 := ⟨lw_V q585 q586 q587 q151 q588, by decide +kernel⟩
/-- the object, the tape, a new dance, the rest -/
def dnT (G : Gx) (A : Nat → Nat) (S : St) (T : va_W) : va_W := [(A 0, .inr (0, fs_C0 A S)), (A 1, .inl (G.2.2.1 1, 1200, .inl (S.1 1)))] ++ (wD G A S ++ T)
/-- the object, the tape, the rest -/
def dnF (G : Gx) (A : Nat → Nat) (S : St) (T : va_W) : va_W := [(A 0, .inr (0, fs_C0 A S)), (A 1, .inl (G.2.2.1 1, 1200, .inl (S.1 1)))] ++ T
/-- .. with a caught fault -/
def dnX (G : Gx) (A : Nat → Nat) (S : St) (q : Nat) (f : Int32 × Int32) (T : va_W) : va_W := [(A 0, .inr (0, fs_C0 A S)), (A 1, .inl (G.2.2.1 1, 1200, .inl (S.1 1))), (q, .inr (9, fltV f))] ++ T
def dnW (G : Gx) (A : Nat → Nat) (T : va_W) (z : Nat × (Nat → Nat) × St × Bool) : va_W := match z with
  | (a, u, S, true) => dnT G (rdA A a u) S T
  | (a, u, S, false) => dnF G A S T
def wp_o_dance (S : St) (Q : Int32 → St → Bool → Prop) : Prop :=
  wp_r_next (rdS S) (fun S1 => wp_r_read S1 (fun r S2 => thn r (fun _ => Q (S2.1 15 3) (sI (sI (sI S2 0 3 0) 0 4 (-1)) 0 2 0) true) (fun f => Q (-4) (sI (sI (sI S2 0 3 f.1) 0 4 f.2) 0 2 0) false)))
abbrev rm_o_dance : Room := { frames := 20, cells := 17, slots := 377, locals := 12000 }
theorem app_nil9 {α : Type} (l : List α) : [] ++ l = l := rfl
theorem blk_hw1 (G : Gx) (A : Nat → Nat) (a : Nat) (u : Nat → Nat) (S2 : St) (q : Nat) (f : Int32 × Int32) (T : va_W) : T ++ (wR G (rdA A a u) S2 ++ [(q, .inr (9, fltV f))]) = List.flatten [T, [(rdA A a u 40, .inr (8, fs_R40 G (rdA A a u) S2))], [(A 0, .inr (0, fs_C0 A S2)), (A 1, .inl (G.2.2.1 1, 1200, .inl (S2.1 1)))], wD G (rdA A a u) S2, [(q, .inr (9, fltV f))]] := by
  simp only [List.flatten_cons, List.flatten_nil, List.append_nil]
  rfl
theorem blk_hw2 (G : Gx) (A : Nat → Nat) (a : Nat) (u : Nat → Nat) (S2 : St) (q : Nat) (f : Int32 × Int32) (T : va_W) : List.flatten [[(A 0, .inr (0, fs_C0 A S2)), (A 1, .inl (G.2.2.1 1, 1200, .inl (S2.1 1)))], [(q, .inr (9, fltV f))], T] = dnX G A S2 q f T := by
  simp only [List.flatten_cons, List.flatten_nil, List.append_nil]
  rfl
set_option maxRecDepth 100000 in
theorem met_o_dance (G : Gx) (A : Nat → Nat) (S : St) (T : va_W) (Q : Int32 → St → Bool → Prop) (h : wp_o_dance S Q) : Xi G yX0_dance (wsW_ yX0_dance cX0_dance 4 (some .int) ([(0, 33, 40, 120), (0, 33, 67, 0), (40, 60, 67, 0)] : List (Nat × Nat × Nat × Nat))) rm_o_dance (dnF G A S T) [.ref (A 0)] (dnW G A T) (fun r z => Q r z.2.2.1 z.2.2.2) (fun _ _ _ => False) 17 377 17 377 := by
  refine ent_XiH (by decide) rfl (Nat.le_of_ble_eq_true rfl) [(0, .ref (A 0))] rfl (fun K B C M N => ?_)
  refine y_aload_n C dX0_dance_0 0 rfl rfl ?_
  refine y_new C M (ci := 8) (Cn := RX9) (T := TX9) (N := 7) in_X9 tyX9 tyX9_ok q532 q533 q151 rfl (fs := [.int (0), .null, .int (0), .int (0), .int (0), .null, .null]) (by decide +kernel) ⟨Nat.le_of_ble_eq_true rfl, Nat.le_of_ble_eq_true rfl⟩ dX0_dance_1 (k' := 1) (n' := 7) rfl rfl (fun a => dnF G A S T ++ [(a, .inr (8, [.int (0), .null, .int (0), .int (0), .int (0), .null, .null]))]) (fun _ => rfl) (fun a => ?_)
  refine y_dup C dX0_dance_4 rfl ?_
  refine y_aload_n C dX0_dance_5 0 rfl rfl ?_
  refine Y.rot M ?_
  refine Y.eqw (w' := [(A 0, .inr (0, fs_C0 A S)), (A 1, .inl (G.2.2.1 1, 1200, .inl (S.1 1))), (a, .inr (8, [.int (0), .null, .int (0), .int (0), .int (0), .null, .null]))] ++ T) rfl ?_
  refine y_callFvI C M (As := [.ref (A 0)]) (rest := [.ref a, .ref (A 0)]) (k' := 16) (n' := 369) ci_X0_109 (mk_reader G A S a (fun S1 => wp_r_read S1 (fun r S2 => thn r (fun _ => Q (S2.1 15 3) (sI (sI (sI S2 0 3 0) 0 4 (-1)) 0 2 0) true) (fun f => Q (-4) (sI (sI (sI S2 0 3 f.1) 0 4 f.2) 0 2 0) false))) h) (split_tail (wr := []) T ⟨[2, 0, 1], [], rfl, rfl, by decide, by decide, by decide⟩) ⟨rfl, rfl, Nat.le_of_ble_eq_true rfl, Nat.le_of_ble_eq_true rfl⟩ rfl rfl (Nat.le_of_ble_eq_true rfl) dX0_dance_6 ⟨Nat.le_of_ble_eq_true rfl, Nat.le_of_ble_eq_true rfl⟩ rfl rfl (fun z hz => ?_)
  obtain ⟨u, S1⟩ := z
  refine Y.eqw (w' := T ++ wR G (rdA A a u) S1) rfl ?_
  refine Y.swap M ?_
  refine y_callXFqV C M (As := []) (rest := [.ref (A 0)]) (k' := 16) (n' := 369) (k9 := 17) (n9 := 377) cs_X0_110 (met_r_read G (rdA A a u) S1 _ hz) (split_app _ _) (q0 := 0) rfl rfl rfl ⟨rfl, rfl, Nat.le_of_ble_eq_true rfl, Nat.le_of_ble_eq_true rfl⟩ rfl rfl (Nat.le_of_ble_eq_true rfl) dX0_dance_9 ⟨Nat.le_of_ble_eq_true rfl, Nat.le_of_ble_eq_true rfl⟩ rfl rfl rfl rfl (fun q E w' hx => ?_) (fun r S2 hr => ?_)
  · obtain ⟨rfl, f, S2, hq, rfl⟩ := hx
    refine y_catch (st := []) C (KXi.tab N) (name := "OverHill$Fault") (tableOf (([(0, 33, 40, 120), (0, 33, 67, 0), (40, 60, 67, 0)] : List (Nat × Nat × Nat × Nat)).take 0)) _ (tableOf (([(0, 33, 40, 120), (0, 33, 67, 0), (40, 60, 67, 0)] : List (Nat × Nat × Nat × Nat)).drop 1)) rfl (fun z hz => absurd hz (by simp [tableOf])) (by decide) (by decide) q531 q660 (hpc := 40) rfl ?_
    refine Y.blk M [T, [(rdA A a u 40, .inr (8, fs_R40 G (rdA A a u) S2))], [(A 0, .inr (0, fs_C0 A S2)), (A 1, .inl (G.2.2.1 1, 1200, .inl (S2.1 1)))], wD G (rdA A a u) S2, [(q, .inr (9, fltV f))]] [2, 4, 0] (w' := dnX G A S2 q f T) ?hw (by decide) ?hw2 ?_
    case hw => exact blk_hw1 G A a u S2 q f T
    case hw2 => exact blk_hw2 G A a u S2 q f T
    refine y_astore_n C dX0_dance_40 rfl (Nat.le_of_ble_eq_true rfl) [(1, .ref q), (0, .ref (A 0))] rfl ?_
    refine y_aload_n C dX0_dance_41 1 rfl rfl ?_
    refine y_aload_n C dX0_dance_42 0 rfl rfl ?_
    refine y_getN C (ref := "OverHill$Fault") (Cn := RX10) (T := TX10) (N := 8) (q0 := 2) (fs := fltV f) in_X10 rfl rfl 6 (by decide) q722 (fun _ _ h => h) rfl dX0_dance_43 ?_
    refine y_put C M (ref := "OverHill") (Cn := RX0) (T := TX0) (N := 34) (q0 := 0) (fs := fs_C0 A S2) in_X0 rfl rfl 3 (by decide) tyX0 tyX0_ok (by decide +kernel) q410 (fun _ _ h => h) rfl (ty := tyX0 3) (by decide +kernel) rfl rfl (Nat.le_of_ble_eq_true rfl) (w' := dnX G A (sI S2 0 3 f.1) q f T) rfl dX0_dance_46 ?_
    refine y_aload_n C dX0_dance_49 1 rfl rfl ?_
    refine y_aload_n C dX0_dance_50 0 rfl rfl ?_
    refine y_getN C (ref := "OverHill$Fault") (Cn := RX10) (T := TX10) (N := 8) (q0 := 2) (fs := fltV f) in_X10 rfl rfl 7 (by decide) q724 (fun _ _ h => h) rfl dX0_dance_51 ?_
    refine y_put C M (ref := "OverHill") (Cn := RX0) (T := TX0) (N := 34) (q0 := 0) (fs := fs_C0 A (sI S2 0 3 f.1)) in_X0 rfl rfl 4 (by decide) tyX0 tyX0_ok (by decide +kernel) q411 (fun _ _ h => h) rfl (ty := tyX0 4) (by decide +kernel) rfl rfl (Nat.le_of_ble_eq_true rfl) (w' := dnX G A (sI (sI S2 0 3 f.1) 0 4 f.2) q f T) rfl dX0_dance_54 ?_
    refine y_bipush C dX0_dance_57 (v := -4) (by decide) ?_
    refine y_istore_n C dX0_dance_59 rfl (Nat.le_of_ble_eq_true rfl) [(2, .int (-4)), (1, .ref q), (0, .ref (A 0))] rfl ?_
    refine y_aload_n C dX0_dance_60 2 rfl rfl ?_
    refine y_iconst C dX0_dance_61 (v := 0) (by decide) ?_
    refine y_put C M (ref := "OverHill") (Cn := RX0) (T := TX0) (N := 34) (q0 := 0) (fs := fs_C0 A (sI (sI S2 0 3 f.1) 0 4 f.2)) in_X0 rfl rfl 2 (by decide) tyX0 tyX0_ok (by decide +kernel) q409 (fun _ _ h => h) rfl (ty := tyX0 2) (by decide +kernel) rfl rfl (Nat.le_of_ble_eq_true rfl) (w' := dnX G A (sI (sI (sI S2 0 3 f.1) 0 4 f.2) 0 2 0) q f T) rfl dX0_dance_62 ?_
    refine y_iload_n C dX0_dance_65 0 rfl rfl ?_
    refine Y.blk M [[(A 0, .inr (0, fs_C0 A (sI (sI (sI S2 0 3 f.1) 0 4 f.2) 0 2 0))), (A 1, .inl (G.2.2.1 1, 1200, .inl (((sI (sI (sI S2 0 3 f.1) 0 4 f.2) 0 2 0)).1 1)))], [(q, .inr (9, fltV f))], T] [0, 2] (w' := dnW G A T (a, u, (sI (sI (sI S2 0 3 f.1) 0 4 f.2) 0 2 0), false)) (by simp only [List.flatten_cons, List.flatten_nil, List.append_nil]; rfl) (by decide) (by show List.flatten [_, T] = _; simp only [List.flatten_cons, List.flatten_nil, List.append_nil]; rfl) ?_
    exact y_iretX C M N rfl (S := (a, u, (sI (sI (sI S2 0 3 f.1) 0 4 f.2) 0 2 0), false)) rfl hq dX0_dance_66 ⟨Nat.le_of_ble_eq_true rfl, Nat.le_of_ble_eq_true rfl⟩
  · obtain ⟨rfl, hq⟩ := hr
    refine Y.eqst (st' := [.ref (rdA A a u 15), .ref (A 0)]) rfl ?_
    refine Y.swap M ?_
    refine Y.blk M [wR G (rdA A a u) S2, T] [0, 1] (w' := wR G (rdA A a u) S2 ++ T) (by simp only [List.flatten_cons, List.flatten_nil, List.append_nil]) (by decide) (by show List.flatten [_, T] = _; simp only [List.flatten_cons, List.flatten_nil, List.append_nil]) ?_
    refine y_put C M (ref := "OverHill") (Cn := RX0) (T := TX0) (N := 34) (q0 := 1) (fs := fs_R0 (rdA A a u) S2) in_X0 rfl rfl 0 (by decide) tyX0 tyX0_ok (by decide +kernel) q404 (fun _ _ h => h) rfl (ty := tyX0 0) (by decide +kernel) rfl rfl (Nat.le_of_ble_eq_true rfl) (w' := [(rdA A a u 40, .inr (8, fs_R40 G (rdA A a u) S2))] ++ dnT G (rdA A a u) S2 T) rfl dX0_dance_12 ?_
    refine Y.blk M [[(rdA A a u 40, .inr (8, fs_R40 G (rdA A a u) S2))], dnT G (rdA A a u) S2 T] [1] (w' := dnT G (rdA A a u) S2 T) (by simp only [List.flatten_cons, List.flatten_nil, List.append_nil]) (by decide) (by show List.flatten [_] = _; simp only [List.flatten_cons, List.flatten_nil, List.append_nil]) ?_
    refine y_aload_n C dX0_dance_15 0 rfl rfl ?_
    refine y_iconst C dX0_dance_16 (v := 0) (by decide) ?_
    refine y_put C M (ref := "OverHill") (Cn := RX0) (T := TX0) (N := 34) (q0 := 0) (fs := fs_C0 (rdA A a u) S2) in_X0 rfl rfl 3 (by decide) tyX0 tyX0_ok (by decide +kernel) q410 (fun _ _ h => h) rfl (ty := tyX0 3) (by decide +kernel) rfl rfl (Nat.le_of_ble_eq_true rfl) (w' := dnT G (rdA A a u) (sI S2 0 3 0) T) rfl dX0_dance_17 ?_
    refine y_aload_n C dX0_dance_20 0 rfl rfl ?_
    refine y_iconst C dX0_dance_21 (v := -1) (by decide) ?_
    refine y_put C M (ref := "OverHill") (Cn := RX0) (T := TX0) (N := 34) (q0 := 0) (fs := fs_C0 (rdA A a u) (sI S2 0 3 0)) in_X0 rfl rfl 4 (by decide) tyX0 tyX0_ok (by decide +kernel) q411 (fun _ _ h => h) rfl (ty := tyX0 4) (by decide +kernel) rfl rfl (Nat.le_of_ble_eq_true rfl) (w' := dnT G (rdA A a u) (sI (sI S2 0 3 0) 0 4 (-1)) T) rfl dX0_dance_22 ?_
    refine y_aload_n C dX0_dance_25 0 rfl rfl ?_
    refine y_get C (ref := "OverHill") (Cn := RX0) (T := TX0) (N := 34) (q0 := 0) (fs := fs_C0 (rdA A a u) (sI (sI S2 0 3 0) 0 4 (-1))) in_X0 rfl rfl 0 (by decide) q404 (fun _ _ h => h) rfl dX0_dance_26 ?_
    refine y_getN C (ref := "OverHill$Dance") (Cn := RX1) (T := TX1) (N := 22) (q0 := 2) (fs := fs_D15 (rdA A a u) (sI (sI S2 0 3 0) 0 4 (-1))) in_X1 rfl rfl 3 (by decide) q197 (fun _ _ h => h) rfl dX0_dance_29 ?_
    refine y_istore_n C dX0_dance_32 rfl (Nat.le_of_ble_eq_true rfl) [(1, .int (S2.1 15 3)), (0, .ref (A 0))] rfl ?_
    refine y_aload_n C dX0_dance_33 1 rfl rfl ?_
    refine y_iconst C dX0_dance_34 (v := 0) (by decide) ?_
    refine y_put C M (ref := "OverHill") (Cn := RX0) (T := TX0) (N := 34) (q0 := 0) (fs := fs_C0 (rdA A a u) (sI (sI S2 0 3 0) 0 4 (-1))) in_X0 rfl rfl 2 (by decide) tyX0 tyX0_ok (by decide +kernel) q409 (fun _ _ h => h) rfl (ty := tyX0 2) (by decide +kernel) rfl rfl (Nat.le_of_ble_eq_true rfl) (w' := dnT G (rdA A a u) (sI (sI (sI S2 0 3 0) 0 4 (-1)) 0 2 0) T) rfl dX0_dance_35 ?_
    refine y_iload_n C dX0_dance_38 0 rfl rfl ?_
    exact y_iretX C M N rfl (S := (a, u, (sI (sI (sI S2 0 3 0) 0 4 (-1)) 0 2 0), true)) rfl hq dX0_dance_39 ⟨Nat.le_of_ble_eq_true rfl, Nat.le_of_ble_eq_true rfl⟩
