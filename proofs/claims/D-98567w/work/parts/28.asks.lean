/-! printed by tools/gen.py -/
set_option maxRecDepth 100000
theorem cs_X0_274 : CsS RX0 274 yX0_isSlot cX0_isSlot 1 (some .boolean) 1 := ⟨lw_S q1112 q1113 q139 q1114, by decide +kernel⟩
theorem cs_X0_350 : CsVW RX0 350 yX0_asksHalf cX0_asksHalf 4 (some .int) ([(10, 47, 56, 286), (48, 55, 56, 286)] : List (Nat × Nat × Nat × Nat)) 1 := ⟨lw_VW q1212 q1214 qs53 q139 q1215, by decide +kernel⟩
theorem cs_X0_353 : CsV RX0 353 yX0_halfOf cX0_halfOf 3 (some .int) 1 := ⟨lw_V q1216 q1218 qs54 q139 q1219, by decide +kernel⟩
theorem cs_X0_306 : CsVW RX0 306 yX0_asksHeard cX0_asksHeard 5 (some .int) ([(18, 36, 103, 286), (37, 94, 103, 286), (95, 102, 103, 286)] : List (Nat × Nat × Nat × Nat)) 2 := ⟨lw_VW q1081 q1083 qs43 q139 q1084, by decide +kernel⟩
theorem cs_X0_321 : CsV RX0 321 yX0_listensTo cX0_listensTo 5 (some .int) 2 := ⟨lw_V q1157 q1159 qs47 q139 q1160, by decide +kernel⟩
/-! OverHill asksHalf(I)I: o_asksHalf -/
abbrev rm_o_asksHalf : Room := { frames := 20, cells := 1, slots := 8, locals := 12000 }
def wp_o_asksHalf_b22 (L : Lx) (Q : Int32 → St → Prop) (x1 : Int32) : Nat → St → Int32 → Int32 → Prop
  | 0 => fun _ _ _ => False
  | n + 1 => fun S x2 x3 => ((x2 ≤ x3 → Q 0 S) ∧ (¬ x2 ≤ x3 → wp_o_number L S (x1) (x3) (fun r_16 => wp_o_isIn (r_16) ((-1)) (5) (fun r_19 => ((¬ r_19 = 0 → wp_o_asksHalf_b22 L Q x1 n S (x2) ((x3 + 1))) ∧ (r_19 = 0 → Q (-2) S))))))
def wp_o_asksHalf (L : Lx) (S : St) (x1 : Int32) (Q : Int32 → St → Prop) : Prop :=
  wp_o_isSlot (x1) (fun r_1 => ((¬ r_1 = 0 → (vp_in x1 4 ∧ ((¬ L.1 (x1).toNatClampNeg = 0 → (∃ z, wp_o_asksHalf_b22 L Q (x1) z S ((nI (L.2.1 (x1).toNatClampNeg))) (0))) ∧ (L.1 (x1).toNatClampNeg = 0 → Q (-6) S)))) ∧ (r_1 = 0 → Q (-2) S)))
set_option maxRecDepth 100000 in
theorem wk_o_asksHalf_b22 {G : Gx} {K : Kx} {L : Lx} {A : Nat → Nat} (C : KOk G K RX0 cX0_asksHalf rm_o_asksHalf 4 (some .int)) {B : Nat → Prop} (M : KM G K B) {Q : Int32 → St → Prop} (N : KXi G K B (wCS L G A) Q (fun _ _ _ => False) 1 8 1 8 ([(10, 47, 56, 286), (48, 55, 56, 286)] : List (Nat × Nat × Nat × Nat))) (x1 : Int32) : ∀ (n : Nat), ∀ (S : St) (x2 : Int32) (x3 : Int32), wp_o_asksHalf_b22 L Q x1 n S x2 x3 → Y G K 0 0 (wCS L G A S) 22 [(0, .ref (A 0)), (1, .int (x1)), (2, .int (x2)), (3, .int (x3))] [] := by
  intro n
  induction n with
  | zero => intro S x2 x3 h; exact h.elim
  | succ n ih =>
    intro S x2 x3 h
    dsimp only [wp_o_asksHalf_b22] at h
    refine y_iload_n C dX0_asksHalf_22 3 rfl rfl ?_
    refine y_iload_n C dX0_asksHalf_23 2 rfl rfl ?_
    refine y_icmp_ge C (tgt := 54) dX0_asksHalf_24 rfl (fun c_13 => ?_) (fun c_13 => ?_)
    · have h_14 := (h).1 c_13
      refine y_iconst C dX0_asksHalf_54 ic_0 ?_
      exact y_iretX C M N rfl (S := S) rfl (h_14) dX0_asksHalf_55 ⟨by decide, by decide⟩
    · have h_15 := (h).2 c_13
      refine y_aload_n C dX0_asksHalf_27 0 rfl rfl ?_
      refine y_iload_n C dX0_asksHalf_28 1 rfl rfl ?_
      refine y_iload_n C dX0_asksHalf_29 3 rfl rfl ?_
      refine y_callRlV (As := [.int (x1), .int (x3)]) (rest := []) C cs_X0_280 (met_o_number G A L S (x1) (x3) _ (h_15)) (fun _ h => h) (wCS_0 ..) rfl rfl ⟨rfl, rfl, Nat.le_of_ble_eq_true rfl, Nat.le_of_ble_eq_true rfl⟩ rfl rfl (Nat.le_of_ble_eq_true rfl) dX0_asksHalf_30 ⟨Nat.zero_le _, Nat.zero_le _⟩ (fun r_16 h_17 => ?_)
      refine y_ldc2 C dX0_asksHalf_33 q1132 ?_
      refine y_ldc2 C dX0_asksHalf_36 q840 ?_
      refine y_callRiS (As := [.long (r_16), .long ((-1)), .long (5)]) (rest := []) C cs_X0_103 (met_o_isIn G (r_16) ((-1)) (5) _ (h_17)) (fun _ _ => pw_nil) ⟨rfl, rfl, Nat.le_of_ble_eq_true rfl, Nat.le_of_ble_eq_true rfl⟩ rfl rfl (Nat.le_of_ble_eq_true rfl) dX0_asksHalf_39 ⟨Nat.zero_le _, Nat.zero_le _⟩ (fun r_19 h_20 => ?_)
      refine y_if_ne C (tgt := 48) dX0_asksHalf_42 rfl (fun c_22 => ?_) (fun c_22 => ?_)
      · have h_23 := (h_20).1 c_22
        refine y_iinc C dX0_asksHalf_48 3 rfl (Nat.le_of_ble_eq_true rfl) (ii_1 _) [(3, .int ((x3 + 1))), (0, .ref (A 0)), (1, .int (x1)), (2, .int (x2))] rfl ?_
        refine y_goto C (tgt := 22) dX0_asksHalf_51 rfl ?_
        exact Y.sub (ih S (x2) ((x3 + 1)) (h_23)) [1, 2, 3, 0] rfl
      · have h_24 := (h_20).2 c_22
        refine y_bipush C dX0_asksHalf_45 bpm2 ?_
        exact y_iretX C M N rfl (S := S) rfl (h_24) dX0_asksHalf_47 ⟨by decide, by decide⟩
set_option maxRecDepth 100000 in
theorem met_o_asksHalf (G : Gx) (A : Nat → Nat) (L : Lx) (S : St) (x1 : Int32) (Q : Int32 → St → Prop) (h : wp_o_asksHalf L S x1 Q) : Xi G yX0_asksHalf (wsW_ yX0_asksHalf cX0_asksHalf 4 (some .int) ([(10, 47, 56, 286), (48, 55, 56, 286)] : List (Nat × Nat × Nat × Nat))) rm_o_asksHalf (wCS L G A S) [.ref (A 0), .int (x1)] (wCS L G A) Q (fun _ _ _ => False) 1 8 1 8 := by
  refine ent_XiH (by decide) rfl (Nat.le_of_ble_eq_true rfl) [(0, .ref (A 0)), (1, .int (x1))] rfl (fun K B C M N => ?_)
  refine y_iload_n C dX0_asksHalf_0 1 rfl rfl ?_
  refine y_callRiS (As := [.int (x1)]) (rest := []) C cs_X0_274 (met_o_isSlot G (x1) _ (h)) (fun _ _ => pw_nil) ⟨rfl, rfl, Nat.le_of_ble_eq_true rfl, Nat.le_of_ble_eq_true rfl⟩ rfl rfl (Nat.le_of_ble_eq_true rfl) dX0_asksHalf_1 ⟨Nat.zero_le _, Nat.zero_le _⟩ (fun r_1 h_2 => ?_)
  refine y_if_ne C (tgt := 10) dX0_asksHalf_4 rfl (fun c_4 => ?_) (fun c_4 => ?_)
  · have h_5 := (h_2).1 c_4
    refine y_aload_n C dX0_asksHalf_10 0 rfl rfl ?_
    refine yg_X0_85_wCS0 C dX0_asksHalf_11 ?_
    refine y_iload_n C dX0_asksHalf_14 1 rfl rfl ?_
    refine y_aaldS C (h_5).1 dX0_asksHalf_15 ?_
    refine y_slotSizeX C M (h_5).1 cs_X0_277 ⟨rfl, rfl, Nat.le_of_ble_eq_true rfl, Nat.le_of_ble_eq_true rfl⟩ ⟨by decide, by decide, by decide, by decide⟩ (Nat.le_of_ble_eq_true rfl) dX0_asksHalf_16 (fun c_6 => ?_) (fun c_6 q_7 => ?_)
    · have h_8 := ((h_5).2).1 c_6
      refine y_istore_n C dX0_asksHalf_19 rfl (Nat.le_of_ble_eq_true rfl) [(2, .int ((nI (L.2.1 (x1).toNatClampNeg)))), (0, .ref (A 0)), (1, .int (x1))] rfl ?_
      refine y_iconst C dX0_asksHalf_20 ic_0 ?_
      refine y_istore_n C dX0_asksHalf_21 rfl (Nat.le_of_ble_eq_true rfl) [(3, .int (0)), (2, .int ((nI (L.2.1 (x1).toNatClampNeg)))), (0, .ref (A 0)), (1, .int (x1))] rfl ?_
      obtain ⟨n_10, h_11⟩ := h_8
      exact Y.sub (wk_o_asksHalf_b22 C M N (x1) n_10 S ((nI (L.2.1 (x1).toNatClampNeg))) (0) h_11) [2, 3, 1, 0] rfl
    · have h_9 := ((h_5).2).2 c_6
      refine y_catch (st := []) C (KXi.tab N) (name := "java/lang/NullPointerException") (tableOf (([(10, 47, 56, 286), (48, 55, 56, 286)] : List (Nat × Nat × Nat × Nat)).take 0)) _ (tableOf (([(10, 47, 56, 286), (48, 55, 56, 286)] : List (Nat × Nat × Nat × Nat)).drop 1)) rfl (fun z hz => Or.inl ((show ∀ z ∈ tableOf (([(10, 47, 56, 286), (48, 55, 56, 286)] : List (Nat × Nat × Nat × Nat)).take 0), covers z 16 = false by decide) z hz)) (by decide) (by decide) q1085 q1107 (hpc := 56) rfl ?_
      refine y_astore_n C dX0_asksHalf_56 rfl (Nat.le_of_ble_eq_true rfl) [(2, .ref q_7), (0, .ref (A 0)), (1, .int (x1))] rfl ?_
      refine y_bipush C dX0_asksHalf_57 bpm6 ?_
      exact y_iretX C M N rfl (S := S) rfl (h_9) dX0_asksHalf_59 ⟨by decide, by decide⟩
  · have h_12 := (h_2).2 c_4
    refine y_bipush C dX0_asksHalf_7 bpm2 ?_
    exact y_iretX C M N rfl (S := S) rfl (h_12) dX0_asksHalf_9 ⟨by decide, by decide⟩
/-! OverHill asksHeard(II)I: o_asksHeard -/
abbrev rm_o_asksHeard : Room := { frames := 20, cells := 1, slots := 8, locals := 12000 }
def wp_o_asksHeard_b40 (L : Lx) (Q : Int32 → St → Prop) (x1 : Int32) : Nat → St → Int32 → Int32 → Prop
  | 0 => fun _ _ _ => False
  | n + 1 => fun S x3 x4 => ((x3 ≤ x4 → Q 0 S) ∧ (¬ x3 ≤ x4 → wp_o_number L S (x1) (x4) (fun r_25 => wp_o_isBeat S (r_25) (fun r_28 => ((r_28 = 0 → Q (-2) S) ∧ (¬ r_28 = 0 → wp_o_number L S (x1) ((x4 + 1)) (fun r_34 => (((lg_cmp r_34 (-1)) = 0 → wp_o_asksHeard_b40 L Q x1 n S (x3) ((x4 + 2))) ∧ (¬ (lg_cmp r_34 (-1)) = 0 → wp_o_number L S (x1) ((x4 + 1)) (fun r_40 => wp_o_isStep S (r_40) (fun r_43 => ((¬ r_43 = 0 → wp_o_asksHeard_b40 L Q x1 n S (x3) ((x4 + 2))) ∧ (r_43 = 0 → Q (-2) S)))))))))))))
def wp_o_asksHeard (L : Lx) (S : St) (x1 : Int32) (x2 : Int32) (Q : Int32 → St → Prop) : Prop :=
  wp_o_isSlot (x1) (fun r_1 => ((r_1 = 0 → Q (-2) S) ∧ (¬ r_1 = 0 → wp_o_isSide S (x2) (fun r_7 => ((¬ r_7 = 0 → (vp_in x1 4 ∧ ((¬ L.1 (x1).toNatClampNeg = 0 → (((irm (nI (L.2.1 (x1).toNatClampNeg)) 2) = 0 → (∃ z, wp_o_asksHeard_b40 L Q (x1) z S ((nI (L.2.1 (x1).toNatClampNeg))) (0))) ∧ (¬ (irm (nI (L.2.1 (x1).toNatClampNeg)) 2) = 0 → Q (-2) S))) ∧ (L.1 (x1).toNatClampNeg = 0 → Q (-6) S)))) ∧ (r_7 = 0 → Q (-2) S))))))
set_option maxRecDepth 100000 in
theorem wk_o_asksHeard_b40 {G : Gx} {K : Kx} {L : Lx} {A : Nat → Nat} (C : KOk G K RX0 cX0_asksHeard rm_o_asksHeard 5 (some .int)) {B : Nat → Prop} (M : KM G K B) {Q : Int32 → St → Prop} (N : KXi G K B (wCS L G A) Q (fun _ _ _ => False) 1 8 1 8 ([(18, 36, 103, 286), (37, 94, 103, 286), (95, 102, 103, 286)] : List (Nat × Nat × Nat × Nat))) (x1 : Int32) : ∀ (n : Nat), ∀ (S : St) (x3 : Int32) (x4 : Int32), wp_o_asksHeard_b40 L Q x1 n S x3 x4 → Y G K 0 0 (wCS L G A S) 40 [(0, .ref (A 0)), (1, .int (x1)), (3, .int (x3)), (4, .int (x4))] [] := by
  intro n
  induction n with
  | zero => intro S x3 x4 h; exact h.elim
  | succ n ih =>
    intro S x3 x4 h
    dsimp only [wp_o_asksHeard_b40] at h
    refine y_iload C dX0_asksHeard_40 3 rfl ?_
    refine y_iload_n C dX0_asksHeard_42 2 rfl rfl ?_
    refine y_icmp_ge C (tgt := 101) dX0_asksHeard_43 rfl (fun c_22 => ?_) (fun c_22 => ?_)
    · have h_23 := (h).1 c_22
      refine y_iconst C dX0_asksHeard_101 ic_0 ?_
      exact y_iretX C M N rfl (S := S) rfl (h_23) dX0_asksHeard_102 ⟨by decide, by decide⟩
    · have h_24 := (h).2 c_22
      refine y_aload_n C dX0_asksHeard_46 0 rfl rfl ?_
      refine y_aload_n C dX0_asksHeard_47 0 rfl rfl ?_
      refine y_iload_n C dX0_asksHeard_48 1 rfl rfl ?_
      refine y_iload C dX0_asksHeard_49 3 rfl ?_
      refine y_callRlV (As := [.int (x1), .int (x4)]) (rest := [.ref (A 0)]) C cs_X0_280 (met_o_number G A L S (x1) (x4) _ (h_24)) (fun _ h => h) (wCS_0 ..) rfl rfl ⟨rfl, rfl, Nat.le_of_ble_eq_true rfl, Nat.le_of_ble_eq_true rfl⟩ rfl rfl (Nat.le_of_ble_eq_true rfl) dX0_asksHeard_51 ⟨Nat.zero_le _, Nat.zero_le _⟩ (fun r_25 h_26 => ?_)
      refine y_callRiV (As := [.long (r_25)]) (rest := []) C cs_X0_181 (met_o_isBeat G A S (r_25) _ (h_26)) (fun _ h => wCS_C h) (wCS_0 ..) rfl rfl ⟨rfl, rfl, Nat.le_of_ble_eq_true rfl, Nat.le_of_ble_eq_true rfl⟩ rfl rfl (Nat.le_of_ble_eq_true rfl) dX0_asksHeard_54 ⟨Nat.zero_le _, Nat.zero_le _⟩ (fun r_28 h_29 => ?_)
      refine y_if_eq C (tgt := 92) dX0_asksHeard_57 rfl (fun c_31 => ?_) (fun c_31 => ?_)
      · have h_32 := (h_29).1 c_31
        refine y_bipush C dX0_asksHeard_92 bpm2 ?_
        exact y_iretX C M N rfl (S := S) rfl (h_32) dX0_asksHeard_94 ⟨by decide, by decide⟩
      · have h_33 := (h_29).2 c_31
        refine y_aload_n C dX0_asksHeard_60 0 rfl rfl ?_
        refine y_iload_n C dX0_asksHeard_61 1 rfl rfl ?_
        refine y_iload C dX0_asksHeard_62 3 rfl ?_
        refine y_iconst C dX0_asksHeard_64 ic_1 ?_
        refine y_iadd C dX0_asksHeard_65 ?_
        refine y_callRlV (As := [.int (x1), .int ((x4 + 1))]) (rest := []) C cs_X0_280 (met_o_number G A L S (x1) ((x4 + 1)) _ (h_33)) (fun _ h => h) (wCS_0 ..) rfl rfl ⟨rfl, rfl, Nat.le_of_ble_eq_true rfl, Nat.le_of_ble_eq_true rfl⟩ rfl rfl (Nat.le_of_ble_eq_true rfl) dX0_asksHeard_66 ⟨Nat.zero_le _, Nat.zero_le _⟩ (fun r_34 h_35 => ?_)
        refine y_ldc2 C dX0_asksHeard_69 q1132 ?_
        refine y_lcmp C dX0_asksHeard_72 ?_
        refine y_if_eq C (tgt := 95) dX0_asksHeard_73 rfl (fun c_37 => ?_) (fun c_37 => ?_)
        · have h_38 := (h_35).1 c_37
          refine y_iinc C dX0_asksHeard_95 3 rfl (Nat.le_of_ble_eq_true rfl) (ii_2 _) [(4, .int ((x4 + 2))), (0, .ref (A 0)), (1, .int (x1)), (3, .int (x3))] rfl ?_
          refine y_goto C (tgt := 40) dX0_asksHeard_98 rfl ?_
          exact Y.sub (ih S (x3) ((x4 + 2)) (h_38)) [1, 2, 3, 0] rfl
        · have h_39 := (h_35).2 c_37
          refine y_aload_n C dX0_asksHeard_76 0 rfl rfl ?_
          refine y_aload_n C dX0_asksHeard_77 0 rfl rfl ?_
          refine y_iload_n C dX0_asksHeard_78 1 rfl rfl ?_
          refine y_iload C dX0_asksHeard_79 3 rfl ?_
          refine y_iconst C dX0_asksHeard_81 ic_1 ?_
          refine y_iadd C dX0_asksHeard_82 ?_
          refine y_callRlV (As := [.int (x1), .int ((x4 + 1))]) (rest := [.ref (A 0)]) C cs_X0_280 (met_o_number G A L S (x1) ((x4 + 1)) _ (h_39)) (fun _ h => h) (wCS_0 ..) rfl rfl ⟨rfl, rfl, Nat.le_of_ble_eq_true rfl, Nat.le_of_ble_eq_true rfl⟩ rfl rfl (Nat.le_of_ble_eq_true rfl) dX0_asksHeard_83 ⟨Nat.zero_le _, Nat.zero_le _⟩ (fun r_40 h_41 => ?_)
          refine y_callRiV (As := [.long (r_40)]) (rest := []) C cs_X0_159 (met_o_isStep G A S (r_40) _ (h_41)) (fun _ h => wCS_C h) (wCS_0 ..) rfl rfl ⟨rfl, rfl, Nat.le_of_ble_eq_true rfl, Nat.le_of_ble_eq_true rfl⟩ rfl rfl (Nat.le_of_ble_eq_true rfl) dX0_asksHeard_86 ⟨Nat.zero_le _, Nat.zero_le _⟩ (fun r_43 h_44 => ?_)
          refine y_if_ne C (tgt := 95) dX0_asksHeard_89 rfl (fun c_46 => ?_) (fun c_46 => ?_)
          · have h_47 := (h_44).1 c_46
            refine y_iinc C dX0_asksHeard_95 3 rfl (Nat.le_of_ble_eq_true rfl) (ii_2 _) [(4, .int ((x4 + 2))), (0, .ref (A 0)), (1, .int (x1)), (3, .int (x3))] rfl ?_
            refine y_goto C (tgt := 40) dX0_asksHeard_98 rfl ?_
            exact Y.sub (ih S (x3) ((x4 + 2)) (h_47)) [1, 2, 3, 0] rfl
          · have h_48 := (h_44).2 c_46
            refine y_bipush C dX0_asksHeard_92 bpm2 ?_
            exact y_iretX C M N rfl (S := S) rfl (h_48) dX0_asksHeard_94 ⟨by decide, by decide⟩
set_option maxRecDepth 100000 in
theorem met_o_asksHeard (G : Gx) (A : Nat → Nat) (L : Lx) (S : St) (x1 : Int32) (x2 : Int32) (Q : Int32 → St → Prop) (h : wp_o_asksHeard L S x1 x2 Q) : Xi G yX0_asksHeard (wsW_ yX0_asksHeard cX0_asksHeard 5 (some .int) ([(18, 36, 103, 286), (37, 94, 103, 286), (95, 102, 103, 286)] : List (Nat × Nat × Nat × Nat))) rm_o_asksHeard (wCS L G A S) [.ref (A 0), .int (x1), .int (x2)] (wCS L G A) Q (fun _ _ _ => False) 1 8 1 8 := by
  refine ent_XiH (by decide) rfl (Nat.le_of_ble_eq_true rfl) [(0, .ref (A 0)), (1, .int (x1)), (2, .int (x2))] rfl (fun K B C M N => ?_)
  refine y_iload_n C dX0_asksHeard_0 1 rfl rfl ?_
  refine y_callRiS (As := [.int (x1)]) (rest := []) C cs_X0_274 (met_o_isSlot G (x1) _ (h)) (fun _ _ => pw_nil) ⟨rfl, rfl, Nat.le_of_ble_eq_true rfl, Nat.le_of_ble_eq_true rfl⟩ rfl rfl (Nat.le_of_ble_eq_true rfl) dX0_asksHeard_1 ⟨Nat.zero_le _, Nat.zero_le _⟩ (fun r_1 h_2 => ?_)
  refine y_if_eq C (tgt := 15) dX0_asksHeard_4 rfl (fun c_4 => ?_) (fun c_4 => ?_)
  · have h_5 := (h_2).1 c_4
    refine y_bipush C dX0_asksHeard_15 bpm2 ?_
    exact y_iretX C M N rfl (S := S) rfl (h_5) dX0_asksHeard_17 ⟨by decide, by decide⟩
  · have h_6 := (h_2).2 c_4
    refine y_aload_n C dX0_asksHeard_7 0 rfl rfl ?_
    refine y_iload_n C dX0_asksHeard_8 2 rfl rfl ?_
    refine y_callRiV (As := [.int (x2)]) (rest := []) C cs_X0_140 (met_o_isSide G A S (x2) _ (h_6)) (fun _ h => wCS_C h) (wCS_0 ..) rfl rfl ⟨rfl, rfl, Nat.le_of_ble_eq_true rfl, Nat.le_of_ble_eq_true rfl⟩ rfl rfl (Nat.le_of_ble_eq_true rfl) dX0_asksHeard_9 ⟨Nat.zero_le _, Nat.zero_le _⟩ (fun r_7 h_8 => ?_)
    refine y_if_ne C (tgt := 18) dX0_asksHeard_12 rfl (fun c_10 => ?_) (fun c_10 => ?_)
    · have h_11 := (h_8).1 c_10
      refine y_aload_n C dX0_asksHeard_18 0 rfl rfl ?_
      refine yg_X0_85_wCS0 C dX0_asksHeard_19 ?_
      refine y_iload_n C dX0_asksHeard_22 1 rfl rfl ?_
      refine y_aaldS C (h_11).1 dX0_asksHeard_23 ?_
      refine y_slotSizeX C M (h_11).1 cs_X0_277 ⟨rfl, rfl, Nat.le_of_ble_eq_true rfl, Nat.le_of_ble_eq_true rfl⟩ ⟨by decide, by decide, by decide, by decide⟩ (Nat.le_of_ble_eq_true rfl) dX0_asksHeard_24 (fun c_12 => ?_) (fun c_12 q_13 => ?_)
      · have h_14 := ((h_11).2).1 c_12
        refine y_istore_n C dX0_asksHeard_27 rfl (Nat.le_of_ble_eq_true rfl) [(3, .int ((nI (L.2.1 (x1).toNatClampNeg)))), (0, .ref (A 0)), (1, .int (x1)), (2, .int (x2))] rfl ?_
        refine y_iload_n C dX0_asksHeard_28 0 rfl rfl ?_
        refine y_iconst C dX0_asksHeard_29 ic_2 ?_
        refine y_irem C dX0_asksHeard_30 nz_I_2 ?_
        refine y_if_eq C (tgt := 37) dX0_asksHeard_31 rfl (fun c_16 => ?_) (fun c_16 => ?_)
        · have h_17 := (h_14).1 c_16
          refine y_iconst C dX0_asksHeard_37 ic_0 ?_
          refine y_istore C dX0_asksHeard_38 (Nat.le_of_ble_eq_true rfl) [(4, .int (0)), (3, .int ((nI (L.2.1 (x1).toNatClampNeg)))), (0, .ref (A 0)), (1, .int (x1)), (2, .int (x2))] rfl ?_
          obtain ⟨n_18, h_19⟩ := h_17
          exact Y.sub (wk_o_asksHeard_b40 C M N (x1) n_18 S ((nI (L.2.1 (x1).toNatClampNeg))) (0) h_19) [2, 3, 1, 0] rfl
        · have h_20 := (h_14).2 c_16
          refine y_bipush C dX0_asksHeard_34 bpm2 ?_
          exact y_iretX C M N rfl (S := S) rfl (h_20) dX0_asksHeard_36 ⟨by decide, by decide⟩
      · have h_15 := ((h_11).2).2 c_12
        refine y_catch (st := []) C (KXi.tab N) (name := "java/lang/NullPointerException") (tableOf (([(18, 36, 103, 286), (37, 94, 103, 286), (95, 102, 103, 286)] : List (Nat × Nat × Nat × Nat)).take 0)) _ (tableOf (([(18, 36, 103, 286), (37, 94, 103, 286), (95, 102, 103, 286)] : List (Nat × Nat × Nat × Nat)).drop 1)) rfl (fun z hz => Or.inl ((show ∀ z ∈ tableOf (([(18, 36, 103, 286), (37, 94, 103, 286), (95, 102, 103, 286)] : List (Nat × Nat × Nat × Nat)).take 0), covers z 24 = false by decide) z hz)) (by decide) (by decide) q1085 q1107 (hpc := 103) rfl ?_
        refine y_astore_n C dX0_asksHeard_103 rfl (Nat.le_of_ble_eq_true rfl) [(3, .ref q_13), (0, .ref (A 0)), (1, .int (x1)), (2, .int (x2))] rfl ?_
        refine y_bipush C dX0_asksHeard_104 bpm6 ?_
        exact y_iretX C M N rfl (S := S) rfl (h_15) dX0_asksHeard_106 ⟨by decide, by decide⟩
    · have h_21 := (h_8).2 c_10
      refine y_bipush C dX0_asksHeard_15 bpm2 ?_
      exact y_iretX C M N rfl (S := S) rfl (h_21) dX0_asksHeard_17 ⟨by decide, by decide⟩
/-! OverHill half(I)I: o_half -/
abbrev rm_o_half : Room := { frames := 21, cells := 1, slots := 8, locals := 12023 }
def wp_o_half (L : Lx) (S : St) (x1 : Int32) (Q : Int32 → St → Prop) : Prop :=
  wp_o_asksHalf L S (x1) (fun r_1 S_3 => ((0 ≤ r_1 → wp_o_halfOf L S_3 (x1) (fun r_6 S_8 => Q r_6 S_8)) ∧ (¬ 0 ≤ r_1 → Q r_1 S_3)))
set_option maxRecDepth 100000 in
theorem met_o_half (G : Gx) (A : Nat → Nat) (L : Lx) (S : St) (x1 : Int32) (Q : Int32 → St → Prop) (h : wp_o_half L S x1 Q) : MiA G yX0_half (ws_ yX0_half cX0_half 3 (some .int)) rm_o_half (wCS L G A S) [.ref (A 0), .int (x1)] (wCS L G A) Q 1 8 := by
  refine ent_Mi (by decide +kernel) rfl (Nat.le_of_ble_eq_true rfl) [(0, .ref (A 0)), (1, .int (x1))] rfl (fun K B C M N => ?_)
  refine y_aload_n C dX0_half_0 0 rfl rfl ?_
  refine y_iload_n C dX0_half_1 1 rfl rfl ?_
  refine y_callXiW (k' := 1) (n' := 8) (k9 := 1) (n9 := 8) (As := [.int (x1)]) (rest := []) C M cs_X0_350 (met_o_asksHalf G A L S (x1) _ (h)) (wCS_0 ..) rfl rfl ⟨rfl, rfl, Nat.le_of_ble_eq_true rfl, Nat.le_of_ble_eq_true rfl⟩ rfl rfl (Nat.le_of_ble_eq_true rfl) dX0_half_2 ⟨Nat.le_of_ble_eq_true rfl, Nat.le_of_ble_eq_true rfl⟩ rfl rfl rfl rfl (fun _ _ _ hf => hf.elim) (fun r_1 S_3 h_2 => ?_)
  refine y_istore_n C dX0_half_5 rfl (Nat.le_of_ble_eq_true rfl) [(2, .int (r_1)), (0, .ref (A 0)), (1, .int (x1))] rfl ?_
  refine y_iload_n C dX0_half_6 0 rfl rfl ?_
  refine y_if_ge C (tgt := 14) dX0_half_7 rfl (fun c_4 => ?_) (fun c_4 => ?_)
  · have h_5 := (h_2).1 c_4
    refine y_aload_n C dX0_half_14 1 rfl rfl ?_
    refine y_iload_n C dX0_half_15 2 rfl rfl ?_
    refine y_callMiV (k' := 1) (n' := 8) (As := [.int (x1)]) (rest := []) C M cs_X0_353 (met_o_halfOf G A L S_3 (x1) _ (h_5)) (wCS_0 ..) rfl rfl ⟨rfl, rfl, Nat.le_of_ble_eq_true rfl, Nat.le_of_ble_eq_true rfl⟩ rfl rfl (Nat.le_of_ble_eq_true rfl) dX0_half_16 ⟨Nat.le_of_ble_eq_true rfl, Nat.le_of_ble_eq_true rfl⟩ rfl rfl (fun r_6 S_8 h_7 => ?_)
    exact y_iretM C M N rfl (S := S_8) rfl (h_7) dX0_half_19 ⟨by decide, by decide⟩
  · have h_9 := (h_2).2 c_4
    refine y_iload_n C dX0_half_10 0 rfl rfl ?_
    refine y_goto C (tgt := 19) dX0_half_11 rfl ?_
    exact y_iretM C M N rfl (S := S_3) rfl (h_9) dX0_half_19 ⟨by decide, by decide⟩
/-! OverHill fills(II)I: o_fills -/
abbrev rm_o_fills : Room := { frames := 21, cells := 1, slots := 8, locals := 12023 }
def wp_o_fills (L : Lx) (S : St) (x1 : Int32) (x2 : Int32) (Q : Int32 → St → Prop) : Prop :=
  wp_o_asksHalf L S (x1) (fun r_1 S_3 => ((0 ≤ r_1 → wp_o_halfOf L S_3 (x1) (fun r_6 S_8 => ((r_6 = (-1) → Q (-1) S_8) ∧ (¬ r_6 = (-1) → wp_o_isOneOf (x2) (r_6) (fun r_12 => ((¬ r_12 = 0 → (vp_in x2 12 ∧ Q (S_8.1 11 (x2).toNatClampNeg) S_8)) ∧ (r_12 = 0 → Q (-1) S_8))))))) ∧ (¬ 0 ≤ r_1 → Q r_1 S_3)))
set_option maxRecDepth 100000 in
theorem met_o_fills (G : Gx) (A : Nat → Nat) (L : Lx) (S : St) (x1 : Int32) (x2 : Int32) (Q : Int32 → St → Prop) (h : wp_o_fills L S x1 x2 Q) : MiA G yX0_fills (ws_ yX0_fills cX0_fills 5 (some .int)) rm_o_fills (wCS L G A S) [.ref (A 0), .int (x1), .int (x2)] (wCS L G A) Q 1 8 := by
  refine ent_Mi (by decide +kernel) rfl (Nat.le_of_ble_eq_true rfl) [(0, .ref (A 0)), (1, .int (x1)), (2, .int (x2))] rfl (fun K B C M N => ?_)
  refine y_aload_n C dX0_fills_0 0 rfl rfl ?_
  refine y_iload_n C dX0_fills_1 1 rfl rfl ?_
  refine y_callXiW (k' := 1) (n' := 8) (k9 := 1) (n9 := 8) (As := [.int (x1)]) (rest := []) C M cs_X0_350 (met_o_asksHalf G A L S (x1) _ (h)) (wCS_0 ..) rfl rfl ⟨rfl, rfl, Nat.le_of_ble_eq_true rfl, Nat.le_of_ble_eq_true rfl⟩ rfl rfl (Nat.le_of_ble_eq_true rfl) dX0_fills_2 ⟨Nat.le_of_ble_eq_true rfl, Nat.le_of_ble_eq_true rfl⟩ rfl rfl rfl rfl (fun _ _ _ hf => hf.elim) (fun r_1 S_3 h_2 => ?_)
  refine y_istore_n C dX0_fills_5 rfl (Nat.le_of_ble_eq_true rfl) [(3, .int (r_1)), (0, .ref (A 0)), (1, .int (x1)), (2, .int (x2))] rfl ?_
  refine y_iload_n C dX0_fills_6 0 rfl rfl ?_
  refine y_if_ge C (tgt := 12) dX0_fills_7 rfl (fun c_4 => ?_) (fun c_4 => ?_)
  · have h_5 := (h_2).1 c_4
    refine y_aload_n C dX0_fills_12 1 rfl rfl ?_
    refine y_iload_n C dX0_fills_13 2 rfl rfl ?_
    refine y_callMiV (k' := 1) (n' := 8) (As := [.int (x1)]) (rest := []) C M cs_X0_353 (met_o_halfOf G A L S_3 (x1) _ (h_5)) (wCS_0 ..) rfl rfl ⟨rfl, rfl, Nat.le_of_ble_eq_true rfl, Nat.le_of_ble_eq_true rfl⟩ rfl rfl (Nat.le_of_ble_eq_true rfl) dX0_fills_14 ⟨Nat.le_of_ble_eq_true rfl, Nat.le_of_ble_eq_true rfl⟩ rfl rfl (fun r_6 S_8 h_7 => ?_)
    refine y_istore C dX0_fills_17 (Nat.le_of_ble_eq_true rfl) [(4, .int (r_6)), (3, .int (r_1)), (0, .ref (A 0)), (1, .int (x1)), (2, .int (x2))] rfl ?_
    refine y_iload C dX0_fills_19 0 rfl ?_
    refine y_iconst C dX0_fills_21 icm1 ?_
    refine y_icmp_eq C (tgt := 34) dX0_fills_22 rfl (fun c_9 => ?_) (fun c_9 => ?_)
    · have h_10 := (h_7).1 c_9
      refine y_iconst C dX0_fills_34 icm1 ?_
      refine y_goto C (tgt := 44) dX0_fills_35 rfl ?_
      exact y_iretM C M N rfl (S := S_8) rfl (h_10) dX0_fills_44 ⟨by decide, by decide⟩
    · have h_11 := (h_7).2 c_9
      refine y_iload_n C dX0_fills_25 4 rfl rfl ?_
      refine y_iload C dX0_fills_26 0 rfl ?_
      refine y_callRiS (As := [.int (x2), .int (r_6)]) (rest := []) C cs_X0_132 (met_o_isOneOf G (x2) (r_6) _ (h_11)) (fun _ _ => pw_nil) ⟨rfl, rfl, Nat.le_of_ble_eq_true rfl, Nat.le_of_ble_eq_true rfl⟩ rfl rfl (Nat.le_of_ble_eq_true rfl) dX0_fills_28 ⟨Nat.le_of_ble_eq_true rfl, Nat.le_of_ble_eq_true rfl⟩ (fun r_12 h_13 => ?_)
      refine y_if_ne C (tgt := 38) dX0_fills_31 rfl (fun c_15 => ?_) (fun c_15 => ?_)
      · have h_16 := (h_13).1 c_15
        refine y_aload_n C dX0_fills_38 2 rfl rfl ?_
        refine yg_X0_70_wCS0 C dX0_fills_39 ?_
        refine y_iload_n C dX0_fills_42 4 rfl rfl ?_
        refine y_iald C (wCS_11 ..) rfl (h_16).1 dX0_fills_43 ?_
        exact y_iretM C M N rfl (S := S_8) rfl ((h_16).2) dX0_fills_44 ⟨by decide, by decide⟩
      · have h_17 := (h_13).2 c_15
        refine y_iconst C dX0_fills_34 icm1 ?_
        refine y_goto C (tgt := 44) dX0_fills_35 rfl ?_
        exact y_iretM C M N rfl (S := S_8) rfl (h_17) dX0_fills_44 ⟨by decide, by decide⟩
  · have h_18 := (h_2).2 c_4
    refine y_iload_n C dX0_fills_10 0 rfl rfl ?_
    exact y_iretM C M N rfl (S := S_3) rfl (h_18) dX0_fills_11 ⟨by decide, by decide⟩
/-! OverHill open(I)I: o_open -/
abbrev rm_o_open : Room := { frames := 21, cells := 1, slots := 8, locals := 12023 }
def wp_o_open_b24 (L : Lx) (Q : Int32 → St → Prop) : Nat → St → Int32 → Int32 → Int32 → Prop
  | 0 => fun _ _ _ _ => False
  | n + 1 => fun S x3 x4 x5 => ((x3 ≤ x5 → ((¬ x3 = (-1) → Q x4 S) ∧ (x3 = (-1) → Q (-1) S))) ∧ (¬ x3 ≤ x5 → (vp_in x5 12 ∧ ((¬ (S.1 11 (x5).toNatClampNeg) = (-1) → wp_o_open_b24 L Q n S (x3) ((x4 + 0)) ((x5 + 1))) ∧ ((S.1 11 (x5).toNatClampNeg) = (-1) → wp_o_open_b24 L Q n S (x3) ((x4 + 1)) ((x5 + 1)))))))
def wp_o_open (L : Lx) (S : St) (x1 : Int32) (Q : Int32 → St → Prop) : Prop :=
  wp_o_asksHalf L S (x1) (fun r_1 S_3 => ((0 ≤ r_1 → wp_o_halfOf L S_3 (x1) (fun r_6 S_8 => (∃ z, wp_o_open_b24 L Q z S_8 (r_6) (0) (0)))) ∧ (¬ 0 ≤ r_1 → Q r_1 S_3)))
set_option maxRecDepth 100000 in
theorem wk_o_open_b24 {G : Gx} {K : Kx} {L : Lx} {A : Nat → Nat} (C : KOk G K RX0 cX0_open rm_o_open 6 (some .int)) {B : Nat → Prop} (M : KM G K B) {Q : Int32 → St → Prop} (N : KQiA G K B (wCS L G A) Q 1 8) : ∀ (n : Nat), ∀ (S : St) (x3 : Int32) (x4 : Int32) (x5 : Int32), wp_o_open_b24 L Q n S x3 x4 x5 → Y G K 1 8 (wCS L G A S) 24 [(0, .ref (A 0)), (3, .int (x3)), (4, .int (x4)), (5, .int (x5))] [] := by
  intro n
  induction n with
  | zero => intro S x3 x4 x5 h; exact h.elim
  | succ n ih =>
    intro S x3 x4 x5 h
    dsimp only [wp_o_open_b24] at h
    refine y_iload C dX0_open_24 3 rfl ?_
    refine y_iload_n C dX0_open_26 1 rfl rfl ?_
    refine y_icmp_ge C (tgt := 57) dX0_open_27 rfl (fun c_12 => ?_) (fun c_12 => ?_)
    · have h_13 := (h).1 c_12
      refine y_iload_n C dX0_open_57 1 rfl rfl ?_
      refine y_iconst C dX0_open_58 icm1 ?_
      refine y_icmp_ne C (tgt := 66) dX0_open_59 rfl (fun c_14 => ?_) (fun c_14 => ?_)
      · have h_15 := (h_13).1 c_14
        refine y_iload C dX0_open_66 2 rfl ?_
        exact y_iretM C M N rfl (S := S) rfl (h_15) dX0_open_68 ⟨by decide, by decide⟩
      · have h_16 := (h_13).2 c_14
        refine y_iconst C dX0_open_62 icm1 ?_
        refine y_goto C (tgt := 68) dX0_open_63 rfl ?_
        exact y_iretM C M N rfl (S := S) rfl (h_16) dX0_open_68 ⟨by decide, by decide⟩
    · have h_17 := (h).2 c_12
      refine y_iload C dX0_open_30 2 rfl ?_
      refine y_aload_n C dX0_open_32 0 rfl rfl ?_
      refine yg_X0_70_wCS0 C dX0_open_33 ?_
      refine y_iload C dX0_open_36 3 rfl ?_
      refine y_iald C (wCS_11 ..) rfl (h_17).1 dX0_open_38 ?_
      refine y_iconst C dX0_open_39 icm1 ?_
      refine y_icmp_ne C (tgt := 47) dX0_open_40 rfl (fun c_18 => ?_) (fun c_18 => ?_)
      · have h_19 := ((h_17).2).1 c_18
        refine y_iconst C dX0_open_47 ic_0 ?_
        refine y_iadd C dX0_open_48 ?_
        refine y_istore C dX0_open_49 (Nat.le_of_ble_eq_true rfl) [(4, .int ((x4 + 0))), (0, .ref (A 0)), (3, .int (x3)), (5, .int (x5))] rfl ?_
        refine y_iinc C dX0_open_51 3 rfl (Nat.le_of_ble_eq_true rfl) (ii_1 _) [(5, .int ((x5 + 1))), (4, .int ((x4 + 0))), (0, .ref (A 0)), (3, .int (x3))] rfl ?_
        refine y_goto C (tgt := 24) dX0_open_54 rfl ?_
        exact Y.sub (ih S (x3) ((x4 + 0)) ((x5 + 1)) (h_19)) [2, 3, 1, 0] rfl
      · have h_20 := ((h_17).2).2 c_18
        refine y_iconst C dX0_open_43 ic_1 ?_
        refine y_goto C (tgt := 48) dX0_open_44 rfl ?_
        refine y_iadd C dX0_open_48 ?_
        refine y_istore C dX0_open_49 (Nat.le_of_ble_eq_true rfl) [(4, .int ((x4 + 1))), (0, .ref (A 0)), (3, .int (x3)), (5, .int (x5))] rfl ?_
        refine y_iinc C dX0_open_51 3 rfl (Nat.le_of_ble_eq_true rfl) (ii_1 _) [(5, .int ((x5 + 1))), (4, .int ((x4 + 1))), (0, .ref (A 0)), (3, .int (x3))] rfl ?_
        refine y_goto C (tgt := 24) dX0_open_54 rfl ?_
        exact Y.sub (ih S (x3) ((x4 + 1)) ((x5 + 1)) (h_20)) [2, 3, 1, 0] rfl
set_option maxRecDepth 100000 in
theorem met_o_open (G : Gx) (A : Nat → Nat) (L : Lx) (S : St) (x1 : Int32) (Q : Int32 → St → Prop) (h : wp_o_open L S x1 Q) : MiA G yX0_open (ws_ yX0_open cX0_open 6 (some .int)) rm_o_open (wCS L G A S) [.ref (A 0), .int (x1)] (wCS L G A) Q 1 8 := by
  refine ent_Mi (by decide +kernel) rfl (Nat.le_of_ble_eq_true rfl) [(0, .ref (A 0)), (1, .int (x1))] rfl (fun K B C M N => ?_)
  refine y_aload_n C dX0_open_0 0 rfl rfl ?_
  refine y_iload_n C dX0_open_1 1 rfl rfl ?_
  refine y_callXiW (k' := 1) (n' := 8) (k9 := 1) (n9 := 8) (As := [.int (x1)]) (rest := []) C M cs_X0_350 (met_o_asksHalf G A L S (x1) _ (h)) (wCS_0 ..) rfl rfl ⟨rfl, rfl, Nat.le_of_ble_eq_true rfl, Nat.le_of_ble_eq_true rfl⟩ rfl rfl (Nat.le_of_ble_eq_true rfl) dX0_open_2 ⟨Nat.le_of_ble_eq_true rfl, Nat.le_of_ble_eq_true rfl⟩ rfl rfl rfl rfl (fun _ _ _ hf => hf.elim) (fun r_1 S_3 h_2 => ?_)
  refine y_istore_n C dX0_open_5 rfl (Nat.le_of_ble_eq_true rfl) [(2, .int (r_1)), (0, .ref (A 0)), (1, .int (x1))] rfl ?_
  refine y_iload_n C dX0_open_6 0 rfl rfl ?_
  refine y_if_ge C (tgt := 12) dX0_open_7 rfl (fun c_4 => ?_) (fun c_4 => ?_)
  · have h_5 := (h_2).1 c_4
    refine y_aload_n C dX0_open_12 1 rfl rfl ?_
    refine y_iload_n C dX0_open_13 2 rfl rfl ?_
    refine y_callMiV (k' := 1) (n' := 8) (As := [.int (x1)]) (rest := []) C M cs_X0_353 (met_o_halfOf G A L S_3 (x1) _ (h_5)) (wCS_0 ..) rfl rfl ⟨rfl, rfl, Nat.le_of_ble_eq_true rfl, Nat.le_of_ble_eq_true rfl⟩ rfl rfl (Nat.le_of_ble_eq_true rfl) dX0_open_14 ⟨Nat.le_of_ble_eq_true rfl, Nat.le_of_ble_eq_true rfl⟩ rfl rfl (fun r_6 S_8 h_7 => ?_)
    refine y_istore_n C dX0_open_17 rfl (Nat.le_of_ble_eq_true rfl) [(3, .int (r_6)), (2, .int (r_1)), (0, .ref (A 0)), (1, .int (x1))] rfl ?_
    refine y_iconst C dX0_open_18 ic_0 ?_
    refine y_istore C dX0_open_19 (Nat.le_of_ble_eq_true rfl) [(4, .int (0)), (3, .int (r_6)), (2, .int (r_1)), (0, .ref (A 0)), (1, .int (x1))] rfl ?_
    refine y_iconst C dX0_open_21 ic_0 ?_
    refine y_istore C dX0_open_22 (Nat.le_of_ble_eq_true rfl) [(5, .int (0)), (4, .int (0)), (3, .int (r_6)), (2, .int (r_1)), (0, .ref (A 0)), (1, .int (x1))] rfl ?_
    obtain ⟨n_9, h_10⟩ := h_7
    exact Y.sub (wk_o_open_b24 C M N n_9 S_8 (r_6) (0) (0) h_10) [4, 2, 1, 0] rfl
  · have h_11 := (h_2).2 c_4
    refine y_iload_n C dX0_open_10 0 rfl rfl ?_
    exact y_iretM C M N rfl (S := S_3) rfl (h_11) dX0_open_11 ⟨by decide, by decide⟩
/-! OverHill heard(II)I: o_heard -/
abbrev rm_o_heard : Room := { frames := 21, cells := 1, slots := 8, locals := 12024 }
def wp_o_heard (L : Lx) (S : St) (x1 : Int32) (x2 : Int32) (Q : Int32 → St → Prop) : Prop :=
  wp_o_asksHeard L S (x1) (x2) (fun r_1 S_3 => ((0 ≤ r_1 → wp_o_findsStumbles L S_3 (x1) (x2) (fun S_8 => Q (S_8.1 0 13) S_8)) ∧ (¬ 0 ≤ r_1 → Q r_1 S_3)))
set_option maxRecDepth 100000 in
theorem met_o_heard (G : Gx) (A : Nat → Nat) (L : Lx) (S : St) (x1 : Int32) (x2 : Int32) (Q : Int32 → St → Prop) (h : wp_o_heard L S x1 x2 Q) : MiA G yX0_heard (ws_ yX0_heard cX0_heard 4 (some .int)) rm_o_heard (wCS L G A S) [.ref (A 0), .int (x1), .int (x2)] (wCS L G A) Q 1 8 := by
  refine ent_Mi (by decide +kernel) rfl (Nat.le_of_ble_eq_true rfl) [(0, .ref (A 0)), (1, .int (x1)), (2, .int (x2))] rfl (fun K B C M N => ?_)
  refine y_aload_n C dX0_heard_0 0 rfl rfl ?_
  refine y_iload_n C dX0_heard_1 1 rfl rfl ?_
  refine y_iload_n C dX0_heard_2 2 rfl rfl ?_
  refine y_callXiW (k' := 1) (n' := 8) (k9 := 1) (n9 := 8) (As := [.int (x1), .int (x2)]) (rest := []) C M cs_X0_306 (met_o_asksHeard G A L S (x1) (x2) _ (h)) (wCS_0 ..) rfl rfl ⟨rfl, rfl, Nat.le_of_ble_eq_true rfl, Nat.le_of_ble_eq_true rfl⟩ rfl rfl (Nat.le_of_ble_eq_true rfl) dX0_heard_3 ⟨Nat.le_of_ble_eq_true rfl, Nat.le_of_ble_eq_true rfl⟩ rfl rfl rfl rfl (fun _ _ _ hf => hf.elim) (fun r_1 S_3 h_2 => ?_)
  refine y_istore_n C dX0_heard_6 rfl (Nat.le_of_ble_eq_true rfl) [(3, .int (r_1)), (0, .ref (A 0)), (1, .int (x1)), (2, .int (x2))] rfl ?_
  refine y_iload_n C dX0_heard_7 0 rfl rfl ?_
  refine y_if_ge C (tgt := 13) dX0_heard_8 rfl (fun c_4 => ?_) (fun c_4 => ?_)
  · have h_5 := (h_2).1 c_4
    refine y_aload_n C dX0_heard_13 1 rfl rfl ?_
    refine y_iload_n C dX0_heard_14 2 rfl rfl ?_
    refine y_iload_n C dX0_heard_15 3 rfl rfl ?_
    refine y_callMvV (k' := 1) (n' := 8) (As := [.int (x1), .int (x2)]) (rest := []) C M cs_X0_309 (met_o_findsStumbles G A L S_3 (x1) (x2) _ (h_5)) (wCS_0 ..) rfl rfl ⟨rfl, rfl, Nat.le_of_ble_eq_true rfl, Nat.le_of_ble_eq_true rfl⟩ rfl rfl (Nat.le_of_ble_eq_true rfl) dX0_heard_16 ⟨Nat.le_of_ble_eq_true rfl, Nat.le_of_ble_eq_true rfl⟩ rfl rfl (fun S_8 h_7 => ?_)
    refine y_aload_n C dX0_heard_19 1 rfl rfl ?_
    refine yg_X0_291_wCS0 C dX0_heard_20 ?_
    exact y_iretM C M N rfl (S := S_8) rfl (h_7) dX0_heard_23 ⟨by decide, by decide⟩
  · have h_9 := (h_2).2 c_4
    refine y_iload_n C dX0_heard_11 0 rfl rfl ?_
    exact y_iretM C M N rfl (S := S_3) rfl (h_9) dX0_heard_12 ⟨by decide, by decide⟩
/-! OverHill first(II)I: o_first -/
abbrev rm_o_first : Room := { frames := 21, cells := 1, slots := 8, locals := 12024 }
def wp_o_first (L : Lx) (S : St) (x1 : Int32) (x2 : Int32) (Q : Int32 → St → Prop) : Prop :=
  wp_o_asksHeard L S (x1) (x2) (fun r_1 S_3 => ((0 ≤ r_1 → wp_o_findsStumbles L S_3 (x1) (x2) (fun S_8 => Q (S_8.1 0 14) S_8)) ∧ (¬ 0 ≤ r_1 → Q r_1 S_3)))
set_option maxRecDepth 100000 in
theorem met_o_first (G : Gx) (A : Nat → Nat) (L : Lx) (S : St) (x1 : Int32) (x2 : Int32) (Q : Int32 → St → Prop) (h : wp_o_first L S x1 x2 Q) : MiA G yX0_first (ws_ yX0_first cX0_first 4 (some .int)) rm_o_first (wCS L G A S) [.ref (A 0), .int (x1), .int (x2)] (wCS L G A) Q 1 8 := by
  refine ent_Mi (by decide +kernel) rfl (Nat.le_of_ble_eq_true rfl) [(0, .ref (A 0)), (1, .int (x1)), (2, .int (x2))] rfl (fun K B C M N => ?_)
  refine y_aload_n C dX0_first_0 0 rfl rfl ?_
  refine y_iload_n C dX0_first_1 1 rfl rfl ?_
  refine y_iload_n C dX0_first_2 2 rfl rfl ?_
  refine y_callXiW (k' := 1) (n' := 8) (k9 := 1) (n9 := 8) (As := [.int (x1), .int (x2)]) (rest := []) C M cs_X0_306 (met_o_asksHeard G A L S (x1) (x2) _ (h)) (wCS_0 ..) rfl rfl ⟨rfl, rfl, Nat.le_of_ble_eq_true rfl, Nat.le_of_ble_eq_true rfl⟩ rfl rfl (Nat.le_of_ble_eq_true rfl) dX0_first_3 ⟨Nat.le_of_ble_eq_true rfl, Nat.le_of_ble_eq_true rfl⟩ rfl rfl rfl rfl (fun _ _ _ hf => hf.elim) (fun r_1 S_3 h_2 => ?_)
  refine y_istore_n C dX0_first_6 rfl (Nat.le_of_ble_eq_true rfl) [(3, .int (r_1)), (0, .ref (A 0)), (1, .int (x1)), (2, .int (x2))] rfl ?_
  refine y_iload_n C dX0_first_7 0 rfl rfl ?_
  refine y_if_ge C (tgt := 13) dX0_first_8 rfl (fun c_4 => ?_) (fun c_4 => ?_)
  · have h_5 := (h_2).1 c_4
    refine y_aload_n C dX0_first_13 1 rfl rfl ?_
    refine y_iload_n C dX0_first_14 2 rfl rfl ?_
    refine y_iload_n C dX0_first_15 3 rfl rfl ?_
    refine y_callMvV (k' := 1) (n' := 8) (As := [.int (x1), .int (x2)]) (rest := []) C M cs_X0_309 (met_o_findsStumbles G A L S_3 (x1) (x2) _ (h_5)) (wCS_0 ..) rfl rfl ⟨rfl, rfl, Nat.le_of_ble_eq_true rfl, Nat.le_of_ble_eq_true rfl⟩ rfl rfl (Nat.le_of_ble_eq_true rfl) dX0_first_16 ⟨Nat.le_of_ble_eq_true rfl, Nat.le_of_ble_eq_true rfl⟩ rfl rfl (fun S_8 h_7 => ?_)
    refine y_aload_n C dX0_first_19 1 rfl rfl ?_
    refine yg_X0_294_wCS0 C dX0_first_20 ?_
    exact y_iretM C M N rfl (S := S_8) rfl (h_7) dX0_first_23 ⟨by decide, by decide⟩
  · have h_9 := (h_2).2 c_4
    refine y_iload_n C dX0_first_11 0 rfl rfl ?_
    exact y_iretM C M N rfl (S := S_3) rfl (h_9) dX0_first_12 ⟨by decide, by decide⟩
/-! OverHill when(II)J: o_when -/
abbrev rm_o_when : Room := { frames := 21, cells := 1, slots := 8, locals := 12024 }
def wp_o_when (L : Lx) (S : St) (x1 : Int32) (x2 : Int32) (Q : Int64 → St → Prop) : Prop :=
  wp_o_asksHeard L S (x1) (x2) (fun r_1 S_3 => ((0 ≤ r_1 → wp_o_findsStumbles L S_3 (x1) (x2) (fun S_8 => Q (S_8.2 0 15) S_8)) ∧ (¬ 0 ≤ r_1 → Q (r_1).toInt64 S_3)))
set_option maxRecDepth 100000 in
theorem met_o_when (G : Gx) (A : Nat → Nat) (L : Lx) (S : St) (x1 : Int32) (x2 : Int32) (Q : Int64 → St → Prop) (h : wp_o_when L S x1 x2 Q) : MlA G yX0_when (ws_ yX0_when cX0_when 4 (some .long)) rm_o_when (wCS L G A S) [.ref (A 0), .int (x1), .int (x2)] (wCS L G A) Q 1 8 := by
  refine ent_Ml (by decide +kernel) rfl (Nat.le_of_ble_eq_true rfl) [(0, .ref (A 0)), (1, .int (x1)), (2, .int (x2))] rfl (fun K B C M N => ?_)
  refine y_aload_n C dX0_when_0 0 rfl rfl ?_
  refine y_iload_n C dX0_when_1 1 rfl rfl ?_
  refine y_iload_n C dX0_when_2 2 rfl rfl ?_
  refine y_callXiW (k' := 1) (n' := 8) (k9 := 1) (n9 := 8) (As := [.int (x1), .int (x2)]) (rest := []) C M cs_X0_306 (met_o_asksHeard G A L S (x1) (x2) _ (h)) (wCS_0 ..) rfl rfl ⟨rfl, rfl, Nat.le_of_ble_eq_true rfl, Nat.le_of_ble_eq_true rfl⟩ rfl rfl (Nat.le_of_ble_eq_true rfl) dX0_when_3 ⟨Nat.le_of_ble_eq_true rfl, Nat.le_of_ble_eq_true rfl⟩ rfl rfl rfl rfl (fun _ _ _ hf => hf.elim) (fun r_1 S_3 h_2 => ?_)
  refine y_istore_n C dX0_when_6 rfl (Nat.le_of_ble_eq_true rfl) [(3, .int (r_1)), (0, .ref (A 0)), (1, .int (x1)), (2, .int (x2))] rfl ?_
  refine y_iload_n C dX0_when_7 0 rfl rfl ?_
  refine y_if_ge C (tgt := 14) dX0_when_8 rfl (fun c_4 => ?_) (fun c_4 => ?_)
  · have h_5 := (h_2).1 c_4
    refine y_aload_n C dX0_when_14 1 rfl rfl ?_
    refine y_iload_n C dX0_when_15 2 rfl rfl ?_
    refine y_iload_n C dX0_when_16 3 rfl rfl ?_
    refine y_callMvV (k' := 1) (n' := 8) (As := [.int (x1), .int (x2)]) (rest := []) C M cs_X0_309 (met_o_findsStumbles G A L S_3 (x1) (x2) _ (h_5)) (wCS_0 ..) rfl rfl ⟨rfl, rfl, Nat.le_of_ble_eq_true rfl, Nat.le_of_ble_eq_true rfl⟩ rfl rfl (Nat.le_of_ble_eq_true rfl) dX0_when_17 ⟨Nat.le_of_ble_eq_true rfl, Nat.le_of_ble_eq_true rfl⟩ rfl rfl (fun S_8 h_7 => ?_)
    refine y_aload_n C dX0_when_20 1 rfl rfl ?_
    refine yg_X0_297_wCS0 C dX0_when_21 ?_
    exact y_lretM C M N rfl (S := S_8) rfl (h_7) dX0_when_24 ⟨by decide, by decide⟩
  · have h_9 := (h_2).2 c_4
    refine y_iload_n C dX0_when_11 0 rfl rfl ?_
    refine y_i2l C dX0_when_12 rfl ?_
    exact y_lretM C M N rfl (S := S_3) rfl (h_9) dX0_when_13 ⟨by decide, by decide⟩
/-! OverHill listen(II)I: o_listen -/
abbrev rm_o_listen : Room := { frames := 21, cells := 1, slots := 8, locals := 12024 }
def wp_o_listen (L : Lx) (S : St) (x1 : Int32) (x2 : Int32) (Q : Int32 → St → Prop) : Prop :=
  wp_o_asksHeard L S (x1) (x2) (fun r_1 S_3 => ((0 ≤ r_1 → wp_o_listensTo L S_3 (x1) (x2) (fun r_6 S_8 => Q r_6 S_8)) ∧ (¬ 0 ≤ r_1 → Q r_1 S_3)))
set_option maxRecDepth 100000 in
theorem met_o_listen (G : Gx) (A : Nat → Nat) (L : Lx) (S : St) (x1 : Int32) (x2 : Int32) (Q : Int32 → St → Prop) (h : wp_o_listen L S x1 x2 Q) : MiA G yX0_listen (ws_ yX0_listen cX0_listen 4 (some .int)) rm_o_listen (wCS L G A S) [.ref (A 0), .int (x1), .int (x2)] (wCS L G A) Q 1 8 := by
  refine ent_Mi (by decide +kernel) rfl (Nat.le_of_ble_eq_true rfl) [(0, .ref (A 0)), (1, .int (x1)), (2, .int (x2))] rfl (fun K B C M N => ?_)
  refine y_aload_n C dX0_listen_0 0 rfl rfl ?_
  refine y_iload_n C dX0_listen_1 1 rfl rfl ?_
  refine y_iload_n C dX0_listen_2 2 rfl rfl ?_
  refine y_callXiW (k' := 1) (n' := 8) (k9 := 1) (n9 := 8) (As := [.int (x1), .int (x2)]) (rest := []) C M cs_X0_306 (met_o_asksHeard G A L S (x1) (x2) _ (h)) (wCS_0 ..) rfl rfl ⟨rfl, rfl, Nat.le_of_ble_eq_true rfl, Nat.le_of_ble_eq_true rfl⟩ rfl rfl (Nat.le_of_ble_eq_true rfl) dX0_listen_3 ⟨Nat.le_of_ble_eq_true rfl, Nat.le_of_ble_eq_true rfl⟩ rfl rfl rfl rfl (fun _ _ _ hf => hf.elim) (fun r_1 S_3 h_2 => ?_)
  refine y_istore_n C dX0_listen_6 rfl (Nat.le_of_ble_eq_true rfl) [(3, .int (r_1)), (0, .ref (A 0)), (1, .int (x1)), (2, .int (x2))] rfl ?_
  refine y_iload_n C dX0_listen_7 0 rfl rfl ?_
  refine y_if_ge C (tgt := 15) dX0_listen_8 rfl (fun c_4 => ?_) (fun c_4 => ?_)
  · have h_5 := (h_2).1 c_4
    refine y_aload_n C dX0_listen_15 1 rfl rfl ?_
    refine y_iload_n C dX0_listen_16 2 rfl rfl ?_
    refine y_iload_n C dX0_listen_17 3 rfl rfl ?_
    refine y_callMiV (k' := 1) (n' := 8) (As := [.int (x1), .int (x2)]) (rest := []) C M cs_X0_321 (met_o_listensTo G A L S_3 (x1) (x2) _ (h_5)) (wCS_0 ..) rfl rfl ⟨rfl, rfl, Nat.le_of_ble_eq_true rfl, Nat.le_of_ble_eq_true rfl⟩ rfl rfl (Nat.le_of_ble_eq_true rfl) dX0_listen_18 ⟨Nat.le_of_ble_eq_true rfl, Nat.le_of_ble_eq_true rfl⟩ rfl rfl (fun r_6 S_8 h_7 => ?_)
    exact y_iretM C M N rfl (S := S_8) rfl (h_7) dX0_listen_21 ⟨by decide, by decide⟩
  · have h_9 := (h_2).2 c_4
    refine y_iload_n C dX0_listen_11 0 rfl rfl ?_
    refine y_goto C (tgt := 21) dX0_listen_12 rfl ?_
    exact y_iretM C M N rfl (S := S_3) rfl (h_9) dX0_listen_21 ⟨by decide, by decide⟩
/-! OverHill leaves(II)I: o_leaves -/
abbrev rm_o_leaves : Room := { frames := 21, cells := 1, slots := 8, locals := 12024 }
def wp_o_leaves (L : Lx) (S : St) (x1 : Int32) (x2 : Int32) (Q : Int32 → St → Prop) : Prop :=
  wp_o_asksHeard L S (x1) (x2) (fun r_1 S_3 => ((0 ≤ r_1 → wp_o_listensTo L S_3 (x1) (x2) (fun r_6 S_8 => Q (S_8.1 0 17) S_8)) ∧ (¬ 0 ≤ r_1 → Q r_1 S_3)))
set_option maxRecDepth 100000 in
theorem met_o_leaves (G : Gx) (A : Nat → Nat) (L : Lx) (S : St) (x1 : Int32) (x2 : Int32) (Q : Int32 → St → Prop) (h : wp_o_leaves L S x1 x2 Q) : MiA G yX0_leaves (ws_ yX0_leaves cX0_leaves 4 (some .int)) rm_o_leaves (wCS L G A S) [.ref (A 0), .int (x1), .int (x2)] (wCS L G A) Q 1 8 := by
  refine ent_Mi (by decide +kernel) rfl (Nat.le_of_ble_eq_true rfl) [(0, .ref (A 0)), (1, .int (x1)), (2, .int (x2))] rfl (fun K B C M N => ?_)
  refine y_aload_n C dX0_leaves_0 0 rfl rfl ?_
  refine y_iload_n C dX0_leaves_1 1 rfl rfl ?_
  refine y_iload_n C dX0_leaves_2 2 rfl rfl ?_
  refine y_callXiW (k' := 1) (n' := 8) (k9 := 1) (n9 := 8) (As := [.int (x1), .int (x2)]) (rest := []) C M cs_X0_306 (met_o_asksHeard G A L S (x1) (x2) _ (h)) (wCS_0 ..) rfl rfl ⟨rfl, rfl, Nat.le_of_ble_eq_true rfl, Nat.le_of_ble_eq_true rfl⟩ rfl rfl (Nat.le_of_ble_eq_true rfl) dX0_leaves_3 ⟨Nat.le_of_ble_eq_true rfl, Nat.le_of_ble_eq_true rfl⟩ rfl rfl rfl rfl (fun _ _ _ hf => hf.elim) (fun r_1 S_3 h_2 => ?_)
  refine y_istore_n C dX0_leaves_6 rfl (Nat.le_of_ble_eq_true rfl) [(3, .int (r_1)), (0, .ref (A 0)), (1, .int (x1)), (2, .int (x2))] rfl ?_
  refine y_iload_n C dX0_leaves_7 0 rfl rfl ?_
  refine y_if_ge C (tgt := 13) dX0_leaves_8 rfl (fun c_4 => ?_) (fun c_4 => ?_)
  · have h_5 := (h_2).1 c_4
    refine y_aload_n C dX0_leaves_13 1 rfl rfl ?_
    refine y_iload_n C dX0_leaves_14 2 rfl rfl ?_
    refine y_iload_n C dX0_leaves_15 3 rfl rfl ?_
    refine y_callMiV (k' := 1) (n' := 8) (As := [.int (x1), .int (x2)]) (rest := []) C M cs_X0_321 (met_o_listensTo G A L S_3 (x1) (x2) _ (h_5)) (wCS_0 ..) rfl rfl ⟨rfl, rfl, Nat.le_of_ble_eq_true rfl, Nat.le_of_ble_eq_true rfl⟩ rfl rfl (Nat.le_of_ble_eq_true rfl) dX0_leaves_16 ⟨Nat.le_of_ble_eq_true rfl, Nat.le_of_ble_eq_true rfl⟩ rfl rfl (fun r_6 S_8 h_7 => ?_)
    refine y_pop C dX0_leaves_19 rfl ?_
    refine y_aload_n C dX0_leaves_20 1 rfl rfl ?_
    refine yg_X0_315_wCS0 C dX0_leaves_21 ?_
    exact y_iretM C M N rfl (S := S_8) rfl (h_7) dX0_leaves_24 ⟨by decide, by decide⟩
  · have h_9 := (h_2).2 c_4
    refine y_iload_n C dX0_leaves_11 0 rfl rfl ?_
    exact y_iretM C M N rfl (S := S_3) rfl (h_9) dX0_leaves_12 ⟨by decide, by decide⟩
