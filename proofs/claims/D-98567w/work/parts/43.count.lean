/-! printed by tools/gen.py -/
set_option maxRecDepth 100000
theorem al_200 : Int32.ofNat 200 = (200 : Int32) := rfl
theorem yg_X0_12_wCS0 {G : Gx} {K : Kx} {cc : ByteArray} {rm : Room} {nL : Nat} {ret : Option FieldType} {k n pc : Nat} {A : Nat → Nat} {L : Lx} {S : St} {lv : List (Nat × Value)} {st : List Value} (C : KOk G K RX0 cc rm nL ret) (hdg : decode cc pc = .ok (.getfield 12, 3)) (kk : Y G K k n (wCS L G A S) (pc + 3) lv (.ref (A 15) :: st)) : Y G K k n (wCS L G A S) pc lv (.ref (A 0) :: st) := y_get C (ref := "OverHill") (Cn := RX0) (T := TX0) (N := 34) in_X0 (wCS_0 ..) rfl 0 (by decide) q404 (fun _ _ h => h) (fs_C0_f0 A S) hdg kk
theorem yg_X0_188_wCS15 {G : Gx} {K : Kx} {cc : ByteArray} {rm : Room} {nL : Nat} {ret : Option FieldType} {k n pc : Nat} {A : Nat → Nat} {L : Lx} {S : St} {lv : List (Nat × Value)} {st : List Value} (C : KOk G K RX0 cc rm nL ret) (hdg : decode cc pc = .ok (.getfield 188, 3)) (kk : Y G K k n (wCS L G A S) (pc + 3) lv (.int (S.1 15 0) :: st)) : Y G K k n (wCS L G A S) pc lv (.ref (A 15) :: st) := y_getN C (ref := "OverHill$Dance") (Cn := RX1) (T := TX1) (N := 22) in_X1 (wCS_15 ..) rfl 0 (by decide) q189 (fun _ _ h => h) (fs_C15_f0 A S) hdg kk
theorem yg_X0_429_wCS15 {G : Gx} {K : Kx} {cc : ByteArray} {rm : Room} {nL : Nat} {ret : Option FieldType} {k n pc : Nat} {A : Nat → Nat} {L : Lx} {S : St} {lv : List (Nat × Value)} {st : List Value} (C : KOk G K RX0 cc rm nL ret) (hdg : decode cc pc = .ok (.getfield 429, 3)) (kk : Y G K k n (wCS L G A S) (pc + 3) lv (.int (S.1 15 1) :: st)) : Y G K k n (wCS L G A S) pc lv (.ref (A 15) :: st) := y_getN C (ref := "OverHill$Dance") (Cn := RX1) (T := TX1) (N := 22) in_X1 (wCS_15 ..) rfl 1 (by decide) q192 (fun _ _ h => h) (fs_C15_f1 A S) hdg kk
theorem yg_X0_399_wCS15 {G : Gx} {K : Kx} {cc : ByteArray} {rm : Room} {nL : Nat} {ret : Option FieldType} {k n pc : Nat} {A : Nat → Nat} {L : Lx} {S : St} {lv : List (Nat × Value)} {st : List Value} (C : KOk G K RX0 cc rm nL ret) (hdg : decode cc pc = .ok (.getfield 399, 3)) (kk : Y G K k n (wCS L G A S) (pc + 3) lv (.int (S.1 15 2) :: st)) : Y G K k n (wCS L G A S) pc lv (.ref (A 15) :: st) := y_getN C (ref := "OverHill$Dance") (Cn := RX1) (T := TX1) (N := 22) in_X1 (wCS_15 ..) rfl 2 (by decide) q195 (fun _ _ h => h) (fs_C15_f2 A S) hdg kk
theorem yg_X0_144_wCS15 {G : Gx} {K : Kx} {cc : ByteArray} {rm : Room} {nL : Nat} {ret : Option FieldType} {k n pc : Nat} {A : Nat → Nat} {L : Lx} {S : St} {lv : List (Nat × Value)} {st : List Value} (C : KOk G K RX0 cc rm nL ret) (hdg : decode cc pc = .ok (.getfield 144, 3)) (kk : Y G K k n (wCS L G A S) (pc + 3) lv (.ref (A 16) :: st)) : Y G K k n (wCS L G A S) pc lv (.ref (A 15) :: st) := y_getN C (ref := "OverHill$Dance") (Cn := RX1) (T := TX1) (N := 22) in_X1 (wCS_15 ..) rfl 8 (by decide) q213 (fun _ _ h => h) (fs_C15_f8 A S) hdg kk
theorem yg_X0_147_wCS15 {G : Gx} {K : Kx} {cc : ByteArray} {rm : Room} {nL : Nat} {ret : Option FieldType} {k n pc : Nat} {A : Nat → Nat} {L : Lx} {S : St} {lv : List (Nat × Value)} {st : List Value} (C : KOk G K RX0 cc rm nL ret) (hdg : decode cc pc = .ok (.getfield 147, 3)) (kk : Y G K k n (wCS L G A S) (pc + 3) lv (.int (S.1 15 4) :: st)) : Y G K k n (wCS L G A S) pc lv (.ref (A 15) :: st) := y_getN C (ref := "OverHill$Dance") (Cn := RX1) (T := TX1) (N := 22) in_X1 (wCS_15 ..) rfl 4 (by decide) q201 (fun _ _ h => h) (fs_C15_f4 A S) hdg kk
theorem yg_X0_184_wCS15 {G : Gx} {K : Kx} {cc : ByteArray} {rm : Room} {nL : Nat} {ret : Option FieldType} {k n pc : Nat} {A : Nat → Nat} {L : Lx} {S : St} {lv : List (Nat × Value)} {st : List Value} (C : KOk G K RX0 cc rm nL ret) (hdg : decode cc pc = .ok (.getfield 184, 3)) (kk : Y G K k n (wCS L G A S) (pc + 3) lv (.ref (A 29) :: st)) : Y G K k n (wCS L G A S) pc lv (.ref (A 15) :: st) := y_getN C (ref := "OverHill$Dance") (Cn := RX1) (T := TX1) (N := 22) in_X1 (wCS_15 ..) rfl 21 (by decide) q255 (fun _ _ h => h) (fs_C15_f21 A S) hdg kk
theorem yg_X0_329_wCS15 {G : Gx} {K : Kx} {cc : ByteArray} {rm : Room} {nL : Nat} {ret : Option FieldType} {k n pc : Nat} {A : Nat → Nat} {L : Lx} {S : St} {lv : List (Nat × Value)} {st : List Value} (C : KOk G K RX0 cc rm nL ret) (hdg : decode cc pc = .ok (.getfield 329, 3)) (kk : Y G K k n (wCS L G A S) (pc + 3) lv (.int (S.1 15 5) :: st)) : Y G K k n (wCS L G A S) pc lv (.ref (A 15) :: st) := y_getN C (ref := "OverHill$Dance") (Cn := RX1) (T := TX1) (N := 22) in_X1 (wCS_15 ..) rfl 5 (by decide) q204 (fun _ _ h => h) (fs_C15_f5 A S) hdg kk
theorem yg_X0_362_wCS15 {G : Gx} {K : Kx} {cc : ByteArray} {rm : Room} {nL : Nat} {ret : Option FieldType} {k n pc : Nat} {A : Nat → Nat} {L : Lx} {S : St} {lv : List (Nat × Value)} {st : List Value} (C : KOk G K RX0 cc rm nL ret) (hdg : decode cc pc = .ok (.getfield 362, 3)) (kk : Y G K k n (wCS L G A S) (pc + 3) lv (.int (S.1 15 6) :: st)) : Y G K k n (wCS L G A S) pc lv (.ref (A 15) :: st) := y_getN C (ref := "OverHill$Dance") (Cn := RX1) (T := TX1) (N := 22) in_X1 (wCS_15 ..) rfl 6 (by decide) q207 (fun _ _ h => h) (fs_C15_f6 A S) hdg kk
theorem yg_X0_472_wCS15 {G : Gx} {K : Kx} {cc : ByteArray} {rm : Room} {nL : Nat} {ret : Option FieldType} {k n pc : Nat} {A : Nat → Nat} {L : Lx} {S : St} {lv : List (Nat × Value)} {st : List Value} (C : KOk G K RX0 cc rm nL ret) (hdg : decode cc pc = .ok (.getfield 472, 3)) (kk : Y G K k n (wCS L G A S) (pc + 3) lv (.int (S.1 15 7) :: st)) : Y G K k n (wCS L G A S) pc lv (.ref (A 15) :: st) := y_getN C (ref := "OverHill$Dance") (Cn := RX1) (T := TX1) (N := 22) in_X1 (wCS_15 ..) rfl 7 (by decide) q209 (fun _ _ h => h) (fs_C15_f7 A S) hdg kk
theorem yg_X0_117_wCS15 {G : Gx} {K : Kx} {cc : ByteArray} {rm : Room} {nL : Nat} {ret : Option FieldType} {k n pc : Nat} {A : Nat → Nat} {L : Lx} {S : St} {lv : List (Nat × Value)} {st : List Value} (C : KOk G K RX0 cc rm nL ret) (hdg : decode cc pc = .ok (.getfield 117, 3)) (kk : Y G K k n (wCS L G A S) (pc + 3) lv (.int (S.1 15 3) :: st)) : Y G K k n (wCS L G A S) pc lv (.ref (A 15) :: st) := y_getN C (ref := "OverHill$Dance") (Cn := RX1) (T := TX1) (N := 22) in_X1 (wCS_15 ..) rfl 3 (by decide) q197 (fun _ _ h => h) (fs_C15_f3 A S) hdg kk
theorem yg_X0_96_wCS0 {G : Gx} {K : Kx} {cc : ByteArray} {rm : Room} {nL : Nat} {ret : Option FieldType} {k n pc : Nat} {A : Nat → Nat} {L : Lx} {S : St} {lv : List (Nat × Value)} {st : List Value} (C : KOk G K RX0 cc rm nL ret) (hdg : decode cc pc = .ok (.getfield 96, 3)) (kk : Y G K k n (wCS L G A S) (pc + 3) lv (.int (S.1 0 2) :: st)) : Y G K k n (wCS L G A S) pc lv (.ref (A 0) :: st) := y_get C (ref := "OverHill") (Cn := RX0) (T := TX0) (N := 34) in_X0 (wCS_0 ..) rfl 2 (by decide) q409 (fun _ _ h => h) (fs_C0_f2 A S) hdg kk
/-! OverHill count(I)I: o_count -/
abbrev rm_o_count : Room := { frames := 1, cells := 0, slots := 0, locals := 40 }
def wp_o_count_b208 (L : Lx) (S : St) (Q : Int32 → Prop) : Nat → Int32 → Int32 → Prop
  | 0 => fun _ _ => False
  | n + 1 => fun x2 x3 => ((4 ≤ x3 → Q x2) ∧ (¬ 4 ≤ x3 → (vp_in x3 4 ∧ ((¬ L.1 (x3).toNatClampNeg = 0 → wp_o_count_b208 L S Q n ((x2 + 1)) ((x3 + 1))) ∧ (L.1 (x3).toNatClampNeg = 0 → wp_o_count_b208 L S Q n ((x2 + 0)) ((x3 + 1)))))))
def wp_o_count_b135 (L : Lx) (S : St) (Q : Int32 → Prop) : Nat → Int32 → Int32 → Int32 → Prop
  | 0 => fun _ _ _ => False
  | n + 1 => fun x2 x4 x5 => ((x4 ≤ x5 → Q x2) ∧ (¬ x4 ≤ x5 → (vp_in x5 200 ∧ (((S.1 29 (x5).toNatClampNeg) = 0 → wp_o_count_b135 L S Q n ((x2 + 0)) (x4) ((x5 + 1))) ∧ (¬ (S.1 29 (x5).toNatClampNeg) = 0 → wp_o_count_b135 L S Q n ((x2 + 1)) (x4) ((x5 + 1)))))))
def wp_o_count (L : Lx) (S : St) (x1 : Int32) (Q : Int32 → Prop) : Prop :=
  (((x1).toInt < 0 ∨ 12 < (x1).toInt → Q (-1)) ∧ (x1 = 0 → Q (S.1 15 0)) ∧ (x1 = 1 → Q (S.1 15 1)) ∧ (x1 = 2 → Q (S.1 15 2)) ∧ (x1 = 3 → Q (S.1 16 0)) ∧ (x1 = 4 → Q (S.1 16 1)) ∧ (x1 = 5 → Q (S.1 15 4)) ∧ (x1 = 6 → (∃ z, wp_o_count_b135 L S Q z (0) (200) (0))) ∧ (x1 = 7 → Q (S.1 15 5)) ∧ (x1 = 8 → Q (S.1 15 6)) ∧ (x1 = 9 → Q (S.1 15 7)) ∧ (x1 = 10 → Q (S.1 15 3)) ∧ (x1 = 11 → Q (S.1 0 2)) ∧ (x1 = 12 → (∃ z, wp_o_count_b208 L S Q z (0) (0))))
set_option maxRecDepth 100000 in
theorem wk_o_count_b208 {G : Gx} {K : Kx} {L : Lx} {A : Nat → Nat} (C : KOk G K RX0 cX0_count rm_o_count 7 (some .int)) {S : St} {Q : Int32 → Prop} (N : KRi K Q) : ∀ (n : Nat), ∀ (x2 : Int32) (x3 : Int32), wp_o_count_b208 L S Q n x2 x3 → Y G K 0 0 (wCS L G A S) 208 [(0, .ref (A 0)), (2, .int (x2)), (3, .int (x3))] [] := by
  intro n
  induction n with
  | zero => intro x2 x3 h; exact h.elim
  | succ n ih =>
    intro x2 x3 h
    dsimp only [wp_o_count_b208] at h
    refine y_iload_n C dX0_count_208 2 rfl rfl ?_
    refine y_iconst C dX0_count_209 ic_4 ?_
    refine y_icmp_ge C (tgt := 239) dX0_count_210 rfl (fun c_26 => ?_) (fun c_26 => ?_)
    · have h_27 := (h).1 c_26
      refine y_iload_n C dX0_count_239 1 rfl rfl ?_
      exact y_iretR C N rfl (h_27) dX0_count_240
    · have h_28 := (h).2 c_26
      refine y_iload_n C dX0_count_213 1 rfl rfl ?_
      refine y_aload_n C dX0_count_214 0 rfl rfl ?_
      refine yg_X0_85_wCS0 C dX0_count_215 ?_
      refine y_iload_n C dX0_count_218 2 rfl rfl ?_
      refine y_aaldS C (h_28).1 dX0_count_219 ?_
      refine y_rowIf C (h_28).1 (tgt := 230) q372 dX0_count_220 dX0_count_223 rfl (fun c_29 => ?_) (fun c_29 => ?_)
      · have h_30 := ((h_28).2).1 c_29
        refine y_iconst C dX0_count_230 ic_1 ?_
        refine y_iadd C dX0_count_231 ?_
        refine y_istore_n C dX0_count_232 rfl (Nat.le_of_ble_eq_true rfl) [(2, .int ((x2 + 1))), (0, .ref (A 0)), (3, .int (x3))] rfl ?_
        refine y_iinc C dX0_count_233 2 rfl (Nat.le_of_ble_eq_true rfl) (ii_1 _) [(3, .int ((x3 + 1))), (2, .int ((x2 + 1))), (0, .ref (A 0))] rfl ?_
        refine y_goto C (tgt := 208) dX0_count_236 rfl ?_
        exact Y.sub (ih ((x2 + 1)) ((x3 + 1)) (h_30)) [2, 1, 0] rfl
      · have h_31 := ((h_28).2).2 c_29
        refine y_iconst C dX0_count_226 ic_0 ?_
        refine y_goto C (tgt := 231) dX0_count_227 rfl ?_
        refine y_iadd C dX0_count_231 ?_
        refine y_istore_n C dX0_count_232 rfl (Nat.le_of_ble_eq_true rfl) [(2, .int ((x2 + 0))), (0, .ref (A 0)), (3, .int (x3))] rfl ?_
        refine y_iinc C dX0_count_233 2 rfl (Nat.le_of_ble_eq_true rfl) (ii_1 _) [(3, .int ((x3 + 1))), (2, .int ((x2 + 0))), (0, .ref (A 0))] rfl ?_
        refine y_goto C (tgt := 208) dX0_count_236 rfl ?_
        exact Y.sub (ih ((x2 + 0)) ((x3 + 1)) (h_31)) [2, 1, 0] rfl
set_option maxRecDepth 100000 in
theorem wk_o_count_b135 {G : Gx} {K : Kx} {L : Lx} {A : Nat → Nat} (C : KOk G K RX0 cX0_count rm_o_count 7 (some .int)) {S : St} {Q : Int32 → Prop} (N : KRi K Q) : ∀ (n : Nat), ∀ (x2 : Int32) (x4 : Int32) (x5 : Int32), wp_o_count_b135 L S Q n x2 x4 x5 → Y G K 0 0 (wCS L G A S) 135 [(2, .int (x2)), (3, .ref (A 29)), (4, .int (x4)), (5, .int (x5))] [] := by
  intro n
  induction n with
  | zero => intro x2 x4 x5 h; exact h.elim
  | succ n ih =>
    intro x2 x4 x5 h
    dsimp only [wp_o_count_b135] at h
    refine y_iload C dX0_count_135 3 rfl ?_
    refine y_iload C dX0_count_137 2 rfl ?_
    refine y_icmp_ge C (tgt := 167) dX0_count_139 rfl (fun c_20 => ?_) (fun c_20 => ?_)
    · have h_21 := (h).1 c_20
      refine y_iload_n C dX0_count_167 0 rfl rfl ?_
      exact y_iretR C N rfl (h_21) dX0_count_168
    · have h_22 := (h).2 c_20
      refine y_aload_n C dX0_count_142 1 rfl rfl ?_
      refine y_iload C dX0_count_143 3 rfl ?_
      refine y_zald C (wCS_29 ..) rfl (h_22).1 dX0_count_145 ?_
      refine y_istore C dX0_count_146 (Nat.le_of_ble_eq_true rfl) [(6, .int ((S.1 29 (x5).toNatClampNeg))), (2, .int (x2)), (3, .ref (A 29)), (4, .int (x4)), (5, .int (x5))] rfl ?_
      refine y_iload_n C dX0_count_148 1 rfl rfl ?_
      refine y_iload C dX0_count_149 0 rfl ?_
      refine y_if_eq C (tgt := 158) dX0_count_151 rfl (fun c_23 => ?_) (fun c_23 => ?_)
      · have h_24 := ((h_22).2).1 c_23
        refine y_iconst C dX0_count_158 ic_0 ?_
        refine y_iadd C dX0_count_159 ?_
        refine y_istore_n C dX0_count_160 rfl (Nat.le_of_ble_eq_true rfl) [(2, .int ((x2 + 0))), (6, .int ((S.1 29 (x5).toNatClampNeg))), (3, .ref (A 29)), (4, .int (x4)), (5, .int (x5))] rfl ?_
        refine y_iinc C dX0_count_161 4 rfl (Nat.le_of_ble_eq_true rfl) (ii_1 _) [(5, .int ((x5 + 1))), (2, .int ((x2 + 0))), (6, .int ((S.1 29 (x5).toNatClampNeg))), (3, .ref (A 29)), (4, .int (x4))] rfl ?_
        refine y_goto C (tgt := 135) dX0_count_164 rfl ?_
        exact Y.sub (ih ((x2 + 0)) (x4) ((x5 + 1)) (h_24)) [1, 3, 4, 0] rfl
      · have h_25 := ((h_22).2).2 c_23
        refine y_iconst C dX0_count_154 ic_1 ?_
        refine y_goto C (tgt := 159) dX0_count_155 rfl ?_
        refine y_iadd C dX0_count_159 ?_
        refine y_istore_n C dX0_count_160 rfl (Nat.le_of_ble_eq_true rfl) [(2, .int ((x2 + 1))), (6, .int ((S.1 29 (x5).toNatClampNeg))), (3, .ref (A 29)), (4, .int (x4)), (5, .int (x5))] rfl ?_
        refine y_iinc C dX0_count_161 4 rfl (Nat.le_of_ble_eq_true rfl) (ii_1 _) [(5, .int ((x5 + 1))), (2, .int ((x2 + 1))), (6, .int ((S.1 29 (x5).toNatClampNeg))), (3, .ref (A 29)), (4, .int (x4))] rfl ?_
        refine y_goto C (tgt := 135) dX0_count_164 rfl ?_
        exact Y.sub (ih ((x2 + 1)) (x4) ((x5 + 1)) (h_25)) [1, 3, 4, 0] rfl
set_option maxRecDepth 100000 in
theorem met_o_count (G : Gx) (A : Nat → Nat) (L : Lx) (S : St) (x1 : Int32) (Q : Int32 → Prop) (h : wp_o_count L S x1 Q) : Ri G yX0_count (ws_ yX0_count cX0_count 7 (some .int)) rm_o_count (wCS L G A S) [.ref (A 0), .int (x1)] Q := by
  refine ent_Ri (by decide +kernel) rfl (Nat.le_of_ble_eq_true rfl) [(0, .ref (A 0)), (1, .int (x1))] rfl (fun K C N => ?_)
  refine y_iconst C dX0_count_0 ic_0 ?_
  refine y_istore_n C dX0_count_1 rfl (Nat.le_of_ble_eq_true rfl) [(2, .int (0)), (0, .ref (A 0)), (1, .int (x1))] rfl ?_
  refine y_iload_n C dX0_count_2 2 rfl rfl ?_
  refine y_tsw C (lo := 0) (hi := 12) dX0_count_3 (tgt := 241) rfl (fun c_2 => ?_) (fun c_2 => ?_)
  · have h_1 := (h).1 c_2
    refine y_iconst C dX0_count_241 icm1 ?_
    exact y_iretR C N rfl (h_1) dX0_count_242
  · rcases y_cases12 c_2 with c_2 | c_2 | c_2 | c_2 | c_2 | c_2 | c_2 | c_2 | c_2 | c_2 | c_2 | c_2 | c_2
    · have h_3 := ((h).2).1 c_2
      refine y_tswIn C dX0_count_3 c_2 (tgt := 68) (by decide) (by decide) rfl rfl ?_
      refine y_aload_n C dX0_count_68 1 rfl rfl ?_
      refine yg_X0_12_wCS0 C dX0_count_69 ?_
      refine yg_X0_188_wCS15 C dX0_count_72 ?_
      exact y_iretR C N rfl (h_3) dX0_count_75
    · have h_4 := (((h).2).2).1 c_2
      refine y_tswIn C dX0_count_3 c_2 (tgt := 76) (by decide) (by decide) rfl rfl ?_
      refine y_aload_n C dX0_count_76 1 rfl rfl ?_
      refine yg_X0_12_wCS0 C dX0_count_77 ?_
      refine yg_X0_429_wCS15 C dX0_count_80 ?_
      exact y_iretR C N rfl (h_4) dX0_count_83
    · have h_5 := ((((h).2).2).2).1 c_2
      refine y_tswIn C dX0_count_3 c_2 (tgt := 84) (by decide) (by decide) rfl rfl ?_
      refine y_aload_n C dX0_count_84 1 rfl rfl ?_
      refine yg_X0_12_wCS0 C dX0_count_85 ?_
      refine yg_X0_399_wCS15 C dX0_count_88 ?_
      exact y_iretR C N rfl (h_5) dX0_count_91
    · have h_6 := (((((h).2).2).2).2).1 c_2
      refine y_tswIn C dX0_count_3 c_2 (tgt := 92) (by decide) (by decide) rfl rfl ?_
      refine y_aload_n C dX0_count_92 1 rfl rfl ?_
      refine yg_X0_12_wCS0 C dX0_count_93 ?_
      refine yg_X0_144_wCS15 C dX0_count_96 ?_
      refine y_iconst C dX0_count_99 ic_0 ?_
      refine y_iald C (wCS_16 ..) tn_0 vi_0_2 dX0_count_100 ?_
      exact y_iretR C N rfl (h_6) dX0_count_101
    · have h_7 := ((((((h).2).2).2).2).2).1 c_2
      refine y_tswIn C dX0_count_3 c_2 (tgt := 102) (by decide) (by decide) rfl rfl ?_
      refine y_aload_n C dX0_count_102 1 rfl rfl ?_
      refine yg_X0_12_wCS0 C dX0_count_103 ?_
      refine yg_X0_144_wCS15 C dX0_count_106 ?_
      refine y_iconst C dX0_count_109 ic_1 ?_
      refine y_iald C (wCS_16 ..) tn_1 vi_1_2 dX0_count_110 ?_
      exact y_iretR C N rfl (h_7) dX0_count_111
    · have h_8 := (((((((h).2).2).2).2).2).2).1 c_2
      refine y_tswIn C dX0_count_3 c_2 (tgt := 112) (by decide) (by decide) rfl rfl ?_
      refine y_aload_n C dX0_count_112 1 rfl rfl ?_
      refine yg_X0_12_wCS0 C dX0_count_113 ?_
      refine yg_X0_147_wCS15 C dX0_count_116 ?_
      exact y_iretR C N rfl (h_8) dX0_count_119
    · have h_9 := ((((((((h).2).2).2).2).2).2).2).1 c_2
      refine y_tswIn C dX0_count_3 c_2 (tgt := 120) (by decide) (by decide) rfl rfl ?_
      refine y_aload_n C dX0_count_120 1 rfl rfl ?_
      refine yg_X0_12_wCS0 C dX0_count_121 ?_
      refine yg_X0_184_wCS15 C dX0_count_124 ?_
      refine y_astore_n C dX0_count_127 rfl (Nat.le_of_ble_eq_true rfl) [(3, .ref (A 29)), (2, .int (0)), (0, .ref (A 0)), (1, .int (x1))] rfl ?_
      refine y_aload_n C dX0_count_128 0 rfl rfl ?_
      refine y_alen C 2 (wCS_29 ..) rfl al_200 dX0_count_129 ?_
      refine y_istore C dX0_count_130 (Nat.le_of_ble_eq_true rfl) [(4, .int (200)), (3, .ref (A 29)), (2, .int (0)), (0, .ref (A 0)), (1, .int (x1))] rfl ?_
      refine y_iconst C dX0_count_132 ic_0 ?_
      refine y_istore C dX0_count_133 (Nat.le_of_ble_eq_true rfl) [(5, .int (0)), (4, .int (200)), (3, .ref (A 29)), (2, .int (0)), (0, .ref (A 0)), (1, .int (x1))] rfl ?_
      obtain ⟨n_10, h_11⟩ := h_9
      exact Y.sub (wk_o_count_b135 C N n_10 (0) (200) (0) h_11) [3, 2, 1, 0] rfl
    · have h_12 := (((((((((h).2).2).2).2).2).2).2).2).1 c_2
      refine y_tswIn C dX0_count_3 c_2 (tgt := 169) (by decide) (by decide) rfl rfl ?_
      refine y_aload_n C dX0_count_169 1 rfl rfl ?_
      refine yg_X0_12_wCS0 C dX0_count_170 ?_
      refine yg_X0_329_wCS15 C dX0_count_173 ?_
      exact y_iretR C N rfl (h_12) dX0_count_176
    · have h_13 := ((((((((((h).2).2).2).2).2).2).2).2).2).1 c_2
      refine y_tswIn C dX0_count_3 c_2 (tgt := 177) (by decide) (by decide) rfl rfl ?_
      refine y_aload_n C dX0_count_177 1 rfl rfl ?_
      refine yg_X0_12_wCS0 C dX0_count_178 ?_
      refine yg_X0_362_wCS15 C dX0_count_181 ?_
      exact y_iretR C N rfl (h_13) dX0_count_184
    · have h_14 := (((((((((((h).2).2).2).2).2).2).2).2).2).2).1 c_2
      refine y_tswIn C dX0_count_3 c_2 (tgt := 185) (by decide) (by decide) rfl rfl ?_
      refine y_aload_n C dX0_count_185 1 rfl rfl ?_
      refine yg_X0_12_wCS0 C dX0_count_186 ?_
      refine yg_X0_472_wCS15 C dX0_count_189 ?_
      exact y_iretR C N rfl (h_14) dX0_count_192
    · have h_15 := ((((((((((((h).2).2).2).2).2).2).2).2).2).2).2).1 c_2
      refine y_tswIn C dX0_count_3 c_2 (tgt := 193) (by decide) (by decide) rfl rfl ?_
      refine y_aload_n C dX0_count_193 1 rfl rfl ?_
      refine yg_X0_12_wCS0 C dX0_count_194 ?_
      refine yg_X0_117_wCS15 C dX0_count_197 ?_
      exact y_iretR C N rfl (h_15) dX0_count_200
    · have h_16 := (((((((((((((h).2).2).2).2).2).2).2).2).2).2).2).2).1 c_2
      refine y_tswIn C dX0_count_3 c_2 (tgt := 201) (by decide) (by decide) rfl rfl ?_
      refine y_aload_n C dX0_count_201 1 rfl rfl ?_
      refine yg_X0_96_wCS0 C dX0_count_202 ?_
      exact y_iretR C N rfl (h_16) dX0_count_205
    · have h_17 := (((((((((((((h).2).2).2).2).2).2).2).2).2).2).2).2).2 c_2
      refine y_tswIn C dX0_count_3 c_2 (tgt := 206) (by decide) (by decide) rfl rfl ?_
      refine y_iconst C dX0_count_206 ic_0 ?_
      refine y_istore_n C dX0_count_207 rfl (Nat.le_of_ble_eq_true rfl) [(3, .int (0)), (2, .int (0)), (0, .ref (A 0)), (1, .int (x1))] rfl ?_
      obtain ⟨n_18, h_19⟩ := h_17
      exact Y.sub (wk_o_count_b208 C N n_18 (0) (0) h_19) [2, 1, 0] rfl
