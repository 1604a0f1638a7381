/-! printed by tools/mk_ref.py -/
set_option maxRecDepth 100000
theorem str_recv {G : Gx} {A : Nat → Prop} {s : State} {H : Heap} {locs : List Loc} {i : Nat} (hi : i < 16) (h : SF G A s s.heap) (hS : va_S A s.heap H locs) : ∃ cell : Cell, H[G.2.2.2 (10 + i)]? = some cell ∧ cell.vm.isStatics = false ∧ s.vm.findClass "java/lang/String" = some cell.cls := vk_recv (adK := fun i => G.2.2.2 (10 + i)) h.2.2.2.2.2.2.2.1 hi hS
theorem sh0 (x : Int32) : x >>> ((0 : Int32) &&& 31) = x := by
  rw [show ((0 : Int32) &&& 31) = 0 from by decide]
  exact Int32.shiftRight_zero
theorem vin_neg {j : Int32} {N : Nat} (h : vp_in j N) : ¬ j < 0 := fun z => h (Or.inl z)
theorem vin_lt {j : Int32} {N : Nat} (h : vp_in j N) (hN : N < 2 ^ 31) : j < nI N := by
  have h1 : ¬ N ≤ j.toNatClampNeg := fun z => h (Or.inr z)
  have h2 := vin_neg h
  have h3 : nI j.toNatClampNeg = j := by
    have h4 : (0 : Int) ≤ j.toInt := by
      have := Int32.not_lt.mp h2
      simpa using Int32.le_iff_toInt_le.mp this
    apply Int32.toInt_inj.mp
    rw [nI_toInt (by omega)]
    show ((j.toInt.toNat : Nat) : Int) = j.toInt
    omega
  rw [← h3]
  exact nI_lt (by omega) hN
theorem strLen_lt : ∀ i, i < 16 → strLen.getD i 0 < 2 ^ 31 := by decide
theorem chr_all : ∀ i, i < 16 → ∀ j, j < strLen.getD i 0 → ((((strByt.getD i []).getD j 0 &&& (255 : Int32)) : Int32).toUInt32 % 65536).toInt32 = (strByt.getD i []).getD j 0 := by decide +kernel
theorem chr_nar : ∀ i, i < 16 → ∀ j, j < strLen.getD i 0 → narrow .char (.int ((strByt.getD i []).getD j 0)) = .int ((strByt.getD i []).getD j 0) := by decide +kernel
theorem chr_eq {i : Nat} (hi : i < 16) {j : Int32} (hj : vp_in j (strLen.getD i 0)) : ((((strByt.getD i []).getD j.toNatClampNeg 0 &&& (255 : Int32)) : Int32).toUInt32 % 65536).toInt32 = (strByt.getD i []).getD j.toNatClampNeg 0 := chr_all i hi _ (Nat.not_le.mp fun z => hj (Or.inr z))
theorem sp_255 : (Int16.ofInt (255)).toInt32 = (255 : Int32) := by decide
theorem cs_J4_335 : CsV RJ4 335 yJ4_coder cJ4_coder 1 (some .byte) 0 := ⟨lw_V q610 q611 q612 q155 q613, by decide +kernel⟩
theorem cs_J4_1059 : CsS RJ4 1059 yJ6_checkIndex cJ6_checkIndex 3 (some .int) 3 := ⟨lw_S q632 q633 q157 q634, by decide +kernel⟩
theorem cs_J5_9 : CsS RJ5 9 yJ4_checkIndex cJ4_checkIndex 2 none 2 := ⟨lw_S q627 q628 q155 q629, by decide +kernel⟩
theorem cs_J4_492 : CsV RJ4 492 yJ4_isLatin1 cJ4_isLatin1 1 (some .boolean) 0 := ⟨lw_V q620 q621 q622 q155 q623, by decide +kernel⟩
theorem cs_J4_495 : CsS RJ4 495 yJ5_charAt cJ5_charAt 2 (some .char) 2 := ⟨lw_S q624 q625 q156 q626, by decide +kernel⟩
abbrev rm_coder : Room := { frames := 1, cells := 0, slots := 0, locals := 40 }
set_option maxRecDepth 100000 in
theorem mk_coder (G : Gx) (i : Nat) (hi : i < 16) : MiA G yJ4_coder (ws_ yJ4_coder cJ4_coder 1 (some .byte)) rm_coder [] [.ref (G.2.2.2 (10 + i))] (fun _ : Unit => []) (fun (r : Int32) (_ : Unit) => r = 0) 0 0 := by
  refine ent_Mi (by decide +kernel) rfl (Nat.le_of_ble_eq_true rfl) [(0, .ref (G.2.2.2 (10 + i)))] rfl (fun K B0 C M N => ?_)
  refine y_gets C M (Cn := "java/lang/String") (nm := "COMPACT_STRINGS") (d := "Z") (v := .int 1) (fun _ _ _ h => h.2.2.2.2.2.2.2.2.1) q614 (fun _ _ h => h) dJ4_coder_0 ?_
  refine y_if_eq C (tgt := 13) dJ4_coder_3 rfl (fun c => absurd c (by decide)) (fun _ => ?_)
  refine y_aload_n C dJ4_coder_6 0 rfl rfl ?_
  refine y_strCoder C M hi q2325 dJ4_coder_7 ?_
  refine y_goto C (tgt := 14) dJ4_coder_10 rfl ?_
  exact y_zretM C M N rfl rfl (S := ()) rfl rfl dJ4_coder_14 ⟨Nat.le_of_ble_eq_true rfl, Nat.le_of_ble_eq_true rfl⟩
abbrev rm_slen : Room := { frames := 2, cells := 0, slots := 0, locals := 80 }
set_option maxRecDepth 100000 in
theorem mk_slen (G : Gx) (i : Nat) (hi : i < 16) : MiA G yJ4_length (ws_ yJ4_length cJ4_length 1 (some .int)) rm_slen [] [.ref (G.2.2.2 (10 + i))] (fun _ : Unit => []) (fun (r : Int32) (_ : Unit) => r = nI (strLen.getD i 0)) 0 0 := by
  refine ent_Mi (by decide +kernel) rfl (Nat.le_of_ble_eq_true rfl) [(0, .ref (G.2.2.2 (10 + i)))] rfl (fun K B0 C M N => ?_)
  refine y_aload_n C dJ4_length_0 0 rfl rfl ?_
  refine y_strValue C M hi q2324 dJ4_length_1 ?_
  refine y_strLen C M hi dJ4_length_4 ?_
  refine y_aload_n C dJ4_length_5 0 rfl rfl ?_
  refine y_callFiX C M (As := []) (rest := [.int ((nI (strLen.getD i 0)))]) (wc := []) (wr := []) cs_J4_335 (mk_coder G i hi) ⟨[], [], rfl, rfl, by decide, by decide, by decide⟩ (fun _ _ _ _ h hS => str_recv hi h hS) ⟨rfl, rfl, Nat.le_of_ble_eq_true rfl, Nat.le_of_ble_eq_true rfl⟩ rfl rfl (Nat.le_of_ble_eq_true rfl) dJ4_length_6 ⟨Nat.le_of_ble_eq_true rfl, Nat.le_of_ble_eq_true rfl⟩ (k' := 0) (n' := 0) rfl rfl (fun r_2 _ h_1 => ?_)
  subst h_1
  refine Y.eqw (w' := []) rfl ?_
  refine y_ishr C dJ4_length_9 ?_
  exact y_iretM C M N rfl (S := ()) rfl (sh0 _) dJ4_length_10 ⟨Nat.le_of_ble_eq_true rfl, Nat.le_of_ble_eq_true rfl⟩
abbrev rm_latin : Room := { frames := 1, cells := 0, slots := 0, locals := 40 }
set_option maxRecDepth 100000 in
theorem mk_latin (G : Gx) (i : Nat) (hi : i < 16) : MiA G yJ4_isLatin1 (ws_ yJ4_isLatin1 cJ4_isLatin1 1 (some .boolean)) rm_latin [] [.ref (G.2.2.2 (10 + i))] (fun _ : Unit => []) (fun (r : Int32) (_ : Unit) => r = 1) 0 0 := by
  refine ent_Mi (by decide +kernel) rfl (Nat.le_of_ble_eq_true rfl) [(0, .ref (G.2.2.2 (10 + i)))] rfl (fun K B0 C M N => ?_)
  refine y_gets C M (Cn := "java/lang/String") (nm := "COMPACT_STRINGS") (d := "Z") (v := .int 1) (fun _ _ _ h => h.2.2.2.2.2.2.2.2.1) q614 (fun _ _ h => h) dJ4_isLatin1_0 ?_
  refine y_if_eq C (tgt := 17) dJ4_isLatin1_3 rfl (fun c => absurd c (by decide)) (fun _ => ?_)
  refine y_aload_n C dJ4_isLatin1_6 0 rfl rfl ?_
  refine y_strCoder C M hi q2325 dJ4_isLatin1_7 ?_
  refine y_if_ne C (tgt := 17) dJ4_isLatin1_10 rfl (fun c => absurd c (by decide)) (fun _ => ?_)
  refine y_iconst C dJ4_isLatin1_13 ic_1 ?_
  refine y_goto C (tgt := 18) dJ4_isLatin1_14 rfl ?_
  exact y_zretM C M N rfl rfl (S := ()) rfl rfl dJ4_isLatin1_18 ⟨Nat.le_of_ble_eq_true rfl, Nat.le_of_ble_eq_true rfl⟩
abbrev rm_schk : Room := { frames := 2, cells := 0, slots := 0, locals := 80 }
set_option maxRecDepth 100000 in
theorem mk_schk (G : Gx) (j n : Int32) (h1 : ¬ j < 0) (h2 : j < n) : MvA G yJ4_checkIndex (ws_ yJ4_checkIndex cJ4_checkIndex 2 none) rm_schk [] [.int (j), .int (n)] (fun _ : Unit => []) (fun _ : Unit => True) 0 0 := by
  refine ent_Mv (by decide +kernel) rfl (Nat.le_of_ble_eq_true rfl) [(0, .int (j)), (1, .int (n))] rfl (fun K B0 C M N => ?_)
  refine y_iload_n C dJ4_checkIndex_0 0 rfl rfl ?_
  refine y_iload_n C dJ4_checkIndex_1 1 rfl rfl ?_
  refine y_getsq C M (Cn := "jdk/internal/util/Preconditions") (nm := "SIOOBE_FORMATTER") (d := "Ljava/util/function/BiFunction;") (fun _ _ _ h => h.2.2.2.2.2.2.2.2.2.1) q630 (fun _ _ h => h) dJ4_checkIndex_2 (fun o_1 => ?_)
  refine y_callFiS C M (As := [.int (j), .int (n), va_rf o_1]) (rest := []) (wc := []) (wr := []) cs_J4_1059 (mk_chkO G o_1 (j) (n) h1 h2) ⟨[], [], rfl, rfl, by decide, by decide, by decide⟩ ⟨rfl, rfl, Nat.le_of_ble_eq_true rfl, Nat.le_of_ble_eq_true rfl⟩ rfl rfl (Nat.le_of_ble_eq_true rfl) dJ4_checkIndex_5 ⟨Nat.le_of_ble_eq_true rfl, Nat.le_of_ble_eq_true rfl⟩ (k' := 0) (n' := 0) rfl rfl (fun r_3 _ h_2 => ?_)
  subst h_2
  refine Y.eqw (w' := []) rfl ?_
  refine y_pop C dJ4_checkIndex_8 rfl ?_
  exact y_vretM C M N rfl (S := ()) rfl trivial dJ4_checkIndex_9 ⟨Nat.le_of_ble_eq_true rfl, Nat.le_of_ble_eq_true rfl⟩
abbrev rm_lchar : Room := { frames := 3, cells := 0, slots := 0, locals := 120 }
set_option maxRecDepth 100000 in
theorem mk_lchar (G : Gx) (i : Nat) (hi : i < 16) (j : Int32) (hj : vp_in j (strLen.getD i 0)) : MiA G yJ5_charAt (ws_ yJ5_charAt cJ5_charAt 2 (some .char)) rm_lchar [] [.ref (G.2.2.2 (30 + i)), .int (j)] (fun _ : Unit => []) (fun (r : Int32) (_ : Unit) => r = (strByt.getD i []).getD j.toNatClampNeg 0) 0 0 := by
  refine ent_Mi (by decide +kernel) rfl (Nat.le_of_ble_eq_true rfl) [(0, .ref (G.2.2.2 (30 + i))), (1, .int (j))] rfl (fun K B0 C M N => ?_)
  refine y_iload_n C dJ5_charAt_0 1 rfl rfl ?_
  refine y_aload_n C dJ5_charAt_1 0 rfl rfl ?_
  refine y_strLen C M hi dJ5_charAt_2 ?_
  refine y_callFvS C M (As := [.int (j), .int ((nI (strLen.getD i 0)))]) (rest := []) (wc := []) (wr := []) cs_J5_9 (mk_schk G (j) ((nI (strLen.getD i 0))) (vin_neg hj) (vin_lt hj (strLen_lt i hi))) ⟨[], [], rfl, rfl, by decide, by decide, by decide⟩ ⟨rfl, rfl, Nat.le_of_ble_eq_true rfl, Nat.le_of_ble_eq_true rfl⟩ rfl rfl (Nat.le_of_ble_eq_true rfl) dJ5_charAt_3 ⟨Nat.le_of_ble_eq_true rfl, Nat.le_of_ble_eq_true rfl⟩ (k' := 0) (n' := 0) rfl rfl (fun _ h_1 => ?_)
  refine Y.eqw (w' := []) rfl ?_
  refine y_aload_n C dJ5_charAt_6 0 rfl rfl ?_
  refine y_iload_n C dJ5_charAt_7 1 rfl rfl ?_
  refine y_strByt C M hi hj dJ5_charAt_8 ?_
  refine y_sipush C dJ5_charAt_9 sp_255 ?_
  refine y_iand C dJ5_charAt_12 ?_
  refine y_i2c C dJ5_charAt_13 rfl ?_
  rw [chr_eq hi hj]
  exact y_zretM C M N rfl (chr_nar i hi _ (Nat.not_le.mp fun z => hj (Or.inr z))) (S := ()) rfl rfl dJ5_charAt_14 ⟨Nat.le_of_ble_eq_true rfl, Nat.le_of_ble_eq_true rfl⟩
abbrev rm_schar : Room := { frames := 4, cells := 0, slots := 0, locals := 160 }
set_option maxRecDepth 100000 in
theorem mk_schar (G : Gx) (i : Nat) (hi : i < 16) (j : Int32) (hj : vp_in j (strLen.getD i 0)) : MiA G yJ4_charAt (ws_ yJ4_charAt cJ4_charAt 2 (some .char)) rm_schar [] [.ref (G.2.2.2 (10 + i)), .int (j)] (fun _ : Unit => []) (fun (r : Int32) (_ : Unit) => r = (strByt.getD i []).getD j.toNatClampNeg 0) 0 0 := by
  refine ent_Mi (by decide +kernel) rfl (Nat.le_of_ble_eq_true rfl) [(0, .ref (G.2.2.2 (10 + i))), (1, .int (j))] rfl (fun K B0 C M N => ?_)
  refine y_aload_n C dJ4_charAt_0 0 rfl rfl ?_
  refine y_callFiX C M (As := []) (rest := []) (wc := []) (wr := []) cs_J4_492 (mk_latin G i hi) ⟨[], [], rfl, rfl, by decide, by decide, by decide⟩ (fun _ _ _ _ h hS => str_recv hi h hS) ⟨rfl, rfl, Nat.le_of_ble_eq_true rfl, Nat.le_of_ble_eq_true rfl⟩ rfl rfl (Nat.le_of_ble_eq_true rfl) dJ4_charAt_1 ⟨Nat.le_of_ble_eq_true rfl, Nat.le_of_ble_eq_true rfl⟩ (k' := 0) (n' := 0) rfl rfl (fun r_2 _ h_1 => ?_)
  subst h_1
  refine Y.eqw (w' := []) rfl ?_
  refine y_if_eq C (tgt := 16) dJ4_charAt_4 rfl (fun c => absurd c (by decide)) (fun _ => ?_)
  refine y_aload_n C dJ4_charAt_7 0 rfl rfl ?_
  refine y_strValue C M hi q2324 dJ4_charAt_8 ?_
  refine y_iload_n C dJ4_charAt_11 1 rfl rfl ?_
  refine y_callFiS C M (As := [.ref (G.2.2.2 (30 + i)), .int (j)]) (rest := []) (wc := []) (wr := []) cs_J4_495 (mk_lchar G i hi (j) hj) ⟨[], [], rfl, rfl, by decide, by decide, by decide⟩ ⟨rfl, rfl, Nat.le_of_ble_eq_true rfl, Nat.le_of_ble_eq_true rfl⟩ rfl rfl (Nat.le_of_ble_eq_true rfl) dJ4_charAt_12 ⟨Nat.le_of_ble_eq_true rfl, Nat.le_of_ble_eq_true rfl⟩ (k' := 0) (n' := 0) rfl rfl (fun r_4 _ h_3 => ?_)
  subst h_3
  refine Y.eqw (w' := []) rfl ?_
  exact y_zretM C M N rfl (chr_nar i hi _ (Nat.not_le.mp fun z => hj (Or.inr z))) (S := ()) rfl rfl dJ4_charAt_15 ⟨Nat.le_of_ble_eq_true rfl, Nat.le_of_ble_eq_true rfl⟩
