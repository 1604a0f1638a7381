/-! a slot's row: is it there -/
set_option maxRecDepth 100000
theorem y_rowIf {G : Gx} {K : Kx} {cc : ByteArray} {rm : Room} {nL : Nat} {ret : Option FieldType} {k n pc tgt : Nat} {L : Lx} {A : Nat → Nat} {S : St} {lv : List (Nat × Value)} {st : List Value} (C : KOk G K RX0 cc rm nL ret) {i : Int32} (hin : vp_in i 4) {index : Nat} (hq : Cond.fieldLinkNest "OverHill" index "OverHill$Slot" "row" "Ljava/lang/Object;" "OverHill" ∈ lw_tbl) {off : Int} (hdg : decode cc pc = .ok (.getfield index, 3)) (hd2 : decode cc (pc + 3) = .ok (.ifnonnull off, 3)) (ht : ((pc + 3 : Nat) : Int) + off = (tgt : Int)) (kt : ¬ L.1 i.toNatClampNeg = 0 → Y G K k n (wCS L G A S) tgt lv st) (kf : L.1 i.toNatClampNeg = 0 → Y G K k n (wCS L G A S) (pc + 3 + 3) lv st) : Y G K k n (wCS L G A S) pc lv (.ref (A (32 + i.toNatClampNeg)) :: st) := by
  have hj : i.toNatClampNeg < 4 := Nat.not_le.mp fun z => hin (Or.inr z)
  refine y_getN C (ref := "OverHill$Slot") (Cn := RX7) (T := TX7) (N := 1) in_X7 (wCS_slot L G A S hj) rfl 0 (by decide) hq (fun _ _ h => h) (v := rowV A L i.toNatClampNeg) rfl hdg ?_
  by_cases h : L.1 i.toNatClampNeg = 0
  · rw [show rowV A L i.toNatClampNeg = .null from if_pos h]
    exact y_ifnonnullN C hd2 (kf h)
  · rw [show rowV A L i.toNatClampNeg = .ref (A (36 + i.toNatClampNeg)) from if_neg h]
    exact y_ifnonnull C hd2 ht (kt h)
