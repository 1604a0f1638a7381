/-! a slot without a row: its size throws -/
set_option maxRecDepth 100000
theorem y_castN {G : Gx} {K : Kx} {own : String} {cc : ByteArray} {rm : Room} {nL : Nat} {ret : Option FieldType} {k n pc index : Nat} {w : va_W} {lv : List (Nat × Value)} {st : List Value} (C : KOk G K own cc rm nL ret) (hdg : decode cc pc = .ok (.checkcast index, 3)) (kk : Y G K k n w (pc + 3) lv (.null :: st)) : Y G K k n w pc lv (.null :: st) := by
  obtain ⟨R, nL0, p, e, s, m, args, below, meth, c, Q, I⟩ := K
  obtain ⟨rfl, rfl, hx, hb, hr, hlk, hml, hown, hts, hKW⟩ := C
  intro H locs ls hP hI hl
  exact lv_castN hx hb hdg (kk H locs ls hP hI hl)
theorem y_instN {G : Gx} {K : Kx} {own : String} {cc : ByteArray} {rm : Room} {nL : Nat} {ret : Option FieldType} {k n pc index : Nat} {w : va_W} {lv : List (Nat × Value)} {st : List Value} (C : KOk G K own cc rm nL ret) (hdg : decode cc pc = .ok (.instanceof index, 3)) (kk : Y G K k n w (pc + 3) lv (.int 0 :: st)) : Y G K k n w pc lv (.null :: st) := by
  obtain ⟨R, nL0, p, e, s, m, args, below, meth, c, Q, I⟩ := K
  obtain ⟨rfl, rfl, hx, hb, hr, hlk, hml, hown, hts, hKW⟩ := C
  intro H locs ls hP hI hl
  exact lv_instN hx hb hdg (kk H locs ls hP hI hl)
abbrev rm_s_sizeN : Room := { frames := 8, cells := 1, slots := 8, locals := 10300 }
def npeOf (w : va_W) : XPt := fun _ E u => E = "java/lang/NullPointerException" ∧ u = w
theorem met_s_sizeN (G : Gx) (w : va_W) (b q0 : Nat) (he : w[q0]? = some (b, .inr (6, [.null]))) : Xi G yX7_size (ws_ yX7_size cX7_size 1 (some .int)) rm_s_sizeN w [.ref b] (fun _ : St => w) (fun _ _ => False) (npeOf w) 0 0 1 8 := by
  refine ent_Xi (by decide) rfl (Nat.le_of_ble_eq_true rfl) [(0, .ref b)] rfl (fun K B C M N => ?_)
  refine y_aload_n C dX7_size_0 0 rfl rfl ?_
  refine y_get C (ref := "OverHill$Slot") (Cn := RX7) (T := TX7) (N := 1) in_X7 he rfl 0 (by decide) q371 (fun _ _ h => h) rfl dX7_size_1 ?_
  refine y_instN C dX7_size_4 ?_
  refine y_if_eq C (tgt := 21) dX7_size_7 rfl (fun _ => ?_) (fun c => absurd rfl c)
  refine y_aload_n C dX7_size_21 0 rfl rfl ?_
  refine y_get C (ref := "OverHill$Slot") (Cn := RX7) (T := TX7) (N := 1) in_X7 he rfl 0 (by decide) q371 (fun _ _ h => h) rfl dX7_size_22 ?_
  refine y_instN C dX7_size_25 ?_
  refine y_if_eq C (tgt := 42) dX7_size_28 rfl (fun _ => ?_) (fun c => absurd rfl c)
  refine y_aload_n C dX7_size_42 0 rfl rfl ?_
  refine y_get C (ref := "OverHill$Slot") (Cn := RX7) (T := TX7) (N := 1) in_X7 he rfl 0 (by decide) q371 (fun _ _ h => h) rfl dX7_size_43 ?_
  refine y_instN C dX7_size_46 ?_
  refine y_if_eq C (tgt := 63) dX7_size_49 rfl (fun _ => ?_) (fun c => absurd rfl c)
  refine y_aload_n C dX7_size_63 0 rfl rfl ?_
  refine y_get C (ref := "OverHill$Slot") (Cn := RX7) (T := TX7) (N := 1) in_X7 he rfl 0 (by decide) q371 (fun _ _ h => h) rfl dX7_size_64 ?_
  refine y_castN C dX7_size_67 ?_
  refine y_alenN C M dX7_size_70 ⟨Nat.le_of_ble_eq_true rfl, Nat.le_of_ble_eq_true rfl, Nat.le_of_ble_eq_true rfl, Nat.le_of_ble_eq_true rfl⟩ (fun q => ?_)
  exact y_outi C M N (by decide) ⟨rfl, rfl⟩ ⟨by decide, by decide⟩
/-- a slot's size, asked inside a try -/
theorem y_slotSizeX {G : Gx} {K : Kx} {own : String} {cc : ByteArray} {rm : Room} {nL : Nat} {ret : Option FieldType} {pc index : Nat} {L : Lx} {A : Nat → Nat} {S : St} {lv : List (Nat × Value)} {st : List Value} (C : KOk G K own cc rm nL ret) {B : Nat → Prop} (M : KM G K B) {i : Int32} (hin : vp_in i 4) (cs : CsV own index yX7_size cX7_size 1 (some .int) 0) (hrm : rm_s_size_b.cells = 0 ∧ rm_s_size_b.slots = 0 ∧ rm_s_size_b.frames + 1 ≤ rm.frames ∧ 8 + (1 + 11) + rm_s_size_b.locals ≤ rm.locals) (hrm9 : 8 + 1 ≤ rm.frames ∧ 8 + (1 + 11) + 10300 ≤ rm.locals ∧ 1 ≤ rm.cells ∧ 8 ≤ rm.slots) (hcat : (st.map fun v => v.category).sum ≤ 8) (hdg : decode cc pc = .ok (.invokevirtual index, 3)) (kk : ¬ L.1 i.toNatClampNeg = 0 → Y G K 0 0 (wCS L G A S) (pc + 3) lv (.int (nI (L.2.1 i.toNatClampNeg)) :: st)) (kx : L.1 i.toNatClampNeg = 0 → ∀ q : Nat, YX G K 1 8 (wCS L G A S) pc lv "java/lang/NullPointerException" q) : Y G K 0 0 (wCS L G A S) pc lv (.ref (A (32 + i.toNatClampNeg)) :: st) := by
  by_cases h : L.1 i.toNatClampNeg = 0
  · have he : (wCS L G A S)[31 + i.toNatClampNeg]? = some (A (32 + i.toNatClampNeg), .inr (6, [.null])) := by rw [wCS_slot L G A S (vin4 hin)]; simp [rowV, h]
    refine y_callXiV (k' := 0) (n' := 0) (k9 := 1) (n9 := 8) (As := []) (rest := st) C M cs (met_s_sizeN G (wCS L G A S) _ _ he) he rfl rfl ⟨rfl, rfl, hrm9.1, hrm9.2.1⟩ rfl rfl hcat hdg ⟨hrm9.2.2.1, hrm9.2.2.2⟩ rfl rfl rfl rfl (fun q E u hu => ?_) (fun _ _ hf => hf.elim)
    obtain ⟨rfl, rfl⟩ := hu
    exact kx h q
  · exact y_slotSize C hin h cs hrm hcat hdg ⟨Nat.zero_le _, Nat.zero_le _⟩ (kk h)
