/-! a slot made and written, and what that throws (printed by tools/mk_slots.py) -/
set_option maxRecDepth 100000
def upRt : List String := ["java/lang/RuntimeException", "java/lang/Exception"]
def upIx : List String := ["java/lang/IndexOutOfBoundsException", "java/lang/RuntimeException", "java/lang/Exception"]
theorem nas_words : (vx_atM "java/lang/NegativeArraySizeException" upRt).all wdk = true := by decide +kernel
theorem nas_ot : (vx_atM "java/lang/NegativeArraySizeException" upRt).all vx_ot = true := by decide +kernel
theorem aio_words : (vx_atM "java/lang/ArrayIndexOutOfBoundsException" upIx).all wdk = true := by decide +kernel
theorem aio_ot : (vx_atM "java/lang/ArrayIndexOutOfBoundsException" upIx).all vx_ot = true := by decide +kernel
theorem fit_Rt : ∀ n ∈ upRt, Bundle.fit n = true := by decide +kernel
theorem fit_Ix : ∀ n ∈ upIx, Bundle.fit n = true := by decide +kernel
theorem y_newaZ {G : Gx} {K : Kx} {own : String} {cc : ByteArray} {rm : Room} {nL : Nat} {ret : Option FieldType} {k n pc : Nat} {w : va_W} {lv : List (Nat × Value)} {st : List Value} (C : KOk G K own cc rm nL ret) {A : Nat → Prop} (M : KM G K A) {atype : ArrayType} {x : Int32} (hx0 : x < 0) (hdg : decode cc pc = .ok (.newarray atype, 2)) (hrm : 6 < rm.frames ∧ (st.map fun v => v.category).sum + 10240 ≤ rm.locals ∧ k + 3 ≤ rm.cells ∧ n + 54 ≤ rm.slots) (kx : ∀ q : Nat, YX G K (k + 3) (n + 54) w pc lv "java/lang/NegativeArraySizeException" q) : Y G K k n w pc lv (.int x :: st) := by
  obtain ⟨R, nL0, p, e, s, m, args, below, meth, c, Q, I⟩ := K
  obtain ⟨rfl, rfl, hx, hb, hr, hlk, hml, hown, hts, hKW⟩ := C
  obtain ⟨rfl, hA, hSF⟩ := M
  intro H locs ls hP hI hl
  refine vx_newarrayZ hx hb hx0 hdg (fun tx htx => (vx_vm (nb := 44) (A := A) (names := upRt) hx hSF.1 (by decide +kernel) fit_Rt rfl rfl (wd_all nas_words hts hKW hSF) (fun w hw => List.all_eq_true.mp nas_ot w hw) hSF.2.1 hSF.2.2.1 hI.2 (hl.1.trans hml.symm) (by subst htx; exact negative_text_modelled hx0) (by subst htx; exact negative_text_bytes _) (by decide) hrm.1 hrm.2.1 (by decide) hrm.2.2.1 hrm.2.2.2 hlk (fun H1 q9 ce hz hk hS hce hcv hcl => ?_)))
  exact kx q9 H1 locs ls _ ce (hP.kept (fun k q hq => hk q.1 (hP k q hq).lt)) ⟨hI.1, hS⟩ hl hce hcv hcl
theorem y_bastZ {G : Gx} {K : Kx} {own : String} {cc : ByteArray} {rm : Room} {nL : Nat} {ret : Option FieldType} {k n pc : Nat} {w : va_W} {lv : List (Nat × Value)} {st : List Value} (C : KOk G K own cc rm nL ret) {A : Nat → Prop} (M : KM G K A) {a nA : Nat} {f : Nat → Int32} {i : Int32} {x : Int32} {q0 : Nat} (ha : w[q0]? = some (a, .inl (G.2.2.1 1, nA, .inl f))) (hout : ¬ vp_in i nA) (hnA : nA < 2 ^ 31) (hdg : decode cc pc = .ok (.bastore, 1)) (hrm : 7 < rm.frames ∧ (st.map fun v => v.category).sum + 10240 ≤ rm.locals ∧ k + 3 ≤ rm.cells ∧ n + 222 ≤ rm.slots) (kx : ∀ q : Nat, YX G K (k + 3) (n + 222) w pc lv "java/lang/ArrayIndexOutOfBoundsException" q) : Y G K k n w pc lv (.int x :: .int i :: .ref a :: st) := by
  obtain ⟨R, nL0, p, e, s, m, args, below, meth, c, Q, I⟩ := K
  obtain ⟨rfl, rfl, hx, hb, hr, hlk, hml, hown, hts, hKW⟩ := C
  obtain ⟨rfl, hA, hSF⟩ := M
  intro H locs ls hP hI hl
  refine vx_bastZ hx hb hKW.1 hP q0 1 ha rfl hout hdg (fun tx htx => (vx_vm (nb := 212) (A := A) (names := upIx) hx hSF.1 (by decide +kernel) fit_Ix rfl rfl (wd_all aio_words hts hKW hSF) (fun w hw => List.all_eq_true.mp aio_ot w hw) hSF.2.1 hSF.2.2.1 hI.2 (hl.1.trans hml.symm) (by subst htx; exact index_text_modelled i nA) (by subst htx; exact index_text_bytes i hnA) (by decide) hrm.1 hrm.2.1 (by decide) hrm.2.2.1 hrm.2.2.2 hlk (fun H1 q9 ce hz hk hS hce hcv hcl => ?_)))
  exact kx q9 H1 locs ls _ ce (hP.kept (fun k q hq => hk q.1 (hP k q hq).lt)) ⟨hI.1, hS⟩ hl hce hcv hcl
theorem y_sastZ {G : Gx} {K : Kx} {own : String} {cc : ByteArray} {rm : Room} {nL : Nat} {ret : Option FieldType} {k n pc : Nat} {w : va_W} {lv : List (Nat × Value)} {st : List Value} (C : KOk G K own cc rm nL ret) {A : Nat → Prop} (M : KM G K A) {a nA : Nat} {f : Nat → Int32} {i : Int32} {x : Int32} {q0 : Nat} (ha : w[q0]? = some (a, .inl (G.2.2.1 4, nA, .inl f))) (hout : ¬ vp_in i nA) (hnA : nA < 2 ^ 31) (hdg : decode cc pc = .ok (.sastore, 1)) (hrm : 7 < rm.frames ∧ (st.map fun v => v.category).sum + 10240 ≤ rm.locals ∧ k + 3 ≤ rm.cells ∧ n + 222 ≤ rm.slots) (kx : ∀ q : Nat, YX G K (k + 3) (n + 222) w pc lv "java/lang/ArrayIndexOutOfBoundsException" q) : Y G K k n w pc lv (.int x :: .int i :: .ref a :: st) := by
  obtain ⟨R, nL0, p, e, s, m, args, below, meth, c, Q, I⟩ := K
  obtain ⟨rfl, rfl, hx, hb, hr, hlk, hml, hown, hts, hKW⟩ := C
  obtain ⟨rfl, hA, hSF⟩ := M
  intro H locs ls hP hI hl
  refine vx_sastZ hx hb hKW.1 hP q0 4 ha rfl hout hdg (fun tx htx => (vx_vm (nb := 212) (A := A) (names := upIx) hx hSF.1 (by decide +kernel) fit_Ix rfl rfl (wd_all aio_words hts hKW hSF) (fun w hw => List.all_eq_true.mp aio_ot w hw) hSF.2.1 hSF.2.2.1 hI.2 (hl.1.trans hml.symm) (by subst htx; exact index_text_modelled i nA) (by subst htx; exact index_text_bytes i hnA) (by decide) hrm.1 hrm.2.1 (by decide) hrm.2.2.1 hrm.2.2.2 hlk (fun H1 q9 ce hz hk hS hce hcv hcl => ?_)))
  exact kx q9 H1 locs ls _ ce (hP.kept (fun k q hq => hk q.1 (hP k q hq).lt)) ⟨hI.1, hS⟩ hl hce hcv hcl
theorem y_iastZ {G : Gx} {K : Kx} {own : String} {cc : ByteArray} {rm : Room} {nL : Nat} {ret : Option FieldType} {k n pc : Nat} {w : va_W} {lv : List (Nat × Value)} {st : List Value} (C : KOk G K own cc rm nL ret) {A : Nat → Prop} (M : KM G K A) {a nA : Nat} {f : Nat → Int32} {i : Int32} {x : Int32} {q0 : Nat} (ha : w[q0]? = some (a, .inl (G.2.2.1 0, nA, .inl f))) (hout : ¬ vp_in i nA) (hnA : nA < 2 ^ 31) (hdg : decode cc pc = .ok (.iastore, 1)) (hrm : 7 < rm.frames ∧ (st.map fun v => v.category).sum + 10240 ≤ rm.locals ∧ k + 3 ≤ rm.cells ∧ n + 222 ≤ rm.slots) (kx : ∀ q : Nat, YX G K (k + 3) (n + 222) w pc lv "java/lang/ArrayIndexOutOfBoundsException" q) : Y G K k n w pc lv (.int x :: .int i :: .ref a :: st) := by
  obtain ⟨R, nL0, p, e, s, m, args, below, meth, c, Q, I⟩ := K
  obtain ⟨rfl, rfl, hx, hb, hr, hlk, hml, hown, hts, hKW⟩ := C
  obtain ⟨rfl, hA, hSF⟩ := M
  intro H locs ls hP hI hl
  refine vx_iastZ hx hb hKW.1 hP q0 0 ha rfl hout hdg (fun tx htx => (vx_vm (nb := 212) (A := A) (names := upIx) hx hSF.1 (by decide +kernel) fit_Ix rfl rfl (wd_all aio_words hts hKW hSF) (fun w hw => List.all_eq_true.mp aio_ot w hw) hSF.2.1 hSF.2.2.1 hI.2 (hl.1.trans hml.symm) (by subst htx; exact index_text_modelled i nA) (by subst htx; exact index_text_bytes i hnA) (by decide) hrm.1 hrm.2.1 (by decide) hrm.2.2.1 hrm.2.2.2 hlk (fun H1 q9 ce hz hk hS hce hcv hcl => ?_)))
  exact kx q9 H1 locs ls _ ce (hP.kept (fun k q hq => hk q.1 (hP k q hq).lt)) ⟨hI.1, hS⟩ hl hce hcv hcl
theorem y_lastZ {G : Gx} {K : Kx} {own : String} {cc : ByteArray} {rm : Room} {nL : Nat} {ret : Option FieldType} {k n pc : Nat} {w : va_W} {lv : List (Nat × Value)} {st : List Value} (C : KOk G K own cc rm nL ret) {A : Nat → Prop} (M : KM G K A) {a nA : Nat} {f : Nat → Int64} {i : Int32} {x : Int64} {q0 : Nat} (ha : w[q0]? = some (a, .inl (G.2.2.1 3, nA, .inr (.inl f)))) (hout : ¬ vp_in i nA) (hnA : nA < 2 ^ 31) (hdg : decode cc pc = .ok (.lastore, 1)) (hrm : 7 < rm.frames ∧ (st.map fun v => v.category).sum + 10240 ≤ rm.locals ∧ k + 3 ≤ rm.cells ∧ n + 222 ≤ rm.slots) (kx : ∀ q : Nat, YX G K (k + 3) (n + 222) w pc lv "java/lang/ArrayIndexOutOfBoundsException" q) : Y G K k n w pc lv (.long x :: .int i :: .ref a :: st) := by
  obtain ⟨R, nL0, p, e, s, m, args, below, meth, c, Q, I⟩ := K
  obtain ⟨rfl, rfl, hx, hb, hr, hlk, hml, hown, hts, hKW⟩ := C
  obtain ⟨rfl, hA, hSF⟩ := M
  intro H locs ls hP hI hl
  refine vx_lastZ hx hb hKW.1 hP q0 3 ha rfl hout hdg (fun tx htx => (vx_vm (nb := 212) (A := A) (names := upIx) hx hSF.1 (by decide +kernel) fit_Ix rfl rfl (wd_all aio_words hts hKW hSF) (fun w hw => List.all_eq_true.mp aio_ot w hw) hSF.2.1 hSF.2.2.1 hI.2 (hl.1.trans hml.symm) (by subst htx; exact index_text_modelled i nA) (by subst htx; exact index_text_bytes i hnA) (by decide) hrm.1 hrm.2.1 (by decide) hrm.2.2.1 hrm.2.2.2 hlk (fun H1 q9 ce hz hk hS hce hcv hcl => ?_)))
  exact kx q9 H1 locs ls _ ce (hP.kept (fun k q hq => hk q.1 (hP k q hq).lt)) ⟨hI.1, hS⟩ hl hce hcv hcl
theorem y_lastN {G : Gx} {K : Kx} {own : String} {cc : ByteArray} {rm : Room} {nL : Nat} {ret : Option FieldType} {k n pc : Nat} {w : va_W} {lv : List (Nat × Value)} {st : List Value} (C : KOk G K own cc rm nL ret) {A : Nat → Prop} (M : KM G K A) {i : Int32} {x : Int64} (hdg : decode cc pc = .ok (.lastore, 1)) (hrm : 7 < rm.frames ∧ (st.map fun v => v.category).sum + 10240 ≤ rm.locals ∧ k + 1 ≤ rm.cells ∧ n + 8 ≤ rm.slots) (kx : ∀ q : Nat, YX G K (k + 1) (n + 8) w pc lv "java/lang/NullPointerException" q) : Y G K k n w pc lv (.long x :: .int i :: .null :: st) := by
  obtain ⟨R, nL0, p, e, s, m, args, below, meth, c, Q, I⟩ := K
  obtain ⟨rfl, rfl, hx, hb, hr, hlk, hml, hown, hts, hKW⟩ := C
  obtain ⟨rfl, hA, hSF⟩ := M
  intro H locs ls hP hI hl
  refine vx_lastoreN hx hb hdg (vx_npe (nb := 8) (A := A) hx hSF.1 (wd_all npe_words hts hKW hSF) (fun w hw => List.all_eq_true.mp npe_ot w hw) hSF.2.1 hSF.2.2.1 hI.2 (hl.1.trans hml.symm) hrm.1 hrm.2.1 hrm.2.2.1 hrm.2.2.2 hlk (fun H1 q9 ce hz hk hS hce hcv hcl => ?_))
  exact kx q9 H1 locs ls _ ce (hP.kept (fun k q hq => hk q.1 (hP k q hq).lt)) ⟨hI.1, hS⟩ hl hce hcv hcl
abbrev rm_s_make : Room := { frames := 8, cells := 3, slots := 60, locals := 10300 }
set_option maxRecDepth 100000 in
theorem met_s_make_0 (G : Gx) (b : Nat) (v : Value) (x : Int32) (N : Nat) (hN : x.toNatClampNeg = N) (h60 : N ≤ 60) : Xv G yX7_make (ws_ yX7_make cX7_make 3 none) rm_s_make [(b, .inr (6, [v]))] [.ref b, .int 0, .int x] (fun q : Nat => [(b, .inr (6, [.ref q])), (q, .inl (G.2.2.1 1, N, .inl (fun _ => 0)))]) (fun _ => ¬ x < 0) (fun _ E u => E = "java/lang/NegativeArraySizeException" ∧ x < 0 ∧ u = [(b, .inr (6, [v]))]) 1 60 3 60 := by
  refine ent_Xv (by decide) rfl (Nat.le_of_ble_eq_true rfl) [(0, .ref b), (1, .int 0), (2, .int x)] rfl (fun K B C M N9 => ?_)
  refine y_aload_n C dX7_make_0 0 rfl rfl ?_
  refine y_iload_n C dX7_make_1 1 rfl rfl ?_
  refine y_if_ne C (tgt := 11) dX7_make_2 rfl (fun c => absurd rfl c) (fun _ => ?_)
  refine y_iload_n C dX7_make_5 2 rfl rfl ?_
  by_cases hx0 : x < 0
  · refine y_newaZ C M hx0 dX7_make_6 ⟨Nat.le_of_ble_eq_true rfl, Nat.le_of_ble_eq_true rfl, Nat.le_of_ble_eq_true rfl, Nat.le_of_ble_eq_true rfl⟩ (fun q => ?_)
    exact y_outv C M N9 (by decide) ⟨rfl, hx0, rfl⟩ ⟨by decide, by decide⟩
  · refine y_newa C M (atype := .byte) (ty := .byte) 1 rfl rfl q313 (nm := "[B") (fun _ _ h => h) (a0 := (N, .inl (fun _ => 0))) (fun _ => rfl) hx0 hN (by show N * 1 ≤ _; omega) ⟨Nat.le_of_ble_eq_true rfl, by show 0 + N ≤ 60; omega⟩ dX7_make_6 (k' := 1) (n' := 0 + N) rfl rfl (fun q => [(b, .inr (6, [v]))] ++ [(q, .inl (G.2.2.1 1, N, .inl (fun _ => 0)))]) (fun _ => rfl) (fun q => ?_)
    refine y_goto C (tgt := 36) dX7_make_8 rfl ?_
    refine y_put C M (ref := "OverHill$Slot") (Cn := RX7) (T := TX7) (N := 1) (q0 := 0) (fs := [v]) in_X7 rfl rfl 0 (by decide) tyX7 tyX7_ok (by decide +kernel) q371 (fun _ _ h => h) rfl (ty := tyX7 0) (by decide +kernel) rfl rfl (Nat.le_of_ble_eq_true rfl) (w' := [(b, .inr (6, [.ref q])), (q, .inl (G.2.2.1 1, N, .inl (fun _ => 0)))]) rfl dX7_make_36 ?_
    exact y_vretX C M N9 rfl (S := q) rfl hx0 dX7_make_39 ⟨Nat.le_of_ble_eq_true rfl, by omega⟩
set_option maxRecDepth 100000 in
theorem met_s_make_1 (G : Gx) (b : Nat) (v : Value) (x : Int32) (N : Nat) (hN : x.toNatClampNeg = N) (h60 : N ≤ 60) : Xv G yX7_make (ws_ yX7_make cX7_make 3 none) rm_s_make [(b, .inr (6, [v]))] [.ref b, .int 1, .int x] (fun q : Nat => [(b, .inr (6, [.ref q])), (q, .inl (G.2.2.1 4, N, .inl (fun _ => 0)))]) (fun _ => ¬ x < 0) (fun _ E u => E = "java/lang/NegativeArraySizeException" ∧ x < 0 ∧ u = [(b, .inr (6, [v]))]) 1 60 3 60 := by
  refine ent_Xv (by decide) rfl (Nat.le_of_ble_eq_true rfl) [(0, .ref b), (1, .int 1), (2, .int x)] rfl (fun K B C M N9 => ?_)
  refine y_aload_n C dX7_make_0 0 rfl rfl ?_
  refine y_iload_n C dX7_make_1 1 rfl rfl ?_
  refine y_if_ne C (tgt := 11) dX7_make_2 rfl (fun _ => ?_) (fun c => absurd c (by decide))
  refine y_iload_n C dX7_make_11 1 rfl rfl ?_
  refine y_iconst C dX7_make_12 (v := 1) (by decide) ?_
  refine y_icmp_ne C (tgt := 22) dX7_make_13 rfl (fun c => absurd rfl c) (fun _ => ?_)
  refine y_iload_n C dX7_make_16 2 rfl rfl ?_
  by_cases hx0 : x < 0
  · refine y_newaZ C M hx0 dX7_make_17 ⟨Nat.le_of_ble_eq_true rfl, Nat.le_of_ble_eq_true rfl, Nat.le_of_ble_eq_true rfl, Nat.le_of_ble_eq_true rfl⟩ (fun q => ?_)
    exact y_outv C M N9 (by decide) ⟨rfl, hx0, rfl⟩ ⟨by decide, by decide⟩
  · refine y_newa C M (atype := .short) (ty := .short) 4 rfl rfl q1512 (nm := "[S") (fun _ _ h => h) (a0 := (N, .inl (fun _ => 0))) (fun _ => rfl) hx0 hN (by show N * 2 ≤ _; omega) ⟨Nat.le_of_ble_eq_true rfl, by show 0 + N ≤ 60; omega⟩ dX7_make_17 (k' := 1) (n' := 0 + N) rfl rfl (fun q => [(b, .inr (6, [v]))] ++ [(q, .inl (G.2.2.1 4, N, .inl (fun _ => 0)))]) (fun _ => rfl) (fun q => ?_)
    refine y_goto C (tgt := 36) dX7_make_19 rfl ?_
    refine y_put C M (ref := "OverHill$Slot") (Cn := RX7) (T := TX7) (N := 1) (q0 := 0) (fs := [v]) in_X7 rfl rfl 0 (by decide) tyX7 tyX7_ok (by decide +kernel) q371 (fun _ _ h => h) rfl (ty := tyX7 0) (by decide +kernel) rfl rfl (Nat.le_of_ble_eq_true rfl) (w' := [(b, .inr (6, [.ref q])), (q, .inl (G.2.2.1 4, N, .inl (fun _ => 0)))]) rfl dX7_make_36 ?_
    exact y_vretX C M N9 rfl (S := q) rfl hx0 dX7_make_39 ⟨Nat.le_of_ble_eq_true rfl, by omega⟩
set_option maxRecDepth 100000 in
theorem met_s_make_2 (G : Gx) (b : Nat) (v : Value) (x : Int32) (N : Nat) (hN : x.toNatClampNeg = N) (h60 : N ≤ 60) : Xv G yX7_make (ws_ yX7_make cX7_make 3 none) rm_s_make [(b, .inr (6, [v]))] [.ref b, .int 2, .int x] (fun q : Nat => [(b, .inr (6, [.ref q])), (q, .inl (G.2.2.1 0, N, .inl (fun _ => 0)))]) (fun _ => ¬ x < 0) (fun _ E u => E = "java/lang/NegativeArraySizeException" ∧ x < 0 ∧ u = [(b, .inr (6, [v]))]) 1 60 3 60 := by
  refine ent_Xv (by decide) rfl (Nat.le_of_ble_eq_true rfl) [(0, .ref b), (1, .int 2), (2, .int x)] rfl (fun K B C M N9 => ?_)
  refine y_aload_n C dX7_make_0 0 rfl rfl ?_
  refine y_iload_n C dX7_make_1 1 rfl rfl ?_
  refine y_if_ne C (tgt := 11) dX7_make_2 rfl (fun _ => ?_) (fun c => absurd c (by decide))
  refine y_iload_n C dX7_make_11 1 rfl rfl ?_
  refine y_iconst C dX7_make_12 (v := 1) (by decide) ?_
  refine y_icmp_ne C (tgt := 22) dX7_make_13 rfl (fun _ => ?_) (fun c => absurd c (by decide))
  refine y_iload_n C dX7_make_22 1 rfl rfl ?_
  refine y_iconst C dX7_make_23 (v := 2) (by decide) ?_
  refine y_icmp_ne C (tgt := 33) dX7_make_24 rfl (fun c => absurd rfl c) (fun _ => ?_)
  refine y_iload_n C dX7_make_27 2 rfl rfl ?_
  by_cases hx0 : x < 0
  · refine y_newaZ C M hx0 dX7_make_28 ⟨Nat.le_of_ble_eq_true rfl, Nat.le_of_ble_eq_true rfl, Nat.le_of_ble_eq_true rfl, Nat.le_of_ble_eq_true rfl⟩ (fun q => ?_)
    exact y_outv C M N9 (by decide) ⟨rfl, hx0, rfl⟩ ⟨by decide, by decide⟩
  · refine y_newa C M (atype := .int) (ty := .int) 0 rfl rfl q301 (nm := "[I") (fun _ _ h => h) (a0 := (N, .inl (fun _ => 0))) (fun _ => rfl) hx0 hN (by show N * 4 ≤ _; omega) ⟨Nat.le_of_ble_eq_true rfl, by show 0 + N ≤ 60; omega⟩ dX7_make_28 (k' := 1) (n' := 0 + N) rfl rfl (fun q => [(b, .inr (6, [v]))] ++ [(q, .inl (G.2.2.1 0, N, .inl (fun _ => 0)))]) (fun _ => rfl) (fun q => ?_)
    refine y_goto C (tgt := 36) dX7_make_30 rfl ?_
    refine y_put C M (ref := "OverHill$Slot") (Cn := RX7) (T := TX7) (N := 1) (q0 := 0) (fs := [v]) in_X7 rfl rfl 0 (by decide) tyX7 tyX7_ok (by decide +kernel) q371 (fun _ _ h => h) rfl (ty := tyX7 0) (by decide +kernel) rfl rfl (Nat.le_of_ble_eq_true rfl) (w' := [(b, .inr (6, [.ref q])), (q, .inl (G.2.2.1 0, N, .inl (fun _ => 0)))]) rfl dX7_make_36 ?_
    exact y_vretX C M N9 rfl (S := q) rfl hx0 dX7_make_39 ⟨Nat.le_of_ble_eq_true rfl, by omega⟩
set_option maxRecDepth 100000 in
theorem met_s_make_3 (G : Gx) (b : Nat) (v : Value) (x : Int32) (N : Nat) (hN : x.toNatClampNeg = N) (h60 : N ≤ 60) : Xv G yX7_make (ws_ yX7_make cX7_make 3 none) rm_s_make [(b, .inr (6, [v]))] [.ref b, .int 3, .int x] (fun q : Nat => [(b, .inr (6, [.ref q])), (q, .inl (G.2.2.1 3, N, .inr (.inl (fun _ => 0))))]) (fun _ => ¬ x < 0) (fun _ E u => E = "java/lang/NegativeArraySizeException" ∧ x < 0 ∧ u = [(b, .inr (6, [v]))]) 1 60 3 60 := by
  refine ent_Xv (by decide) rfl (Nat.le_of_ble_eq_true rfl) [(0, .ref b), (1, .int 3), (2, .int x)] rfl (fun K B C M N9 => ?_)
  refine y_aload_n C dX7_make_0 0 rfl rfl ?_
  refine y_iload_n C dX7_make_1 1 rfl rfl ?_
  refine y_if_ne C (tgt := 11) dX7_make_2 rfl (fun _ => ?_) (fun c => absurd c (by decide))
  refine y_iload_n C dX7_make_11 1 rfl rfl ?_
  refine y_iconst C dX7_make_12 (v := 1) (by decide) ?_
  refine y_icmp_ne C (tgt := 22) dX7_make_13 rfl (fun _ => ?_) (fun c => absurd c (by decide))
  refine y_iload_n C dX7_make_22 1 rfl rfl ?_
  refine y_iconst C dX7_make_23 (v := 2) (by decide) ?_
  refine y_icmp_ne C (tgt := 33) dX7_make_24 rfl (fun _ => ?_) (fun c => absurd c (by decide))
  refine y_iload_n C dX7_make_33 2 rfl rfl ?_
  by_cases hx0 : x < 0
  · refine y_newaZ C M hx0 dX7_make_34 ⟨Nat.le_of_ble_eq_true rfl, Nat.le_of_ble_eq_true rfl, Nat.le_of_ble_eq_true rfl, Nat.le_of_ble_eq_true rfl⟩ (fun q => ?_)
    exact y_outv C M N9 (by decide) ⟨rfl, hx0, rfl⟩ ⟨by decide, by decide⟩
  · refine y_newa C M (atype := .long) (ty := .long) 3 rfl rfl q1513 (nm := "[J") (fun _ _ h => h) (a0 := (N, .inr (.inl (fun _ => 0)))) (fun _ => rfl) hx0 hN (by show N * 8 ≤ _; omega) ⟨Nat.le_of_ble_eq_true rfl, by show 0 + N ≤ 60; omega⟩ dX7_make_34 (k' := 1) (n' := 0 + N) rfl rfl (fun q => [(b, .inr (6, [v]))] ++ [(q, .inl (G.2.2.1 3, N, .inr (.inl (fun _ => 0))))]) (fun _ => rfl) (fun q => ?_)
    refine y_put C M (ref := "OverHill$Slot") (Cn := RX7) (T := TX7) (N := 1) (q0 := 0) (fs := [v]) in_X7 rfl rfl 0 (by decide) tyX7 tyX7_ok (by decide +kernel) q371 (fun _ _ h => h) rfl (ty := tyX7 0) (by decide +kernel) rfl rfl (Nat.le_of_ble_eq_true rfl) (w' := [(b, .inr (6, [.ref q])), (q, .inl (G.2.2.1 3, N, .inr (.inl (fun _ => 0))))]) rfl dX7_make_36 ?_
    exact y_vretX C M N9 rfl (S := q) rfl hx0 dX7_make_39 ⟨Nat.le_of_ble_eq_true rfl, by omega⟩
abbrev rm_s_put : Room := { frames := 9, cells := 3, slots := 222, locals := 10300 }
set_option maxRecDepth 100000 in
theorem mxt_s_put_b (G : Gx) (A : Nat → Nat) (u : Nat) (S : St) (x1 : Int32) (x2 : Int64) (w1 : va_W) (hu : u < 2 ^ 31) (hw1 : wSb u G A (sI S 1 (x1).toNatClampNeg (vp_nar .byte ((x2).toInt32).toInt8.toInt32)) = w1) : Xv G yX7_put (ws_ yX7_put cX7_put 4 none) rm_s_put (wSb u G A S) [.ref (A 0), .int (x1), .long (x2)] (fun _ : Unit => w1) (fun _ => vp_in x1 u) (fun _ E w => E = "java/lang/ArrayIndexOutOfBoundsException" ∧ ¬ vp_in x1 u ∧ w = wSb u G A S) 0 0 3 222 := by
  refine ent_Xv (by decide) rfl (Nat.le_of_ble_eq_true rfl) [(0, .ref (A 0)), (1, .int (x1)), (2, .long (x2))] rfl (fun K B C M N => ?_)
  refine y_aload_n C dX7_put_0 0 rfl rfl ?_
  refine yg_X7_7_wSb0 C dX7_put_1 ?_
  refine y_instA C 1 (wSb_1 ..) rfl (fun _ h => h) q1120 dX7_put_4 ?_
  refine y_if_eq C (tgt := 25) dX7_put_7 rfl (fun c => absurd c (by decide)) (fun _ => ?_)
  refine y_aload_n C dX7_put_10 0 rfl rfl ?_
  refine yg_X7_7_wSb0 C dX7_put_11 ?_
  refine y_castA C 1 (wSb_1 ..) rfl (fun _ h => h) q1120 dX7_put_14 ?_
  refine y_iload_n C dX7_put_17 1 rfl rfl ?_
  refine y_lload_n C dX7_put_18 2 rfl rfl ?_
  refine y_l2i C dX7_put_19 ?_
  refine y_i2b C dX7_put_20 ?_
  by_cases hin : vp_in x1 u
  · refine y_bast C M (wSb_1 ..) rfl (wSb_s1 ..) hin dX7_put_21 ?_
    refine y_goto C (tgt := 84) dX7_put_22 rfl ?_
    exact y_vretX C M N rfl (S := ()) hw1 hin dX7_put_84 ⟨Nat.zero_le _, Nat.zero_le _⟩
  · refine y_bastZ C M (wSb_1 ..) hin hu dX7_put_21 ⟨Nat.le_of_ble_eq_true rfl, Nat.le_of_ble_eq_true rfl, Nat.le_of_ble_eq_true rfl, Nat.le_of_ble_eq_true rfl⟩ (fun q => ?_)
    exact y_outv C M N (by decide) ⟨rfl, hin, rfl⟩ ⟨by decide, by decide⟩
set_option maxRecDepth 100000 in
theorem mxt_s_put_s (G : Gx) (A : Nat → Nat) (u : Nat) (S : St) (x1 : Int32) (x2 : Int64) (w1 : va_W) (hu : u < 2 ^ 31) (hw1 : wSs u G A (sI S 1 (x1).toNatClampNeg (vp_nar .short ((x2).toInt32).toInt16.toInt32)) = w1) : Xv G yX7_put (ws_ yX7_put cX7_put 4 none) rm_s_put (wSs u G A S) [.ref (A 0), .int (x1), .long (x2)] (fun _ : Unit => w1) (fun _ => vp_in x1 u) (fun _ E w => E = "java/lang/ArrayIndexOutOfBoundsException" ∧ ¬ vp_in x1 u ∧ w = wSs u G A S) 0 0 3 222 := by
  refine ent_Xv (by decide) rfl (Nat.le_of_ble_eq_true rfl) [(0, .ref (A 0)), (1, .int (x1)), (2, .long (x2))] rfl (fun K B C M N => ?_)
  refine y_aload_n C dX7_put_0 0 rfl rfl ?_
  refine yg_X7_7_wSs0 C dX7_put_1 ?_
  refine y_instAN C (Ca := "[S") (nm := "[B") 4 (wSs_1 ..) rfl (fun _ h => h) (by decide) q1120 dX7_put_4 ?_
  refine y_if_eq C (tgt := 25) dX7_put_7 rfl (fun _ => ?_) (fun c => absurd c (by decide))
  refine y_aload_n C dX7_put_25 0 rfl rfl ?_
  refine yg_X7_7_wSs0 C dX7_put_26 ?_
  refine y_instA C 4 (wSs_1 ..) rfl (fun _ h => h) q1121 dX7_put_29 ?_
  refine y_if_eq C (tgt := 50) dX7_put_32 rfl (fun c => absurd c (by decide)) (fun _ => ?_)
  refine y_aload_n C dX7_put_35 0 rfl rfl ?_
  refine yg_X7_7_wSs0 C dX7_put_36 ?_
  refine y_castA C 4 (wSs_1 ..) rfl (fun _ h => h) q1121 dX7_put_39 ?_
  refine y_iload_n C dX7_put_42 1 rfl rfl ?_
  refine y_lload_n C dX7_put_43 2 rfl rfl ?_
  refine y_l2i C dX7_put_44 ?_
  refine y_i2s C dX7_put_45 ?_
  by_cases hin : vp_in x1 u
  · refine y_sast C M (wSs_1 ..) rfl (wSs_s1 ..) hin dX7_put_46 ?_
    refine y_goto C (tgt := 84) dX7_put_47 rfl ?_
    exact y_vretX C M N rfl (S := ()) hw1 hin dX7_put_84 ⟨Nat.zero_le _, Nat.zero_le _⟩
  · refine y_sastZ C M (wSs_1 ..) hin hu dX7_put_46 ⟨Nat.le_of_ble_eq_true rfl, Nat.le_of_ble_eq_true rfl, Nat.le_of_ble_eq_true rfl, Nat.le_of_ble_eq_true rfl⟩ (fun q => ?_)
    exact y_outv C M N (by decide) ⟨rfl, hin, rfl⟩ ⟨by decide, by decide⟩
set_option maxRecDepth 100000 in
theorem mxt_s_put_i (G : Gx) (A : Nat → Nat) (u : Nat) (S : St) (x1 : Int32) (x2 : Int64) (w1 : va_W) (hu : u < 2 ^ 31) (hw1 : wSi u G A (sI S 1 (x1).toNatClampNeg (x2).toInt32) = w1) : Xv G yX7_put (ws_ yX7_put cX7_put 4 none) rm_s_put (wSi u G A S) [.ref (A 0), .int (x1), .long (x2)] (fun _ : Unit => w1) (fun _ => vp_in x1 u) (fun _ E w => E = "java/lang/ArrayIndexOutOfBoundsException" ∧ ¬ vp_in x1 u ∧ w = wSi u G A S) 0 0 3 222 := by
  refine ent_Xv (by decide) rfl (Nat.le_of_ble_eq_true rfl) [(0, .ref (A 0)), (1, .int (x1)), (2, .long (x2))] rfl (fun K B C M N => ?_)
  refine y_aload_n C dX7_put_0 0 rfl rfl ?_
  refine yg_X7_7_wSi0 C dX7_put_1 ?_
  refine y_instAN C (Ca := "[I") (nm := "[B") 0 (wSi_1 ..) rfl (fun _ h => h) (by decide) q1120 dX7_put_4 ?_
  refine y_if_eq C (tgt := 25) dX7_put_7 rfl (fun _ => ?_) (fun c => absurd c (by decide))
  refine y_aload_n C dX7_put_25 0 rfl rfl ?_
  refine yg_X7_7_wSi0 C dX7_put_26 ?_
  refine y_instAN C (Ca := "[I") (nm := "[S") 0 (wSi_1 ..) rfl (fun _ h => h) (by decide) q1121 dX7_put_29 ?_
  refine y_if_eq C (tgt := 50) dX7_put_32 rfl (fun _ => ?_) (fun c => absurd c (by decide))
  refine y_aload_n C dX7_put_50 0 rfl rfl ?_
  refine yg_X7_7_wSi0 C dX7_put_51 ?_
  refine y_instA C 0 (wSi_1 ..) rfl (fun _ h => h) q1122 dX7_put_54 ?_
  refine y_if_eq C (tgt := 74) dX7_put_57 rfl (fun c => absurd c (by decide)) (fun _ => ?_)
  refine y_aload_n C dX7_put_60 0 rfl rfl ?_
  refine yg_X7_7_wSi0 C dX7_put_61 ?_
  refine y_castA C 0 (wSi_1 ..) rfl (fun _ h => h) q1122 dX7_put_64 ?_
  refine y_iload_n C dX7_put_67 1 rfl rfl ?_
  refine y_lload_n C dX7_put_68 2 rfl rfl ?_
  refine y_l2i C dX7_put_69 ?_
  by_cases hin : vp_in x1 u
  · refine y_iast C M (wSi_1 ..) rfl (wSi_s1 ..) hin dX7_put_70 ?_
    refine y_goto C (tgt := 84) dX7_put_71 rfl ?_
    exact y_vretX C M N rfl (S := ()) hw1 hin dX7_put_84 ⟨Nat.zero_le _, Nat.zero_le _⟩
  · refine y_iastZ C M (wSi_1 ..) hin hu dX7_put_70 ⟨Nat.le_of_ble_eq_true rfl, Nat.le_of_ble_eq_true rfl, Nat.le_of_ble_eq_true rfl, Nat.le_of_ble_eq_true rfl⟩ (fun q => ?_)
    exact y_outv C M N (by decide) ⟨rfl, hin, rfl⟩ ⟨by decide, by decide⟩
set_option maxRecDepth 100000 in
theorem mxt_s_put_l (G : Gx) (A : Nat → Nat) (u : Nat) (S : St) (x1 : Int32) (x2 : Int64) (w1 : va_W) (hu : u < 2 ^ 31) (hw1 : wSl u G A (sL S 1 (x1).toNatClampNeg x2) = w1) : Xv G yX7_put (ws_ yX7_put cX7_put 4 none) rm_s_put (wSl u G A S) [.ref (A 0), .int (x1), .long (x2)] (fun _ : Unit => w1) (fun _ => vp_in x1 u) (fun _ E w => E = "java/lang/ArrayIndexOutOfBoundsException" ∧ ¬ vp_in x1 u ∧ w = wSl u G A S) 0 0 3 222 := by
  refine ent_Xv (by decide) rfl (Nat.le_of_ble_eq_true rfl) [(0, .ref (A 0)), (1, .int (x1)), (2, .long (x2))] rfl (fun K B C M N => ?_)
  refine y_aload_n C dX7_put_0 0 rfl rfl ?_
  refine yg_X7_7_wSl0 C dX7_put_1 ?_
  refine y_instAN C (Ca := "[J") (nm := "[B") 3 (wSl_1 ..) rfl (fun _ h => h) (by decide) q1120 dX7_put_4 ?_
  refine y_if_eq C (tgt := 25) dX7_put_7 rfl (fun _ => ?_) (fun c => absurd c (by decide))
  refine y_aload_n C dX7_put_25 0 rfl rfl ?_
  refine yg_X7_7_wSl0 C dX7_put_26 ?_
  refine y_instAN C (Ca := "[J") (nm := "[S") 3 (wSl_1 ..) rfl (fun _ h => h) (by decide) q1121 dX7_put_29 ?_
  refine y_if_eq C (tgt := 50) dX7_put_32 rfl (fun _ => ?_) (fun c => absurd c (by decide))
  refine y_aload_n C dX7_put_50 0 rfl rfl ?_
  refine yg_X7_7_wSl0 C dX7_put_51 ?_
  refine y_instAN C (Ca := "[J") (nm := "[I") 3 (wSl_1 ..) rfl (fun _ h => h) (by decide) q1122 dX7_put_54 ?_
  refine y_if_eq C (tgt := 74) dX7_put_57 rfl (fun _ => ?_) (fun c => absurd c (by decide))
  refine y_aload_n C dX7_put_74 0 rfl rfl ?_
  refine yg_X7_7_wSl0 C dX7_put_75 ?_
  refine y_castA C 3 (wSl_1 ..) rfl (fun _ h => h) q1123 dX7_put_78 ?_
  refine y_iload_n C dX7_put_81 1 rfl rfl ?_
  refine y_lload_n C dX7_put_82 2 rfl rfl ?_
  by_cases hin : vp_in x1 u
  · refine y_last C M (wSl_1 ..) rfl (wSl_s1 ..) hin dX7_put_83 ?_
    exact y_vretX C M N rfl (S := ()) hw1 hin dX7_put_84 ⟨Nat.zero_le _, Nat.zero_le _⟩
  · refine y_lastZ C M (wSl_1 ..) hin hu dX7_put_83 ⟨Nat.le_of_ble_eq_true rfl, Nat.le_of_ble_eq_true rfl, Nat.le_of_ble_eq_true rfl, Nat.le_of_ble_eq_true rfl⟩ (fun q => ?_)
    exact y_outv C M N (by decide) ⟨rfl, hin, rfl⟩ ⟨by decide, by decide⟩
set_option maxRecDepth 100000 in
theorem mxt_s_putN (G : Gx) (w : va_W) (b q0 : Nat) (x1 : Int32) (x2 : Int64) (he : w[q0]? = some (b, .inr (6, [.null]))) : Xv G yX7_put (ws_ yX7_put cX7_put 4 none) rm_s_put w [.ref b, .int x1, .long x2] (fun _ : St => w) (fun _ => False) (fun _ E u => E = "java/lang/NullPointerException" ∧ u = w) 0 0 3 222 := by
  refine ent_Xv (by decide) rfl (Nat.le_of_ble_eq_true rfl) [(0, .ref b), (1, .int x1), (2, .long x2)] rfl (fun K B C M N => ?_)
  refine y_aload_n C dX7_put_0 0 rfl rfl ?_
  refine y_get C (ref := "OverHill$Slot") (Cn := RX7) (T := TX7) (N := 1) in_X7 he rfl 0 (by decide) q371 (fun _ _ h => h) rfl dX7_put_1 ?_
  refine y_instN C dX7_put_4 ?_
  refine y_if_eq C (tgt := 25) dX7_put_7 rfl (fun _ => ?_) (fun c => absurd rfl c)
  refine y_aload_n C dX7_put_25 0 rfl rfl ?_
  refine y_get C (ref := "OverHill$Slot") (Cn := RX7) (T := TX7) (N := 1) in_X7 he rfl 0 (by decide) q371 (fun _ _ h => h) rfl dX7_put_26 ?_
  refine y_instN C dX7_put_29 ?_
  refine y_if_eq C (tgt := 50) dX7_put_32 rfl (fun _ => ?_) (fun c => absurd rfl c)
  refine y_aload_n C dX7_put_50 0 rfl rfl ?_
  refine y_get C (ref := "OverHill$Slot") (Cn := RX7) (T := TX7) (N := 1) in_X7 he rfl 0 (by decide) q371 (fun _ _ h => h) rfl dX7_put_51 ?_
  refine y_instN C dX7_put_54 ?_
  refine y_if_eq C (tgt := 74) dX7_put_57 rfl (fun _ => ?_) (fun c => absurd rfl c)
  refine y_aload_n C dX7_put_74 0 rfl rfl ?_
  refine y_get C (ref := "OverHill$Slot") (Cn := RX7) (T := TX7) (N := 1) in_X7 he rfl 0 (by decide) q371 (fun _ _ h => h) rfl dX7_put_75 ?_
  refine y_castN C dX7_put_78 ?_
  refine y_iload_n C dX7_put_81 1 rfl rfl ?_
  refine y_lload_n C dX7_put_82 2 rfl rfl ?_
  refine y_lastN C M dX7_put_83 ⟨Nat.le_of_ble_eq_true rfl, Nat.le_of_ble_eq_true rfl, Nat.le_of_ble_eq_true rfl, Nat.le_of_ble_eq_true rfl⟩ (fun q => ?_)
  exact y_outv C M N (by decide) ⟨rfl, rfl⟩ ⟨by decide, by decide⟩
