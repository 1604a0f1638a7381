/-! the Reader's rows (printed by tools/mkrd.py) -/
set_option maxRecDepth 100000
section RUNSI
variable {p : Program} {l : Launch} {e : Env} {R : Room} {s : State} {m : MethodId} {args : Array Value} {below : List Frame} {meth : Method} {c : Code} {H : Heap} {locs : List Loc} {cells slots : Nat} {Q : State → Prop} {pc : Nat} {ls : Array Slot} {rest st0 : List Value} {a : Array Value}
theorem run_si {post : Int32 → Prop} (hr : va_Run p l e R s m args below meth c H locs cells slots 0 0 (F0 m pc ls st0) rest (vp_Si post a) (fun _ => False)) (kk : ∀ r : Int32, post r → W p l e R s m args below meth c H locs cells slots Q (F0 m (pc + 3) ls (.int r :: rest))) : W p l e R s m args below meth c H locs cells slots Q (F0 m pc ls st0) := by
  intro T hT X
  obtain ⟨v, st₀, t, T', L, h0, X', hL, e1, -, ⟨r, hv, hp, hh⟩, st⟩ := hr T hT X
  cases hv
  obtain ⟨t2, a1, b1⟩ := kk r hp T' (by rw [e1, hh, h0]) (Stand.forget X' (fun q h => (hL q h).elim))
  exact ⟨t2, st t2 a1, b1⟩
end RUNSI
def CsSN (own : String) (index : Nat) (y : MethodName) (host : String) (bytes : ByteArray) (maxL : Nat) (ret : Option FieldType) (n : Nat) : Prop := GoodIn lw_all (ws_ y bytes maxL ret) ∧ (Cond.initialized y.cls ∈ lw_all ∧ Cond.methodLinkNest own index y host ∈ lw_tbl ∧ Cond.static y ∈ lw_all) ∧ (y.cls ≠ "java/lang/invoke/MethodHandle" ∧ y.cls ≠ "java/lang/invoke/VarHandle" ∧ (parseMethodDescriptor y.desc).map (fun d => d.parameters.length) = some n)
theorem split_nil (w : va_W) : Split w [] w := split_app [] w
theorem y_callRiSN {G : Gx} {K : Kx} {own : String} {cc : ByteArray} {rm : Room} {nL : Nat} {ret : Option FieldType} {k n pc : Nat} {w : va_W} {lv : List (Nat × Value)} {st : List Value} (C : KOk G K own cc rm nL ret) {y : MethodName} {host : String} {bytes : ByteArray} {maxL index nn : Nat} {ret' : Option FieldType} {rm' : Room} {As rest : List Value} {Qp : Int32 → Prop} (cs : CsSN own index y host bytes maxL ret' nn) (hM : Ri G y (ws_ y bytes maxL ret') rm' [] As Qp) (hrm : rm'.cells = 0 ∧ rm'.slots = 0 ∧ rm'.frames + 1 ≤ rm.frames ∧ 8 + (maxL + 11) + rm'.locals ≤ rm.locals) (hn : As.length = nn) (hst : st = As.reverse ++ rest) (hcat : (rest.map fun v => v.category).sum ≤ 8) (hdg : decode cc pc = .ok (.invokestatic index, 3)) (hkn : k ≤ rm.cells ∧ n ≤ rm.slots) (kk : ∀ r : Int32, Qp r → Y G K k n w (pc + 3) lv (.int r :: rest)) : Y G K k n w pc lv st := by
  obtain ⟨R, nL0, p, e, s, m, args, below, meth, c, Q, I⟩ := K
  obtain ⟨rfl, rfl, hx, hb, hr, hlk, hml, hown, hts, hKW⟩ := C
  subst hst
  intro H locs ls hP hI hl
  exact run_si (va_runSN (As := As) (rest := rest) ⟨hx, hb, hml, hown, hts⟩ hM ⟨va_cnB nn hts cs.1 rfl hrm.1 hrm.2.1 (hKW.2.1 _ cs.2.1.2.1 rfl) (hts _ cs.2.1.1) cs.2.2 hrm.2.2, hts _ cs.2.1.2.2, trivial⟩ ⟨pcR_blind, fun U hU hW => ⟨rfl, by rw [hU]; exact pw_nil, hKW.warm hW⟩⟩ rfl hn hl.1 rfl (lv_room hcat) hdg ⟨hkn.1, hkn.2⟩) (fun r hr2 => kk r hr2 H locs ls hP hI hl)
theorem y_athrow {G : Gx} {K : Kx} {own : String} {cc : ByteArray} {rm : Room} {nL : Nat} {ret : Option FieldType} {k n pc : Nat} {w : va_W} {lv : List (Nat × Value)} {st : List Value} (C : KOk G K own cc rm nL ret) {q q0 ci : Nat} {qc : vw_C} {fs : List Value} {E : String} (he : w[q0]? = some (q, .inr (ci, fs))) (hc : vwCl[ci]? = some qc) (hC : qc.1 = E) (hdg : decode cc pc = .ok (.athrow, 1)) (kk : YX G K k n w pc lv E q) : Y G K k n w pc lv (.ref q :: st) := by
  obtain ⟨R, nL0, p, e, s, m, args, below, meth, c, Q, I⟩ := K
  obtain ⟨rfl, rfl, hx, hb, hr, hlk, hml, hown, hts, hKW⟩ := C
  intro H locs ls hP hI hl
  obtain ⟨cell, h1, h2, h3⟩ := va_recv hKW.1 hP hc he
  obtain ⟨r, hr1, cell', q1, q2, q3, q4⟩ := hP q0 _ he
  have e9 := Option.some.inj (q1.symm.trans h1)
  subst e9
  exact vx_athrow hx hb hdg (kk H locs ls st cell' hP hI hl q1 q3 (hC ▸ h3))
theorem y_getTok {G : Gx} {K : Kx} {own : String} {cc : ByteArray} {rm : Room} {nL : Nat} {ret : Option FieldType} {k n pc : Nat} {w : va_W} {lv : List (Nat × Value)} {st : List Value} (C : KOk G K own cc rm nL ret) {A : Nat → Prop} (M : KM G K A) {nm : String} {index : Nat} (j : Nat) (t : Int32) (ht : t.toNatClampNeg = j) (hj : j < 5) (hnm : tokN j = nm) (hq : Cond.fieldLink own index "OverHill$Token" nm "LOverHill$Token;" ∈ lw_all) (hdg : decode cc pc = .ok (.getstatic index, 3)) (kk : Y G K k n w (pc + 3) lv (.ref (G.2.2.2 t.toNatClampNeg) :: st)) : Y G K k n w pc lv st := by
  subst hnm ht
  exact y_gets C M (fun _ _ _ h => h.2.2.2.2.1 _ hj) hq (fun _ _ h => h) hdg kk
theorem y_tok_eq {G : Gx} {K : Kx} {own : String} {cc : ByteArray} {rm : Room} {nL : Nat} {ret : Option FieldType} {k n pc : Nat} {w : va_W} {lv : List (Nat × Value)} {st : List Value} (C : KOk G K own cc rm nL ret) {A : Nat → Prop} (M : KM G K A) {a b : Int32} {j tgt : Nat} {off : Int} (ha : a.toNatClampNeg < 5) (hb9 : b.toNatClampNeg = j) (hj : j < 5) (hdg : decode cc pc = .ok (.if_acmp .eq off, 3)) (ht : (pc : Int) + off = (tgt : Int)) (kt : a.toNatClampNeg = j → Y G K k n w tgt lv st) (kf : ¬ a.toNatClampNeg = j → Y G K k n w (pc + 3) lv st) : Y G K k n w pc lv (.ref (G.2.2.2 b.toNatClampNeg) :: .ref (G.2.2.2 a.toNatClampNeg) :: st) := by
  subst hb9
  have hj2 : ∀ A U H, SF G A U H → (G.2.2.2 a.toNatClampNeg = G.2.2.2 b.toNatClampNeg ↔ a.toNatClampNeg = b.toNatClampNeg) := fun A U H h => ⟨fun e => h.2.2.2.2.2.1 _ _ ha hj e, fun e => by rw [e]⟩
  obtain ⟨R, nL0, p, e, s, m, args, below, meth, c, Q, I⟩ := K
  obtain ⟨rfl, rfl, hx, hb, hr, hlk, hml, hown, hts, hKW⟩ := C
  obtain ⟨rfl, hA, hSF⟩ := M
  intro H locs ls hP hI hl
  have h9 := hj2 _ _ _ hSF
  exact lv_acmp_eq (rx := some (G.2.2.2 a.toNatClampNeg)) (ry := some (G.2.2.2 b.toNatClampNeg)) hx hb hdg ht (fun c => kt (h9.mp (Option.some.inj c)) H locs ls hP hI hl) (fun c => kf (fun z => c (congrArg some (h9.mpr z))) H locs ls hP hI hl)
theorem y_tok_ne {G : Gx} {K : Kx} {own : String} {cc : ByteArray} {rm : Room} {nL : Nat} {ret : Option FieldType} {k n pc : Nat} {w : va_W} {lv : List (Nat × Value)} {st : List Value} (C : KOk G K own cc rm nL ret) {A : Nat → Prop} (M : KM G K A) {a b : Int32} {j tgt : Nat} {off : Int} (ha : a.toNatClampNeg < 5) (hb9 : b.toNatClampNeg = j) (hj : j < 5) (hdg : decode cc pc = .ok (.if_acmp .ne off, 3)) (ht : (pc : Int) + off = (tgt : Int)) (kt : ¬ a.toNatClampNeg = j → Y G K k n w tgt lv st) (kf : a.toNatClampNeg = j → Y G K k n w (pc + 3) lv st) : Y G K k n w pc lv (.ref (G.2.2.2 b.toNatClampNeg) :: .ref (G.2.2.2 a.toNatClampNeg) :: st) := by
  subst hb9
  have hj2 : ∀ A U H, SF G A U H → (G.2.2.2 a.toNatClampNeg = G.2.2.2 b.toNatClampNeg ↔ a.toNatClampNeg = b.toNatClampNeg) := fun A U H h => ⟨fun e => h.2.2.2.2.2.1 _ _ ha hj e, fun e => by rw [e]⟩
  obtain ⟨R, nL0, p, e, s, m, args, below, meth, c, Q, I⟩ := K
  obtain ⟨rfl, rfl, hx, hb, hr, hlk, hml, hown, hts, hKW⟩ := C
  obtain ⟨rfl, hA, hSF⟩ := M
  intro H locs ls hP hI hl
  have h9 := hj2 _ _ _ hSF
  exact lv_acmp_ne (rx := some (G.2.2.2 a.toNatClampNeg)) (ry := some (G.2.2.2 b.toNatClampNeg)) hx hb hdg ht (fun c => kt (fun z => c (congrArg some (h9.mpr z))) H locs ls hP hI hl) (fun c => kf (h9.mp (Option.some.inj c)) H locs ls hP hI hl)
theorem y_slen {G : Gx} {K : Kx} {own : String} {cc : ByteArray} {rm : Room} {nL : Nat} {ret : Option FieldType} {k n pc : Nat} {w : va_W} {lv : List (Nat × Value)} {st : List Value} (C : KOk G K own cc rm nL ret) {A : Nat → Prop} (M : KM G K A) {i index : Nat} (cs : CsV own index yJ4_length cJ4_length 1 (some .int) 0) (hi : i < 16) (hfr : 3 ≤ rm.frames ∧ 120 ≤ rm.locals) (hcat : (st.map fun v => v.category).sum ≤ 8) (hdg : decode cc pc = .ok (.invokevirtual index, 3)) (hkn : k ≤ rm.cells ∧ n ≤ rm.slots) (kk : Y G K k n w (pc + 3) lv (.int (nI (strLen.getD i 0)) :: st)) : Y G K k n w pc lv (.ref (G.2.2.2 (10 + i)) :: st) := by
  refine y_callFiX C M (As := []) (rest := st) (wc := []) (wr := w) cs (mk_slen G i hi) (split_nil w) (fun _ _ _ _ h hS => str_recv hi h hS) ⟨rfl, rfl, by show 2 + 1 ≤ _; omega, by show 8 + (1 + 11) + 80 ≤ _; omega⟩ rfl rfl hcat hdg ⟨hkn.1, hkn.2⟩ (k' := k) (n' := n) rfl rfl (fun r S h => ?_)
  subst h
  exact Y.eqw (List.append_nil _) kk
theorem y_schar {G : Gx} {K : Kx} {own : String} {cc : ByteArray} {rm : Room} {nL : Nat} {ret : Option FieldType} {k n pc : Nat} {w : va_W} {lv : List (Nat × Value)} {st : List Value} (C : KOk G K own cc rm nL ret) {A : Nat → Prop} (M : KM G K A) {i index : Nat} {j : Int32} (cs : CsV own index yJ4_charAt cJ4_charAt 2 (some .char) 1) (hi : i < 16) (hj : vp_in j (strLen.getD i 0)) (hfr : 5 ≤ rm.frames ∧ 200 ≤ rm.locals) (hcat : (st.map fun v => v.category).sum ≤ 8) (hdg : decode cc pc = .ok (.invokevirtual index, 3)) (hkn : k ≤ rm.cells ∧ n ≤ rm.slots) (kk : Y G K k n w (pc + 3) lv (.int ((strByt.getD i []).getD j.toNatClampNeg 0) :: st)) : Y G K k n w pc lv (.int j :: .ref (G.2.2.2 (10 + i)) :: st) := by
  refine y_callFiX C M (As := [.int j]) (rest := st) (wc := []) (wr := w) cs (mk_schar G i hi j hj) (split_nil w) (fun _ _ _ _ h hS => str_recv hi h hS) ⟨rfl, rfl, by show 4 + 1 ≤ _; omega, by show 8 + (2 + 11) + 160 ≤ _; omega⟩ rfl rfl hcat hdg ⟨hkn.1, hkn.2⟩ (k' := k) (n' := n) rfl rfl (fun r S h => ?_)
  subst h
  exact Y.eqw (List.append_nil _) kk
