/-! calls by parts (printed by tools/mkdr.py) -/
set_option maxRecDepth 100000
theorem y_callFvI {G : Gx} {K : Kx} {own : String} {cc : ByteArray} {rm : Room} {nL : Nat} {ret : Option FieldType} {k n pc : Nat} {w : va_W} {lv : List (Nat × Value)} {st : List Value} (C : KOk G K own cc rm nL ret) {A : Nat → Prop} (M : KM G K A) {mc ms k' n' : Nat} {y : MethodName} {bytes : ByteArray} {maxL index nn : Nat} {rm' : Room} {b : Nat} {As rest : List Value}  {S9 : Type} {wf : S9 → va_W} {Qp : S9 → Prop} {wc wr : va_W} (cs : CsI own index y bytes maxL nn) (hM : MvA G y (ws_ y bytes maxL none) rm' wc (.ref b :: As) wf Qp mc ms) (hs : Split w wc wr) (hrm : rm'.cells = mc ∧ rm'.slots = ms ∧ rm'.frames + 1 ≤ rm.frames ∧ 8 + (maxL + 11) + rm'.locals ≤ rm.locals) (hn : As.length = nn) (hst : st = As.reverse ++ .ref b :: rest) (hcat : (rest.map fun v => v.category).sum ≤ 8) (hdg : decode cc pc = .ok (.invokespecial index, 3)) (hkn : k + mc ≤ rm.cells ∧ n + ms ≤ rm.slots) (hk' : k + mc = k') (hn' : n + ms = n') (kk : ∀ S : S9, Qp S → Y G K k' n' (wr ++ wf S) (pc + 3) lv rest) : Y G K k n w pc lv st := by
  obtain ⟨isC, isR, hC0, hR0, hnC, hnR, hdis⟩ := hs
  exact y_callI C M cs hM isC isR hC0 hR0 hnC hnR hdis hrm hn hst hcat hdg hkn hk' hn' kk
theorem y_callFvIN {G : Gx} {K : Kx} {own : String} {cc : ByteArray} {rm : Room} {nL : Nat} {ret : Option FieldType} {k n pc : Nat} {w : va_W} {lv : List (Nat × Value)} {st : List Value} (C : KOk G K own cc rm nL ret) {A : Nat → Prop} (M : KM G K A) {mc ms k' n' : Nat} {y : MethodName} {bytes : ByteArray} {maxL index nn : Nat} {rm' : Room} {b : Nat} {As rest : List Value} {host : String} {S9 : Type} {wf : S9 → va_W} {Qp : S9 → Prop} {wc wr : va_W} (cs : CsIN own index y host bytes maxL nn) (hM : MvA G y (ws_ y bytes maxL none) rm' wc (.ref b :: As) wf Qp mc ms) (hs : Split w wc wr) (hrm : rm'.cells = mc ∧ rm'.slots = ms ∧ rm'.frames + 1 ≤ rm.frames ∧ 8 + (maxL + 11) + rm'.locals ≤ rm.locals) (hn : As.length = nn) (hst : st = As.reverse ++ .ref b :: rest) (hcat : (rest.map fun v => v.category).sum ≤ 8) (hdg : decode cc pc = .ok (.invokespecial index, 3)) (hkn : k + mc ≤ rm.cells ∧ n + ms ≤ rm.slots) (hk' : k + mc = k') (hn' : n + ms = n') (kk : ∀ S : S9, Qp S → Y G K k' n' (wr ++ wf S) (pc + 3) lv rest) : Y G K k n w pc lv st := by
  obtain ⟨isC, isR, hC0, hR0, hnC, hnR, hdis⟩ := hs
  exact y_callIN C M cs hM isC isR hC0 hR0 hnC hnR hdis hrm hn hst hcat hdg hkn hk' hn' kk
theorem y_callXFiV {G : Gx} {K : Kx} {own : String} {cc : ByteArray} {rm : Room} {nL : Nat} {ret : Option FieldType} {k n pc : Nat} {w : va_W} {lv : List (Nat × Value)} {st : List Value} (C : KOk G K own cc rm nL ret) {A : Nat → Prop} (M : KM G K A) {m7 s7 mc ms k' n' k9 n9 : Nat} {y : MethodName} {bytes : ByteArray} {maxL index nn : Nat} {ret' : Option FieldType} {rm' : Room} {b : Nat} {As rest : List Value} {S9 : Type} {wf : S9 → va_W} {Qp : Int32 → S9 → Prop} {XP : XPt} {wc wr : va_W} (cs : CsV own index y bytes maxL ret' nn) (hM : Xi G y (ws_ y bytes maxL ret') rm' wc (.ref b :: As) wf Qp XP m7 s7 mc ms) (hs : Split w wc wr) {q0 ci : Nat} {qc : vw_C} {fs : List Value} (he : w[q0]? = some (b, .inr (ci, fs))) (hc : vwCl[ci]? = some qc) (hC : qc.1 = y.cls) (hrm : rm'.cells = mc ∧ rm'.slots = ms ∧ rm'.frames + 1 ≤ rm.frames ∧ 8 + (maxL + 11) + rm'.locals ≤ rm.locals) (hn : As.length = nn) (hst : st = As.reverse ++ .ref b :: rest) (hcat : (rest.map fun v => v.category).sum ≤ 8) (hdg : decode cc pc = .ok (.invokevirtual index, 3)) (hkn : k + mc ≤ rm.cells ∧ n + ms ≤ rm.slots) (hk' : k + m7 = k') (hn' : n + s7 = n') (hk9 : k + mc = k9) (hn9 : n + ms = n9) (kx : ∀ (q : Nat) (E : String) (w' : va_W), XP q E w' → YX G K k9 n9 (wr ++ w') pc lv E q) (kk : ∀ (r : Int32) (S : S9), Qp r S → Y G K k' n' (wr ++ wf S) (pc + 3) lv (.int r :: rest)) : Y G K k n w pc lv st := by
  subst hk' hn' hk9 hn9
  obtain ⟨isC, isR, hC0, hR0, hnC, hnR, hdis⟩ := hs
  obtain ⟨R, nL0, p, e, s, m, args, below, meth, c, Q, I⟩ := K
  obtain ⟨rfl, rfl, hx, hb, hr, hlk, hml, hown, hts, hKW⟩ := C
  obtain ⟨rfl, hA, hSF⟩ := M
  subst hst
  intro H locs ls hP hI hl
  have hF := va_free hI.1 hI.2 hA isC hC0
  have hPc : PW G wc H := part_P hP isC hC0
  have hDc := hI.1.sub isC hnC hC0
  refine vx_calli (vx_runV (As := As) (rest := rest) (b := b) ⟨hx, hb, hml, hown, hts⟩ (hM H.size) (cwV nn hts cs.1 rfl hrm.1 hrm.2.1 ⟨rfl, cs.2⟩ hrm.2.2) ⟨pcM_blind, by rw [← hC]; exact va_recv hKW.1 hP hc he, fun U hU hW => ⟨rfl, by rw [hU], by rw [hU]; exact hPc, hKW.warm hW, hDc.weaken (fun _ _ _ _ => trivial), by rw [hU]; exact hSF.call hI.2 hW hF⟩⟩ rfl hn hl.1 rfl (lv_room hcat) hdg ⟨hkn.1, hkn.2⟩) hI.2 (fun q _ h => hF q h) hF (fun q _ h => hF q h) (fun E ce q9 u t H1 locs1 ht hvm _ hB hz1 hk1 hS hce hcv hcl => ?_) (fun r S t H1 locs1 ht hvm hq hB hz1 hk1 hS => ?_)
  · rw [ht] at hB
    obtain ⟨j1, j2⟩ := va_join hP hI.1 isC isR hC0 hR0 hnR hdis hk1 hF hB.2.1 hB.2.2
    exact kx q9 E u hB.1 H1 locs1 ls _ ce j1 ⟨j2, hS⟩ hl hce hcv hcl
  · rw [BM, ht] at hB
    obtain ⟨j1, j2⟩ := va_join hP hI.1 isC isR hC0 hR0 hnR hdis hk1 hF hB.1 hB.2.2
    exact kk r S hq H1 locs1 ls j1 ⟨j2, hS⟩ hl
theorem y_callXFvV {G : Gx} {K : Kx} {own : String} {cc : ByteArray} {rm : Room} {nL : Nat} {ret : Option FieldType} {k n pc : Nat} {w : va_W} {lv : List (Nat × Value)} {st : List Value} (C : KOk G K own cc rm nL ret) {A : Nat → Prop} (M : KM G K A) {m7 s7 mc ms k' n' k9 n9 : Nat} {y : MethodName} {bytes : ByteArray} {maxL index nn : Nat} {ret' : Option FieldType} {rm' : Room} {b : Nat} {As rest : List Value} {S9 : Type} {wf : S9 → va_W} {Qp : S9 → Prop} {XP : XPt} {wc wr : va_W} (cs : CsV own index y bytes maxL ret' nn) (hM : Xv G y (ws_ y bytes maxL ret') rm' wc (.ref b :: As) wf Qp XP m7 s7 mc ms) (hs : Split w wc wr) {q0 ci : Nat} {qc : vw_C} {fs : List Value} (he : w[q0]? = some (b, .inr (ci, fs))) (hc : vwCl[ci]? = some qc) (hC : qc.1 = y.cls) (hrm : rm'.cells = mc ∧ rm'.slots = ms ∧ rm'.frames + 1 ≤ rm.frames ∧ 8 + (maxL + 11) + rm'.locals ≤ rm.locals) (hn : As.length = nn) (hst : st = As.reverse ++ .ref b :: rest) (hcat : (rest.map fun v => v.category).sum ≤ 8) (hdg : decode cc pc = .ok (.invokevirtual index, 3)) (hkn : k + mc ≤ rm.cells ∧ n + ms ≤ rm.slots) (hk' : k + m7 = k') (hn' : n + s7 = n') (hk9 : k + mc = k9) (hn9 : n + ms = n9) (kx : ∀ (q : Nat) (E : String) (w' : va_W), XP q E w' → YX G K k9 n9 (wr ++ w') pc lv E q) (kk : ∀ S : S9, Qp S → Y G K k' n' (wr ++ wf S) (pc + 3) lv (rest)) : Y G K k n w pc lv st := by
  subst hk' hn' hk9 hn9
  obtain ⟨isC, isR, hC0, hR0, hnC, hnR, hdis⟩ := hs
  obtain ⟨R, nL0, p, e, s, m, args, below, meth, c, Q, I⟩ := K
  obtain ⟨rfl, rfl, hx, hb, hr, hlk, hml, hown, hts, hKW⟩ := C
  obtain ⟨rfl, hA, hSF⟩ := M
  subst hst
  intro H locs ls hP hI hl
  have hF := va_free hI.1 hI.2 hA isC hC0
  have hPc : PW G wc H := part_P hP isC hC0
  have hDc := hI.1.sub isC hnC hC0
  refine vx_callv (vx_runV (As := As) (rest := rest) (b := b) ⟨hx, hb, hml, hown, hts⟩ (hM H.size) (cwV nn hts cs.1 rfl hrm.1 hrm.2.1 ⟨rfl, cs.2⟩ hrm.2.2) ⟨pcM_blind, by rw [← hC]; exact va_recv hKW.1 hP hc he, fun U hU hW => ⟨rfl, by rw [hU], by rw [hU]; exact hPc, hKW.warm hW, hDc.weaken (fun _ _ _ _ => trivial), by rw [hU]; exact hSF.call hI.2 hW hF⟩⟩ rfl hn hl.1 rfl (lv_room hcat) hdg ⟨hkn.1, hkn.2⟩) hI.2 (fun q _ h => hF q h) hF (fun q _ h => hF q h) (fun E ce q9 u t H1 locs1 ht hvm _ hB hz1 hk1 hS hce hcv hcl => ?_) (fun S t H1 locs1 ht hvm hq hB hz1 hk1 hS => ?_)
  · rw [ht] at hB
    obtain ⟨j1, j2⟩ := va_join hP hI.1 isC isR hC0 hR0 hnR hdis hk1 hF hB.2.1 hB.2.2
    exact kx q9 E u hB.1 H1 locs1 ls _ ce j1 ⟨j2, hS⟩ hl hce hcv hcl
  · rw [BM, ht] at hB
    obtain ⟨j1, j2⟩ := va_join hP hI.1 isC isR hC0 hR0 hnR hdis hk1 hF hB.1 hB.2.2
    exact kk S hq H1 locs1 ls j1 ⟨j2, hS⟩ hl
theorem y_callXFqV {G : Gx} {K : Kx} {own : String} {cc : ByteArray} {rm : Room} {nL : Nat} {ret : Option FieldType} {k n pc : Nat} {w : va_W} {lv : List (Nat × Value)} {st : List Value} (C : KOk G K own cc rm nL ret) {A : Nat → Prop} (M : KM G K A) {m7 s7 mc ms k' n' k9 n9 : Nat} {y : MethodName} {bytes : ByteArray} {maxL index nn : Nat} {ret' : Option FieldType} {rm' : Room} {b : Nat} {As rest : List Value} {S9 : Type} {wf : S9 → va_W} {Qp : Option Nat → S9 → Prop} {XP : XPt} {wc wr : va_W} (cs : CsV own index y bytes maxL ret' nn) (hM : Xq G y (ws_ y bytes maxL ret') rm' wc (.ref b :: As) wf Qp XP m7 s7 mc ms) (hs : Split w wc wr) {q0 ci : Nat} {qc : vw_C} {fs : List Value} (he : w[q0]? = some (b, .inr (ci, fs))) (hc : vwCl[ci]? = some qc) (hC : qc.1 = y.cls) (hrm : rm'.cells = mc ∧ rm'.slots = ms ∧ rm'.frames + 1 ≤ rm.frames ∧ 8 + (maxL + 11) + rm'.locals ≤ rm.locals) (hn : As.length = nn) (hst : st = As.reverse ++ .ref b :: rest) (hcat : (rest.map fun v => v.category).sum ≤ 8) (hdg : decode cc pc = .ok (.invokevirtual index, 3)) (hkn : k + mc ≤ rm.cells ∧ n + ms ≤ rm.slots) (hk' : k + m7 = k') (hn' : n + s7 = n') (hk9 : k + mc = k9) (hn9 : n + ms = n9) (kx : ∀ (q : Nat) (E : String) (w' : va_W), XP q E w' → YX G K k9 n9 (wr ++ w') pc lv E q) (kk : ∀ (r : Option Nat) (S : S9), Qp r S → Y G K k' n' (wr ++ wf S) (pc + 3) lv (va_rf r :: rest)) : Y G K k n w pc lv st := by
  subst hk' hn' hk9 hn9
  obtain ⟨isC, isR, hC0, hR0, hnC, hnR, hdis⟩ := hs
  obtain ⟨R, nL0, p, e, s, m, args, below, meth, c, Q, I⟩ := K
  obtain ⟨rfl, rfl, hx, hb, hr, hlk, hml, hown, hts, hKW⟩ := C
  obtain ⟨rfl, hA, hSF⟩ := M
  subst hst
  intro H locs ls hP hI hl
  have hF := va_free hI.1 hI.2 hA isC hC0
  have hPc : PW G wc H := part_P hP isC hC0
  have hDc := hI.1.sub isC hnC hC0
  refine vx_callq (vx_runV (As := As) (rest := rest) (b := b) ⟨hx, hb, hml, hown, hts⟩ (hM H.size) (cwV nn hts cs.1 rfl hrm.1 hrm.2.1 ⟨rfl, cs.2⟩ hrm.2.2) ⟨pcM_blind, by rw [← hC]; exact va_recv hKW.1 hP hc he, fun U hU hW => ⟨rfl, by rw [hU], by rw [hU]; exact hPc, hKW.warm hW, hDc.weaken (fun _ _ _ _ => trivial), by rw [hU]; exact hSF.call hI.2 hW hF⟩⟩ rfl hn hl.1 rfl (lv_room hcat) hdg ⟨hkn.1, hkn.2⟩) hI.2 (fun q _ h => hF q h) hF (fun q _ h => hF q h) (fun E ce q9 u t H1 locs1 ht hvm _ hB hz1 hk1 hS hce hcv hcl => ?_) (fun r S t H1 locs1 ht hvm hq hB hz1 hk1 hS => ?_)
  · rw [ht] at hB
    obtain ⟨j1, j2⟩ := va_join hP hI.1 isC isR hC0 hR0 hnR hdis hk1 hF hB.2.1 hB.2.2
    exact kx q9 E u hB.1 H1 locs1 ls _ ce j1 ⟨j2, hS⟩ hl hce hcv hcl
  · rw [BM, ht] at hB
    obtain ⟨j1, j2⟩ := va_join hP hI.1 isC isR hC0 hR0 hnR hdis hk1 hF hB.1 hB.2.2
    exact kk r S hq H1 locs1 ls j1 ⟨j2, hS⟩ hl
