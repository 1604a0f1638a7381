/-! the Reader's world, methods that may throw and give a reference (printed by tools/mkrb.py) -/
set_option maxRecDepth 100000
abbrev thn {α β : Type} (r : α ⊕ β) (a : α → Prop) (b : β → Prop) : Prop := match r with | .inl x => a x | .inr y => b y
def Xq {S9 : Type} (G : Gx) (y : MethodName) (ws : List Cond) (rm : Room) (w : va_W) (av : List Value) (wf : S9 → va_W) (Qp : Option Nat → S9 → Prop) (XP : XPt) (m7 s7 mc ms : Nat) : Prop := ∀ sz : Nat, vx_Met G.1 y ws rm (PcM G w av sz) (va_Qq Qp (BM G (va_A w sz) wf) (va_A w sz)) (XB G XP (va_A w sz)) m7 s7 mc ms (va_A w sz)
def KXq {S9 : Type} (G : Gx) (K : Kx) (A : Nat → Prop) (wf : S9 → va_W) (Qp : Option Nat → S9 → Prop) (XP : XPt) (m7 s7 mc ms : Nat) (hh : List (Nat × Nat × Nat × Nat)) : Prop :=
  match K with
  | (R, nL0, p, e, s, m, args, below, meth, c, Q, I) => Q = vx_MQ below (va_Qq Qp (BM G A wf) A) (XB G XP A) args s m7 s7 mc ms A ∧ c.exceptionTable.toList = tableOf hh
theorem y_aretX {k n m7 s7 mc ms : Nat} {hh : List (Nat × Nat × Nat × Nat)} {XP : XPt} {G : Gx} {K : Kx} {own : String} {cc : ByteArray} {rm : Room} {nL : Nat} {ret : Option FieldType} {pc : Nat} {w : va_W} {lv : List (Nat × Value)} (C : KOk G K own cc rm nL ret) {A : Nat → Prop} (M : KM G K A) {S9 : Type} {wf : S9 → va_W} {Qp : Option Nat → S9 → Prop} (N : KXq G K A wf Qp XP m7 s7 mc ms hh) {rt : FieldType} (hret : ret = some rt) (hrt : (∃ n, rt = .object n) ∨ ∃ t, rt = .array t) (v : Option Nat) {S : S9} (hw : w = wf S) (hq : Qp v S) (hdg : decode cc pc = .ok (.areturn, 1)) (hkn : k ≤ m7 ∧ n ≤ s7) : Y G K k n w pc lv [va_rf v] := by
  obtain ⟨R, nL0, p, e, s, m, args, below, meth, c, Q, I⟩ := K
  obtain ⟨rfl, rfl, hx, hb, hr, hlk, hml, hown, hts, hKW⟩ := C
  obtain ⟨rfl, hA, hSF⟩ := M
  obtain ⟨rfl, -⟩ := N
  subst hw
  intro H locs ls hP hI hl
  exact vx_ret (W.widen hkn.1 hkn.2 <| W.aret hx hb (hr.trans hret) hrt (va_rf_or v) (fun t ht hW => ⟨⟨v, S, rfl, hq, ⟨by rw [ht]; exact hP, hKW.warm hW, hI.1⟩⟩, hI.2.F ht⟩) hI.2.2.2 hdg hlk)
/-- not caught here: it goes on -/
theorem y_outq {k n m7 s7 mc ms : Nat} {hh : List (Nat × Nat × Nat × Nat)} {XP : XPt} {G : Gx} {K : Kx} {own : String} {cc : ByteArray} {rm : Room} {nL : Nat} {ret : Option FieldType} {pc : Nat} {w : va_W} {lv : List (Nat × Value)} (C : KOk G K own cc rm nL ret) {A : Nat → Prop} (M : KM G K A) {S9 : Type} {wf : S9 → va_W} {Qp : Option Nat → S9 → Prop} (N : KXq G K A wf Qp XP m7 s7 mc ms hh) (hout : ∀ x ∈ tableOf hh, covers x pc = false) {E : String} {q : Nat} (hq : XP q E w) (hkn : k ≤ mc ∧ n ≤ ms) : YX G K k n w pc lv E q := by
  obtain ⟨R, nL0, p, e, s, m, args, below, meth, c, Q, I⟩ := K
  obtain ⟨rfl, rfl, hx, hb, hr, hlk, hml, hown, hts, hKW⟩ := C
  obtain ⟨rfl, hA, hSF⟩ := M
  obtain ⟨rfl, htab⟩ := N
  intro H locs ls rest ce hP hI hl hce hcv hcl
  exact vx_out (by rw [htab]; exact hout) hlk hce hcv hcl (fun t ht hvm => ⟨w, trivial, ⟨hq, by rw [ht]; exact hP, hI.1⟩, hI.2.F ht⟩) hI.2.2.2 hkn.1 hkn.2
theorem ent_Xq {G : Gx} {y : MethodName} {own : String} {cc : ByteArray} {nL : Nat} {ret : Option FieldType} {rm : Room} {w : va_W} {av : List Value}  {m7 s7 mc ms : Nat} {S9 : Type} {wf : S9 → va_W} {Qp : Option Nat → S9 → Prop} {XP : XPt} (hy : plainName y.cls = true) (hown : y.cls = own) (hlen : (lg_sl av).length ≤ nL) (lv : List (Nat × Value)) (hlv : lv_args 0 av = lv) (body : ∀ (K : Kx) (A : Nat → Prop), KOk G K own cc rm nL ret → KM G K A → KXq G K A wf Qp XP m7 s7 mc ms [] → Y G K 0 0 w 0 lv []) : Xq G y (ws_ y cc nL ret) rm w av wf Qp XP m7 s7 mc ms := by
  intro sz
  refine vx_ofW (cc := cc) (maxL := nL) (ret := ret) hy rfl ?_
  intro p e s m args below meth c s₁ B hml hnt hv
  obtain ⟨rfl, rfl, hP, hKW, hD0, hSF⟩ := hv
  subst hlv
  subst hown
  have hts := atoms_spec (ws := ws_ y cc nL ret) B.pre
  have hts : ∀ w ∈ lw_all, w.before _ s = true := fun w h => hts w (List.mem_cons_of_mem _ h)
  have hown : s.vm.findClass y.cls = some m.cls := findClass_of_methodNamed B.named
  rw [lg_entry_eq]
  exact body ((headSpec (ws_ y cc nL ret) rm).room, nL, p, e, s, m, av.toArray, below, meth, c, vx_MQ below (va_Qq Qp (BM G (va_A w s.heap.size) wf) (va_A w s.heap.size)) (XB G XP (va_A w s.heap.size)) av.toArray s m7 s7 mc ms (va_A w s.heap.size), fun w' H locs => va_D (va_A w s.heap.size) w' ∧ va_S (va_A w s.heap.size) s.heap H locs) (va_A w s.heap.size) ⟨rfl, rfl, B.exec, B.bytes, B.returns, B.notSynchronized, hml, hown, hts, hKW⟩ ⟨rfl, fun q h => Or.inr h, hSF⟩ ⟨rfl, List.eq_nil_iff_forall_not_mem.mpr (fun x h => hnt x h)⟩ s.heap [] _ hP ⟨hD0.self, va_S.rf⟩ (lv_entry av hlen)
theorem y_callXqV {G : Gx} {K : Kx} {own : String} {cc : ByteArray} {rm : Room} {nL : Nat} {ret : Option FieldType} {k n pc : Nat} {w : va_W} {lv : List (Nat × Value)} {st : List Value} (C : KOk G K own cc rm nL ret) {A : Nat → Prop} (M : KM G K A) {m7 s7 mc ms k' n' k9 n9 : Nat} {y : MethodName} {bytes : ByteArray} {maxL index nn : Nat} {ret' : Option FieldType} {rm' : Room} {b : Nat} {As rest : List Value}  {S9 : Type} {wf : S9 → va_W} {Qp : Option Nat → S9 → Prop} {XP : XPt} (cs : CsV own index y bytes maxL ret' nn) (hM : Xq G y (ws_ y bytes maxL ret') rm' w (.ref b :: As) wf Qp XP m7 s7 mc ms) {q0 ci : Nat} {qc : vw_C} {fs : List Value} (he : w[q0]? = some (b, .inr (ci, fs))) (hc : vwCl[ci]? = some qc) (hC : qc.1 = y.cls) (hrm : rm'.cells = mc ∧ rm'.slots = ms ∧ rm'.frames + 1 ≤ rm.frames ∧ 8 + (maxL + 11) + rm'.locals ≤ rm.locals) (hn : As.length = nn) (hst : st = As.reverse ++ .ref b :: rest) (hcat : (rest.map fun v => v.category).sum ≤ 8) (hdg : decode cc pc = .ok (.invokevirtual index, 3)) (hkn : k + mc ≤ rm.cells ∧ n + ms ≤ rm.slots) (hk' : k + m7 = k') (hn' : n + s7 = n') (hk9 : k + mc = k9) (hn9 : n + ms = n9) (kx : ∀ (q : Nat) (E : String) (w' : va_W), XP q E w' → YX G K k9 n9 w' pc lv E q) (kk : ∀ (r : Option Nat) (S : S9), Qp r S → Y G K k' n' (wf S) (pc + 3) lv (va_rf r :: rest)) : Y G K k n w pc lv st := by
  subst hk' hn' hk9 hn9
  obtain ⟨R, nL0, p, e, s, m, args, below, meth, c, Q, I⟩ := K
  obtain ⟨rfl, rfl, hx, hb, hr, hlk, hml, hown, hts, hKW⟩ := C
  obtain ⟨rfl, hA, hSF⟩ := M
  subst hst
  intro H locs ls hP hI hl
  have hF := D_free hI.1 hI.2 hA
  refine vx_callq (vx_runV (As := As) (rest := rest) (b := b) ⟨hx, hb, hml, hown, hts⟩ (hM H.size) (cwV nn hts cs.1 rfl hrm.1 hrm.2.1 ⟨rfl, cs.2⟩ hrm.2.2) ⟨pcM_blind, by rw [← hC]; exact va_recv hKW.1 hP hc he, fun U hU hW => ⟨rfl, by rw [hU], by rw [hU]; exact hP, hKW.warm hW, hI.1.weaken (fun _ _ _ _ => trivial), by rw [hU]; exact hSF.call hI.2 hW hF⟩⟩ rfl hn hl.1 rfl (lv_room hcat) hdg ⟨hkn.1, hkn.2⟩) hI.2 (fun q _ h => hF q h) hF (fun q _ h => hF q h) (fun E ce q9 u t H1 locs1 ht hvm _ hB hz1 hk1 hS hce hcv hcl => ?_) (fun r S t H1 locs1 ht hvm hq hB hz1 hk1 hS => ?_)
  · rw [ht] at hB
    exact kx q9 E u hB.1 H1 locs1 ls _ ce hB.2.1 ⟨hB.2.2.weaken (fun _ q _ h => hF q.1 h), hS⟩ hl hce hcv hcl
  · rw [BM, ht] at hB
    exact kk r S hq H1 locs1 ls hB.1 ⟨hB.2.2.weaken (fun _ q _ h => hF q.1 h), hS⟩ hl
def fs_R40 (G : Gx) (A : Nat → Nat) (S : St) : List Value := [.int (S.1 40 0), .ref (A 15), .int (S.1 40 2), .int (S.1 40 3), .int (S.1 40 4), .ref (G.2.2.2 (S.1 40 5).toNatClampNeg), .ref (A 0)]
theorem fs_R40_f0 (G : Gx) (A : Nat → Nat) (S : St) : (fs_R40 G A S)[0]? = some (.int (S.1 40 0)) := rfl
theorem fs_R40_f1 (G : Gx) (A : Nat → Nat) (S : St) : (fs_R40 G A S)[1]? = some (.ref (A 15)) := rfl
theorem fs_R40_f2 (G : Gx) (A : Nat → Nat) (S : St) : (fs_R40 G A S)[2]? = some (.int (S.1 40 2)) := rfl
theorem fs_R40_f3 (G : Gx) (A : Nat → Nat) (S : St) : (fs_R40 G A S)[3]? = some (.int (S.1 40 3)) := rfl
theorem fs_R40_f4 (G : Gx) (A : Nat → Nat) (S : St) : (fs_R40 G A S)[4]? = some (.int (S.1 40 4)) := rfl
theorem fs_R40_f5 (G : Gx) (A : Nat → Nat) (S : St) : (fs_R40 G A S)[5]? = some (.ref (G.2.2.2 (S.1 40 5).toNatClampNeg)) := rfl
theorem fs_R40_f6 (G : Gx) (A : Nat → Nat) (S : St) : (fs_R40 G A S)[6]? = some (.ref (A 0)) := rfl
def fs_R0 (A : Nat → Nat) (S : St) : List Value := [.ref (A 60), .ref (A 1), .int (S.1 0 2), .int (S.1 0 3), .int (S.1 0 4), .ref (A 2), .ref (A 3), .ref (A 4), .ref (A 5), .ref (A 6), .ref (A 7), .int (S.1 0 11), .int (S.1 0 12), .int (S.1 0 13), .int (S.1 0 14), .long (S.2 0 15), .ref (A 8), .int (S.1 0 17), .ref (A 9), .ref (A 10), .int (S.1 0 20), .ref (A 11), .long (S.2 0 22), .long (S.2 0 23), .ref (A 12), .ref (A 13), .long (S.2 0 26), .ref (A 14), .int (S.1 0 28), .int (S.1 0 29), .int (S.1 0 30), .int (S.1 0 31), .ref (A 30), .ref (A 31)]
theorem fs_R0_f0 (A : Nat → Nat) (S : St) : (fs_R0 A S)[0]? = some (.ref (A 60)) := rfl
theorem fs_R0_f1 (A : Nat → Nat) (S : St) : (fs_R0 A S)[1]? = some (.ref (A 1)) := rfl
theorem fs_R0_f2 (A : Nat → Nat) (S : St) : (fs_R0 A S)[2]? = some (.int (S.1 0 2)) := rfl
theorem fs_R0_f3 (A : Nat → Nat) (S : St) : (fs_R0 A S)[3]? = some (.int (S.1 0 3)) := rfl
theorem fs_R0_f4 (A : Nat → Nat) (S : St) : (fs_R0 A S)[4]? = some (.int (S.1 0 4)) := rfl
theorem fs_R0_f5 (A : Nat → Nat) (S : St) : (fs_R0 A S)[5]? = some (.ref (A 2)) := rfl
theorem fs_R0_f6 (A : Nat → Nat) (S : St) : (fs_R0 A S)[6]? = some (.ref (A 3)) := rfl
theorem fs_R0_f7 (A : Nat → Nat) (S : St) : (fs_R0 A S)[7]? = some (.ref (A 4)) := rfl
theorem fs_R0_f8 (A : Nat → Nat) (S : St) : (fs_R0 A S)[8]? = some (.ref (A 5)) := rfl
theorem fs_R0_f9 (A : Nat → Nat) (S : St) : (fs_R0 A S)[9]? = some (.ref (A 6)) := rfl
theorem fs_R0_f10 (A : Nat → Nat) (S : St) : (fs_R0 A S)[10]? = some (.ref (A 7)) := rfl
theorem fs_R0_f11 (A : Nat → Nat) (S : St) : (fs_R0 A S)[11]? = some (.int (S.1 0 11)) := rfl
theorem fs_R0_f12 (A : Nat → Nat) (S : St) : (fs_R0 A S)[12]? = some (.int (S.1 0 12)) := rfl
theorem fs_R0_f13 (A : Nat → Nat) (S : St) : (fs_R0 A S)[13]? = some (.int (S.1 0 13)) := rfl
theorem fs_R0_f14 (A : Nat → Nat) (S : St) : (fs_R0 A S)[14]? = some (.int (S.1 0 14)) := rfl
theorem fs_R0_f15 (A : Nat → Nat) (S : St) : (fs_R0 A S)[15]? = some (.long (S.2 0 15)) := rfl
theorem fs_R0_f16 (A : Nat → Nat) (S : St) : (fs_R0 A S)[16]? = some (.ref (A 8)) := rfl
theorem fs_R0_f17 (A : Nat → Nat) (S : St) : (fs_R0 A S)[17]? = some (.int (S.1 0 17)) := rfl
theorem fs_R0_f18 (A : Nat → Nat) (S : St) : (fs_R0 A S)[18]? = some (.ref (A 9)) := rfl
theorem fs_R0_f19 (A : Nat → Nat) (S : St) : (fs_R0 A S)[19]? = some (.ref (A 10)) := rfl
theorem fs_R0_f20 (A : Nat → Nat) (S : St) : (fs_R0 A S)[20]? = some (.int (S.1 0 20)) := rfl
theorem fs_R0_f21 (A : Nat → Nat) (S : St) : (fs_R0 A S)[21]? = some (.ref (A 11)) := rfl
theorem fs_R0_f22 (A : Nat → Nat) (S : St) : (fs_R0 A S)[22]? = some (.long (S.2 0 22)) := rfl
theorem fs_R0_f23 (A : Nat → Nat) (S : St) : (fs_R0 A S)[23]? = some (.long (S.2 0 23)) := rfl
theorem fs_R0_f24 (A : Nat → Nat) (S : St) : (fs_R0 A S)[24]? = some (.ref (A 12)) := rfl
theorem fs_R0_f25 (A : Nat → Nat) (S : St) : (fs_R0 A S)[25]? = some (.ref (A 13)) := rfl
theorem fs_R0_f26 (A : Nat → Nat) (S : St) : (fs_R0 A S)[26]? = some (.long (S.2 0 26)) := rfl
theorem fs_R0_f27 (A : Nat → Nat) (S : St) : (fs_R0 A S)[27]? = some (.ref (A 14)) := rfl
theorem fs_R0_f28 (A : Nat → Nat) (S : St) : (fs_R0 A S)[28]? = some (.int (S.1 0 28)) := rfl
theorem fs_R0_f29 (A : Nat → Nat) (S : St) : (fs_R0 A S)[29]? = some (.int (S.1 0 29)) := rfl
theorem fs_R0_f30 (A : Nat → Nat) (S : St) : (fs_R0 A S)[30]? = some (.int (S.1 0 30)) := rfl
theorem fs_R0_f31 (A : Nat → Nat) (S : St) : (fs_R0 A S)[31]? = some (.int (S.1 0 31)) := rfl
theorem fs_R0_f32 (A : Nat → Nat) (S : St) : (fs_R0 A S)[32]? = some (.ref (A 30)) := rfl
theorem fs_R0_f33 (A : Nat → Nat) (S : St) : (fs_R0 A S)[33]? = some (.ref (A 31)) := rfl
abbrev fs_R15 := fs_D15
abbrev fs_R15_f0 := @fs_D15_f0
abbrev fs_R15_f1 := @fs_D15_f1
abbrev fs_R15_f2 := @fs_D15_f2
abbrev fs_R15_f3 := @fs_D15_f3
abbrev fs_R15_f4 := @fs_D15_f4
abbrev fs_R15_f5 := @fs_D15_f5
abbrev fs_R15_f6 := @fs_D15_f6
abbrev fs_R15_f7 := @fs_D15_f7
abbrev fs_R15_f8 := @fs_D15_f8
abbrev fs_R15_f9 := @fs_D15_f9
abbrev fs_R15_f10 := @fs_D15_f10
abbrev fs_R15_f11 := @fs_D15_f11
abbrev fs_R15_f12 := @fs_D15_f12
abbrev fs_R15_f13 := @fs_D15_f13
abbrev fs_R15_f14 := @fs_D15_f14
abbrev fs_R15_f15 := @fs_D15_f15
abbrev fs_R15_f16 := @fs_D15_f16
abbrev fs_R15_f17 := @fs_D15_f17
abbrev fs_R15_f18 := @fs_D15_f18
abbrev fs_R15_f19 := @fs_D15_f19
abbrev fs_R15_f20 := @fs_D15_f20
abbrev fs_R15_f21 := @fs_D15_f21
def wR (G : Gx) (A : Nat → Nat) (S : St) : va_W := [(A 40, .inr (8, fs_R40 G A S)), (A 0, .inr (0, fs_R0 A S)), (A 1, .inl (G.2.2.1 1, 1200, .inl (S.1 1))), (A 15, .inr (1, fs_R15 A S)), (A 16, .inl (G.2.2.1 0, 2, .inl (S.1 16))), (A 17, .inl (G.2.2.1 0, 2, .inl (S.1 17))), (A 18, .inl (G.2.2.1 0, 24, .inl (S.1 18))), (A 19, .inl (G.2.2.1 0, 6, .inl (S.1 19))), (A 20, .inl (G.2.2.1 0, 8, .inl (S.1 20))), (A 21, .inl (G.2.2.1 0, 8, .inl (S.1 21))), (A 22, .inl (G.2.2.1 0, 8, .inl (S.1 22))), (A 23, .inl (G.2.2.1 0, 8, .inl (S.1 23))), (A 24, .inl (G.2.2.1 0, 12, .inl (S.1 24))), (A 25, .inl (G.2.2.1 0, 12, .inl (S.1 25))), (A 26, .inl (G.2.2.1 0, 5, .inl (S.1 26))), (A 27, .inl (G.2.2.1 0, 5, .inl (S.1 27))), (A 28, .inl (G.2.2.1 0, 40, .inl (S.1 28))), (A 29, .inl (G.2.2.1 2, 200, .inl (S.1 29)))]
theorem wR_40  (G : Gx) (A : Nat → Nat) (S : St) : (wR G A S)[0]? = some (A 40, .inr (8, fs_R40 G A S)) := rfl
theorem wR_p40_2  (G : Gx) (A : Nat → Nat) (S : St) (v : Int32) : (wR G A S).set 0 (A 40, .inr (8, (fs_R40 G A S).set 2 (.int v))) = wR G A (sI S 40 2 v) := rfl
theorem wR_p40_3  (G : Gx) (A : Nat → Nat) (S : St) (v : Int32) : (wR G A S).set 0 (A 40, .inr (8, (fs_R40 G A S).set 3 (.int v))) = wR G A (sI S 40 3 v) := rfl
theorem wR_p40_4  (G : Gx) (A : Nat → Nat) (S : St) (v : Int32) : (wR G A S).set 0 (A 40, .inr (8, (fs_R40 G A S).set 4 (.int v))) = wR G A (sI S 40 4 v) := rfl
theorem wR_p40_5  (G : Gx) (A : Nat → Nat) (S : St) (v : Int32) : (wR G A S).set 0 (A 40, .inr (8, (fs_R40 G A S).set 5 (.ref (G.2.2.2 v.toNatClampNeg)))) = wR G A (sI S 40 5 v) := rfl
theorem wR_0  (G : Gx) (A : Nat → Nat) (S : St) : (wR G A S)[1]? = some (A 0, .inr (0, fs_R0 A S)) := rfl
theorem wR_p0_2  (G : Gx) (A : Nat → Nat) (S : St) (v : Int32) : (wR G A S).set 1 (A 0, .inr (0, (fs_R0 A S).set 2 (.int v))) = wR G A (sI S 0 2 v) := rfl
theorem wR_p0_3  (G : Gx) (A : Nat → Nat) (S : St) (v : Int32) : (wR G A S).set 1 (A 0, .inr (0, (fs_R0 A S).set 3 (.int v))) = wR G A (sI S 0 3 v) := rfl
theorem wR_p0_4  (G : Gx) (A : Nat → Nat) (S : St) (v : Int32) : (wR G A S).set 1 (A 0, .inr (0, (fs_R0 A S).set 4 (.int v))) = wR G A (sI S 0 4 v) := rfl
theorem wR_p0_11  (G : Gx) (A : Nat → Nat) (S : St) (v : Int32) : (wR G A S).set 1 (A 0, .inr (0, (fs_R0 A S).set 11 (.int v))) = wR G A (sI S 0 11 v) := rfl
theorem wR_p0_12  (G : Gx) (A : Nat → Nat) (S : St) (v : Int32) : (wR G A S).set 1 (A 0, .inr (0, (fs_R0 A S).set 12 (.int v))) = wR G A (sI S 0 12 v) := rfl
theorem wR_p0_13  (G : Gx) (A : Nat → Nat) (S : St) (v : Int32) : (wR G A S).set 1 (A 0, .inr (0, (fs_R0 A S).set 13 (.int v))) = wR G A (sI S 0 13 v) := rfl
theorem wR_p0_14  (G : Gx) (A : Nat → Nat) (S : St) (v : Int32) : (wR G A S).set 1 (A 0, .inr (0, (fs_R0 A S).set 14 (.int v))) = wR G A (sI S 0 14 v) := rfl
theorem wR_p0_15  (G : Gx) (A : Nat → Nat) (S : St) (v : Int64) : (wR G A S).set 1 (A 0, .inr (0, (fs_R0 A S).set 15 (.long v))) = wR G A (sL S 0 15 v) := rfl
theorem wR_p0_17  (G : Gx) (A : Nat → Nat) (S : St) (v : Int32) : (wR G A S).set 1 (A 0, .inr (0, (fs_R0 A S).set 17 (.int v))) = wR G A (sI S 0 17 v) := rfl
theorem wR_p0_20  (G : Gx) (A : Nat → Nat) (S : St) (v : Int32) : (wR G A S).set 1 (A 0, .inr (0, (fs_R0 A S).set 20 (.int v))) = wR G A (sI S 0 20 v) := rfl
theorem wR_p0_22  (G : Gx) (A : Nat → Nat) (S : St) (v : Int64) : (wR G A S).set 1 (A 0, .inr (0, (fs_R0 A S).set 22 (.long v))) = wR G A (sL S 0 22 v) := rfl
theorem wR_p0_23  (G : Gx) (A : Nat → Nat) (S : St) (v : Int64) : (wR G A S).set 1 (A 0, .inr (0, (fs_R0 A S).set 23 (.long v))) = wR G A (sL S 0 23 v) := rfl
theorem wR_p0_26  (G : Gx) (A : Nat → Nat) (S : St) (v : Int64) : (wR G A S).set 1 (A 0, .inr (0, (fs_R0 A S).set 26 (.long v))) = wR G A (sL S 0 26 v) := rfl
theorem wR_p0_28  (G : Gx) (A : Nat → Nat) (S : St) (v : Int32) : (wR G A S).set 1 (A 0, .inr (0, (fs_R0 A S).set 28 (.int v))) = wR G A (sI S 0 28 v) := rfl
theorem wR_p0_29  (G : Gx) (A : Nat → Nat) (S : St) (v : Int32) : (wR G A S).set 1 (A 0, .inr (0, (fs_R0 A S).set 29 (.int v))) = wR G A (sI S 0 29 v) := rfl
theorem wR_p0_30  (G : Gx) (A : Nat → Nat) (S : St) (v : Int32) : (wR G A S).set 1 (A 0, .inr (0, (fs_R0 A S).set 30 (.int v))) = wR G A (sI S 0 30 v) := rfl
theorem wR_p0_31  (G : Gx) (A : Nat → Nat) (S : St) (v : Int32) : (wR G A S).set 1 (A 0, .inr (0, (fs_R0 A S).set 31 (.int v))) = wR G A (sI S 0 31 v) := rfl
theorem wR_1  (G : Gx) (A : Nat → Nat) (S : St) : (wR G A S)[2]? = some (A 1, .inl (G.2.2.1 1, 1200, .inl (S.1 1))) := rfl
theorem wR_s1  (G : Gx) (A : Nat → Nat) (S : St) (k : Nat) (v : Int32) : (wR G A S).set 2 (A 1, .inl (G.2.2.1 1, 1200, .inl (upd (S.1 1) k v))) = wR G A (sI S 1 k v) := rfl
theorem wR_15  (G : Gx) (A : Nat → Nat) (S : St) : (wR G A S)[3]? = some (A 15, .inr (1, fs_R15 A S)) := rfl
theorem wR_p15_0  (G : Gx) (A : Nat → Nat) (S : St) (v : Int32) : (wR G A S).set 3 (A 15, .inr (1, (fs_R15 A S).set 0 (.int v))) = wR G A (sI S 15 0 v) := rfl
theorem wR_p15_1  (G : Gx) (A : Nat → Nat) (S : St) (v : Int32) : (wR G A S).set 3 (A 15, .inr (1, (fs_R15 A S).set 1 (.int v))) = wR G A (sI S 15 1 v) := rfl
theorem wR_p15_2  (G : Gx) (A : Nat → Nat) (S : St) (v : Int32) : (wR G A S).set 3 (A 15, .inr (1, (fs_R15 A S).set 2 (.int v))) = wR G A (sI S 15 2 v) := rfl
theorem wR_p15_3  (G : Gx) (A : Nat → Nat) (S : St) (v : Int32) : (wR G A S).set 3 (A 15, .inr (1, (fs_R15 A S).set 3 (.int v))) = wR G A (sI S 15 3 v) := rfl
theorem wR_p15_4  (G : Gx) (A : Nat → Nat) (S : St) (v : Int32) : (wR G A S).set 3 (A 15, .inr (1, (fs_R15 A S).set 4 (.int v))) = wR G A (sI S 15 4 v) := rfl
theorem wR_p15_5  (G : Gx) (A : Nat → Nat) (S : St) (v : Int32) : (wR G A S).set 3 (A 15, .inr (1, (fs_R15 A S).set 5 (.int v))) = wR G A (sI S 15 5 v) := rfl
theorem wR_p15_6  (G : Gx) (A : Nat → Nat) (S : St) (v : Int32) : (wR G A S).set 3 (A 15, .inr (1, (fs_R15 A S).set 6 (.int v))) = wR G A (sI S 15 6 v) := rfl
theorem wR_p15_7  (G : Gx) (A : Nat → Nat) (S : St) (v : Int32) : (wR G A S).set 3 (A 15, .inr (1, (fs_R15 A S).set 7 (.int v))) = wR G A (sI S 15 7 v) := rfl
theorem wR_16  (G : Gx) (A : Nat → Nat) (S : St) : (wR G A S)[4]? = some (A 16, .inl (G.2.2.1 0, 2, .inl (S.1 16))) := rfl
theorem wR_c16  (G : Gx) (A : Nat → Nat) (S : St) (f : Nat → Int32) : (wR G A S).set 4 (A 16, .inl (G.2.2.1 0, 2, .inl f)) = wR G A (sC S 16 f) := rfl
theorem wR_s16  (G : Gx) (A : Nat → Nat) (S : St) (k : Nat) (v : Int32) : (wR G A S).set 4 (A 16, .inl (G.2.2.1 0, 2, .inl (upd (S.1 16) k v))) = wR G A (sI S 16 k v) := rfl
theorem wR_17  (G : Gx) (A : Nat → Nat) (S : St) : (wR G A S)[5]? = some (A 17, .inl (G.2.2.1 0, 2, .inl (S.1 17))) := rfl
theorem wR_c17  (G : Gx) (A : Nat → Nat) (S : St) (f : Nat → Int32) : (wR G A S).set 5 (A 17, .inl (G.2.2.1 0, 2, .inl f)) = wR G A (sC S 17 f) := rfl
theorem wR_s17  (G : Gx) (A : Nat → Nat) (S : St) (k : Nat) (v : Int32) : (wR G A S).set 5 (A 17, .inl (G.2.2.1 0, 2, .inl (upd (S.1 17) k v))) = wR G A (sI S 17 k v) := rfl
theorem wR_18  (G : Gx) (A : Nat → Nat) (S : St) : (wR G A S)[6]? = some (A 18, .inl (G.2.2.1 0, 24, .inl (S.1 18))) := rfl
theorem wR_c18  (G : Gx) (A : Nat → Nat) (S : St) (f : Nat → Int32) : (wR G A S).set 6 (A 18, .inl (G.2.2.1 0, 24, .inl f)) = wR G A (sC S 18 f) := rfl
theorem wR_s18  (G : Gx) (A : Nat → Nat) (S : St) (k : Nat) (v : Int32) : (wR G A S).set 6 (A 18, .inl (G.2.2.1 0, 24, .inl (upd (S.1 18) k v))) = wR G A (sI S 18 k v) := rfl
theorem wR_19  (G : Gx) (A : Nat → Nat) (S : St) : (wR G A S)[7]? = some (A 19, .inl (G.2.2.1 0, 6, .inl (S.1 19))) := rfl
theorem wR_c19  (G : Gx) (A : Nat → Nat) (S : St) (f : Nat → Int32) : (wR G A S).set 7 (A 19, .inl (G.2.2.1 0, 6, .inl f)) = wR G A (sC S 19 f) := rfl
theorem wR_s19  (G : Gx) (A : Nat → Nat) (S : St) (k : Nat) (v : Int32) : (wR G A S).set 7 (A 19, .inl (G.2.2.1 0, 6, .inl (upd (S.1 19) k v))) = wR G A (sI S 19 k v) := rfl
theorem wR_20  (G : Gx) (A : Nat → Nat) (S : St) : (wR G A S)[8]? = some (A 20, .inl (G.2.2.1 0, 8, .inl (S.1 20))) := rfl
theorem wR_c20  (G : Gx) (A : Nat → Nat) (S : St) (f : Nat → Int32) : (wR G A S).set 8 (A 20, .inl (G.2.2.1 0, 8, .inl f)) = wR G A (sC S 20 f) := rfl
theorem wR_s20  (G : Gx) (A : Nat → Nat) (S : St) (k : Nat) (v : Int32) : (wR G A S).set 8 (A 20, .inl (G.2.2.1 0, 8, .inl (upd (S.1 20) k v))) = wR G A (sI S 20 k v) := rfl
theorem wR_21  (G : Gx) (A : Nat → Nat) (S : St) : (wR G A S)[9]? = some (A 21, .inl (G.2.2.1 0, 8, .inl (S.1 21))) := rfl
theorem wR_c21  (G : Gx) (A : Nat → Nat) (S : St) (f : Nat → Int32) : (wR G A S).set 9 (A 21, .inl (G.2.2.1 0, 8, .inl f)) = wR G A (sC S 21 f) := rfl
theorem wR_s21  (G : Gx) (A : Nat → Nat) (S : St) (k : Nat) (v : Int32) : (wR G A S).set 9 (A 21, .inl (G.2.2.1 0, 8, .inl (upd (S.1 21) k v))) = wR G A (sI S 21 k v) := rfl
theorem wR_22  (G : Gx) (A : Nat → Nat) (S : St) : (wR G A S)[10]? = some (A 22, .inl (G.2.2.1 0, 8, .inl (S.1 22))) := rfl
theorem wR_c22  (G : Gx) (A : Nat → Nat) (S : St) (f : Nat → Int32) : (wR G A S).set 10 (A 22, .inl (G.2.2.1 0, 8, .inl f)) = wR G A (sC S 22 f) := rfl
theorem wR_s22  (G : Gx) (A : Nat → Nat) (S : St) (k : Nat) (v : Int32) : (wR G A S).set 10 (A 22, .inl (G.2.2.1 0, 8, .inl (upd (S.1 22) k v))) = wR G A (sI S 22 k v) := rfl
theorem wR_23  (G : Gx) (A : Nat → Nat) (S : St) : (wR G A S)[11]? = some (A 23, .inl (G.2.2.1 0, 8, .inl (S.1 23))) := rfl
theorem wR_c23  (G : Gx) (A : Nat → Nat) (S : St) (f : Nat → Int32) : (wR G A S).set 11 (A 23, .inl (G.2.2.1 0, 8, .inl f)) = wR G A (sC S 23 f) := rfl
theorem wR_s23  (G : Gx) (A : Nat → Nat) (S : St) (k : Nat) (v : Int32) : (wR G A S).set 11 (A 23, .inl (G.2.2.1 0, 8, .inl (upd (S.1 23) k v))) = wR G A (sI S 23 k v) := rfl
theorem wR_24  (G : Gx) (A : Nat → Nat) (S : St) : (wR G A S)[12]? = some (A 24, .inl (G.2.2.1 0, 12, .inl (S.1 24))) := rfl
theorem wR_c24  (G : Gx) (A : Nat → Nat) (S : St) (f : Nat → Int32) : (wR G A S).set 12 (A 24, .inl (G.2.2.1 0, 12, .inl f)) = wR G A (sC S 24 f) := rfl
theorem wR_s24  (G : Gx) (A : Nat → Nat) (S : St) (k : Nat) (v : Int32) : (wR G A S).set 12 (A 24, .inl (G.2.2.1 0, 12, .inl (upd (S.1 24) k v))) = wR G A (sI S 24 k v) := rfl
theorem wR_25  (G : Gx) (A : Nat → Nat) (S : St) : (wR G A S)[13]? = some (A 25, .inl (G.2.2.1 0, 12, .inl (S.1 25))) := rfl
theorem wR_c25  (G : Gx) (A : Nat → Nat) (S : St) (f : Nat → Int32) : (wR G A S).set 13 (A 25, .inl (G.2.2.1 0, 12, .inl f)) = wR G A (sC S 25 f) := rfl
theorem wR_s25  (G : Gx) (A : Nat → Nat) (S : St) (k : Nat) (v : Int32) : (wR G A S).set 13 (A 25, .inl (G.2.2.1 0, 12, .inl (upd (S.1 25) k v))) = wR G A (sI S 25 k v) := rfl
theorem wR_26  (G : Gx) (A : Nat → Nat) (S : St) : (wR G A S)[14]? = some (A 26, .inl (G.2.2.1 0, 5, .inl (S.1 26))) := rfl
theorem wR_c26  (G : Gx) (A : Nat → Nat) (S : St) (f : Nat → Int32) : (wR G A S).set 14 (A 26, .inl (G.2.2.1 0, 5, .inl f)) = wR G A (sC S 26 f) := rfl
theorem wR_s26  (G : Gx) (A : Nat → Nat) (S : St) (k : Nat) (v : Int32) : (wR G A S).set 14 (A 26, .inl (G.2.2.1 0, 5, .inl (upd (S.1 26) k v))) = wR G A (sI S 26 k v) := rfl
theorem wR_27  (G : Gx) (A : Nat → Nat) (S : St) : (wR G A S)[15]? = some (A 27, .inl (G.2.2.1 0, 5, .inl (S.1 27))) := rfl
theorem wR_c27  (G : Gx) (A : Nat → Nat) (S : St) (f : Nat → Int32) : (wR G A S).set 15 (A 27, .inl (G.2.2.1 0, 5, .inl f)) = wR G A (sC S 27 f) := rfl
theorem wR_s27  (G : Gx) (A : Nat → Nat) (S : St) (k : Nat) (v : Int32) : (wR G A S).set 15 (A 27, .inl (G.2.2.1 0, 5, .inl (upd (S.1 27) k v))) = wR G A (sI S 27 k v) := rfl
theorem wR_28  (G : Gx) (A : Nat → Nat) (S : St) : (wR G A S)[16]? = some (A 28, .inl (G.2.2.1 0, 40, .inl (S.1 28))) := rfl
theorem wR_c28  (G : Gx) (A : Nat → Nat) (S : St) (f : Nat → Int32) : (wR G A S).set 16 (A 28, .inl (G.2.2.1 0, 40, .inl f)) = wR G A (sC S 28 f) := rfl
theorem wR_s28  (G : Gx) (A : Nat → Nat) (S : St) (k : Nat) (v : Int32) : (wR G A S).set 16 (A 28, .inl (G.2.2.1 0, 40, .inl (upd (S.1 28) k v))) = wR G A (sI S 28 k v) := rfl
theorem wR_29  (G : Gx) (A : Nat → Nat) (S : St) : (wR G A S)[17]? = some (A 29, .inl (G.2.2.1 2, 200, .inl (S.1 29))) := rfl
theorem wR_s29  (G : Gx) (A : Nat → Nat) (S : St) (k : Nat) (v : Int32) : (wR G A S).set 17 (A 29, .inl (G.2.2.1 2, 200, .inl (upd (S.1 29) k v))) = wR G A (sI S 29 k v) := rfl
theorem wR_D {G : Gx} {A : Nat → Nat} {S : St} {H : Heap} (h : PW G (wR G A S) H) : PW G (wD G A S) H := va_P.sub h [3, 4, 5, 6, 7, 8, 9, 10, 11, 12, 13, 14, 15, 16, 17] rfl
theorem ci_X9_83 : CsI RX9 83 yX10_init cX10_init 3 2 := ⟨lw_meth q714, ⟨q161, q712, q713, rfl⟩, by decide +kernel⟩
abbrev rm_wrong : Room := { frames := 6, cells := 1, slots := 8, locals := 200 }
set_option maxRecDepth 100000 in
theorem mk_wrong (G : Gx) (A : Nat → Nat) (S : St) (kd : Int32) : MqA G yX9_wrong (ws_ yX9_wrong cX9_wrong 2 (some (.object "OverHill$Fault"))) rm_wrong [(A 40, .inr (8, [.int (S.1 40 0), .ref (A 15), .int (S.1 40 2), .int (S.1 40 3), .int (S.1 40 4), .ref (G.2.2.2 ((S.1 40 5) : Int32).toNatClampNeg), .ref (A 0)]))] [.ref (A 40), .int (kd)] (fun q : Nat => [(A 40, .inr (8, [.int (S.1 40 0), .ref (A 15), .int (S.1 40 2), .int (S.1 40 3), .int (S.1 40 4), .ref (G.2.2.2 ((S.1 40 5) : Int32).toNatClampNeg), .ref (A 0)])), (q, .inr (9, fltV (kd, S.1 40 3)))]) (fun (r : Option Nat) (q : Nat) => r = some q) 1 8 := by
  refine ent_Mq (by decide +kernel) rfl (Nat.le_of_ble_eq_true rfl) [(0, .ref (A 40)), (1, .int (kd))] rfl (fun K B0 C M N => ?_)
  refine y_new C M (ci := 9) (Cn := RX10) (T := TX10) (N := 8) in_X10 tyX10 tyX10_ok q658 q659 q161 rfl (fs := [.null, .null, .null, .null, .null, .int (0), .int (0), .int (0)]) (by decide +kernel) ⟨Nat.le_of_ble_eq_true rfl, Nat.le_of_ble_eq_true rfl⟩ dX9_wrong_0 (k' := 1) (n' := 8) rfl rfl (fun q_1 => [(A 40, .inr (8, [.int (S.1 40 0), .ref (A 15), .int (S.1 40 2), .int (S.1 40 3), .int (S.1 40 4), .ref (G.2.2.2 ((S.1 40 5) : Int32).toNatClampNeg), .ref (A 0)])), (q_1, .inr (9, [.null, .null, .null, .null, .null, .int (0), .int (0), .int (0)]))]) (fun _ => rfl) (fun q_1 => ?_)
  refine y_dup C dX9_wrong_3 rfl ?_
  refine y_iload_n C dX9_wrong_4 1 rfl rfl ?_
  refine y_aload_n C dX9_wrong_5 0 rfl rfl ?_
  refine y_get C (ref := "OverHill$Reader") (Cn := RX9) (T := TX9) (N := 7) (q0 := 0) (fs := [.int (S.1 40 0), .ref (A 15), .int (S.1 40 2), .int (S.1 40 3), .int (S.1 40 4), .ref (G.2.2.2 ((S.1 40 5) : Int32).toNatClampNeg), .ref (A 0)]) in_X9 rfl rfl 3 (by decide) q566 (fun _ _ h => h) rfl dX9_wrong_6 ?_
  refine y_callI C M (As := [.int (kd), .int (S.1 40 3)]) (rest := [.ref q_1]) (wc := [(q_1, .inr (9, [.null, .null, .null, .null, .null, .int (0), .int (0), .int (0)]))]) (wr := [(A 40, .inr (8, [.int (S.1 40 0), .ref (A 15), .int (S.1 40 2), .int (S.1 40 3), .int (S.1 40 4), .ref (G.2.2.2 ((S.1 40 5) : Int32).toNatClampNeg), .ref (A 0)]))]) ci_X9_83 (mk_fault G (q_1) (kd) (S.1 40 3)) [1] [0] rfl rfl (by decide) (by decide) (by decide) ⟨rfl, rfl, Nat.le_of_ble_eq_true rfl, Nat.le_of_ble_eq_true rfl⟩ rfl rfl (Nat.le_of_ble_eq_true rfl) dX9_wrong_9 ⟨Nat.le_of_ble_eq_true rfl, Nat.le_of_ble_eq_true rfl⟩ (k' := 1) (n' := 8) rfl rfl (fun _ h_2 => ?_)
  refine Y.eqw (w' := [(A 40, .inr (8, [.int (S.1 40 0), .ref (A 15), .int (S.1 40 2), .int (S.1 40 3), .int (S.1 40 4), .ref (G.2.2.2 ((S.1 40 5) : Int32).toNatClampNeg), .ref (A 0)])), (q_1, .inr (9, [.null, .null, .null, .null, .null, .int (0), .int (kd), .int (S.1 40 3)]))]) rfl ?_
  exact y_aretM C M N rfl (Or.inl ⟨_, rfl⟩) (some q_1) (S := q_1) rfl rfl dX9_wrong_12 ⟨Nat.le_of_ble_eq_true rfl, Nat.le_of_ble_eq_true rfl⟩
theorem y_wrong_i {G : Gx} {K : Kx} {cc : ByteArray} {rm : Room} {nL : Nat} {ret : Option FieldType} {pc index : Nat} {A : Nat → Nat} {S : St} {lv : List (Nat × Value)} {st : List Value} (C : KOk G K RX9 cc rm nL ret) {B : Nat → Prop} (M : KM G K B) {Q : (Int32 ⊕ (Int32 × Int32)) → St → Prop} (N : KXi G K B (wR G A) (fun v S => Q (.inl v) S) (xpF (wR G A) (fun f S => Q (.inr f) S)) 0 0 1 8 []) (cs : CsV RX9 index yX9_wrong cX9_wrong 2 (some (.object "OverHill$Fault")) 1) {kd : Int32} (hq : Q (.inr (kd, S.1 40 3)) S) (hcat : (st.map fun v => v.category).sum ≤ 8) (hrm : 7 ≤ rm.frames ∧ 300 ≤ rm.locals ∧ 1 ≤ rm.cells ∧ 8 ≤ rm.slots) (hdg : decode cc pc = .ok (.invokevirtual index, 3)) (hd2 : decode cc (pc + 3) = .ok (.athrow, 1)) : Y G K 0 0 (wR G A S) pc lv (.int kd :: .ref (A 40) :: st) := by
  refine y_callFqV C M (As := [.int kd]) (rest := st) (wc := [(A 40, .inr (8, fs_R40 G A S))]) (wr := (wR G A S).drop 1) cs (mk_wrong G A S kd) ⟨[0], [1, 2, 3, 4, 5, 6, 7, 8, 9, 10, 11, 12, 13, 14, 15, 16, 17], rfl, rfl, by decide, by decide, by decide⟩ (q0 := 0) rfl rfl rfl ⟨rfl, rfl, by show 6 + 1 ≤ _; omega, by show 8 + (2 + 11) + 200 ≤ _; omega⟩ rfl rfl hcat hdg ⟨by omega, by omega⟩ (k' := 1) (n' := 8) rfl rfl (fun r q h => ?_)
  subst h
  refine Y.part M [17, 0, 1, 2, 3, 4, 5, 6, 7, 8, 9, 10, 11, 12, 13, 14, 15, 16, 18] (by decide) (w' := wR G A S ++ [(q, .inr (9, fltV (kd, S.1 40 3)))]) rfl ?_
  exact y_athrow C (q0 := 18) rfl rfl rfl hd2 (y_outi C M N (fun _ h9 => by cases h9) ⟨rfl, (kd, S.1 40 3), S, hq, rfl⟩ ⟨Nat.le_refl _, Nat.le_refl _⟩)
theorem y_wrong_v {G : Gx} {K : Kx} {cc : ByteArray} {rm : Room} {nL : Nat} {ret : Option FieldType} {pc index : Nat} {A : Nat → Nat} {S : St} {lv : List (Nat × Value)} {st : List Value} (C : KOk G K RX9 cc rm nL ret) {B : Nat → Prop} (M : KM G K B) {Q : (Unit ⊕ (Int32 × Int32)) → St → Prop} (N : KXv G K B (wR G A) (fun S => Q (.inl ()) S) (xpF (wR G A) (fun f S => Q (.inr f) S)) 0 0 1 8 []) (cs : CsV RX9 index yX9_wrong cX9_wrong 2 (some (.object "OverHill$Fault")) 1) {kd : Int32} (hq : Q (.inr (kd, S.1 40 3)) S) (hcat : (st.map fun v => v.category).sum ≤ 8) (hrm : 7 ≤ rm.frames ∧ 300 ≤ rm.locals ∧ 1 ≤ rm.cells ∧ 8 ≤ rm.slots) (hdg : decode cc pc = .ok (.invokevirtual index, 3)) (hd2 : decode cc (pc + 3) = .ok (.athrow, 1)) : Y G K 0 0 (wR G A S) pc lv (.int kd :: .ref (A 40) :: st) := by
  refine y_callFqV C M (As := [.int kd]) (rest := st) (wc := [(A 40, .inr (8, fs_R40 G A S))]) (wr := (wR G A S).drop 1) cs (mk_wrong G A S kd) ⟨[0], [1, 2, 3, 4, 5, 6, 7, 8, 9, 10, 11, 12, 13, 14, 15, 16, 17], rfl, rfl, by decide, by decide, by decide⟩ (q0 := 0) rfl rfl rfl ⟨rfl, rfl, by show 6 + 1 ≤ _; omega, by show 8 + (2 + 11) + 200 ≤ _; omega⟩ rfl rfl hcat hdg ⟨by omega, by omega⟩ (k' := 1) (n' := 8) rfl rfl (fun r q h => ?_)
  subst h
  refine Y.part M [17, 0, 1, 2, 3, 4, 5, 6, 7, 8, 9, 10, 11, 12, 13, 14, 15, 16, 18] (by decide) (w' := wR G A S ++ [(q, .inr (9, fltV (kd, S.1 40 3)))]) rfl ?_
  exact y_athrow C (q0 := 18) rfl rfl rfl hd2 (y_outv C M N (fun _ h9 => by cases h9) ⟨rfl, (kd, S.1 40 3), S, hq, rfl⟩ ⟨Nat.le_refl _, Nat.le_refl _⟩)
theorem y_wrong_q {G : Gx} {K : Kx} {cc : ByteArray} {rm : Room} {nL : Nat} {ret : Option FieldType} {pc index : Nat} {A : Nat → Nat} {S : St} {lv : List (Nat × Value)} {st : List Value} (C : KOk G K RX9 cc rm nL ret) {B : Nat → Prop} (M : KM G K B) {Q : (Unit ⊕ (Int32 × Int32)) → St → Prop} (N : KXq G K B (wR G A) (fun r S => r = some (A 15) ∧ Q (.inl ()) S) (xpF (wR G A) (fun f S => Q (.inr f) S)) 0 0 1 8 []) (cs : CsV RX9 index yX9_wrong cX9_wrong 2 (some (.object "OverHill$Fault")) 1) {kd : Int32} (hq : Q (.inr (kd, S.1 40 3)) S) (hcat : (st.map fun v => v.category).sum ≤ 8) (hrm : 7 ≤ rm.frames ∧ 300 ≤ rm.locals ∧ 1 ≤ rm.cells ∧ 8 ≤ rm.slots) (hdg : decode cc pc = .ok (.invokevirtual index, 3)) (hd2 : decode cc (pc + 3) = .ok (.athrow, 1)) : Y G K 0 0 (wR G A S) pc lv (.int kd :: .ref (A 40) :: st) := by
  refine y_callFqV C M (As := [.int kd]) (rest := st) (wc := [(A 40, .inr (8, fs_R40 G A S))]) (wr := (wR G A S).drop 1) cs (mk_wrong G A S kd) ⟨[0], [1, 2, 3, 4, 5, 6, 7, 8, 9, 10, 11, 12, 13, 14, 15, 16, 17], rfl, rfl, by decide, by decide, by decide⟩ (q0 := 0) rfl rfl rfl ⟨rfl, rfl, by show 6 + 1 ≤ _; omega, by show 8 + (2 + 11) + 200 ≤ _; omega⟩ rfl rfl hcat hdg ⟨by omega, by omega⟩ (k' := 1) (n' := 8) rfl rfl (fun r q h => ?_)
  subst h
  refine Y.part M [17, 0, 1, 2, 3, 4, 5, 6, 7, 8, 9, 10, 11, 12, 13, 14, 15, 16, 18] (by decide) (w' := wR G A S ++ [(q, .inr (9, fltV (kd, S.1 40 3)))]) rfl ?_
  exact y_athrow C (q0 := 18) rfl rfl rfl hd2 (y_outq C M N (fun _ h9 => by cases h9) ⟨rfl, (kd, S.1 40 3), S, hq, rfl⟩ ⟨Nat.le_refl _, Nat.le_refl _⟩)
