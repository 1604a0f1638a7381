/-! methods that may throw: XB A q E S t says of the thrown q, of class E, what it must -/
set_option maxRecDepth 100000
/-- what is said of a thrown object: its address, its class, the world that it leaves -/
abbrev XPt : Type := Nat → String → va_W → Prop
def XB (G : Gx) (XP : XPt) (A : Nat → Prop) : Nat → String → State → State → Prop := vx_X (fun _ : va_W => True) (fun q E u t => XP q E u ∧ PW G u t.heap ∧ va_D A u) A
def Xi {S9 : Type} (G : Gx) (y : MethodName) (ws : List Cond) (rm : Room) (w : va_W) (av : List Value) (wf : S9 → va_W) (Qp : Int32 → S9 → Prop) (XP : XPt) (m7 s7 mc ms : Nat) : Prop := ∀ sz : Nat, vx_Met G.1 y ws rm (PcM G w av sz) (va_Qi Qp (BM G (va_A w sz) wf) (va_A w sz)) (XB G XP (va_A w sz)) m7 s7 mc ms (va_A w sz)
def KXi {S9 : Type} (G : Gx) (K : Kx) (A : Nat → Prop) (wf : S9 → va_W) (Qp : Int32 → S9 → Prop) (XP : XPt) (m7 s7 mc ms : Nat) (hh : List (Nat × Nat × Nat × Nat)) : Prop :=
  match K with
  | (R, nL0, p, e, s, m, args, below, meth, c, Q, I) => Q = vx_MQ below (va_Qi Qp (BM G A wf) A) (XB G XP A) args s m7 s7 mc ms A ∧ c.exceptionTable.toList = tableOf hh
def Xl {S9 : Type} (G : Gx) (y : MethodName) (ws : List Cond) (rm : Room) (w : va_W) (av : List Value) (wf : S9 → va_W) (Qp : Int64 → S9 → Prop) (XP : XPt) (m7 s7 mc ms : Nat) : Prop := ∀ sz : Nat, vx_Met G.1 y ws rm (PcM G w av sz) (va_Ql Qp (BM G (va_A w sz) wf) (va_A w sz)) (XB G XP (va_A w sz)) m7 s7 mc ms (va_A w sz)
def KXl {S9 : Type} (G : Gx) (K : Kx) (A : Nat → Prop) (wf : S9 → va_W) (Qp : Int64 → S9 → Prop) (XP : XPt) (m7 s7 mc ms : Nat) (hh : List (Nat × Nat × Nat × Nat)) : Prop :=
  match K with
  | (R, nL0, p, e, s, m, args, below, meth, c, Q, I) => Q = vx_MQ below (va_Ql Qp (BM G A wf) A) (XB G XP A) args s m7 s7 mc ms A ∧ c.exceptionTable.toList = tableOf hh
def Xv {S9 : Type} (G : Gx) (y : MethodName) (ws : List Cond) (rm : Room) (w : va_W) (av : List Value) (wf : S9 → va_W) (Qp : S9 → Prop) (XP : XPt) (m7 s7 mc ms : Nat) : Prop := ∀ sz : Nat, vx_Met G.1 y ws rm (PcM G w av sz) (va_Qv Qp (BM G (va_A w sz) wf) (va_A w sz)) (XB G XP (va_A w sz)) m7 s7 mc ms (va_A w sz)
def KXv {S9 : Type} (G : Gx) (K : Kx) (A : Nat → Prop) (wf : S9 → va_W) (Qp : S9 → Prop) (XP : XPt) (m7 s7 mc ms : Nat) (hh : List (Nat × Nat × Nat × Nat)) : Prop :=
  match K with
  | (R, nL0, p, e, s, m, args, below, meth, c, Q, I) => Q = vx_MQ below (va_Qv Qp (BM G A wf) A) (XB G XP A) args s m7 s7 mc ms A ∧ c.exceptionTable.toList = tableOf hh
def KTab (K : Kx) (hh : List (Nat × Nat × Nat × Nat)) : Prop :=
  match K with
  | (R, nL0, p, e, s, m, args, below, meth, c, Q, I) => c.exceptionTable.toList = tableOf hh
/-- thrown: q of class E, at pc, not yet caught -/
def YX (G : Gx) (K : Kx) (k n : Nat) (w : va_W) (pc : Nat) (lv : List (Nat × Value)) (E : String) (q : Nat) : Prop :=
  match K with
  | (R, nL, p, e, s, m, args, below, meth, c, Q, I) => ∀ (H : Heap) (locs : List Loc) (ls : Array Slot) (rest : List Value) (ce : Cell), PW G w H → I w H locs → lv_has ls nL lv → H[q]? = some ce → ce.vm = .none → s.vm.findClass E = some ce.cls → vx_W p G.1 e R s m args below meth c H locs k n Q (F0 m pc ls rest) q
theorem y_iretX {k n m7 s7 mc ms : Nat} {hh : List (Nat × Nat × Nat × Nat)} {XP : XPt} {G : Gx} {K : Kx} {own : String} {cc : ByteArray} {rm : Room} {nL : Nat} {ret : Option FieldType} {pc : Nat} {w : va_W} {lv : List (Nat × Value)} (C : KOk G K own cc rm nL ret) {A : Nat → Prop} (M : KM G K A) {S9 : Type} {wf : S9 → va_W} {Qp : Int32 → S9 → Prop} (N : KXi G K A wf Qp XP m7 s7 mc ms hh) (hret : ret = some .int) {v : Int32} {S : S9} (hw : w = wf S) (hq : Qp v S) (hdg : decode cc pc = .ok (.ireturn, 1)) (hkn : k ≤ m7 ∧ n ≤ s7) : Y G K k n w pc lv [.int v] := by
  obtain ⟨R, nL0, p, e, s, m, args, below, meth, c, Q, I⟩ := K
  obtain ⟨rfl, rfl, hx, hb, hr, hlk, hml, hown, hts, hKW⟩ := C
  obtain ⟨rfl, hA, hSF⟩ := M
  obtain ⟨rfl, -⟩ := N
  subst hw
  intro H locs ls hP hI hl
  exact vx_ret (W.widen hkn.1 hkn.2 <| W.iret hx hb (hr.trans hret) (fun t ht hW => ⟨⟨v, S, rfl, hq, ⟨by rw [ht]; exact hP, hKW.warm hW, hI.1⟩⟩, hI.2.F ht⟩) hI.2.2.2 hdg hlk)
theorem y_lretX {k n m7 s7 mc ms : Nat} {hh : List (Nat × Nat × Nat × Nat)} {XP : XPt} {G : Gx} {K : Kx} {own : String} {cc : ByteArray} {rm : Room} {nL : Nat} {ret : Option FieldType} {pc : Nat} {w : va_W} {lv : List (Nat × Value)} (C : KOk G K own cc rm nL ret) {A : Nat → Prop} (M : KM G K A) {S9 : Type} {wf : S9 → va_W} {Qp : Int64 → S9 → Prop} (N : KXl G K A wf Qp XP m7 s7 mc ms hh) (hret : ret = some .long) {v : Int64} {S : S9} (hw : w = wf S) (hq : Qp v S) (hdg : decode cc pc = .ok (.lreturn, 1)) (hkn : k ≤ m7 ∧ n ≤ s7) : Y G K k n w pc lv [.long v] := by
  obtain ⟨R, nL0, p, e, s, m, args, below, meth, c, Q, I⟩ := K
  obtain ⟨rfl, rfl, hx, hb, hr, hlk, hml, hown, hts, hKW⟩ := C
  obtain ⟨rfl, hA, hSF⟩ := M
  obtain ⟨rfl, -⟩ := N
  subst hw
  intro H locs ls hP hI hl
  exact vx_ret (W.widen hkn.1 hkn.2 <| W.lret hx hb (hr.trans hret) (fun t ht hW => ⟨⟨v, S, rfl, hq, ⟨by rw [ht]; exact hP, hKW.warm hW, hI.1⟩⟩, hI.2.F ht⟩) hI.2.2.2 hdg hlk)
theorem y_zretX {k n m7 s7 mc ms : Nat} {hh : List (Nat × Nat × Nat × Nat)} {XP : XPt} {G : Gx} {K : Kx} {own : String} {cc : ByteArray} {rm : Room} {nL : Nat} {ret : Option FieldType} {pc : Nat} {w : va_W} {lv : List (Nat × Value)} (C : KOk G K own cc rm nL ret) {A : Nat → Prop} (M : KM G K A) {S9 : Type} {wf : S9 → va_W} {Qp : Int32 → S9 → Prop} (N : KXi G K A wf Qp XP m7 s7 mc ms hh) {ty : FieldType} (hret : ret = some ty) {v : Int32} (hn : narrow ty (.int v) = .int v) {S : S9} (hw : w = wf S) (hq : Qp v S) (hdg : decode cc pc = .ok (.ireturn, 1)) (hkn : k ≤ m7 ∧ n ≤ s7) : Y G K k n w pc lv [.int v] := by
  obtain ⟨R, nL0, p, e, s, m, args, below, meth, c, Q, I⟩ := K
  obtain ⟨rfl, rfl, hx, hb, hr, hlk, hml, hown, hts, hKW⟩ := C
  obtain ⟨rfl, hA, hSF⟩ := M
  obtain ⟨rfl, -⟩ := N
  subst hw
  intro H locs ls hP hI hl
  exact vx_ret (W.widen hkn.1 hkn.2 <| W.zret hx hb (hr.trans hret) hn (fun t ht hW => ⟨⟨v, S, rfl, hq, ⟨by rw [ht]; exact hP, hKW.warm hW, hI.1⟩⟩, hI.2.F ht⟩) hI.2.2.2 hdg hlk)
theorem y_vretX {k n m7 s7 mc ms : Nat} {hh : List (Nat × Nat × Nat × Nat)} {XP : XPt} {G : Gx} {K : Kx} {own : String} {cc : ByteArray} {rm : Room} {nL : Nat} {ret : Option FieldType} {pc : Nat} {w : va_W} {lv : List (Nat × Value)} (C : KOk G K own cc rm nL ret) {A : Nat → Prop} (M : KM G K A) {S9 : Type} {wf : S9 → va_W} {Qp : S9 → Prop} (N : KXv G K A wf Qp XP m7 s7 mc ms hh) (hret : ret = none) {S : S9} (hw : w = wf S) (hq : Qp S) (hdg : decode cc pc = .ok (.return_, 1)) (hkn : k ≤ m7 ∧ n ≤ s7) : Y G K k n w pc lv [] := by
  obtain ⟨R, nL0, p, e, s, m, args, below, meth, c, Q, I⟩ := K
  obtain ⟨rfl, rfl, hx, hb, hr, hlk, hml, hown, hts, hKW⟩ := C
  obtain ⟨rfl, hA, hSF⟩ := M
  obtain ⟨rfl, -⟩ := N
  subst hw
  intro H locs ls hP hI hl
  exact vx_ret (W.widen hkn.1 hkn.2 <| W.vret hx hb (hr.trans hret) (fun t ht hW => ⟨⟨S, rfl, hq, ⟨by rw [ht]; exact hP, hKW.warm hW, hI.1⟩⟩, hI.2.F ht⟩) hI.2.2.2 hdg hlk)
/-- not caught here: it goes on -/
theorem y_outi {k n m7 s7 mc ms : Nat} {hh : List (Nat × Nat × Nat × Nat)} {XP : XPt} {G : Gx} {K : Kx} {own : String} {cc : ByteArray} {rm : Room} {nL : Nat} {ret : Option FieldType} {pc : Nat} {w : va_W} {lv : List (Nat × Value)} (C : KOk G K own cc rm nL ret) {A : Nat → Prop} (M : KM G K A) {S9 : Type} {wf : S9 → va_W} {Qp : Int32 → S9 → Prop} (N : KXi G K A wf Qp XP m7 s7 mc ms hh) (hout : ∀ x ∈ tableOf hh, covers x pc = false) {E : String} {q : Nat} (hq : XP q E w) (hkn : k ≤ mc ∧ n ≤ ms) : YX G K k n w pc lv E q := by
  obtain ⟨R, nL0, p, e, s, m, args, below, meth, c, Q, I⟩ := K
  obtain ⟨rfl, rfl, hx, hb, hr, hlk, hml, hown, hts, hKW⟩ := C
  obtain ⟨rfl, hA, hSF⟩ := M
  obtain ⟨rfl, htab⟩ := N
  intro H locs ls rest ce hP hI hl hce hcv hcl
  exact vx_out (by rw [htab]; exact hout) hlk hce hcv hcl (fun t ht hvm => ⟨w, trivial, ⟨hq, by rw [ht]; exact hP, hI.1⟩, hI.2.F ht⟩) hI.2.2.2 hkn.1 hkn.2
theorem KXi.tab {G : Gx} {K : Kx} {A : Nat → Prop} {S9 : Type} {wf : S9 → va_W} {Qp : Int32 → S9 → Prop} {XP : XPt} {m7 s7 mc ms : Nat} {hh : List (Nat × Nat × Nat × Nat)} (N : KXi G K A wf Qp XP m7 s7 mc ms hh) : KTab K hh := by
  obtain ⟨R, nL0, p, e, s, m, args, below, meth, c, Q, I⟩ := K
  exact N.2
/-- not caught here: it goes on -/
theorem y_outl {k n m7 s7 mc ms : Nat} {hh : List (Nat × Nat × Nat × Nat)} {XP : XPt} {G : Gx} {K : Kx} {own : String} {cc : ByteArray} {rm : Room} {nL : Nat} {ret : Option FieldType} {pc : Nat} {w : va_W} {lv : List (Nat × Value)} (C : KOk G K own cc rm nL ret) {A : Nat → Prop} (M : KM G K A) {S9 : Type} {wf : S9 → va_W} {Qp : Int64 → S9 → Prop} (N : KXl G K A wf Qp XP m7 s7 mc ms hh) (hout : ∀ x ∈ tableOf hh, covers x pc = false) {E : String} {q : Nat} (hq : XP q E w) (hkn : k ≤ mc ∧ n ≤ ms) : YX G K k n w pc lv E q := by
  obtain ⟨R, nL0, p, e, s, m, args, below, meth, c, Q, I⟩ := K
  obtain ⟨rfl, rfl, hx, hb, hr, hlk, hml, hown, hts, hKW⟩ := C
  obtain ⟨rfl, hA, hSF⟩ := M
  obtain ⟨rfl, htab⟩ := N
  intro H locs ls rest ce hP hI hl hce hcv hcl
  exact vx_out (by rw [htab]; exact hout) hlk hce hcv hcl (fun t ht hvm => ⟨w, trivial, ⟨hq, by rw [ht]; exact hP, hI.1⟩, hI.2.F ht⟩) hI.2.2.2 hkn.1 hkn.2
theorem KXl.tab {G : Gx} {K : Kx} {A : Nat → Prop} {S9 : Type} {wf : S9 → va_W} {Qp : Int64 → S9 → Prop} {XP : XPt} {m7 s7 mc ms : Nat} {hh : List (Nat × Nat × Nat × Nat)} (N : KXl G K A wf Qp XP m7 s7 mc ms hh) : KTab K hh := by
  obtain ⟨R, nL0, p, e, s, m, args, below, meth, c, Q, I⟩ := K
  exact N.2
/-- not caught here: it goes on -/
theorem y_outv {k n m7 s7 mc ms : Nat} {hh : List (Nat × Nat × Nat × Nat)} {XP : XPt} {G : Gx} {K : Kx} {own : String} {cc : ByteArray} {rm : Room} {nL : Nat} {ret : Option FieldType} {pc : Nat} {w : va_W} {lv : List (Nat × Value)} (C : KOk G K own cc rm nL ret) {A : Nat → Prop} (M : KM G K A) {S9 : Type} {wf : S9 → va_W} {Qp : S9 → Prop} (N : KXv G K A wf Qp XP m7 s7 mc ms hh) (hout : ∀ x ∈ tableOf hh, covers x pc = false) {E : String} {q : Nat} (hq : XP q E w) (hkn : k ≤ mc ∧ n ≤ ms) : YX G K k n w pc lv E q := by
  obtain ⟨R, nL0, p, e, s, m, args, below, meth, c, Q, I⟩ := K
  obtain ⟨rfl, rfl, hx, hb, hr, hlk, hml, hown, hts, hKW⟩ := C
  obtain ⟨rfl, hA, hSF⟩ := M
  obtain ⟨rfl, htab⟩ := N
  intro H locs ls rest ce hP hI hl hce hcv hcl
  exact vx_out (by rw [htab]; exact hout) hlk hce hcv hcl (fun t ht hvm => ⟨w, trivial, ⟨hq, by rw [ht]; exact hP, hI.1⟩, hI.2.F ht⟩) hI.2.2.2 hkn.1 hkn.2
theorem KXv.tab {G : Gx} {K : Kx} {A : Nat → Prop} {S9 : Type} {wf : S9 → va_W} {Qp : S9 → Prop} {XP : XPt} {m7 s7 mc ms : Nat} {hh : List (Nat × Nat × Nat × Nat)} (N : KXv G K A wf Qp XP m7 s7 mc ms hh) : KTab K hh := by
  obtain ⟨R, nL0, p, e, s, m, args, below, meth, c, Q, I⟩ := K
  exact N.2
/-- a handler of ours -/
theorem y_catch {G : Gx} {K : Kx} {own : String} {cc : ByteArray} {rm : Room} {nL : Nat} {ret : Option FieldType} {k n pc : Nat} {w : va_W} {lv : List (Nat × Value)} {st : List Value} (C : KOk G K own cc rm nL ret) {hh : List (Nat × Nat × Nat × Nat)} (htab : KTab K hh) {E name : String} {q : Nat} (pre : List ExceptionTableEntry) (x : ExceptionTableEntry) (suf : List ExceptionTableEntry) (hsplit : tableOf hh = pre ++ x :: suf) (hpass : ∀ z ∈ pre, covers z pc = false ∨ (z.catchType ≠ 0 ∧ ∃ nm : String, Cond.classLink own z.catchType nm ∈ lw_all ∧ (E, nm) ∈ ncPairs)) (hx1 : covers x pc = true) (h0 : x.catchType ≠ 0) (hlink : Cond.classLink own x.catchType name ∈ lw_all) (hcast : Cond.castable E name ∈ lw_tbl) {hpc : Nat} (hh9 : x.handlerPc = hpc) (kk : Y G K k n w hpc lv [.ref q]) : YX G K k n w pc lv E q := by
  subst hh9
  obtain ⟨R, nL0, p, e, s, m, args, below, meth, c, Q, I⟩ := K
  obtain ⟨rfl, rfl, hx, hb, hr, hlk, hml, hown, hts, hKW⟩ := C
  intro H locs ls rest ce hP hI hl hce hcv hcl
  refine vx_catch hown pre x suf (htab.trans hsplit) (fun z hz => ?_) hx1 h0 (hts _ hlink) (va_Nw.use rfl (hKW.2.1 _ hcast rfl)) hce hcv hcl (kk H locs ls hP hI hl)
  rcases hpass z hz with h | ⟨h1, nm, h2, h3⟩
  · exact Or.inl h
  · exact Or.inr ⟨h1, nm, hts _ h2, hKW.2.2 _ h3⟩
/-- a call site's words: a method with handlers of its own -/
def CsVW (own : String) (index : Nat) (y : MethodName) (bytes : ByteArray) (maxL : Nat) (ret : Option FieldType) (hh : List (Nat × Nat × Nat × Nat)) (n : Nat) : Prop := GoodIn lw_all (wsV own index y.cls y (wsW_ y bytes maxL ret hh)) ∧ (y.cls ≠ "java/lang/invoke/MethodHandle" ∧ y.cls ≠ "java/lang/invoke/VarHandle" ∧ (parseMethodDescriptor y.desc).map (fun d => d.parameters.length) = some n)
theorem y_callXiV {G : Gx} {K : Kx} {own : String} {cc : ByteArray} {rm : Room} {nL : Nat} {ret : Option FieldType} {k n pc : Nat} {w : va_W} {lv : List (Nat × Value)} {st : List Value} (C : KOk G K own cc rm nL ret) {A : Nat → Prop} (M : KM G K A) {m7 s7 mc ms k' n' k9 n9 : Nat} {y : MethodName} {bytes : ByteArray} {maxL index nn : Nat} {ret' : Option FieldType} {rm' : Room} {b : Nat} {As rest : List Value}  {S9 : Type} {wf : S9 → va_W} {Qp : Int32 → S9 → Prop} {XP : XPt} (cs : CsV own index y bytes maxL ret' nn) (hM : Xi G y (ws_ y bytes maxL ret') rm' w (.ref b :: As) wf Qp XP m7 s7 mc ms) {q0 ci : Nat} {qc : vw_C} {fs : List Value} (he : w[q0]? = some (b, .inr (ci, fs))) (hc : vwCl[ci]? = some qc) (hC : qc.1 = y.cls) (hrm : rm'.cells = mc ∧ rm'.slots = ms ∧ rm'.frames + 1 ≤ rm.frames ∧ 8 + (maxL + 11) + rm'.locals ≤ rm.locals) (hn : As.length = nn) (hst : st = As.reverse ++ .ref b :: rest) (hcat : (rest.map fun v => v.category).sum ≤ 8) (hdg : decode cc pc = .ok (.invokevirtual index, 3)) (hkn : k + mc ≤ rm.cells ∧ n + ms ≤ rm.slots) (hk' : k + m7 = k') (hn' : n + s7 = n') (hk9 : k + mc = k9) (hn9 : n + ms = n9) (kx : ∀ (q : Nat) (E : String) (w' : va_W), XP q E w' → YX G K k9 n9 w' pc lv E q) (kk : ∀ (r : Int32) (S : S9), Qp r S → Y G K k' n' (wf S) (pc + 3) lv (.int r :: rest)) : Y G K k n w pc lv st := by
  subst hk' hn' hk9 hn9
  obtain ⟨R, nL0, p, e, s, m, args, below, meth, c, Q, I⟩ := K
  obtain ⟨rfl, rfl, hx, hb, hr, hlk, hml, hown, hts, hKW⟩ := C
  obtain ⟨rfl, hA, hSF⟩ := M
  subst hst
  intro H locs ls hP hI hl
  have hF := D_free hI.1 hI.2 hA
  refine vx_calli (vx_runV (As := As) (rest := rest) (b := b) ⟨hx, hb, hml, hown, hts⟩ (hM H.size) (cwV nn hts cs.1 rfl hrm.1 hrm.2.1 ⟨rfl, cs.2⟩ hrm.2.2) ⟨pcM_blind, by rw [← hC]; exact va_recv hKW.1 hP hc he, fun U hU hW => ⟨rfl, by rw [hU], by rw [hU]; exact hP, hKW.warm hW, hI.1.weaken (fun _ _ _ _ => trivial), by rw [hU]; exact hSF.call hI.2 hW hF⟩⟩ rfl hn hl.1 rfl (lv_room hcat) hdg ⟨hkn.1, hkn.2⟩) hI.2 (fun q _ h => hF q h) hF (fun q _ h => hF q h) (fun E ce q9 u t H1 locs1 ht hvm _ hB hz1 hk1 hS hce hcv hcl => ?_) (fun r S t H1 locs1 ht hvm hq hB hz1 hk1 hS => ?_)
  · rw [ht] at hB
    exact kx q9 E u hB.1 H1 locs1 ls _ ce hB.2.1 ⟨hB.2.2.weaken (fun _ q _ h => hF q.1 h), hS⟩ hl hce hcv hcl
  · rw [BM, ht] at hB
    exact kk r S hq H1 locs1 ls hB.1 ⟨hB.2.2.weaken (fun _ q _ h => hF q.1 h), hS⟩ hl
theorem y_callXlV {G : Gx} {K : Kx} {own : String} {cc : ByteArray} {rm : Room} {nL : Nat} {ret : Option FieldType} {k n pc : Nat} {w : va_W} {lv : List (Nat × Value)} {st : List Value} (C : KOk G K own cc rm nL ret) {A : Nat → Prop} (M : KM G K A) {m7 s7 mc ms k' n' k9 n9 : Nat} {y : MethodName} {bytes : ByteArray} {maxL index nn : Nat} {ret' : Option FieldType} {rm' : Room} {b : Nat} {As rest : List Value}  {S9 : Type} {wf : S9 → va_W} {Qp : Int64 → S9 → Prop} {XP : XPt} (cs : CsV own index y bytes maxL ret' nn) (hM : Xl G y (ws_ y bytes maxL ret') rm' w (.ref b :: As) wf Qp XP m7 s7 mc ms) {q0 ci : Nat} {qc : vw_C} {fs : List Value} (he : w[q0]? = some (b, .inr (ci, fs))) (hc : vwCl[ci]? = some qc) (hC : qc.1 = y.cls) (hrm : rm'.cells = mc ∧ rm'.slots = ms ∧ rm'.frames + 1 ≤ rm.frames ∧ 8 + (maxL + 11) + rm'.locals ≤ rm.locals) (hn : As.length = nn) (hst : st = As.reverse ++ .ref b :: rest) (hcat : (rest.map fun v => v.category).sum ≤ 8) (hdg : decode cc pc = .ok (.invokevirtual index, 3)) (hkn : k + mc ≤ rm.cells ∧ n + ms ≤ rm.slots) (hk' : k + m7 = k') (hn' : n + s7 = n') (hk9 : k + mc = k9) (hn9 : n + ms = n9) (kx : ∀ (q : Nat) (E : String) (w' : va_W), XP q E w' → YX G K k9 n9 w' pc lv E q) (kk : ∀ (r : Int64) (S : S9), Qp r S → Y G K k' n' (wf S) (pc + 3) lv (.long r :: rest)) : Y G K k n w pc lv st := by
  subst hk' hn' hk9 hn9
  obtain ⟨R, nL0, p, e, s, m, args, below, meth, c, Q, I⟩ := K
  obtain ⟨rfl, rfl, hx, hb, hr, hlk, hml, hown, hts, hKW⟩ := C
  obtain ⟨rfl, hA, hSF⟩ := M
  subst hst
  intro H locs ls hP hI hl
  have hF := D_free hI.1 hI.2 hA
  refine vx_calll (vx_runV (As := As) (rest := rest) (b := b) ⟨hx, hb, hml, hown, hts⟩ (hM H.size) (cwV nn hts cs.1 rfl hrm.1 hrm.2.1 ⟨rfl, cs.2⟩ hrm.2.2) ⟨pcM_blind, by rw [← hC]; exact va_recv hKW.1 hP hc he, fun U hU hW => ⟨rfl, by rw [hU], by rw [hU]; exact hP, hKW.warm hW, hI.1.weaken (fun _ _ _ _ => trivial), by rw [hU]; exact hSF.call hI.2 hW hF⟩⟩ rfl hn hl.1 rfl (lv_room hcat) hdg ⟨hkn.1, hkn.2⟩) hI.2 (fun q _ h => hF q h) hF (fun q _ h => hF q h) (fun E ce q9 u t H1 locs1 ht hvm _ hB hz1 hk1 hS hce hcv hcl => ?_) (fun r S t H1 locs1 ht hvm hq hB hz1 hk1 hS => ?_)
  · rw [ht] at hB
    exact kx q9 E u hB.1 H1 locs1 ls _ ce hB.2.1 ⟨hB.2.2.weaken (fun _ q _ h => hF q.1 h), hS⟩ hl hce hcv hcl
  · rw [BM, ht] at hB
    exact kk r S hq H1 locs1 ls hB.1 ⟨hB.2.2.weaken (fun _ q _ h => hF q.1 h), hS⟩ hl
theorem y_callXvV {G : Gx} {K : Kx} {own : String} {cc : ByteArray} {rm : Room} {nL : Nat} {ret : Option FieldType} {k n pc : Nat} {w : va_W} {lv : List (Nat × Value)} {st : List Value} (C : KOk G K own cc rm nL ret) {A : Nat → Prop} (M : KM G K A) {m7 s7 mc ms k' n' k9 n9 : Nat} {y : MethodName} {bytes : ByteArray} {maxL index nn : Nat} {ret' : Option FieldType} {rm' : Room} {b : Nat} {As rest : List Value}  {S9 : Type} {wf : S9 → va_W} {Qp : S9 → Prop} {XP : XPt} (cs : CsV own index y bytes maxL ret' nn) (hM : Xv G y (ws_ y bytes maxL ret') rm' w (.ref b :: As) wf Qp XP m7 s7 mc ms) {q0 ci : Nat} {qc : vw_C} {fs : List Value} (he : w[q0]? = some (b, .inr (ci, fs))) (hc : vwCl[ci]? = some qc) (hC : qc.1 = y.cls) (hrm : rm'.cells = mc ∧ rm'.slots = ms ∧ rm'.frames + 1 ≤ rm.frames ∧ 8 + (maxL + 11) + rm'.locals ≤ rm.locals) (hn : As.length = nn) (hst : st = As.reverse ++ .ref b :: rest) (hcat : (rest.map fun v => v.category).sum ≤ 8) (hdg : decode cc pc = .ok (.invokevirtual index, 3)) (hkn : k + mc ≤ rm.cells ∧ n + ms ≤ rm.slots) (hk' : k + m7 = k') (hn' : n + s7 = n') (hk9 : k + mc = k9) (hn9 : n + ms = n9) (kx : ∀ (q : Nat) (E : String) (w' : va_W), XP q E w' → YX G K k9 n9 w' pc lv E q) (kk : ∀ S : S9, Qp S → Y G K k' n' (wf S) (pc + 3) lv (rest)) : Y G K k n w pc lv st := by
  subst hk' hn' hk9 hn9
  obtain ⟨R, nL0, p, e, s, m, args, below, meth, c, Q, I⟩ := K
  obtain ⟨rfl, rfl, hx, hb, hr, hlk, hml, hown, hts, hKW⟩ := C
  obtain ⟨rfl, hA, hSF⟩ := M
  subst hst
  intro H locs ls hP hI hl
  have hF := D_free hI.1 hI.2 hA
  refine vx_callv (vx_runV (As := As) (rest := rest) (b := b) ⟨hx, hb, hml, hown, hts⟩ (hM H.size) (cwV nn hts cs.1 rfl hrm.1 hrm.2.1 ⟨rfl, cs.2⟩ hrm.2.2) ⟨pcM_blind, by rw [← hC]; exact va_recv hKW.1 hP hc he, fun U hU hW => ⟨rfl, by rw [hU], by rw [hU]; exact hP, hKW.warm hW, hI.1.weaken (fun _ _ _ _ => trivial), by rw [hU]; exact hSF.call hI.2 hW hF⟩⟩ rfl hn hl.1 rfl (lv_room hcat) hdg ⟨hkn.1, hkn.2⟩) hI.2 (fun q _ h => hF q h) hF (fun q _ h => hF q h) (fun E ce q9 u t H1 locs1 ht hvm _ hB hz1 hk1 hS hce hcv hcl => ?_) (fun S t H1 locs1 ht hvm hq hB hz1 hk1 hS => ?_)
  · rw [ht] at hB
    exact kx q9 E u hB.1 H1 locs1 ls _ ce hB.2.1 ⟨hB.2.2.weaken (fun _ q _ h => hF q.1 h), hS⟩ hl hce hcv hcl
  · rw [BM, ht] at hB
    exact kk S hq H1 locs1 ls hB.1 ⟨hB.2.2.weaken (fun _ q _ h => hF q.1 h), hS⟩ hl
theorem y_callXiW {G : Gx} {K : Kx} {own : String} {cc : ByteArray} {rm : Room} {nL : Nat} {ret : Option FieldType} {k n pc : Nat} {w : va_W} {lv : List (Nat × Value)} {st : List Value} (C : KOk G K own cc rm nL ret) {A : Nat → Prop} (M : KM G K A) {m7 s7 mc ms k' n' k9 n9 : Nat} {y : MethodName} {bytes : ByteArray} {maxL index nn : Nat} {ret' : Option FieldType} {rm' : Room} {b : Nat} {As rest : List Value} {hh : List (Nat × Nat × Nat × Nat)} {S9 : Type} {wf : S9 → va_W} {Qp : Int32 → S9 → Prop} {XP : XPt} (cs : CsVW own index y bytes maxL ret' hh nn) (hM : Xi G y (wsW_ y bytes maxL ret' hh) rm' w (.ref b :: As) wf Qp XP m7 s7 mc ms) {q0 ci : Nat} {qc : vw_C} {fs : List Value} (he : w[q0]? = some (b, .inr (ci, fs))) (hc : vwCl[ci]? = some qc) (hC : qc.1 = y.cls) (hrm : rm'.cells = mc ∧ rm'.slots = ms ∧ rm'.frames + 1 ≤ rm.frames ∧ 8 + (maxL + 11) + rm'.locals ≤ rm.locals) (hn : As.length = nn) (hst : st = As.reverse ++ .ref b :: rest) (hcat : (rest.map fun v => v.category).sum ≤ 8) (hdg : decode cc pc = .ok (.invokevirtual index, 3)) (hkn : k + mc ≤ rm.cells ∧ n + ms ≤ rm.slots) (hk' : k + m7 = k') (hn' : n + s7 = n') (hk9 : k + mc = k9) (hn9 : n + ms = n9) (kx : ∀ (q : Nat) (E : String) (w' : va_W), XP q E w' → YX G K k9 n9 w' pc lv E q) (kk : ∀ (r : Int32) (S : S9), Qp r S → Y G K k' n' (wf S) (pc + 3) lv (.int r :: rest)) : Y G K k n w pc lv st := by
  subst hk' hn' hk9 hn9
  obtain ⟨R, nL0, p, e, s, m, args, below, meth, c, Q, I⟩ := K
  obtain ⟨rfl, rfl, hx, hb, hr, hlk, hml, hown, hts, hKW⟩ := C
  obtain ⟨rfl, hA, hSF⟩ := M
  subst hst
  intro H locs ls hP hI hl
  have hF := D_free hI.1 hI.2 hA
  refine vx_calli (vx_runVX (As := As) (rest := rest) (b := b) ⟨hx, hb, hml, hown, hts⟩ (hM H.size) (vx_cwVW nn hts cs.1 rfl hrm.1 hrm.2.1 ⟨rfl, cs.2⟩ hrm.2.2) ⟨pcM_blind, by rw [← hC]; exact va_recv hKW.1 hP hc he, fun U hU hW => ⟨rfl, by rw [hU], by rw [hU]; exact hP, hKW.warm hW, hI.1.weaken (fun _ _ _ _ => trivial), by rw [hU]; exact hSF.call hI.2 hW hF⟩⟩ rfl hn hl.1 rfl (lv_room hcat) hdg ⟨hkn.1, hkn.2⟩) hI.2 (fun q _ h => hF q h) hF (fun q _ h => hF q h) (fun E ce q9 u t H1 locs1 ht hvm _ hB hz1 hk1 hS hce hcv hcl => ?_) (fun r S t H1 locs1 ht hvm hq hB hz1 hk1 hS => ?_)
  · rw [ht] at hB
    exact kx q9 E u hB.1 H1 locs1 ls _ ce hB.2.1 ⟨hB.2.2.weaken (fun _ q _ h => hF q.1 h), hS⟩ hl hce hcv hcl
  · rw [BM, ht] at hB
    exact kk r S hq H1 locs1 ls hB.1 ⟨hB.2.2.weaken (fun _ q _ h => hF q.1 h), hS⟩ hl
theorem y_callXlW {G : Gx} {K : Kx} {own : String} {cc : ByteArray} {rm : Room} {nL : Nat} {ret : Option FieldType} {k n pc : Nat} {w : va_W} {lv : List (Nat × Value)} {st : List Value} (C : KOk G K own cc rm nL ret) {A : Nat → Prop} (M : KM G K A) {m7 s7 mc ms k' n' k9 n9 : Nat} {y : MethodName} {bytes : ByteArray} {maxL index nn : Nat} {ret' : Option FieldType} {rm' : Room} {b : Nat} {As rest : List Value} {hh : List (Nat × Nat × Nat × Nat)} {S9 : Type} {wf : S9 → va_W} {Qp : Int64 → S9 → Prop} {XP : XPt} (cs : CsVW own index y bytes maxL ret' hh nn) (hM : Xl G y (wsW_ y bytes maxL ret' hh) rm' w (.ref b :: As) wf Qp XP m7 s7 mc ms) {q0 ci : Nat} {qc : vw_C} {fs : List Value} (he : w[q0]? = some (b, .inr (ci, fs))) (hc : vwCl[ci]? = some qc) (hC : qc.1 = y.cls) (hrm : rm'.cells = mc ∧ rm'.slots = ms ∧ rm'.frames + 1 ≤ rm.frames ∧ 8 + (maxL + 11) + rm'.locals ≤ rm.locals) (hn : As.length = nn) (hst : st = As.reverse ++ .ref b :: rest) (hcat : (rest.map fun v => v.category).sum ≤ 8) (hdg : decode cc pc = .ok (.invokevirtual index, 3)) (hkn : k + mc ≤ rm.cells ∧ n + ms ≤ rm.slots) (hk' : k + m7 = k') (hn' : n + s7 = n') (hk9 : k + mc = k9) (hn9 : n + ms = n9) (kx : ∀ (q : Nat) (E : String) (w' : va_W), XP q E w' → YX G K k9 n9 w' pc lv E q) (kk : ∀ (r : Int64) (S : S9), Qp r S → Y G K k' n' (wf S) (pc + 3) lv (.long r :: rest)) : Y G K k n w pc lv st := by
  subst hk' hn' hk9 hn9
  obtain ⟨R, nL0, p, e, s, m, args, below, meth, c, Q, I⟩ := K
  obtain ⟨rfl, rfl, hx, hb, hr, hlk, hml, hown, hts, hKW⟩ := C
  obtain ⟨rfl, hA, hSF⟩ := M
  subst hst
  intro H locs ls hP hI hl
  have hF := D_free hI.1 hI.2 hA
  refine vx_calll (vx_runVX (As := As) (rest := rest) (b := b) ⟨hx, hb, hml, hown, hts⟩ (hM H.size) (vx_cwVW nn hts cs.1 rfl hrm.1 hrm.2.1 ⟨rfl, cs.2⟩ hrm.2.2) ⟨pcM_blind, by rw [← hC]; exact va_recv hKW.1 hP hc he, fun U hU hW => ⟨rfl, by rw [hU], by rw [hU]; exact hP, hKW.warm hW, hI.1.weaken (fun _ _ _ _ => trivial), by rw [hU]; exact hSF.call hI.2 hW hF⟩⟩ rfl hn hl.1 rfl (lv_room hcat) hdg ⟨hkn.1, hkn.2⟩) hI.2 (fun q _ h => hF q h) hF (fun q _ h => hF q h) (fun E ce q9 u t H1 locs1 ht hvm _ hB hz1 hk1 hS hce hcv hcl => ?_) (fun r S t H1 locs1 ht hvm hq hB hz1 hk1 hS => ?_)
  · rw [ht] at hB
    exact kx q9 E u hB.1 H1 locs1 ls _ ce hB.2.1 ⟨hB.2.2.weaken (fun _ q _ h => hF q.1 h), hS⟩ hl hce hcv hcl
  · rw [BM, ht] at hB
    exact kk r S hq H1 locs1 ls hB.1 ⟨hB.2.2.weaken (fun _ q _ h => hF q.1 h), hS⟩ hl
theorem y_callXvW {G : Gx} {K : Kx} {own : String} {cc : ByteArray} {rm : Room} {nL : Nat} {ret : Option FieldType} {k n pc : Nat} {w : va_W} {lv : List (Nat × Value)} {st : List Value} (C : KOk G K own cc rm nL ret) {A : Nat → Prop} (M : KM G K A) {m7 s7 mc ms k' n' k9 n9 : Nat} {y : MethodName} {bytes : ByteArray} {maxL index nn : Nat} {ret' : Option FieldType} {rm' : Room} {b : Nat} {As rest : List Value} {hh : List (Nat × Nat × Nat × Nat)} {S9 : Type} {wf : S9 → va_W} {Qp : S9 → Prop} {XP : XPt} (cs : CsVW own index y bytes maxL ret' hh nn) (hM : Xv G y (wsW_ y bytes maxL ret' hh) rm' w (.ref b :: As) wf Qp XP m7 s7 mc ms) {q0 ci : Nat} {qc : vw_C} {fs : List Value} (he : w[q0]? = some (b, .inr (ci, fs))) (hc : vwCl[ci]? = some qc) (hC : qc.1 = y.cls) (hrm : rm'.cells = mc ∧ rm'.slots = ms ∧ rm'.frames + 1 ≤ rm.frames ∧ 8 + (maxL + 11) + rm'.locals ≤ rm.locals) (hn : As.length = nn) (hst : st = As.reverse ++ .ref b :: rest) (hcat : (rest.map fun v => v.category).sum ≤ 8) (hdg : decode cc pc = .ok (.invokevirtual index, 3)) (hkn : k + mc ≤ rm.cells ∧ n + ms ≤ rm.slots) (hk' : k + m7 = k') (hn' : n + s7 = n') (hk9 : k + mc = k9) (hn9 : n + ms = n9) (kx : ∀ (q : Nat) (E : String) (w' : va_W), XP q E w' → YX G K k9 n9 w' pc lv E q) (kk : ∀ S : S9, Qp S → Y G K k' n' (wf S) (pc + 3) lv (rest)) : Y G K k n w pc lv st := by
  subst hk' hn' hk9 hn9
  obtain ⟨R, nL0, p, e, s, m, args, below, meth, c, Q, I⟩ := K
  obtain ⟨rfl, rfl, hx, hb, hr, hlk, hml, hown, hts, hKW⟩ := C
  obtain ⟨rfl, hA, hSF⟩ := M
  subst hst
  intro H locs ls hP hI hl
  have hF := D_free hI.1 hI.2 hA
  refine vx_callv (vx_runVX (As := As) (rest := rest) (b := b) ⟨hx, hb, hml, hown, hts⟩ (hM H.size) (vx_cwVW nn hts cs.1 rfl hrm.1 hrm.2.1 ⟨rfl, cs.2⟩ hrm.2.2) ⟨pcM_blind, by rw [← hC]; exact va_recv hKW.1 hP hc he, fun U hU hW => ⟨rfl, by rw [hU], by rw [hU]; exact hP, hKW.warm hW, hI.1.weaken (fun _ _ _ _ => trivial), by rw [hU]; exact hSF.call hI.2 hW hF⟩⟩ rfl hn hl.1 rfl (lv_room hcat) hdg ⟨hkn.1, hkn.2⟩) hI.2 (fun q _ h => hF q h) hF (fun q _ h => hF q h) (fun E ce q9 u t H1 locs1 ht hvm _ hB hz1 hk1 hS hce hcv hcl => ?_) (fun S t H1 locs1 ht hvm hq hB hz1 hk1 hS => ?_)
  · rw [ht] at hB
    exact kx q9 E u hB.1 H1 locs1 ls _ ce hB.2.1 ⟨hB.2.2.weaken (fun _ q _ h => hF q.1 h), hS⟩ hl hce hcv hcl
  · rw [BM, ht] at hB
    exact kk S hq H1 locs1 ls hB.1 ⟨hB.2.2.weaken (fun _ q _ h => hF q.1 h), hS⟩ hl
theorem ent_Xi {G : Gx} {y : MethodName} {own : String} {cc : ByteArray} {nL : Nat} {ret : Option FieldType} {rm : Room} {w : va_W} {av : List Value}  {m7 s7 mc ms : Nat} {S9 : Type} {wf : S9 → va_W} {Qp : Int32 → S9 → Prop} {XP : XPt} (hy : plainName y.cls = true) (hown : y.cls = own) (hlen : (lg_sl av).length ≤ nL) (lv : List (Nat × Value)) (hlv : lv_args 0 av = lv) (body : ∀ (K : Kx) (A : Nat → Prop), KOk G K own cc rm nL ret → KM G K A → KXi G K A wf Qp XP m7 s7 mc ms [] → Y G K 0 0 w 0 lv []) : Xi G y (ws_ y cc nL ret) rm w av wf Qp XP m7 s7 mc ms := by
  intro sz
  refine vx_ofW (cc := cc) (maxL := nL) (ret := ret) hy rfl ?_
  intro p e s m args below meth c s₁ B hml hnt hv
  obtain ⟨rfl, rfl, hP, hKW, hD0, hSF⟩ := hv
  subst hlv
  subst hown
  have hts := atoms_spec (ws := ws_ y cc nL ret) B.pre
  have hts : ∀ w ∈ lw_all, w.before _ s = true := fun w h => hts w (List.mem_cons_of_mem _ h)
  have hown : s.vm.findClass y.cls = some m.cls := findClass_of_methodNamed B.named
  rw [lg_entry_eq]
  exact body ((headSpec (ws_ y cc nL ret) rm).room, nL, p, e, s, m, av.toArray, below, meth, c, vx_MQ below (va_Qi Qp (BM G (va_A w s.heap.size) wf) (va_A w s.heap.size)) (XB G XP (va_A w s.heap.size)) av.toArray s m7 s7 mc ms (va_A w s.heap.size), fun w' H locs => va_D (va_A w s.heap.size) w' ∧ va_S (va_A w s.heap.size) s.heap H locs) (va_A w s.heap.size) ⟨rfl, rfl, B.exec, B.bytes, B.returns, B.notSynchronized, hml, hown, hts, hKW⟩ ⟨rfl, fun q h => Or.inr h, hSF⟩ ⟨rfl, List.eq_nil_iff_forall_not_mem.mpr (fun x h => hnt x h)⟩ s.heap [] _ hP ⟨hD0.self, va_S.rf⟩ (lv_entry av hlen)
theorem ent_Xl {G : Gx} {y : MethodName} {own : String} {cc : ByteArray} {nL : Nat} {ret : Option FieldType} {rm : Room} {w : va_W} {av : List Value}  {m7 s7 mc ms : Nat} {S9 : Type} {wf : S9 → va_W} {Qp : Int64 → S9 → Prop} {XP : XPt} (hy : plainName y.cls = true) (hown : y.cls = own) (hlen : (lg_sl av).length ≤ nL) (lv : List (Nat × Value)) (hlv : lv_args 0 av = lv) (body : ∀ (K : Kx) (A : Nat → Prop), KOk G K own cc rm nL ret → KM G K A → KXl G K A wf Qp XP m7 s7 mc ms [] → Y G K 0 0 w 0 lv []) : Xl G y (ws_ y cc nL ret) rm w av wf Qp XP m7 s7 mc ms := by
  intro sz
  refine vx_ofW (cc := cc) (maxL := nL) (ret := ret) hy rfl ?_
  intro p e s m args below meth c s₁ B hml hnt hv
  obtain ⟨rfl, rfl, hP, hKW, hD0, hSF⟩ := hv
  subst hlv
  subst hown
  have hts := atoms_spec (ws := ws_ y cc nL ret) B.pre
  have hts : ∀ w ∈ lw_all, w.before _ s = true := fun w h => hts w (List.mem_cons_of_mem _ h)
  have hown : s.vm.findClass y.cls = some m.cls := findClass_of_methodNamed B.named
  rw [lg_entry_eq]
  exact body ((headSpec (ws_ y cc nL ret) rm).room, nL, p, e, s, m, av.toArray, below, meth, c, vx_MQ below (va_Ql Qp (BM G (va_A w s.heap.size) wf) (va_A w s.heap.size)) (XB G XP (va_A w s.heap.size)) av.toArray s m7 s7 mc ms (va_A w s.heap.size), fun w' H locs => va_D (va_A w s.heap.size) w' ∧ va_S (va_A w s.heap.size) s.heap H locs) (va_A w s.heap.size) ⟨rfl, rfl, B.exec, B.bytes, B.returns, B.notSynchronized, hml, hown, hts, hKW⟩ ⟨rfl, fun q h => Or.inr h, hSF⟩ ⟨rfl, List.eq_nil_iff_forall_not_mem.mpr (fun x h => hnt x h)⟩ s.heap [] _ hP ⟨hD0.self, va_S.rf⟩ (lv_entry av hlen)
theorem ent_Xv {G : Gx} {y : MethodName} {own : String} {cc : ByteArray} {nL : Nat} {ret : Option FieldType} {rm : Room} {w : va_W} {av : List Value}  {m7 s7 mc ms : Nat} {S9 : Type} {wf : S9 → va_W} {Qp : S9 → Prop} {XP : XPt} (hy : plainName y.cls = true) (hown : y.cls = own) (hlen : (lg_sl av).length ≤ nL) (lv : List (Nat × Value)) (hlv : lv_args 0 av = lv) (body : ∀ (K : Kx) (A : Nat → Prop), KOk G K own cc rm nL ret → KM G K A → KXv G K A wf Qp XP m7 s7 mc ms [] → Y G K 0 0 w 0 lv []) : Xv G y (ws_ y cc nL ret) rm w av wf Qp XP m7 s7 mc ms := by
  intro sz
  refine vx_ofW (cc := cc) (maxL := nL) (ret := ret) hy rfl ?_
  intro p e s m args below meth c s₁ B hml hnt hv
  obtain ⟨rfl, rfl, hP, hKW, hD0, hSF⟩ := hv
  subst hlv
  subst hown
  have hts := atoms_spec (ws := ws_ y cc nL ret) B.pre
  have hts : ∀ w ∈ lw_all, w.before _ s = true := fun w h => hts w (List.mem_cons_of_mem _ h)
  have hown : s.vm.findClass y.cls = some m.cls := findClass_of_methodNamed B.named
  rw [lg_entry_eq]
  exact body ((headSpec (ws_ y cc nL ret) rm).room, nL, p, e, s, m, av.toArray, below, meth, c, vx_MQ below (va_Qv Qp (BM G (va_A w s.heap.size) wf) (va_A w s.heap.size)) (XB G XP (va_A w s.heap.size)) av.toArray s m7 s7 mc ms (va_A w s.heap.size), fun w' H locs => va_D (va_A w s.heap.size) w' ∧ va_S (va_A w s.heap.size) s.heap H locs) (va_A w s.heap.size) ⟨rfl, rfl, B.exec, B.bytes, B.returns, B.notSynchronized, hml, hown, hts, hKW⟩ ⟨rfl, fun q h => Or.inr h, hSF⟩ ⟨rfl, List.eq_nil_iff_forall_not_mem.mpr (fun x h => hnt x h)⟩ s.heap [] _ hP ⟨hD0.self, va_S.rf⟩ (lv_entry av hlen)
theorem ent_XiH {G : Gx} {y : MethodName} {own : String} {cc : ByteArray} {nL : Nat} {ret : Option FieldType} {rm : Room} {w : va_W} {av : List Value} {hh : List (Nat × Nat × Nat × Nat)} {m7 s7 mc ms : Nat} {S9 : Type} {wf : S9 → va_W} {Qp : Int32 → S9 → Prop} {XP : XPt} (hy : plainName y.cls = true) (hown : y.cls = own) (hlen : (lg_sl av).length ≤ nL) (lv : List (Nat × Value)) (hlv : lv_args 0 av = lv) (body : ∀ (K : Kx) (A : Nat → Prop), KOk G K own cc rm nL ret → KM G K A → KXi G K A wf Qp XP m7 s7 mc ms hh → Y G K 0 0 w 0 lv []) : Xi G y (wsW_ y cc nL ret hh) rm w av wf Qp XP m7 s7 mc ms := by
  intro sz
  refine vx_ofWH (cc := cc) (maxL := nL) (ret := ret) (hh := hh) hy rfl ?_
  intro p e s m args below meth c s₁ B hml hv
  obtain ⟨rfl, rfl, hP, hKW, hD0, hSF⟩ := hv
  subst hlv
  subst hown
  have hts := atoms_spec (ws := wsW_ y cc nL ret hh) B.pre
  have hts : ∀ w ∈ lw_all, w.before _ s = true := fun w h => hts w (List.mem_cons_of_mem _ h)
  have hown : s.vm.findClass y.cls = some m.cls := findClass_of_methodNamed B.named
  rw [lg_entry_eq]
  exact body ((headSpec (wsW_ y cc nL ret hh) rm).room, nL, p, e, s, m, av.toArray, below, meth, c, vx_MQ below (va_Qi Qp (BM G (va_A w s.heap.size) wf) (va_A w s.heap.size)) (XB G XP (va_A w s.heap.size)) av.toArray s m7 s7 mc ms (va_A w s.heap.size), fun w' H locs => va_D (va_A w s.heap.size) w' ∧ va_S (va_A w s.heap.size) s.heap H locs) (va_A w s.heap.size) ⟨rfl, rfl, B.exec, B.bytes, B.returns, B.notSynchronized, hml, hown, hts, hKW⟩ ⟨rfl, fun q h => Or.inr h, hSF⟩ ⟨rfl, vx_table (x := y) B (atoms_spec (ws := wsW_ y cc nL ret hh) B.pre _ List.mem_cons_self)⟩ s.heap [] _ hP ⟨hD0.self, va_S.rf⟩ (lv_entry av hlen)
theorem ent_XlH {G : Gx} {y : MethodName} {own : String} {cc : ByteArray} {nL : Nat} {ret : Option FieldType} {rm : Room} {w : va_W} {av : List Value} {hh : List (Nat × Nat × Nat × Nat)} {m7 s7 mc ms : Nat} {S9 : Type} {wf : S9 → va_W} {Qp : Int64 → S9 → Prop} {XP : XPt} (hy : plainName y.cls = true) (hown : y.cls = own) (hlen : (lg_sl av).length ≤ nL) (lv : List (Nat × Value)) (hlv : lv_args 0 av = lv) (body : ∀ (K : Kx) (A : Nat → Prop), KOk G K own cc rm nL ret → KM G K A → KXl G K A wf Qp XP m7 s7 mc ms hh → Y G K 0 0 w 0 lv []) : Xl G y (wsW_ y cc nL ret hh) rm w av wf Qp XP m7 s7 mc ms := by
  intro sz
  refine vx_ofWH (cc := cc) (maxL := nL) (ret := ret) (hh := hh) hy rfl ?_
  intro p e s m args below meth c s₁ B hml hv
  obtain ⟨rfl, rfl, hP, hKW, hD0, hSF⟩ := hv
  subst hlv
  subst hown
  have hts := atoms_spec (ws := wsW_ y cc nL ret hh) B.pre
  have hts : ∀ w ∈ lw_all, w.before _ s = true := fun w h => hts w (List.mem_cons_of_mem _ h)
  have hown : s.vm.findClass y.cls = some m.cls := findClass_of_methodNamed B.named
  rw [lg_entry_eq]
  exact body ((headSpec (wsW_ y cc nL ret hh) rm).room, nL, p, e, s, m, av.toArray, below, meth, c, vx_MQ below (va_Ql Qp (BM G (va_A w s.heap.size) wf) (va_A w s.heap.size)) (XB G XP (va_A w s.heap.size)) av.toArray s m7 s7 mc ms (va_A w s.heap.size), fun w' H locs => va_D (va_A w s.heap.size) w' ∧ va_S (va_A w s.heap.size) s.heap H locs) (va_A w s.heap.size) ⟨rfl, rfl, B.exec, B.bytes, B.returns, B.notSynchronized, hml, hown, hts, hKW⟩ ⟨rfl, fun q h => Or.inr h, hSF⟩ ⟨rfl, vx_table (x := y) B (atoms_spec (ws := wsW_ y cc nL ret hh) B.pre _ List.mem_cons_self)⟩ s.heap [] _ hP ⟨hD0.self, va_S.rf⟩ (lv_entry av hlen)
theorem ent_XvH {G : Gx} {y : MethodName} {own : String} {cc : ByteArray} {nL : Nat} {ret : Option FieldType} {rm : Room} {w : va_W} {av : List Value} {hh : List (Nat × Nat × Nat × Nat)} {m7 s7 mc ms : Nat} {S9 : Type} {wf : S9 → va_W} {Qp : S9 → Prop} {XP : XPt} (hy : plainName y.cls = true) (hown : y.cls = own) (hlen : (lg_sl av).length ≤ nL) (lv : List (Nat × Value)) (hlv : lv_args 0 av = lv) (body : ∀ (K : Kx) (A : Nat → Prop), KOk G K own cc rm nL ret → KM G K A → KXv G K A wf Qp XP m7 s7 mc ms hh → Y G K 0 0 w 0 lv []) : Xv G y (wsW_ y cc nL ret hh) rm w av wf Qp XP m7 s7 mc ms := by
  intro sz
  refine vx_ofWH (cc := cc) (maxL := nL) (ret := ret) (hh := hh) hy rfl ?_
  intro p e s m args below meth c s₁ B hml hv
  obtain ⟨rfl, rfl, hP, hKW, hD0, hSF⟩ := hv
  subst hlv
  subst hown
  have hts := atoms_spec (ws := wsW_ y cc nL ret hh) B.pre
  have hts : ∀ w ∈ lw_all, w.before _ s = true := fun w h => hts w (List.mem_cons_of_mem _ h)
  have hown : s.vm.findClass y.cls = some m.cls := findClass_of_methodNamed B.named
  rw [lg_entry_eq]
  exact body ((headSpec (wsW_ y cc nL ret hh) rm).room, nL, p, e, s, m, av.toArray, below, meth, c, vx_MQ below (va_Qv Qp (BM G (va_A w s.heap.size) wf) (va_A w s.heap.size)) (XB G XP (va_A w s.heap.size)) av.toArray s m7 s7 mc ms (va_A w s.heap.size), fun w' H locs => va_D (va_A w s.heap.size) w' ∧ va_S (va_A w s.heap.size) s.heap H locs) (va_A w s.heap.size) ⟨rfl, rfl, B.exec, B.bytes, B.returns, B.notSynchronized, hml, hown, hts, hKW⟩ ⟨rfl, fun q h => Or.inr h, hSF⟩ ⟨rfl, vx_table (x := y) B (atoms_spec (ws := wsW_ y cc nL ret hh) B.pre _ List.mem_cons_self)⟩ s.heap [] _ hP ⟨hD0.self, va_S.rf⟩ (lv_entry av hlen)
def wdk (w : Cond) : Bool := (decide (w ∈ lw_tbl) && (goodWord w || nwk w)) || decide (w = .laysStatic Bundle.tN "UNASSIGNED_STACK" Bundle.steD) || decide (w = .laysStatic Bundle.tN "SUPPRESSED_SENTINEL" Bundle.listD)
theorem npe_words : (vx_atN 8).all wdk = true := by decide +kernel
theorem npe_ot : (vx_atN 8).all vx_ot = true := by decide +kernel
theorem wd_all {L : List Cond} (hL : L.all wdk = true) {args : Array Value} {s : State} {G : Gx} {A : Nat → Prop} (hts : ∀ w ∈ lw_all, w.before args s = true) (hKW : KW G s) (hSF : SF G A s s.heap) : ∀ w ∈ L, w.before args s = true := by
  intro w hw
  have h := List.all_eq_true.mp hL w hw
  rw [wdk, Bool.or_eq_true, Bool.or_eq_true, Bool.and_eq_true, Bool.or_eq_true, decide_eq_true_eq, decide_eq_true_eq, decide_eq_true_eq] at h
  rcases h with (h | h) | h
  · rcases h.2 with h2 | h2
    · exact hts w (List.mem_filter.mpr ⟨h.1, h2⟩)
    · exact va_Nw.use (nwk_tab h2) (hKW.2.1 w h.1 h2)
  · rw [h]; exact hSF.2.1.2.word
  · rw [h]; exact hSF.2.2.1.2.word
theorem y_alenN {G : Gx} {K : Kx} {own : String} {cc : ByteArray} {rm : Room} {nL : Nat} {ret : Option FieldType} {k n pc : Nat} {w : va_W} {lv : List (Nat × Value)} {st : List Value} (C : KOk G K own cc rm nL ret) {A : Nat → Prop} (M : KM G K A) (hdg : decode cc pc = .ok (.arraylength, 1)) (hrm : 7 < rm.frames ∧ (st.map fun v => v.category).sum + 10240 ≤ rm.locals ∧ k + 1 ≤ rm.cells ∧ n + 8 ≤ rm.slots) (kx : ∀ q : Nat, YX G K (k + 1) (n + 8) w pc lv "java/lang/NullPointerException" q) : Y G K k n w pc lv (.null :: st) := by
  obtain ⟨R, nL0, p, e, s, m, args, below, meth, c, Q, I⟩ := K
  obtain ⟨rfl, rfl, hx, hb, hr, hlk, hml, hown, hts, hKW⟩ := C
  obtain ⟨rfl, hA, hSF⟩ := M
  intro H locs ls hP hI hl
  refine vx_arraylengthN hx hb hdg (vx_npe (nb := 8) (A := A) hx hSF.1 (wd_all npe_words hts hKW hSF) (fun w hw => List.all_eq_true.mp npe_ot w hw) hSF.2.1 hSF.2.2.1 hI.2 (hl.1.trans hml.symm) hrm.1 hrm.2.1 hrm.2.2.1 hrm.2.2.2 hlk (fun H1 q9 ce hz hk hS hce hcv hcl => ?_))
  exact kx q9 H1 locs ls st ce (hP.kept (fun k q hq => hk q.1 (hP k q hq).lt)) ⟨hI.1, hS⟩ hl hce hcv hcl
