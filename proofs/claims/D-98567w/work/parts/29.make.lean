/-! makers: rows of constructors (printed by tools/mkmake.py) -/
set_option maxRecDepth 100000
def KInit (K : Kx) : Prop :=
  match K with
  | (R, nL0, p, e, s, m, args, below, meth, c, Q, I) => meth.name = "<init>"
theorem Y.eqw {G : Gx} {K : Kx} {k n pc : Nat} {w w' : va_W} {lv : List (Nat × Value)} {st : List Value} (h : w = w') (kk : Y G K k n w' pc lv st) : Y G K k n w pc lv st := by rw [h]; exact kk
theorem Y.wide {G : Gx} {K : Kx} {k n k' n' pc : Nat} {w : va_W} {lv : List (Nat × Value)} {st : List Value} (h : k ≤ k' ∧ n ≤ n') (kk : Y G K k' n' w pc lv st) : Y G K k n w pc lv st := by
  obtain ⟨R, nL0, p, e, s, m, args, below, meth, c, Q, I⟩ := K
  exact fun H locs ls hP hI hl => W.widen h.1 h.2 (kk H locs ls hP hI hl)
theorem y_objInit {G : Gx} {K : Kx} {own : String} {cc : ByteArray} {rm : Room} {nL : Nat} {ret : Option FieldType} {k n pc : Nat} {w : va_W} {lv : List (Nat × Value)} {st : List Value} (C : KOk G K own cc rm nL ret) {a idx : Nat} (hq : Cond.methodLink own idx Lib.objectInit ∈ lw_all) (hrm : 1 ≤ rm.frames ∧ (st.map fun v => v.category).sum + 12 ≤ rm.locals) (hdg : decode cc pc = .ok (.invokespecial idx, 3)) (kk : Y G K k n w (pc + 3) lv st) : Y G K k n w pc lv (.ref a :: st) := by
  obtain ⟨R, nL0, p, e, s, m, args, below, meth, c, Q, I⟩ := K
  obtain ⟨rfl, rfl, hx, hb, hr, hlk, hml, hown, hts, hKW⟩ := C
  intro H locs ls hP hI hl
  exact W.objInit hx hb hown (hts _ hq) (hts _ q179) (hts _ q180) rfl (by rw [hml]; exact hl.1) rfl hdg hrm.1 (by show 2 * 0 + _ + 12 ≤ _; omega) (kk H locs ls hP hI hl)
theorem y_null {G : Gx} {K : Kx} {own : String} {cc : ByteArray} {rm : Room} {nL : Nat} {ret : Option FieldType} {k n pc : Nat} {w : va_W} {lv : List (Nat × Value)} {st : List Value} (C : KOk G K own cc rm nL ret) (hdg : decode cc pc = .ok (.aconst_null, 1)) (kk : Y G K k n w (pc + 1) lv (.null :: st)) : Y G K k n w pc lv st := by
  obtain ⟨R, nL0, p, e, s, m, args, below, meth, c, Q, I⟩ := K
  obtain ⟨rfl, rfl, hx, hb, hr, hlk, hml, hown, hts, hKW⟩ := C
  intro H locs ls hP hI hl
  exact lv_null hx hb hdg (kk H locs ls hP hI hl)
theorem y_new {G : Gx} {K : Kx} {own : String} {cc : ByteArray} {rm : Room} {nL : Nat} {ret : Option FieldType} {k n pc : Nat} {w : va_W} {lv : List (Nat × Value)} {st : List Value} (C : KOk G K own cc rm nL ret) {A : Nat → Prop} (M : KM G K A) {Cn : String} {T : u_T} {N ci index k' n' : Nat} (hin : ∀ w ∈ u_ws Cn T N, w ∈ lw_all) (ty : Nat → FieldType) (hty : ∀ k, k < N → parseFieldDescriptor (T k).2.2.1 = some (ty k)) (hcl : Cond.classLink own index Cn ∈ lw_all) (hinst : Cond.instantiable Cn N ∈ lw_all) (hini : Cond.initialized Cn ∈ lw_all) (hc : vwCl[ci]? = some (Cn, T, N)) {fs : List Value} (hfs : ∀ j, j < N → defaultValue (ty j) = vp_V fs j) (hkn : k + 1 ≤ rm.cells ∧ n + N ≤ rm.slots) (hdg : decode cc pc = .ok (.new index, 3)) (hk' : k + 1 = k') (hn' : n + N = n') (wf : Nat → va_W) (hwf : ∀ q, w ++ [(q, .inr (ci, fs))] = wf q) (kk : ∀ q : Nat, Y G K k' n' (wf q) (pc + 3) lv (.ref q :: st)) : Y G K k n w pc lv st := by
  subst hk' hn'
  obtain ⟨R, nL0, p, e, s, m, args, below, meth, c, Q, I⟩ := K
  obtain ⟨rfl, rfl, hx, hb, hr, hlk, hml, hown, hts, hKW⟩ := C
  obtain ⟨rfl, hA, hSF⟩ := M
  intro H locs ls hP hI hl
  refine va_new hx hb hts hin ty hty hown (hts _ hcl) (hts _ hinst) (hts _ hini) hKW.1 hP hI.1 hI.2 hA hc hfs hkn.1 hkn.2 hdg (fun q H1 hP hD hS => ?_)
  rw [hwf] at hP hD
  exact kk q H1 locs ls hP ⟨hD, hS⟩ hl
theorem y_newa {G : Gx} {K : Kx} {own : String} {cc : ByteArray} {rm : Room} {nL : Nat} {ret : Option FieldType} {k n pc : Nat} {w : va_W} {lv : List (Nat × Value)} {st : List Value} (C : KOk G K own cc rm nL ret) {A : Nat → Prop} (M : KM G K A) {atype : ArrayType} {ty : FieldType} {cA : ClassId} {k' n' : Nat} (t0 : Nat) (ht : (tysG G)[t0]? = some (cA, ty)) (hty : newarray.typeOf atype = ty) (harr : Cond.arrayClass (newarray.typeOf atype) ∈ lw_all) {nm : String} (hra : ∀ (U : State) (cB : ClassId), va_RA U cB ty → U.vm.findClass nm = some cB) {x : Int32} {N' : Nat} {a0 : vp_A} (ha : ∀ cA : ClassId, vp_cell cA a0 = arrV cA N' (fun _ => defaultValue ty)) (hx0 : ¬ x < 0) (hN : x.toNatClampNeg = N') (hbytes : N' * componentBytes ty ≤ 536870912) (hkn : k + 1 ≤ rm.cells ∧ n + N' ≤ rm.slots) (hdg : decode cc pc = .ok (.newarray atype, 2)) (hk' : k + 1 = k') (hn' : n + N' = n') (wf : Nat → va_W) (hwf : ∀ q, w ++ [(q, .inl (cA, a0))] = wf q) (kk : ∀ q : Nat, Y G K k' n' (wf q) (pc + 2) lv (.ref q :: st)) : Y G K k n w pc lv (.int x :: st) := by
  subst hk' hn'
  obtain ⟨R, nL0, p, e, s, m, args, below, meth, c, Q, I⟩ := K
  obtain ⟨rfl, rfl, hx, hb, hr, hlk, hml, hown, hts, hKW⟩ := C
  obtain ⟨rfl, hA, hSF⟩ := M
  intro H locs ls hP hI hl
  refine va_newa hx hb (hts _ harr) hty hKW.1 hP hI.1 hI.2 hA ha hx0 hN hbytes hkn.1 hkn.2 hdg (fun q cB H1 hK1 hP hD hS => ?_)
  have e1 := hra s cB (hK1.2 7 (cB, ty) rfl).2
  have e2 := hra s cA (hKW.1.2 t0 _ ht).2
  have e : cB = cA := Option.some.inj (e1.symm.trans e2)
  subst e
  rw [hwf] at hP hD
  exact kk q H1 locs ls hP ⟨hD, hS⟩ hl
theorem u_apart2 {args : Array Value} {s : State} {Cn O f d O' f' d' : String} (h : (Cond.laysFinal Cn O f d).before args s = true) (h' : (Cond.laysFinal Cn O' f' d').before args s = true) {cf kf fi fd cf' kf' fi' fd'} (hi : s.fieldFound? O f d = some (cf, kf, fi, fd)) (hi' : s.fieldFound? O' f' d' = some (cf', kf', fi', fd')) (hne : O ≠ O') : fd.slot ≠ fd'.slot := by
  obtain ⟨c1, k1, c2, k2, i2, g, ha, _, hg, _, _, _, ho, _, dd, hd, hn, _⟩ := Cond.laysFinal_spec h
  obtain ⟨c1', k1', c2', k2', i2', g', ha', _, hg', _, _, _, ho', _, dd', hd', hn', _⟩ := Cond.laysFinal_spec h'
  cases hi.symm.trans hg
  cases hi'.symm.trans hg'
  cases ha.symm.trans ha'
  intro hs
  rw [hs] at hd
  cases hd.symm.trans hd'
  have e : kf.name = kf'.name := hn.symm.trans hn'
  obtain ⟨k9, h9, e9⟩ := Vm.findClass_spec ho
  obtain ⟨k8, h8, e8⟩ := Vm.findClass_spec ho'
  cases h9.symm.trans (State.fieldFound?_spec hi).1
  cases h8.symm.trans (State.fieldFound?_spec hi').1
  exact hne (e9.symm.trans (e.trans e8))
theorem zz_putF {p : Program} {l : Launch} {e : Env} {R : Room} {s : State} {m : MethodId} {args : Array Value} {below : List Frame} {meth : Method} {c : Code} {H : Heap} {locs : List Loc} {cells slots : Nat} {Q : State → Prop} {cc : ByteArray} {pc : Nat} {ls : Array Slot} {rest : List Value} {D : va_G} {cl : List vw_C} {A : Nat → Prop} {a : Nat} {tys : List (ClassId × FieldType)} {ws : va_W} {H0 : Heap} (hexec : p.tables.exec = Jvm.exec) (hb : c.code = cc) {own ref Cn : String} {T : u_T} {N ci index : Nat} {Ts : List Cond} (hts : ∀ w ∈ Ts, w.before args s = true) (hin : ∀ w ∈ u_ws Cn T N, w ∈ Ts) (ty0 : Nat → FieldType) (hty : ∀ k, k < N → parseFieldDescriptor (T k).2.2.1 = some (ty0 k)) (hown : s.vm.findClass own = some m.cls) (hK : va_K D cl tys s) (hP : va_P D cl ws H) (hD : va_D A ws) (hS0 : va_S A H0 H locs) (q0 : Nat) {fs : List Value} (he : ws[q0]? = some (a, .inr (ci, fs))) (hc : cl[ci]? = some (Cn, T, N)) (k : Nat) (hk : k < N) (hnm : ∀ b, b < N → b ≠ k → (T k).2.1 ≠ (T b).2.1 ∨ ((T b).2.2.2 = true ∧ (T k).1 ≠ (T b).1)) (hlink : (Cond.fieldLink own index ref (T k).2.1 (T k).2.2.1).before args s = true) (hsame : ∀ x, s.fieldFound? (T k).1 (T k).2.1 (T k).2.2.1 = some x → s.fieldFound? ref (T k).2.1 (T k).2.2.1 = some x) (hfin : (T k).2.2.2 = true) (hin2 : meth.name = "<init>") (hdecl : (T k).1 = own) {ty : FieldType} {v : Value} (hd : parseFieldDescriptor (T k).2.2.1 = some ty) (hn : narrow ty v = v) (hfit : fits ty v = true) (hl : k < fs.length) (hdg : decode cc pc = .ok (.putfield index, 3)) (kk : ∀ (H1 : Heap) (locs1 : List Loc), va_P D cl (ws.set q0 (a, .inr (ci, fs.set k v))) H1 → va_D A (ws.set q0 (a, .inr (ci, fs.set k v))) → va_S A H0 H1 locs1 → W p l e R s m args below meth c H1 locs1 cells slots Q (F0 m (pc + 3) ls rest)) : W p l e R s m args below meth c H locs cells slots Q (F0 m pc ls (v :: .ref a :: rest)) := by
  have hlay := hts _ (hin _ (u_in_lay hk))
  unfold u_lay at hlay
  rw [if_pos hfin] at hlay
  have hap : ∀ b, b < N → b ≠ k → (D.2 ci) k ≠ (D.2 ci) b := by
    intro x hx hne
    obtain ⟨hS, -⟩ := hK.1 ci _ hc
    obtain ⟨_, _, _, fa, hia, ea⟩ := hS k hk
    obtain ⟨_, _, _, fb, hib, eb⟩ := hS x hx
    rw [← ea, ← eb]
    rcases hnm x hx hne with h | ⟨h1, h2⟩
    · refine u_apart (u_lays hts hin hk) (u_lays hts hin hx) hia hib ?_
      rw [(State.fieldFound?_type hia (hty k hk)).1, (State.fieldFound?_type hib (hty x hx)).1]
      exact h
    · have hlay2 := hts _ (hin _ (u_in_lay hx))
      unfold u_lay at hlay2
      rw [if_pos h1] at hlay2
      exact u_apart2 hlay hlay2 hia hib h2
  obtain ⟨r, h1, cell, q1, q2, q3, q4⟩ := hP q0 _ he
  have hr : r = (Cn, T, N) := Option.some.inj (h1.symm.trans hc)
  subst hr
  obtain ⟨hS, hfc, kC, hkC, hkind⟩ := hK.1 ci _ hc
  obtain ⟨cf, kf, fi, f, hi, hsl⟩ := hS k hk
  have hst := (u_facts hfc hkC (u_lays hts hin hk) hi).1
  have hcf : m.cls = cf := by
    obtain ⟨_, _, c', _, _, _, -, -, hf', -, -, -, hown2, -⟩ := Cond.laysFinal_spec hlay
    have e1 : c' = cf := by have := hi.symm.trans hf'; simp at this; exact this.1.symm
    rw [hdecl] at hown2
    rw [← e1]; exact Option.some.inj (hown.symm.trans hown2)
  have h6 := u_fits hfc hkC hkind (Or.inr hlay) hi hd hn hfit
  refine W.putFinK hexec hb hown hlink (hsame _ hi) hst hcf hin2 (by rw [q2]; exact h6) q1 q3 (by rw [hsl]; exact k2_hasslot (q4 k hk)) rfl rfl hdg fun H' e1 e2 e3 => ?_
  rw [hsl] at e1 ⊢
  exact kk H' _ (hP.set hD he ⟨_, hc, t_OB.to (V := updV (vp_V fs) k v) ⟨_, e1, q2, q3, t_set1 q4 hk hap v⟩ (fun j _ => vp_updV_set hl v j)⟩ e3) (hD.set he) (hS0.put e2 e3 (hD.2 q0 _ he))
theorem y_putF {G : Gx} {K : Kx} {own : String} {cc : ByteArray} {rm : Room} {nL : Nat} {ret : Option FieldType} {k n pc : Nat} {w : va_W} {lv : List (Nat × Value)} {st : List Value} (C : KOk G K own cc rm nL ret) {A : Nat → Prop} (M : KM G K A) (KI : KInit K) {ref Cn : String} {T : u_T} {N ci index a q0 : Nat} (hin : ∀ w ∈ u_ws Cn T N, w ∈ lw_all) {fs : List Value} (he : w[q0]? = some (a, .inr (ci, fs))) (hc : vwCl[ci]? = some (Cn, T, N)) (kf : Nat) (hk : kf < N) (ty0 : Nat → FieldType) (hty : ∀ k, k < N → parseFieldDescriptor (T k).2.2.1 = some (ty0 k)) (hnm : ∀ b, b < N → b ≠ kf → (T kf).2.1 ≠ (T b).2.1 ∨ ((T b).2.2.2 = true ∧ (T kf).1 ≠ (T b).1)) (hq : Cond.fieldLink own index ref (T kf).2.1 (T kf).2.2.1 ∈ lw_all) (hsame : ∀ (s : State) x, s.fieldFound? (T kf).1 (T kf).2.1 (T kf).2.2.1 = some x → s.fieldFound? ref (T kf).2.1 (T kf).2.2.1 = some x) (hfin : (T kf).2.2.2 = true) (hdecl : (T kf).1 = own) {ty : FieldType} {v : Value} (hd : parseFieldDescriptor (T kf).2.2.1 = some ty) (hn : narrow ty v = v) (hfit : fits ty v = true) (hl0 : kf < fs.length) {w' : va_W} (hw' : w.set q0 (a, .inr (ci, fs.set kf v)) = w') (hdg : decode cc pc = .ok (.putfield index, 3)) (kk : Y G K k n w' (pc + 3) lv st) : Y G K k n w pc lv (v :: .ref a :: st) := by
  obtain ⟨R, nL0, p, e, s, m, args, below, meth, c, Q, I⟩ := K
  obtain ⟨rfl, rfl, hx, hb, hr, hlk, hml, hown, hts, hKW⟩ := C
  obtain ⟨rfl, hA, hSF⟩ := M
  subst hw'
  intro H locs ls hP hI hl
  exact zz_putF hx hb hts hin ty0 hty hown hKW.1 hP hI.1 hI.2 q0 he hc kf hk hnm (hts _ hq) (hsame s) hfin KI hdecl hd hn hfit hl0 hdg (fun H1 locs1 hP hD hS => kk H1 locs1 ls hP ⟨hD, hS⟩ hl)
theorem ent_MvI {G : Gx} {y : MethodName} {own : String} {cc : ByteArray} {nL : Nat} {ret : Option FieldType} {rm : Room} {w : va_W} {av : List Value} {mc ms : Nat} {S9 : Type} {wf : S9 → va_W} {Qp : S9 → Prop} (hy : plainFor y = true) (hyi : y.name = "<init>") (hown : y.cls = own) (hlen : (lg_sl av).length ≤ nL) (lv : List (Nat × Value)) (hlv : lv_args 0 av = lv) (body : ∀ (K : Kx) (A : Nat → Prop), KOk G K own cc rm nL ret → KM G K A → KQvA G K A wf Qp mc ms → KInit K → Y G K 0 0 w 0 lv []) : MvA G y (ws_ y cc nL ret) rm w av wf Qp mc ms := by
  intro sz
  refine va_MetF (cc := cc) (maxL := nL) (ret := ret) hy rfl ?_
  intro p e s m args below meth c s₁ B hml hv
  obtain ⟨rfl, rfl, hP, hKW, hD0, hSF⟩ := hv
  subst hlv
  subst hown
  have hts := atoms_spec (ws := ws_ y cc nL ret) B.pre
  have hts : ∀ w ∈ lw_all, w.before _ s = true := fun w h => hts w (List.mem_cons_of_mem _ h)
  have hown : s.vm.findClass y.cls = some m.cls := findClass_of_methodNamed B.named
  have hin : meth.name = "<init>" := (name_of_methodNamed B.named B.method).1.trans hyi
  rw [lg_entry_eq]
  exact body ((headSpec (ws_ y cc nL ret) rm).room, nL, p, e, s, m, av.toArray, below, meth, c, MQ below (va_Qv Qp (BM G (va_A w s.heap.size) wf) (va_A w s.heap.size)) av.toArray s mc ms (va_A w s.heap.size), fun w' H locs => va_D (va_A w s.heap.size) w' ∧ va_S (va_A w s.heap.size) s.heap H locs) (va_A w s.heap.size) ⟨rfl, rfl, B.exec, B.bytes, B.returns, B.notSynchronized, hml, hown, hts, hKW⟩ ⟨rfl, fun q h => Or.inr h, hSF⟩ rfl hin s.heap [] _ hP ⟨hD0.self, va_S.rf⟩ (lv_entry av hlen)
def CsI (own : String) (index : Nat) (y : MethodName) (bytes : ByteArray) (maxL n : Nat) : Prop := GoodIn lw_all (ws_ y bytes maxL none) ∧ (Cond.initialized y.cls ∈ lw_all ∧ Cond.methodLink own index y ∈ lw_all ∧ Cond.instanceMethod y ∈ lw_all ∧ y.name = "<init>") ∧ (y.cls ≠ "java/lang/invoke/MethodHandle" ∧ y.cls ≠ "java/lang/invoke/VarHandle" ∧ (parseMethodDescriptor y.desc).map (fun d => d.parameters.length) = some n)
def CsIN (own : String) (index : Nat) (y : MethodName) (host : String) (bytes : ByteArray) (maxL n : Nat) : Prop := GoodIn lw_all (ws_ y bytes maxL none) ∧ (Cond.initialized y.cls ∈ lw_all ∧ Cond.methodLinkNest own index y host ∈ lw_tbl ∧ Cond.instanceMethod y ∈ lw_all ∧ y.name = "<init>") ∧ (y.cls ≠ "java/lang/invoke/MethodHandle" ∧ y.cls ≠ "java/lang/invoke/VarHandle" ∧ (parseMethodDescriptor y.desc).map (fun d => d.parameters.length) = some n)
theorem y_callI {G : Gx} {K : Kx} {own : String} {cc : ByteArray} {rm : Room} {nL : Nat} {ret : Option FieldType} {k n pc : Nat} {w : va_W} {lv : List (Nat × Value)} {st : List Value} (C : KOk G K own cc rm nL ret) {A : Nat → Prop} (M : KM G K A) {mc ms k' n' : Nat} {y : MethodName} {bytes : ByteArray} {maxL index nn : Nat} {rm' : Room} {b : Nat} {As rest : List Value}  {S9 : Type} {wf : S9 → va_W} {Qp : S9 → Prop} {wc wr : va_W} (cs : CsI own index y bytes maxL nn) (hM : MvA G y (ws_ y bytes maxL none) rm' wc (.ref b :: As) wf Qp mc ms) (isC isR : List Nat) (hC : isC.map (fun i => w[i]?) = wc.map some) (hR : isR.map (fun i => w[i]?) = wr.map some) (hnC : va_nd isC = true) (hnR : va_nd isR = true) (hdis : ∀ i ∈ isR, i ∉ isC) (hrm : rm'.cells = mc ∧ rm'.slots = ms ∧ rm'.frames + 1 ≤ rm.frames ∧ 8 + (maxL + 11) + rm'.locals ≤ rm.locals) (hn : As.length = nn) (hst : st = As.reverse ++ .ref b :: rest) (hcat : (rest.map fun v => v.category).sum ≤ 8) (hdg : decode cc pc = .ok (.invokespecial index, 3)) (hkn : k + mc ≤ rm.cells ∧ n + ms ≤ rm.slots) (hk' : k + mc = k') (hn' : n + ms = n') (kk : ∀ S : S9, Qp S → Y G K k' n' (wr ++ wf S) (pc + 3) lv rest) : Y G K k n w pc lv st := by
  subst hk' hn'
  obtain ⟨R, nL0, p, e, s, m, args, below, meth, c, Q, I⟩ := K
  obtain ⟨rfl, rfl, hx, hb, hr, hlk, hml, hown, hts, hKW⟩ := C
  obtain ⟨rfl, hA, hSF⟩ := M
  subst hst
  intro H locs ls hP hI hl
  have hF := va_free hI.1 hI.2 hA isC hC
  have hPc : PW G wc H := fun j q hq => by
    have h1 : (isC.map (fun i => w[i]?))[j]? = some (some q) := by rw [hC, List.getElem?_map, hq]; rfl
    rw [List.getElem?_map] at h1
    cases hi : isC[j]? with
    | none => rw [hi] at h1; cases h1
    | some i => rw [hi] at h1; exact hP i q (Option.some.inj h1)
  have hDc := hI.1.sub isC hnC hC
  refine va_callv (va_runI (As := As) (rest := rest) (b := b) ⟨hx, hb, hml, hown, hts⟩ (hM H.size) (cwI nn hts cs.1 rfl hrm.1 hrm.2.1 (hts _ cs.2.1.1) (hts _ cs.2.1.2.1) (hts _ cs.2.1.2.2.1) cs.2.1.2.2.2 cs.2.2 hrm.2.2) ⟨pcM_blind, fun U hU hW => ⟨rfl, by rw [hU], by rw [hU]; exact hPc, hKW.warm hW, hDc.weaken (fun _ _ _ _ => trivial), by rw [hU]; exact hSF.call hI.2 hW hF⟩⟩ rfl hn hl.1 rfl (lv_room hcat) hdg ⟨hkn.1, hkn.2⟩) hI.2 (fun q _ h => hF q h) hF (fun S t H1 locs1 ht hvm hq hB hz1 hk1 hS => ?_)
  rw [BM, ht] at hB
  obtain ⟨j1, j2⟩ := va_join hP hI.1 isC isR hC hR hnR hdis hk1 hF hB.1 hB.2.2
  exact kk S hq H1 locs1 ls j1 ⟨j2, hS⟩ hl
theorem y_callIN {G : Gx} {K : Kx} {own : String} {cc : ByteArray} {rm : Room} {nL : Nat} {ret : Option FieldType} {k n pc : Nat} {w : va_W} {lv : List (Nat × Value)} {st : List Value} (C : KOk G K own cc rm nL ret) {A : Nat → Prop} (M : KM G K A) {mc ms k' n' : Nat} {y : MethodName} {bytes : ByteArray} {maxL index nn : Nat} {rm' : Room} {b : Nat} {As rest : List Value} {host : String} {S9 : Type} {wf : S9 → va_W} {Qp : S9 → Prop} {wc wr : va_W} (cs : CsIN own index y host bytes maxL nn) (hM : MvA G y (ws_ y bytes maxL none) rm' wc (.ref b :: As) wf Qp mc ms) (isC isR : List Nat) (hC : isC.map (fun i => w[i]?) = wc.map some) (hR : isR.map (fun i => w[i]?) = wr.map some) (hnC : va_nd isC = true) (hnR : va_nd isR = true) (hdis : ∀ i ∈ isR, i ∉ isC) (hrm : rm'.cells = mc ∧ rm'.slots = ms ∧ rm'.frames + 1 ≤ rm.frames ∧ 8 + (maxL + 11) + rm'.locals ≤ rm.locals) (hn : As.length = nn) (hst : st = As.reverse ++ .ref b :: rest) (hcat : (rest.map fun v => v.category).sum ≤ 8) (hdg : decode cc pc = .ok (.invokespecial index, 3)) (hkn : k + mc ≤ rm.cells ∧ n + ms ≤ rm.slots) (hk' : k + mc = k') (hn' : n + ms = n') (kk : ∀ S : S9, Qp S → Y G K k' n' (wr ++ wf S) (pc + 3) lv rest) : Y G K k n w pc lv st := by
  subst hk' hn'
  obtain ⟨R, nL0, p, e, s, m, args, below, meth, c, Q, I⟩ := K
  obtain ⟨rfl, rfl, hx, hb, hr, hlk, hml, hown, hts, hKW⟩ := C
  obtain ⟨rfl, hA, hSF⟩ := M
  subst hst
  intro H locs ls hP hI hl
  have hF := va_free hI.1 hI.2 hA isC hC
  have hPc : PW G wc H := fun j q hq => by
    have h1 : (isC.map (fun i => w[i]?))[j]? = some (some q) := by rw [hC, List.getElem?_map, hq]; rfl
    rw [List.getElem?_map] at h1
    cases hi : isC[j]? with
    | none => rw [hi] at h1; cases h1
    | some i => rw [hi] at h1; exact hP i q (Option.some.inj h1)
  have hDc := hI.1.sub isC hnC hC
  refine va_callv (va_runIN (As := As) (rest := rest) (b := b) ⟨hx, hb, hml, hown, hts⟩ (hM H.size) ⟨va_cnB nn hts cs.1 rfl hrm.1 hrm.2.1 (hKW.2.1 _ cs.2.1.2.1 rfl) (hts _ cs.2.1.1) cs.2.2 hrm.2.2, cs.2.1.2.2.2, hts _ cs.2.1.2.2.1⟩ ⟨pcM_blind, fun U hU hW => ⟨rfl, by rw [hU], by rw [hU]; exact hPc, hKW.warm hW, hDc.weaken (fun _ _ _ _ => trivial), by rw [hU]; exact hSF.call hI.2 hW hF⟩⟩ rfl hn hl.1 rfl (lv_room hcat) hdg ⟨hkn.1, hkn.2⟩) hI.2 (fun q _ h => hF q h) hF (fun S t H1 locs1 ht hvm hq hB hz1 hk1 hS => ?_)
  rw [BM, ht] at hB
  obtain ⟨j1, j2⟩ := va_join hP hI.1 isC isR hC hR hnR hdis hk1 hF hB.1 hB.2.2
  exact kk S hq H1 locs1 ls j1 ⟨j2, hS⟩ hl
