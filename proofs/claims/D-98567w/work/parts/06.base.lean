/-! THE WALK'S LAYER: a state's ints and longs by cell and place; the judgement Y (a frame at pc with its world, locals, stack); contracts Rc (reads), Mc (may write) -/
abbrev St : Type := (Nat → Nat → Int32) × (Nat → Nat → Int64)
def sI (S : St) (c k : Nat) (v : Int32) : St := (fun c' => if c' = c then upd (S.1 c) k v else S.1 c', S.2)
def sC (S : St) (c : Nat) (f : Nat → Int32) : St := (fun c' => if c' = c then f else S.1 c', S.2)
def sL (S : St) (c k : Nat) (v : Int64) : St := (S.1, fun c' => if c' = c then vp_updL (S.2 c) k v else S.2 c')
def irm (x y : Int32) : Int32 := x - x / y * y
def lrm (x y : Int64) : Int64 := x - x / y * y
theorem sI_1 (S : St) (c k : Nat) (v : Int32) (c' k' : Nat) : (sI S c k v).1 c' k' = if c' = c ∧ k' = k then v else S.1 c' k' := by
  show (if c' = c then upd (S.1 c) k v else S.1 c') k' = _
  by_cases h : c' = c
  · subst h
    by_cases h2 : k' = k
    · simp [h2, upd]
    · simp [h2, upd]
  · simp [h]
theorem sI_2 (S : St) (c k : Nat) (v : Int32) : (sI S c k v).2 = S.2 := rfl
theorem sL_1 (S : St) (c k : Nat) (v : Int64) : (sL S c k v).1 = S.1 := rfl
theorem sL_2 (S : St) (c k : Nat) (v : Int64) (c' k' : Nat) : (sL S c k v).2 c' k' = if c' = c ∧ k' = k then v else S.2 c' k' := by
  show (if c' = c then vp_updL (S.2 c) k v else S.2 c') k' = _
  by_cases h : c' = c
  · subst h
    by_cases h2 : k' = k
    · simp [h2, vp_updL]
    · simp [h2, vp_updL]
  · simp [h]
abbrev vwCl : List vw_C := [(RX0, TX0, 34), (RX1, TX1, 22), (RX2, TX2, 1), (RX4, TX4, 3), (RX5, TX5, 5), (RX6, TX6, 4), (RX7, TX7, 1), (RX8, TX8, 45), (RX9, TX9, 7), (RX10, TX10, 8), (RJ2, TJ2, 3)]
/-- the launch; the classes' ids and slots; the array classes' ids; the addresses of what is static (tokens 0..4, text constants 10.., their bytes 30.., the empty list's array 50) -/
abbrev Gx : Type := Launch × va_G × (Nat → ClassId) × (Nat → Nat)
abbrev tysG (G : Gx) : List (ClassId × FieldType) := [(G.2.2.1 0, .int), (G.2.2.1 1, .byte), (G.2.2.1 2, .boolean), (G.2.2.1 3, .long), (G.2.2.1 4, .short), (G.2.2.1 5, .object "OverHill$Slot"), (G.2.2.1 6, .object "java/lang/Object")]
def nwk : Cond → Bool
  | .fieldLinkNest .. => true
  | .methodLinkNest .. => true
  | .castable .. => true
  | .declares .. => true
  | _ => false
theorem nwk_tab {w : Cond} (h : nwk w = true) : w.onTables = true := by
  cases w <;> first | rfl | cases h
/-- the nest mates' words -/
def NW (U : State) : Prop := ∀ w ∈ lw_tbl, nwk w = true → va_Nw w U
theorem NW.warm {s U : State} (hW : s.WarmedH U.vm) (h : NW s) : NW U := by
  intro w hw hk
  have h1 := h w hw hk
  cases w with
  | fieldLinkNest a i b n d k => exact va_Nw.warmF hW h1
  | methodLinkNest a i x k => exact va_Nw.warmM hW h1
  | castable a b => exact va_Nw.warmC hW h1
  | declares x => exact va_Nw.warmD hW h1
  | _ => cases hk
theorem NW.same {s U : State} (hv : s.vm = U.vm) (h : NW s) : NW U := fun w hw hk => va_Nw.same (nwk_tab hk) hv (h w hw hk)
abbrev PW (G : Gx) (w : va_W) (H : Heap) : Prop := va_P G.2.1 vwCl w H
theorem pw_nil {G : Gx} {H : Heap} : PW G [] H := fun k q h => by simp at h
def ncPairs : List (String × String) := [("[S", "[B"), ("[I", "[B"), ("[I", "[S"), ("[J", "[B"), ("[J", "[S"), ("[J", "[I"), ("java/lang/ArrayIndexOutOfBoundsException", "java/lang/NullPointerException"), ("java/lang/ArrayStoreException", "java/lang/NullPointerException"), ("java/lang/ArrayIndexOutOfBoundsException", "java/lang/ArrayStoreException")]
def KW (G : Gx) (U : State) : Prop := va_K G.2.1 vwCl (tysG G) U ∧ NW U ∧ ∀ q ∈ ncPairs, va_Nc q.1 q.2 U
theorem KW.warm {G : Gx} {s U : State} (hW : s.WarmedH U.vm) (h : KW G s) : KW G U := ⟨va_K.moved hW.alike h.1, h.2.1.warm hW, fun q hq => (h.2.2 q hq).moved hW.alike⟩
theorem KW.calling {G : Gx} {U : State} (g : JFrame) (mk : MethodId) (a : Array Value) (h : KW G U) : KW G (U.calling g mk a) := ⟨va_K.moved (u := U) (U := U.calling g mk a) (Vm.Alike.refl U.vm) h.1, NW.same (s := U) (U := U.calling g mk a) rfl h.2.1, fun q hq => (h.2.2 q hq).moved (u := U) (U := U.calling g mk a) (Vm.Alike.refl U.vm)⟩
def tokN : Nat → String := fun i => match i with
  | 0 => "END"
  | 1 => "WORD"
  | 2 => "NUMBER"
  | 3 => "STOP"
  | _ => "NONE"
def strX : List (Nat × String) := [(114, "dance"), (115, "gap"), (123, "odds"), (127, "rain"), (131, "of"), (140, "begins"), (155, "at"), (165, "does"), (169, "lag"), (180, "every"), (192, "round"), (196, "answers"), (200, "stumble"), (208, "mud"), (212, "wood"), (217, "tune")]
def strLen : List Nat := [5, 3, 4, 4, 2, 6, 2, 4, 3, 5, 5, 7, 7, 3, 4, 4]
def strByt : List (List Int32) := [[100, 97, 110, 99, 101], [103, 97, 112], [111, 100, 100, 115], [114, 97, 105, 110], [111, 102], [98, 101, 103, 105, 110, 115], [97, 116], [100, 111, 101, 115], [108, 97, 103], [101, 118, 101, 114, 121], [114, 111, 117, 110, 100], [97, 110, 115, 119, 101, 114, 115], [115, 116, 117, 109, 98, 108, 101], [109, 117, 100], [119, 111, 111, 100], [116, 117, 110, 101]]
/-- what is static and stays: A is what may be written -/
def SF (G : Gx) (A : Nat → Prop) (U : State) (H : Heap) : Prop :=
  G.1.stackTraces = false ∧ vx_Zq Bundle.tN "UNASSIGNED_STACK" Bundle.steD A U H ∧ vx_Zq Bundle.tN "SUPPRESSED_SENTINEL" Bundle.listD A U H ∧ (∀ q ∈ ncPairs, va_Nc q.1 q.2 U) ∧ (∀ i : Nat, i < 5 → va_Z "OverHill$Token" (tokN i) "LOverHill$Token;" (.ref (G.2.2.2 i)) A U H) ∧ (∀ i j : Nat, i < 5 → j < 5 → G.2.2.2 i = G.2.2.2 j → i = j) ∧ (∀ (i : Nat) (q : Nat × String), strX[i]? = some q → vk_R "OverHill$Reader" q.1 q.2 (G.2.2.2 (10 + i)) U) ∧ vk_S 16 strLen strByt (fun i => G.2.2.2 (10 + i)) (fun i => G.2.2.2 (30 + i)) A U H ∧ va_Z "java/lang/String" "COMPACT_STRINGS" "Z" (.int 1) A U H ∧ va_Zq "jdk/internal/util/Preconditions" "SIOOBE_FORMATTER" "Ljava/util/function/BiFunction;" A U H ∧ va_Z "java/util/ArrayList" "DEFAULTCAPACITY_EMPTY_ELEMENTDATA" "[Ljava/lang/Object;" (.ref (G.2.2.2 50)) A U H ∧ va_T (.object "java/lang/Object") (G.2.2.2 50) 0 (fun _ => .null) A U H ∧ va_AO "OverHill$Slot" U ∧ va_AO "java/lang/Object" U
theorem SF.warm {G : Gx} {A : Nat → Prop} {s U : State} {H : Heap} (hW : s.WarmedH U.vm) (h : SF G A s H) : SF G A U H := by
  obtain ⟨h0, h1, h2, h3, h4, h5, h6, h7, h8, h9, h10, h11, h12, h13⟩ := h
  have e := hW.alike
  exact ⟨h0, h1.moved e, h2.moved e, fun q hq => (h3 q hq).moved e, fun i hi => (h4 i hi).moved e, h5, fun i q hq => (h6 i q hq).warm hW, h7.moved e, h8.moved e, h9.moved e, h10.moved e, h11.moved e, h12.moved e, h13.moved e⟩
theorem SF.same {G : Gx} {A : Nat → Prop} {s U : State} {H : Heap} (hv : U.vm = s.vm) (h : SF G A s H) : SF G A U H := by
  obtain ⟨h0, h1, h2, h3, h4, h5, h6, h7, h8, h9, h10, h11, h12, h13⟩ := h
  have e : s.vm.Alike U.vm := by rw [hv]; exact Vm.Alike.refl s.vm
  exact ⟨h0, h1.moved e, h2.moved e, fun q hq => (h3 q hq).moved e, fun i hi => (h4 i hi).moved e, h5, fun i q hq => (h6 i q hq).same hv, h7.moved e, h8.moved e, h9.moved e, h10.moved e, h11.moved e, h12.moved e, h13.moved e⟩
theorem SF.kept {G : Gx} {A : Nat → Prop} {U : State} {H H1 : Heap} (h : SF G A U H) (hq : ∀ a : Nat, a < H.size → ¬ A a → H1[a]? = H[a]?) : SF G A U H1 := by
  obtain ⟨h0, h1, h2, h3, h4, h5, h6, h7, h8, h9, h10, h11, h12, h13⟩ := h
  exact ⟨h0, h1.kept hq, h2.kept hq, h3, fun i hi => (h4 i hi).kept hq, h5, h6, h7.kept hq, h8.kept hq, h9.kept hq, h10.kept hq, h11.kept hq, h12, h13⟩
theorem SF.narrow {G : Gx} {A B : Nat → Prop} {U : State} {H : Heap} (h : SF G A U H) (hAB : ∀ q, B q → A q) : SF G B U H := by
  obtain ⟨h0, h1, h2, h3, h4, h5, h6, h7, h8, h9, h10, h11, h12, h13⟩ := h
  exact ⟨h0, h1.narrow hAB, h2.narrow hAB, h3, fun i hi => (h4 i hi).narrow hAB, h5, h6, h7.narrow hAB, h8.narrow hAB, h9.narrow hAB, h10.narrow hAB, h11.narrow hAB, h12, h13⟩
theorem SF.call {G : Gx} {A B : Nat → Prop} {s U : State} {H : Heap} {locs : List Loc} (h : SF G A s s.heap) (hS : va_S A s.heap H locs) (hW : s.WarmedH U.vm) (hAB : ∀ q, B q → A q) : SF G B U H := ((h.warm hW).kept hS.2.1).narrow hAB
abbrev Kx : Type := Room × Nat × Program × Env × State × MethodId × Array Value × List Frame × Method × Code × (State → Prop) × (va_W → Heap → List Loc → Prop)
/-- from any heap that holds the world w: the frame at pc, with locals lv and stack st, comes to its end -/
def Y (G : Gx) (K : Kx) (k n : Nat) (w : va_W) (pc : Nat) (lv : List (Nat × Value)) (st : List Value) : Prop :=
  match K with
  | (R, nL, p, e, s, m, args, below, meth, c, Q, I) => ∀ (H : Heap) (locs : List Loc) (ls : Array Slot), PW G w H → I w H locs → lv_has ls nL lv → W p G.1 e R s m args below meth c H locs k n Q (F0 m pc ls st)
/-- what holds all through a method -/
def KOk (G : Gx) (K : Kx) (own : String) (cc : ByteArray) (rm : Room) (nL : Nat) (ret : Option FieldType) : Prop :=
  match K with
  | (R, nL0, p, e, s, m, args, below, meth, c, Q, I) => R = rm ∧ nL0 = nL ∧ p.tables.exec = Jvm.exec ∧ c.code = cc ∧ meth.sig.returnType = ret ∧ meth.locks = false ∧ c.maxLocals = nL ∧ s.vm.findClass own = some m.cls ∧ (∀ w ∈ lw_all, w.before args s = true) ∧ KW G s
/-- a method that may write: the cells A -/
def KM (G : Gx) (K : Kx) (A : Nat → Prop) : Prop :=
  match K with
  | (R, nL0, p, e, s, m, args, below, meth, c, Q, I) => I = (fun w H locs => va_D A w ∧ va_S A s.heap H locs) ∧ (∀ q : Nat, s.heap.size ≤ q → A q) ∧ SF G A s s.heap
def BM {S9 : Type} (G : Gx) (A : Nat → Prop) (wf : S9 → va_W) : S9 → State → Prop := fun S t => PW G (wf S) t.heap ∧ KW G t ∧ va_D A (wf S)
def KQiA {S9 : Type} (G : Gx) (K : Kx) (A : Nat → Prop) (wf : S9 → va_W) (Qp : Int32 → S9 → Prop) (mc ms : Nat) : Prop :=
  match K with
  | (R, nL0, p, e, s, m, args, below, meth, c, Q, I) => Q = MQ below (va_Qi Qp (BM G A wf) A) args s mc ms A
abbrev KQi {S9 : Type} (G : Gx) (K : Kx) (A : Nat → Prop) (wf : S9 → va_W) (Qp : Int32 → S9 → Prop) : Prop := KQiA G K A wf Qp 0 0
def KQlA {S9 : Type} (G : Gx) (K : Kx) (A : Nat → Prop) (wf : S9 → va_W) (Qp : Int64 → S9 → Prop) (mc ms : Nat) : Prop :=
  match K with
  | (R, nL0, p, e, s, m, args, below, meth, c, Q, I) => Q = MQ below (va_Ql Qp (BM G A wf) A) args s mc ms A
abbrev KQl {S9 : Type} (G : Gx) (K : Kx) (A : Nat → Prop) (wf : S9 → va_W) (Qp : Int64 → S9 → Prop) : Prop := KQlA G K A wf Qp 0 0
def KQvA {S9 : Type} (G : Gx) (K : Kx) (A : Nat → Prop) (wf : S9 → va_W) (Qp : S9 → Prop) (mc ms : Nat) : Prop :=
  match K with
  | (R, nL0, p, e, s, m, args, below, meth, c, Q, I) => Q = MQ below (va_Qv Qp (BM G A wf) A) args s mc ms A
abbrev KQv {S9 : Type} (G : Gx) (K : Kx) (A : Nat → Prop) (wf : S9 → va_W) (Qp : S9 → Prop) : Prop := KQvA G K A wf Qp 0 0
def KRi (K : Kx) (Qp : Int32 → Prop) : Prop :=
  match K with
  | (R, nL0, p, e, s, m, args, below, meth, c, Q, I) => I = (fun _ H locs => H = s.heap ∧ locs = []) ∧ Q = MQ below (vp_Si Qp) args s 0 0 (fun _ => False)
def KRl (K : Kx) (Qp : Int64 → Prop) : Prop :=
  match K with
  | (R, nL0, p, e, s, m, args, below, meth, c, Q, I) => I = (fun _ H locs => H = s.heap ∧ locs = []) ∧ Q = MQ below (vp_Sl Qp) args s 0 0 (fun _ => False)
/-- contracts -/
def PcR (G : Gx) (w : va_W) (av : List Value) : Array Value → State → Prop := va_Pc av (fun U => PW G w U.heap ∧ KW G U)
def PcM (G : Gx) (w : va_W) (av : List Value) (sz : Nat) : Array Value → State → Prop := va_Pc av (fun U => U.heap.size = sz ∧ PW G w U.heap ∧ KW G U ∧ va_D (fun _ => True) w ∧ SF G (va_A w sz) U U.heap)
def Ri (G : Gx) (y : MethodName) (ws : List Cond) (rm : Room) (w : va_W) (av : List Value) (Qp : Int32 → Prop) : Prop := Met G.1 y ws rm (PcR G w av) (vp_Si Qp) 0 0 (fun _ => False)
def Rl (G : Gx) (y : MethodName) (ws : List Cond) (rm : Room) (w : va_W) (av : List Value) (Qp : Int64 → Prop) : Prop := Met G.1 y ws rm (PcR G w av) (vp_Sl Qp) 0 0 (fun _ => False)
def MiA {S9 : Type} (G : Gx) (y : MethodName) (ws : List Cond) (rm : Room) (w : va_W) (av : List Value) (wf : S9 → va_W) (Qp : Int32 → S9 → Prop) (mc ms : Nat) : Prop := ∀ sz : Nat, Met G.1 y ws rm (PcM G w av sz) (va_Qi Qp (BM G (va_A w sz) wf) (va_A w sz)) mc ms (va_A w sz)
abbrev Mi {S9 : Type} (G : Gx) (y : MethodName) (ws : List Cond) (rm : Room) (w : va_W) (av : List Value) (wf : S9 → va_W) (Qp : Int32 → S9 → Prop) : Prop := MiA G y ws rm w av wf Qp 0 0
def MlA {S9 : Type} (G : Gx) (y : MethodName) (ws : List Cond) (rm : Room) (w : va_W) (av : List Value) (wf : S9 → va_W) (Qp : Int64 → S9 → Prop) (mc ms : Nat) : Prop := ∀ sz : Nat, Met G.1 y ws rm (PcM G w av sz) (va_Ql Qp (BM G (va_A w sz) wf) (va_A w sz)) mc ms (va_A w sz)
abbrev Ml {S9 : Type} (G : Gx) (y : MethodName) (ws : List Cond) (rm : Room) (w : va_W) (av : List Value) (wf : S9 → va_W) (Qp : Int64 → S9 → Prop) : Prop := MlA G y ws rm w av wf Qp 0 0
def MvA {S9 : Type} (G : Gx) (y : MethodName) (ws : List Cond) (rm : Room) (w : va_W) (av : List Value) (wf : S9 → va_W) (Qp : S9 → Prop) (mc ms : Nat) : Prop := ∀ sz : Nat, Met G.1 y ws rm (PcM G w av sz) (va_Qv Qp (BM G (va_A w sz) wf) (va_A w sz)) mc ms (va_A w sz)
abbrev Mv {S9 : Type} (G : Gx) (y : MethodName) (ws : List Cond) (rm : Room) (w : va_W) (av : List Value) (wf : S9 → va_W) (Qp : S9 → Prop) : Prop := MvA G y ws rm w av wf Qp 0 0
theorem Y.sub {G : Gx} {K : Kx} {k n pc : Nat} {w : va_W} {lv lv' : List (Nat × Value)} {st : List Value} (h : Y G K k n w pc lv' st) (ks : List Nat) (hl : lv_pick lv ks = lv') : Y G K k n w pc lv st := by
  obtain ⟨R, nL0, p, e, s, m, args, below, meth, c, Q, I⟩ := K
  exact fun H locs ls hP hI hl0 => h H locs ls hP hI (lv_sub hl0 ks hl)

theorem y_iconst {G : Gx} {K : Kx} {own : String} {cc : ByteArray} {rm : Room} {nL : Nat} {ret : Option FieldType} {k n pc : Nat} {w : va_W} {lv : List (Nat × Value)} {st : List Value} (C : KOk G K own cc rm nL ret) {i : Int} {v : Int32} (hdg : decode cc pc = .ok (.iconst i, 1)) (hv : Int32.ofInt i = v) (kk : Y G K k n w (pc + 1) lv (.int v :: st)) : Y G K k n w pc lv (st) := by
  obtain ⟨R, nL0, p, e, s, m, args, below, meth, c, Q, I⟩ := K
  obtain ⟨rfl, rfl, hx, hb, hr, hlk, hml, hown, hts, hKW⟩ := C
  intro H locs ls hP hI hl
  exact lv_iconst hx hb hdg hv (kk H locs ls hP hI hl)
theorem y_bipush {G : Gx} {K : Kx} {own : String} {cc : ByteArray} {rm : Room} {nL : Nat} {ret : Option FieldType} {k n pc : Nat} {w : va_W} {lv : List (Nat × Value)} {st : List Value} (C : KOk G K own cc rm nL ret) {i : Int} {v : Int32} (hdg : decode cc pc = .ok (.bipush i, 2)) (hv : (Int8.ofInt i).toInt32 = v) (kk : Y G K k n w (pc + 2) lv (.int v :: st)) : Y G K k n w pc lv (st) := by
  obtain ⟨R, nL0, p, e, s, m, args, below, meth, c, Q, I⟩ := K
  obtain ⟨rfl, rfl, hx, hb, hr, hlk, hml, hown, hts, hKW⟩ := C
  intro H locs ls hP hI hl
  exact lv_bipush hx hb hdg hv (kk H locs ls hP hI hl)
theorem y_sipush {G : Gx} {K : Kx} {own : String} {cc : ByteArray} {rm : Room} {nL : Nat} {ret : Option FieldType} {k n pc : Nat} {w : va_W} {lv : List (Nat × Value)} {st : List Value} (C : KOk G K own cc rm nL ret) {i : Int} {v : Int32} (hdg : decode cc pc = .ok (.sipush i, 3)) (hv : (Int16.ofInt i).toInt32 = v) (kk : Y G K k n w (pc + 3) lv (.int v :: st)) : Y G K k n w pc lv (st) := by
  obtain ⟨R, nL0, p, e, s, m, args, below, meth, c, Q, I⟩ := K
  obtain ⟨rfl, rfl, hx, hb, hr, hlk, hml, hown, hts, hKW⟩ := C
  intro H locs ls hP hI hl
  exact lv_sipush hx hb hdg hv (kk H locs ls hP hI hl)
theorem y_lconst {G : Gx} {K : Kx} {own : String} {cc : ByteArray} {rm : Room} {nL : Nat} {ret : Option FieldType} {k n pc : Nat} {w : va_W} {lv : List (Nat × Value)} {st : List Value} (C : KOk G K own cc rm nL ret) {i : Fin 2} {v : Int64} (hdg : decode cc pc = .ok (.lconst i, 1)) (hv : Int64.ofNat (i : Nat) = v) (kk : Y G K k n w (pc + 1) lv (.long v :: st)) : Y G K k n w pc lv (st) := by
  obtain ⟨R, nL0, p, e, s, m, args, below, meth, c, Q, I⟩ := K
  obtain ⟨rfl, rfl, hx, hb, hr, hlk, hml, hown, hts, hKW⟩ := C
  intro H locs ls hP hI hl
  exact lv_lconst hx hb hdg hv (kk H locs ls hP hI hl)
theorem y_ldc {G : Gx} {K : Kx} {own : String} {cc : ByteArray} {rm : Room} {nL : Nat} {ret : Option FieldType} {k n pc : Nat} {w : va_W} {lv : List (Nat × Value)} {st : List Value} (C : KOk G K own cc rm nL ret) {index : Nat} {v : Int32} (hdg : decode cc pc = .ok (.ldc index, 2)) (hq : Jvm.Cond.constant own index v ∈ lw_all) (kk : Y G K k n w (pc + 2) lv (.int v :: st)) : Y G K k n w pc lv (st) := by
  obtain ⟨R, nL0, p, e, s, m, args, below, meth, c, Q, I⟩ := K
  obtain ⟨rfl, rfl, hx, hb, hr, hlk, hml, hown, hts, hKW⟩ := C
  intro H locs ls hP hI hl
  exact lv_ldc hx hb hown (hts _ hq) hdg (kk H locs ls hP hI hl)
theorem y_ldcw {G : Gx} {K : Kx} {own : String} {cc : ByteArray} {rm : Room} {nL : Nat} {ret : Option FieldType} {k n pc : Nat} {w : va_W} {lv : List (Nat × Value)} {st : List Value} (C : KOk G K own cc rm nL ret) {index : Nat} {v : Int32} (hdg : decode cc pc = .ok (.ldc_w index, 3)) (hq : Jvm.Cond.constant own index v ∈ lw_all) (kk : Y G K k n w (pc + 3) lv (.int v :: st)) : Y G K k n w pc lv (st) := by
  obtain ⟨R, nL0, p, e, s, m, args, below, meth, c, Q, I⟩ := K
  obtain ⟨rfl, rfl, hx, hb, hr, hlk, hml, hown, hts, hKW⟩ := C
  intro H locs ls hP hI hl
  exact lv_ldcw hx hb hown (hts _ hq) hdg (kk H locs ls hP hI hl)
theorem y_ldc2 {G : Gx} {K : Kx} {own : String} {cc : ByteArray} {rm : Room} {nL : Nat} {ret : Option FieldType} {k n pc : Nat} {w : va_W} {lv : List (Nat × Value)} {st : List Value} (C : KOk G K own cc rm nL ret) {index : Nat} {v : Int64} (hdg : decode cc pc = .ok (.ldc2_w index, 3)) (hq : Jvm.Cond.constantLong own index v ∈ lw_all) (kk : Y G K k n w (pc + 3) lv (.long v :: st)) : Y G K k n w pc lv (st) := by
  obtain ⟨R, nL0, p, e, s, m, args, below, meth, c, Q, I⟩ := K
  obtain ⟨rfl, rfl, hx, hb, hr, hlk, hml, hown, hts, hKW⟩ := C
  intro H locs ls hP hI hl
  exact lv_ldc2 hx hb hown (hts _ hq) hdg (kk H locs ls hP hI hl)
theorem y_iload_n {G : Gx} {K : Kx} {own : String} {cc : ByteArray} {rm : Room} {nL : Nat} {ret : Option FieldType} {k n pc : Nat} {w : va_W} {lv : List (Nat × Value)} {st : List Value} (C : KOk G K own cc rm nL ret) {kf : Fin 4} {i : Nat} {x : Int32} (hdg : decode cc pc = .ok (.iload_n kf, 1)) (q : Nat) (hi : (kf : Nat) = i) (hq : lv[q]? = some (i, .int x)) (kk : Y G K k n w (pc + 1) lv (.int x :: st)) : Y G K k n w pc lv (st) := by
  obtain ⟨R, nL0, p, e, s, m, args, below, meth, c, Q, I⟩ := K
  obtain ⟨rfl, rfl, hx, hb, hr, hlk, hml, hown, hts, hKW⟩ := C
  intro H locs ls hP hI hl
  exact lv_iload_n hx hb hdg hi (lv_at hl q hq) (kk H locs ls hP hI hl)
theorem y_iload {G : Gx} {K : Kx} {own : String} {cc : ByteArray} {rm : Room} {nL : Nat} {ret : Option FieldType} {k n pc : Nat} {w : va_W} {lv : List (Nat × Value)} {st : List Value} (C : KOk G K own cc rm nL ret) {i : Nat} {x : Int32} (hdg : decode cc pc = .ok (.iload i, 2)) (q : Nat) (hq : lv[q]? = some (i, .int x)) (kk : Y G K k n w (pc + 2) lv (.int x :: st)) : Y G K k n w pc lv (st) := by
  obtain ⟨R, nL0, p, e, s, m, args, below, meth, c, Q, I⟩ := K
  obtain ⟨rfl, rfl, hx, hb, hr, hlk, hml, hown, hts, hKW⟩ := C
  intro H locs ls hP hI hl
  exact lv_iload hx hb hdg (lv_at hl q hq) (kk H locs ls hP hI hl)
theorem y_istore_n {G : Gx} {K : Kx} {own : String} {cc : ByteArray} {rm : Room} {nL : Nat} {ret : Option FieldType} {k n pc : Nat} {w : va_W} {lv : List (Nat × Value)} {st : List Value} (C : KOk G K own cc rm nL ret) {kf : Fin 4} {i : Nat} {x : Int32} (hdg : decode cc pc = .ok (.istore_n kf, 1)) (hi : (kf : Nat) = i) (hn : i < nL) (lv' : List (Nat × Value)) (hq : (i, Value.int x) :: lv.filter (fun q => !(q.1 == i) && !(q.1 + 1 == i && q.2.category == 2)) = lv') (kk : Y G K k n w (pc + 1) lv' st) : Y G K k n w pc lv (.int x :: st) := by
  obtain ⟨R, nL0, p, e, s, m, args, below, meth, c, Q, I⟩ := K
  obtain ⟨rfl, rfl, hx, hb, hr, hlk, hml, hown, hts, hKW⟩ := C
  intro H locs ls hP hI hl
  exact lv_istore_n hx hb hdg hi hl hn hq (fun ls hl => kk H locs ls hP hI hl)
theorem y_istore {G : Gx} {K : Kx} {own : String} {cc : ByteArray} {rm : Room} {nL : Nat} {ret : Option FieldType} {k n pc : Nat} {w : va_W} {lv : List (Nat × Value)} {st : List Value} (C : KOk G K own cc rm nL ret) {i : Nat} {x : Int32} (hdg : decode cc pc = .ok (.istore i, 2)) (hn : i < nL) (lv' : List (Nat × Value)) (hq : (i, Value.int x) :: lv.filter (fun q => !(q.1 == i) && !(q.1 + 1 == i && q.2.category == 2)) = lv') (kk : Y G K k n w (pc + 2) lv' st) : Y G K k n w pc lv (.int x :: st) := by
  obtain ⟨R, nL0, p, e, s, m, args, below, meth, c, Q, I⟩ := K
  obtain ⟨rfl, rfl, hx, hb, hr, hlk, hml, hown, hts, hKW⟩ := C
  intro H locs ls hP hI hl
  exact lv_istore hx hb hdg hl hn hq (fun ls hl => kk H locs ls hP hI hl)
theorem y_lload_n {G : Gx} {K : Kx} {own : String} {cc : ByteArray} {rm : Room} {nL : Nat} {ret : Option FieldType} {k n pc : Nat} {w : va_W} {lv : List (Nat × Value)} {st : List Value} (C : KOk G K own cc rm nL ret) {kf : Fin 4} {i : Nat} {x : Int64} (hdg : decode cc pc = .ok (.lload_n kf, 1)) (q : Nat) (hi : (kf : Nat) = i) (hq : lv[q]? = some (i, .long x)) (kk : Y G K k n w (pc + 1) lv (.long x :: st)) : Y G K k n w pc lv (st) := by
  obtain ⟨R, nL0, p, e, s, m, args, below, meth, c, Q, I⟩ := K
  obtain ⟨rfl, rfl, hx, hb, hr, hlk, hml, hown, hts, hKW⟩ := C
  intro H locs ls hP hI hl
  exact lv_lload_n hx hb hdg hi (lv_at hl q hq) (kk H locs ls hP hI hl)
theorem y_lload {G : Gx} {K : Kx} {own : String} {cc : ByteArray} {rm : Room} {nL : Nat} {ret : Option FieldType} {k n pc : Nat} {w : va_W} {lv : List (Nat × Value)} {st : List Value} (C : KOk G K own cc rm nL ret) {i : Nat} {x : Int64} (hdg : decode cc pc = .ok (.lload i, 2)) (q : Nat) (hq : lv[q]? = some (i, .long x)) (kk : Y G K k n w (pc + 2) lv (.long x :: st)) : Y G K k n w pc lv (st) := by
  obtain ⟨R, nL0, p, e, s, m, args, below, meth, c, Q, I⟩ := K
  obtain ⟨rfl, rfl, hx, hb, hr, hlk, hml, hown, hts, hKW⟩ := C
  intro H locs ls hP hI hl
  exact lv_lload hx hb hdg (lv_at hl q hq) (kk H locs ls hP hI hl)
theorem y_lstore_n {G : Gx} {K : Kx} {own : String} {cc : ByteArray} {rm : Room} {nL : Nat} {ret : Option FieldType} {k n pc : Nat} {w : va_W} {lv : List (Nat × Value)} {st : List Value} (C : KOk G K own cc rm nL ret) {kf : Fin 4} {i : Nat} {x : Int64} (hdg : decode cc pc = .ok (.lstore_n kf, 1)) (hi : (kf : Nat) = i) (hn : i + 1 < nL) (lv' : List (Nat × Value)) (hq : (i, Value.long x) :: lv.filter (fun q => !(q.1 == i) && (!(q.1 == i + 1) && !(q.1 + 1 == i && q.2.category == 2))) = lv') (kk : Y G K k n w (pc + 1) lv' st) : Y G K k n w pc lv (.long x :: st) := by
  obtain ⟨R, nL0, p, e, s, m, args, below, meth, c, Q, I⟩ := K
  obtain ⟨rfl, rfl, hx, hb, hr, hlk, hml, hown, hts, hKW⟩ := C
  intro H locs ls hP hI hl
  exact lv_lstore_n hx hb hdg hi hl hn hq (fun ls hl => kk H locs ls hP hI hl)
theorem y_lstore {G : Gx} {K : Kx} {own : String} {cc : ByteArray} {rm : Room} {nL : Nat} {ret : Option FieldType} {k n pc : Nat} {w : va_W} {lv : List (Nat × Value)} {st : List Value} (C : KOk G K own cc rm nL ret) {i : Nat} {x : Int64} (hdg : decode cc pc = .ok (.lstore i, 2)) (hn : i + 1 < nL) (lv' : List (Nat × Value)) (hq : (i, Value.long x) :: lv.filter (fun q => !(q.1 == i) && (!(q.1 == i + 1) && !(q.1 + 1 == i && q.2.category == 2))) = lv') (kk : Y G K k n w (pc + 2) lv' st) : Y G K k n w pc lv (.long x :: st) := by
  obtain ⟨R, nL0, p, e, s, m, args, below, meth, c, Q, I⟩ := K
  obtain ⟨rfl, rfl, hx, hb, hr, hlk, hml, hown, hts, hKW⟩ := C
  intro H locs ls hP hI hl
  exact lv_lstore hx hb hdg hl hn hq (fun ls hl => kk H locs ls hP hI hl)
theorem y_aload_n {G : Gx} {K : Kx} {own : String} {cc : ByteArray} {rm : Room} {nL : Nat} {ret : Option FieldType} {k n pc : Nat} {w : va_W} {lv : List (Nat × Value)} {st : List Value} (C : KOk G K own cc rm nL ret) {kf : Fin 4} {i : Nat} {x : Nat} (hdg : decode cc pc = .ok (.aload_n kf, 1)) (q : Nat) (hi : (kf : Nat) = i) (hq : lv[q]? = some (i, .ref x)) (kk : Y G K k n w (pc + 1) lv (.ref x :: st)) : Y G K k n w pc lv (st) := by
  obtain ⟨R, nL0, p, e, s, m, args, below, meth, c, Q, I⟩ := K
  obtain ⟨rfl, rfl, hx, hb, hr, hlk, hml, hown, hts, hKW⟩ := C
  intro H locs ls hP hI hl
  exact lv_aload_n hx hb hdg hi (lv_at hl q hq) (kk H locs ls hP hI hl)
theorem y_aload {G : Gx} {K : Kx} {own : String} {cc : ByteArray} {rm : Room} {nL : Nat} {ret : Option FieldType} {k n pc : Nat} {w : va_W} {lv : List (Nat × Value)} {st : List Value} (C : KOk G K own cc rm nL ret) {i : Nat} {x : Nat} (hdg : decode cc pc = .ok (.aload i, 2)) (q : Nat) (hq : lv[q]? = some (i, .ref x)) (kk : Y G K k n w (pc + 2) lv (.ref x :: st)) : Y G K k n w pc lv (st) := by
  obtain ⟨R, nL0, p, e, s, m, args, below, meth, c, Q, I⟩ := K
  obtain ⟨rfl, rfl, hx, hb, hr, hlk, hml, hown, hts, hKW⟩ := C
  intro H locs ls hP hI hl
  exact lv_aload hx hb hdg (lv_at hl q hq) (kk H locs ls hP hI hl)
theorem y_astore_n {G : Gx} {K : Kx} {own : String} {cc : ByteArray} {rm : Room} {nL : Nat} {ret : Option FieldType} {k n pc : Nat} {w : va_W} {lv : List (Nat × Value)} {st : List Value} (C : KOk G K own cc rm nL ret) {kf : Fin 4} {i : Nat} {x : Nat} (hdg : decode cc pc = .ok (.astore_n kf, 1)) (hi : (kf : Nat) = i) (hn : i < nL) (lv' : List (Nat × Value)) (hq : (i, Value.ref x) :: lv.filter (fun q => !(q.1 == i) && !(q.1 + 1 == i && q.2.category == 2)) = lv') (kk : Y G K k n w (pc + 1) lv' st) : Y G K k n w pc lv (.ref x :: st) := by
  obtain ⟨R, nL0, p, e, s, m, args, below, meth, c, Q, I⟩ := K
  obtain ⟨rfl, rfl, hx, hb, hr, hlk, hml, hown, hts, hKW⟩ := C
  intro H locs ls hP hI hl
  exact lv_astore_n hx hb hdg hi hl hn hq (fun ls hl => kk H locs ls hP hI hl)
theorem y_astore {G : Gx} {K : Kx} {own : String} {cc : ByteArray} {rm : Room} {nL : Nat} {ret : Option FieldType} {k n pc : Nat} {w : va_W} {lv : List (Nat × Value)} {st : List Value} (C : KOk G K own cc rm nL ret) {i : Nat} {x : Nat} (hdg : decode cc pc = .ok (.astore i, 2)) (hn : i < nL) (lv' : List (Nat × Value)) (hq : (i, Value.ref x) :: lv.filter (fun q => !(q.1 == i) && !(q.1 + 1 == i && q.2.category == 2)) = lv') (kk : Y G K k n w (pc + 2) lv' st) : Y G K k n w pc lv (.ref x :: st) := by
  obtain ⟨R, nL0, p, e, s, m, args, below, meth, c, Q, I⟩ := K
  obtain ⟨rfl, rfl, hx, hb, hr, hlk, hml, hown, hts, hKW⟩ := C
  intro H locs ls hP hI hl
  exact lv_astore hx hb hdg hl hn hq (fun ls hl => kk H locs ls hP hI hl)
theorem y_iinc {G : Gx} {K : Kx} {own : String} {cc : ByteArray} {rm : Room} {nL : Nat} {ret : Option FieldType} {k n pc : Nat} {w : va_W} {lv : List (Nat × Value)} {st : List Value} (C : KOk G K own cc rm nL ret) {i : Nat} {a : Int} {x v : Int32} (hdg : decode cc pc = .ok (.iinc i a, 3)) (q : Nat) (hk : lv[q]? = some (i, .int x)) (hn : i < nL) (hv : x + Int32.ofInt a = v) (lv' : List (Nat × Value)) (hq : (i, Value.int v) :: lv.filter (fun q => !(q.1 == i) && !(q.1 + 1 == i && q.2.category == 2)) = lv') (kk : Y G K k n w (pc + 3) lv' st) : Y G K k n w pc lv st := by
  obtain ⟨R, nL0, p, e, s, m, args, below, meth, c, Q, I⟩ := K
  obtain ⟨rfl, rfl, hx, hb, hr, hlk, hml, hown, hts, hKW⟩ := C
  intro H locs ls hP hI hl
  exact lv_iinc hx hb hdg hl hk hv hn hq (fun ls hl => kk H locs ls hP hI hl)
theorem y_iadd {G : Gx} {K : Kx} {own : String} {cc : ByteArray} {rm : Room} {nL : Nat} {ret : Option FieldType} {k n pc : Nat} {w : va_W} {lv : List (Nat × Value)} {st : List Value} (C : KOk G K own cc rm nL ret) {x y : Int32} (hdg : decode cc pc = .ok (.iadd, 1)) (kk : Y G K k n w (pc + 1) lv (.int (x + y) :: st)) : Y G K k n w pc lv (.int y :: .int x :: st) := by
  obtain ⟨R, nL0, p, e, s, m, args, below, meth, c, Q, I⟩ := K
  obtain ⟨rfl, rfl, hx, hb, hr, hlk, hml, hown, hts, hKW⟩ := C
  intro H locs ls hP hI hl
  exact lv_iadd hx hb hdg (kk H locs ls hP hI hl)
theorem y_isub {G : Gx} {K : Kx} {own : String} {cc : ByteArray} {rm : Room} {nL : Nat} {ret : Option FieldType} {k n pc : Nat} {w : va_W} {lv : List (Nat × Value)} {st : List Value} (C : KOk G K own cc rm nL ret) {x y : Int32} (hdg : decode cc pc = .ok (.isub, 1)) (kk : Y G K k n w (pc + 1) lv (.int (x - y) :: st)) : Y G K k n w pc lv (.int y :: .int x :: st) := by
  obtain ⟨R, nL0, p, e, s, m, args, below, meth, c, Q, I⟩ := K
  obtain ⟨rfl, rfl, hx, hb, hr, hlk, hml, hown, hts, hKW⟩ := C
  intro H locs ls hP hI hl
  exact lv_isub hx hb hdg (kk H locs ls hP hI hl)
theorem y_imul {G : Gx} {K : Kx} {own : String} {cc : ByteArray} {rm : Room} {nL : Nat} {ret : Option FieldType} {k n pc : Nat} {w : va_W} {lv : List (Nat × Value)} {st : List Value} (C : KOk G K own cc rm nL ret) {x y : Int32} (hdg : decode cc pc = .ok (.imul, 1)) (kk : Y G K k n w (pc + 1) lv (.int (x * y) :: st)) : Y G K k n w pc lv (.int y :: .int x :: st) := by
  obtain ⟨R, nL0, p, e, s, m, args, below, meth, c, Q, I⟩ := K
  obtain ⟨rfl, rfl, hx, hb, hr, hlk, hml, hown, hts, hKW⟩ := C
  intro H locs ls hP hI hl
  exact lv_imul hx hb hdg (kk H locs ls hP hI hl)
theorem y_iand {G : Gx} {K : Kx} {own : String} {cc : ByteArray} {rm : Room} {nL : Nat} {ret : Option FieldType} {k n pc : Nat} {w : va_W} {lv : List (Nat × Value)} {st : List Value} (C : KOk G K own cc rm nL ret) {x y : Int32} (hdg : decode cc pc = .ok (.iand, 1)) (kk : Y G K k n w (pc + 1) lv (.int (x &&& y) :: st)) : Y G K k n w pc lv (.int y :: .int x :: st) := by
  obtain ⟨R, nL0, p, e, s, m, args, below, meth, c, Q, I⟩ := K
  obtain ⟨rfl, rfl, hx, hb, hr, hlk, hml, hown, hts, hKW⟩ := C
  intro H locs ls hP hI hl
  exact lv_iand hx hb hdg (kk H locs ls hP hI hl)
theorem y_ior {G : Gx} {K : Kx} {own : String} {cc : ByteArray} {rm : Room} {nL : Nat} {ret : Option FieldType} {k n pc : Nat} {w : va_W} {lv : List (Nat × Value)} {st : List Value} (C : KOk G K own cc rm nL ret) {x y : Int32} (hdg : decode cc pc = .ok (.ior, 1)) (kk : Y G K k n w (pc + 1) lv (.int (x ||| y) :: st)) : Y G K k n w pc lv (.int y :: .int x :: st) := by
  obtain ⟨R, nL0, p, e, s, m, args, below, meth, c, Q, I⟩ := K
  obtain ⟨rfl, rfl, hx, hb, hr, hlk, hml, hown, hts, hKW⟩ := C
  intro H locs ls hP hI hl
  exact lv_ior hx hb hdg (kk H locs ls hP hI hl)
theorem y_ixor {G : Gx} {K : Kx} {own : String} {cc : ByteArray} {rm : Room} {nL : Nat} {ret : Option FieldType} {k n pc : Nat} {w : va_W} {lv : List (Nat × Value)} {st : List Value} (C : KOk G K own cc rm nL ret) {x y : Int32} (hdg : decode cc pc = .ok (.ixor, 1)) (kk : Y G K k n w (pc + 1) lv (.int (x ^^^ y) :: st)) : Y G K k n w pc lv (.int y :: .int x :: st) := by
  obtain ⟨R, nL0, p, e, s, m, args, below, meth, c, Q, I⟩ := K
  obtain ⟨rfl, rfl, hx, hb, hr, hlk, hml, hown, hts, hKW⟩ := C
  intro H locs ls hP hI hl
  exact lv_ixor hx hb hdg (kk H locs ls hP hI hl)
theorem y_ishl {G : Gx} {K : Kx} {own : String} {cc : ByteArray} {rm : Room} {nL : Nat} {ret : Option FieldType} {k n pc : Nat} {w : va_W} {lv : List (Nat × Value)} {st : List Value} (C : KOk G K own cc rm nL ret) {x y : Int32} (hdg : decode cc pc = .ok (.ishl, 1)) (kk : Y G K k n w (pc + 1) lv (.int (x <<< (y &&& 31)) :: st)) : Y G K k n w pc lv (.int y :: .int x :: st) := by
  obtain ⟨R, nL0, p, e, s, m, args, below, meth, c, Q, I⟩ := K
  obtain ⟨rfl, rfl, hx, hb, hr, hlk, hml, hown, hts, hKW⟩ := C
  intro H locs ls hP hI hl
  exact lv_ishl hx hb hdg (kk H locs ls hP hI hl)
theorem y_ishr {G : Gx} {K : Kx} {own : String} {cc : ByteArray} {rm : Room} {nL : Nat} {ret : Option FieldType} {k n pc : Nat} {w : va_W} {lv : List (Nat × Value)} {st : List Value} (C : KOk G K own cc rm nL ret) {x y : Int32} (hdg : decode cc pc = .ok (.ishr, 1)) (kk : Y G K k n w (pc + 1) lv (.int (x >>> (y &&& 31)) :: st)) : Y G K k n w pc lv (.int y :: .int x :: st) := by
  obtain ⟨R, nL0, p, e, s, m, args, below, meth, c, Q, I⟩ := K
  obtain ⟨rfl, rfl, hx, hb, hr, hlk, hml, hown, hts, hKW⟩ := C
  intro H locs ls hP hI hl
  exact lv_ishr hx hb hdg (kk H locs ls hP hI hl)
theorem y_ladd {G : Gx} {K : Kx} {own : String} {cc : ByteArray} {rm : Room} {nL : Nat} {ret : Option FieldType} {k n pc : Nat} {w : va_W} {lv : List (Nat × Value)} {st : List Value} (C : KOk G K own cc rm nL ret) {x y : Int64} (hdg : decode cc pc = .ok (.ladd, 1)) (kk : Y G K k n w (pc + 1) lv (.long (x + y) :: st)) : Y G K k n w pc lv (.long y :: .long x :: st) := by
  obtain ⟨R, nL0, p, e, s, m, args, below, meth, c, Q, I⟩ := K
  obtain ⟨rfl, rfl, hx, hb, hr, hlk, hml, hown, hts, hKW⟩ := C
  intro H locs ls hP hI hl
  exact lv_ladd hx hb hdg (kk H locs ls hP hI hl)
theorem y_lsub {G : Gx} {K : Kx} {own : String} {cc : ByteArray} {rm : Room} {nL : Nat} {ret : Option FieldType} {k n pc : Nat} {w : va_W} {lv : List (Nat × Value)} {st : List Value} (C : KOk G K own cc rm nL ret) {x y : Int64} (hdg : decode cc pc = .ok (.lsub, 1)) (kk : Y G K k n w (pc + 1) lv (.long (x - y) :: st)) : Y G K k n w pc lv (.long y :: .long x :: st) := by
  obtain ⟨R, nL0, p, e, s, m, args, below, meth, c, Q, I⟩ := K
  obtain ⟨rfl, rfl, hx, hb, hr, hlk, hml, hown, hts, hKW⟩ := C
  intro H locs ls hP hI hl
  exact lv_lsub hx hb hdg (kk H locs ls hP hI hl)
theorem y_lmul {G : Gx} {K : Kx} {own : String} {cc : ByteArray} {rm : Room} {nL : Nat} {ret : Option FieldType} {k n pc : Nat} {w : va_W} {lv : List (Nat × Value)} {st : List Value} (C : KOk G K own cc rm nL ret) {x y : Int64} (hdg : decode cc pc = .ok (.lmul, 1)) (kk : Y G K k n w (pc + 1) lv (.long (x * y) :: st)) : Y G K k n w pc lv (.long y :: .long x :: st) := by
  obtain ⟨R, nL0, p, e, s, m, args, below, meth, c, Q, I⟩ := K
  obtain ⟨rfl, rfl, hx, hb, hr, hlk, hml, hown, hts, hKW⟩ := C
  intro H locs ls hP hI hl
  exact lv_lmul hx hb hdg (kk H locs ls hP hI hl)
theorem y_land {G : Gx} {K : Kx} {own : String} {cc : ByteArray} {rm : Room} {nL : Nat} {ret : Option FieldType} {k n pc : Nat} {w : va_W} {lv : List (Nat × Value)} {st : List Value} (C : KOk G K own cc rm nL ret) {x y : Int64} (hdg : decode cc pc = .ok (.land, 1)) (kk : Y G K k n w (pc + 1) lv (.long (x &&& y) :: st)) : Y G K k n w pc lv (.long y :: .long x :: st) := by
  obtain ⟨R, nL0, p, e, s, m, args, below, meth, c, Q, I⟩ := K
  obtain ⟨rfl, rfl, hx, hb, hr, hlk, hml, hown, hts, hKW⟩ := C
  intro H locs ls hP hI hl
  exact lv_land hx hb hdg (kk H locs ls hP hI hl)
theorem y_lor {G : Gx} {K : Kx} {own : String} {cc : ByteArray} {rm : Room} {nL : Nat} {ret : Option FieldType} {k n pc : Nat} {w : va_W} {lv : List (Nat × Value)} {st : List Value} (C : KOk G K own cc rm nL ret) {x y : Int64} (hdg : decode cc pc = .ok (.lor, 1)) (kk : Y G K k n w (pc + 1) lv (.long (x ||| y) :: st)) : Y G K k n w pc lv (.long y :: .long x :: st) := by
  obtain ⟨R, nL0, p, e, s, m, args, below, meth, c, Q, I⟩ := K
  obtain ⟨rfl, rfl, hx, hb, hr, hlk, hml, hown, hts, hKW⟩ := C
  intro H locs ls hP hI hl
  exact lv_lor hx hb hdg (kk H locs ls hP hI hl)
theorem y_lxor {G : Gx} {K : Kx} {own : String} {cc : ByteArray} {rm : Room} {nL : Nat} {ret : Option FieldType} {k n pc : Nat} {w : va_W} {lv : List (Nat × Value)} {st : List Value} (C : KOk G K own cc rm nL ret) {x y : Int64} (hdg : decode cc pc = .ok (.lxor, 1)) (kk : Y G K k n w (pc + 1) lv (.long (x ^^^ y) :: st)) : Y G K k n w pc lv (.long y :: .long x :: st) := by
  obtain ⟨R, nL0, p, e, s, m, args, below, meth, c, Q, I⟩ := K
  obtain ⟨rfl, rfl, hx, hb, hr, hlk, hml, hown, hts, hKW⟩ := C
  intro H locs ls hP hI hl
  exact lv_lxor hx hb hdg (kk H locs ls hP hI hl)
theorem y_idiv {G : Gx} {K : Kx} {own : String} {cc : ByteArray} {rm : Room} {nL : Nat} {ret : Option FieldType} {k n pc : Nat} {w : va_W} {lv : List (Nat × Value)} {st : List Value} (C : KOk G K own cc rm nL ret) {x y : Int32} (hdg : decode cc pc = .ok (.idiv, 1)) (hne : ¬ y = 0) (kk : Y G K k n w (pc + 1) lv (.int (x / y) :: st)) : Y G K k n w pc lv (.int y :: .int x :: st) := by
  obtain ⟨R, nL0, p, e, s, m, args, below, meth, c, Q, I⟩ := K
  obtain ⟨rfl, rfl, hx, hb, hr, hlk, hml, hown, hts, hKW⟩ := C
  intro H locs ls hP hI hl
  exact lv_idiv hx hb hdg hne (kk H locs ls hP hI hl)
theorem y_irem {G : Gx} {K : Kx} {own : String} {cc : ByteArray} {rm : Room} {nL : Nat} {ret : Option FieldType} {k n pc : Nat} {w : va_W} {lv : List (Nat × Value)} {st : List Value} (C : KOk G K own cc rm nL ret) {x y : Int32} (hdg : decode cc pc = .ok (.irem, 1)) (hne : ¬ y = 0) (kk : Y G K k n w (pc + 1) lv (.int (irm x y) :: st)) : Y G K k n w pc lv (.int y :: .int x :: st) := by
  obtain ⟨R, nL0, p, e, s, m, args, below, meth, c, Q, I⟩ := K
  obtain ⟨rfl, rfl, hx, hb, hr, hlk, hml, hown, hts, hKW⟩ := C
  intro H locs ls hP hI hl
  exact lv_irem hx hb hdg hne (kk H locs ls hP hI hl)
theorem y_ldiv {G : Gx} {K : Kx} {own : String} {cc : ByteArray} {rm : Room} {nL : Nat} {ret : Option FieldType} {k n pc : Nat} {w : va_W} {lv : List (Nat × Value)} {st : List Value} (C : KOk G K own cc rm nL ret) {x y : Int64} (hdg : decode cc pc = .ok (.ldiv, 1)) (hne : ¬ y = 0) (kk : Y G K k n w (pc + 1) lv (.long (x / y) :: st)) : Y G K k n w pc lv (.long y :: .long x :: st) := by
  obtain ⟨R, nL0, p, e, s, m, args, below, meth, c, Q, I⟩ := K
  obtain ⟨rfl, rfl, hx, hb, hr, hlk, hml, hown, hts, hKW⟩ := C
  intro H locs ls hP hI hl
  exact lv_ldiv hx hb hdg hne (kk H locs ls hP hI hl)
theorem y_lrem {G : Gx} {K : Kx} {own : String} {cc : ByteArray} {rm : Room} {nL : Nat} {ret : Option FieldType} {k n pc : Nat} {w : va_W} {lv : List (Nat × Value)} {st : List Value} (C : KOk G K own cc rm nL ret) {x y : Int64} (hdg : decode cc pc = .ok (.lrem, 1)) (hne : ¬ y = 0) (kk : Y G K k n w (pc + 1) lv (.long (lrm x y) :: st)) : Y G K k n w pc lv (.long y :: .long x :: st) := by
  obtain ⟨R, nL0, p, e, s, m, args, below, meth, c, Q, I⟩ := K
  obtain ⟨rfl, rfl, hx, hb, hr, hlk, hml, hown, hts, hKW⟩ := C
  intro H locs ls hP hI hl
  exact lv_lrem hx hb hdg hne (kk H locs ls hP hI hl)
theorem y_ineg {G : Gx} {K : Kx} {own : String} {cc : ByteArray} {rm : Room} {nL : Nat} {ret : Option FieldType} {k n pc : Nat} {w : va_W} {lv : List (Nat × Value)} {st : List Value} (C : KOk G K own cc rm nL ret) {x : Int32} (hdg : decode cc pc = .ok (.ineg, 1)) (kk : Y G K k n w (pc + 1) lv (.int (-x) :: st)) : Y G K k n w pc lv (.int x :: st) := by
  obtain ⟨R, nL0, p, e, s, m, args, below, meth, c, Q, I⟩ := K
  obtain ⟨rfl, rfl, hx, hb, hr, hlk, hml, hown, hts, hKW⟩ := C
  intro H locs ls hP hI hl
  exact lv_ineg hx hb hdg (kk H locs ls hP hI hl)
theorem y_i2l {G : Gx} {K : Kx} {own : String} {cc : ByteArray} {rm : Room} {nL : Nat} {ret : Option FieldType} {k n pc : Nat} {w : va_W} {lv : List (Nat × Value)} {st : List Value} (C : KOk G K own cc rm nL ret) {x : Int32} {v : Int64} (hdg : decode cc pc = .ok (.i2l, 1)) (hv : x.toInt64 = v) (kk : Y G K k n w (pc + 1) lv (.long v :: st)) : Y G K k n w pc lv (.int x :: st) := by
  obtain ⟨R, nL0, p, e, s, m, args, below, meth, c, Q, I⟩ := K
  obtain ⟨rfl, rfl, hx, hb, hr, hlk, hml, hown, hts, hKW⟩ := C
  intro H locs ls hP hI hl
  exact lv_i2l hx hb hdg hv (kk H locs ls hP hI hl)
theorem y_l2i {G : Gx} {K : Kx} {own : String} {cc : ByteArray} {rm : Room} {nL : Nat} {ret : Option FieldType} {k n pc : Nat} {w : va_W} {lv : List (Nat × Value)} {st : List Value} (C : KOk G K own cc rm nL ret) {x : Int64} (hdg : decode cc pc = .ok (.l2i, 1)) (kk : Y G K k n w (pc + 1) lv (.int x.toInt32 :: st)) : Y G K k n w pc lv (.long x :: st) := by
  obtain ⟨R, nL0, p, e, s, m, args, below, meth, c, Q, I⟩ := K
  obtain ⟨rfl, rfl, hx, hb, hr, hlk, hml, hown, hts, hKW⟩ := C
  intro H locs ls hP hI hl
  exact lv_l2i hx hb hdg rfl (kk H locs ls hP hI hl)
theorem y_i2b {G : Gx} {K : Kx} {own : String} {cc : ByteArray} {rm : Room} {nL : Nat} {ret : Option FieldType} {k n pc : Nat} {w : va_W} {lv : List (Nat × Value)} {st : List Value} (C : KOk G K own cc rm nL ret) {x : Int32} (hdg : decode cc pc = .ok (.i2b, 1)) (kk : Y G K k n w (pc + 1) lv (.int x.toInt8.toInt32 :: st)) : Y G K k n w pc lv (.int x :: st) := by
  obtain ⟨R, nL0, p, e, s, m, args, below, meth, c, Q, I⟩ := K
  obtain ⟨rfl, rfl, hx, hb, hr, hlk, hml, hown, hts, hKW⟩ := C
  intro H locs ls hP hI hl
  exact lv_i2b hx hb hdg rfl (kk H locs ls hP hI hl)
theorem y_i2s {G : Gx} {K : Kx} {own : String} {cc : ByteArray} {rm : Room} {nL : Nat} {ret : Option FieldType} {k n pc : Nat} {w : va_W} {lv : List (Nat × Value)} {st : List Value} (C : KOk G K own cc rm nL ret) {x : Int32} (hdg : decode cc pc = .ok (.i2s, 1)) (kk : Y G K k n w (pc + 1) lv (.int x.toInt16.toInt32 :: st)) : Y G K k n w pc lv (.int x :: st) := by
  obtain ⟨R, nL0, p, e, s, m, args, below, meth, c, Q, I⟩ := K
  obtain ⟨rfl, rfl, hx, hb, hr, hlk, hml, hown, hts, hKW⟩ := C
  intro H locs ls hP hI hl
  exact lv_i2s hx hb hdg rfl (kk H locs ls hP hI hl)
theorem y_lshl {G : Gx} {K : Kx} {own : String} {cc : ByteArray} {rm : Room} {nL : Nat} {ret : Option FieldType} {k n pc : Nat} {w : va_W} {lv : List (Nat × Value)} {st : List Value} (C : KOk G K own cc rm nL ret) {x : Int64} {y : Int32} (hdg : decode cc pc = .ok (.lshl, 1)) (kk : Y G K k n w (pc + 1) lv (.long (x <<< (y.toInt64 &&& 63)) :: st)) : Y G K k n w pc lv (.int y :: .long x :: st) := by
  obtain ⟨R, nL0, p, e, s, m, args, below, meth, c, Q, I⟩ := K
  obtain ⟨rfl, rfl, hx, hb, hr, hlk, hml, hown, hts, hKW⟩ := C
  intro H locs ls hP hI hl
  exact lv_lshl hx hb hdg rfl (kk H locs ls hP hI hl)
theorem y_lcmp {G : Gx} {K : Kx} {own : String} {cc : ByteArray} {rm : Room} {nL : Nat} {ret : Option FieldType} {k n pc : Nat} {w : va_W} {lv : List (Nat × Value)} {st : List Value} (C : KOk G K own cc rm nL ret) {x y : Int64} (hdg : decode cc pc = .ok (.lcmp, 1)) (kk : Y G K k n w (pc + 1) lv (.int (lg_cmp x y) :: st)) : Y G K k n w pc lv (.long y :: .long x :: st) := by
  obtain ⟨R, nL0, p, e, s, m, args, below, meth, c, Q, I⟩ := K
  obtain ⟨rfl, rfl, hx, hb, hr, hlk, hml, hown, hts, hKW⟩ := C
  intro H locs ls hP hI hl
  exact W.lcmp hx hb hdg (kk H locs ls hP hI hl)
theorem y_dup {G : Gx} {K : Kx} {own : String} {cc : ByteArray} {rm : Room} {nL : Nat} {ret : Option FieldType} {k n pc : Nat} {w : va_W} {lv : List (Nat × Value)} {st : List Value} (C : KOk G K own cc rm nL ret) {a : Value} (hdg : decode cc pc = .ok (.dup, 1)) (ha : a.category = 1) (kk : Y G K k n w (pc + 1) lv (a :: a :: st)) : Y G K k n w pc lv (a :: st) := by
  obtain ⟨R, nL0, p, e, s, m, args, below, meth, c, Q, I⟩ := K
  obtain ⟨rfl, rfl, hx, hb, hr, hlk, hml, hown, hts, hKW⟩ := C
  intro H locs ls hP hI hl
  exact lv_dup hx hb hdg ha (kk H locs ls hP hI hl)
theorem y_pop {G : Gx} {K : Kx} {own : String} {cc : ByteArray} {rm : Room} {nL : Nat} {ret : Option FieldType} {k n pc : Nat} {w : va_W} {lv : List (Nat × Value)} {st : List Value} (C : KOk G K own cc rm nL ret) {a : Value} (hdg : decode cc pc = .ok (.pop, 1)) (ha : a.category = 1) (kk : Y G K k n w (pc + 1) lv (st)) : Y G K k n w pc lv (a :: st) := by
  obtain ⟨R, nL0, p, e, s, m, args, below, meth, c, Q, I⟩ := K
  obtain ⟨rfl, rfl, hx, hb, hr, hlk, hml, hown, hts, hKW⟩ := C
  intro H locs ls hP hI hl
  exact lv_pop hx hb hdg ha (kk H locs ls hP hI hl)
theorem y_pop2 {G : Gx} {K : Kx} {own : String} {cc : ByteArray} {rm : Room} {nL : Nat} {ret : Option FieldType} {k n pc : Nat} {w : va_W} {lv : List (Nat × Value)} {st : List Value} (C : KOk G K own cc rm nL ret) {a : Value} (hdg : decode cc pc = .ok (.pop2, 1)) (ha : a.category = 2) (kk : Y G K k n w (pc + 1) lv (st)) : Y G K k n w pc lv (a :: st) := by
  obtain ⟨R, nL0, p, e, s, m, args, below, meth, c, Q, I⟩ := K
  obtain ⟨rfl, rfl, hx, hb, hr, hlk, hml, hown, hts, hKW⟩ := C
  intro H locs ls hP hI hl
  exact lv_pop2_2 hx hb hdg ha (kk H locs ls hP hI hl)
theorem y_dup_x1 {G : Gx} {K : Kx} {own : String} {cc : ByteArray} {rm : Room} {nL : Nat} {ret : Option FieldType} {k n pc : Nat} {w : va_W} {lv : List (Nat × Value)} {st : List Value} (C : KOk G K own cc rm nL ret) {a b : Value} (hdg : decode cc pc = .ok (.dup_x1, 1)) (ha : a.category = 1) (hb2 : b.category = 1) (kk : Y G K k n w (pc + 1) lv (a :: b :: a :: st)) : Y G K k n w pc lv (a :: b :: st) := by
  obtain ⟨R, nL0, p, e, s, m, args, below, meth, c, Q, I⟩ := K
  obtain ⟨rfl, rfl, hx, hb, hr, hlk, hml, hown, hts, hKW⟩ := C
  intro H locs ls hP hI hl
  exact lv_dup_x1 hx hb hdg ha hb2 (kk H locs ls hP hI hl)
theorem y_dup2 {G : Gx} {K : Kx} {own : String} {cc : ByteArray} {rm : Room} {nL : Nat} {ret : Option FieldType} {k n pc : Nat} {w : va_W} {lv : List (Nat × Value)} {st : List Value} (C : KOk G K own cc rm nL ret) {a b : Value} (hdg : decode cc pc = .ok (.dup2, 1)) (ha : a.category = 1) (hb2 : b.category = 1) (kk : Y G K k n w (pc + 1) lv (a :: b :: a :: b :: st)) : Y G K k n w pc lv (a :: b :: st) := by
  obtain ⟨R, nL0, p, e, s, m, args, below, meth, c, Q, I⟩ := K
  obtain ⟨rfl, rfl, hx, hb, hr, hlk, hml, hown, hts, hKW⟩ := C
  intro H locs ls hP hI hl
  exact lv_dup2_11 hx hb hdg ha hb2 (kk H locs ls hP hI hl)
theorem y_goto {G : Gx} {K : Kx} {own : String} {cc : ByteArray} {rm : Room} {nL : Nat} {ret : Option FieldType} {k n pc : Nat} {w : va_W} {lv : List (Nat × Value)} {st : List Value} (C : KOk G K own cc rm nL ret) {off : Int} {tgt : Nat} (hdg : decode cc pc = .ok (.goto off, 3)) (ht : (pc : Int) + off = (tgt : Int)) (kk : Y G K k n w tgt lv st) : Y G K k n w pc lv st := by
  obtain ⟨R, nL0, p, e, s, m, args, below, meth, c, Q, I⟩ := K
  obtain ⟨rfl, rfl, hx, hb, hr, hlk, hml, hown, hts, hKW⟩ := C
  intro H locs ls hP hI hl
  exact lv_goto hx hb hdg ht (kk H locs ls hP hI hl)
theorem y_if_eq {G : Gx} {K : Kx} {own : String} {cc : ByteArray} {rm : Room} {nL : Nat} {ret : Option FieldType} {k n pc : Nat} {w : va_W} {lv : List (Nat × Value)} {st : List Value} (C : KOk G K own cc rm nL ret) {x : Int32} {off : Int} {tgt : Nat} (hdg : decode cc pc = .ok (.ifCond .eq off, 3)) (ht : (pc : Int) + off = (tgt : Int)) (kt : x = 0 → Y G K k n w tgt lv st) (kf : ¬ x = 0 → Y G K k n w (pc + 3) lv st) : Y G K k n w pc lv (.int x :: st) := by
  obtain ⟨R, nL0, p, e, s, m, args, below, meth, c, Q, I⟩ := K
  obtain ⟨rfl, rfl, hx, hb, hr, hlk, hml, hown, hts, hKW⟩ := C
  intro H locs ls hP hI hl
  exact lv_if_eq hx hb hdg ht (fun h => kt h H locs ls hP hI hl) (fun h => kf h H locs ls hP hI hl)
theorem y_if_ne {G : Gx} {K : Kx} {own : String} {cc : ByteArray} {rm : Room} {nL : Nat} {ret : Option FieldType} {k n pc : Nat} {w : va_W} {lv : List (Nat × Value)} {st : List Value} (C : KOk G K own cc rm nL ret) {x : Int32} {off : Int} {tgt : Nat} (hdg : decode cc pc = .ok (.ifCond .ne off, 3)) (ht : (pc : Int) + off = (tgt : Int)) (kt : ¬ x = 0 → Y G K k n w tgt lv st) (kf : x = 0 → Y G K k n w (pc + 3) lv st) : Y G K k n w pc lv (.int x :: st) := by
  obtain ⟨R, nL0, p, e, s, m, args, below, meth, c, Q, I⟩ := K
  obtain ⟨rfl, rfl, hx, hb, hr, hlk, hml, hown, hts, hKW⟩ := C
  intro H locs ls hP hI hl
  exact lv_if_ne hx hb hdg ht (fun h => kt h H locs ls hP hI hl) (fun h => kf h H locs ls hP hI hl)
theorem y_if_lt {G : Gx} {K : Kx} {own : String} {cc : ByteArray} {rm : Room} {nL : Nat} {ret : Option FieldType} {k n pc : Nat} {w : va_W} {lv : List (Nat × Value)} {st : List Value} (C : KOk G K own cc rm nL ret) {x : Int32} {off : Int} {tgt : Nat} (hdg : decode cc pc = .ok (.ifCond .lt off, 3)) (ht : (pc : Int) + off = (tgt : Int)) (kt : x < 0 → Y G K k n w tgt lv st) (kf : ¬ x < 0 → Y G K k n w (pc + 3) lv st) : Y G K k n w pc lv (.int x :: st) := by
  obtain ⟨R, nL0, p, e, s, m, args, below, meth, c, Q, I⟩ := K
  obtain ⟨rfl, rfl, hx, hb, hr, hlk, hml, hown, hts, hKW⟩ := C
  intro H locs ls hP hI hl
  exact lv_if_lt hx hb hdg ht (fun h => kt h H locs ls hP hI hl) (fun h => kf h H locs ls hP hI hl)
theorem y_if_ge {G : Gx} {K : Kx} {own : String} {cc : ByteArray} {rm : Room} {nL : Nat} {ret : Option FieldType} {k n pc : Nat} {w : va_W} {lv : List (Nat × Value)} {st : List Value} (C : KOk G K own cc rm nL ret) {x : Int32} {off : Int} {tgt : Nat} (hdg : decode cc pc = .ok (.ifCond .ge off, 3)) (ht : (pc : Int) + off = (tgt : Int)) (kt : 0 ≤ x → Y G K k n w tgt lv st) (kf : ¬ 0 ≤ x → Y G K k n w (pc + 3) lv st) : Y G K k n w pc lv (.int x :: st) := by
  obtain ⟨R, nL0, p, e, s, m, args, below, meth, c, Q, I⟩ := K
  obtain ⟨rfl, rfl, hx, hb, hr, hlk, hml, hown, hts, hKW⟩ := C
  intro H locs ls hP hI hl
  exact lv_if_ge hx hb hdg ht (fun h => kt h H locs ls hP hI hl) (fun h => kf h H locs ls hP hI hl)
theorem y_if_gt {G : Gx} {K : Kx} {own : String} {cc : ByteArray} {rm : Room} {nL : Nat} {ret : Option FieldType} {k n pc : Nat} {w : va_W} {lv : List (Nat × Value)} {st : List Value} (C : KOk G K own cc rm nL ret) {x : Int32} {off : Int} {tgt : Nat} (hdg : decode cc pc = .ok (.ifCond .gt off, 3)) (ht : (pc : Int) + off = (tgt : Int)) (kt : 0 < x → Y G K k n w tgt lv st) (kf : ¬ 0 < x → Y G K k n w (pc + 3) lv st) : Y G K k n w pc lv (.int x :: st) := by
  obtain ⟨R, nL0, p, e, s, m, args, below, meth, c, Q, I⟩ := K
  obtain ⟨rfl, rfl, hx, hb, hr, hlk, hml, hown, hts, hKW⟩ := C
  intro H locs ls hP hI hl
  exact lv_if_gt hx hb hdg ht (fun h => kt h H locs ls hP hI hl) (fun h => kf h H locs ls hP hI hl)
theorem y_if_le {G : Gx} {K : Kx} {own : String} {cc : ByteArray} {rm : Room} {nL : Nat} {ret : Option FieldType} {k n pc : Nat} {w : va_W} {lv : List (Nat × Value)} {st : List Value} (C : KOk G K own cc rm nL ret) {x : Int32} {off : Int} {tgt : Nat} (hdg : decode cc pc = .ok (.ifCond .le off, 3)) (ht : (pc : Int) + off = (tgt : Int)) (kt : x ≤ 0 → Y G K k n w tgt lv st) (kf : ¬ x ≤ 0 → Y G K k n w (pc + 3) lv st) : Y G K k n w pc lv (.int x :: st) := by
  obtain ⟨R, nL0, p, e, s, m, args, below, meth, c, Q, I⟩ := K
  obtain ⟨rfl, rfl, hx, hb, hr, hlk, hml, hown, hts, hKW⟩ := C
  intro H locs ls hP hI hl
  exact lv_if_le hx hb hdg ht (fun h => kt h H locs ls hP hI hl) (fun h => kf h H locs ls hP hI hl)
theorem y_icmp_eq {G : Gx} {K : Kx} {own : String} {cc : ByteArray} {rm : Room} {nL : Nat} {ret : Option FieldType} {k n pc : Nat} {w : va_W} {lv : List (Nat × Value)} {st : List Value} (C : KOk G K own cc rm nL ret) {x y : Int32} {off : Int} {tgt : Nat} (hdg : decode cc pc = .ok (.if_icmp .eq off, 3)) (ht : (pc : Int) + off = (tgt : Int)) (kt : x = y → Y G K k n w tgt lv st) (kf : ¬ x = y → Y G K k n w (pc + 3) lv st) : Y G K k n w pc lv (.int y :: .int x :: st) := by
  obtain ⟨R, nL0, p, e, s, m, args, below, meth, c, Q, I⟩ := K
  obtain ⟨rfl, rfl, hx, hb, hr, hlk, hml, hown, hts, hKW⟩ := C
  intro H locs ls hP hI hl
  exact lv_icmp_eq hx hb hdg ht (fun h => kt h H locs ls hP hI hl) (fun h => kf h H locs ls hP hI hl)
theorem y_icmp_ne {G : Gx} {K : Kx} {own : String} {cc : ByteArray} {rm : Room} {nL : Nat} {ret : Option FieldType} {k n pc : Nat} {w : va_W} {lv : List (Nat × Value)} {st : List Value} (C : KOk G K own cc rm nL ret) {x y : Int32} {off : Int} {tgt : Nat} (hdg : decode cc pc = .ok (.if_icmp .ne off, 3)) (ht : (pc : Int) + off = (tgt : Int)) (kt : ¬ x = y → Y G K k n w tgt lv st) (kf : x = y → Y G K k n w (pc + 3) lv st) : Y G K k n w pc lv (.int y :: .int x :: st) := by
  obtain ⟨R, nL0, p, e, s, m, args, below, meth, c, Q, I⟩ := K
  obtain ⟨rfl, rfl, hx, hb, hr, hlk, hml, hown, hts, hKW⟩ := C
  intro H locs ls hP hI hl
  exact lv_icmp_ne hx hb hdg ht (fun h => kt h H locs ls hP hI hl) (fun h => kf h H locs ls hP hI hl)
theorem y_icmp_lt {G : Gx} {K : Kx} {own : String} {cc : ByteArray} {rm : Room} {nL : Nat} {ret : Option FieldType} {k n pc : Nat} {w : va_W} {lv : List (Nat × Value)} {st : List Value} (C : KOk G K own cc rm nL ret) {x y : Int32} {off : Int} {tgt : Nat} (hdg : decode cc pc = .ok (.if_icmp .lt off, 3)) (ht : (pc : Int) + off = (tgt : Int)) (kt : x < y → Y G K k n w tgt lv st) (kf : ¬ x < y → Y G K k n w (pc + 3) lv st) : Y G K k n w pc lv (.int y :: .int x :: st) := by
  obtain ⟨R, nL0, p, e, s, m, args, below, meth, c, Q, I⟩ := K
  obtain ⟨rfl, rfl, hx, hb, hr, hlk, hml, hown, hts, hKW⟩ := C
  intro H locs ls hP hI hl
  exact lv_icmp_lt hx hb hdg ht (fun h => kt h H locs ls hP hI hl) (fun h => kf h H locs ls hP hI hl)
theorem y_icmp_ge {G : Gx} {K : Kx} {own : String} {cc : ByteArray} {rm : Room} {nL : Nat} {ret : Option FieldType} {k n pc : Nat} {w : va_W} {lv : List (Nat × Value)} {st : List Value} (C : KOk G K own cc rm nL ret) {x y : Int32} {off : Int} {tgt : Nat} (hdg : decode cc pc = .ok (.if_icmp .ge off, 3)) (ht : (pc : Int) + off = (tgt : Int)) (kt : y ≤ x → Y G K k n w tgt lv st) (kf : ¬ y ≤ x → Y G K k n w (pc + 3) lv st) : Y G K k n w pc lv (.int y :: .int x :: st) := by
  obtain ⟨R, nL0, p, e, s, m, args, below, meth, c, Q, I⟩ := K
  obtain ⟨rfl, rfl, hx, hb, hr, hlk, hml, hown, hts, hKW⟩ := C
  intro H locs ls hP hI hl
  exact lv_icmp_ge hx hb hdg ht (fun h => kt h H locs ls hP hI hl) (fun h => kf h H locs ls hP hI hl)
theorem y_icmp_gt {G : Gx} {K : Kx} {own : String} {cc : ByteArray} {rm : Room} {nL : Nat} {ret : Option FieldType} {k n pc : Nat} {w : va_W} {lv : List (Nat × Value)} {st : List Value} (C : KOk G K own cc rm nL ret) {x y : Int32} {off : Int} {tgt : Nat} (hdg : decode cc pc = .ok (.if_icmp .gt off, 3)) (ht : (pc : Int) + off = (tgt : Int)) (kt : y < x → Y G K k n w tgt lv st) (kf : ¬ y < x → Y G K k n w (pc + 3) lv st) : Y G K k n w pc lv (.int y :: .int x :: st) := by
  obtain ⟨R, nL0, p, e, s, m, args, below, meth, c, Q, I⟩ := K
  obtain ⟨rfl, rfl, hx, hb, hr, hlk, hml, hown, hts, hKW⟩ := C
  intro H locs ls hP hI hl
  exact lv_icmp_gt hx hb hdg ht (fun h => kt h H locs ls hP hI hl) (fun h => kf h H locs ls hP hI hl)
theorem y_icmp_le {G : Gx} {K : Kx} {own : String} {cc : ByteArray} {rm : Room} {nL : Nat} {ret : Option FieldType} {k n pc : Nat} {w : va_W} {lv : List (Nat × Value)} {st : List Value} (C : KOk G K own cc rm nL ret) {x y : Int32} {off : Int} {tgt : Nat} (hdg : decode cc pc = .ok (.if_icmp .le off, 3)) (ht : (pc : Int) + off = (tgt : Int)) (kt : x ≤ y → Y G K k n w tgt lv st) (kf : ¬ x ≤ y → Y G K k n w (pc + 3) lv st) : Y G K k n w pc lv (.int y :: .int x :: st) := by
  obtain ⟨R, nL0, p, e, s, m, args, below, meth, c, Q, I⟩ := K
  obtain ⟨rfl, rfl, hx, hb, hr, hlk, hml, hown, hts, hKW⟩ := C
  intro H locs ls hP hI hl
  exact lv_icmp_le hx hb hdg ht (fun h => kt h H locs ls hP hI hl) (fun h => kf h H locs ls hP hI hl)
theorem y_iald {G : Gx} {K : Kx} {own : String} {cc : ByteArray} {rm : Room} {nL : Nat} {ret : Option FieldType} {k n pc : Nat} {w : va_W} {lv : List (Nat × Value)} {st : List Value} (C : KOk G K own cc rm nL ret) {a nA : Nat} {f : Nat → Int32} {i : Int32} {q0 : Nat} (ha : w[q0]? = some (a, .inl (G.2.2.1 0, nA, .inl f))) {j : Nat} (hj : i.toNatClampNeg = j) (hin : vp_in i nA) (hdg : decode cc pc = .ok (.iaload, 1)) (kk : Y G K k n w (pc + 1) lv (.int (f j) :: st)) : Y G K k n w pc lv (.int i :: .ref a :: st) := by
  subst hj
  obtain ⟨R, nL0, p, e, s, m, args, below, meth, c, Q, I⟩ := K
  obtain ⟨rfl, rfl, hx, hb, hr, hlk, hml, hown, hts, hKW⟩ := C
  intro H locs ls hP hI hl
  exact va_iald hx hb hKW.1 hP q0 0 ha rfl hin hdg (kk H locs ls hP hI hl)
theorem y_bald {G : Gx} {K : Kx} {own : String} {cc : ByteArray} {rm : Room} {nL : Nat} {ret : Option FieldType} {k n pc : Nat} {w : va_W} {lv : List (Nat × Value)} {st : List Value} (C : KOk G K own cc rm nL ret) {a nA : Nat} {f : Nat → Int32} {i : Int32} {q0 : Nat} (ha : w[q0]? = some (a, .inl (G.2.2.1 1, nA, .inl f))) {j : Nat} (hj : i.toNatClampNeg = j) (hin : vp_in i nA) (hdg : decode cc pc = .ok (.baload, 1)) (kk : Y G K k n w (pc + 1) lv (.int (f j) :: st)) : Y G K k n w pc lv (.int i :: .ref a :: st) := by
  subst hj
  obtain ⟨R, nL0, p, e, s, m, args, below, meth, c, Q, I⟩ := K
  obtain ⟨rfl, rfl, hx, hb, hr, hlk, hml, hown, hts, hKW⟩ := C
  intro H locs ls hP hI hl
  exact va_bald hx hb hKW.1 hP q0 1 ha rfl hin hdg (kk H locs ls hP hI hl)
theorem y_zald {G : Gx} {K : Kx} {own : String} {cc : ByteArray} {rm : Room} {nL : Nat} {ret : Option FieldType} {k n pc : Nat} {w : va_W} {lv : List (Nat × Value)} {st : List Value} (C : KOk G K own cc rm nL ret) {a nA : Nat} {f : Nat → Int32} {i : Int32} {q0 : Nat} (ha : w[q0]? = some (a, .inl (G.2.2.1 2, nA, .inl f))) {j : Nat} (hj : i.toNatClampNeg = j) (hin : vp_in i nA) (hdg : decode cc pc = .ok (.baload, 1)) (kk : Y G K k n w (pc + 1) lv (.int (f j) :: st)) : Y G K k n w pc lv (.int i :: .ref a :: st) := by
  subst hj
  obtain ⟨R, nL0, p, e, s, m, args, below, meth, c, Q, I⟩ := K
  obtain ⟨rfl, rfl, hx, hb, hr, hlk, hml, hown, hts, hKW⟩ := C
  intro H locs ls hP hI hl
  exact va_zald hx hb hKW.1 hP q0 2 ha rfl hin hdg (kk H locs ls hP hI hl)
theorem y_lald {G : Gx} {K : Kx} {own : String} {cc : ByteArray} {rm : Room} {nL : Nat} {ret : Option FieldType} {k n pc : Nat} {w : va_W} {lv : List (Nat × Value)} {st : List Value} (C : KOk G K own cc rm nL ret) {a nA : Nat} {f : Nat → Int64} {i : Int32} {q0 : Nat} (ha : w[q0]? = some (a, .inl (G.2.2.1 3, nA, .inr (.inl f)))) {j : Nat} (hj : i.toNatClampNeg = j) (hin : vp_in i nA) (hdg : decode cc pc = .ok (.laload, 1)) (kk : Y G K k n w (pc + 1) lv (.long (f j) :: st)) : Y G K k n w pc lv (.int i :: .ref a :: st) := by
  subst hj
  obtain ⟨R, nL0, p, e, s, m, args, below, meth, c, Q, I⟩ := K
  obtain ⟨rfl, rfl, hx, hb, hr, hlk, hml, hown, hts, hKW⟩ := C
  intro H locs ls hP hI hl
  exact va_lald hx hb hKW.1 hP q0 3 ha rfl hin hdg (kk H locs ls hP hI hl)
theorem y_alen {G : Gx} {K : Kx} {own : String} {cc : ByteArray} {rm : Room} {nL : Nat} {ret : Option FieldType} {k n pc : Nat} {w : va_W} {lv : List (Nat × Value)} {st : List Value} (C : KOk G K own cc rm nL ret) {a : Nat} {cA : ClassId} {x : vp_A} {ty : FieldType} {v : Int32} {q0 : Nat} (t0 : Nat) (ha : w[q0]? = some (a, .inl (cA, x))) (ht : (tysG G)[t0]? = some (cA, ty)) (hv : Int32.ofNat x.1 = v) (hdg : decode cc pc = .ok (.arraylength, 1)) (kk : Y G K k n w (pc + 1) lv (.int v :: st)) : Y G K k n w pc lv (.ref a :: st) := by
  obtain ⟨R, nL0, p, e, s, m, args, below, meth, c, Q, I⟩ := K
  obtain ⟨rfl, rfl, hx, hb, hr, hlk, hml, hown, hts, hKW⟩ := C
  intro H locs ls hP hI hl
  exact va_alen hx hb hKW.1 hP q0 t0 ha ht hv hdg (kk H locs ls hP hI hl)
theorem y_get {G : Gx} {K : Kx} {own : String} {cc : ByteArray} {rm : Room} {nL : Nat} {ret : Option FieldType} {k n pc : Nat} {w : va_W} {lv : List (Nat × Value)} {st : List Value} (C : KOk G K own cc rm nL ret) {ref Cn : String} {T : u_T} {N ci index a q0 : Nat} (hin : ∀ w ∈ u_ws Cn T N, w ∈ lw_all) {fs : List Value} (he : w[q0]? = some (a, .inr (ci, fs))) (hc : vwCl[ci]? = some (Cn, T, N)) (kf : Nat) (hk : kf < N) (hq : Cond.fieldLink own index ref (T kf).2.1 (T kf).2.2.1 ∈ lw_all) (hsame : ∀ (s : State) x, s.fieldFound? (T kf).1 (T kf).2.1 (T kf).2.2.1 = some x → s.fieldFound? ref (T kf).2.1 (T kf).2.2.1 = some x) {v : Value} (hv : fs[kf]? = some v) (hdg : decode cc pc = .ok (.getfield index, 3)) (kk : Y G K k n w (pc + 3) lv (v :: st)) : Y G K k n w pc lv (.ref a :: st) := by
  obtain ⟨R, nL0, p, e, s, m, args, below, meth, c, Q, I⟩ := K
  obtain ⟨rfl, rfl, hx, hb, hr, hlk, hml, hown, hts, hKW⟩ := C
  intro H locs ls hP hI hl
  exact va_get hx hb hts hin hown hKW.1 hP q0 he hc kf hk (hts _ hq) (hsame s) hv hdg (kk H locs ls hP hI hl)
theorem y_getN {G : Gx} {K : Kx} {own : String} {cc : ByteArray} {rm : Room} {nL : Nat} {ret : Option FieldType} {k n pc : Nat} {w : va_W} {lv : List (Nat × Value)} {st : List Value} (C : KOk G K own cc rm nL ret) {ref Cn : String} {T : u_T} {N ci index a q0 : Nat} (hin : ∀ w ∈ u_ws Cn T N, w ∈ lw_all) {fs : List Value} (he : w[q0]? = some (a, .inr (ci, fs))) (hc : vwCl[ci]? = some (Cn, T, N)) (kf : Nat) (hk : kf < N) {host : String} (hq : Cond.fieldLinkNest own index ref (T kf).2.1 (T kf).2.2.1 host ∈ lw_tbl) (hsame : ∀ (s : State) x, s.fieldFound? (T kf).1 (T kf).2.1 (T kf).2.2.1 = some x → s.fieldFound? ref (T kf).2.1 (T kf).2.2.1 = some x) {v : Value} (hv : fs[kf]? = some v) (hdg : decode cc pc = .ok (.getfield index, 3)) (kk : Y G K k n w (pc + 3) lv (v :: st)) : Y G K k n w pc lv (.ref a :: st) := by
  obtain ⟨R, nL0, p, e, s, m, args, below, meth, c, Q, I⟩ := K
  obtain ⟨rfl, rfl, hx, hb, hr, hlk, hml, hown, hts, hKW⟩ := C
  intro H locs ls hP hI hl
  exact va_getN hx hb hts hin hown hKW.1 hP q0 he hc kf hk (va_Nw.use rfl (hKW.2.1 _ hq rfl)) (hsame s) hv hdg (kk H locs ls hP hI hl)
theorem t_set1 {cell : Cell} {N : Nat} {iS : Nat → Nat} {V : Nat → Value} (h : ∀ k, k < N → cell.slots[iS k]? = some (V k)) {k : Nat} (hk : k < N) (hap : ∀ b, b < N → b ≠ k → iS k ≠ iS b) (v : Value) :
    ∀ j, j < N → (cell.setSlot (iS k) v).slots[iS j]? = some (updV V k v j) := by
  intro j hj
  by_cases hjk : j = k
  · subst hjk
    rw [Cell.slots_setSlot_self _ (k2_hasslot (h j hj))]
    simp [updV]
  · rw [slot_ne _ _ (hap j hj hjk), h j hj]
    simp [updV, hjk]
theorem zz_put {p : Program} {l : Launch} {e : Env} {R : Room} {s : State} {m : MethodId} {args : Array Value} {below : List Frame} {meth : Method} {c : Code} {H : Heap} {locs : List Loc} {cells slots : Nat} {Q : State → Prop} {cc : ByteArray} {pc : Nat} {ls : Array Slot} {rest : List Value} {D : va_G} {cl : List vw_C} {A : Nat → Prop} {a : Nat} {tys : List (ClassId × FieldType)} {ws : va_W} {H0 : Heap} (hexec : p.tables.exec = Jvm.exec) (hb : c.code = cc) {own ref Cn : String} {T : u_T} {N ci index : Nat} {Ts : List Cond} (hts : ∀ w ∈ Ts, w.before args s = true) (hin : ∀ w ∈ u_ws Cn T N, w ∈ Ts) (ty0 : Nat → FieldType) (hty : ∀ k, k < N → parseFieldDescriptor (T k).2.2.1 = some (ty0 k)) (hown : s.vm.findClass own = some m.cls) (hK : va_K D cl tys s) (hP : va_P D cl ws H) (hD : va_D A ws) (hS0 : va_S A H0 H locs) (q0 : Nat) {fs : List Value} (he : ws[q0]? = some (a, .inr (ci, fs))) (hc : cl[ci]? = some (Cn, T, N)) (k : Nat) (hk : k < N) (hnm : ∀ b, b < N → b ≠ k → (T k).2.1 ≠ (T b).2.1) (hlink : (Cond.fieldLink own index ref (T k).2.1 (T k).2.2.1).before args s = true) (hsame : ∀ x, s.fieldFound? (T k).1 (T k).2.1 (T k).2.2.1 = some x → s.fieldFound? ref (T k).2.1 (T k).2.2.1 = some x) (hfin : (T k).2.2.2 = false) {ty : FieldType} {v : Value} (hd : parseFieldDescriptor (T k).2.2.1 = some ty) (hn : narrow ty v = v) (hfit : fits ty v = true) (hl : k < fs.length) (hdg : decode cc pc = .ok (.putfield index, 3)) (kk : ∀ (H1 : Heap) (locs1 : List Loc), va_P D cl (ws.set q0 (a, .inr (ci, fs.set k v))) H1 → va_D A (ws.set q0 (a, .inr (ci, fs.set k v))) → va_S A H0 H1 locs1 → W p l e R s m args below meth c H1 locs1 cells slots Q (F0 m (pc + 3) ls rest)) : W p l e R s m args below meth c H locs cells slots Q (F0 m pc ls (v :: .ref a :: rest)) := by
  have hap : ∀ b, b < N → b ≠ k → (D.2 ci) k ≠ (D.2 ci) b := by
    intro x hx hne
    obtain ⟨hS, -⟩ := hK.1 ci _ hc
    obtain ⟨_, _, _, fa, hia, ea⟩ := hS k hk
    obtain ⟨_, _, _, fb, hib, eb⟩ := hS x hx
    rw [← ea, ← eb]
    refine u_apart (u_lays hts hin hk) (u_lays hts hin hx) hia hib ?_
    rw [(State.fieldFound?_type hia (hty k hk)).1, (State.fieldFound?_type hib (hty x hx)).1]
    exact hnm x hx hne
  obtain ⟨r, h1, cell, q1, q2, q3, q4⟩ := hP q0 _ he
  have hr : r = (Cn, T, N) := Option.some.inj (h1.symm.trans hc)
  subst hr
  obtain ⟨hS, hfc, kC, hkC, hkind⟩ := hK.1 ci _ hc
  obtain ⟨cf, kf, fi, f, hi, hsl⟩ := hS k hk
  have hlay := hts _ (hin _ (u_in_lay hk))
  unfold u_lay at hlay
  rw [if_neg (by rw [hfin]; decide)] at hlay
  have hst := (u_facts hfc hkC (u_lays hts hin hk) hi).1
  have h6 := u_store hfc hkC hkind hlay hi hd hn hfit
  refine W.putK hexec hb (f := f) ⟨hown, hlink, ⟨_, _, _, hsame _ hi⟩, hst⟩ (by rw [q2]; exact h6) q1 q3 (by rw [hsl]; exact k2_hasslot (q4 k hk)) rfl rfl hdg fun H' e1 e2 e3 => ?_
  rw [hsl] at e1 ⊢
  exact kk H' _ (hP.set hD he ⟨_, hc, t_OB.to (V := updV (vp_V fs) k v) ⟨_, e1, q2, q3, t_set1 q4 hk hap v⟩ (fun j _ => vp_updV_set hl v j)⟩ e3) (hD.set he) (hS0.put e2 e3 (hD.2 q0 _ he))
theorem zz_putN {p : Program} {l : Launch} {e : Env} {R : Room} {s : State} {m : MethodId} {args : Array Value} {below : List Frame} {meth : Method} {c : Code} {H : Heap} {locs : List Loc} {cells slots : Nat} {Q : State → Prop} {cc : ByteArray} {pc : Nat} {ls : Array Slot} {rest : List Value} {D : va_G} {cl : List vw_C} {A : Nat → Prop} {a : Nat} {tys : List (ClassId × FieldType)} {ws : va_W} {H0 : Heap} (hexec : p.tables.exec = Jvm.exec) (hb : c.code = cc) {own ref Cn : String} {host : String} {T : u_T} {N ci index : Nat} {Ts : List Cond} (hts : ∀ w ∈ Ts, w.before args s = true) (hin : ∀ w ∈ u_ws Cn T N, w ∈ Ts) (ty0 : Nat → FieldType) (hty : ∀ k, k < N → parseFieldDescriptor (T k).2.2.1 = some (ty0 k)) (hown : s.vm.findClass own = some m.cls) (hK : va_K D cl tys s) (hP : va_P D cl ws H) (hD : va_D A ws) (hS0 : va_S A H0 H locs) (q0 : Nat) {fs : List Value} (he : ws[q0]? = some (a, .inr (ci, fs))) (hc : cl[ci]? = some (Cn, T, N)) (k : Nat) (hk : k < N) (hnm : ∀ b, b < N → b ≠ k → (T k).2.1 ≠ (T b).2.1) (hlink : (Cond.fieldLinkNest own index ref (T k).2.1 (T k).2.2.1 host).before args s = true) (hsame : ∀ x, s.fieldFound? (T k).1 (T k).2.1 (T k).2.2.1 = some x → s.fieldFound? ref (T k).2.1 (T k).2.2.1 = some x) (hfin : (T k).2.2.2 = false) {ty : FieldType} {v : Value} (hd : parseFieldDescriptor (T k).2.2.1 = some ty) (hn : narrow ty v = v) (hfit : fits ty v = true) (hl : k < fs.length) (hdg : decode cc pc = .ok (.putfield index, 3)) (kk : ∀ (H1 : Heap) (locs1 : List Loc), va_P D cl (ws.set q0 (a, .inr (ci, fs.set k v))) H1 → va_D A (ws.set q0 (a, .inr (ci, fs.set k v))) → va_S A H0 H1 locs1 → W p l e R s m args below meth c H1 locs1 cells slots Q (F0 m (pc + 3) ls rest)) : W p l e R s m args below meth c H locs cells slots Q (F0 m pc ls (v :: .ref a :: rest)) := by
  have hap : ∀ b, b < N → b ≠ k → (D.2 ci) k ≠ (D.2 ci) b := by
    intro x hx hne
    obtain ⟨hS, -⟩ := hK.1 ci _ hc
    obtain ⟨_, _, _, fa, hia, ea⟩ := hS k hk
    obtain ⟨_, _, _, fb, hib, eb⟩ := hS x hx
    rw [← ea, ← eb]
    refine u_apart (u_lays hts hin hk) (u_lays hts hin hx) hia hib ?_
    rw [(State.fieldFound?_type hia (hty k hk)).1, (State.fieldFound?_type hib (hty x hx)).1]
    exact hnm x hx hne
  obtain ⟨r, h1, cell, q1, q2, q3, q4⟩ := hP q0 _ he
  have hr : r = (Cn, T, N) := Option.some.inj (h1.symm.trans hc)
  subst hr
  obtain ⟨hS, hfc, kC, hkC, hkind⟩ := hK.1 ci _ hc
  obtain ⟨cf, kf, fi, f, hi, hsl⟩ := hS k hk
  have hlay := hts _ (hin _ (u_in_lay hk))
  unfold u_lay at hlay
  rw [if_neg (by rw [hfin]; decide)] at hlay
  have hst := (u_facts hfc hkC (u_lays hts hin hk) hi).1
  have h6 := u_store hfc hkC hkind hlay hi hd hn hfit
  refine va_WputK hexec hb (f := f) hown hlink (hsame _ hi) hst (by rw [q2]; exact h6) q1 q3 (by rw [hsl]; exact k2_hasslot (q4 k hk)) rfl rfl hdg fun H' e1 e2 e3 => ?_
  rw [hsl] at e1 ⊢
  exact kk H' _ (hP.set hD he ⟨_, hc, t_OB.to (V := updV (vp_V fs) k v) ⟨_, e1, q2, q3, t_set1 q4 hk hap v⟩ (fun j _ => vp_updV_set hl v j)⟩ e3) (hD.set he) (hS0.put e2 e3 (hD.2 q0 _ he))
theorem y_put {G : Gx} {K : Kx} {own : String} {cc : ByteArray} {rm : Room} {nL : Nat} {ret : Option FieldType} {k n pc : Nat} {w : va_W} {lv : List (Nat × Value)} {st : List Value} (C : KOk G K own cc rm nL ret) {A : Nat → Prop} (M : KM G K A) {ref Cn : String} {T : u_T} {N ci index a q0 : Nat} (hin : ∀ w ∈ u_ws Cn T N, w ∈ lw_all) {fs : List Value} (he : w[q0]? = some (a, .inr (ci, fs))) (hc : vwCl[ci]? = some (Cn, T, N)) (kf : Nat) (hk : kf < N) (ty0 : Nat → FieldType) (hty : ∀ k, k < N → parseFieldDescriptor (T k).2.2.1 = some (ty0 k))  (hnm : ∀ b, b < N → b ≠ kf → (T kf).2.1 ≠ (T b).2.1) (hq : Cond.fieldLink own index ref (T kf).2.1 (T kf).2.2.1 ∈ lw_all) (hsame : ∀ (s : State) x, s.fieldFound? (T kf).1 (T kf).2.1 (T kf).2.2.1 = some x → s.fieldFound? ref (T kf).2.1 (T kf).2.2.1 = some x) (hfin : (T kf).2.2.2 = false) {ty : FieldType} {v : Value} (hd : parseFieldDescriptor (T kf).2.2.1 = some ty) (hn : narrow ty v = v) (hfit : fits ty v = true) (hl0 : kf < fs.length) {w' : va_W} (hw' : w.set q0 (a, .inr (ci, fs.set kf v)) = w') (hdg : decode cc pc = .ok (.putfield index, 3)) (kk : Y G K k n w' (pc + 3) lv st) : Y G K k n w pc lv (v :: .ref a :: st) := by
  obtain ⟨R, nL0, p, e, s, m, args, below, meth, c, Q, I⟩ := K
  obtain ⟨rfl, rfl, hx, hb, hr, hlk, hml, hown, hts, hKW⟩ := C
  obtain ⟨rfl, hA, hSF⟩ := M
  subst hw'
  intro H locs ls hP hI hl
  exact zz_put hx hb hts hin ty0 hty hown hKW.1 hP hI.1 hI.2 q0 he hc kf hk hnm (hts _ hq) (hsame s) hfin hd hn hfit hl0 hdg (fun H1 locs1 hP hD hS => kk H1 locs1 ls hP ⟨hD, hS⟩ hl)
theorem y_putN {G : Gx} {K : Kx} {own : String} {cc : ByteArray} {rm : Room} {nL : Nat} {ret : Option FieldType} {k n pc : Nat} {w : va_W} {lv : List (Nat × Value)} {st : List Value} (C : KOk G K own cc rm nL ret) {A : Nat → Prop} (M : KM G K A) {ref Cn : String} {T : u_T} {N ci index a q0 : Nat} (hin : ∀ w ∈ u_ws Cn T N, w ∈ lw_all) {fs : List Value} (he : w[q0]? = some (a, .inr (ci, fs))) (hc : vwCl[ci]? = some (Cn, T, N)) (kf : Nat) (hk : kf < N) (ty0 : Nat → FieldType) (hty : ∀ k, k < N → parseFieldDescriptor (T k).2.2.1 = some (ty0 k))  (hnm : ∀ b, b < N → b ≠ kf → (T kf).2.1 ≠ (T b).2.1) {host : String} (hq : Cond.fieldLinkNest own index ref (T kf).2.1 (T kf).2.2.1 host ∈ lw_tbl) (hsame : ∀ (s : State) x, s.fieldFound? (T kf).1 (T kf).2.1 (T kf).2.2.1 = some x → s.fieldFound? ref (T kf).2.1 (T kf).2.2.1 = some x) (hfin : (T kf).2.2.2 = false) {ty : FieldType} {v : Value} (hd : parseFieldDescriptor (T kf).2.2.1 = some ty) (hn : narrow ty v = v) (hfit : fits ty v = true) (hl0 : kf < fs.length) {w' : va_W} (hw' : w.set q0 (a, .inr (ci, fs.set kf v)) = w') (hdg : decode cc pc = .ok (.putfield index, 3)) (kk : Y G K k n w' (pc + 3) lv st) : Y G K k n w pc lv (v :: .ref a :: st) := by
  obtain ⟨R, nL0, p, e, s, m, args, below, meth, c, Q, I⟩ := K
  obtain ⟨rfl, rfl, hx, hb, hr, hlk, hml, hown, hts, hKW⟩ := C
  obtain ⟨rfl, hA, hSF⟩ := M
  subst hw'
  intro H locs ls hP hI hl
  exact zz_putN hx hb hts hin ty0 hty hown hKW.1 hP hI.1 hI.2 q0 he hc kf hk hnm (va_Nw.use rfl (hKW.2.1 _ hq rfl)) (hsame s) hfin hd hn hfit hl0 hdg (fun H1 locs1 hP hD hS => kk H1 locs1 ls hP ⟨hD, hS⟩ hl)
theorem y_iast {G : Gx} {K : Kx} {own : String} {cc : ByteArray} {rm : Room} {nL : Nat} {ret : Option FieldType} {k n pc : Nat} {w : va_W} {lv : List (Nat × Value)} {st : List Value} (C : KOk G K own cc rm nL ret) {A : Nat → Prop} (M : KM G K A) {a nA : Nat} {f : Nat → Int32} {i x : Int32} {q0 : Nat} (ha : w[q0]? = some (a, .inl (G.2.2.1 0, nA, .inl f))) {j : Nat} (hj : i.toNatClampNeg = j) {w' : va_W} (hw' : w.set q0 (a, .inl (G.2.2.1 0, nA, .inl (upd f j (x)))) = w') (hin : vp_in i nA) (hdg : decode cc pc = .ok (.iastore, 1)) (kk : Y G K k n w' (pc + 1) lv st) : Y G K k n w pc lv (.int x :: .int i :: .ref a :: st) := by
  subst hj
  obtain ⟨R, nL0, p, e, s, m, args, below, meth, c, Q, I⟩ := K
  obtain ⟨rfl, rfl, hx, hb, hr, hlk, hml, hown, hts, hKW⟩ := C
  obtain ⟨rfl, hA, hSF⟩ := M
  subst hw'
  intro H locs ls hP hI hl
  exact va_iast hx hb hKW.1 hP hI.1 hI.2 q0 0 ha rfl hin hdg (fun H1 locs1 hP hD hS => kk H1 locs1 ls hP ⟨hD, hS⟩ hl)
theorem y_bast {G : Gx} {K : Kx} {own : String} {cc : ByteArray} {rm : Room} {nL : Nat} {ret : Option FieldType} {k n pc : Nat} {w : va_W} {lv : List (Nat × Value)} {st : List Value} (C : KOk G K own cc rm nL ret) {A : Nat → Prop} (M : KM G K A) {a nA : Nat} {f : Nat → Int32} {i x : Int32} {q0 : Nat} (ha : w[q0]? = some (a, .inl (G.2.2.1 1, nA, .inl f))) {j : Nat} (hj : i.toNatClampNeg = j) {w' : va_W} (hw' : w.set q0 (a, .inl (G.2.2.1 1, nA, .inl (upd f j (vp_nar .byte x)))) = w') (hin : vp_in i nA) (hdg : decode cc pc = .ok (.bastore, 1)) (kk : Y G K k n w' (pc + 1) lv st) : Y G K k n w pc lv (.int x :: .int i :: .ref a :: st) := by
  subst hj
  obtain ⟨R, nL0, p, e, s, m, args, below, meth, c, Q, I⟩ := K
  obtain ⟨rfl, rfl, hx, hb, hr, hlk, hml, hown, hts, hKW⟩ := C
  obtain ⟨rfl, hA, hSF⟩ := M
  subst hw'
  intro H locs ls hP hI hl
  exact va_bast hx hb hKW.1 hP hI.1 hI.2 q0 1 ha rfl hin hdg (fun H1 locs1 hP hD hS => kk H1 locs1 ls hP ⟨hD, hS⟩ hl)
theorem y_zast {G : Gx} {K : Kx} {own : String} {cc : ByteArray} {rm : Room} {nL : Nat} {ret : Option FieldType} {k n pc : Nat} {w : va_W} {lv : List (Nat × Value)} {st : List Value} (C : KOk G K own cc rm nL ret) {A : Nat → Prop} (M : KM G K A) {a nA : Nat} {f : Nat → Int32} {i x : Int32} {q0 : Nat} (ha : w[q0]? = some (a, .inl (G.2.2.1 2, nA, .inl f))) {j : Nat} (hj : i.toNatClampNeg = j) {w' : va_W} (hw' : w.set q0 (a, .inl (G.2.2.1 2, nA, .inl (upd f j (vp_nar .boolean x)))) = w') (hin : vp_in i nA) (hdg : decode cc pc = .ok (.bastore, 1)) (kk : Y G K k n w' (pc + 1) lv st) : Y G K k n w pc lv (.int x :: .int i :: .ref a :: st) := by
  subst hj
  obtain ⟨R, nL0, p, e, s, m, args, below, meth, c, Q, I⟩ := K
  obtain ⟨rfl, rfl, hx, hb, hr, hlk, hml, hown, hts, hKW⟩ := C
  obtain ⟨rfl, hA, hSF⟩ := M
  subst hw'
  intro H locs ls hP hI hl
  exact va_zast hx hb hKW.1 hP hI.1 hI.2 q0 2 ha rfl hin hdg (fun H1 locs1 hP hD hS => kk H1 locs1 ls hP ⟨hD, hS⟩ hl)
theorem y_last {G : Gx} {K : Kx} {own : String} {cc : ByteArray} {rm : Room} {nL : Nat} {ret : Option FieldType} {k n pc : Nat} {w : va_W} {lv : List (Nat × Value)} {st : List Value} (C : KOk G K own cc rm nL ret) {A : Nat → Prop} (M : KM G K A) {a nA : Nat} {f : Nat → Int64} {i : Int32} {x : Int64} {q0 : Nat} (ha : w[q0]? = some (a, .inl (G.2.2.1 3, nA, .inr (.inl f)))) {j : Nat} (hj : i.toNatClampNeg = j) {w' : va_W} (hw' : w.set q0 (a, .inl (G.2.2.1 3, nA, .inr (.inl (vp_updL f j x)))) = w') (hin : vp_in i nA) (hdg : decode cc pc = .ok (.lastore, 1)) (kk : Y G K k n w' (pc + 1) lv st) : Y G K k n w pc lv (.long x :: .int i :: .ref a :: st) := by
  subst hj
  obtain ⟨R, nL0, p, e, s, m, args, below, meth, c, Q, I⟩ := K
  obtain ⟨rfl, rfl, hx, hb, hr, hlk, hml, hown, hts, hKW⟩ := C
  obtain ⟨rfl, hA, hSF⟩ := M
  subst hw'
  intro H locs ls hP hI hl
  exact va_last hx hb hKW.1 hP hI.1 hI.2 q0 3 ha rfl hin hdg (fun H1 locs1 hP hD hS => kk H1 locs1 ls hP ⟨hD, hS⟩ hl)
theorem y_iretR {G : Gx} {K : Kx} {own : String} {cc : ByteArray} {rm : Room} {nL : Nat} {ret : Option FieldType} {pc : Nat} {w : va_W} {lv : List (Nat × Value)} (C : KOk G K own cc rm nL ret) {Qp : Int32 → Prop} (M : KRi K Qp) (hret : ret = some .int) {v : Int32} (hq : Qp v) (hdg : decode cc pc = .ok (.ireturn, 1)) : Y G K 0 0 w pc lv [.int v] := by
  obtain ⟨R, nL0, p, e, s, m, args, below, meth, c, Q, I⟩ := K
  obtain ⟨rfl, rfl, hx, hb, hr, hlk, hml, hown, hts, hKW⟩ := C
  obtain ⟨rfl, rfl⟩ := M
  intro H locs ls hP hI hl
  obtain ⟨rfl, rfl⟩ := hI
  exact W.iret hx hb (hr.trans hret) (fun t ht hW => ⟨v, rfl, hq, ht⟩) (fun q h => by cases h) hdg hlk
theorem y_lretR {G : Gx} {K : Kx} {own : String} {cc : ByteArray} {rm : Room} {nL : Nat} {ret : Option FieldType} {pc : Nat} {w : va_W} {lv : List (Nat × Value)} (C : KOk G K own cc rm nL ret) {Qp : Int64 → Prop} (M : KRl K Qp) (hret : ret = some .long) {v : Int64} (hq : Qp v) (hdg : decode cc pc = .ok (.lreturn, 1)) : Y G K 0 0 w pc lv [.long v] := by
  obtain ⟨R, nL0, p, e, s, m, args, below, meth, c, Q, I⟩ := K
  obtain ⟨rfl, rfl, hx, hb, hr, hlk, hml, hown, hts, hKW⟩ := C
  obtain ⟨rfl, rfl⟩ := M
  intro H locs ls hP hI hl
  obtain ⟨rfl, rfl⟩ := hI
  exact W.lret hx hb (hr.trans hret) (fun t ht hW => ⟨v, rfl, hq, ht⟩) (fun q h => by cases h) hdg hlk
theorem y_zretR {G : Gx} {K : Kx} {own : String} {cc : ByteArray} {rm : Room} {nL : Nat} {ret : Option FieldType} {pc : Nat} {w : va_W} {lv : List (Nat × Value)} (C : KOk G K own cc rm nL ret) {Qp : Int32 → Prop} (M : KRi K Qp) {ty : FieldType} (hret : ret = some ty) {v : Int32} (hn : narrow ty (.int v) = .int v) (hq : Qp v) (hdg : decode cc pc = .ok (.ireturn, 1)) : Y G K 0 0 w pc lv [.int v] := by
  obtain ⟨R, nL0, p, e, s, m, args, below, meth, c, Q, I⟩ := K
  obtain ⟨rfl, rfl, hx, hb, hr, hlk, hml, hown, hts, hKW⟩ := C
  obtain ⟨rfl, rfl⟩ := M
  intro H locs ls hP hI hl
  obtain ⟨rfl, rfl⟩ := hI
  exact W.zret hx hb (hr.trans hret) hn (fun t ht hW => ⟨v, rfl, hq, ht⟩) (fun q h => by cases h) hdg hlk
theorem y_iretM {k n mc ms : Nat} {G : Gx} {K : Kx} {own : String} {cc : ByteArray} {rm : Room} {nL : Nat} {ret : Option FieldType} {pc : Nat} {w : va_W} {lv : List (Nat × Value)} (C : KOk G K own cc rm nL ret) {A : Nat → Prop} (M : KM G K A) {S9 : Type} {wf : S9 → va_W} {Qp : Int32 → S9 → Prop} (N : KQiA G K A wf Qp mc ms) (hret : ret = some .int) {v : Int32} {S : S9} (hw : w = wf S) (hq : Qp v S) (hdg : decode cc pc = .ok (.ireturn, 1)) (hkn : k ≤ mc ∧ n ≤ ms := by exact ⟨Nat.le_refl _, Nat.le_refl _⟩) : Y G K k n w pc lv [.int v] := by
  obtain ⟨R, nL0, p, e, s, m, args, below, meth, c, Q, I⟩ := K
  obtain ⟨rfl, rfl, hx, hb, hr, hlk, hml, hown, hts, hKW⟩ := C
  obtain ⟨rfl, hA, hSF⟩ := M
  subst N
  subst hw
  intro H locs ls hP hI hl
  exact W.widen hkn.1 hkn.2 <| W.iret hx hb (hr.trans hret) (fun t ht hW => ⟨⟨v, S, rfl, hq, ⟨by rw [ht]; exact hP, hKW.warm hW, hI.1⟩⟩, hI.2.F ht⟩) hI.2.2.2 hdg hlk
theorem y_lretM {k n mc ms : Nat} {G : Gx} {K : Kx} {own : String} {cc : ByteArray} {rm : Room} {nL : Nat} {ret : Option FieldType} {pc : Nat} {w : va_W} {lv : List (Nat × Value)} (C : KOk G K own cc rm nL ret) {A : Nat → Prop} (M : KM G K A) {S9 : Type} {wf : S9 → va_W} {Qp : Int64 → S9 → Prop} (N : KQlA G K A wf Qp mc ms) (hret : ret = some .long) {v : Int64} {S : S9} (hw : w = wf S) (hq : Qp v S) (hdg : decode cc pc = .ok (.lreturn, 1)) (hkn : k ≤ mc ∧ n ≤ ms := by exact ⟨Nat.le_refl _, Nat.le_refl _⟩) : Y G K k n w pc lv [.long v] := by
  obtain ⟨R, nL0, p, e, s, m, args, below, meth, c, Q, I⟩ := K
  obtain ⟨rfl, rfl, hx, hb, hr, hlk, hml, hown, hts, hKW⟩ := C
  obtain ⟨rfl, hA, hSF⟩ := M
  subst N
  subst hw
  intro H locs ls hP hI hl
  exact W.widen hkn.1 hkn.2 <| W.lret hx hb (hr.trans hret) (fun t ht hW => ⟨⟨v, S, rfl, hq, ⟨by rw [ht]; exact hP, hKW.warm hW, hI.1⟩⟩, hI.2.F ht⟩) hI.2.2.2 hdg hlk
theorem y_zretM {k n mc ms : Nat} {G : Gx} {K : Kx} {own : String} {cc : ByteArray} {rm : Room} {nL : Nat} {ret : Option FieldType} {pc : Nat} {w : va_W} {lv : List (Nat × Value)} (C : KOk G K own cc rm nL ret) {A : Nat → Prop} (M : KM G K A) {S9 : Type} {wf : S9 → va_W} {Qp : Int32 → S9 → Prop} (N : KQiA G K A wf Qp mc ms) {ty : FieldType} (hret : ret = some ty) {v : Int32} (hn : narrow ty (.int v) = .int v) {S : S9} (hw : w = wf S) (hq : Qp v S) (hdg : decode cc pc = .ok (.ireturn, 1)) (hkn : k ≤ mc ∧ n ≤ ms := by exact ⟨Nat.le_refl _, Nat.le_refl _⟩) : Y G K k n w pc lv [.int v] := by
  obtain ⟨R, nL0, p, e, s, m, args, below, meth, c, Q, I⟩ := K
  obtain ⟨rfl, rfl, hx, hb, hr, hlk, hml, hown, hts, hKW⟩ := C
  obtain ⟨rfl, hA, hSF⟩ := M
  subst N
  subst hw
  intro H locs ls hP hI hl
  exact W.widen hkn.1 hkn.2 <| W.zret hx hb (hr.trans hret) hn (fun t ht hW => ⟨⟨v, S, rfl, hq, ⟨by rw [ht]; exact hP, hKW.warm hW, hI.1⟩⟩, hI.2.F ht⟩) hI.2.2.2 hdg hlk
theorem y_vretM {k n mc ms : Nat} {G : Gx} {K : Kx} {own : String} {cc : ByteArray} {rm : Room} {nL : Nat} {ret : Option FieldType} {pc : Nat} {w : va_W} {lv : List (Nat × Value)} (C : KOk G K own cc rm nL ret) {A : Nat → Prop} (M : KM G K A) {S9 : Type} {wf : S9 → va_W} {Qp : S9 → Prop} (N : KQvA G K A wf Qp mc ms) (hret : ret = none) {S : S9} (hw : w = wf S) (hq : Qp S) (hdg : decode cc pc = .ok (.return_, 1)) (hkn : k ≤ mc ∧ n ≤ ms := by exact ⟨Nat.le_refl _, Nat.le_refl _⟩) : Y G K k n w pc lv [] := by
  obtain ⟨R, nL0, p, e, s, m, args, below, meth, c, Q, I⟩ := K
  obtain ⟨rfl, rfl, hx, hb, hr, hlk, hml, hown, hts, hKW⟩ := C
  obtain ⟨rfl, hA, hSF⟩ := M
  subst N
  subst hw
  intro H locs ls hP hI hl
  exact W.widen hkn.1 hkn.2 <| W.vret hx hb (hr.trans hret) (fun t ht hW => ⟨⟨S, rfl, hq, ⟨by rw [ht]; exact hP, hKW.warm hW, hI.1⟩⟩, hI.2.F ht⟩) hI.2.2.2 hdg hlk
theorem ent_Ri {G : Gx} {y : MethodName} {own : String} {cc : ByteArray} {nL : Nat} {ret : Option FieldType} {rm : Room} {w : va_W} {av : List Value} {Qp : Int32 → Prop} (hy : plainFor y = true) (hown : y.cls = own) (hlen : (lg_sl av).length ≤ nL) (lv : List (Nat × Value)) (hlv : lv_args 0 av = lv) (body : ∀ K : Kx, KOk G K own cc rm nL ret → KRi K Qp → Y G K 0 0 w 0 lv []) : Ri G y (ws_ y cc nL ret) rm w av Qp := by
  refine va_MetF (cc := cc) (maxL := nL) (ret := ret) hy rfl ?_
  intro p e s m args below meth c s₁ B hml hv
  obtain ⟨rfl, hP, hKW⟩ := hv
  subst hlv
  subst hown
  have hts := atoms_spec (ws := ws_ y cc nL ret) B.pre
  have hts : ∀ w ∈ lw_all, w.before _ s = true := fun w h => hts w (List.mem_cons_of_mem _ h)
  have hown : s.vm.findClass y.cls = some m.cls := findClass_of_methodNamed B.named
  rw [lg_entry_eq]
  exact body ((headSpec (ws_ y cc nL ret) rm).room, nL, p, e, s, m, av.toArray, below, meth, c, MQ below (vp_Si Qp) av.toArray s 0 0 (fun _ => False), fun _ H locs => H = s.heap ∧ locs = []) ⟨rfl, rfl, B.exec, B.bytes, B.returns, B.notSynchronized, hml, hown, hts, hKW⟩ ⟨rfl, rfl⟩ s.heap [] _ hP ⟨rfl, rfl⟩ (lv_entry av hlen)
theorem ent_Rl {G : Gx} {y : MethodName} {own : String} {cc : ByteArray} {nL : Nat} {ret : Option FieldType} {rm : Room} {w : va_W} {av : List Value} {Qp : Int64 → Prop} (hy : plainFor y = true) (hown : y.cls = own) (hlen : (lg_sl av).length ≤ nL) (lv : List (Nat × Value)) (hlv : lv_args 0 av = lv) (body : ∀ K : Kx, KOk G K own cc rm nL ret → KRl K Qp → Y G K 0 0 w 0 lv []) : Rl G y (ws_ y cc nL ret) rm w av Qp := by
  refine va_MetF (cc := cc) (maxL := nL) (ret := ret) hy rfl ?_
  intro p e s m args below meth c s₁ B hml hv
  obtain ⟨rfl, hP, hKW⟩ := hv
  subst hlv
  subst hown
  have hts := atoms_spec (ws := ws_ y cc nL ret) B.pre
  have hts : ∀ w ∈ lw_all, w.before _ s = true := fun w h => hts w (List.mem_cons_of_mem _ h)
  have hown : s.vm.findClass y.cls = some m.cls := findClass_of_methodNamed B.named
  rw [lg_entry_eq]
  exact body ((headSpec (ws_ y cc nL ret) rm).room, nL, p, e, s, m, av.toArray, below, meth, c, MQ below (vp_Sl Qp) av.toArray s 0 0 (fun _ => False), fun _ H locs => H = s.heap ∧ locs = []) ⟨rfl, rfl, B.exec, B.bytes, B.returns, B.notSynchronized, hml, hown, hts, hKW⟩ ⟨rfl, rfl⟩ s.heap [] _ hP ⟨rfl, rfl⟩ (lv_entry av hlen)
theorem ent_Mi {G : Gx} {y : MethodName} {own : String} {cc : ByteArray} {nL : Nat} {ret : Option FieldType} {rm : Room} {w : va_W} {av : List Value} {mc ms : Nat} {S9 : Type} {wf : S9 → va_W} {Qp : Int32 → S9 → Prop} (hy : plainFor y = true) (hown : y.cls = own) (hlen : (lg_sl av).length ≤ nL) (lv : List (Nat × Value)) (hlv : lv_args 0 av = lv) (body : ∀ (K : Kx) (A : Nat → Prop), KOk G K own cc rm nL ret → KM G K A → KQiA G K A wf Qp mc ms → Y G K 0 0 w 0 lv []) : MiA G y (ws_ y cc nL ret) rm w av wf Qp mc ms := by
  intro sz
  refine va_MetF (cc := cc) (maxL := nL) (ret := ret) hy rfl ?_
  intro p e s m args below meth c s₁ B hml hv
  obtain ⟨rfl, rfl, hP, hKW, hD0, hSF⟩ := hv
  subst hlv
  subst hown
  have hts := atoms_spec (ws := ws_ y cc nL ret) B.pre
  have hts : ∀ w ∈ lw_all, w.before _ s = true := fun w h => hts w (List.mem_cons_of_mem _ h)
  have hown : s.vm.findClass y.cls = some m.cls := findClass_of_methodNamed B.named
  rw [lg_entry_eq]
  exact body ((headSpec (ws_ y cc nL ret) rm).room, nL, p, e, s, m, av.toArray, below, meth, c, MQ below (va_Qi Qp (BM G (va_A w s.heap.size) wf) (va_A w s.heap.size)) av.toArray s mc ms (va_A w s.heap.size), fun w' H locs => va_D (va_A w s.heap.size) w' ∧ va_S (va_A w s.heap.size) s.heap H locs) (va_A w s.heap.size) ⟨rfl, rfl, B.exec, B.bytes, B.returns, B.notSynchronized, hml, hown, hts, hKW⟩ ⟨rfl, fun q h => Or.inr h, hSF⟩ rfl s.heap [] _ hP ⟨hD0.self, va_S.rf⟩ (lv_entry av hlen)
theorem ent_Ml {G : Gx} {y : MethodName} {own : String} {cc : ByteArray} {nL : Nat} {ret : Option FieldType} {rm : Room} {w : va_W} {av : List Value} {mc ms : Nat} {S9 : Type} {wf : S9 → va_W} {Qp : Int64 → S9 → Prop} (hy : plainFor y = true) (hown : y.cls = own) (hlen : (lg_sl av).length ≤ nL) (lv : List (Nat × Value)) (hlv : lv_args 0 av = lv) (body : ∀ (K : Kx) (A : Nat → Prop), KOk G K own cc rm nL ret → KM G K A → KQlA G K A wf Qp mc ms → Y G K 0 0 w 0 lv []) : MlA G y (ws_ y cc nL ret) rm w av wf Qp mc ms := by
  intro sz
  refine va_MetF (cc := cc) (maxL := nL) (ret := ret) hy rfl ?_
  intro p e s m args below meth c s₁ B hml hv
  obtain ⟨rfl, rfl, hP, hKW, hD0, hSF⟩ := hv
  subst hlv
  subst hown
  have hts := atoms_spec (ws := ws_ y cc nL ret) B.pre
  have hts : ∀ w ∈ lw_all, w.before _ s = true := fun w h => hts w (List.mem_cons_of_mem _ h)
  have hown : s.vm.findClass y.cls = some m.cls := findClass_of_methodNamed B.named
  rw [lg_entry_eq]
  exact body ((headSpec (ws_ y cc nL ret) rm).room, nL, p, e, s, m, av.toArray, below, meth, c, MQ below (va_Ql Qp (BM G (va_A w s.heap.size) wf) (va_A w s.heap.size)) av.toArray s mc ms (va_A w s.heap.size), fun w' H locs => va_D (va_A w s.heap.size) w' ∧ va_S (va_A w s.heap.size) s.heap H locs) (va_A w s.heap.size) ⟨rfl, rfl, B.exec, B.bytes, B.returns, B.notSynchronized, hml, hown, hts, hKW⟩ ⟨rfl, fun q h => Or.inr h, hSF⟩ rfl s.heap [] _ hP ⟨hD0.self, va_S.rf⟩ (lv_entry av hlen)
theorem ent_Mv {G : Gx} {y : MethodName} {own : String} {cc : ByteArray} {nL : Nat} {ret : Option FieldType} {rm : Room} {w : va_W} {av : List Value} {mc ms : Nat} {S9 : Type} {wf : S9 → va_W} {Qp : S9 → Prop} (hy : plainFor y = true) (hown : y.cls = own) (hlen : (lg_sl av).length ≤ nL) (lv : List (Nat × Value)) (hlv : lv_args 0 av = lv) (body : ∀ (K : Kx) (A : Nat → Prop), KOk G K own cc rm nL ret → KM G K A → KQvA G K A wf Qp mc ms → Y G K 0 0 w 0 lv []) : MvA G y (ws_ y cc nL ret) rm w av wf Qp mc ms := by
  intro sz
  refine va_MetF (cc := cc) (maxL := nL) (ret := ret) hy rfl ?_
  intro p e s m args below meth c s₁ B hml hv
  obtain ⟨rfl, rfl, hP, hKW, hD0, hSF⟩ := hv
  subst hlv
  subst hown
  have hts := atoms_spec (ws := ws_ y cc nL ret) B.pre
  have hts : ∀ w ∈ lw_all, w.before _ s = true := fun w h => hts w (List.mem_cons_of_mem _ h)
  have hown : s.vm.findClass y.cls = some m.cls := findClass_of_methodNamed B.named
  rw [lg_entry_eq]
  exact body ((headSpec (ws_ y cc nL ret) rm).room, nL, p, e, s, m, av.toArray, below, meth, c, MQ below (va_Qv Qp (BM G (va_A w s.heap.size) wf) (va_A w s.heap.size)) av.toArray s mc ms (va_A w s.heap.size), fun w' H locs => va_D (va_A w s.heap.size) w' ∧ va_S (va_A w s.heap.size) s.heap H locs) (va_A w s.heap.size) ⟨rfl, rfl, B.exec, B.bytes, B.returns, B.notSynchronized, hml, hown, hts, hKW⟩ ⟨rfl, fun q h => Or.inr h, hSF⟩ rfl s.heap [] _ hP ⟨hD0.self, va_S.rf⟩ (lv_entry av hlen)
/-- a call site's words: virtual (of the receiver's own class), static -/
def CsV (own : String) (index : Nat) (y : MethodName) (bytes : ByteArray) (maxL : Nat) (ret : Option FieldType) (n : Nat) : Prop := GoodIn lw_all (wsV own index y.cls y (ws_ y bytes maxL ret)) ∧ (y.cls ≠ "java/lang/invoke/MethodHandle" ∧ y.cls ≠ "java/lang/invoke/VarHandle" ∧ (parseMethodDescriptor y.desc).map (fun d => d.parameters.length) = some n)
def CsS (own : String) (index : Nat) (y : MethodName) (bytes : ByteArray) (maxL : Nat) (ret : Option FieldType) (n : Nat) : Prop := GoodIn lw_all (va_wsS own index y (ws_ y bytes maxL ret)) ∧ (y.cls ≠ "java/lang/invoke/MethodHandle" ∧ y.cls ≠ "java/lang/invoke/VarHandle" ∧ (parseMethodDescriptor y.desc).map (fun d => d.parameters.length) = some n)
theorem pcR_blind {G : Gx} {w : va_W} {av : List Value} : FrameBlind (PcR G w av) := fun a U g mk q => by obtain ⟨q0, qP, qK⟩ := q; exact ⟨q0, qP, qK.calling g mk a⟩
theorem pcM_blind {G : Gx} {w : va_W} {av : List Value} {sz : Nat} : FrameBlind (PcM G w av sz) := fun a U g mk q => by obtain ⟨q0, q1, qP, qK, qD, qF⟩ := q; exact ⟨q0, q1, qP, qK.calling g mk a, qD, SF.same (s := U) (U := U.calling g mk a) rfl qF⟩
theorem y_callRiV {G : Gx} {K : Kx} {own : String} {cc : ByteArray} {rm : Room} {nL : Nat} {ret : Option FieldType} {k n pc : Nat} {w : va_W} {lv : List (Nat × Value)} {st : List Value} (C : KOk G K own cc rm nL ret) {y : MethodName} {bytes : ByteArray} {maxL index nn : Nat} {ret' : Option FieldType} {rm' : Room} {w' : va_W} {b : Nat} {As rest : List Value} {Qp : Int32 → Prop} (cs : CsV own index y bytes maxL ret' nn) (hM : Ri G y (ws_ y bytes maxL ret') rm' w' (.ref b :: As) Qp) (hsub : ∀ H, PW G w H → PW G w' H) {q0 ci : Nat} {qc : vw_C} {fs : List Value} (he : w[q0]? = some (b, .inr (ci, fs))) (hc : vwCl[ci]? = some qc) (hC : qc.1 = y.cls) (hrm : rm'.cells = 0 ∧ rm'.slots = 0 ∧ rm'.frames + 1 ≤ rm.frames ∧ 8 + (maxL + 11) + rm'.locals ≤ rm.locals) (hn : As.length = nn) (hst : st = As.reverse ++ .ref b :: rest) (hcat : (rest.map fun v => v.category).sum ≤ 8) (hdg : decode cc pc = .ok (.invokevirtual index, 3)) (hkn : k ≤ rm.cells ∧ n ≤ rm.slots) (kk : ∀ r : Int32, Qp r → Y G K k n w (pc + 3) lv (.int r :: rest)) : Y G K k n w pc lv st := by
  obtain ⟨R, nL0, p, e, s, m, args, below, meth, c, Q, I⟩ := K
  obtain ⟨rfl, rfl, hx, hb, hr, hlk, hml, hown, hts, hKW⟩ := C
  subst hst
  intro H locs ls hP hI hl
  refine vp_callSi (W.runV (As := As) (rest := rest) (b := b) ⟨hx, hb, hml, hown, hts⟩ hM (cwV nn hts cs.1 rfl hrm.1 hrm.2.1 ⟨rfl, cs.2⟩ hrm.2.2) ⟨pcR_blind, by rw [← hC]; exact va_recv hKW.1 hP hc he, fun U hU hW => ⟨rfl, by rw [hU]; exact hsub _ hP, hKW.warm hW⟩⟩ rfl hn hl.1 rfl (lv_room hcat) hdg ⟨hkn.1, hkn.2⟩) (fun r hr2 => kk r hr2 H locs ls hP hI hl)
theorem y_callRiS {G : Gx} {K : Kx} {own : String} {cc : ByteArray} {rm : Room} {nL : Nat} {ret : Option FieldType} {k n pc : Nat} {w : va_W} {lv : List (Nat × Value)} {st : List Value} (C : KOk G K own cc rm nL ret) {y : MethodName} {bytes : ByteArray} {maxL index nn : Nat} {ret' : Option FieldType} {rm' : Room} {w' : va_W} {As rest : List Value} {Qp : Int32 → Prop} (cs : CsS own index y bytes maxL ret' nn) (hM : Ri G y (ws_ y bytes maxL ret') rm' w' As Qp) (hsub : ∀ H, PW G w H → PW G w' H) (hrm : rm'.cells = 0 ∧ rm'.slots = 0 ∧ rm'.frames + 1 ≤ rm.frames ∧ 8 + (maxL + 11) + rm'.locals ≤ rm.locals) (hn : As.length = nn) (hst : st = As.reverse ++ rest) (hcat : (rest.map fun v => v.category).sum ≤ 8) (hdg : decode cc pc = .ok (.invokestatic index, 3)) (hkn : k ≤ rm.cells ∧ n ≤ rm.slots) (kk : ∀ r : Int32, Qp r → Y G K k n w (pc + 3) lv (.int r :: rest)) : Y G K k n w pc lv st := by
  obtain ⟨R, nL0, p, e, s, m, args, below, meth, c, Q, I⟩ := K
  obtain ⟨rfl, rfl, hx, hb, hr, hlk, hml, hown, hts, hKW⟩ := C
  subst hst
  intro H locs ls hP hI hl
  refine vp_callSi (W.runS (As := As) (rest := rest) ⟨hx, hb, hml, hown, hts⟩ hM (va_cwS nn hts cs.1 rfl hrm.1 hrm.2.1 cs.2 hrm.2.2) ⟨pcR_blind, fun U hU hW => ⟨rfl, by rw [hU]; exact hsub _ hP, hKW.warm hW⟩⟩ rfl hn hl.1 rfl (lv_room hcat) hdg ⟨hkn.1, hkn.2⟩) (fun r hr2 => kk r hr2 H locs ls hP hI hl)
theorem y_callRlV {G : Gx} {K : Kx} {own : String} {cc : ByteArray} {rm : Room} {nL : Nat} {ret : Option FieldType} {k n pc : Nat} {w : va_W} {lv : List (Nat × Value)} {st : List Value} (C : KOk G K own cc rm nL ret) {y : MethodName} {bytes : ByteArray} {maxL index nn : Nat} {ret' : Option FieldType} {rm' : Room} {w' : va_W} {b : Nat} {As rest : List Value} {Qp : Int64 → Prop} (cs : CsV own index y bytes maxL ret' nn) (hM : Rl G y (ws_ y bytes maxL ret') rm' w' (.ref b :: As) Qp) (hsub : ∀ H, PW G w H → PW G w' H) {q0 ci : Nat} {qc : vw_C} {fs : List Value} (he : w[q0]? = some (b, .inr (ci, fs))) (hc : vwCl[ci]? = some qc) (hC : qc.1 = y.cls) (hrm : rm'.cells = 0 ∧ rm'.slots = 0 ∧ rm'.frames + 1 ≤ rm.frames ∧ 8 + (maxL + 11) + rm'.locals ≤ rm.locals) (hn : As.length = nn) (hst : st = As.reverse ++ .ref b :: rest) (hcat : (rest.map fun v => v.category).sum ≤ 8) (hdg : decode cc pc = .ok (.invokevirtual index, 3)) (hkn : k ≤ rm.cells ∧ n ≤ rm.slots) (kk : ∀ r : Int64, Qp r → Y G K k n w (pc + 3) lv (.long r :: rest)) : Y G K k n w pc lv st := by
  obtain ⟨R, nL0, p, e, s, m, args, below, meth, c, Q, I⟩ := K
  obtain ⟨rfl, rfl, hx, hb, hr, hlk, hml, hown, hts, hKW⟩ := C
  subst hst
  intro H locs ls hP hI hl
  refine vp_callSl (W.runV (As := As) (rest := rest) (b := b) ⟨hx, hb, hml, hown, hts⟩ hM (cwV nn hts cs.1 rfl hrm.1 hrm.2.1 ⟨rfl, cs.2⟩ hrm.2.2) ⟨pcR_blind, by rw [← hC]; exact va_recv hKW.1 hP hc he, fun U hU hW => ⟨rfl, by rw [hU]; exact hsub _ hP, hKW.warm hW⟩⟩ rfl hn hl.1 rfl (lv_room hcat) hdg ⟨hkn.1, hkn.2⟩) (fun r hr2 => kk r hr2 H locs ls hP hI hl)
theorem y_callRlS {G : Gx} {K : Kx} {own : String} {cc : ByteArray} {rm : Room} {nL : Nat} {ret : Option FieldType} {k n pc : Nat} {w : va_W} {lv : List (Nat × Value)} {st : List Value} (C : KOk G K own cc rm nL ret) {y : MethodName} {bytes : ByteArray} {maxL index nn : Nat} {ret' : Option FieldType} {rm' : Room} {w' : va_W} {As rest : List Value} {Qp : Int64 → Prop} (cs : CsS own index y bytes maxL ret' nn) (hM : Rl G y (ws_ y bytes maxL ret') rm' w' As Qp) (hsub : ∀ H, PW G w H → PW G w' H) (hrm : rm'.cells = 0 ∧ rm'.slots = 0 ∧ rm'.frames + 1 ≤ rm.frames ∧ 8 + (maxL + 11) + rm'.locals ≤ rm.locals) (hn : As.length = nn) (hst : st = As.reverse ++ rest) (hcat : (rest.map fun v => v.category).sum ≤ 8) (hdg : decode cc pc = .ok (.invokestatic index, 3)) (hkn : k ≤ rm.cells ∧ n ≤ rm.slots) (kk : ∀ r : Int64, Qp r → Y G K k n w (pc + 3) lv (.long r :: rest)) : Y G K k n w pc lv st := by
  obtain ⟨R, nL0, p, e, s, m, args, below, meth, c, Q, I⟩ := K
  obtain ⟨rfl, rfl, hx, hb, hr, hlk, hml, hown, hts, hKW⟩ := C
  subst hst
  intro H locs ls hP hI hl
  refine vp_callSl (W.runS (As := As) (rest := rest) ⟨hx, hb, hml, hown, hts⟩ hM (va_cwS nn hts cs.1 rfl hrm.1 hrm.2.1 cs.2 hrm.2.2) ⟨pcR_blind, fun U hU hW => ⟨rfl, by rw [hU]; exact hsub _ hP, hKW.warm hW⟩⟩ rfl hn hl.1 rfl (lv_room hcat) hdg ⟨hkn.1, hkn.2⟩) (fun r hr2 => kk r hr2 H locs ls hP hI hl)
theorem D_free {A0 : Nat → Prop} {w : va_W} {H0 H : Heap} {locs : List Loc} (hD : va_D A0 w) (hS : va_S A0 H0 H locs) (hA : ∀ q, H0.size ≤ q → A0 q) : ∀ q, va_A w H.size q → A0 q := by
  intro q h
  rcases h with ⟨k, e, h⟩ | h
  · exact hD.2 k (q, e) h
  · exact hA q (Nat.le_trans hS.1 h)
theorem y_callMiV {G : Gx} {K : Kx} {own : String} {cc : ByteArray} {rm : Room} {nL : Nat} {ret : Option FieldType} {k n pc : Nat} {w : va_W} {lv : List (Nat × Value)} {st : List Value} (C : KOk G K own cc rm nL ret) {A : Nat → Prop} (M : KM G K A) {mc ms k' n' : Nat} {y : MethodName} {bytes : ByteArray} {maxL index nn : Nat} {ret' : Option FieldType} {rm' : Room} {b : Nat} {As rest : List Value} {S9 : Type} {wf : S9 → va_W} {Qp : Int32 → S9 → Prop} (cs : CsV own index y bytes maxL ret' nn) (hM : MiA G y (ws_ y bytes maxL ret') rm' w (.ref b :: As) wf Qp mc ms) {q0 ci : Nat} {qc : vw_C} {fs : List Value} (he : w[q0]? = some (b, .inr (ci, fs))) (hc : vwCl[ci]? = some qc) (hC : qc.1 = y.cls) (hrm : rm'.cells = mc ∧ rm'.slots = ms ∧ rm'.frames + 1 ≤ rm.frames ∧ 8 + (maxL + 11) + rm'.locals ≤ rm.locals) (hn : As.length = nn) (hst : st = As.reverse ++ .ref b :: rest) (hcat : (rest.map fun v => v.category).sum ≤ 8) (hdg : decode cc pc = .ok (.invokevirtual index, 3)) (hkn : k + mc ≤ rm.cells ∧ n + ms ≤ rm.slots) (hk' : k + mc = k') (hn' : n + ms = n') (kk : ∀ (r : Int32) (S : S9), Qp r S → Y G K k' n' (wf S) (pc + 3) lv (.int r :: rest)) : Y G K k n w pc lv st := by
  subst hk' hn'
  obtain ⟨R, nL0, p, e, s, m, args, below, meth, c, Q, I⟩ := K
  obtain ⟨rfl, rfl, hx, hb, hr, hlk, hml, hown, hts, hKW⟩ := C
  obtain ⟨rfl, hA, hSF⟩ := M
  subst hst
  intro H locs ls hP hI hl
  have hF := D_free hI.1 hI.2 hA
  refine va_calli (va_runV (As := As) (rest := rest) (b := b) ⟨hx, hb, hml, hown, hts⟩ (hM H.size) (cwV nn hts cs.1 rfl hrm.1 hrm.2.1 ⟨rfl, cs.2⟩ hrm.2.2) ⟨pcM_blind, by rw [← hC]; exact va_recv hKW.1 hP hc he, fun U hU hW => ⟨rfl, by rw [hU], by rw [hU]; exact hP, hKW.warm hW, hI.1.weaken (fun _ _ _ _ => trivial), by rw [hU]; exact hSF.call hI.2 hW hF⟩⟩ rfl hn hl.1 rfl (lv_room hcat) hdg ⟨hkn.1, hkn.2⟩) hI.2 (fun q _ h => hF q h) hF (fun r S t H1 locs1 ht hvm hq hB hz1 hk1 hS => ?_)
  rw [BM, ht] at hB
  exact kk r S hq H1 locs1 ls hB.1 ⟨hB.2.2.weaken (fun _ q _ h => hF q.1 h), hS⟩ hl
theorem y_callMiS {G : Gx} {K : Kx} {own : String} {cc : ByteArray} {rm : Room} {nL : Nat} {ret : Option FieldType} {k n pc : Nat} {w : va_W} {lv : List (Nat × Value)} {st : List Value} (C : KOk G K own cc rm nL ret) {A : Nat → Prop} (M : KM G K A) {mc ms k' n' : Nat} {y : MethodName} {bytes : ByteArray} {maxL index nn : Nat} {ret' : Option FieldType} {rm' : Room} {As rest : List Value} {S9 : Type} {wf : S9 → va_W} {Qp : Int32 → S9 → Prop} (cs : CsS own index y bytes maxL ret' nn) (hM : MiA G y (ws_ y bytes maxL ret') rm' w As wf Qp mc ms) (hrm : rm'.cells = mc ∧ rm'.slots = ms ∧ rm'.frames + 1 ≤ rm.frames ∧ 8 + (maxL + 11) + rm'.locals ≤ rm.locals) (hn : As.length = nn) (hst : st = As.reverse ++ rest) (hcat : (rest.map fun v => v.category).sum ≤ 8) (hdg : decode cc pc = .ok (.invokestatic index, 3)) (hkn : k + mc ≤ rm.cells ∧ n + ms ≤ rm.slots) (hk' : k + mc = k') (hn' : n + ms = n') (kk : ∀ (r : Int32) (S : S9), Qp r S → Y G K k' n' (wf S) (pc + 3) lv (.int r :: rest)) : Y G K k n w pc lv st := by
  subst hk' hn'
  obtain ⟨R, nL0, p, e, s, m, args, below, meth, c, Q, I⟩ := K
  obtain ⟨rfl, rfl, hx, hb, hr, hlk, hml, hown, hts, hKW⟩ := C
  obtain ⟨rfl, hA, hSF⟩ := M
  subst hst
  intro H locs ls hP hI hl
  have hF := D_free hI.1 hI.2 hA
  refine va_calli (va_runS (As := As) (rest := rest) ⟨hx, hb, hml, hown, hts⟩ (hM H.size) (va_cwS nn hts cs.1 rfl hrm.1 hrm.2.1 cs.2 hrm.2.2) ⟨pcM_blind, fun U hU hW => ⟨rfl, by rw [hU], by rw [hU]; exact hP, hKW.warm hW, hI.1.weaken (fun _ _ _ _ => trivial), by rw [hU]; exact hSF.call hI.2 hW hF⟩⟩ rfl hn hl.1 rfl (lv_room hcat) hdg ⟨hkn.1, hkn.2⟩) hI.2 (fun q _ h => hF q h) hF (fun r S t H1 locs1 ht hvm hq hB hz1 hk1 hS => ?_)
  rw [BM, ht] at hB
  exact kk r S hq H1 locs1 ls hB.1 ⟨hB.2.2.weaken (fun _ q _ h => hF q.1 h), hS⟩ hl
theorem y_callMlV {G : Gx} {K : Kx} {own : String} {cc : ByteArray} {rm : Room} {nL : Nat} {ret : Option FieldType} {k n pc : Nat} {w : va_W} {lv : List (Nat × Value)} {st : List Value} (C : KOk G K own cc rm nL ret) {A : Nat → Prop} (M : KM G K A) {mc ms k' n' : Nat} {y : MethodName} {bytes : ByteArray} {maxL index nn : Nat} {ret' : Option FieldType} {rm' : Room} {b : Nat} {As rest : List Value} {S9 : Type} {wf : S9 → va_W} {Qp : Int64 → S9 → Prop} (cs : CsV own index y bytes maxL ret' nn) (hM : MlA G y (ws_ y bytes maxL ret') rm' w (.ref b :: As) wf Qp mc ms) {q0 ci : Nat} {qc : vw_C} {fs : List Value} (he : w[q0]? = some (b, .inr (ci, fs))) (hc : vwCl[ci]? = some qc) (hC : qc.1 = y.cls) (hrm : rm'.cells = mc ∧ rm'.slots = ms ∧ rm'.frames + 1 ≤ rm.frames ∧ 8 + (maxL + 11) + rm'.locals ≤ rm.locals) (hn : As.length = nn) (hst : st = As.reverse ++ .ref b :: rest) (hcat : (rest.map fun v => v.category).sum ≤ 8) (hdg : decode cc pc = .ok (.invokevirtual index, 3)) (hkn : k + mc ≤ rm.cells ∧ n + ms ≤ rm.slots) (hk' : k + mc = k') (hn' : n + ms = n') (kk : ∀ (r : Int64) (S : S9), Qp r S → Y G K k' n' (wf S) (pc + 3) lv (.long r :: rest)) : Y G K k n w pc lv st := by
  subst hk' hn'
  obtain ⟨R, nL0, p, e, s, m, args, below, meth, c, Q, I⟩ := K
  obtain ⟨rfl, rfl, hx, hb, hr, hlk, hml, hown, hts, hKW⟩ := C
  obtain ⟨rfl, hA, hSF⟩ := M
  subst hst
  intro H locs ls hP hI hl
  have hF := D_free hI.1 hI.2 hA
  refine va_calll (va_runV (As := As) (rest := rest) (b := b) ⟨hx, hb, hml, hown, hts⟩ (hM H.size) (cwV nn hts cs.1 rfl hrm.1 hrm.2.1 ⟨rfl, cs.2⟩ hrm.2.2) ⟨pcM_blind, by rw [← hC]; exact va_recv hKW.1 hP hc he, fun U hU hW => ⟨rfl, by rw [hU], by rw [hU]; exact hP, hKW.warm hW, hI.1.weaken (fun _ _ _ _ => trivial), by rw [hU]; exact hSF.call hI.2 hW hF⟩⟩ rfl hn hl.1 rfl (lv_room hcat) hdg ⟨hkn.1, hkn.2⟩) hI.2 (fun q _ h => hF q h) hF (fun r S t H1 locs1 ht hvm hq hB hz1 hk1 hS => ?_)
  rw [BM, ht] at hB
  exact kk r S hq H1 locs1 ls hB.1 ⟨hB.2.2.weaken (fun _ q _ h => hF q.1 h), hS⟩ hl
theorem y_callMlS {G : Gx} {K : Kx} {own : String} {cc : ByteArray} {rm : Room} {nL : Nat} {ret : Option FieldType} {k n pc : Nat} {w : va_W} {lv : List (Nat × Value)} {st : List Value} (C : KOk G K own cc rm nL ret) {A : Nat → Prop} (M : KM G K A) {mc ms k' n' : Nat} {y : MethodName} {bytes : ByteArray} {maxL index nn : Nat} {ret' : Option FieldType} {rm' : Room} {As rest : List Value} {S9 : Type} {wf : S9 → va_W} {Qp : Int64 → S9 → Prop} (cs : CsS own index y bytes maxL ret' nn) (hM : MlA G y (ws_ y bytes maxL ret') rm' w As wf Qp mc ms) (hrm : rm'.cells = mc ∧ rm'.slots = ms ∧ rm'.frames + 1 ≤ rm.frames ∧ 8 + (maxL + 11) + rm'.locals ≤ rm.locals) (hn : As.length = nn) (hst : st = As.reverse ++ rest) (hcat : (rest.map fun v => v.category).sum ≤ 8) (hdg : decode cc pc = .ok (.invokestatic index, 3)) (hkn : k + mc ≤ rm.cells ∧ n + ms ≤ rm.slots) (hk' : k + mc = k') (hn' : n + ms = n') (kk : ∀ (r : Int64) (S : S9), Qp r S → Y G K k' n' (wf S) (pc + 3) lv (.long r :: rest)) : Y G K k n w pc lv st := by
  subst hk' hn'
  obtain ⟨R, nL0, p, e, s, m, args, below, meth, c, Q, I⟩ := K
  obtain ⟨rfl, rfl, hx, hb, hr, hlk, hml, hown, hts, hKW⟩ := C
  obtain ⟨rfl, hA, hSF⟩ := M
  subst hst
  intro H locs ls hP hI hl
  have hF := D_free hI.1 hI.2 hA
  refine va_calll (va_runS (As := As) (rest := rest) ⟨hx, hb, hml, hown, hts⟩ (hM H.size) (va_cwS nn hts cs.1 rfl hrm.1 hrm.2.1 cs.2 hrm.2.2) ⟨pcM_blind, fun U hU hW => ⟨rfl, by rw [hU], by rw [hU]; exact hP, hKW.warm hW, hI.1.weaken (fun _ _ _ _ => trivial), by rw [hU]; exact hSF.call hI.2 hW hF⟩⟩ rfl hn hl.1 rfl (lv_room hcat) hdg ⟨hkn.1, hkn.2⟩) hI.2 (fun q _ h => hF q h) hF (fun r S t H1 locs1 ht hvm hq hB hz1 hk1 hS => ?_)
  rw [BM, ht] at hB
  exact kk r S hq H1 locs1 ls hB.1 ⟨hB.2.2.weaken (fun _ q _ h => hF q.1 h), hS⟩ hl
theorem y_callMvV {G : Gx} {K : Kx} {own : String} {cc : ByteArray} {rm : Room} {nL : Nat} {ret : Option FieldType} {k n pc : Nat} {w : va_W} {lv : List (Nat × Value)} {st : List Value} (C : KOk G K own cc rm nL ret) {A : Nat → Prop} (M : KM G K A) {mc ms k' n' : Nat} {y : MethodName} {bytes : ByteArray} {maxL index nn : Nat} {ret' : Option FieldType} {rm' : Room} {b : Nat} {As rest : List Value} {S9 : Type} {wf : S9 → va_W} {Qp : S9 → Prop} (cs : CsV own index y bytes maxL ret' nn) (hM : MvA G y (ws_ y bytes maxL ret') rm' w (.ref b :: As) wf Qp mc ms) {q0 ci : Nat} {qc : vw_C} {fs : List Value} (he : w[q0]? = some (b, .inr (ci, fs))) (hc : vwCl[ci]? = some qc) (hC : qc.1 = y.cls) (hrm : rm'.cells = mc ∧ rm'.slots = ms ∧ rm'.frames + 1 ≤ rm.frames ∧ 8 + (maxL + 11) + rm'.locals ≤ rm.locals) (hn : As.length = nn) (hst : st = As.reverse ++ .ref b :: rest) (hcat : (rest.map fun v => v.category).sum ≤ 8) (hdg : decode cc pc = .ok (.invokevirtual index, 3)) (hkn : k + mc ≤ rm.cells ∧ n + ms ≤ rm.slots) (hk' : k + mc = k') (hn' : n + ms = n') (kk : ∀ S : S9, Qp S → Y G K k' n' (wf S) (pc + 3) lv (rest)) : Y G K k n w pc lv st := by
  subst hk' hn'
  obtain ⟨R, nL0, p, e, s, m, args, below, meth, c, Q, I⟩ := K
  obtain ⟨rfl, rfl, hx, hb, hr, hlk, hml, hown, hts, hKW⟩ := C
  obtain ⟨rfl, hA, hSF⟩ := M
  subst hst
  intro H locs ls hP hI hl
  have hF := D_free hI.1 hI.2 hA
  refine va_callv (va_runV (As := As) (rest := rest) (b := b) ⟨hx, hb, hml, hown, hts⟩ (hM H.size) (cwV nn hts cs.1 rfl hrm.1 hrm.2.1 ⟨rfl, cs.2⟩ hrm.2.2) ⟨pcM_blind, by rw [← hC]; exact va_recv hKW.1 hP hc he, fun U hU hW => ⟨rfl, by rw [hU], by rw [hU]; exact hP, hKW.warm hW, hI.1.weaken (fun _ _ _ _ => trivial), by rw [hU]; exact hSF.call hI.2 hW hF⟩⟩ rfl hn hl.1 rfl (lv_room hcat) hdg ⟨hkn.1, hkn.2⟩) hI.2 (fun q _ h => hF q h) hF (fun S t H1 locs1 ht hvm hq hB hz1 hk1 hS => ?_)
  rw [BM, ht] at hB
  exact kk S hq H1 locs1 ls hB.1 ⟨hB.2.2.weaken (fun _ q _ h => hF q.1 h), hS⟩ hl
theorem y_callMvS {G : Gx} {K : Kx} {own : String} {cc : ByteArray} {rm : Room} {nL : Nat} {ret : Option FieldType} {k n pc : Nat} {w : va_W} {lv : List (Nat × Value)} {st : List Value} (C : KOk G K own cc rm nL ret) {A : Nat → Prop} (M : KM G K A) {mc ms k' n' : Nat} {y : MethodName} {bytes : ByteArray} {maxL index nn : Nat} {ret' : Option FieldType} {rm' : Room} {As rest : List Value} {S9 : Type} {wf : S9 → va_W} {Qp : S9 → Prop} (cs : CsS own index y bytes maxL ret' nn) (hM : MvA G y (ws_ y bytes maxL ret') rm' w As wf Qp mc ms) (hrm : rm'.cells = mc ∧ rm'.slots = ms ∧ rm'.frames + 1 ≤ rm.frames ∧ 8 + (maxL + 11) + rm'.locals ≤ rm.locals) (hn : As.length = nn) (hst : st = As.reverse ++ rest) (hcat : (rest.map fun v => v.category).sum ≤ 8) (hdg : decode cc pc = .ok (.invokestatic index, 3)) (hkn : k + mc ≤ rm.cells ∧ n + ms ≤ rm.slots) (hk' : k + mc = k') (hn' : n + ms = n') (kk : ∀ S : S9, Qp S → Y G K k' n' (wf S) (pc + 3) lv (rest)) : Y G K k n w pc lv st := by
  subst hk' hn'
  obtain ⟨R, nL0, p, e, s, m, args, below, meth, c, Q, I⟩ := K
  obtain ⟨rfl, rfl, hx, hb, hr, hlk, hml, hown, hts, hKW⟩ := C
  obtain ⟨rfl, hA, hSF⟩ := M
  subst hst
  intro H locs ls hP hI hl
  have hF := D_free hI.1 hI.2 hA
  refine va_callv (va_runS (As := As) (rest := rest) ⟨hx, hb, hml, hown, hts⟩ (hM H.size) (va_cwS nn hts cs.1 rfl hrm.1 hrm.2.1 cs.2 hrm.2.2) ⟨pcM_blind, fun U hU hW => ⟨rfl, by rw [hU], by rw [hU]; exact hP, hKW.warm hW, hI.1.weaken (fun _ _ _ _ => trivial), by rw [hU]; exact hSF.call hI.2 hW hF⟩⟩ rfl hn hl.1 rfl (lv_room hcat) hdg ⟨hkn.1, hkn.2⟩) hI.2 (fun q _ h => hF q h) hF (fun S t H1 locs1 ht hvm hq hB hz1 hk1 hS => ?_)
  rw [BM, ht] at hB
  exact kk S hq H1 locs1 ls hB.1 ⟨hB.2.2.weaken (fun _ q _ h => hF q.1 h), hS⟩ hl
theorem y_tsw {G : Gx} {K : Kx} {own : String} {cc : ByteArray} {rm : Room} {nL : Nat} {ret : Option FieldType} {k n pc : Nat} {w : va_W} {lv : List (Nat × Value)} {st : List Value} (C : KOk G K own cc rm nL ret) {dflt lo hi : Int} {offs : Array Int} {len : Nat} {x : Int32} {tgt : Nat} (hdg : decode cc pc = .ok (.tableswitch dflt lo hi offs, len)) (ht : (pc : Int) + dflt = (tgt : Int)) (k1 : (x.toInt < lo ∨ hi < x.toInt) → Y G K k n w tgt lv st) (k2 : ¬ (x.toInt < lo ∨ hi < x.toInt) → Y G K k n w pc lv (.int x :: st)) : Y G K k n w pc lv (.int x :: st) := by
  by_cases h : x.toInt < lo ∨ hi < x.toInt
  · have kk := k1 h
    obtain ⟨R, nL0, p, e, s, m, args, below, meth, c, Q, I⟩ := K
    obtain ⟨rfl, rfl, hx, hb, hr, hlk, hml, hown, hts, hKW⟩ := C
    intro H locs ls hP hI hl
    exact lv_tableOut hx hb hdg h ht (kk H locs ls hP hI hl)
  · exact k2 h
theorem y_tswIn {G : Gx} {K : Kx} {own : String} {cc : ByteArray} {rm : Room} {nL : Nat} {ret : Option FieldType} {k n pc : Nat} {w : va_W} {lv : List (Nat × Value)} {st : List Value} (C : KOk G K own cc rm nL ret) {dflt lo hi : Int} {offs : Array Int} {len : Nat} {x j : Int32} {off : Int} {tgt : Nat} (hdg : decode cc pc = .ok (.tableswitch dflt lo hi offs, len)) (hj : x = j) (h1 : ¬ j.toInt < lo) (h2 : ¬ hi < j.toInt) (ho : offs[(j.toInt - lo).toNat]? = some off) (ht : (pc : Int) + off = (tgt : Int)) (kk : Y G K k n w tgt lv st) : Y G K k n w pc lv (.int x :: st) := by
  obtain ⟨R, nL0, p, e, s, m, args, below, meth, c, Q, I⟩ := K
  obtain ⟨rfl, rfl, hx, hb, hr, hlk, hml, hown, hts, hKW⟩ := C
  subst hj
  intro H locs ls hP hI hl
  exact lv_tableIn hx hb hdg h1 h2 ho ht (kk H locs ls hP hI hl)
theorem y_iushr {G : Gx} {K : Kx} {own : String} {cc : ByteArray} {rm : Room} {nL : Nat} {ret : Option FieldType} {k n pc : Nat} {w : va_W} {lv : List (Nat × Value)} {st : List Value} (C : KOk G K own cc rm nL ret) {x y : Int32} (hdg : decode cc pc = .ok (.iushr, 1)) (kk : Y G K k n w (pc + 1) lv (.int (x.toUInt32 >>> (y.toUInt32 &&& Int32.toUInt32 31)).toInt32 :: st)) : Y G K k n w pc lv (.int y :: .int x :: st) := by
  obtain ⟨R, nL0, p, e, s, m, args, below, meth, c, Q, I⟩ := K
  obtain ⟨rfl, rfl, hx, hb, hr, hlk, hml, hown, hts, hKW⟩ := C
  intro H locs ls hP hI hl
  exact lv_iushr hx hb hdg rfl (kk H locs ls hP hI hl)
theorem lw_O {own : String} {idx : Nat} {Cr owner : String} {x y : MethodName} {b : ByteArray} {L : Nat} {r : Option FieldType} (h1 : Cond.methodLink own idx x ∈ lw_all) (h2 : Cond.sameMethod x.cls owner x.name x.desc ∈ lw_all) (h3 : Cond.instanceMethod ⟨owner, x.name, x.desc⟩ ∈ lw_all) (h4 : Cond.selects Cr x y ∈ lw_all) (h5 : Cond.instanceMethod y ∈ lw_all) (h6 : Cond.initialized y.cls ∈ lw_all) (h7 : Cond.code y b L r ∈ lw_all) : GoodIn lw_all (va_wsO own idx Cr owner x y (ws_ y b L r)) := by
  refine lw_app (fun w hw => ?_) (lw_meth h7)
  simp only [List.mem_cons, List.not_mem_nil, or_false] at hw
  rcases hw with rfl | rfl | rfl | rfl | rfl | rfl <;> assumption
theorem lw_U {own : String} {idx : Nat} {y : MethodName} {b : ByteArray} {L : Nat} {r : Option FieldType} (h1 : Cond.methodLink own idx y ∈ lw_all) (h2 : Cond.sameMethod y.cls y.cls y.name y.desc ∈ lw_all) (h3 : Cond.superclass own y.cls ∈ lw_all) (h5 : Cond.instanceMethod y ∈ lw_all) (h6 : Cond.initialized y.cls ∈ lw_all) (h7 : Cond.code y b L r ∈ lw_all) : GoodIn lw_all (va_wsSU own idx y (ws_ y b L r)) := by
  refine lw_app (fun w hw => ?_) (lw_meth h7)
  simp only [List.mem_cons, List.not_mem_nil, or_false] at hw
  rcases hw with rfl | rfl | rfl | rfl | rfl <;> assumption
/-- a call site's words: an inherited or overriding method, by the receiver's class; a superclass' method -/
def CsO (own : String) (index : Nat) (Cr owner : String) (x y : MethodName) (bytes : ByteArray) (maxL : Nat) (ret : Option FieldType) (n : Nat) : Prop := GoodIn lw_all (va_wsO own index Cr owner x y (ws_ y bytes maxL ret)) ∧ (∃ (b0 : ByteArray) (m0 : Nat) (r0 : Option FieldType), Cond.code ⟨owner, x.name, x.desc⟩ b0 m0 r0 ∈ lw_all) ∧ (owner ≠ "java/lang/invoke/MethodHandle" ∧ owner ≠ "java/lang/invoke/VarHandle" ∧ (parseMethodDescriptor x.desc).map (fun d => d.parameters.length) = some n)
def CsU (own : String) (index : Nat) (y : MethodName) (bytes : ByteArray) (maxL : Nat) (ret : Option FieldType) (n : Nat) : Prop := GoodIn lw_all (va_wsSU own index y (ws_ y bytes maxL ret)) ∧ (y.name ≠ "<init>" ∧ (parseMethodDescriptor y.desc).map (fun d => d.parameters.length) = some n)
theorem y_callRiO {G : Gx} {K : Kx} {own : String} {cc : ByteArray} {rm : Room} {nL : Nat} {ret : Option FieldType} {k n pc : Nat} {w : va_W} {lv : List (Nat × Value)} {st : List Value} (C : KOk G K own cc rm nL ret) {y : MethodName} {bytes : ByteArray} {maxL index nn : Nat} {ret' : Option FieldType} {rm' : Room} {w' : va_W} {b : Nat} {As rest : List Value} {x : MethodName} {Cr owner : String} {Qp : Int32 → Prop} (cs : CsO own index Cr owner x y bytes maxL ret' nn) (hM : Ri G y (ws_ y bytes maxL ret') rm' w' (.ref b :: As) Qp) (hsub : ∀ H, PW G w H → PW G w' H) {q0 ci : Nat} {qc : vw_C} {fs : List Value} (he : w[q0]? = some (b, .inr (ci, fs))) (hc : vwCl[ci]? = some qc) (hC : qc.1 = Cr) (hrm : rm'.cells = 0 ∧ rm'.slots = 0 ∧ rm'.frames + 1 ≤ rm.frames ∧ 8 + (maxL + 11) + rm'.locals ≤ rm.locals) (hn : As.length = nn) (hst : st = As.reverse ++ .ref b :: rest) (hcat : (rest.map fun v => v.category).sum ≤ 8) (hdg : decode cc pc = .ok (.invokevirtual index, 3)) (hkn : k ≤ rm.cells ∧ n ≤ rm.slots) (kk : ∀ r : Int32, Qp r → Y G K k n w (pc + 3) lv (.int r :: rest)) : Y G K k n w pc lv st := by
  obtain ⟨R, nL0, p, e, s, m, args, below, meth, c, Q, I⟩ := K
  obtain ⟨rfl, rfl, hx, hb, hr, hlk, hml, hown, hts, hKW⟩ := C
  obtain ⟨b0, m0, r0, h0⟩ := cs.2.1
  subst hst
  intro H locs ls hP hI hl
  refine vp_callSi (va_Run.run (va_runU (As := As) (rest := rest) (b := b) ⟨hx, hb, hml, hown, hts⟩ hM (va_cwO nn hts cs.1 rfl hrm.1 hrm.2.1 h0 cs.2.2 hrm.2.2) ⟨pcR_blind, by rw [← hC]; exact va_recv hKW.1 hP hc he, fun U hU hW => ⟨rfl, by rw [hU]; exact hsub _ hP, hKW.warm hW⟩⟩ rfl hn hl.1 rfl (lv_room hcat) hdg ⟨hkn.1, hkn.2⟩)) (fun r hr2 => kk r hr2 H locs ls hP hI hl)
theorem y_callRlO {G : Gx} {K : Kx} {own : String} {cc : ByteArray} {rm : Room} {nL : Nat} {ret : Option FieldType} {k n pc : Nat} {w : va_W} {lv : List (Nat × Value)} {st : List Value} (C : KOk G K own cc rm nL ret) {y : MethodName} {bytes : ByteArray} {maxL index nn : Nat} {ret' : Option FieldType} {rm' : Room} {w' : va_W} {b : Nat} {As rest : List Value} {x : MethodName} {Cr owner : String} {Qp : Int64 → Prop} (cs : CsO own index Cr owner x y bytes maxL ret' nn) (hM : Rl G y (ws_ y bytes maxL ret') rm' w' (.ref b :: As) Qp) (hsub : ∀ H, PW G w H → PW G w' H) {q0 ci : Nat} {qc : vw_C} {fs : List Value} (he : w[q0]? = some (b, .inr (ci, fs))) (hc : vwCl[ci]? = some qc) (hC : qc.1 = Cr) (hrm : rm'.cells = 0 ∧ rm'.slots = 0 ∧ rm'.frames + 1 ≤ rm.frames ∧ 8 + (maxL + 11) + rm'.locals ≤ rm.locals) (hn : As.length = nn) (hst : st = As.reverse ++ .ref b :: rest) (hcat : (rest.map fun v => v.category).sum ≤ 8) (hdg : decode cc pc = .ok (.invokevirtual index, 3)) (hkn : k ≤ rm.cells ∧ n ≤ rm.slots) (kk : ∀ r : Int64, Qp r → Y G K k n w (pc + 3) lv (.long r :: rest)) : Y G K k n w pc lv st := by
  obtain ⟨R, nL0, p, e, s, m, args, below, meth, c, Q, I⟩ := K
  obtain ⟨rfl, rfl, hx, hb, hr, hlk, hml, hown, hts, hKW⟩ := C
  obtain ⟨b0, m0, r0, h0⟩ := cs.2.1
  subst hst
  intro H locs ls hP hI hl
  refine vp_callSl (va_Run.run (va_runU (As := As) (rest := rest) (b := b) ⟨hx, hb, hml, hown, hts⟩ hM (va_cwO nn hts cs.1 rfl hrm.1 hrm.2.1 h0 cs.2.2 hrm.2.2) ⟨pcR_blind, by rw [← hC]; exact va_recv hKW.1 hP hc he, fun U hU hW => ⟨rfl, by rw [hU]; exact hsub _ hP, hKW.warm hW⟩⟩ rfl hn hl.1 rfl (lv_room hcat) hdg ⟨hkn.1, hkn.2⟩)) (fun r hr2 => kk r hr2 H locs ls hP hI hl)
theorem y_callMiO {G : Gx} {K : Kx} {own : String} {cc : ByteArray} {rm : Room} {nL : Nat} {ret : Option FieldType} {k n pc : Nat} {w : va_W} {lv : List (Nat × Value)} {st : List Value} (C : KOk G K own cc rm nL ret) {A : Nat → Prop} (M : KM G K A) {mc ms k' n' : Nat} {y : MethodName} {bytes : ByteArray} {maxL index nn : Nat} {ret' : Option FieldType} {rm' : Room} {b : Nat} {As rest : List Value} {x : MethodName} {Cr owner : String} {S9 : Type} {wf : S9 → va_W} {Qp : Int32 → S9 → Prop} (cs : CsO own index Cr owner x y bytes maxL ret' nn) (hM : MiA G y (ws_ y bytes maxL ret') rm' w (.ref b :: As) wf Qp mc ms) {q0 ci : Nat} {qc : vw_C} {fs : List Value} (he : w[q0]? = some (b, .inr (ci, fs))) (hc : vwCl[ci]? = some qc) (hC : qc.1 = Cr) (hrm : rm'.cells = mc ∧ rm'.slots = ms ∧ rm'.frames + 1 ≤ rm.frames ∧ 8 + (maxL + 11) + rm'.locals ≤ rm.locals) (hn : As.length = nn) (hst : st = As.reverse ++ .ref b :: rest) (hcat : (rest.map fun v => v.category).sum ≤ 8) (hdg : decode cc pc = .ok (.invokevirtual index, 3)) (hkn : k + mc ≤ rm.cells ∧ n + ms ≤ rm.slots) (hk' : k + mc = k') (hn' : n + ms = n') (kk : ∀ (r : Int32) (S : S9), Qp r S → Y G K k' n' (wf S) (pc + 3) lv (.int r :: rest)) : Y G K k n w pc lv st := by
  subst hk' hn'
  obtain ⟨R, nL0, p, e, s, m, args, below, meth, c, Q, I⟩ := K
  obtain ⟨rfl, rfl, hx, hb, hr, hlk, hml, hown, hts, hKW⟩ := C
  obtain ⟨rfl, hA, hSF⟩ := M
  obtain ⟨b0, m0, r0, h0⟩ := cs.2.1
  subst hst
  intro H locs ls hP hI hl
  have hF := D_free hI.1 hI.2 hA
  refine va_calli (va_runU (As := As) (rest := rest) (b := b) ⟨hx, hb, hml, hown, hts⟩ (hM H.size) (va_cwO nn hts cs.1 rfl hrm.1 hrm.2.1 h0 cs.2.2 hrm.2.2) ⟨pcM_blind, by rw [← hC]; exact va_recv hKW.1 hP hc he, fun U hU hW => ⟨rfl, by rw [hU], by rw [hU]; exact hP, hKW.warm hW, hI.1.weaken (fun _ _ _ _ => trivial), by rw [hU]; exact hSF.call hI.2 hW hF⟩⟩ rfl hn hl.1 rfl (lv_room hcat) hdg ⟨hkn.1, hkn.2⟩) hI.2 (fun q _ h => hF q h) hF (fun r S t H1 locs1 ht hvm hq hB hz1 hk1 hS => ?_)
  rw [BM, ht] at hB
  exact kk r S hq H1 locs1 ls hB.1 ⟨hB.2.2.weaken (fun _ q _ h => hF q.1 h), hS⟩ hl
theorem y_callMvO {G : Gx} {K : Kx} {own : String} {cc : ByteArray} {rm : Room} {nL : Nat} {ret : Option FieldType} {k n pc : Nat} {w : va_W} {lv : List (Nat × Value)} {st : List Value} (C : KOk G K own cc rm nL ret) {A : Nat → Prop} (M : KM G K A) {mc ms k' n' : Nat} {y : MethodName} {bytes : ByteArray} {maxL index nn : Nat} {ret' : Option FieldType} {rm' : Room} {b : Nat} {As rest : List Value} {x : MethodName} {Cr owner : String} {S9 : Type} {wf : S9 → va_W} {Qp : S9 → Prop} (cs : CsO own index Cr owner x y bytes maxL ret' nn) (hM : MvA G y (ws_ y bytes maxL ret') rm' w (.ref b :: As) wf Qp mc ms) {q0 ci : Nat} {qc : vw_C} {fs : List Value} (he : w[q0]? = some (b, .inr (ci, fs))) (hc : vwCl[ci]? = some qc) (hC : qc.1 = Cr) (hrm : rm'.cells = mc ∧ rm'.slots = ms ∧ rm'.frames + 1 ≤ rm.frames ∧ 8 + (maxL + 11) + rm'.locals ≤ rm.locals) (hn : As.length = nn) (hst : st = As.reverse ++ .ref b :: rest) (hcat : (rest.map fun v => v.category).sum ≤ 8) (hdg : decode cc pc = .ok (.invokevirtual index, 3)) (hkn : k + mc ≤ rm.cells ∧ n + ms ≤ rm.slots) (hk' : k + mc = k') (hn' : n + ms = n') (kk : ∀ S : S9, Qp S → Y G K k' n' (wf S) (pc + 3) lv (rest)) : Y G K k n w pc lv st := by
  subst hk' hn'
  obtain ⟨R, nL0, p, e, s, m, args, below, meth, c, Q, I⟩ := K
  obtain ⟨rfl, rfl, hx, hb, hr, hlk, hml, hown, hts, hKW⟩ := C
  obtain ⟨rfl, hA, hSF⟩ := M
  obtain ⟨b0, m0, r0, h0⟩ := cs.2.1
  subst hst
  intro H locs ls hP hI hl
  have hF := D_free hI.1 hI.2 hA
  refine va_callv (va_runU (As := As) (rest := rest) (b := b) ⟨hx, hb, hml, hown, hts⟩ (hM H.size) (va_cwO nn hts cs.1 rfl hrm.1 hrm.2.1 h0 cs.2.2 hrm.2.2) ⟨pcM_blind, by rw [← hC]; exact va_recv hKW.1 hP hc he, fun U hU hW => ⟨rfl, by rw [hU], by rw [hU]; exact hP, hKW.warm hW, hI.1.weaken (fun _ _ _ _ => trivial), by rw [hU]; exact hSF.call hI.2 hW hF⟩⟩ rfl hn hl.1 rfl (lv_room hcat) hdg ⟨hkn.1, hkn.2⟩) hI.2 (fun q _ h => hF q h) hF (fun S t H1 locs1 ht hvm hq hB hz1 hk1 hS => ?_)
  rw [BM, ht] at hB
  exact kk S hq H1 locs1 ls hB.1 ⟨hB.2.2.weaken (fun _ q _ h => hF q.1 h), hS⟩ hl
theorem y_callRiU {G : Gx} {K : Kx} {own : String} {cc : ByteArray} {rm : Room} {nL : Nat} {ret : Option FieldType} {k n pc : Nat} {w : va_W} {lv : List (Nat × Value)} {st : List Value} (C : KOk G K own cc rm nL ret) {y : MethodName} {bytes : ByteArray} {maxL index nn : Nat} {ret' : Option FieldType} {rm' : Room} {w' : va_W} {b : Nat} {As rest : List Value}  {Qp : Int32 → Prop} (cs : CsU own index y bytes maxL ret' nn) (hM : Ri G y (ws_ y bytes maxL ret') rm' w' (.ref b :: As) Qp) (hsub : ∀ H, PW G w H → PW G w' H) {q0 ci : Nat} {qc : vw_C} {fs : List Value} (he : w[q0]? = some (b, .inr (ci, fs))) (hc : vwCl[ci]? = some qc)  (hrm : rm'.cells = 0 ∧ rm'.slots = 0 ∧ rm'.frames + 1 ≤ rm.frames ∧ 8 + (maxL + 11) + rm'.locals ≤ rm.locals) (hn : As.length = nn) (hst : st = As.reverse ++ .ref b :: rest) (hcat : (rest.map fun v => v.category).sum ≤ 8) (hdg : decode cc pc = .ok (.invokespecial index, 3)) (hkn : k ≤ rm.cells ∧ n ≤ rm.slots) (kk : ∀ r : Int32, Qp r → Y G K k n w (pc + 3) lv (.int r :: rest)) : Y G K k n w pc lv st := by
  obtain ⟨R, nL0, p, e, s, m, args, below, meth, c, Q, I⟩ := K
  obtain ⟨rfl, rfl, hx, hb, hr, hlk, hml, hown, hts, hKW⟩ := C
  subst hst
  intro H locs ls hP hI hl
  refine vp_callSi (va_Run.run (va_runSU (hKW.1.1 ci qc hc).2 (As := As) (rest := rest) (b := b) ⟨hx, hb, hml, hown, hts⟩ hM (va_cwSU nn hts cs.1 rfl hrm.1 hrm.2.1 cs.2 hrm.2.2) ⟨pcR_blind, va_recv hKW.1 hP hc he, fun U hU hW => ⟨rfl, by rw [hU]; exact hsub _ hP, hKW.warm hW⟩⟩ rfl hn hl.1 rfl (lv_room hcat) hdg ⟨hkn.1, hkn.2⟩)) (fun r hr2 => kk r hr2 H locs ls hP hI hl)
theorem y_callRlU {G : Gx} {K : Kx} {own : String} {cc : ByteArray} {rm : Room} {nL : Nat} {ret : Option FieldType} {k n pc : Nat} {w : va_W} {lv : List (Nat × Value)} {st : List Value} (C : KOk G K own cc rm nL ret) {y : MethodName} {bytes : ByteArray} {maxL index nn : Nat} {ret' : Option FieldType} {rm' : Room} {w' : va_W} {b : Nat} {As rest : List Value}  {Qp : Int64 → Prop} (cs : CsU own index y bytes maxL ret' nn) (hM : Rl G y (ws_ y bytes maxL ret') rm' w' (.ref b :: As) Qp) (hsub : ∀ H, PW G w H → PW G w' H) {q0 ci : Nat} {qc : vw_C} {fs : List Value} (he : w[q0]? = some (b, .inr (ci, fs))) (hc : vwCl[ci]? = some qc)  (hrm : rm'.cells = 0 ∧ rm'.slots = 0 ∧ rm'.frames + 1 ≤ rm.frames ∧ 8 + (maxL + 11) + rm'.locals ≤ rm.locals) (hn : As.length = nn) (hst : st = As.reverse ++ .ref b :: rest) (hcat : (rest.map fun v => v.category).sum ≤ 8) (hdg : decode cc pc = .ok (.invokespecial index, 3)) (hkn : k ≤ rm.cells ∧ n ≤ rm.slots) (kk : ∀ r : Int64, Qp r → Y G K k n w (pc + 3) lv (.long r :: rest)) : Y G K k n w pc lv st := by
  obtain ⟨R, nL0, p, e, s, m, args, below, meth, c, Q, I⟩ := K
  obtain ⟨rfl, rfl, hx, hb, hr, hlk, hml, hown, hts, hKW⟩ := C
  subst hst
  intro H locs ls hP hI hl
  refine vp_callSl (va_Run.run (va_runSU (hKW.1.1 ci qc hc).2 (As := As) (rest := rest) (b := b) ⟨hx, hb, hml, hown, hts⟩ hM (va_cwSU nn hts cs.1 rfl hrm.1 hrm.2.1 cs.2 hrm.2.2) ⟨pcR_blind, va_recv hKW.1 hP hc he, fun U hU hW => ⟨rfl, by rw [hU]; exact hsub _ hP, hKW.warm hW⟩⟩ rfl hn hl.1 rfl (lv_room hcat) hdg ⟨hkn.1, hkn.2⟩)) (fun r hr2 => kk r hr2 H locs ls hP hI hl)
theorem y_callMiU {G : Gx} {K : Kx} {own : String} {cc : ByteArray} {rm : Room} {nL : Nat} {ret : Option FieldType} {k n pc : Nat} {w : va_W} {lv : List (Nat × Value)} {st : List Value} (C : KOk G K own cc rm nL ret) {A : Nat → Prop} (M : KM G K A) {mc ms k' n' : Nat} {y : MethodName} {bytes : ByteArray} {maxL index nn : Nat} {ret' : Option FieldType} {rm' : Room} {b : Nat} {As rest : List Value}  {S9 : Type} {wf : S9 → va_W} {Qp : Int32 → S9 → Prop} (cs : CsU own index y bytes maxL ret' nn) (hM : MiA G y (ws_ y bytes maxL ret') rm' w (.ref b :: As) wf Qp mc ms) {q0 ci : Nat} {qc : vw_C} {fs : List Value} (he : w[q0]? = some (b, .inr (ci, fs))) (hc : vwCl[ci]? = some qc)  (hrm : rm'.cells = mc ∧ rm'.slots = ms ∧ rm'.frames + 1 ≤ rm.frames ∧ 8 + (maxL + 11) + rm'.locals ≤ rm.locals) (hn : As.length = nn) (hst : st = As.reverse ++ .ref b :: rest) (hcat : (rest.map fun v => v.category).sum ≤ 8) (hdg : decode cc pc = .ok (.invokespecial index, 3)) (hkn : k + mc ≤ rm.cells ∧ n + ms ≤ rm.slots) (hk' : k + mc = k') (hn' : n + ms = n') (kk : ∀ (r : Int32) (S : S9), Qp r S → Y G K k' n' (wf S) (pc + 3) lv (.int r :: rest)) : Y G K k n w pc lv st := by
  subst hk' hn'
  obtain ⟨R, nL0, p, e, s, m, args, below, meth, c, Q, I⟩ := K
  obtain ⟨rfl, rfl, hx, hb, hr, hlk, hml, hown, hts, hKW⟩ := C
  obtain ⟨rfl, hA, hSF⟩ := M
  subst hst
  intro H locs ls hP hI hl
  have hF := D_free hI.1 hI.2 hA
  refine va_calli (va_runSU (hKW.1.1 ci qc hc).2 (As := As) (rest := rest) (b := b) ⟨hx, hb, hml, hown, hts⟩ (hM H.size) (va_cwSU nn hts cs.1 rfl hrm.1 hrm.2.1 cs.2 hrm.2.2) ⟨pcM_blind, va_recv hKW.1 hP hc he, fun U hU hW => ⟨rfl, by rw [hU], by rw [hU]; exact hP, hKW.warm hW, hI.1.weaken (fun _ _ _ _ => trivial), by rw [hU]; exact hSF.call hI.2 hW hF⟩⟩ rfl hn hl.1 rfl (lv_room hcat) hdg ⟨hkn.1, hkn.2⟩) hI.2 (fun q _ h => hF q h) hF (fun r S t H1 locs1 ht hvm hq hB hz1 hk1 hS => ?_)
  rw [BM, ht] at hB
  exact kk r S hq H1 locs1 ls hB.1 ⟨hB.2.2.weaken (fun _ q _ h => hF q.1 h), hS⟩ hl
theorem y_callMvU {G : Gx} {K : Kx} {own : String} {cc : ByteArray} {rm : Room} {nL : Nat} {ret : Option FieldType} {k n pc : Nat} {w : va_W} {lv : List (Nat × Value)} {st : List Value} (C : KOk G K own cc rm nL ret) {A : Nat → Prop} (M : KM G K A) {mc ms k' n' : Nat} {y : MethodName} {bytes : ByteArray} {maxL index nn : Nat} {ret' : Option FieldType} {rm' : Room} {b : Nat} {As rest : List Value}  {S9 : Type} {wf : S9 → va_W} {Qp : S9 → Prop} (cs : CsU own index y bytes maxL ret' nn) (hM : MvA G y (ws_ y bytes maxL ret') rm' w (.ref b :: As) wf Qp mc ms) {q0 ci : Nat} {qc : vw_C} {fs : List Value} (he : w[q0]? = some (b, .inr (ci, fs))) (hc : vwCl[ci]? = some qc)  (hrm : rm'.cells = mc ∧ rm'.slots = ms ∧ rm'.frames + 1 ≤ rm.frames ∧ 8 + (maxL + 11) + rm'.locals ≤ rm.locals) (hn : As.length = nn) (hst : st = As.reverse ++ .ref b :: rest) (hcat : (rest.map fun v => v.category).sum ≤ 8) (hdg : decode cc pc = .ok (.invokespecial index, 3)) (hkn : k + mc ≤ rm.cells ∧ n + ms ≤ rm.slots) (hk' : k + mc = k') (hn' : n + ms = n') (kk : ∀ S : S9, Qp S → Y G K k' n' (wf S) (pc + 3) lv (rest)) : Y G K k n w pc lv st := by
  subst hk' hn'
  obtain ⟨R, nL0, p, e, s, m, args, below, meth, c, Q, I⟩ := K
  obtain ⟨rfl, rfl, hx, hb, hr, hlk, hml, hown, hts, hKW⟩ := C
  obtain ⟨rfl, hA, hSF⟩ := M
  subst hst
  intro H locs ls hP hI hl
  have hF := D_free hI.1 hI.2 hA
  refine va_callv (va_runSU (hKW.1.1 ci qc hc).2 (As := As) (rest := rest) (b := b) ⟨hx, hb, hml, hown, hts⟩ (hM H.size) (va_cwSU nn hts cs.1 rfl hrm.1 hrm.2.1 cs.2 hrm.2.2) ⟨pcM_blind, va_recv hKW.1 hP hc he, fun U hU hW => ⟨rfl, by rw [hU], by rw [hU]; exact hP, hKW.warm hW, hI.1.weaken (fun _ _ _ _ => trivial), by rw [hU]; exact hSF.call hI.2 hW hF⟩⟩ rfl hn hl.1 rfl (lv_room hcat) hdg ⟨hkn.1, hkn.2⟩) hI.2 (fun q _ h => hF q h) hF (fun S t H1 locs1 ht hvm hq hB hz1 hk1 hS => ?_)
  rw [BM, ht] at hB
  exact kk S hq H1 locs1 ls hB.1 ⟨hB.2.2.weaken (fun _ q _ h => hF q.1 h), hS⟩ hl
theorem y_copyi {G : Gx} {K : Kx} {own : String} {cc : ByteArray} {rm : Room} {nL : Nat} {ret : Option FieldType} {k n pc : Nat} {w : va_W} {lv : List (Nat × Value)} {st : List Value} (C : KOk G K own cc rm nL ret) {A : Nat → Prop} (M : KM G K A) {a0 a1 n0 n1 q0 q1 : Nat} {f g : Nat → Int32} {sp dp nn : Int32} {js jd jn index : Nat} (hlink : Cond.methodLink own index arraycopyName ∈ lw_all) (ha0 : w[q0]? = some (a0, .inl (G.2.2.1 0, n0, .inl f))) (ha1 : w[q1]? = some (a1, .inl (G.2.2.1 0, n1, .inl g))) (h1 : ¬ sp < 0) (h2 : ¬ dp < 0) (h3 : ¬ nn < 0) (hs : sp.toNatClampNeg = js) (hd : dp.toNatClampNeg = jd) (hn : nn.toNatClampNeg = jn) (h4 : js + jn ≤ n0) (h5 : jd + jn ≤ n1) (hfr : 1 ≤ rm.frames ∧ (st.map fun v => v.category).sum + (nativeFrameWords "java/lang/System" "arraycopy" 5 + 11) ≤ rm.locals) {w' : va_W} (hw' : w.set q1 (a1, .inl (G.2.2.1 0, n1, .inl (va_cpy f g js jd jn))) = w') (hdg : decode cc pc = .ok (.invokestatic index, 3)) (kk : Y G K k n w' (pc + 3) lv st) : Y G K k n w pc lv (.int nn :: .int dp :: .ref a1 :: .int sp :: .ref a0 :: st) := by
  subst hs hd hn
  obtain ⟨R, nL0, p, e, s, m, args, below, meth, c, Q, I⟩ := K
  obtain ⟨rfl, rfl, hx, hb, hr, hlk, hml, hown, hts, hKW⟩ := C
  obtain ⟨rfl, hA, hSF⟩ := M
  subst hw'
  intro H locs ls hP hI hl
  exact va_copyi hx hb (hml.trans hl.1.symm) hown (hts _ hlink) (hts _ q1336) (hts _ q1335) (hts _ q165) hKW.1 hP hI.1 hI.2 q0 q1 0 0 ha0 ha1 rfl rfl rfl h1 h2 h3 h4 h5 (fun _ _ => rfl) hfr.1 hfr.2 hdg (fun H1 locs1 hP hD hS => kk H1 locs1 ls hP ⟨hD, hS⟩ hl)
theorem y_castA {G : Gx} {K : Kx} {own : String} {cc : ByteArray} {rm : Room} {nL : Nat} {ret : Option FieldType} {k n pc : Nat} {w : va_W} {lv : List (Nat × Value)} {st : List Value} (C : KOk G K own cc rm nL ret) {a : Nat} {cA : ClassId} {x : vp_A} {ty : FieldType} {q0 index : Nat} {nm : String} (t0 : Nat) (ha : w[q0]? = some (a, .inl (cA, x))) (ht : (tysG G)[t0]? = some (cA, ty)) (hra : ∀ U : State, va_RA U cA ty → U.vm.findClass nm = some cA) (hq : Cond.classLink own index nm ∈ lw_all) (hdg : decode cc pc = .ok (.checkcast index, 3)) (kk : Y G K k n w (pc + 3) lv (.ref a :: st)) : Y G K k n w pc lv (.ref a :: st) := by
  obtain ⟨R, nL0, p, e, s, m, args, below, meth, c, Q, I⟩ := K
  obtain ⟨rfl, rfl, hx, hb, hr, hlk, hml, hown, hts, hKW⟩ := C
  intro H locs ls hP hI hl
  exact va_castA hx hb hown (hts _ hq) hP q0 ha (hra s (hKW.1.2 t0 _ ht).2) hdg (kk H locs ls hP hI hl)
theorem vpc_vm (cA : ClassId) (x : vp_A) : (vp_cell cA x).vm = .none := by
  obtain ⟨n, f | f | f | f | f⟩ := x <;> rfl
theorem vpc_cls (cA : ClassId) (x : vp_A) : (vp_cell cA x).cls = cA := by
  obtain ⟨n, f | f | f | f | f⟩ := x <;> rfl
theorem y_instA {G : Gx} {K : Kx} {own : String} {cc : ByteArray} {rm : Room} {nL : Nat} {ret : Option FieldType} {k n pc : Nat} {w : va_W} {lv : List (Nat × Value)} {st : List Value} (C : KOk G K own cc rm nL ret) {a : Nat} {cA : ClassId} {x : vp_A} {ty : FieldType} {q0 index : Nat} {nm : String} (t0 : Nat) (ha : w[q0]? = some (a, .inl (cA, x))) (ht : (tysG G)[t0]? = some (cA, ty)) (hra : ∀ U : State, va_RA U cA ty → U.vm.findClass nm = some cA) (hq : Cond.classLink own index nm ∈ lw_all) (hdg : decode cc pc = .ok (.instanceof index, 3)) (kk : Y G K k n w (pc + 3) lv (.int 1 :: st)) : Y G K k n w pc lv (.ref a :: st) := by
  obtain ⟨R, nL0, p, e, s, m, args, below, meth, c, Q, I⟩ := K
  obtain ⟨rfl, rfl, hx, hb, hr, hlk, hml, hown, hts, hKW⟩ := C
  intro H locs ls hP hI hl
  have hnm := hra s (hKW.1.2 t0 _ ht).2
  intro T hT X
  obtain ⟨vm', X', st'⟩ := X.instanceofYes hx hown (hts _ hq) (by rw [hT]; exact hP q0 _ ha) (by show (vp_cell cA x).vm.isStatics = false; rw [vpc_vm]; rfl) hnm (by show s.vm.assignable (vp_cell cA x).cls cA = true; rw [vpc_cls]; exact va_asg _ _) (g := F0 m pc ls (.ref a :: st)) rfl rfl (by rw [hb]; exact hdg)
  obtain ⟨t, a1, b1⟩ := kk H locs ls hP hI hl (T.setVm vm') hT X'
  exact ⟨t, st' t a1, b1⟩
theorem y_instAN {G : Gx} {K : Kx} {own : String} {cc : ByteArray} {rm : Room} {nL : Nat} {ret : Option FieldType} {k n pc : Nat} {w : va_W} {lv : List (Nat × Value)} {st : List Value} (C : KOk G K own cc rm nL ret) {a : Nat} {cA : ClassId} {x : vp_A} {ty : FieldType} {q0 index : Nat} {nm : String} (t0 : Nat) (ha : w[q0]? = some (a, .inl (cA, x))) (ht : (tysG G)[t0]? = some (cA, ty)) {Ca : String} (hra : ∀ U : State, va_RA U cA ty → U.vm.findClass Ca = some cA) (hnc : (Ca, nm) ∈ ncPairs) (hq : Cond.classLink own index nm ∈ lw_all) (hdg : decode cc pc = .ok (.instanceof index, 3)) (kk : Y G K k n w (pc + 3) lv (.int 0 :: st)) : Y G K k n w pc lv (.ref a :: st) := by
  obtain ⟨R, nL0, p, e, s, m, args, below, meth, c, Q, I⟩ := K
  obtain ⟨rfl, rfl, hx, hb, hr, hlk, hml, hown, hts, hKW⟩ := C
  intro H locs ls hP hI hl
  have hnm := hra s (hKW.1.2 t0 _ ht).2
  exact va_instNo hx hb hown (hts _ hq) (hKW.2.2 _ hnc) ⟨_, hP q0 _ ha, by show (vp_cell cA x).vm.isStatics = false; rw [vpc_vm]; rfl, by show s.vm.findClass Ca = some (vp_cell cA x).cls; rw [vpc_cls]; exact hnm⟩ hdg (kk H locs ls hP hI hl)
theorem y_sald {G : Gx} {K : Kx} {own : String} {cc : ByteArray} {rm : Room} {nL : Nat} {ret : Option FieldType} {k n pc : Nat} {w : va_W} {lv : List (Nat × Value)} {st : List Value} (C : KOk G K own cc rm nL ret) {a nA : Nat} {f : Nat → Int32} {i : Int32} {q0 : Nat} (ha : w[q0]? = some (a, .inl (G.2.2.1 4, nA, .inl f))) {j : Nat} (hj : i.toNatClampNeg = j) (hin : vp_in i nA) (hdg : decode cc pc = .ok (.saload, 1)) (kk : Y G K k n w (pc + 1) lv (.int (f j) :: st)) : Y G K k n w pc lv (.int i :: .ref a :: st) := by
  subst hj
  obtain ⟨R, nL0, p, e, s, m, args, below, meth, c, Q, I⟩ := K
  obtain ⟨rfl, rfl, hx, hb, hr, hlk, hml, hown, hts, hKW⟩ := C
  intro H locs ls hP hI hl
  exact va_sald hx hb hKW.1 hP q0 4 ha rfl hin hdg (kk H locs ls hP hI hl)
theorem y_sast {G : Gx} {K : Kx} {own : String} {cc : ByteArray} {rm : Room} {nL : Nat} {ret : Option FieldType} {k n pc : Nat} {w : va_W} {lv : List (Nat × Value)} {st : List Value} (C : KOk G K own cc rm nL ret) {A : Nat → Prop} (M : KM G K A) {a nA : Nat} {f : Nat → Int32} {i x : Int32} {q0 : Nat} (ha : w[q0]? = some (a, .inl (G.2.2.1 4, nA, .inl f))) {j : Nat} (hj : i.toNatClampNeg = j) {w' : va_W} (hw' : w.set q0 (a, .inl (G.2.2.1 4, nA, .inl (upd f j (vp_nar .short x)))) = w') (hin : vp_in i nA) (hdg : decode cc pc = .ok (.sastore, 1)) (kk : Y G K k n w' (pc + 1) lv st) : Y G K k n w pc lv (.int x :: .int i :: .ref a :: st) := by
  subst hj
  obtain ⟨R, nL0, p, e, s, m, args, below, meth, c, Q, I⟩ := K
  obtain ⟨rfl, rfl, hx, hb, hr, hlk, hml, hown, hts, hKW⟩ := C
  obtain ⟨rfl, hA, hSF⟩ := M
  subst hw'
  intro H locs ls hP hI hl
  exact va_sast hx hb hKW.1 hP hI.1 hI.2 q0 4 ha rfl hin hdg (fun H1 locs1 hP hD hS => kk H1 locs1 ls hP ⟨hD, hS⟩ hl)
/-- a callee wrote the front of our world: the rest is as it was -/
theorem join_pre {A0 : Nat → Prop} {D : va_G} {cl : List vw_C} {w1 w2 v1 : va_W} {H H1 : Heap} (hP : va_P D cl (w1 ++ w2) H) (hD : va_D A0 (w1 ++ w2)) (hk : ∀ q : Nat, q < H.size → ¬ va_A w1 H.size q → H1[q]? = H[q]?) (hF : ∀ q, va_A w1 H.size q → A0 q) (hP1 : va_P D cl v1 H1) (hD1 : va_D (va_A w1 H.size) v1) : va_P D cl (v1 ++ w2) H1 ∧ va_D A0 (v1 ++ w2) := by
  have in2 : ∀ (k : Nat) (q : Nat × va_E), w2[k]? = some q → (w1 ++ w2)[w1.length + k]? = some q := by
    intro k q hq
    rw [List.getElem?_append_right (by omega), Nat.add_sub_cancel_left]
    exact hq
  have apart : ∀ (k : Nat) (q : Nat × va_E), w2[k]? = some q → q.1 < H.size ∧ ¬ va_A w1 H.size q.1 := by
    intro k q hq
    have hl := (hP _ q (in2 k q hq)).lt
    refine ⟨hl, fun h => ?_⟩
    rcases h with ⟨j, e, h⟩ | h
    · have hj : j < w1.length := (List.getElem?_eq_some_iff.mp h).1
      have h4 : (w1 ++ w2)[j]? = some (q.1, e) := by rw [List.getElem?_append_left hj]; exact h
      have := hD.1 j (w1.length + k) (q.1, e) q h4 (in2 k q hq) rfl
      omega
    · omega
  refine ⟨va_P.app hP1 (fun k q hq => ?_), va_D.app (hD1.weaken (fun k q _ h => hF q.1 h)) ⟨?_, ?_⟩ (fun i j x y hx hy hxy => ?_)⟩
  · obtain ⟨g1, g2⟩ := apart k q hq
    exact (hP _ q (in2 k q hq)).kept (hk q.1 g1 g2)
  · intro i j x y hx hy hxy
    have := hD.1 _ _ x y (in2 i x hx) (in2 j y hy) hxy
    omega
  · intro k q hq
    exact hD.2 _ q (in2 k q hq)
  · exact (apart j y hy).2 (by rw [← hxy]; exact hD1.2 i x hx)
theorem A_pre {A0 : Nat → Prop} {w1 w2 : va_W} {H0 H : Heap} {locs : List Loc} (hD : va_D A0 (w1 ++ w2)) (hS : va_S A0 H0 H locs) (hA : ∀ q, H0.size ≤ q → A0 q) : ∀ q, va_A w1 H.size q → A0 q := by
  intro q h
  rcases h with ⟨k, e, h⟩ | h
  · have hj : k < w1.length := (List.getElem?_eq_some_iff.mp h).1
    exact hD.2 k (q, e) (by rw [List.getElem?_append_left hj]; exact h)
  · exact hA q (Nat.le_trans hS.1 h)
theorem D_pre {A0 : Nat → Prop} {w1 w2 : va_W} (hD : va_D A0 (w1 ++ w2)) : va_D A0 w1 := by
  have up : ∀ (k : Nat) (q : Nat × va_E), w1[k]? = some q → (w1 ++ w2)[k]? = some q := by
    intro k q h
    rw [List.getElem?_append_left (List.getElem?_eq_some_iff.mp h).1]
    exact h
  exact ⟨fun i j x y hx hy h => hD.1 i j x y (up i x hx) (up j y hy) h, fun k q h => hD.2 k q (up k q h)⟩
theorem P_pre {D : va_G} {cl : List vw_C} {w1 w2 : va_W} {H : Heap} (hP : va_P D cl (w1 ++ w2) H) : va_P D cl w1 H := fun k q h => hP k q (by rw [List.getElem?_append_left (List.getElem?_eq_some_iff.mp h).1]; exact h)
theorem y_callMvOP {G : Gx} {K : Kx} {own : String} {cc : ByteArray} {rm : Room} {nL : Nat} {ret : Option FieldType} {k n pc : Nat} {w : va_W} {lv : List (Nat × Value)} {st : List Value} (C : KOk G K own cc rm nL ret) {A : Nat → Prop} (M : KM G K A) {mc ms k' n' : Nat} {y : MethodName} {bytes : ByteArray} {maxL index nn : Nat} {ret' : Option FieldType} {rm' : Room} {b : Nat} {As rest : List Value} {x : MethodName} {Cr owner : String} {w1 : va_W} (w2 : va_W) {S9 : Type} {wf : S9 → va_W} {Qp : S9 → Prop} (cs : CsO own index Cr owner x y bytes maxL ret' nn) (hM : MvA G y (ws_ y bytes maxL ret') rm' w1 (.ref b :: As) wf Qp mc ms) (hw : w = w1 ++ w2) {q0 ci : Nat} {qc : vw_C} {fs : List Value} (he : w1[q0]? = some (b, .inr (ci, fs))) (hc : vwCl[ci]? = some qc) (hC : qc.1 = Cr) (hrm : rm'.cells = mc ∧ rm'.slots = ms ∧ rm'.frames + 1 ≤ rm.frames ∧ 8 + (maxL + 11) + rm'.locals ≤ rm.locals) (hn : As.length = nn) (hst : st = As.reverse ++ .ref b :: rest) (hcat : (rest.map fun v => v.category).sum ≤ 8) (hdg : decode cc pc = .ok (.invokevirtual index, 3)) (hkn : k + mc ≤ rm.cells ∧ n + ms ≤ rm.slots) (hk' : k + mc = k') (hn' : n + ms = n') (kk : ∀ S : S9, Qp S → Y G K k' n' (wf S ++ w2) (pc + 3) lv rest) : Y G K k n w pc lv st := by
  subst hk' hn' hw
  obtain ⟨R, nL0, p, e, s, m, args, below, meth, c, Q, I⟩ := K
  obtain ⟨rfl, rfl, hx, hb, hr, hlk, hml, hown, hts, hKW⟩ := C
  obtain ⟨rfl, hA, hSF⟩ := M
  obtain ⟨b0, m0, r0, h0⟩ := cs.2.1
  subst hst
  intro H locs ls hP hI hl
  have hF := A_pre hI.1 hI.2 hA
  refine va_callv (va_runU (As := As) (rest := rest) (b := b) ⟨hx, hb, hml, hown, hts⟩ (hM H.size) (va_cwO nn hts cs.1 rfl hrm.1 hrm.2.1 h0 cs.2.2 hrm.2.2) ⟨pcM_blind, by rw [← hC]; exact va_recv hKW.1 (P_pre hP) hc he, fun U hU hW => ⟨rfl, by rw [hU], by rw [hU]; exact P_pre hP, hKW.warm hW, (D_pre hI.1).weaken (fun _ _ _ _ => trivial), by rw [hU]; exact hSF.call hI.2 hW hF⟩⟩ rfl hn hl.1 rfl (lv_room hcat) hdg ⟨hkn.1, hkn.2⟩) hI.2 (fun q _ h => hF q h) hF (fun S t H1 locs1 ht hvm hq hB hz1 hk1 hS => ?_)
  rw [BM, ht] at hB
  obtain ⟨j1, j2⟩ := join_pre hP hI.1 hk1 hF hB.1 hB.2.2
  exact kk S hq H1 locs1 ls j1 ⟨j2, hS⟩ hl
theorem y_cases12 {x : Int32} (h : ¬ (x.toInt < 0 ∨ 12 < x.toInt)) : x = 0 ∨ x = 1 ∨ x = 2 ∨ x = 3 ∨ x = 4 ∨ x = 5 ∨ x = 6 ∨ x = 7 ∨ x = 8 ∨ x = 9 ∨ x = 10 ∨ x = 11 ∨ x = 12 := by
  have h2 : x.toInt = 0 ∨ x.toInt = 1 ∨ x.toInt = 2 ∨ x.toInt = 3 ∨ x.toInt = 4 ∨ x.toInt = 5 ∨ x.toInt = 6 ∨ x.toInt = 7 ∨ x.toInt = 8 ∨ x.toInt = 9 ∨ x.toInt = 10 ∨ x.toInt = 11 ∨ x.toInt = 12 := by omega
  rcases h2 with h2 | h2 | h2 | h2 | h2 | h2 | h2 | h2 | h2 | h2 | h2 | h2 | h2
  · exact (Or.inl (Int32.toInt_inj.mp h2))
  · exact (Or.inr (Or.inl (Int32.toInt_inj.mp h2)))
  · exact (Or.inr (Or.inr (Or.inl (Int32.toInt_inj.mp h2))))
  · exact (Or.inr (Or.inr (Or.inr (Or.inl (Int32.toInt_inj.mp h2)))))
  · exact (Or.inr (Or.inr (Or.inr (Or.inr (Or.inl (Int32.toInt_inj.mp h2))))))
  · exact (Or.inr (Or.inr (Or.inr (Or.inr (Or.inr (Or.inl (Int32.toInt_inj.mp h2)))))))
  · exact (Or.inr (Or.inr (Or.inr (Or.inr (Or.inr (Or.inr (Or.inl (Int32.toInt_inj.mp h2))))))))
  · exact (Or.inr (Or.inr (Or.inr (Or.inr (Or.inr (Or.inr (Or.inr (Or.inl (Int32.toInt_inj.mp h2)))))))))
  · exact (Or.inr (Or.inr (Or.inr (Or.inr (Or.inr (Or.inr (Or.inr (Or.inr (Or.inl (Int32.toInt_inj.mp h2))))))))))
  · exact (Or.inr (Or.inr (Or.inr (Or.inr (Or.inr (Or.inr (Or.inr (Or.inr (Or.inr (Or.inl (Int32.toInt_inj.mp h2)))))))))))
  · exact (Or.inr (Or.inr (Or.inr (Or.inr (Or.inr (Or.inr (Or.inr (Or.inr (Or.inr (Or.inr (Or.inl (Int32.toInt_inj.mp h2))))))))))))
  · exact (Or.inr (Or.inr (Or.inr (Or.inr (Or.inr (Or.inr (Or.inr (Or.inr (Or.inr (Or.inr (Or.inr (Or.inl (Int32.toInt_inj.mp h2)))))))))))))
  · exact (Or.inr (Or.inr (Or.inr (Or.inr (Or.inr (Or.inr (Or.inr (Or.inr (Or.inr (Or.inr (Or.inr (Or.inr (Int32.toInt_inj.mp h2)))))))))))))
