/-! rows of references, and calls by parts of the world (printed by tools/mkref.py) -/
set_option maxRecDepth 100000
/-- a world cut in two -/
def Split (w wc wr : va_W) : Prop := ∃ isC isR : List Nat, isC.map (fun i => w[i]?) = wc.map some ∧ isR.map (fun i => w[i]?) = wr.map some ∧ va_nd isC = true ∧ va_nd isR = true ∧ ∀ i ∈ isR, i ∉ isC
theorem nd_range (a n : Nat) : va_nd ((List.range n).map (· + a)) = true := by
  induction n generalizing a with
  | zero => rfl
  | succ n ih =>
    rw [List.range_succ_eq_map, List.map_cons, List.map_map]
    have h : ((fun x => x + a) ∘ Nat.succ) = (· + (a + 1)) := by funext x; simp only [Function.comp_apply]; omega
    rw [h]
    simp only [va_nd, Bool.and_eq_true, decide_eq_true_eq]
    refine ⟨fun h => ?_, ih (a + 1)⟩
    obtain ⟨x, -, hx⟩ := List.mem_map.mp h
    omega
theorem map_range (w1 w2 w3 : va_W) : ((List.range w2.length).map (· + w1.length)).map (fun i => (w1 ++ (w2 ++ w3))[i]?) = w2.map some := by
  rw [List.map_map]
  refine List.ext_getElem? (fun j => ?_)
  by_cases h : j < w2.length
  · rw [List.getElem?_map, List.getElem?_map, List.getElem?_range h]
    simp only [Option.map_some, Function.comp_apply]
    rw [Nat.add_comm, List.getElem?_append_right (Nat.le_add_right _ _), Nat.add_sub_cancel_left, List.getElem?_append_left h, List.getElem?_eq_getElem h]
    rfl
  · rw [List.getElem?_map, List.getElem?_map, List.getElem?_eq_none (by simpa using h), List.getElem?_eq_none (by simpa using h)]
    rfl
theorem split_app (w1 w2 : va_W) : Split (w1 ++ w2) w1 w2 := by
  refine ⟨(List.range w1.length).map (· + 0), (List.range w2.length).map (· + w1.length), ?_, ?_, nd_range _ _, nd_range _ _, ?_⟩
  · exact map_range [] w1 w2
  · have h := map_range w1 w2 []
    rw [List.append_nil] at h
    exact h
  · intro i hi hj
    obtain ⟨x, -, hx⟩ := List.mem_map.mp hi
    obtain ⟨z, hz, hy⟩ := List.mem_map.mp hj
    have := List.mem_range.mp hz
    omega
theorem split_app2 (w1 w2 : va_W) : Split (w1 ++ w2) w2 w1 := by
  obtain ⟨c, r, h1, h2, h3, h4, h5⟩ := split_app w1 w2
  exact ⟨r, c, h2, h1, h4, h3, fun i hi hj => h5 i hj hi⟩
theorem split_mid (w1 w2 w3 : va_W) : Split (w1 ++ (w2 ++ w3)) w2 (w1 ++ w3) := by
  refine ⟨(List.range w2.length).map (· + w1.length), (List.range w1.length).map (· + 0) ++ (List.range w3.length).map (· + (w1.length + w2.length)), map_range w1 w2 w3, ?_, nd_range _ _, ?_, ?_⟩
  · have h := map_range (w1 ++ w2) w3 []
    rw [List.append_nil, List.append_assoc, List.length_append] at h
    rw [List.map_append, List.map_append]
    exact congr (congrArg (· ++ ·) (map_range [] w1 (w2 ++ w3))) h
  · have key : ∀ (l1 l2 : List Nat), va_nd l1 = true → va_nd l2 = true → (∀ x ∈ l1, x ∉ l2) → va_nd (l1 ++ l2) = true := by
      intro l1
      induction l1 with
      | nil => intro l2 _ h _; exact h
      | cons a l ih =>
        intro l2 h1 h2 h3
        simp only [va_nd, Bool.and_eq_true, decide_eq_true_eq] at h1
        simp only [List.cons_append, va_nd, Bool.and_eq_true, decide_eq_true_eq, List.mem_append, not_or]
        exact ⟨⟨h1.1, h3 a List.mem_cons_self⟩, ih l2 h1.2 h2 (fun x hx => h3 x (List.mem_cons_of_mem _ hx))⟩
    refine key _ _ (nd_range _ _) (nd_range _ _) (fun x h1 h2 => ?_)
    obtain ⟨z, hz, hy⟩ := List.mem_map.mp h1
    obtain ⟨x9, -, hx9⟩ := List.mem_map.mp h2
    have := List.mem_range.mp hz
    omega
  · intro i hi hj
    obtain ⟨z, hz, hy⟩ := List.mem_map.mp hj
    have := List.mem_range.mp hz
    rcases List.mem_append.mp hi with h | h
    · obtain ⟨x9, h9, hx9⟩ := List.mem_map.mp h
      have := List.mem_range.mp h9
      omega
    · obtain ⟨x9, h9, hx9⟩ := List.mem_map.mp h
      omega
theorem part_P {G : Gx} {w w' : va_W} {H : Heap} (hP : PW G w H) (is : List Nat) (hC : is.map (fun i => w[i]?) = w'.map some) : PW G w' H := fun j q hq => by
  have h1 : (is.map (fun i => w[i]?))[j]? = some (some q) := by rw [hC, List.getElem?_map, hq]; rfl
  rw [List.getElem?_map] at h1
  cases hi : is[j]? with
  | none => rw [hi] at h1; cases h1
  | some i => rw [hi] at h1; exact hP i q (Option.some.inj h1)
/-- only a part of the world, in another order -/
theorem Y.part {G : Gx} {K : Kx} {k n pc : Nat} {w w' : va_W} {lv : List (Nat × Value)} {st : List Value} {A : Nat → Prop} (M : KM G K A) (is : List Nat) (hn : va_nd is = true) (hC : is.map (fun i => w[i]?) = w'.map some) (kk : Y G K k n w' pc lv st) : Y G K k n w pc lv st := by
  obtain ⟨R, nL0, p, e, s, m, args, below, meth, c, Q, I⟩ := K
  obtain ⟨rfl, hA, hSF⟩ := M
  intro H locs ls hP hI hl
  exact kk H locs ls (part_P hP is hC) ⟨hI.1.sub is hn hC, hI.2⟩ hl
theorem Y.swap {G : Gx} {K : Kx} {k n pc : Nat} {w1 w2 : va_W} {lv : List (Nat × Value)} {st : List Value} {A : Nat → Prop} (M : KM G K A) (kk : Y G K k n (w2 ++ w1) pc lv st) : Y G K k n (w1 ++ w2) pc lv st := by
  refine Y.part M ((List.range w2.length).map (· + w1.length) ++ (List.range w1.length).map (· + 0)) ?_ ?_ kk
  · have key : ∀ (l1 l2 : List Nat), va_nd l1 = true → va_nd l2 = true → (∀ x ∈ l1, x ∉ l2) → va_nd (l1 ++ l2) = true := by
      intro l1
      induction l1 with
      | nil => intro l2 _ h _; exact h
      | cons a l ih =>
        intro l2 h1 h2 h3
        simp only [va_nd, Bool.and_eq_true, decide_eq_true_eq] at h1
        simp only [List.cons_append, va_nd, Bool.and_eq_true, decide_eq_true_eq, List.mem_append, not_or]
        exact ⟨⟨h1.1, h3 a List.mem_cons_self⟩, ih l2 h1.2 h2 (fun x hx => h3 x (List.mem_cons_of_mem _ hx))⟩
    refine key _ _ (nd_range _ _) (nd_range _ _) (fun x h1 h2 => ?_)
    obtain ⟨z, -, hy⟩ := List.mem_map.mp h1
    obtain ⟨x9, h9, hx9⟩ := List.mem_map.mp h2
    have := List.mem_range.mp h9
    omega
  · have h := map_range w1 w2 []
    rw [List.append_nil] at h
    rw [List.map_append, List.map_append]
    exact congr (congrArg (· ++ ·) h) (map_range [] w1 w2)
theorem D_pw {A : Nat → Prop} {w : va_W} : va_D A w ↔ (w.Pairwise (fun p q => p.1 ≠ q.1) ∧ ∀ p ∈ w, A p.1) := by
  constructor
  · intro h
    refine ⟨List.pairwise_iff_getElem.mpr (fun i j hi hj hij e => ?_), fun p hp => ?_⟩
    · have := h.1 i j _ _ (List.getElem?_eq_getElem hi) (List.getElem?_eq_getElem hj) e
      omega
    · obtain ⟨i, hi⟩ := List.getElem?_of_mem hp
      exact h.2 i p hi
  · intro h
    refine ⟨fun i j p q hp hq e => ?_, fun i p hp => h.2 p (List.mem_of_getElem? hp)⟩
    obtain ⟨hi, rfl⟩ := List.getElem?_eq_some_iff.mp hp
    obtain ⟨hj, rfl⟩ := List.getElem?_eq_some_iff.mp hq
    have hpw := List.pairwise_iff_getElem.mp h.1
    rcases Nat.lt_trichotomy i j with h1 | h1 | h1
    · exact absurd e (hpw i j hi hj h1)
    · exact h1
    · exact absurd e.symm (hpw j i hj hi h1)
theorem P_mem {G : Gx} {w : va_W} {H : Heap} : PW G w H ↔ ∀ p ∈ w, va_at G.2.1 vwCl p H := by
  constructor
  · intro h p hp
    obtain ⟨i, hi⟩ := List.getElem?_of_mem hp
    exact h i p hi
  · exact fun h i p hp => h p (List.mem_of_getElem? hp)
theorem blk_mem {bs : List va_W} {is : List Nat} {p : Nat × va_E} (h : p ∈ (is.filterMap (fun i => bs[i]?)).flatten) : p ∈ bs.flatten := by
  obtain ⟨l, hl, hp⟩ := List.mem_flatten.mp h
  obtain ⟨i, -, hi⟩ := List.mem_filterMap.mp hl
  exact List.mem_flatten.mpr ⟨l, List.mem_of_getElem? hi, hp⟩
theorem blk_D {A : Nat → Prop} {bs : List va_W} (is : List Nat) (hn : va_nd is = true) (h : va_D A bs.flatten) : va_D A (is.filterMap (fun i => bs[i]?)).flatten := by
  obtain ⟨h1, h2⟩ := D_pw.mp h
  obtain ⟨h3, h4⟩ := List.pairwise_flatten.mp h1
  refine D_pw.mpr ⟨List.pairwise_flatten.mpr ⟨fun l hl => ?_, ?_⟩, fun p hp => h2 p (blk_mem hp)⟩
  · obtain ⟨i, -, hi⟩ := List.mem_filterMap.mp hl
    exact h3 l (List.mem_of_getElem? hi)
  · have hpw := List.pairwise_iff_getElem.mp h4
    clear h1 h3 h4 h2 h
    induction is with
    | nil => exact List.Pairwise.nil
    | cons a l ih =>
      simp only [va_nd, Bool.and_eq_true, decide_eq_true_eq] at hn
      rw [List.filterMap_cons]
      cases ha : bs[a]? with
      | none => exact ih hn.2
      | some b =>
        refine List.Pairwise.cons (fun c hc x hx y hy e => ?_) (ih hn.2)
        obtain ⟨i, hi, hic⟩ := List.mem_filterMap.mp hc
        obtain ⟨ha1, rfl⟩ := List.getElem?_eq_some_iff.mp ha
        obtain ⟨hi1, rfl⟩ := List.getElem?_eq_some_iff.mp hic
        rcases Nat.lt_trichotomy a i with h1 | h1 | h1
        · exact hpw a i ha1 hi1 h1 x hx y hy e
        · exact hn.1 (h1 ▸ hi)
        · exact hpw i a hi1 ha1 h1 y hy x hx e.symm
/-- blocks of the world, in another order, or fewer -/
theorem Y.blk {G : Gx} {K : Kx} {k n pc : Nat} {w w' : va_W} {lv : List (Nat × Value)} {st : List Value} {A : Nat → Prop} (M : KM G K A) (bs : List va_W) (is : List Nat) (hw : w = bs.flatten) (hn : va_nd is = true) (hw' : (is.filterMap (fun i => bs[i]?)).flatten = w') (kk : Y G K k n w' pc lv st) : Y G K k n w pc lv st := by
  subst hw hw'
  obtain ⟨R, nL0, p, e, s, m, args, below, meth, c, Q, I⟩ := K
  obtain ⟨rfl, hA, hSF⟩ := M
  intro H locs ls hP hI hl
  exact kk H locs ls (P_mem.mpr (fun p hp => P_mem.mp hP p (blk_mem hp))) ⟨blk_D is hn hI.1, hI.2⟩ hl
theorem map_at {w e : va_W} {is : List Nat} {v : va_W} (h : is.map (fun i => e[i]?) = v.map some) : ∀ i ∈ is, i < e.length := by
  intro i hi
  have h1 : e[i]? ∈ is.map (fun i => e[i]?) := List.mem_map.mpr ⟨i, hi, rfl⟩
  rw [h] at h1
  obtain ⟨x, -, hx⟩ := List.mem_map.mp h1
  exact (List.getElem?_eq_some_iff.mp hx.symm).1
theorem map_left {e T : va_W} {is : List Nat} (h : ∀ i ∈ is, i < e.length) : is.map (fun i => (e ++ T)[i]?) = is.map (fun i => e[i]?) :=
  List.map_congr_left (fun i hi => List.getElem?_append_left (h i hi))
theorem nd_app : ∀ (l1 l2 : List Nat), va_nd l1 = true → va_nd l2 = true → (∀ x ∈ l1, x ∉ l2) → va_nd (l1 ++ l2) = true
  | [], _, _, h, _ => h
  | a :: l, l2, h1, h2, h3 => by
    simp only [va_nd, Bool.and_eq_true, decide_eq_true_eq] at h1
    simp only [List.cons_append, va_nd, Bool.and_eq_true, decide_eq_true_eq, List.mem_append, not_or]
    exact ⟨⟨h1.1, h3 a List.mem_cons_self⟩, nd_app l l2 h1.2 h2 (fun x hx => h3 x (List.mem_cons_of_mem _ hx))⟩
theorem split_tail {e wc wr : va_W} (T : va_W) (h : Split e wc wr) : Split (e ++ T) wc (wr ++ T) := by
  obtain ⟨isC, isR, hC, hR, hnC, hnR, hdis⟩ := h
  have bC := map_at (w := e) hC
  have bR := map_at (w := e) hR
  refine ⟨isC, isR ++ (List.range T.length).map (· + e.length), (map_left bC).trans hC, ?_, hnC, nd_app _ _ hnR (nd_range _ _) (fun x h1 h2 => ?_), fun i hi hj => ?_⟩
  · have h := map_range e T []
    rw [List.append_nil] at h
    rw [List.map_append, List.map_append, map_left bR, hR]
    exact congrArg (wr.map some ++ ·) h
  · have := bR x h1
    obtain ⟨y, -, hy⟩ := List.mem_map.mp h2
    omega
  · rcases List.mem_append.mp hi with h | h
    · exact hdis i h hj
    · have := bC i hj
      obtain ⟨y, -, hy⟩ := List.mem_map.mp h
      omega
theorem Y.rot {G : Gx} {K : Kx} {k n pc : Nat} {w1 w2 w3 : va_W} {lv : List (Nat × Value)} {st : List Value} {A : Nat → Prop} (M : KM G K A) (kk : Y G K k n ((w1 ++ w3) ++ w2) pc lv st) : Y G K k n ((w1 ++ w2) ++ w3) pc lv st :=
  Y.blk M [w1, w2, w3] [0, 2, 1] (by simp) (by decide) (by simp) kk
def MqA {S9 : Type} (G : Gx) (y : MethodName) (ws : List Cond) (rm : Room) (w : va_W) (av : List Value) (wf : S9 → va_W) (Qp : Option Nat → S9 → Prop) (mc ms : Nat) : Prop := ∀ sz : Nat, Met G.1 y ws rm (PcM G w av sz) (va_Qq Qp (BM G (va_A w sz) wf) (va_A w sz)) mc ms (va_A w sz)
def KQqA {S9 : Type} (G : Gx) (K : Kx) (A : Nat → Prop) (wf : S9 → va_W) (Qp : Option Nat → S9 → Prop) (mc ms : Nat) : Prop :=
  match K with
  | (R, nL0, p, e, s, m, args, below, meth, c, Q, I) => Q = MQ below (va_Qq Qp (BM G A wf) A) args s mc ms A
theorem y_aretM {k n mc ms : Nat} {G : Gx} {K : Kx} {own : String} {cc : ByteArray} {rm : Room} {nL : Nat} {ret : Option FieldType} {pc : Nat} {w : va_W} {lv : List (Nat × Value)} (C : KOk G K own cc rm nL ret) {A : Nat → Prop} (M : KM G K A) {S9 : Type} {wf : S9 → va_W} {Qp : Option Nat → S9 → Prop} (N : KQqA G K A wf Qp mc ms) {rt : FieldType} (hret : ret = some rt) (hrt : (∃ n, rt = .object n) ∨ ∃ t, rt = .array t) (v : Option Nat) {S : S9} (hw : w = wf S) (hq : Qp v S) (hdg : decode cc pc = .ok (.areturn, 1)) (hkn : k ≤ mc ∧ n ≤ ms) : Y G K k n w pc lv [va_rf v] := by
  obtain ⟨R, nL0, p, e, s, m, args, below, meth, c, Q, I⟩ := K
  obtain ⟨rfl, rfl, hx, hb, hr, hlk, hml, hown, hts, hKW⟩ := C
  obtain ⟨rfl, hA, hSF⟩ := M
  subst N
  subst hw
  intro H locs ls hP hI hl
  exact W.widen hkn.1 hkn.2 <| W.aret hx hb (hr.trans hret) hrt (va_rf_or v) (fun t ht hW => ⟨⟨v, S, rfl, hq, ⟨by rw [ht]; exact hP, hKW.warm hW, hI.1⟩⟩, hI.2.F ht⟩) hI.2.2.2 hdg hlk
theorem ent_Mq {G : Gx} {y : MethodName} {own : String} {cc : ByteArray} {nL : Nat} {ret : Option FieldType} {rm : Room} {w : va_W} {av : List Value} {mc ms : Nat} {S9 : Type} {wf : S9 → va_W} {Qp : Option Nat → S9 → Prop} (hy : plainFor y = true) (hown : y.cls = own) (hlen : (lg_sl av).length ≤ nL) (lv : List (Nat × Value)) (hlv : lv_args 0 av = lv) (body : ∀ (K : Kx) (A : Nat → Prop), KOk G K own cc rm nL ret → KM G K A → KQqA G K A wf Qp mc ms → Y G K 0 0 w 0 lv []) : MqA G y (ws_ y cc nL ret) rm w av wf Qp mc ms := by
  intro sz
  refine va_MetF (cc := cc) (maxL := nL) (ret := ret) hy rfl ?_
  intro p e s m args below meth c s₁ B hml hv
  obtain ⟨rfl, rfl, hP, hKW, hD0, hSF⟩ := hv
  subst hlv
  subst hown
  have hts := atoms_spec (ws := ws_ y cc nL ret) B.pre
  have hts : ∀ w ∈ lw_all, w.before _ s = true := fun w h => hts w (List.mem_cons_of_mem _ h)
  have hown : s.vm.findClass y.cls = some m.cls := findClass_of_methodNamed B.named
  rw [lg_entry_eq]
  exact body ((headSpec (ws_ y cc nL ret) rm).room, nL, p, e, s, m, av.toArray, below, meth, c, MQ below (va_Qq Qp (BM G (va_A w s.heap.size) wf) (va_A w s.heap.size)) av.toArray s mc ms (va_A w s.heap.size), fun w' H locs => va_D (va_A w s.heap.size) w' ∧ va_S (va_A w s.heap.size) s.heap H locs) (va_A w s.heap.size) ⟨rfl, rfl, B.exec, B.bytes, B.returns, B.notSynchronized, hml, hown, hts, hKW⟩ ⟨rfl, fun q h => Or.inr h, hSF⟩ rfl s.heap [] _ hP ⟨hD0.self, va_S.rf⟩ (lv_entry av hlen)
theorem arrV_congr {cA : ClassId} {N : Nat} {f g : Nat → Value} (h : ∀ k, k < N → f k = g k) : arrV cA N f = arrV cA N g := by
  have e : (fun j : Fin N => f j.val) = fun j : Fin N => g j.val := by funext j; exact h j.val j.isLt
  unfold arrV
  rw [e]
/-- what an array of references is, may be said otherwise -/
theorem Y.cellq {G : Gx} {K : Kx} {k n pc : Nat} {w w' : va_W} {lv : List (Nat × Value)} {st : List Value} {A : Nat → Prop} (M : KM G K A) {a N q0 : Nat} {cA : ClassId} {f : Nat → Option Nat} (g : Nat → Option Nat) (he : w[q0]? = some (a, .inl (cA, N, .inr (.inr (.inr (.inr f)))))) (hfg : ∀ k, k < N → f k = g k) (hw' : w.set q0 (a, .inl (cA, N, .inr (.inr (.inr (.inr g))))) = w') (kk : Y G K k n w' pc lv st) : Y G K k n w pc lv st := by
  subst hw'
  obtain ⟨R, nL0, p, e, s, m, args, below, meth, c, Q, I⟩ := K
  obtain ⟨rfl, hA, hSF⟩ := M
  intro H locs ls hP hI hl
  have hq : q0 < w.length := (List.getElem?_eq_some_iff.mp he).1
  refine kk H locs ls (fun j q hj => ?_) ⟨hI.1.set he, hI.2⟩ hl
  by_cases e : q0 = j
  · subst e
    rw [List.getElem?_set_self hq] at hj
    cases hj
    have h1 := hP q0 _ he
    show H[a]? = some (vp_cell cA (N, .inr (.inr (.inr (.inr g)))))
    have h2 : H[a]? = some (vp_cell cA (N, .inr (.inr (.inr (.inr f))))) := h1
    rw [h2]
    have h3 : arrV cA N (fun j => va_rf (f j)) = arrV cA N (fun j => va_rf (g j)) := arrV_congr (fun k hk => by rw [hfg k hk])
    exact congrArg some h3
  · rw [List.getElem?_set_ne e] at hj
    exact hP j q hj
theorem cat_rf (o : Option Nat) : (va_rf o).category = 1 := by cases o <;> rfl
theorem y_gets {G : Gx} {K : Kx} {own : String} {cc : ByteArray} {rm : Room} {nL : Nat} {ret : Option FieldType} {k n pc : Nat} {w : va_W} {lv : List (Nat × Value)} {st : List Value} (C : KOk G K own cc rm nL ret) {A : Nat → Prop} (M : KM G K A) {Cn nm d ref : String} {v : Value} {index : Nat} (hZ : ∀ (A : Nat → Prop) (U : State) (H : Heap), SF G A U H → va_Z Cn nm d v A U H) (hq : Cond.fieldLink own index ref nm d ∈ lw_all) (hsame : ∀ (s : State) x, s.fieldFound? Cn nm d = some x → s.fieldFound? ref nm d = some x) (hdg : decode cc pc = .ok (.getstatic index, 3)) (kk : Y G K k n w (pc + 3) lv (v :: st)) : Y G K k n w pc lv st := by
  obtain ⟨R, nL0, p, e, s, m, args, below, meth, c, Q, I⟩ := K
  obtain ⟨rfl, rfl, hx, hb, hr, hlk, hml, hown, hts, hKW⟩ := C
  obtain ⟨rfl, hA, hSF⟩ := M
  intro H locs ls hP hI hl
  exact va_gets hx hb (hZ _ _ _ hSF) hI.2 hown (hts _ hq) (hsame s) hdg (kk H locs ls hP hI hl)
theorem y_getsq {G : Gx} {K : Kx} {own : String} {cc : ByteArray} {rm : Room} {nL : Nat} {ret : Option FieldType} {k n pc : Nat} {w : va_W} {lv : List (Nat × Value)} {st : List Value} (C : KOk G K own cc rm nL ret) {A : Nat → Prop} (M : KM G K A) {Cn nm d ref : String} {index : Nat} (hZ : ∀ (A : Nat → Prop) (U : State) (H : Heap), SF G A U H → va_Zq Cn nm d A U H) (hq : Cond.fieldLink own index ref nm d ∈ lw_all) (hsame : ∀ (s : State) x, s.fieldFound? Cn nm d = some x → s.fieldFound? ref nm d = some x) (hdg : decode cc pc = .ok (.getstatic index, 3)) (kk : ∀ o : Option Nat, Y G K k n w (pc + 3) lv (va_rf o :: st)) : Y G K k n w pc lv st := by
  obtain ⟨R, nL0, p, e, s, m, args, below, meth, c, Q, I⟩ := K
  obtain ⟨rfl, rfl, hx, hb, hr, hlk, hml, hown, hts, hKW⟩ := C
  obtain ⟨rfl, hA, hSF⟩ := M
  intro H locs ls hP hI hl
  rcases hZ _ _ _ hSF with h | ⟨t, h⟩
  · exact va_gets hx hb h hI.2 hown (hts _ hq) (hsame s) hdg (kk none H locs ls hP hI hl)
  · exact va_gets hx hb h hI.2 hown (hts _ hq) (hsame s) hdg (kk (some t) H locs ls hP hI hl)
theorem y_getS {G : Gx} {K : Kx} {own : String} {cc : ByteArray} {rm : Room} {nL : Nat} {ret : Option FieldType} {k n pc : Nat} {w : va_W} {lv : List (Nat × Value)} {st : List Value} (C : KOk G K own cc rm nL ret) {ref Cn : String} {T : u_T} {N ci index a q0 : Nat} (hin : ∀ w ∈ u_ws Cn T N, w ∈ lw_all) {fs : List Value} (he : w[q0]? = some (a, .inr (ci, fs))) (hc : vwCl[ci]? = some (Cn, T, N)) (kf : Nat) (hk : kf < N) (hq : Cond.fieldLink own index ref (T kf).2.1 (T kf).2.2.1 ∈ lw_all) (hsf : Cond.sameField ref (T kf).1 (T kf).2.1 (T kf).2.2.1 ∈ lw_all) {v : Value} (hv : fs[kf]? = some v) (hdg : decode cc pc = .ok (.getfield index, 3)) (kk : Y G K k n w (pc + 3) lv (v :: st)) : Y G K k n w pc lv (.ref a :: st) := by
  obtain ⟨R, nL0, p, e, s, m, args, below, meth, c, Q, I⟩ := K
  obtain ⟨rfl, rfl, hx, hb, hr, hlk, hml, hown, hts, hKW⟩ := C
  intro H locs ls hP hI hl
  exact va_get hx hb hts hin hown hKW.1 hP q0 he hc kf hk (hts _ hq) (u_same (hts _ hsf)) hv hdg (kk H locs ls hP hI hl)
theorem y_putS {G : Gx} {K : Kx} {own : String} {cc : ByteArray} {rm : Room} {nL : Nat} {ret : Option FieldType} {k n pc : Nat} {w : va_W} {lv : List (Nat × Value)} {st : List Value} (C : KOk G K own cc rm nL ret) {A : Nat → Prop} (M : KM G K A) {ref Cn : String} {T : u_T} {N ci index a q0 : Nat} (hin : ∀ w ∈ u_ws Cn T N, w ∈ lw_all) {fs : List Value} (he : w[q0]? = some (a, .inr (ci, fs))) (hc : vwCl[ci]? = some (Cn, T, N)) (kf : Nat) (hk : kf < N) (ty0 : Nat → FieldType) (hty : ∀ k, k < N → parseFieldDescriptor (T k).2.2.1 = some (ty0 k)) (hnm : ∀ b, b < N → b ≠ kf → (T kf).2.1 ≠ (T b).2.1) (hq : Cond.fieldLink own index ref (T kf).2.1 (T kf).2.2.1 ∈ lw_all) (hsf : Cond.sameField ref (T kf).1 (T kf).2.1 (T kf).2.2.1 ∈ lw_all) (hfin : (T kf).2.2.2 = false) {ty : FieldType} {v : Value} (hd : parseFieldDescriptor (T kf).2.2.1 = some ty) (hn : narrow ty v = v) (hfit : fits ty v = true) (hl0 : kf < fs.length) {w' : va_W} (hw' : w.set q0 (a, .inr (ci, fs.set kf v)) = w') (hdg : decode cc pc = .ok (.putfield index, 3)) (kk : Y G K k n w' (pc + 3) lv st) : Y G K k n w pc lv (v :: .ref a :: st) := by
  obtain ⟨R, nL0, p, e, s, m, args, below, meth, c, Q, I⟩ := K
  obtain ⟨rfl, rfl, hx, hb, hr, hlk, hml, hown, hts, hKW⟩ := C
  obtain ⟨rfl, hA, hSF⟩ := M
  subst hw'
  intro H locs ls hP hI hl
  exact zz_put hx hb hts hin ty0 hty hown hKW.1 hP hI.1 hI.2 q0 he hc kf hk hnm (hts _ hq) (u_same (hts _ hsf)) hfin hd hn hfit hl0 hdg (fun H1 locs1 hP hD hS => kk H1 locs1 ls hP ⟨hD, hS⟩ hl)
theorem y_aast {G : Gx} {K : Kx} {own : String} {cc : ByteArray} {rm : Room} {nL : Nat} {ret : Option FieldType} {k n pc : Nat} {w : va_W} {lv : List (Nat × Value)} {st : List Value} (C : KOk G K own cc rm nL ret) {A : Nat → Prop} (M : KM G K A) {a v q0 qk ci N j t0 : Nat} {cA : ClassId} {r : vw_C} {vs : List Value} {f : Nat → Option Nat} (ha : w[q0]? = some (a, .inl (cA, N, .inr (.inr (.inr (.inr f)))))) (ht : (tysG G)[t0]? = some (cA, .object r.1)) (hv : w[qk]? = some (v, .inr (ci, vs))) (hc : vwCl[ci]? = some r) {i : Int32} (hj : i.toNatClampNeg = j) {w' : va_W} (hw' : w.set q0 (a, .inl (cA, N, .inr (.inr (.inr (.inr (va_up f j (some v))))))) = w') (hin : vp_in i N) (hdg : decode cc pc = .ok (.aastore, 1)) (kk : Y G K k n w' (pc + 1) lv st) : Y G K k n w pc lv (.ref v :: .int i :: .ref a :: st) := by
  subst hj hw'
  obtain ⟨R, nL0, p, e, s, m, args, below, meth, c, Q, I⟩ := K
  obtain ⟨rfl, rfl, hx, hb, hr, hlk, hml, hown, hts, hKW⟩ := C
  obtain ⟨rfl, hA, hSF⟩ := M
  intro H locs ls hP hI hl
  exact va_astq hx hb hKW.1 hP hI.1 hI.2 q0 t0 qk ci ha ht hv hc hin hdg (fun H1 locs1 hP hD hS => kk H1 locs1 ls hP ⟨hD, hS⟩ hl)
theorem y_aastO {G : Gx} {K : Kx} {own : String} {cc : ByteArray} {rm : Room} {nL : Nat} {ret : Option FieldType} {k n pc : Nat} {w : va_W} {lv : List (Nat × Value)} {st : List Value} (C : KOk G K own cc rm nL ret) {A : Nat → Prop} (M : KM G K A) {a v q0 qk ci N j t0 : Nat} {cA : ClassId} {r : vw_C} {E : String} {vs : List Value} {f : Nat → Option Nat} (ha : w[q0]? = some (a, .inl (cA, N, .inr (.inr (.inr (.inr f)))))) (ht : (tysG G)[t0]? = some (cA, .object E)) (hca : Cond.castable r.1 E ∈ lw_tbl) (hv : w[qk]? = some (v, .inr (ci, vs))) (hc : vwCl[ci]? = some r) {i : Int32} (hj : i.toNatClampNeg = j) {w' : va_W} (hw' : w.set q0 (a, .inl (cA, N, .inr (.inr (.inr (.inr (va_up f j (some v))))))) = w') (hin : vp_in i N) (hdg : decode cc pc = .ok (.aastore, 1)) (kk : Y G K k n w' (pc + 1) lv st) : Y G K k n w pc lv (.ref v :: .int i :: .ref a :: st) := by
  subst hj hw'
  obtain ⟨R, nL0, p, e, s, m, args, below, meth, c, Q, I⟩ := K
  obtain ⟨rfl, rfl, hx, hb, hr, hlk, hml, hown, hts, hKW⟩ := C
  obtain ⟨rfl, hA, hSF⟩ := M
  intro H locs ls hP hI hl
  exact va_astqO hx hb hKW.1 hP hI.1 hI.2 q0 t0 qk ci ha ht (hKW.2.1 _ hca rfl) hv hc hin hdg (fun H1 locs1 hP hD hS => kk H1 locs1 ls hP ⟨hD, hS⟩ hl)
theorem y_aastN {G : Gx} {K : Kx} {own : String} {cc : ByteArray} {rm : Room} {nL : Nat} {ret : Option FieldType} {k n pc : Nat} {w : va_W} {lv : List (Nat × Value)} {st : List Value} (C : KOk G K own cc rm nL ret) {A : Nat → Prop} (M : KM G K A) {a q0 N j t0 : Nat} {cA : ClassId} {E : String} {f : Nat → Option Nat} (ha : w[q0]? = some (a, .inl (cA, N, .inr (.inr (.inr (.inr f)))))) (ht : (tysG G)[t0]? = some (cA, .object E)) {i : Int32} (hj : i.toNatClampNeg = j) {w' : va_W} (hw' : w.set q0 (a, .inl (cA, N, .inr (.inr (.inr (.inr (va_up f j none)))))) = w') (hin : vp_in i N) (hdg : decode cc pc = .ok (.aastore, 1)) (kk : Y G K k n w' (pc + 1) lv st) : Y G K k n w pc lv (.null :: .int i :: .ref a :: st) := by
  subst hj hw'
  obtain ⟨R, nL0, p, e, s, m, args, below, meth, c, Q, I⟩ := K
  obtain ⟨rfl, rfl, hx, hb, hr, hlk, hml, hown, hts, hKW⟩ := C
  obtain ⟨rfl, hA, hSF⟩ := M
  intro H locs ls hP hI hl
  exact va_astqN hx hb hKW.1 hP hI.1 hI.2 q0 t0 ha ht hin hdg (fun H1 locs1 hP hD hS => kk H1 locs1 ls hP ⟨hD, hS⟩ hl)
theorem y_aald {G : Gx} {K : Kx} {own : String} {cc : ByteArray} {rm : Room} {nL : Nat} {ret : Option FieldType} {k n pc : Nat} {w : va_W} {lv : List (Nat × Value)} {st : List Value} (C : KOk G K own cc rm nL ret) {a q0 N j t0 : Nat} {cA : ClassId} {E : String} {f : Nat → Option Nat} (ha : w[q0]? = some (a, .inl (cA, N, .inr (.inr (.inr (.inr f)))))) (ht : (tysG G)[t0]? = some (cA, .object E)) {i : Int32} (hj : i.toNatClampNeg = j) (hin : vp_in i N) (hdg : decode cc pc = .ok (.aaload, 1)) (kk : Y G K k n w (pc + 1) lv (va_rf (f j) :: st)) : Y G K k n w pc lv (.int i :: .ref a :: st) := by
  subst hj
  obtain ⟨R, nL0, p, e, s, m, args, below, meth, c, Q, I⟩ := K
  obtain ⟨rfl, rfl, hx, hb, hr, hlk, hml, hown, hts, hKW⟩ := C
  intro H locs ls hP hI hl
  exact va_aldq hx hb hKW.1 hP q0 t0 ha ht hin hdg (kk H locs ls hP hI hl)
theorem y_newq {G : Gx} {K : Kx} {own : String} {cc : ByteArray} {rm : Room} {nL : Nat} {ret : Option FieldType} {k n pc : Nat} {w : va_W} {lv : List (Nat × Value)} {st : List Value} (C : KOk G K own cc rm nL ret) {A : Nat → Prop} (M : KM G K A) {E : String} {index k' n' : Nat} (t0 : Nat) {cA : ClassId} (ht : (tysG G)[t0]? = some (cA, .object E)) (hq : Cond.classLink own index E ∈ lw_all) (hAO : ∀ (A : Nat → Prop) (U : State) (H : Heap), SF G A U H → va_AO E U) {x : Int32} {N' : Nat} (hx0 : ¬ x < 0) (hN : x.toNatClampNeg = N') (hbytes : N' * 4 ≤ 536870912) (hkn : k + 1 ≤ rm.cells ∧ n + N' ≤ rm.slots) (hdg : decode cc pc = .ok (.anewarray index, 3)) (hk' : k + 1 = k') (hn' : n + N' = n') (wf : Nat → va_W) (hwf : ∀ q, w ++ [(q, .inl (cA, N', .inr (.inr (.inr (.inr (fun _ => none))))))] = wf q) (kk : ∀ q : Nat, Y G K k' n' (wf q) (pc + 3) lv (.ref q :: st)) : Y G K k n w pc lv (.int x :: st) := by
  subst hk' hn'
  obtain ⟨R, nL0, p, e, s, m, args, below, meth, c, Q, I⟩ := K
  obtain ⟨rfl, rfl, hx, hb, hr, hlk, hml, hown, hts, hKW⟩ := C
  obtain ⟨rfl, hA, hSF⟩ := M
  intro H locs ls hP hI hl
  refine va_newq hx hb hown (hts _ hq) (hAO _ _ _ hSF) hKW.1 hP hI.1 hI.2 hA hx0 hN hbytes hkn.1 hkn.2 hdg (fun q cB H1 hK1 hP hD hS => ?_)
  have e1 := (hK1.2 7 (cB, .object E) rfl).2
  have e2 := (hKW.1.2 t0 _ ht).2
  obtain ⟨-, -, -, -, -, e1⟩ := e1
  obtain ⟨-, -, -, -, -, e2⟩ := e2
  have e : cB = cA := Option.some.inj (e1.symm.trans e2)
  subst e
  rw [hwf] at hP hD
  exact kk q H1 locs ls hP ⟨hD, hS⟩ hl
theorem y_ifnonnull {G : Gx} {K : Kx} {own : String} {cc : ByteArray} {rm : Room} {nL : Nat} {ret : Option FieldType} {k n pc : Nat} {w : va_W} {lv : List (Nat × Value)} {st : List Value} (C : KOk G K own cc rm nL ret) {x tgt : Nat} {off : Int} (hdg : decode cc pc = .ok (.ifnonnull off, 3)) (ht : (pc : Int) + off = (tgt : Int)) (kk : Y G K k n w tgt lv st) : Y G K k n w pc lv (.ref x :: st) := by
  obtain ⟨R, nL0, p, e, s, m, args, below, meth, c, Q, I⟩ := K
  obtain ⟨rfl, rfl, hx, hb, hr, hlk, hml, hown, hts, hKW⟩ := C
  intro H locs ls hP hI hl
  exact lv_ifnonnull hx hb hdg ht (kk H locs ls hP hI hl)
theorem y_ifnonnullN {G : Gx} {K : Kx} {own : String} {cc : ByteArray} {rm : Room} {nL : Nat} {ret : Option FieldType} {k n pc : Nat} {w : va_W} {lv : List (Nat × Value)} {st : List Value} (C : KOk G K own cc rm nL ret) {off : Int} (hdg : decode cc pc = .ok (.ifnonnull off, 3)) (kk : Y G K k n w (pc + 3) lv st) : Y G K k n w pc lv (.null :: st) := by
  obtain ⟨R, nL0, p, e, s, m, args, below, meth, c, Q, I⟩ := K
  obtain ⟨rfl, rfl, hx, hb, hr, hlk, hml, hown, hts, hKW⟩ := C
  intro H locs ls hP hI hl
  exact lv_ifnonnullN hx hb hdg (kk H locs ls hP hI hl)
theorem y_ifnull {G : Gx} {K : Kx} {own : String} {cc : ByteArray} {rm : Room} {nL : Nat} {ret : Option FieldType} {k n pc : Nat} {w : va_W} {lv : List (Nat × Value)} {st : List Value} (C : KOk G K own cc rm nL ret) {x : Nat} {off : Int} (hdg : decode cc pc = .ok (.ifnull off, 3)) (kk : Y G K k n w (pc + 3) lv st) : Y G K k n w pc lv (.ref x :: st) := by
  obtain ⟨R, nL0, p, e, s, m, args, below, meth, c, Q, I⟩ := K
  obtain ⟨rfl, rfl, hx, hb, hr, hlk, hml, hown, hts, hKW⟩ := C
  intro H locs ls hP hI hl
  exact lv_ifnull hx hb hdg (kk H locs ls hP hI hl)
theorem y_ifnullN {G : Gx} {K : Kx} {own : String} {cc : ByteArray} {rm : Room} {nL : Nat} {ret : Option FieldType} {k n pc : Nat} {w : va_W} {lv : List (Nat × Value)} {st : List Value} (C : KOk G K own cc rm nL ret) {tgt : Nat} {off : Int} (hdg : decode cc pc = .ok (.ifnull off, 3)) (ht : (pc : Int) + off = (tgt : Int)) (kk : Y G K k n w tgt lv st) : Y G K k n w pc lv (.null :: st) := by
  obtain ⟨R, nL0, p, e, s, m, args, below, meth, c, Q, I⟩ := K
  obtain ⟨rfl, rfl, hx, hb, hr, hlk, hml, hown, hts, hKW⟩ := C
  intro H locs ls hP hI hl
  exact lv_ifnullN hx hb hdg ht (kk H locs ls hP hI hl)
theorem y_aload_nO {G : Gx} {K : Kx} {own : String} {cc : ByteArray} {rm : Room} {nL : Nat} {ret : Option FieldType} {k n pc : Nat} {w : va_W} {lv : List (Nat × Value)} {st : List Value} (C : KOk G K own cc rm nL ret) {kf : Fin 4} {i : Nat} (o : Option Nat) (hdg : decode cc pc = .ok (.aload_n kf, 1)) (q : Nat) (hi : (kf : Nat) = i) (hq : lv[q]? = some (i, va_rf o)) (kk : Y G K k n w (pc + 1) lv (va_rf o :: st)) : Y G K k n w pc lv st := by
  obtain ⟨R, nL0, p, e, s, m, args, below, meth, c, Q, I⟩ := K
  obtain ⟨rfl, rfl, hx, hb, hr, hlk, hml, hown, hts, hKW⟩ := C
  intro H locs ls hP hI hl
  cases o with
  | none => exact lv_aload_nN hx hb hdg hi (lv_at hl q hq) (kk H locs ls hP hI hl)
  | some x => exact lv_aload_n hx hb hdg hi (lv_at hl q hq) (kk H locs ls hP hI hl)
theorem y_astore_nO {G : Gx} {K : Kx} {own : String} {cc : ByteArray} {rm : Room} {nL : Nat} {ret : Option FieldType} {k n pc : Nat} {w : va_W} {lv : List (Nat × Value)} {st : List Value} (C : KOk G K own cc rm nL ret) {kf : Fin 4} {i : Nat} (o : Option Nat) (hdg : decode cc pc = .ok (.astore_n kf, 1)) (hi : (kf : Nat) = i) (hn : i < nL) (lv' : List (Nat × Value)) (hq : (i, va_rf o) :: lv.filter (fun q => !(q.1 == i) && !(q.1 + 1 == i && q.2.category == 2)) = lv') (kk : Y G K k n w (pc + 1) lv' st) : Y G K k n w pc lv (va_rf o :: st) := by
  obtain ⟨R, nL0, p, e, s, m, args, below, meth, c, Q, I⟩ := K
  obtain ⟨rfl, rfl, hx, hb, hr, hlk, hml, hown, hts, hKW⟩ := C
  intro H locs ls hP hI hl
  cases o with
  | none => exact lv_astore_nN hx hb hdg hi hl hn hq (fun ls hl => kk H locs ls hP hI hl)
  | some x => exact lv_astore_n hx hb hdg hi hl hn hq (fun ls hl => kk H locs ls hP hI hl)
theorem y_aloadO {G : Gx} {K : Kx} {own : String} {cc : ByteArray} {rm : Room} {nL : Nat} {ret : Option FieldType} {k n pc : Nat} {w : va_W} {lv : List (Nat × Value)} {st : List Value} (C : KOk G K own cc rm nL ret) {i : Nat} (o : Option Nat) (hdg : decode cc pc = .ok (.aload i, 2)) (q : Nat) (hq : lv[q]? = some (i, va_rf o)) (kk : Y G K k n w (pc + 2) lv (va_rf o :: st)) : Y G K k n w pc lv st := by
  obtain ⟨R, nL0, p, e, s, m, args, below, meth, c, Q, I⟩ := K
  obtain ⟨rfl, rfl, hx, hb, hr, hlk, hml, hown, hts, hKW⟩ := C
  intro H locs ls hP hI hl
  cases o with
  | none => exact lv_aloadN hx hb hdg (lv_at hl q hq) (kk H locs ls hP hI hl)
  | some x => exact lv_aload hx hb hdg (lv_at hl q hq) (kk H locs ls hP hI hl)
theorem y_astoreO {G : Gx} {K : Kx} {own : String} {cc : ByteArray} {rm : Room} {nL : Nat} {ret : Option FieldType} {k n pc : Nat} {w : va_W} {lv : List (Nat × Value)} {st : List Value} (C : KOk G K own cc rm nL ret) {i : Nat} (o : Option Nat) (hdg : decode cc pc = .ok (.astore i, 2)) (hn : i < nL) (lv' : List (Nat × Value)) (hq : (i, va_rf o) :: lv.filter (fun q => !(q.1 == i) && !(q.1 + 1 == i && q.2.category == 2)) = lv') (kk : Y G K k n w (pc + 2) lv' st) : Y G K k n w pc lv (va_rf o :: st) := by
  obtain ⟨R, nL0, p, e, s, m, args, below, meth, c, Q, I⟩ := K
  obtain ⟨rfl, rfl, hx, hb, hr, hlk, hml, hown, hts, hKW⟩ := C
  intro H locs ls hP hI hl
  cases o with
  | none => exact lv_astoreN hx hb hdg hl hn hq (fun ls hl => kk H locs ls hP hI hl)
  | some x => exact lv_astore hx hb hdg hl hn hq (fun ls hl => kk H locs ls hP hI hl)
theorem y_acmp_eq {G : Gx} {K : Kx} {own : String} {cc : ByteArray} {rm : Room} {nL : Nat} {ret : Option FieldType} {k n pc : Nat} {w : va_W} {lv : List (Nat × Value)} {st : List Value} (C : KOk G K own cc rm nL ret) {rx ry : Option Nat} {tgt : Nat} {off : Int} (hdg : decode cc pc = .ok (.if_acmp .eq off, 3)) (ht : (pc : Int) + off = (tgt : Int)) (kt : rx = ry → Y G K k n w tgt lv st) (kf : ¬ rx = ry → Y G K k n w (pc + 3) lv st) : Y G K k n w pc lv (va_rf ry :: va_rf rx :: st) := by
  obtain ⟨R, nL0, p, e, s, m, args, below, meth, c, Q, I⟩ := K
  obtain ⟨rfl, rfl, hx, hb, hr, hlk, hml, hown, hts, hKW⟩ := C
  intro H locs ls hP hI hl
  exact lv_acmp_eq hx hb hdg ht (fun c => kt c H locs ls hP hI hl) (fun c => kf c H locs ls hP hI hl)
theorem y_acmp_ne {G : Gx} {K : Kx} {own : String} {cc : ByteArray} {rm : Room} {nL : Nat} {ret : Option FieldType} {k n pc : Nat} {w : va_W} {lv : List (Nat × Value)} {st : List Value} (C : KOk G K own cc rm nL ret) {rx ry : Option Nat} {tgt : Nat} {off : Int} (hdg : decode cc pc = .ok (.if_acmp .ne off, 3)) (ht : (pc : Int) + off = (tgt : Int)) (kt : ¬ rx = ry → Y G K k n w tgt lv st) (kf : rx = ry → Y G K k n w (pc + 3) lv st) : Y G K k n w pc lv (va_rf ry :: va_rf rx :: st) := by
  obtain ⟨R, nL0, p, e, s, m, args, below, meth, c, Q, I⟩ := K
  obtain ⟨rfl, rfl, hx, hb, hr, hlk, hml, hown, hts, hKW⟩ := C
  intro H locs ls hP hI hl
  exact lv_acmp_ne hx hb hdg ht (fun c => kt c H locs ls hP hI hl) (fun c => kf c H locs ls hP hI hl)
theorem y_i2c {G : Gx} {K : Kx} {own : String} {cc : ByteArray} {rm : Room} {nL : Nat} {ret : Option FieldType} {k n pc : Nat} {w : va_W} {lv : List (Nat × Value)} {st : List Value} (C : KOk G K own cc rm nL ret) {x v : Int32} (hdg : decode cc pc = .ok (.i2c, 1)) (hv : (x.toUInt32 % 65536).toInt32 = v) (kk : Y G K k n w (pc + 1) lv (.int v :: st)) : Y G K k n w pc lv (.int x :: st) := by
  obtain ⟨R, nL0, p, e, s, m, args, below, meth, c, Q, I⟩ := K
  obtain ⟨rfl, rfl, hx, hb, hr, hlk, hml, hown, hts, hKW⟩ := C
  intro H locs ls hP hI hl
  exact lv_i2c hx hb hdg hv (kk H locs ls hP hI hl)
theorem Y.eqst {G : Gx} {K : Kx} {k n pc : Nat} {w : va_W} {lv : List (Nat × Value)} {st st' : List Value} (h : st = st') (kk : Y G K k n w pc lv st') : Y G K k n w pc lv st := by rw [h]; exact kk
theorem y_castNl {G : Gx} {K : Kx} {own : String} {cc : ByteArray} {rm : Room} {nL : Nat} {ret : Option FieldType} {k n pc : Nat} {w : va_W} {lv : List (Nat × Value)} {st : List Value} (C : KOk G K own cc rm nL ret) {index : Nat} (hdg : decode cc pc = .ok (.checkcast index, 3)) (kk : Y G K k n w (pc + 3) lv (.null :: st)) : Y G K k n w pc lv (.null :: st) := by
  obtain ⟨R, nL0, p, e, s, m, args, below, meth, c, Q, I⟩ := K
  obtain ⟨rfl, rfl, hx, hb, hr, hlk, hml, hown, hts, hKW⟩ := C
  intro H locs ls hP hI hl
  exact lv_castN hx hb hdg (kk H locs ls hP hI hl)
theorem y_castE {G : Gx} {K : Kx} {own : String} {cc : ByteArray} {rm : Room} {nL : Nat} {ret : Option FieldType} {k n pc : Nat} {w : va_W} {lv : List (Nat × Value)} {st : List Value} (C : KOk G K own cc rm nL ret) {a q0 ci index : Nat} {nm : String} {qc : vw_C} {fs : List Value} (he : w[q0]? = some (a, .inr (ci, fs))) (hc : vwCl[ci]? = some qc) (hC : qc.1 = nm) (hq : Cond.classLink own index nm ∈ lw_all) (hdg : decode cc pc = .ok (.checkcast index, 3)) (kk : Y G K k n w (pc + 3) lv (.ref a :: st)) : Y G K k n w pc lv (.ref a :: st) := by
  obtain ⟨R, nL0, p, e, s, m, args, below, meth, c, Q, I⟩ := K
  obtain ⟨rfl, rfl, hx, hb, hr, hlk, hml, hown, hts, hKW⟩ := C
  intro H locs ls hP hI hl
  exact va_castE hx hb hown (hts _ hq) (by rw [← hC]; exact va_recv hKW.1 hP hc he) hdg (kk H locs ls hP hI hl)
theorem y_strCoder {G : Gx} {K : Kx} {own : String} {cc : ByteArray} {rm : Room} {nL : Nat} {ret : Option FieldType} {k n pc : Nat} {w : va_W} {lv : List (Nat × Value)} {st : List Value} (C : KOk G K own cc rm nL ret) {A : Nat → Prop} (M : KM G K A) {i : Nat} (hi : i < 16) {index : Nat} (hq : Cond.fieldLink own index "java/lang/String" "coder" "B" ∈ lw_all) (hdg : decode cc pc = .ok (.getfield index, 3)) (kk : Y G K k n w (pc + 3) lv (.int 0 :: st)) : Y G K k n w pc lv (.ref (G.2.2.2 (10 + i)) :: st) := by
  obtain ⟨R, nL0, p, e, s, m, args, below, meth, c, Q, I⟩ := K
  obtain ⟨rfl, rfl, hx, hb, hr, hlk, hml, hown, hts, hKW⟩ := C
  obtain ⟨rfl, hA, hSF⟩ := M
  intro H locs ls hP hI hl
  exact vk_getf hx hb (hSF.2.2.2.2.2.2.2.1.1 i hi).2.1 hI.2 hown (hts _ hq) (fun _ h => h) hdg (kk H locs ls hP hI hl)
theorem y_strValue {G : Gx} {K : Kx} {own : String} {cc : ByteArray} {rm : Room} {nL : Nat} {ret : Option FieldType} {k n pc : Nat} {w : va_W} {lv : List (Nat × Value)} {st : List Value} (C : KOk G K own cc rm nL ret) {A : Nat → Prop} (M : KM G K A) {i : Nat} (hi : i < 16) {index : Nat} (hq : Cond.fieldLink own index "java/lang/String" "value" "[B" ∈ lw_all) (hdg : decode cc pc = .ok (.getfield index, 3)) (kk : Y G K k n w (pc + 3) lv (.ref (G.2.2.2 (30 + i)) :: st)) : Y G K k n w pc lv (.ref (G.2.2.2 (10 + i)) :: st) := by
  obtain ⟨R, nL0, p, e, s, m, args, below, meth, c, Q, I⟩ := K
  obtain ⟨rfl, rfl, hx, hb, hr, hlk, hml, hown, hts, hKW⟩ := C
  obtain ⟨rfl, hA, hSF⟩ := M
  intro H locs ls hP hI hl
  exact vk_getf hx hb (hSF.2.2.2.2.2.2.2.1.1 i hi).2.2.1 hI.2 hown (hts _ hq) (fun _ h => h) hdg (kk H locs ls hP hI hl)
theorem y_strLen {G : Gx} {K : Kx} {own : String} {cc : ByteArray} {rm : Room} {nL : Nat} {ret : Option FieldType} {k n pc : Nat} {w : va_W} {lv : List (Nat × Value)} {st : List Value} (C : KOk G K own cc rm nL ret) {A : Nat → Prop} (M : KM G K A) {i : Nat} (hi : i < 16) (hdg : decode cc pc = .ok (.arraylength, 1)) (kk : Y G K k n w (pc + 1) lv (.int (nI (strLen.getD i 0)) :: st)) : Y G K k n w pc lv (.ref (G.2.2.2 (30 + i)) :: st) := by
  obtain ⟨R, nL0, p, e, s, m, args, below, meth, c, Q, I⟩ := K
  obtain ⟨rfl, rfl, hx, hb, hr, hlk, hml, hown, hts, hKW⟩ := C
  obtain ⟨rfl, hA, hSF⟩ := M
  intro H locs ls hP hI hl
  exact va_tlen hx hb (hSF.2.2.2.2.2.2.2.1.1 i hi).2.2.2 hI.2 rfl hdg (kk H locs ls hP hI hl)
theorem y_strByt {G : Gx} {K : Kx} {own : String} {cc : ByteArray} {rm : Room} {nL : Nat} {ret : Option FieldType} {k n pc : Nat} {w : va_W} {lv : List (Nat × Value)} {st : List Value} (C : KOk G K own cc rm nL ret) {A : Nat → Prop} (M : KM G K A) {i : Nat} (hi : i < 16) {j : Int32} (hin : vp_in j (strLen.getD i 0)) (hdg : decode cc pc = .ok (.baload, 1)) (kk : Y G K k n w (pc + 1) lv (.int ((strByt.getD i []).getD j.toNatClampNeg 0) :: st)) : Y G K k n w pc lv (.int j :: .ref (G.2.2.2 (30 + i)) :: st) := by
  obtain ⟨R, nL0, p, e, s, m, args, below, meth, c, Q, I⟩ := K
  obtain ⟨rfl, rfl, hx, hb, hr, hlk, hml, hown, hts, hKW⟩ := C
  obtain ⟨rfl, hA, hSF⟩ := M
  intro H locs ls hP hI hl
  exact va_tb hx hb (hSF.2.2.2.2.2.2.2.1.1 i hi).2.2.2 hI.2 hin rfl hdg (kk H locs ls hP hI hl)
theorem y_ldcS {G : Gx} {K : Kx} {own : String} {cc : ByteArray} {rm : Room} {nL : Nat} {ret : Option FieldType} {k n pc : Nat} {w : va_W} {lv : List (Nat × Value)} {st : List Value} (C : KOk G K own cc rm nL ret) {A : Nat → Prop} (M : KM G K A) {i index : Nat} {tx : String} (h : strX[i]? = some (index, tx)) (ho : own = "OverHill$Reader") (hdg : decode cc pc = .ok (.ldc index, 2)) (kk : Y G K k n w (pc + 2) lv (.ref (G.2.2.2 (10 + i)) :: st)) : Y G K k n w pc lv st := by
  subst ho
  obtain ⟨R, nL0, p, e, s, m, args, below, meth, c, Q, I⟩ := K
  obtain ⟨rfl, rfl, hx, hb, hr, hlk, hml, hown, hts, hKW⟩ := C
  obtain ⟨rfl, hA, hSF⟩ := M
  intro H locs ls hP hI hl
  exact va_ldcS hx hb hown (hSF.2.2.2.2.2.2.1 i _ h) hdg (kk H locs ls hP hI hl)
theorem y_emptyLen {G : Gx} {K : Kx} {own : String} {cc : ByteArray} {rm : Room} {nL : Nat} {ret : Option FieldType} {k n pc : Nat} {w : va_W} {lv : List (Nat × Value)} {st : List Value} (C : KOk G K own cc rm nL ret) {A : Nat → Prop} (M : KM G K A) (hdg : decode cc pc = .ok (.arraylength, 1)) (kk : Y G K k n w (pc + 1) lv (.int 0 :: st)) : Y G K k n w pc lv (.ref (G.2.2.2 50) :: st) := by
  obtain ⟨R, nL0, p, e, s, m, args, below, meth, c, Q, I⟩ := K
  obtain ⟨rfl, rfl, hx, hb, hr, hlk, hml, hown, hts, hKW⟩ := C
  obtain ⟨rfl, hA, hSF⟩ := M
  intro H locs ls hP hI hl
  exact va_tlen hx hb hSF.2.2.2.2.2.2.2.2.2.2.2.1 hI.2 rfl hdg (kk H locs ls hP hI hl)
theorem y_copyiZ {G : Gx} {K : Kx} {own : String} {cc : ByteArray} {rm : Room} {nL : Nat} {ret : Option FieldType} {k n pc : Nat} {w : va_W} {lv : List (Nat × Value)} {st : List Value} (C : KOk G K own cc rm nL ret) {A : Nat → Prop} (M : KM G K A) {a0 a1 n0 n1 q0 q1 : Nat} {f g : Nat → Int32} (hm : ∀ i, i < n0 → f i = 0 ∨ f i = 1) {sp dp nn : Int32} {js jd jn index : Nat} (hlink : Cond.methodLink own index arraycopyName ∈ lw_all) (ha0 : w[q0]? = some (a0, .inl (G.2.2.1 2, n0, .inl f))) (ha1 : w[q1]? = some (a1, .inl (G.2.2.1 2, n1, .inl g))) (h1 : ¬ sp < 0) (h2 : ¬ dp < 0) (h3 : ¬ nn < 0) (hs : sp.toNatClampNeg = js) (hd : dp.toNatClampNeg = jd) (hn : nn.toNatClampNeg = jn) (h4 : js + jn ≤ n0) (h5 : jd + jn ≤ n1) (hfr : 1 ≤ rm.frames ∧ (st.map fun v => v.category).sum + (nativeFrameWords "java/lang/System" "arraycopy" 5 + 11) ≤ rm.locals) {w' : va_W} (hw' : w.set q1 (a1, .inl (G.2.2.1 2, n1, .inl (va_cpy f g js jd jn))) = w') (hdg : decode cc pc = .ok (.invokestatic index, 3)) (kk : Y G K k n w' (pc + 3) lv st) : Y G K k n w pc lv (.int nn :: .int dp :: .ref a1 :: .int sp :: .ref a0 :: st) := by
  subst hs hd hn
  obtain ⟨R, nL0, p, e, s, m, args, below, meth, c, Q, I⟩ := K
  obtain ⟨rfl, rfl, hx, hb, hr, hlk, hml, hown, hts, hKW⟩ := C
  obtain ⟨rfl, hA, hSF⟩ := M
  subst hw'
  intro H locs ls hP hI hl
  exact va_copyi hx hb (hml.trans hl.1.symm) hown (hts _ hlink) (hts _ q1336) (hts _ q1335) (hts _ q165) hKW.1 hP hI.1 hI.2 q0 q1 2 2 ha0 ha1 rfl rfl rfl h1 h2 h3 h4 h5 (fun i hi => by rcases hm (sp.toNatClampNeg + i) (by omega) with e | e <;> rw [e] <;> decide) hfr.1 hfr.2 hdg (fun H1 locs1 hP hD hS => kk H1 locs1 ls hP ⟨hD, hS⟩ hl)
theorem y_callFiV {G : Gx} {K : Kx} {own : String} {cc : ByteArray} {rm : Room} {nL : Nat} {ret : Option FieldType} {k n pc : Nat} {w : va_W} {lv : List (Nat × Value)} {st : List Value} (C : KOk G K own cc rm nL ret) {A : Nat → Prop} (M : KM G K A) {mc ms k' n' : Nat} {y : MethodName} {bytes : ByteArray} {maxL index nn : Nat} {ret' : Option FieldType} {rm' : Room} {b : Nat} {As rest : List Value} {S9 : Type} {wf : S9 → va_W} {Qp : Int32 → S9 → Prop} {wc wr : va_W} (cs : CsV own index y bytes maxL ret' nn) (hM : MiA G y (ws_ y bytes maxL ret') rm' wc (.ref b :: As) wf Qp mc ms) (hs : Split w wc wr) {q0 ci : Nat} {qc : vw_C} {fs : List Value} (he : w[q0]? = some (b, .inr (ci, fs))) (hc : vwCl[ci]? = some qc) (hC : qc.1 = y.cls) (hrm : rm'.cells = mc ∧ rm'.slots = ms ∧ rm'.frames + 1 ≤ rm.frames ∧ 8 + (maxL + 11) + rm'.locals ≤ rm.locals) (hn : As.length = nn) (hst : st = As.reverse ++ .ref b :: rest) (hcat : (rest.map fun v => v.category).sum ≤ 8) (hdg : decode cc pc = .ok (.invokevirtual index, 3)) (hkn : k + mc ≤ rm.cells ∧ n + ms ≤ rm.slots) (hk' : k + mc = k') (hn' : n + ms = n') (kk : ∀ (r : Int32) (S : S9), Qp r S → Y G K k' n' (wr ++ wf S) (pc + 3) lv (.int r :: rest)) : Y G K k n w pc lv st := by
  subst hk' hn'
  obtain ⟨isC, isR, hC0, hR0, hnC, hnR, hdis⟩ := hs
  obtain ⟨R, nL0, p, e, s, m, args, below, meth, c, Q, I⟩ := K
  obtain ⟨rfl, rfl, hx, hb, hr, hlk, hml, hown, hts, hKW⟩ := C
  obtain ⟨rfl, hA, hSF⟩ := M
  subst hst
  intro H locs ls hP hI hl
  have hF := va_free hI.1 hI.2 hA isC hC0
  have hPc : PW G wc H := part_P hP isC hC0
  have hDc := hI.1.sub isC hnC hC0
  refine va_calli (va_runV (As := As) (rest := rest) (b := b) ⟨hx, hb, hml, hown, hts⟩ (hM H.size) (cwV nn hts cs.1 rfl hrm.1 hrm.2.1 ⟨rfl, cs.2⟩ hrm.2.2) ⟨pcM_blind, by rw [← hC]; exact va_recv hKW.1 hP hc he, fun U hU hW => ⟨rfl, by rw [hU], by rw [hU]; exact hPc, hKW.warm hW, hDc.weaken (fun _ _ _ _ => trivial), by rw [hU]; exact hSF.call hI.2 hW hF⟩⟩ rfl hn hl.1 rfl (lv_room hcat) hdg ⟨hkn.1, hkn.2⟩) hI.2 (fun q _ h => hF q h) hF (fun r S t H1 locs1 ht hvm hq hB hz1 hk1 hS => ?_)
  rw [BM, ht] at hB
  obtain ⟨j1, j2⟩ := va_join hP hI.1 isC isR hC0 hR0 hnR hdis hk1 hF hB.1 hB.2.2
  exact kk r S hq H1 locs1 ls j1 ⟨j2, hS⟩ hl
theorem y_callFiS {G : Gx} {K : Kx} {own : String} {cc : ByteArray} {rm : Room} {nL : Nat} {ret : Option FieldType} {k n pc : Nat} {w : va_W} {lv : List (Nat × Value)} {st : List Value} (C : KOk G K own cc rm nL ret) {A : Nat → Prop} (M : KM G K A) {mc ms k' n' : Nat} {y : MethodName} {bytes : ByteArray} {maxL index nn : Nat} {ret' : Option FieldType} {rm' : Room} {As rest : List Value} {S9 : Type} {wf : S9 → va_W} {Qp : Int32 → S9 → Prop} {wc wr : va_W} (cs : CsS own index y bytes maxL ret' nn) (hM : MiA G y (ws_ y bytes maxL ret') rm' wc As wf Qp mc ms) (hs : Split w wc wr)  (hrm : rm'.cells = mc ∧ rm'.slots = ms ∧ rm'.frames + 1 ≤ rm.frames ∧ 8 + (maxL + 11) + rm'.locals ≤ rm.locals) (hn : As.length = nn) (hst : st = As.reverse ++ rest) (hcat : (rest.map fun v => v.category).sum ≤ 8) (hdg : decode cc pc = .ok (.invokestatic index, 3)) (hkn : k + mc ≤ rm.cells ∧ n + ms ≤ rm.slots) (hk' : k + mc = k') (hn' : n + ms = n') (kk : ∀ (r : Int32) (S : S9), Qp r S → Y G K k' n' (wr ++ wf S) (pc + 3) lv (.int r :: rest)) : Y G K k n w pc lv st := by
  subst hk' hn'
  obtain ⟨isC, isR, hC0, hR0, hnC, hnR, hdis⟩ := hs
  obtain ⟨R, nL0, p, e, s, m, args, below, meth, c, Q, I⟩ := K
  obtain ⟨rfl, rfl, hx, hb, hr, hlk, hml, hown, hts, hKW⟩ := C
  obtain ⟨rfl, hA, hSF⟩ := M
  subst hst
  intro H locs ls hP hI hl
  have hF := va_free hI.1 hI.2 hA isC hC0
  have hPc : PW G wc H := part_P hP isC hC0
  have hDc := hI.1.sub isC hnC hC0
  refine va_calli (va_runS (As := As) (rest := rest) ⟨hx, hb, hml, hown, hts⟩ (hM H.size) (va_cwS nn hts cs.1 rfl hrm.1 hrm.2.1 cs.2 hrm.2.2) ⟨pcM_blind, fun U hU hW => ⟨rfl, by rw [hU], by rw [hU]; exact hPc, hKW.warm hW, hDc.weaken (fun _ _ _ _ => trivial), by rw [hU]; exact hSF.call hI.2 hW hF⟩⟩ rfl hn hl.1 rfl (lv_room hcat) hdg ⟨hkn.1, hkn.2⟩) hI.2 (fun q _ h => hF q h) hF (fun r S t H1 locs1 ht hvm hq hB hz1 hk1 hS => ?_)
  rw [BM, ht] at hB
  obtain ⟨j1, j2⟩ := va_join hP hI.1 isC isR hC0 hR0 hnR hdis hk1 hF hB.1 hB.2.2
  exact kk r S hq H1 locs1 ls j1 ⟨j2, hS⟩ hl
theorem y_callFiX {G : Gx} {K : Kx} {own : String} {cc : ByteArray} {rm : Room} {nL : Nat} {ret : Option FieldType} {k n pc : Nat} {w : va_W} {lv : List (Nat × Value)} {st : List Value} (C : KOk G K own cc rm nL ret) {A : Nat → Prop} (M : KM G K A) {mc ms k' n' : Nat} {y : MethodName} {bytes : ByteArray} {maxL index nn : Nat} {ret' : Option FieldType} {rm' : Room} {b : Nat} {As rest : List Value} {S9 : Type} {wf : S9 → va_W} {Qp : Int32 → S9 → Prop} {wc wr : va_W} (cs : CsV own index y bytes maxL ret' nn) (hM : MiA G y (ws_ y bytes maxL ret') rm' wc (.ref b :: As) wf Qp mc ms) (hs : Split w wc wr) (hrecv : ∀ (A : Nat → Prop) (s : State) (H : Heap) (locs : List Loc), SF G A s s.heap → va_S A s.heap H locs → ∃ cell : Cell, H[b]? = some cell ∧ cell.vm.isStatics = false ∧ s.vm.findClass y.cls = some cell.cls) (hrm : rm'.cells = mc ∧ rm'.slots = ms ∧ rm'.frames + 1 ≤ rm.frames ∧ 8 + (maxL + 11) + rm'.locals ≤ rm.locals) (hn : As.length = nn) (hst : st = As.reverse ++ .ref b :: rest) (hcat : (rest.map fun v => v.category).sum ≤ 8) (hdg : decode cc pc = .ok (.invokevirtual index, 3)) (hkn : k + mc ≤ rm.cells ∧ n + ms ≤ rm.slots) (hk' : k + mc = k') (hn' : n + ms = n') (kk : ∀ (r : Int32) (S : S9), Qp r S → Y G K k' n' (wr ++ wf S) (pc + 3) lv (.int r :: rest)) : Y G K k n w pc lv st := by
  subst hk' hn'
  obtain ⟨isC, isR, hC0, hR0, hnC, hnR, hdis⟩ := hs
  obtain ⟨R, nL0, p, e, s, m, args, below, meth, c, Q, I⟩ := K
  obtain ⟨rfl, rfl, hx, hb, hr, hlk, hml, hown, hts, hKW⟩ := C
  obtain ⟨rfl, hA, hSF⟩ := M
  subst hst
  intro H locs ls hP hI hl
  have hF := va_free hI.1 hI.2 hA isC hC0
  have hPc : PW G wc H := part_P hP isC hC0
  have hDc := hI.1.sub isC hnC hC0
  refine va_calli (va_runV (As := As) (rest := rest) (b := b) ⟨hx, hb, hml, hown, hts⟩ (hM H.size) (cwV nn hts cs.1 rfl hrm.1 hrm.2.1 ⟨rfl, cs.2⟩ hrm.2.2) ⟨pcM_blind, hrecv _ _ _ _ hSF hI.2, fun U hU hW => ⟨rfl, by rw [hU], by rw [hU]; exact hPc, hKW.warm hW, hDc.weaken (fun _ _ _ _ => trivial), by rw [hU]; exact hSF.call hI.2 hW hF⟩⟩ rfl hn hl.1 rfl (lv_room hcat) hdg ⟨hkn.1, hkn.2⟩) hI.2 (fun q _ h => hF q h) hF (fun r S t H1 locs1 ht hvm hq hB hz1 hk1 hS => ?_)
  rw [BM, ht] at hB
  obtain ⟨j1, j2⟩ := va_join hP hI.1 isC isR hC0 hR0 hnR hdis hk1 hF hB.1 hB.2.2
  exact kk r S hq H1 locs1 ls j1 ⟨j2, hS⟩ hl
theorem y_callFlV {G : Gx} {K : Kx} {own : String} {cc : ByteArray} {rm : Room} {nL : Nat} {ret : Option FieldType} {k n pc : Nat} {w : va_W} {lv : List (Nat × Value)} {st : List Value} (C : KOk G K own cc rm nL ret) {A : Nat → Prop} (M : KM G K A) {mc ms k' n' : Nat} {y : MethodName} {bytes : ByteArray} {maxL index nn : Nat} {ret' : Option FieldType} {rm' : Room} {b : Nat} {As rest : List Value} {S9 : Type} {wf : S9 → va_W} {Qp : Int64 → S9 → Prop} {wc wr : va_W} (cs : CsV own index y bytes maxL ret' nn) (hM : MlA G y (ws_ y bytes maxL ret') rm' wc (.ref b :: As) wf Qp mc ms) (hs : Split w wc wr) {q0 ci : Nat} {qc : vw_C} {fs : List Value} (he : w[q0]? = some (b, .inr (ci, fs))) (hc : vwCl[ci]? = some qc) (hC : qc.1 = y.cls) (hrm : rm'.cells = mc ∧ rm'.slots = ms ∧ rm'.frames + 1 ≤ rm.frames ∧ 8 + (maxL + 11) + rm'.locals ≤ rm.locals) (hn : As.length = nn) (hst : st = As.reverse ++ .ref b :: rest) (hcat : (rest.map fun v => v.category).sum ≤ 8) (hdg : decode cc pc = .ok (.invokevirtual index, 3)) (hkn : k + mc ≤ rm.cells ∧ n + ms ≤ rm.slots) (hk' : k + mc = k') (hn' : n + ms = n') (kk : ∀ (r : Int64) (S : S9), Qp r S → Y G K k' n' (wr ++ wf S) (pc + 3) lv (.long r :: rest)) : Y G K k n w pc lv st := by
  subst hk' hn'
  obtain ⟨isC, isR, hC0, hR0, hnC, hnR, hdis⟩ := hs
  obtain ⟨R, nL0, p, e, s, m, args, below, meth, c, Q, I⟩ := K
  obtain ⟨rfl, rfl, hx, hb, hr, hlk, hml, hown, hts, hKW⟩ := C
  obtain ⟨rfl, hA, hSF⟩ := M
  subst hst
  intro H locs ls hP hI hl
  have hF := va_free hI.1 hI.2 hA isC hC0
  have hPc : PW G wc H := part_P hP isC hC0
  have hDc := hI.1.sub isC hnC hC0
  refine va_calll (va_runV (As := As) (rest := rest) (b := b) ⟨hx, hb, hml, hown, hts⟩ (hM H.size) (cwV nn hts cs.1 rfl hrm.1 hrm.2.1 ⟨rfl, cs.2⟩ hrm.2.2) ⟨pcM_blind, by rw [← hC]; exact va_recv hKW.1 hP hc he, fun U hU hW => ⟨rfl, by rw [hU], by rw [hU]; exact hPc, hKW.warm hW, hDc.weaken (fun _ _ _ _ => trivial), by rw [hU]; exact hSF.call hI.2 hW hF⟩⟩ rfl hn hl.1 rfl (lv_room hcat) hdg ⟨hkn.1, hkn.2⟩) hI.2 (fun q _ h => hF q h) hF (fun r S t H1 locs1 ht hvm hq hB hz1 hk1 hS => ?_)
  rw [BM, ht] at hB
  obtain ⟨j1, j2⟩ := va_join hP hI.1 isC isR hC0 hR0 hnR hdis hk1 hF hB.1 hB.2.2
  exact kk r S hq H1 locs1 ls j1 ⟨j2, hS⟩ hl
theorem y_callFlS {G : Gx} {K : Kx} {own : String} {cc : ByteArray} {rm : Room} {nL : Nat} {ret : Option FieldType} {k n pc : Nat} {w : va_W} {lv : List (Nat × Value)} {st : List Value} (C : KOk G K own cc rm nL ret) {A : Nat → Prop} (M : KM G K A) {mc ms k' n' : Nat} {y : MethodName} {bytes : ByteArray} {maxL index nn : Nat} {ret' : Option FieldType} {rm' : Room} {As rest : List Value} {S9 : Type} {wf : S9 → va_W} {Qp : Int64 → S9 → Prop} {wc wr : va_W} (cs : CsS own index y bytes maxL ret' nn) (hM : MlA G y (ws_ y bytes maxL ret') rm' wc As wf Qp mc ms) (hs : Split w wc wr)  (hrm : rm'.cells = mc ∧ rm'.slots = ms ∧ rm'.frames + 1 ≤ rm.frames ∧ 8 + (maxL + 11) + rm'.locals ≤ rm.locals) (hn : As.length = nn) (hst : st = As.reverse ++ rest) (hcat : (rest.map fun v => v.category).sum ≤ 8) (hdg : decode cc pc = .ok (.invokestatic index, 3)) (hkn : k + mc ≤ rm.cells ∧ n + ms ≤ rm.slots) (hk' : k + mc = k') (hn' : n + ms = n') (kk : ∀ (r : Int64) (S : S9), Qp r S → Y G K k' n' (wr ++ wf S) (pc + 3) lv (.long r :: rest)) : Y G K k n w pc lv st := by
  subst hk' hn'
  obtain ⟨isC, isR, hC0, hR0, hnC, hnR, hdis⟩ := hs
  obtain ⟨R, nL0, p, e, s, m, args, below, meth, c, Q, I⟩ := K
  obtain ⟨rfl, rfl, hx, hb, hr, hlk, hml, hown, hts, hKW⟩ := C
  obtain ⟨rfl, hA, hSF⟩ := M
  subst hst
  intro H locs ls hP hI hl
  have hF := va_free hI.1 hI.2 hA isC hC0
  have hPc : PW G wc H := part_P hP isC hC0
  have hDc := hI.1.sub isC hnC hC0
  refine va_calll (va_runS (As := As) (rest := rest) ⟨hx, hb, hml, hown, hts⟩ (hM H.size) (va_cwS nn hts cs.1 rfl hrm.1 hrm.2.1 cs.2 hrm.2.2) ⟨pcM_blind, fun U hU hW => ⟨rfl, by rw [hU], by rw [hU]; exact hPc, hKW.warm hW, hDc.weaken (fun _ _ _ _ => trivial), by rw [hU]; exact hSF.call hI.2 hW hF⟩⟩ rfl hn hl.1 rfl (lv_room hcat) hdg ⟨hkn.1, hkn.2⟩) hI.2 (fun q _ h => hF q h) hF (fun r S t H1 locs1 ht hvm hq hB hz1 hk1 hS => ?_)
  rw [BM, ht] at hB
  obtain ⟨j1, j2⟩ := va_join hP hI.1 isC isR hC0 hR0 hnR hdis hk1 hF hB.1 hB.2.2
  exact kk r S hq H1 locs1 ls j1 ⟨j2, hS⟩ hl
theorem y_callFlX {G : Gx} {K : Kx} {own : String} {cc : ByteArray} {rm : Room} {nL : Nat} {ret : Option FieldType} {k n pc : Nat} {w : va_W} {lv : List (Nat × Value)} {st : List Value} (C : KOk G K own cc rm nL ret) {A : Nat → Prop} (M : KM G K A) {mc ms k' n' : Nat} {y : MethodName} {bytes : ByteArray} {maxL index nn : Nat} {ret' : Option FieldType} {rm' : Room} {b : Nat} {As rest : List Value} {S9 : Type} {wf : S9 → va_W} {Qp : Int64 → S9 → Prop} {wc wr : va_W} (cs : CsV own index y bytes maxL ret' nn) (hM : MlA G y (ws_ y bytes maxL ret') rm' wc (.ref b :: As) wf Qp mc ms) (hs : Split w wc wr) (hrecv : ∀ (A : Nat → Prop) (s : State) (H : Heap) (locs : List Loc), SF G A s s.heap → va_S A s.heap H locs → ∃ cell : Cell, H[b]? = some cell ∧ cell.vm.isStatics = false ∧ s.vm.findClass y.cls = some cell.cls) (hrm : rm'.cells = mc ∧ rm'.slots = ms ∧ rm'.frames + 1 ≤ rm.frames ∧ 8 + (maxL + 11) + rm'.locals ≤ rm.locals) (hn : As.length = nn) (hst : st = As.reverse ++ .ref b :: rest) (hcat : (rest.map fun v => v.category).sum ≤ 8) (hdg : decode cc pc = .ok (.invokevirtual index, 3)) (hkn : k + mc ≤ rm.cells ∧ n + ms ≤ rm.slots) (hk' : k + mc = k') (hn' : n + ms = n') (kk : ∀ (r : Int64) (S : S9), Qp r S → Y G K k' n' (wr ++ wf S) (pc + 3) lv (.long r :: rest)) : Y G K k n w pc lv st := by
  subst hk' hn'
  obtain ⟨isC, isR, hC0, hR0, hnC, hnR, hdis⟩ := hs
  obtain ⟨R, nL0, p, e, s, m, args, below, meth, c, Q, I⟩ := K
  obtain ⟨rfl, rfl, hx, hb, hr, hlk, hml, hown, hts, hKW⟩ := C
  obtain ⟨rfl, hA, hSF⟩ := M
  subst hst
  intro H locs ls hP hI hl
  have hF := va_free hI.1 hI.2 hA isC hC0
  have hPc : PW G wc H := part_P hP isC hC0
  have hDc := hI.1.sub isC hnC hC0
  refine va_calll (va_runV (As := As) (rest := rest) (b := b) ⟨hx, hb, hml, hown, hts⟩ (hM H.size) (cwV nn hts cs.1 rfl hrm.1 hrm.2.1 ⟨rfl, cs.2⟩ hrm.2.2) ⟨pcM_blind, hrecv _ _ _ _ hSF hI.2, fun U hU hW => ⟨rfl, by rw [hU], by rw [hU]; exact hPc, hKW.warm hW, hDc.weaken (fun _ _ _ _ => trivial), by rw [hU]; exact hSF.call hI.2 hW hF⟩⟩ rfl hn hl.1 rfl (lv_room hcat) hdg ⟨hkn.1, hkn.2⟩) hI.2 (fun q _ h => hF q h) hF (fun r S t H1 locs1 ht hvm hq hB hz1 hk1 hS => ?_)
  rw [BM, ht] at hB
  obtain ⟨j1, j2⟩ := va_join hP hI.1 isC isR hC0 hR0 hnR hdis hk1 hF hB.1 hB.2.2
  exact kk r S hq H1 locs1 ls j1 ⟨j2, hS⟩ hl
theorem y_callFvV {G : Gx} {K : Kx} {own : String} {cc : ByteArray} {rm : Room} {nL : Nat} {ret : Option FieldType} {k n pc : Nat} {w : va_W} {lv : List (Nat × Value)} {st : List Value} (C : KOk G K own cc rm nL ret) {A : Nat → Prop} (M : KM G K A) {mc ms k' n' : Nat} {y : MethodName} {bytes : ByteArray} {maxL index nn : Nat} {ret' : Option FieldType} {rm' : Room} {b : Nat} {As rest : List Value} {S9 : Type} {wf : S9 → va_W} {Qp : S9 → Prop} {wc wr : va_W} (cs : CsV own index y bytes maxL ret' nn) (hM : MvA G y (ws_ y bytes maxL ret') rm' wc (.ref b :: As) wf Qp mc ms) (hs : Split w wc wr) {q0 ci : Nat} {qc : vw_C} {fs : List Value} (he : w[q0]? = some (b, .inr (ci, fs))) (hc : vwCl[ci]? = some qc) (hC : qc.1 = y.cls) (hrm : rm'.cells = mc ∧ rm'.slots = ms ∧ rm'.frames + 1 ≤ rm.frames ∧ 8 + (maxL + 11) + rm'.locals ≤ rm.locals) (hn : As.length = nn) (hst : st = As.reverse ++ .ref b :: rest) (hcat : (rest.map fun v => v.category).sum ≤ 8) (hdg : decode cc pc = .ok (.invokevirtual index, 3)) (hkn : k + mc ≤ rm.cells ∧ n + ms ≤ rm.slots) (hk' : k + mc = k') (hn' : n + ms = n') (kk : ∀ S : S9, Qp S → Y G K k' n' (wr ++ wf S) (pc + 3) lv (rest)) : Y G K k n w pc lv st := by
  subst hk' hn'
  obtain ⟨isC, isR, hC0, hR0, hnC, hnR, hdis⟩ := hs
  obtain ⟨R, nL0, p, e, s, m, args, below, meth, c, Q, I⟩ := K
  obtain ⟨rfl, rfl, hx, hb, hr, hlk, hml, hown, hts, hKW⟩ := C
  obtain ⟨rfl, hA, hSF⟩ := M
  subst hst
  intro H locs ls hP hI hl
  have hF := va_free hI.1 hI.2 hA isC hC0
  have hPc : PW G wc H := part_P hP isC hC0
  have hDc := hI.1.sub isC hnC hC0
  refine va_callv (va_runV (As := As) (rest := rest) (b := b) ⟨hx, hb, hml, hown, hts⟩ (hM H.size) (cwV nn hts cs.1 rfl hrm.1 hrm.2.1 ⟨rfl, cs.2⟩ hrm.2.2) ⟨pcM_blind, by rw [← hC]; exact va_recv hKW.1 hP hc he, fun U hU hW => ⟨rfl, by rw [hU], by rw [hU]; exact hPc, hKW.warm hW, hDc.weaken (fun _ _ _ _ => trivial), by rw [hU]; exact hSF.call hI.2 hW hF⟩⟩ rfl hn hl.1 rfl (lv_room hcat) hdg ⟨hkn.1, hkn.2⟩) hI.2 (fun q _ h => hF q h) hF (fun S t H1 locs1 ht hvm hq hB hz1 hk1 hS => ?_)
  rw [BM, ht] at hB
  obtain ⟨j1, j2⟩ := va_join hP hI.1 isC isR hC0 hR0 hnR hdis hk1 hF hB.1 hB.2.2
  exact kk S hq H1 locs1 ls j1 ⟨j2, hS⟩ hl
theorem y_callFvS {G : Gx} {K : Kx} {own : String} {cc : ByteArray} {rm : Room} {nL : Nat} {ret : Option FieldType} {k n pc : Nat} {w : va_W} {lv : List (Nat × Value)} {st : List Value} (C : KOk G K own cc rm nL ret) {A : Nat → Prop} (M : KM G K A) {mc ms k' n' : Nat} {y : MethodName} {bytes : ByteArray} {maxL index nn : Nat} {ret' : Option FieldType} {rm' : Room} {As rest : List Value} {S9 : Type} {wf : S9 → va_W} {Qp : S9 → Prop} {wc wr : va_W} (cs : CsS own index y bytes maxL ret' nn) (hM : MvA G y (ws_ y bytes maxL ret') rm' wc As wf Qp mc ms) (hs : Split w wc wr)  (hrm : rm'.cells = mc ∧ rm'.slots = ms ∧ rm'.frames + 1 ≤ rm.frames ∧ 8 + (maxL + 11) + rm'.locals ≤ rm.locals) (hn : As.length = nn) (hst : st = As.reverse ++ rest) (hcat : (rest.map fun v => v.category).sum ≤ 8) (hdg : decode cc pc = .ok (.invokestatic index, 3)) (hkn : k + mc ≤ rm.cells ∧ n + ms ≤ rm.slots) (hk' : k + mc = k') (hn' : n + ms = n') (kk : ∀ S : S9, Qp S → Y G K k' n' (wr ++ wf S) (pc + 3) lv (rest)) : Y G K k n w pc lv st := by
  subst hk' hn'
  obtain ⟨isC, isR, hC0, hR0, hnC, hnR, hdis⟩ := hs
  obtain ⟨R, nL0, p, e, s, m, args, below, meth, c, Q, I⟩ := K
  obtain ⟨rfl, rfl, hx, hb, hr, hlk, hml, hown, hts, hKW⟩ := C
  obtain ⟨rfl, hA, hSF⟩ := M
  subst hst
  intro H locs ls hP hI hl
  have hF := va_free hI.1 hI.2 hA isC hC0
  have hPc : PW G wc H := part_P hP isC hC0
  have hDc := hI.1.sub isC hnC hC0
  refine va_callv (va_runS (As := As) (rest := rest) ⟨hx, hb, hml, hown, hts⟩ (hM H.size) (va_cwS nn hts cs.1 rfl hrm.1 hrm.2.1 cs.2 hrm.2.2) ⟨pcM_blind, fun U hU hW => ⟨rfl, by rw [hU], by rw [hU]; exact hPc, hKW.warm hW, hDc.weaken (fun _ _ _ _ => trivial), by rw [hU]; exact hSF.call hI.2 hW hF⟩⟩ rfl hn hl.1 rfl (lv_room hcat) hdg ⟨hkn.1, hkn.2⟩) hI.2 (fun q _ h => hF q h) hF (fun S t H1 locs1 ht hvm hq hB hz1 hk1 hS => ?_)
  rw [BM, ht] at hB
  obtain ⟨j1, j2⟩ := va_join hP hI.1 isC isR hC0 hR0 hnR hdis hk1 hF hB.1 hB.2.2
  exact kk S hq H1 locs1 ls j1 ⟨j2, hS⟩ hl
theorem y_callFvX {G : Gx} {K : Kx} {own : String} {cc : ByteArray} {rm : Room} {nL : Nat} {ret : Option FieldType} {k n pc : Nat} {w : va_W} {lv : List (Nat × Value)} {st : List Value} (C : KOk G K own cc rm nL ret) {A : Nat → Prop} (M : KM G K A) {mc ms k' n' : Nat} {y : MethodName} {bytes : ByteArray} {maxL index nn : Nat} {ret' : Option FieldType} {rm' : Room} {b : Nat} {As rest : List Value} {S9 : Type} {wf : S9 → va_W} {Qp : S9 → Prop} {wc wr : va_W} (cs : CsV own index y bytes maxL ret' nn) (hM : MvA G y (ws_ y bytes maxL ret') rm' wc (.ref b :: As) wf Qp mc ms) (hs : Split w wc wr) (hrecv : ∀ (A : Nat → Prop) (s : State) (H : Heap) (locs : List Loc), SF G A s s.heap → va_S A s.heap H locs → ∃ cell : Cell, H[b]? = some cell ∧ cell.vm.isStatics = false ∧ s.vm.findClass y.cls = some cell.cls) (hrm : rm'.cells = mc ∧ rm'.slots = ms ∧ rm'.frames + 1 ≤ rm.frames ∧ 8 + (maxL + 11) + rm'.locals ≤ rm.locals) (hn : As.length = nn) (hst : st = As.reverse ++ .ref b :: rest) (hcat : (rest.map fun v => v.category).sum ≤ 8) (hdg : decode cc pc = .ok (.invokevirtual index, 3)) (hkn : k + mc ≤ rm.cells ∧ n + ms ≤ rm.slots) (hk' : k + mc = k') (hn' : n + ms = n') (kk : ∀ S : S9, Qp S → Y G K k' n' (wr ++ wf S) (pc + 3) lv (rest)) : Y G K k n w pc lv st := by
  subst hk' hn'
  obtain ⟨isC, isR, hC0, hR0, hnC, hnR, hdis⟩ := hs
  obtain ⟨R, nL0, p, e, s, m, args, below, meth, c, Q, I⟩ := K
  obtain ⟨rfl, rfl, hx, hb, hr, hlk, hml, hown, hts, hKW⟩ := C
  obtain ⟨rfl, hA, hSF⟩ := M
  subst hst
  intro H locs ls hP hI hl
  have hF := va_free hI.1 hI.2 hA isC hC0
  have hPc : PW G wc H := part_P hP isC hC0
  have hDc := hI.1.sub isC hnC hC0
  refine va_callv (va_runV (As := As) (rest := rest) (b := b) ⟨hx, hb, hml, hown, hts⟩ (hM H.size) (cwV nn hts cs.1 rfl hrm.1 hrm.2.1 ⟨rfl, cs.2⟩ hrm.2.2) ⟨pcM_blind, hrecv _ _ _ _ hSF hI.2, fun U hU hW => ⟨rfl, by rw [hU], by rw [hU]; exact hPc, hKW.warm hW, hDc.weaken (fun _ _ _ _ => trivial), by rw [hU]; exact hSF.call hI.2 hW hF⟩⟩ rfl hn hl.1 rfl (lv_room hcat) hdg ⟨hkn.1, hkn.2⟩) hI.2 (fun q _ h => hF q h) hF (fun S t H1 locs1 ht hvm hq hB hz1 hk1 hS => ?_)
  rw [BM, ht] at hB
  obtain ⟨j1, j2⟩ := va_join hP hI.1 isC isR hC0 hR0 hnR hdis hk1 hF hB.1 hB.2.2
  exact kk S hq H1 locs1 ls j1 ⟨j2, hS⟩ hl
theorem y_callFqV {G : Gx} {K : Kx} {own : String} {cc : ByteArray} {rm : Room} {nL : Nat} {ret : Option FieldType} {k n pc : Nat} {w : va_W} {lv : List (Nat × Value)} {st : List Value} (C : KOk G K own cc rm nL ret) {A : Nat → Prop} (M : KM G K A) {mc ms k' n' : Nat} {y : MethodName} {bytes : ByteArray} {maxL index nn : Nat} {ret' : Option FieldType} {rm' : Room} {b : Nat} {As rest : List Value} {S9 : Type} {wf : S9 → va_W} {Qp : Option Nat → S9 → Prop} {wc wr : va_W} (cs : CsV own index y bytes maxL ret' nn) (hM : MqA G y (ws_ y bytes maxL ret') rm' wc (.ref b :: As) wf Qp mc ms) (hs : Split w wc wr) {q0 ci : Nat} {qc : vw_C} {fs : List Value} (he : w[q0]? = some (b, .inr (ci, fs))) (hc : vwCl[ci]? = some qc) (hC : qc.1 = y.cls) (hrm : rm'.cells = mc ∧ rm'.slots = ms ∧ rm'.frames + 1 ≤ rm.frames ∧ 8 + (maxL + 11) + rm'.locals ≤ rm.locals) (hn : As.length = nn) (hst : st = As.reverse ++ .ref b :: rest) (hcat : (rest.map fun v => v.category).sum ≤ 8) (hdg : decode cc pc = .ok (.invokevirtual index, 3)) (hkn : k + mc ≤ rm.cells ∧ n + ms ≤ rm.slots) (hk' : k + mc = k') (hn' : n + ms = n') (kk : ∀ (r : Option Nat) (S : S9), Qp r S → Y G K k' n' (wr ++ wf S) (pc + 3) lv (va_rf r :: rest)) : Y G K k n w pc lv st := by
  subst hk' hn'
  obtain ⟨isC, isR, hC0, hR0, hnC, hnR, hdis⟩ := hs
  obtain ⟨R, nL0, p, e, s, m, args, below, meth, c, Q, I⟩ := K
  obtain ⟨rfl, rfl, hx, hb, hr, hlk, hml, hown, hts, hKW⟩ := C
  obtain ⟨rfl, hA, hSF⟩ := M
  subst hst
  intro H locs ls hP hI hl
  have hF := va_free hI.1 hI.2 hA isC hC0
  have hPc : PW G wc H := part_P hP isC hC0
  have hDc := hI.1.sub isC hnC hC0
  refine va_callq (va_runV (As := As) (rest := rest) (b := b) ⟨hx, hb, hml, hown, hts⟩ (hM H.size) (cwV nn hts cs.1 rfl hrm.1 hrm.2.1 ⟨rfl, cs.2⟩ hrm.2.2) ⟨pcM_blind, by rw [← hC]; exact va_recv hKW.1 hP hc he, fun U hU hW => ⟨rfl, by rw [hU], by rw [hU]; exact hPc, hKW.warm hW, hDc.weaken (fun _ _ _ _ => trivial), by rw [hU]; exact hSF.call hI.2 hW hF⟩⟩ rfl hn hl.1 rfl (lv_room hcat) hdg ⟨hkn.1, hkn.2⟩) hI.2 (fun q _ h => hF q h) hF (fun r S t H1 locs1 ht hvm hq hB hz1 hk1 hS => ?_)
  rw [BM, ht] at hB
  obtain ⟨j1, j2⟩ := va_join hP hI.1 isC isR hC0 hR0 hnR hdis hk1 hF hB.1 hB.2.2
  exact kk r S hq H1 locs1 ls j1 ⟨j2, hS⟩ hl
theorem y_callFqS {G : Gx} {K : Kx} {own : String} {cc : ByteArray} {rm : Room} {nL : Nat} {ret : Option FieldType} {k n pc : Nat} {w : va_W} {lv : List (Nat × Value)} {st : List Value} (C : KOk G K own cc rm nL ret) {A : Nat → Prop} (M : KM G K A) {mc ms k' n' : Nat} {y : MethodName} {bytes : ByteArray} {maxL index nn : Nat} {ret' : Option FieldType} {rm' : Room} {As rest : List Value} {S9 : Type} {wf : S9 → va_W} {Qp : Option Nat → S9 → Prop} {wc wr : va_W} (cs : CsS own index y bytes maxL ret' nn) (hM : MqA G y (ws_ y bytes maxL ret') rm' wc As wf Qp mc ms) (hs : Split w wc wr)  (hrm : rm'.cells = mc ∧ rm'.slots = ms ∧ rm'.frames + 1 ≤ rm.frames ∧ 8 + (maxL + 11) + rm'.locals ≤ rm.locals) (hn : As.length = nn) (hst : st = As.reverse ++ rest) (hcat : (rest.map fun v => v.category).sum ≤ 8) (hdg : decode cc pc = .ok (.invokestatic index, 3)) (hkn : k + mc ≤ rm.cells ∧ n + ms ≤ rm.slots) (hk' : k + mc = k') (hn' : n + ms = n') (kk : ∀ (r : Option Nat) (S : S9), Qp r S → Y G K k' n' (wr ++ wf S) (pc + 3) lv (va_rf r :: rest)) : Y G K k n w pc lv st := by
  subst hk' hn'
  obtain ⟨isC, isR, hC0, hR0, hnC, hnR, hdis⟩ := hs
  obtain ⟨R, nL0, p, e, s, m, args, below, meth, c, Q, I⟩ := K
  obtain ⟨rfl, rfl, hx, hb, hr, hlk, hml, hown, hts, hKW⟩ := C
  obtain ⟨rfl, hA, hSF⟩ := M
  subst hst
  intro H locs ls hP hI hl
  have hF := va_free hI.1 hI.2 hA isC hC0
  have hPc : PW G wc H := part_P hP isC hC0
  have hDc := hI.1.sub isC hnC hC0
  refine va_callq (va_runS (As := As) (rest := rest) ⟨hx, hb, hml, hown, hts⟩ (hM H.size) (va_cwS nn hts cs.1 rfl hrm.1 hrm.2.1 cs.2 hrm.2.2) ⟨pcM_blind, fun U hU hW => ⟨rfl, by rw [hU], by rw [hU]; exact hPc, hKW.warm hW, hDc.weaken (fun _ _ _ _ => trivial), by rw [hU]; exact hSF.call hI.2 hW hF⟩⟩ rfl hn hl.1 rfl (lv_room hcat) hdg ⟨hkn.1, hkn.2⟩) hI.2 (fun q _ h => hF q h) hF (fun r S t H1 locs1 ht hvm hq hB hz1 hk1 hS => ?_)
  rw [BM, ht] at hB
  obtain ⟨j1, j2⟩ := va_join hP hI.1 isC isR hC0 hR0 hnR hdis hk1 hF hB.1 hB.2.2
  exact kk r S hq H1 locs1 ls j1 ⟨j2, hS⟩ hl
theorem y_callFqX {G : Gx} {K : Kx} {own : String} {cc : ByteArray} {rm : Room} {nL : Nat} {ret : Option FieldType} {k n pc : Nat} {w : va_W} {lv : List (Nat × Value)} {st : List Value} (C : KOk G K own cc rm nL ret) {A : Nat → Prop} (M : KM G K A) {mc ms k' n' : Nat} {y : MethodName} {bytes : ByteArray} {maxL index nn : Nat} {ret' : Option FieldType} {rm' : Room} {b : Nat} {As rest : List Value} {S9 : Type} {wf : S9 → va_W} {Qp : Option Nat → S9 → Prop} {wc wr : va_W} (cs : CsV own index y bytes maxL ret' nn) (hM : MqA G y (ws_ y bytes maxL ret') rm' wc (.ref b :: As) wf Qp mc ms) (hs : Split w wc wr) (hrecv : ∀ (A : Nat → Prop) (s : State) (H : Heap) (locs : List Loc), SF G A s s.heap → va_S A s.heap H locs → ∃ cell : Cell, H[b]? = some cell ∧ cell.vm.isStatics = false ∧ s.vm.findClass y.cls = some cell.cls) (hrm : rm'.cells = mc ∧ rm'.slots = ms ∧ rm'.frames + 1 ≤ rm.frames ∧ 8 + (maxL + 11) + rm'.locals ≤ rm.locals) (hn : As.length = nn) (hst : st = As.reverse ++ .ref b :: rest) (hcat : (rest.map fun v => v.category).sum ≤ 8) (hdg : decode cc pc = .ok (.invokevirtual index, 3)) (hkn : k + mc ≤ rm.cells ∧ n + ms ≤ rm.slots) (hk' : k + mc = k') (hn' : n + ms = n') (kk : ∀ (r : Option Nat) (S : S9), Qp r S → Y G K k' n' (wr ++ wf S) (pc + 3) lv (va_rf r :: rest)) : Y G K k n w pc lv st := by
  subst hk' hn'
  obtain ⟨isC, isR, hC0, hR0, hnC, hnR, hdis⟩ := hs
  obtain ⟨R, nL0, p, e, s, m, args, below, meth, c, Q, I⟩ := K
  obtain ⟨rfl, rfl, hx, hb, hr, hlk, hml, hown, hts, hKW⟩ := C
  obtain ⟨rfl, hA, hSF⟩ := M
  subst hst
  intro H locs ls hP hI hl
  have hF := va_free hI.1 hI.2 hA isC hC0
  have hPc : PW G wc H := part_P hP isC hC0
  have hDc := hI.1.sub isC hnC hC0
  refine va_callq (va_runV (As := As) (rest := rest) (b := b) ⟨hx, hb, hml, hown, hts⟩ (hM H.size) (cwV nn hts cs.1 rfl hrm.1 hrm.2.1 ⟨rfl, cs.2⟩ hrm.2.2) ⟨pcM_blind, hrecv _ _ _ _ hSF hI.2, fun U hU hW => ⟨rfl, by rw [hU], by rw [hU]; exact hPc, hKW.warm hW, hDc.weaken (fun _ _ _ _ => trivial), by rw [hU]; exact hSF.call hI.2 hW hF⟩⟩ rfl hn hl.1 rfl (lv_room hcat) hdg ⟨hkn.1, hkn.2⟩) hI.2 (fun q _ h => hF q h) hF (fun r S t H1 locs1 ht hvm hq hB hz1 hk1 hS => ?_)
  rw [BM, ht] at hB
  obtain ⟨j1, j2⟩ := va_join hP hI.1 isC isR hC0 hR0 hnR hdis hk1 hF hB.1 hB.2.2
  exact kk r S hq H1 locs1 ls j1 ⟨j2, hS⟩ hl
