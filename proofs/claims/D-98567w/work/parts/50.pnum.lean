/-! THE PLAIN LAW: branches, small numbers, what a dance is and how both sides hold it -/
set_option maxRecDepth 100000
theorem p_lit (n : Nat) : (OfNat.ofNat n : Int32) = nI n := rfl
theorem br01 {c p : Prop} [Decidable c] [Decidable p] (Q : Int32 → Prop) (h : p ↔ ¬ c) : ((c → Q 0) ∧ (¬ c → Q 1)) = Q (b2i p) := by
  by_cases hc : c
  · rw [b2i_f (fun hp => h.mp hp hc)]; simp [hc]
  · rw [b2i_t (h.mpr hc)]; simp [hc]
theorem br10 {c p : Prop} [Decidable c] [Decidable p] (Q : Int32 → Prop) (h : p ↔ c) : ((¬ c → Q 0) ∧ (c → Q 1)) = Q (b2i p) := by
  by_cases hc : c
  · rw [b2i_t (h.mpr hc)]; simp [hc]
  · rw [b2i_f (fun hp => hc (h.mp hp))]; simp [hc]
theorem an_q {p q : Prop} [Decidable p] [Decidable q] (Q : Int32 → Prop) : ((b2i p = 0 → Q 0) ∧ (¬ b2i p = 0 → Q (b2i q))) = Q (b2i (p ∧ q)) := by
  by_cases hp : p
  · simp [b2i, hp]
  · simp [b2i, hp]
theorem b01_q {p : Prop} [Decidable p] (Q : Int32 → Prop) : ((b2i p = 0 → Q 0) ∧ (¬ b2i p = 0 → Q 1)) = Q (b2i p) := by
  by_cases hp : p
  · simp [b2i, hp]
  · simp [b2i, hp]
theorem b10_q {p : Prop} [Decidable p] (Q : Int32 → Prop) : ((¬ b2i p = 0 → Q 1) ∧ (b2i p = 0 → Q 0)) = Q (b2i p) := by
  by_cases hp : p
  · simp [b2i, hp]
  · simp [b2i, hp]
theorem if_q {p : Prop} [Decidable p] {A B : Prop} : ((b2i p = 0 → A) ∧ (¬ b2i p = 0 → B)) = ((¬ p → A) ∧ (p → B)) := by
  by_cases hp : p
  · simp [b2i, hp]
  · simp [b2i, hp]
theorem if_q' {p : Prop} [Decidable p] {A B : Prop} : ((¬ b2i p = 0 → A) ∧ (b2i p = 0 → B)) = ((p → A) ∧ (¬ p → B)) := by
  by_cases hp : p
  · simp [b2i, hp]
  · simp [b2i, hp]
theorem nar_q {p : Prop} [Decidable p] (Q : Int32 → Prop) : (narrow .boolean (.int (b2i p)) = .int (b2i p) ∧ Q (b2i p)) = Q (b2i p) := by
  rw [b2i_nar]; simp
theorem b2i_congr {p q : Prop} [Decidable p] [Decidable q] (h : p ↔ q) : b2i p = b2i q := by
  by_cases hp : p
  · rw [b2i_t hp, b2i_t (h.mp hp)]
  · rw [b2i_f hp, b2i_f (fun hq => hp (h.mpr hq))]
/-- a script's number that lies below n -/
abbrev isI (x : Int32) (n : Nat) : Prop := 0 ≤ x.toInt ∧ x.toInt < n
theorem isI_of {j n : Nat} (h : j < n) (hn : n ≤ 2 ^ 31) : isI (nI j) n := by
  unfold isI
  rw [nI_toInt (by omega)]
  omega
theorem isI_ex {x : Int32} {n : Nat} (h : isI x n) (hn : n ≤ 2 ^ 31) : ∃ j : Nat, j < n ∧ x = nI j := by
  refine ⟨x.toInt.toNat, by have := h.1; have := h.2; omega, ?_⟩
  apply Int32.toInt_inj.mp
  rw [nI_toInt (by have := h.2; omega)]
  have := h.1
  omega
theorem isI_cl {x : Int32} {n : Nat} (h : isI x n) (hn : n ≤ 2 ^ 31) : x.toNatClampNeg < n ∧ x = nI x.toNatClampNeg := by
  obtain ⟨j, hj, rfl⟩ := isI_ex h hn
  rw [nI_clamp (by omega)]
  exact ⟨hj, rfl⟩
theorem isI_nI {j n : Nat} (hj : j < 2 ^ 31) (hn : n ≤ 2 ^ 31) : isI (nI j) n ↔ j < n := by
  unfold isI
  rw [nI_toInt hj]
  omega
theorem tL (x : Int32) : x.toInt64.toInt = x.toInt := Int32.toInt_toInt64 x
theorem n_lit {n : Nat} (h : n < 2 ^ 31) : (nI n).toInt = n := nI_toInt h
theorem m1_ne {n : Nat} (h : n < 2 ^ 31) : ¬ nI n = (-1) := by
  intro q
  have := congrArg Int32.toInt q
  rw [nI_toInt h, show ((-1 : Int32)).toInt = -1 from by decide] at this
  omega
theorem m1_ne' {n : Nat} (h : n < 2 ^ 31) : ¬ (-1) = nI n := fun q => m1_ne h q.symm
theorem eq0 {n : Nat} (h : n < 2 ^ 31) : nI n = 0 ↔ n = 0 := nI_eq (b := 0) h (by decide)
theorem le0 {n : Nat} (h : n < 2 ^ 31) : nI n ≤ 0 ↔ n = 0 := by
  rw [show (0 : Int32) = nI 0 from rfl, nI_leI h (by decide)]; omega
theorem lt0 {n : Nat} (h : n < 2 ^ 31) : 0 < nI n ↔ 0 < n := nI_ltI (a := 0) (by decide) h
theorem ge0 {n : Nat} (h : n < 2 ^ 31) : 0 ≤ nI n ↔ True := iff_true_intro (nI_pos' h)
theorem neg0 {n : Nat} (h : n < 2 ^ 31) : nI n < 0 ↔ False := iff_false_intro (nI_pos h)
theorem rem_nI {a d : Nat} (ha : a < 2 ^ 31) (h0 : 0 < d) (hd : d < 2 ^ 31) : irm (nI a) (nI d) = nI (a % d) := pk_rem ha h0 hd
theorem in_nI {n N : Nat} (h : n < 2 ^ 31) (hN : N < 2 ^ 31) : vp_in (nI n) N ↔ n < N := by
  unfold vp_in
  rw [nI_clamp h, neg0 h, false_or, Nat.not_le]
/-- a dance: by cells (as the system's are numbered) and places, small numbers -/
abbrev Dn : Type := Nat → Nat → Nat
def inD (c k : Nat) : Prop := (c = 15 ∧ k < 8) ∨ ((c = 16 ∨ c = 17) ∧ k < 2) ∨ (c = 18 ∧ k < 24) ∨ (c = 19 ∧ k < 6) ∨ ((c = 20 ∨ c = 21 ∨ c = 22 ∨ c = 23) ∧ k < 8) ∨ ((c = 24 ∨ c = 25) ∧ k < 12) ∨ ((c = 26 ∨ c = 27) ∧ k < 5) ∨ (c = 28 ∧ k < 40) ∨ (c = 29 ∧ k < 200)
def RX (D : Dn) (S : St) : Prop := ∀ c k, inD c k → S.1 c k = nI (D c k)
/-- how many of the first n changes are stumbles -/
def cz (D : Dn) : Nat → Nat
  | 0 => 0
  | n + 1 => cz D n + (if D 28 n < 100000 then 1 else 0)
/-- a change, as a number -/
def chOk (v : Nat) : Prop := v = 0 ∨ (∃ b w, b < 200 ∧ w < 2 ∧ v = 100000 + 10 * b + w) ∨ (∃ i t, i < 24 ∧ t < 6 ∧ v = 200000 + 10 * i + t)
def WFr (D : Dn) : Prop := ∀ s, s < 2 → D 16 s ≤ 12 ∧ D 17 s < 12 ∧ (0 < D 16 s → D 17 s < D 16 s) ∧ ∀ i, i < D 16 s → D 18 (12 * s + i) < 6
def WFs (D : Dn) : Prop := (∀ k, k < D 15 4 → D 20 k < 2 ∧ D 21 k < 200 ∧ D 22 k < 6 ∧ D 23 k ≤ 9) ∧ ∀ j k, j < D 15 4 → k < D 15 4 → D 20 j = D 20 k → D 21 j = D 21 k → j = k
def WFc (D : Dn) : Prop := (∀ k, k < D 15 7 → chOk (D 28 k)) ∧ cz D (D 15 7) ≤ D 15 4
/-- what holds of every dance that is read -/
def WF (D : Dn) : Prop := (D 15 0 ≤ 20 ∧ D 15 1 ≤ 100 ∧ D 15 2 ≤ 100 ∧ D 15 3 ≤ 2000 ∧ D 15 4 ≤ 8 ∧ D 15 5 ≤ 12 ∧ D 15 6 ≤ 5 ∧ D 15 7 ≤ 40) ∧ WFr D ∧ (∀ t, t < 6 → D 19 t < 64) ∧ WFs D ∧ (∀ k, k < D 15 5 → 1 ≤ D 24 k ∧ D 24 k ≤ 9 ∧ D 25 k < D 24 k) ∧ (∀ k, k < D 15 6 → 1 ≤ D 26 k ∧ D 26 k ≤ 30 ∧ D 27 k < D 26 k) ∧ (∀ b, b < 200 → D 29 b < 2) ∧ WFc D
/-- a change, as the reference keeps it -/
def chM (v : Nat) (f : Nat → Int32) (k : Nat) : Prop := (v = 0 ∧ f k = 0 ∧ f (k + 1) = 0 ∧ f (k + 2) = 0 ∧ f (k + 3) = 0) ∨ (∃ b w, b < 200 ∧ w < 2 ∧ v = 100000 + 10 * b + w ∧ f k = 1 ∧ f (k + 1) = 0 ∧ f (k + 2) = nI b ∧ f (k + 3) = nI w) ∨ (∃ s i t, s < 2 ∧ i < 12 ∧ t < 6 ∧ v = 200000 + 10 * (12 * s + i) + t ∧ f k = 2 ∧ f (k + 1) = nI s ∧ f (k + 2) = nI i ∧ f (k + 3) = nI t)
/-- the reference's has, by the system's place -/
def hasP : Nat → Nat × Nat
  | 0 => (15, 0)
  | 1 => (15, 1)
  | 2 => (15, 2)
  | 3 => (16, 0)
  | 4 => (16, 1)
  | 5 => (17, 0)
  | 6 => (17, 1)
  | 7 => (15, 4)
  | 8 => (15, 5)
  | 9 => (15, 6)
  | _ => (15, 7)
def RMh (D : Dn) (w : Nat) (S : St) : Prop := S.1 6 w = nI (D 15 3) ∧ ∀ j, j < 11 → S.1 7 (11 * w + j) = nI (D (hasP j).1 (hasP j).2)
def RMr (D : Dn) (w : Nat) (S : St) : Prop := ∀ s i, s < 2 → i < D 16 s → S.1 8 (24 * w + (12 * s + i)) = nI (D 18 (12 * s + i))
def RMs (D : Dn) (w : Nat) (S : St) : Prop := ∀ k, k < D 15 4 → S.1 10 (32 * w + 4 * k) = nI (D 20 k) ∧ S.1 10 (32 * w + 4 * k + 1) = nI (D 21 k) ∧ S.1 10 (32 * w + 4 * k + 2) = nI (D 22 k) ∧ S.1 10 (32 * w + 4 * k + 3) = nI (D 23 k)
/-- the reference's dance w is D -/
def RM (D : Dn) (w : Nat) (S : St) : Prop := RMh D w S ∧ RMr D w S ∧ (∀ t, t < 6 → S.1 9 (6 * w + t) = nI (D 19 t)) ∧ RMs D w S ∧ (∀ b, b < 200 → S.1 11 (200 * w + b) = nI (D 29 b)) ∧ (∀ k, k < D 15 5 → S.1 12 (24 * w + 2 * k) = nI (D 24 k) ∧ S.1 12 (24 * w + 2 * k + 1) = nI (D 25 k)) ∧ (∀ k, k < D 15 6 → S.1 13 (10 * w + 2 * k) = nI (D 26 k) ∧ S.1 13 (10 * w + 2 * k + 1) = nI (D 27 k)) ∧ ∀ k, k < D 15 7 → chM (D 28 k) (S.1 14) (160 * w + 4 * k)
/-- what the system's questions leave as it was -/
def kX (c k : Nat) : Prop := 15 ≤ c ∨ c = 1 ∨ c = 13 ∨ (c = 0 ∧ k < 5)
def KX (S S1 : St) : Prop := ∀ c k, kX c k → S1.1 c k = S.1 c k
/-- what the reference's questions leave as it was -/
def kM (c k : Nat) : Prop := (c = 1 ∨ c = 2 ∨ c = 5 ∨ (6 ≤ c ∧ c < 16)) ∨ (c = 0 ∧ (k = 6 ∨ k = 14 ∨ k = 15))
def KN (S S1 : St) : Prop := (∀ c k, kM c k → S1.1 c k = S.1 c k) ∧ ∀ k, S1.2 3 k = S.2 3 k
theorem KX.rf (S : St) : KX S S := fun _ _ _ => rfl
theorem KX.tr {S T U : St} (h : KX S T) (g : KX T U) : KX S U := fun c k q => (g c k q).trans (h c k q)
theorem KX.wI {S T : St} (h : KX S T) {c k : Nat} (v : Int32) (n : ¬ kX c k) : KX S (sI T c k v) := fun c' k' q => by
  rw [sI_1, if_neg (fun z => n (by rw [← z.1, ← z.2]; exact q))]; exact h c' k' q
theorem KX.wL {S T : St} (h : KX S T) (c k : Nat) (v : Int64) : KX S (sL T c k v) := h
theorem KX.rx {D : Dn} {S T : St} (h : KX S T) (g : RX D S) : RX D T := fun c k q => (h c k (Or.inl (by unfold inD at q; omega))).trans (g c k q)
theorem KN.rf (S : St) : KN S S := ⟨fun _ _ _ => rfl, fun _ => rfl⟩
theorem KN.tr {S T U : St} (h : KN S T) (g : KN T U) : KN S U := ⟨fun c k q => (g.1 c k q).trans (h.1 c k q), fun k => (g.2 k).trans (h.2 k)⟩
theorem KN.wI {S T : St} (h : KN S T) {c k : Nat} (v : Int32) (n : ¬ kM c k) : KN S (sI T c k v) := ⟨fun c' k' q => by
  rw [sI_1, if_neg (fun z => n (by rw [← z.1, ← z.2]; exact q))]; exact h.1 c' k' q, h.2⟩
theorem KN.wL {S T : St} (h : KN S T) {c k : Nat} (v : Int64) (n : ¬ c = 3) : KN S (sL T c k v) := ⟨h.1, fun k' => by
  rw [sL_2, if_neg (fun z => n z.1.symm)]; exact h.2 k'⟩
theorem chM.cg {v : Nat} {f g : Nat → Int32} {k : Nat} (h : chM v f k) (e : ∀ j, g j = f j) : chM v g k := by
  have : g = f := funext e
  rw [this]; exact h
theorem KN.rm {D : Dn} {w : Nat} {S T : St} (h : KN S T) (g : RM D w S) : RM D w T := by
  have e : ∀ c k, 6 ≤ c → c < 16 → T.1 c k = S.1 c k := fun c k h1 h2 => h.1 c k (Or.inl (Or.inr (Or.inr (Or.inr ⟨h1, h2⟩))))
  obtain ⟨g1, g2, g3, g4, g5, g6, g7, g8⟩ := g
  refine ⟨⟨(e 6 _ (by omega) (by omega)).trans g1.1, fun j hj => (e 7 _ (by omega) (by omega)).trans (g1.2 j hj)⟩, fun s i hs hi => (e 8 _ (by omega) (by omega)).trans (g2 s i hs hi), fun t ht => (e 9 _ (by omega) (by omega)).trans (g3 t ht), fun k hk => ?_, fun b hb => (e 11 _ (by omega) (by omega)).trans (g5 b hb), fun k hk => ?_, fun k hk => ?_, fun k hk => (g8 k hk).cg (fun j => e 14 j (by omega) (by omega))⟩
  · rw [e 10 _ (by omega) (by omega), e 10 _ (by omega) (by omega), e 10 _ (by omega) (by omega), e 10 _ (by omega) (by omega)]; exact g4 k hk
  · rw [e 12 _ (by omega) (by omega), e 12 _ (by omega) (by omega)]; exact g6 k hk
  · rw [e 13 _ (by omega) (by omega), e 13 _ (by omega) (by omega)]; exact g7 k hk
/-- the tapes, what was wrong last, the digits -/
def RF (S S' : St) : Prop := (∃ tp : Nat, tp ≤ 1200 ∧ S.1 0 2 = nI tp ∧ S'.1 0 6 = nI tp) ∧ S.1 0 3 = S'.1 0 14 ∧ S.1 0 4 = S'.1 0 15 ∧ (∀ k, k < 1200 → S.1 1 k = S'.1 5 k ∧ (S.1 1 k).toInt8.toInt32 = S.1 1 k) ∧ ∀ k, k < 6 → S.1 13 k = nI (3 ^ k)
/-- a value of a slot's kind -/
def kdOk (kd : Nat) (v : Int64) : Prop := if kd = 1 then v.toInt32.toInt8.toInt32.toInt64 = v else if kd = 2 then v.toInt32.toInt16.toInt32.toInt64 = v else if kd = 3 then v.toInt32.toInt64 = v else True
def RS (L : Lx) (S' : St) : Prop := ∀ s, s < 4 → L.1 s ≤ 4 ∧ S'.1 1 s = (if L.1 s = 0 then -1 else nI (L.1 s - 1)) ∧ (¬ L.1 s = 0 → L.2.1 s ≤ 60 ∧ S'.1 2 s = nI (L.2.1 s) ∧ ∀ k, k < L.2.1 s → S'.2 3 (60 * s + k) = L.2.2 s k ∧ kdOk (L.1 s) (L.2.2 s k))
def keptI (I : Ix) (k : Nat) : Bool := I.1 && I.2.2.2.1 k
def RI (I : Ix) (S' : St) : Prop := ∀ k, k < 3 → S'.1 15 k = (if keptI I k = true then 1 else 0) ∧ (keptI I k = true → ∃ D, WF D ∧ RX D (I.2.2.2.2.2 k) ∧ RM D (1 + k) S')
/-- what holds between the system and the reference from one call to the next -/
def R9 (L : Lx) (I : Ix) (S S' : St) : Prop := ∃ D, WF D ∧ RX D S ∧ RM D 0 S' ∧ RF S S' ∧ RS L S' ∧ RI I S'
theorem RF.keep {S S' S1 T : St} (h : RF S S') (k1 : KX S S1) (k2 : KN S' T) : RF S1 T := by
  obtain ⟨⟨tp, h0, h1, h2⟩, h3, h4, h5, h6⟩ := h
  have x : ∀ k, k < 5 → S1.1 0 k = S.1 0 k := fun k hk => k1 0 k (Or.inr (Or.inr (Or.inr ⟨rfl, hk⟩)))
  refine ⟨⟨tp, h0, (x 2 (by omega)).trans h1, (k2.1 0 6 (by unfold kM; omega)).trans h2⟩, ?_, ?_, fun k hk => ?_, fun k hk => (k1 13 k (by unfold kX; omega)).trans (h6 k hk)⟩
  · rw [x 3 (by omega), k2.1 0 14 (by unfold kM; omega)]; exact h3
  · rw [x 4 (by omega), k2.1 0 15 (by unfold kM; omega)]; exact h4
  · rw [k1 1 k (by unfold kX; omega), k2.1 5 k (by unfold kM; omega)]; exact h5 k hk
theorem RS.keep {L : Lx} {S' T : St} (h : RS L S') (k2 : KN S' T) : RS L T := by
  intro s hs
  obtain ⟨h1, h2, h3⟩ := h s hs
  refine ⟨h1, (k2.1 1 s (by unfold kM; omega)).trans h2, fun n => ?_⟩
  obtain ⟨g1, g2, g3⟩ := h3 n
  exact ⟨g1, (k2.1 2 s (by unfold kM; omega)).trans g2, fun k hk => ⟨(k2.2 _).trans (g3 k hk).1, (g3 k hk).2⟩⟩
theorem RI.keep {I : Ix} {S' T : St} (h : RI I S') (k2 : KN S' T) : RI I T := by
  intro k hk
  obtain ⟨h1, h2⟩ := h k hk
  refine ⟨(k2.1 15 k (by unfold kM; omega)).trans h1, fun c => ?_⟩
  obtain ⟨D, g1, g2, g3⟩ := h2 c
  exact ⟨D, g1, g2, k2.rm g3⟩
theorem R9.keep {L : Lx} {I : Ix} {S S' S1 T : St} (h : R9 L I S S') (k1 : KX S S1) (k2 : KN S' T) : R9 L I S1 T := by
  obtain ⟨D, h1, h2, h3, h4, h5, h6⟩ := h
  exact ⟨D, h1, k1.rx h2, k2.rm h3, h4.keep k1 k2, h5.keep k2, h6.keep k2⟩
/-- the reference's note that nothing was thrown -/
theorem kn0 (S : St) (v : Int32) : KN S (sI S 0 0 v) := (KN.rf S).wI v (by unfold kM; omega)
