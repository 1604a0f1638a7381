/-! THE PLAIN LAW: meets, shifted, shift, least, mend, mended, stuck -/
set_option maxRecDepth 100000
/-- the place of a round danced without a stumble; the step there -/
def plc (D : Dn) (s b : Nat) : Nat := (D 17 s + b) % D 16 s
def stR (D : Dn) (s b : Nat) : Nat := D 18 (12 * s + plc D s b)
/-- both rounds are there -/
def rds (D : Dn) : Prop := 0 < D 16 0 ∧ 0 < D 16 1
theorem rds.s {D : Dn} (h : rds D) {s : Nat} (hs : s < 2) : 0 < D 16 s := by
  rcases (show s = 0 ∨ s = 1 by omega) with rfl | rfl
  · exact h.1
  · exact h.2
theorem plc_lt {D : Dn} (h : rds D) {s : Nat} (hs : s < 2) (b : Nat) : plc D s b < D 16 s := Nat.mod_lt _ (h.s hs)
theorem stR_lt {D : Dn} (hW : WF D) (h : rds D) {s : Nat} (hs : s < 2) (b : Nat) : stR D s b < 6 := (hW.2.1 s hs).2.2.2 _ (plc_lt h hs b)
theorem x_placeBy {D : Dn} {S : St} (hX : RX D S) (hW : WF D) (h : rds D) {s b : Nat} (hs : s < 2) (hb : b < 100000) (Q : Int32 → Prop) : wp_o_placeBy S (nI s) (nI b) Q = Q (nI (plc D s b)) := by
  have w := hW.2.1 s hs
  have h0 := h.s hs
  unfold wp_o_placeBy plc
  rw [nI_clamp (show s < 2 ^ 31 by omega), hX.len hs, hX.beg hs, nI_add, rem_nI (by omega) h0 (by omega), in_nI (by omega) (by omega), eq0 (by omega)]
  simp only [hs, true_and, show ¬ D 16 s = 0 by omega, not_false_eq_true]
theorem x_dstep {D : Dn} {S : St} (hX : RX D S) (hW : WF D) (h : rds D) {s b : Nat} (hs : s < 2) (Q : Int32 → Prop) : wp_d_step S (nI s) (nI (plc D s b)) Q = Q (nI (stR D s b)) := by
  have w := hW.2.1 s hs
  have hp := plc_lt h hs b
  unfold wp_d_step stR
  rw [e12, nI_clamp (show 12 * s + plc D s b < 2 ^ 31 by omega), hX.rnd (by omega), in_nI (by omega) (by omega)]
  simp only [show 12 * s + plc D s b < 24 by omega, true_and]
theorem x_dstepI {D : Dn} {S : St} (hX : RX D S) (hW : WF D) {s i : Nat} (hs : s < 2) (hi : i < D 16 s) (Q : Int32 → Prop) : wp_d_step S (nI s) (nI i) Q = Q (nI (D 18 (12 * s + i))) := by
  have w := hW.2.1 s hs
  unfold wp_d_step
  rw [e12, nI_clamp (show 12 * s + i < 2 ^ 31 by omega), hX.rnd (by omega), in_nI (by omega) (by omega)]
  simp only [show 12 * s + i < 24 by omega, true_and]
/-- whether a step may not meet another -/
def cla (D : Dn) (t u : Nat) : Bool := !((D 19 t).testBit u)
theorem x_clashes {D : Dn} {S : St} (hX : RX D S) (hW : WF D) {t u : Nat} (ht : t < 6) (hu : u < 6) (Q : Int32 → Prop) : wp_o_clashes S (nI t) (nI u) Q = Q (b2i (cla D t u = true)) := by
  unfold wp_o_clashes cla
  rw [nI_clamp (show t < 2 ^ 31 by omega), hX.ans ht, o_has_eq (hW.2.2.1 t ht) hu, in_nI (by omega) (by omega)]
  simp only [ht, true_and]
  cases (D 19 t).testBit u <;> simp [b2i]
theorem m_plain_eq {D : Dn} {S : St} (hM : RM D 0 S) (hW : WF D) (h : rds D) {s b c : Nat} (hs : s < 2) (hb : b < 100000) (hc : c < 100000) (Q : Int32 → Prop) : wp_m_plain S (nI s) (nI b) (nI c) Q = Q (nI (stR D s (b + c))) := by
  have w := hW.2.1 s hs
  have h0 := h.s hs
  have hp := plc_lt h hs (b + c)
  unfold wp_m_plain stR
  rw [m_lengthOf_eq hM hs, p_lit 5, nI_add, nI_clamp (show 5 + s < 2 ^ 31 by omega), hM.beg hs, nI_add, nI_add, rem_nI (by omega) h0 (by omega), show (D 17 s + b + c) % D 16 s = plc D s (b + c) by unfold plc; rw [Nat.add_assoc], e12, nI_clamp (show 12 * s + plc D s (b + c) < 2 ^ 31 by omega), hM.rnd hs hp, in_nI (by omega) (by omega), in_nI (by omega) (by omega), eq0 (by omega)]
  simp only [show 5 + s < 55 by omega, show 12 * s + plc D s (b + c) < 120 by omega, show ¬ D 16 s = 0 by omega, not_false_eq_true, true_and]
theorem m_clash {D : Dn} {S : St} (hM : RM D 0 S) (hW : WF D) {t u : Nat} (ht : t < 6) (hu : u < 6) (Q : Int32 → Prop) : wp_m_clashes S (nI t) (nI u) Q = Q (b2i (cla D t u = true)) := by
  rw [m_clashes_eq hM hW (Or.inr ⟨t, ht, rfl⟩) (Or.inr ⟨u, hu, rfl⟩), hol_of D ht hu]
  rfl
-- ---- where both are at once
section
variable {L : Lx} {I : Ix} {S S' : St}
/-- the first of m from a with p -/
def fst? (p : Nat → Bool) : Nat → Nat → Int32
  | 0, _ => -1
  | m + 1, a => if p a = true then nI a else fst? p m (a + 1)
theorem x_meetsL {D : Dn} (hX : RX D S) (hW : WF D) (h : rds D) {p o b : Nat} (hp : p < 12) (ho : o < 12) (hb : b < 200) (Q : Int32 → Prop) : ∀ m a, a + m = b + perN D → Q (fst? (fun k => decide (plc D 0 k = p ∧ plc D 1 k = o)) m a) → wp_o_meets_b33 S Q (nI p) (nI o) (nI b) (m + 1) (nI a) := by
  have hN := perN_le hW
  have w0 := (hW.2.1 0 (by decide)).1
  have w1 := (hW.2.1 1 (by decide)).1
  intro m
  induction m with
  | zero =>
    intro a ha hq
    rw [wp_o_meets_b33]
    refine x_periodOf hX hW h.1 ?_
    rw [nI_add]
    exact ⟨fun _ => hq, fun c => absurd (nI_le (by omega) (by omega)) c⟩
  | succ m ih =>
    intro a ha hq
    rw [wp_o_meets_b33]
    refine x_periodOf hX hW h.1 ?_
    have e0 := fun Q => x_placeBy hX hW h (s := 0) (b := a) (by decide) (by omega) Q
    have e1 := fun Q => x_placeBy hX hW h (s := 1) (b := a) (by decide) (by omega) Q
    have q0 := plc_lt h (s := 0) (by decide) a
    have q1 := plc_lt h (s := 1) (by decide) a
    rw [show nI 0 = 0 from rfl] at e0
    rw [show nI 1 = 1 from rfl] at e1
    rw [nI_add, e0, e1, nI_eq (by omega) (by omega), nI_eq (by omega) (by omega), nI_1 a]
    unfold fst? at hq
    refine ⟨fun c => absurd c (nI_ge (by omega) (by omega)), fun _ => ⟨fun c => ih (a + 1) (by omega) ?_, fun c => ⟨fun c2 => ih (a + 1) (by omega) ?_, fun c2 => ?_⟩⟩⟩
    · rwa [if_neg (by simp [c])] at hq
    · rwa [if_neg (by simp [c2])] at hq
    · rwa [if_pos (by simp [c, c2])] at hq
theorem m_meetsL {D : Dn} (hM : RM D 0 S) (hW : WF D) (h : rds D) {p o b : Nat} (hp : p < 12) (ho : o < 12) (hb : b < 200) (Q : Int32 → St → Prop) : ∀ m a, a + m = b + perN D → Q (fst? (fun k => decide (plc D 0 k = p ∧ plc D 1 k = o)) m a) S → wp_m_meets_b60 Q (nI p) (nI o) (nI b) (m + 1) S (nI a) := by
  have hN := perN_le hW
  have w0 := hW.2.1 0 (by decide)
  have w1 := hW.2.1 1 (by decide)
  have z0 := h.1
  have z1 := h.2
  intro m
  induction m with
  | zero =>
    intro a ha hq
    rw [wp_m_meets_b60]
    refine m_periodOf hM hW h.1 ?_
    rw [nI_add]
    exact ⟨fun _ => hq, fun c => absurd (nI_le (by omega) (by omega)) c⟩
  | succ m ih =>
    intro a ha hq
    rw [wp_m_meets_b60]
    refine m_periodOf hM hW h.1 ?_
    have l0 := fun Q => m_lengthOf_eq hM (s := 0) (by decide) Q
    have l1 := fun Q => m_lengthOf_eq hM (s := 1) (by decide) Q
    have b0 : S.1 7 5 = nI (D 17 0) := hM.h (j := 5) (by decide)
    have b1 : S.1 7 6 = nI (D 17 1) := hM.h (j := 6) (by decide)
    have q0 := plc_lt h (s := 0) (by decide) a
    have q1 := plc_lt h (s := 1) (by decide) a
    rw [show nI 0 = 0 from rfl] at l0
    rw [show nI 1 = 1 from rfl] at l1
    rw [nI_add, l0, l1, b0, b1, nI_add, nI_add, rem_nI (by omega) z0 (by omega), rem_nI (by omega) z1 (by omega), show (D 17 0 + a) % D 16 0 = plc D 0 a from rfl, show (D 17 1 + a) % D 16 1 = plc D 1 a from rfl, nI_eq (by omega) (by omega), nI_eq (by omega) (by omega), nI_1 a]
    unfold fst? at hq
    refine ⟨fun c => absurd c (nI_ge (by omega) (by omega)), fun _ => ⟨nI_ne0 z0 (by omega), fun c => ih (a + 1) (by omega) ?_, fun c => ⟨nI_ne0 z1 (by omega), fun c2 => ih (a + 1) (by omega) ?_, fun c2 => ?_⟩⟩⟩
    · rwa [if_neg (by simp [c])] at hq
    · rwa [if_neg (by simp [c2])] at hq
    · rwa [if_pos (by simp [c, c2])] at hq
theorem pl_meets (h : R9 L I S S') (x y z : Int32) : wp_o_meets S x y z (fun v => wp_m_meets S' x y z (fun v' T => v = v' ∧ R9 L I S T)) := by
  obtain ⟨D, hW, hX, hM, -⟩ := id h
  have hM2 := (kn0 S' 0).rm hM
  have k := h.keep (KX.rf S) (kn0 S' 0)
  have w0 := (hW.2.1 0 (by decide)).1
  have w1 := (hW.2.1 1 (by decide)).1
  have l0 := fun Q => m_lengthOf_eq hM2 (s := 0) (by decide) Q
  have l1 := fun Q => m_lengthOf_eq hM2 (s := 1) (by decide) Q
  have p0 := fun x Q => o_isPlace_eq hX hW (s := 0) (by decide) x Q
  have p1 := fun x Q => o_isPlace_eq hX hW (s := 1) (by decide) x Q
  rw [show nI 0 = 0 from rfl] at l0 p0
  rw [show nI 1 = 1 from rfl] at l1 p1
  have mm : ∀ v : Int32, (¬ (0 < D 15 3 ∧ isI x (D 16 0) ∧ isI y (D 16 1) ∧ isI z 200) → v = -2) → (∀ i j b, 0 < D 15 3 → i < D 16 0 → j < D 16 1 → b < 200 → x = nI i → y = nI j → z = nI b → v = fst? (fun k => decide (plc D 0 k = i ∧ plc D 1 k = j)) (perN D) b) → wp_m_meets S' x y z (fun v' T => v = v' ∧ R9 L I S T) := by
    intro v v1 v0
    unfold wp_m_meets
    try dsimp only
    rw [m_isDance_eq hM2.lines hW, l0, l1, m_in_eq, m_in_eq, m_isBeat_eq, b2i_congr (in_many rfl (show D 16 0 < 2 ^ 30 by omega)), b2i_congr (in_many rfl (show D 16 1 < 2 ^ 30 by omega)), if_q, if_q, if_q, if_q']
    refine ⟨fun c => ⟨v1 (fun q => c q.1), k⟩, fun c => ⟨fun c1 => ⟨v1 (fun q => c1 q.2.1), k⟩, fun c1 => ⟨fun c2 => ⟨v1 (fun q => c2 q.2.2.1), k⟩, fun c2 => ⟨fun c3 => ?_, fun c3 => ⟨v1 (fun q => c3 q.2.2.2), k⟩⟩⟩⟩⟩
    obtain ⟨i, hi, rfl⟩ := isI_ex c1 (by omega)
    obtain ⟨j, hj, rfl⟩ := isI_ex c2 (by omega)
    obtain ⟨b, hb, rfl⟩ := isI_ex c3 (by decide)
    exact ⟨_, m_meetsL hM2 hW ⟨by omega, by omega⟩ (by omega) (by omega) hb _ (perN D) b (by omega) ⟨v0 i j b c hi hj hb rfl rfl rfl, k⟩⟩
  unfold wp_o_meets
  try dsimp only
  rw [p0, p1, o_isBeat_eq hX hW, if_q, if_q, if_q']
  have bad : ¬ (0 < D 15 3 ∧ isI x (D 16 0) ∧ isI y (D 16 1) ∧ isI z 200) → wp_m_meets S' x y z (fun v' T => -2 = v' ∧ R9 L I S T) := fun c => mm _ (fun _ => rfl) (fun i j b h0 hi hj hb e1 e2 e3 => absurd ⟨h0, by rw [e1]; exact isI_of hi (by omega), by rw [e2]; exact isI_of hj (by omega), by rw [e3]; exact isI_of hb (by omega)⟩ c)
  refine ⟨fun c => bad (fun q => c ⟨q.1, q.2.1⟩), fun c => ⟨fun c1 => bad (fun q => c1 ⟨q.1, q.2.2.1⟩), fun c1 => ⟨fun c2 => ?_, fun c2 => bad (fun q => c2 ⟨q.1, q.2.2.2⟩)⟩⟩⟩
  obtain ⟨i, hi, rfl⟩ := isI_ex c.2 (by omega)
  obtain ⟨j, hj, rfl⟩ := isI_ex c1.2 (by omega)
  obtain ⟨b, hb, rfl⟩ := isI_ex c2.2 (by decide)
  refine ⟨_, x_meetsL hX hW ⟨by omega, by omega⟩ (by omega) (by omega) hb _ (perN D) b (by omega) (mm _ (fun q => absurd ⟨c.1, c.2, c1.2, c2.2⟩ q) (fun i' j' b' _ _ _ _ e1 e2 e3 => ?_))⟩
  rw [(nI_eq (by omega) (by omega)).mp e1, (nI_eq (by omega) (by omega)).mp e2, (nI_eq (by omega) (by omega)).mp e3]
-- ---- shifts
/-- the clashes of one beat, n later -/
def shB (D : Dn) (n b : Nat) : Nat := (if cla D (stR D 0 b) (stR D 1 (b - D 15 0 + n)) = true then 1 else 0) + (if cla D (stR D 1 (b + n)) (stR D 0 (b - D 15 0)) = true then 1 else 0)
def shS (D : Dn) (n : Nat) : Nat → Nat → Nat
  | 0, _ => 0
  | m + 1, a => shB D n a + shS D n m (a + 1)
/-- all clashes with the second round n later -/
def shN (D : Dn) (n : Nat) : Nat := shS D n (perN D) (D 15 0)
theorem if1 {p : Prop} [Decidable p] : (if p then 1 else 0 : Nat) ≤ 1 := by split <;> omega
theorem shS_le (D : Dn) (n : Nat) : ∀ m a, shS D n m a ≤ 2 * m
  | 0, _ => by unfold shS; omega
  | m + 1, a => by
    have := shS_le D n m (a + 1)
    unfold shS shB
    have h1 := if1 (p := cla D (stR D 0 a) (stR D 1 (a - D 15 0 + n)) = true)
    have h2 := if1 (p := cla D (stR D 1 (a + n)) (stR D 0 (a - D 15 0)) = true)
    omega
theorem x_shiftedBy {D : Dn} (hX : RX D S) (hW : WF D) (h : rds D) {n : Nat} (hn : n < 12) {Q : Int32 → Prop} (hq : Q (nI (shN D n))) : wp_o_shiftedBy S (nI n) Q := by
  have hN := perN_le hW
  have hg := hW.1.1
  have key : ∀ m a acc, a + m = D 15 0 + perN D → D 15 0 ≤ a → Q (nI (acc + shS D n m a)) → wp_o_shiftedBy_b10 S Q (nI n) (m + 1) (nI acc) (nI a) := by
    intro m
    induction m with
    | zero =>
      intro a acc ha hga hq
      rw [wp_o_shiftedBy_b10]
      refine x_periodOf hX hW h.1 ?_
      rw [hX.g (k := 0) (by decide), nI_add]
      exact ⟨fun _ => hq, fun c => absurd (nI_le (by omega) (by omega)) c⟩
    | succ m ih =>
      intro a acc ha hga hq
      rw [wp_o_shiftedBy_b10]
      refine x_periodOf hX hW h.1 ?_
      have e0 := fun b hb Q => x_placeBy hX hW h (s := 0) (b := b) (by decide) hb Q
      have e1 := fun b hb Q => x_placeBy hX hW h (s := 1) (b := b) (by decide) hb Q
      have d0 := fun b Q => x_dstep hX hW h (s := 0) (b := b) (by decide) Q
      have d1 := fun b Q => x_dstep hX hW h (s := 1) (b := b) (by decide) Q
      have s0 := fun b => stR_lt hW h (s := 0) (by decide) b
      have s1 := fun b => stR_lt hW h (s := 1) (by decide) b
      rw [show nI 0 = 0 from rfl] at e0 d0
      rw [show nI 1 = 1 from rfl] at e1 d1
      rw [hX.g (k := 0) (by decide), nI_add, e0 _ (by omega), d0, nI_add, e1 _ (by omega), d1, pk_sub hga, nI_add, e1 _ (by omega), d1, x_clashes hX hW (s0 _) (s1 _), if_q]
      have fin : ∀ c : Nat, c = (if cla D (stR D 0 a) (stR D 1 (a - D 15 0 + n)) = true then 1 else 0) → wp_o_shiftedBy_b99 S Q (nI n) (fun y2 y3 => wp_o_shiftedBy_b10 S Q (nI n) (m + 1) y2 y3) (nI a) (nI (stR D 1 (a + n))) (nI c) (nI acc) := by
        intro c hc
        unfold wp_o_shiftedBy_b99
        rw [hX.g (k := 0) (by decide), pk_sub hga, e0 _ (by omega), d0, x_clashes hX hW (s1 _) (s0 _), if_q, nI_1 a, nI_add, nI_1 (acc + c), show nI (acc + c) + 0 = nI (acc + c) from Int32.add_zero _]
        unfold shS shB at hq
        rw [← hc] at hq
        refine ⟨fun q => ih (a + 1) (acc + c) (by omega) (by omega) ?_, fun q => ih (a + 1) (acc + c + 1) (by omega) (by omega) ?_⟩
        · rw [if_neg q] at hq
          rwa [show acc + c + shS D n m (a + 1) = acc + (c + 0 + shS D n m (a + 1)) by omega]
        · rw [if_pos q] at hq
          rwa [show acc + c + 1 + shS D n m (a + 1) = acc + (c + 1 + shS D n m (a + 1)) by omega]
      refine ⟨fun c => absurd c (nI_ge (by omega) (by omega)), fun _ => ⟨fun c => fin 0 (by rw [if_neg c]), fun c => fin 1 (by rw [if_pos c])⟩⟩
  unfold wp_o_shiftedBy
  rw [hX.g (k := 0) (by decide)]
  exact ⟨_, key (perN D) (D 15 0) 0 rfl (Nat.le_refl _) (by rw [Nat.zero_add]; exact hq)⟩
theorem m_shiftedOf {D : Dn} (hM : RM D 0 S) (hW : WF D) (h : rds D) {n : Nat} (hn : n < 12) {Q : Int32 → Prop} (hq : Q (nI (shN D n))) : wp_m_shiftedOf S (nI n) Q := by
  have hN := perN_le hW
  have hg := hW.1.1
  have eg : S.1 7 0 = nI (D 15 0) := hM.h (j := 0) (by decide)
  have key : ∀ m a acc, a + m = D 15 0 + perN D → D 15 0 ≤ a → Q (nI (acc + shS D n m a)) → wp_m_shiftedOf_b12 S Q (nI n) (m + 1) (nI acc) (nI (D 15 0)) (nI a) := by
    intro m
    induction m with
    | zero =>
      intro a acc ha hga hq
      rw [wp_m_shiftedOf_b12]
      refine m_periodOf hM hW h.1 ?_
      rw [nI_add]
      exact ⟨fun _ => hq, fun c => absurd (nI_le (by omega) (by omega)) c⟩
    | succ m ih =>
      intro a acc ha hga hq
      rw [wp_m_shiftedOf_b12]
      refine m_periodOf hM hW h.1 ?_
      have p0 := fun b c hb hc Q => m_plain_eq hM hW h (s := 0) (b := b) (c := c) (by decide) hb hc Q
      have p1 := fun b c hb hc Q => m_plain_eq hM hW h (s := 1) (b := b) (c := c) (by decide) hb hc Q
      have s0 := fun b => stR_lt hW h (s := 0) (by decide) b
      have s1 := fun b => stR_lt hW h (s := 1) (by decide) b
      have p00 := fun b hb Q => p0 b 0 hb (by omega) Q
      rw [show nI 0 = 0 from rfl] at p00
      rw [show nI 1 = 1 from rfl] at p1
      rw [nI_add, p00 _ (by omega), pk_sub hga, p1 _ _ (by omega) (by omega), Nat.add_zero, m_clash hM hW (s0 _) (s1 _), if_q]
      have fin : ∀ c : Nat, c = (if cla D (stR D 0 a) (stR D 1 (a - D 15 0 + n)) = true then 1 else 0) → wp_m_shiftedOf_b54 S Q (nI n) (fun y2 y3 y4 => wp_m_shiftedOf_b12 S Q (nI n) (m + 1) y2 y3 y4) (nI (D 15 0)) (nI a) (nI c) (nI acc) := by
        intro c hc
        unfold wp_m_shiftedOf_b54
        rw [p1 _ _ (by omega) (by omega), pk_sub hga, p00 _ (by omega), Nat.add_zero, m_clash hM hW (s1 _) (s0 _), if_q, nI_1 a, nI_add, nI_1 (acc + c), show nI (acc + c) + 0 = nI (acc + c) from Int32.add_zero _]
        unfold shS shB at hq
        rw [← hc] at hq
        refine ⟨fun q => ih (a + 1) (acc + c) (by omega) (by omega) ?_, fun q => ih (a + 1) (acc + c + 1) (by omega) (by omega) ?_⟩
        · rw [if_neg q] at hq
          rwa [show acc + c + shS D n m (a + 1) = acc + (c + 0 + shS D n m (a + 1)) by omega]
        · rw [if_pos q] at hq
          rwa [show acc + c + 1 + shS D n m (a + 1) = acc + (c + 1 + shS D n m (a + 1)) by omega]
      refine ⟨fun c => absurd c (nI_ge (by omega) (by omega)), fun _ => ⟨fun c => fin 0 (by rw [if_neg c]), fun c => fin 1 (by rw [if_pos c])⟩⟩
  unfold wp_m_shiftedOf
  rw [eg]
  exact ⟨_, key (perN D) (D 15 0) 0 rfl (Nat.le_refl _) (by rw [Nat.zero_add]; exact hq)⟩
theorem pl_shifted (h : R9 L I S S') (x : Int32) : wp_o_shifted S x (fun v => wp_m_shifted S' x (fun v' T => v = v' ∧ R9 L I S T)) := by
  obtain ⟨D, hW, hX, hM, -⟩ := id h
  have hM2 := (kn0 S' 0).rm hM
  have k := h.keep (KX.rf S) (kn0 S' 0)
  have w1 := (hW.2.1 1 (by decide)).1
  have l1 := fun Q => m_lengthOf_eq hM2 (s := 1) (by decide) Q
  have p1 := fun x Q => o_isPlace_eq hX hW (s := 1) (by decide) x Q
  rw [show nI 1 = 1 from rfl] at l1 p1
  have mm : ∀ v : Int32, (¬ (0 < D 15 3 ∧ rds D ∧ isI x (D 16 1)) → v = -2) → (∀ n, n < D 16 1 → 0 < D 15 3 → rds D → x = nI n → v = nI (shN D n)) → wp_m_shifted S' x (fun v' T => v = v' ∧ R9 L I S T) := by
    intro v v1 v0
    unfold wp_m_shifted
    try dsimp only
    rw [m_isDance_eq hM2.lines hW, m_areRounds_eq hM2 hW, l1, m_in_eq, b2i_congr (in_many rfl (show D 16 1 < 2 ^ 30 by omega)), if_q, if_q, if_q]
    refine ⟨fun c => ⟨v1 (fun q => c q.1), k⟩, fun c => ⟨fun c1 => ⟨v1 (fun q => c1 q.2.1), k⟩, fun c1 => ⟨fun c2 => ⟨v1 (fun q => c2 q.2.2), k⟩, fun c2 => ?_⟩⟩⟩
    obtain ⟨n, hn, rfl⟩ := isI_ex c2 (by omega)
    exact m_shiftedOf hM2 hW c1 (by omega) ⟨v0 n hn c c1 rfl, k⟩
  have bad : ¬ (0 < D 15 3 ∧ rds D ∧ isI x (D 16 1)) → wp_m_shifted S' x (fun v' T => -2 = v' ∧ R9 L I S T) := fun c => mm _ (fun _ => rfl) (fun n hn h1 h2 e => absurd ⟨h1, h2, by rw [e]; exact isI_of hn (by omega)⟩ c)
  unfold wp_o_shifted
  try dsimp only
  rw [o_areRounds_eq hX hW, p1, if_q, if_q]
  refine ⟨fun c => bad (fun q => c ⟨q.1, q.2.1⟩), fun c => ⟨fun c1 => bad (fun q => c1 ⟨q.1, q.2.2⟩), fun c1 => ?_⟩⟩
  obtain ⟨n, hn, rfl⟩ := isI_ex c1.2 (by omega)
  refine x_shiftedBy hX hW c.2 (by omega) (mm _ (fun q => absurd ⟨c.1, c.2, c1.2⟩ q) (fun n' hn' _ _ e => ?_))
  rw [(nI_eq (by omega) (by omega)).mp e]
theorem pl_shift (h : R9 L I S S') : wp_o_shift S (fun v => wp_m_shift S' (fun v' T => v = v' ∧ R9 L I S T)) := by
  obtain ⟨D, hW, hX, hM, -⟩ := id h
  have hM2 := (kn0 S' 0).rm hM
  have k := h.keep (KX.rf S) (kn0 S' 0)
  have w1 := (hW.2.1 1 (by decide)).1
  have l1 := fun Q => m_lengthOf_eq hM2 (s := 1) (by decide) Q
  rw [show nI 1 = 1 from rfl] at l1
  have mm : ∀ v : Int32, (¬ (0 < D 15 3 ∧ rds D) → v = -2) → (0 < D 15 3 ∧ rds D → v = fst? (fun n => decide (shN D n = 0)) (D 16 1) 0) → wp_m_shift S' (fun v' T => v = v' ∧ R9 L I S T) := by
    intro v v1 v0
    unfold wp_m_shift
    try dsimp only
    rw [m_isDance_eq hM2.lines hW, m_areRounds_eq hM2 hW, if_q, if_q']
    refine ⟨fun c => ⟨v1 (fun q => c q.1), k⟩, fun c => ⟨fun c1 => ?_, fun c1 => ⟨v1 (fun q => c1 q.2), k⟩⟩⟩
    have loop : ∀ m a, a + m = D 16 1 → v = fst? (fun n => decide (shN D n = 0)) m a → wp_m_shift_b24 (fun v' T => v = v' ∧ R9 L I S T) (m + 1) (sI S' 0 0 0) (nI a) := by
      intro m
      induction m with
      | zero =>
        intro a ha hv
        rw [wp_m_shift_b24]
        dsimp only
        rw [l1]
        exact ⟨fun _ => ⟨hv, k⟩, fun c => absurd (nI_le (by omega) (by omega)) c⟩
      | succ m ih =>
        intro a ha hv
        have hsh : shN D a < 2 ^ 31 := by have := shS_le D a (perN D) (D 15 0); have := perN_le hW; unfold shN; omega
        rw [wp_m_shift_b24]
        dsimp only
        rw [l1]
        refine ⟨fun c => absurd c (nI_ge (by omega) (by omega)), fun _ => m_shiftedOf hM2 hW c1 (by omega) ?_⟩
        unfold fst? at hv
        rw [eq0 hsh, nI_1 a]
        exact ⟨fun c => ih (a + 1) (by omega) (by rwa [if_neg (by simp [c])] at hv), fun c => ⟨by rwa [if_pos (by simp [c])] at hv, k⟩⟩
    exact ⟨_, loop (D 16 1) 0 (by omega) (v0 ⟨c, c1⟩)⟩
  unfold wp_o_shift
  try dsimp only
  rw [o_areRounds_eq hX hW, if_q']
  refine ⟨fun c => ?_, fun c => mm _ (fun _ => rfl) (fun q => absurd q c)⟩
  have loop : ∀ m a, a + m = D 16 1 → fst? (fun n => decide (shN D n = 0)) m a = fst? (fun n => decide (shN D n = 0)) (D 16 1) 0 → wp_o_shift_b12 S (fun v => wp_m_shift S' (fun v' T => v = v' ∧ R9 L I S T)) (m + 1) (nI a) := by
    intro m
    induction m with
    | zero =>
      intro a ha hv
      rw [wp_o_shift_b12]
      dsimp only
      rw [hX.len (s := 1) (by decide)]
      exact ⟨fun _ => mm _ (fun q => absurd c q) (fun _ => hv), fun c => absurd (nI_le (by omega) (by omega)) c⟩
    | succ m ih =>
      intro a ha hv
      have hsh : shN D a < 2 ^ 31 := by have := shS_le D a (perN D) (D 15 0); have := perN_le hW; unfold shN; omega
      rw [wp_o_shift_b12]
      dsimp only
      rw [hX.len (s := 1) (by decide)]
      refine ⟨fun c => absurd c (nI_ge (by omega) (by omega)), fun _ => x_shiftedBy hX hW c.2 (by omega) ?_⟩
      rw [fst?] at hv
      rw [eq0 hsh, nI_1 a]
      exact ⟨fun c2 => ih (a + 1) (by omega) (by rwa [if_neg (by simp [c2])] at hv), fun c2 => mm _ (fun q => absurd c q) (fun _ => by rwa [if_pos (by simp [c2])] at hv)⟩
  exact ⟨_, loop (D 16 1) 0 (by omega) rfl⟩
end
