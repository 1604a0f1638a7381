/-! THE PLAIN LAW: treaties, leads -/
set_option maxRecDepth 100000
def tB (n t : Nat) : Nat := (n.testBit t).toNat
/-- how many bits a small number has -/
def popc (a : Nat) : Nat := tB a 0 + tB a 1 + tB a 2 + tB a 3 + tB a 4 + tB a 5
theorem popc_le : ∀ a, popc a ≤ 6 := fun a => by
  have h : ∀ t, tB a t ≤ 1 := fun t => by unfold tB; cases a.testBit t <;> decide
  have := h 0; have := h 1; have := h 2; have := h 3; have := h 4; have := h 5
  unfold popc; omega
theorem bc_all : ∀ a, a < 64 → wp_ji_bitCount (nI a) (fun v => v = nI (popc a)) := by
  unfold wp_ji_bitCount
  decide +kernel
theorem bc_eq {a : Nat} (h : a < 64) (Q : Int32 → Prop) : wp_ji_bitCount (nI a) Q = Q (nI (popc a)) := by
  have z := bc_all a h
  unfold wp_ji_bitCount at z ⊢
  dsimp only at z
  rw [z]
theorem sz_and : ∀ a, a < 64 → ¬ a = 0 → (nI a &&& (nI a - 1)) = nI (a &&& (a - 1)) ∧ popc (a &&& (a - 1)) + 1 = popc a ∧ a &&& (a - 1) < 64 := by decide +kernel
theorem popc0 : ∀ a, a < 64 → popc a = 0 → a = 0 := by decide +kernel
theorem m_sizeOf {a : Nat} (h : a < 64) {Q : Int32 → Prop} (hq : Q (nI (popc a))) : wp_m_sizeOf (nI a) Q := by
  have key : ∀ m a k, a < 64 → popc a = m → Q (nI (k + m)) → wp_m_sizeOf_b4 Q (m + 1) (nI k) (nI a) := by
    intro m
    induction m with
    | zero =>
      intro a k ha hp hq
      rw [wp_m_sizeOf_b4]
      obtain rfl := popc0 a ha hp
      exact ⟨fun _ => hq, fun c => absurd rfl c⟩
    | succ m ih =>
      intro a k ha hp hq
      rw [wp_m_sizeOf_b4]
      dsimp only
      rw [eq0 (by omega)]
      refine ⟨fun c => ?_, fun c => ?_⟩
      · subst c; exact absurd hp (by rw [show popc 0 = 0 from rfl]; omega)
      · obtain ⟨e1, e2, e3⟩ := sz_and a ha c
        rw [e1, nI_1]
        exact ih _ (k + 1) e3 (by omega) (by rwa [show k + 1 + m = k + (m + 1) by omega])
  unfold wp_m_sizeOf
  exact ⟨_, key (popc a) a 0 h rfl (by rw [Nat.zero_add]; exact hq)⟩
/-- the pairs of steps that answer each other -/
def trI (D : Dn) (b : Nat) : Nat → Nat
  | 0 => 0
  | t + 1 => trI D b t + (if (D 19 b).testBit t = true ∧ (D 19 t).testBit b = true then 1 else 0)
def trO (D : Dn) : Nat → Nat
  | 0 => 0
  | b + 1 => trO D b + trI D b 6
theorem ad0 (n : Nat) : nI n + 0 = nI n := Int32.add_zero _
/-- the step that answers most, or fewest -/
def ldS (D : Dn) (y : Nat) : Nat → Nat
  | 0 => 0
  | n + 1 => if (if y = 0 then decide (popc (D 19 (ldS D y n)) < popc (D 19 (n + 1))) else decide (popc (D 19 (n + 1)) < popc (D 19 (ldS D y n)))) = true then n + 1 else ldS D y n
theorem ldS_le (D : Dn) (y : Nat) : ∀ n, ldS D y n ≤ n
  | 0 => Nat.le_refl _
  | n + 1 => by
    have := ldS_le D y n
    rw [ldS]
    by_cases c : (if y = 0 then decide (popc (D 19 (ldS D y n)) < popc (D 19 (n + 1))) else decide (popc (D 19 (n + 1)) < popc (D 19 (ldS D y n)))) = true
    · rw [if_pos c]; omega
    · rw [if_neg c]; omega
theorem d67 : ∀ p, p < 7 → ∀ q, q < 7 → ((0 < nI p - nI q ↔ q < p) ∧ (0 ≤ nI p - nI q ↔ q ≤ p)) := by decide +kernel
section
variable {L : Lx} {I : Ix} {S S' : St}
theorem pl_treaties (h : R9 L I S S') : wp_o_treaties S (fun v => wp_m_treaties S' (fun v' T => v = v' ∧ R9 L I S T)) := by
  obtain ⟨D, hW, hX, hM, -⟩ := id h
  have hM2 := (kn0 S' 0).rm hM
  have k := h.keep (KX.rf S) (kn0 S' 0)
  have w := hW.2.2.1
  unfold wp_o_treaties
  rw [o_isDance_eq hX hW, if_q']
  have mm : ∀ v : Int32, (¬ 0 < D 15 3 → v = -2) → (0 < D 15 3 → v = nI (trO D 6)) → wp_m_treaties S' (fun v' T => v = v' ∧ R9 L I S T) := by
    intro v v1 v0
    unfold wp_m_treaties
    dsimp only
    rw [m_isDance_eq hM2.lines hW, if_q']
    refine ⟨fun c => ?_, fun c => ⟨v1 c, k⟩⟩
    have key : ∀ m b, b + m = 6 → wp_m_treaties_b19 (fun v' T => v = v' ∧ R9 L I S T) (m + 1) (sI S' 0 0 0) (nI (trO D b)) (nI b) := by
      intro m
      induction m with
      | zero =>
        intro b hb
        rw [wp_m_treaties_b19, p_lit 6]
        obtain rfl : b = 6 := by omega
        exact ⟨fun _ => ⟨v0 c, k⟩, fun z => absurd (nI_le (Nat.le_refl _) (by omega)) z⟩
      | succ m ih =>
        intro b hb
        rw [wp_m_treaties_b19, p_lit 6]
        refine ⟨fun z => absurd z (nI_ge (by omega) (by omega)), fun _ => ?_⟩
        have inner : ∀ j t, t + j = 6 → wp_m_treaties_b27 (fun v' T => v = v' ∧ R9 L I S T) (fun Sy y1 y2 => wp_m_treaties_b19 (fun v' T => v = v' ∧ R9 L I S T) (m + 1) Sy y1 y2) (j + 1) (sI S' 0 0 0) (nI (trO D b + trI D b t)) (nI b) (nI t) := by
          intro j
          induction j with
          | zero =>
            intro t ht
            rw [wp_m_treaties_b27, p_lit 6]
            obtain rfl : t = 6 := by omega
            refine ⟨fun _ => ?_, fun z => absurd (nI_le (Nat.le_refl _) (by omega)) z⟩
            rw [nI_1]
            exact ih (b + 1) (by omega)
          | succ j ihj =>
            intro t ht
            rw [wp_m_treaties_b27, p_lit 6]
            dsimp only
            rw [nI_clamp (show b < 2 ^ 31 by omega), nI_clamp (show t < 2 ^ 31 by omega), hM2.ans (by omega), hM2.ans (by omega), m_isBit_eq (w b (by omega)) (by omega), m_isBit_eq (w t (by omega)) (by omega), if_q, if_q, in_nI (by omega) (by omega), in_nI (by omega) (by omega), ad0, nI_1 t, nI_1 (trO D b + trI D b t)]
            have := ihj (t + 1) (by omega)
            rw [trI] at this
            exact ⟨fun z => absurd z (nI_ge (by omega) (by omega)), fun _ => ⟨by omega, fun z => by rwa [if_neg (fun q => z q.1)] at this, fun z => ⟨by omega, fun z2 => by rwa [if_neg (fun q => z2 q.2)] at this, fun z2 => by rwa [if_pos ⟨z, z2⟩] at this⟩⟩⟩
        exact ⟨_, inner 6 0 rfl⟩
    exact ⟨_, key 6 0 rfl⟩
  refine ⟨fun c => ?_, fun c => mm _ (fun _ => rfl) (fun q => absurd q c)⟩
  have key : ∀ m b, b + m = 6 → wp_o_treaties_b14 S (fun v => wp_m_treaties S' (fun v' T => v = v' ∧ R9 L I S T)) (m + 1) (nI (trO D b)) (nI b) := by
    intro m
    induction m with
    | zero =>
      intro b hb
      rw [wp_o_treaties_b14, p_lit 6]
      obtain rfl : b = 6 := by omega
      exact ⟨fun _ => mm _ (fun q => absurd c q) (fun _ => rfl), fun z => absurd (nI_le (Nat.le_refl _) (by omega)) z⟩
    | succ m ih =>
      intro b hb
      rw [wp_o_treaties_b14, p_lit 6]
      refine ⟨fun z => absurd z (nI_ge (by omega) (by omega)), fun _ => ?_⟩
      have inner : ∀ j t, t + j = 6 → wp_o_treaties_b22 S (fun v => wp_m_treaties S' (fun v' T => v = v' ∧ R9 L I S T)) (fun y1 y2 => wp_o_treaties_b14 S (fun v => wp_m_treaties S' (fun v' T => v = v' ∧ R9 L I S T)) (m + 1) y1 y2) (j + 1) (nI (trO D b + trI D b t)) (nI b) (nI t) := by
        intro j
        induction j with
        | zero =>
          intro t ht
          rw [wp_o_treaties_b22, p_lit 6]
          obtain rfl : t = 6 := by omega
          refine ⟨fun _ => ?_, fun z => absurd (nI_le (Nat.le_refl _) (by omega)) z⟩
          rw [nI_1]
          exact ih (b + 1) (by omega)
        | succ j ihj =>
          intro t ht
          rw [wp_o_treaties_b22, p_lit 6]
          dsimp only
          rw [nI_clamp (show b < 2 ^ 31 by omega), nI_clamp (show t < 2 ^ 31 by omega), hX.ans (by omega), hX.ans (by omega), o_has_eq (w b (by omega)) (by omega), o_has_eq (w t (by omega)) (by omega), if_q, if_q, in_nI (by omega) (by omega), in_nI (by omega) (by omega), ad0, nI_1 t, nI_1 (trO D b + trI D b t)]
          have := ihj (t + 1) (by omega)
          rw [trI] at this
          exact ⟨fun z => absurd z (nI_ge (by omega) (by omega)), fun _ => ⟨by omega, fun z => by rwa [if_neg (fun q => z q.1)] at this, fun z => ⟨by omega, fun z2 => by rwa [if_neg (fun q => z2 q.2)] at this, fun z2 => by rwa [if_pos ⟨z, z2⟩] at this⟩⟩⟩
      exact ⟨_, inner 6 0 rfl⟩
  exact ⟨_, key 6 0 rfl⟩
theorem pl_leads (h : R9 L I S S') (x : Int32) : wp_o_leads S x (fun v => wp_m_leads S' x (fun v' T => v = v' ∧ R9 L I S T)) := by
  obtain ⟨D, hW, hX, hM, -⟩ := id h
  have hM2 := (kn0 S' 0).rm hM
  have k := h.keep (KX.rf S) (kn0 S' 0)
  have w := hW.2.2.1
  have lt7 := fun n => Nat.lt_succ_of_le (popc_le (D 19 n))
  have mm : ∀ v : Int32, (¬ (0 < D 15 3 ∧ isI x 2) → v = -2) → (∀ y, y < 2 → 0 < D 15 3 → x = nI y → v = nI (ldS D y 5)) → wp_m_leads S' x (fun v' T => v = v' ∧ R9 L I S T) := by
    intro v v1 v0
    unfold wp_m_leads
    dsimp only
    rw [m_isDance_eq hM2.lines hW, m_in_eq, b2i_congr (in_isI x (m := 1) (n := 2) (by decide)), if_q, if_q']
    refine ⟨fun c => ⟨v1 (fun q => c q.1), k⟩, fun c => ⟨fun c1 => ?_, fun c1 => ⟨v1 (fun q => c1 q.2), k⟩⟩⟩
    obtain ⟨y, hy, rfl⟩ := isI_ex c1 (by decide)
    have key : ∀ m n, n + m = 5 → wp_m_leads_b29 (fun v' T => v = v' ∧ R9 L I S T) (nI y) (m + 1) (sI S' 0 0 0) (nI (ldS D y n)) (nI (n + 1)) := by
      intro m
      induction m with
      | zero =>
        intro n hn
        rw [wp_m_leads_b29, p_lit 6]
        obtain rfl : n = 5 := by omega
        exact ⟨fun _ => ⟨v0 y hy c rfl, k⟩, fun z => absurd (nI_le (Nat.le_refl _) (by omega)) z⟩
      | succ m ih =>
        intro n hn
        have hb := ldS_le D y n
        have i0 := ih (n + 1) (by omega)
        rw [ldS] at i0
        rw [wp_m_leads_b29, p_lit 6]
        dsimp only
        rw [nI_clamp (show n + 1 < 2 ^ 31 by omega), nI_clamp (show ldS D y n < 2 ^ 31 by omega), hM2.ans (by omega), hM2.ans (by omega), in_nI (by omega) (by omega), in_nI (by omega) (by omega), eq0 (by omega), nI_1]
        refine ⟨fun z => absurd z (nI_ge (by omega) (by omega)), fun _ => ⟨fun z => ⟨by omega, m_sizeOf (w _ (by omega)) ⟨by omega, m_sizeOf (w _ (by omega)) ?_⟩⟩, fun z => ⟨by omega, m_sizeOf (w _ (by omega)) ⟨by omega, m_sizeOf (w _ (by omega)) ?_⟩⟩⟩⟩
        · have := lt7 (n + 1); have := lt7 (ldS D y n)
          rw [nI_leI (by omega) (by omega)]
          rw [if_neg z] at i0
          exact ⟨fun q => by rwa [if_neg (by rw [decide_eq_true_eq]; omega)] at i0, fun q => by rwa [if_pos (by rw [decide_eq_true_eq]; omega)] at i0⟩
        · have := lt7 (n + 1); have := lt7 (ldS D y n)
          rw [nI_leI (by omega) (by omega)]
          rw [if_pos z] at i0
          exact ⟨fun q => by rwa [if_neg (by rw [decide_eq_true_eq]; omega)] at i0, fun q => by rwa [if_pos (by rw [decide_eq_true_eq]; omega)] at i0⟩
    exact ⟨_, key 5 0 rfl⟩
  have bad : ¬ (0 < D 15 3 ∧ isI x 2) → wp_m_leads S' x (fun v' T => -2 = v' ∧ R9 L I S T) := fun c => mm _ (fun _ => rfl) (fun y hy h1 e => absurd ⟨h1, by rw [e]; exact isI_of hy (by omega)⟩ c)
  unfold wp_o_leads
  rw [o_isDance_eq hX hW, o_isOneOf_eq x (m := 2) (n := 2) rfl (by omega) (by omega), if_q, if_q']
  refine ⟨fun c => bad (fun q => c q.1), fun c => ⟨fun c1 => ?_, fun c1 => bad (fun q => c1 q.2)⟩⟩
  obtain ⟨y, hy, rfl⟩ := isI_ex c1 (by decide)
  have fin : wp_m_leads S' (nI y) (fun v' T => nI (ldS D y 5) = v' ∧ R9 L I S T) := mm _ (fun q => absurd ⟨c, c1⟩ q) (fun y' hy' _ e => by rw [(nI_eq (by omega) (by omega)).mp e])
  have key : ∀ m n, n + m = 5 → wp_o_leads_b22 S (fun v => wp_m_leads S' (nI y) (fun v' T => v = v' ∧ R9 L I S T)) (nI y) (m + 1) (nI (ldS D y n)) (nI (n + 1)) := by
    intro m
    induction m with
    | zero =>
      intro n hn
      rw [wp_o_leads_b22, p_lit 6]
      obtain rfl : n = 5 := by omega
      exact ⟨fun _ => fin, fun z => absurd (nI_le (Nat.le_refl _) (by omega)) z⟩
    | succ m ih =>
      intro n hn
      have hb := ldS_le D y n
      have i0 := ih (n + 1) (by omega)
      rw [ldS] at i0
      have q1 := lt7 (n + 1)
      have q2 := lt7 (ldS D y n)
      obtain ⟨g1, g2⟩ := d67 _ q1 _ q2
      rw [wp_o_leads_b22, p_lit 6]
      dsimp only
      rw [nI_clamp (show n + 1 < 2 ^ 31 by omega), nI_clamp (show ldS D y n < 2 ^ 31 by omega), hX.ans (by omega), hX.ans (by omega), in_nI (by omega) (by omega), in_nI (by omega) (by omega), bc_eq (w _ (by omega)), bc_eq (w _ (by omega)), eq0 (by omega), g1]
      unfold wp_o_leads_b64
      rw [g2, show (1 : Int32) = nI 1 from rfl, nI_eq (by omega) (by omega), nI_add]
      refine ⟨fun z => absurd z (nI_ge (by omega) (by omega)), fun _ => ⟨by omega, by omega, fun z => ⟨fun z2 => by omega, fun z2 => ⟨fun z3 => ?_, fun z3 => ?_⟩⟩, fun z => ⟨fun z2 => ?_, fun z2 => ⟨fun z3 => ?_, fun z3 => by omega⟩⟩⟩⟩
      · rw [if_neg z] at i0; rwa [if_neg (by rw [decide_eq_true_eq]; omega)] at i0
      · rw [if_neg z] at i0; rwa [if_pos (by rw [decide_eq_true_eq]; omega)] at i0
      · rw [if_pos z] at i0; rwa [if_pos (by rw [decide_eq_true_eq]; omega)] at i0
      · rw [if_pos z] at i0; rwa [if_neg (by rw [decide_eq_true_eq]; omega)] at i0
  exact ⟨_, key 5 0 rfl⟩
end
