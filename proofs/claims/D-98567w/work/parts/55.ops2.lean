/-! THE PLAIN LAW: step, answers, stumbled, muddy, period, fault, end, feed, count -/
set_option maxRecDepth 100000
theorem br0q {c p q : Prop} [Decidable c] [Decidable p] [Decidable q] (Q : Int32 → Prop) (h : p ↔ ¬ c) : ((c → Q 0) ∧ (¬ c → Q (b2i q))) = Q (b2i (p ∧ q)) := by
  by_cases hc : c
  · rw [b2i_f (p := p ∧ q) (fun z => h.mp z.1 hc)]; simp [hc]
  · rw [b2i_congr (p := p ∧ q) (q := q) ⟨fun z => z.2, fun z => ⟨h.mpr hc, z⟩⟩]; simp [hc]
theorem o_areRounds_eq {D : Dn} {S : St} (h : RX D S) (hW : WF D) (Q : Int32 → Prop) : wp_o_areRounds S Q = Q (b2i (0 < D 15 3 ∧ 0 < D 16 0 ∧ 0 < D 16 1)) := by
  have w0 := (hW.2.1 0 (by decide)).1
  have w1 := (hW.2.1 1 (by decide)).1
  unfold wp_o_areRounds
  rw [o_isDance_eq h hW, h.len (s := 0) (by decide), h.len (s := 1) (by decide), le0 (by omega), le0 (by omega), br01 (c := D 16 1 = 0) (p := 0 < D 16 1) Q (by omega), br0q (c := D 16 0 = 0) (p := 0 < D 16 0) Q (by omega)]
  exact an_q Q
theorem m_areRounds_eq {D : Dn} {S : St} (h : RM D 0 S) (hW : WF D) (Q : Int32 → Prop) : wp_m_areRounds S Q = Q (b2i (0 < D 16 0 ∧ 0 < D 16 1)) := by
  have w0 := (hW.2.1 0 (by decide)).1
  have w1 := (hW.2.1 1 (by decide)).1
  have e0 : S.1 7 3 = nI (D 16 0) := h.h (j := 3) (by decide)
  have e1 : S.1 7 4 = nI (D 16 1) := h.h (j := 4) (by decide)
  unfold wp_m_areRounds
  rw [e0, e1, le0 (by omega), le0 (by omega), br01 (c := D 16 1 = 0) (p := 0 < D 16 1) Q (by omega), br0q (c := D 16 0 = 0) (p := 0 < D 16 0) Q (by omega)]
theorem m_lengthOf_eq {D : Dn} {S : St} (h : RM D 0 S) {s : Nat} (hs : s < 2) (Q : Int32 → Prop) : wp_m_lengthOf S (nI s) Q = Q (nI (D 16 s)) := by
  unfold wp_m_lengthOf
  rw [p_lit 3, nI_add, nI_clamp (show 3 + s < 2 ^ 31 by omega), h.len hs, in_nI (by omega) (by omega)]
  simp only [show 3 + s < 55 by omega, true_and]
theorem gcd_step {a b : Nat} : Nat.gcd a b = Nat.gcd b (a % b) := by rw [Nat.gcd_comm a b, Nat.gcd_rec b a, Nat.gcd_comm]
theorem x_divisor {a b : Nat} (ha : a < 2 ^ 31) (hb : b < 2 ^ 31) {Q : Int32 → Prop} (hq : Q (nI (Nat.gcd a b))) : wp_o_divisor (nI a) (nI b) Q := by
  have key : ∀ n a b, b < n → a < 2 ^ 31 → b < 2 ^ 31 → Q (nI (Nat.gcd a b)) → wp_o_divisor_b4 Q n (nI a) (nI b) := by
    intro n
    induction n with
    | zero => intro a b h; exact absurd h (Nat.not_lt_zero _)
    | succ n ih =>
      intro a b h h1 h2 hq
      rw [wp_o_divisor_b4]
      dsimp only
      rw [eq0 h2]
      refine ⟨fun c => by subst c; rwa [Nat.gcd_zero_right] at hq, fun c => ⟨c, ?_⟩⟩
      rw [rem_nI h1 (by omega) h2]
      have hl := Nat.mod_lt a (show 0 < b by omega)
      exact ih b (a % b) (by omega) h2 (by omega) (by rwa [gcd_step] at hq)
  exact ⟨b + 1, key (b + 1) a b (by omega) ha hb hq⟩
theorem m_commonN : ∀ (n a b : Nat) (Q : Int32 → Prop), b < n → a < 2 ^ 31 → b < 2 ^ 31 → Q (nI (Nat.gcd a b)) → wp_m_common n (nI a) (nI b) Q := by
  intro n
  induction n with
  | zero => intro a b Q h; exact absurd h (Nat.not_lt_zero _)
  | succ n ih =>
    intro a b Q h h1 h2 hq
    rw [wp_m_common, wp_m_common_e, eq0 h2]
    refine ⟨fun c => ⟨c, ?_⟩, fun c => by subst c; rwa [Nat.gcd_zero_right] at hq⟩
    rw [rem_nI h1 (by omega) h2]
    have hl := Nat.mod_lt a (show 0 < b by omega)
    exact ih b (a % b) _ (by omega) h2 (by omega) (by rwa [gcd_step] at hq)
/-- how many beats both rounds take -/
def perN (D : Dn) : Nat := D 16 0 / Nat.gcd (D 16 0) (D 16 1) * D 16 1
theorem perN_le {D : Dn} (hW : WF D) : perN D ≤ 144 := by
  have w0 := (hW.2.1 0 (by decide)).1
  have w1 := (hW.2.1 1 (by decide)).1
  have := Nat.div_le_self (D 16 0) (Nat.gcd (D 16 0) (D 16 1))
  exact Nat.le_trans (Nat.mul_le_mul (Nat.le_trans this w0) w1) (by decide)
theorem x_periodOf {D : Dn} {S : St} (h : RX D S) (hW : WF D) (h0 : 0 < D 16 0) {Q : Int32 → Prop} (hq : Q (nI (perN D))) : wp_o_periodOf S Q := by
  have w0 := (hW.2.1 0 (by decide)).1
  have w1 := (hW.2.1 1 (by decide)).1
  have g0 : 0 < Nat.gcd (D 16 0) (D 16 1) := Nat.gcd_pos_of_pos_left _ h0
  have g1 : Nat.gcd (D 16 0) (D 16 1) ≤ D 16 0 := Nat.gcd_le_left _ h0
  unfold wp_o_periodOf
  rw [h.len (s := 0) (by decide), h.len (s := 1) (by decide)]
  refine x_divisor (by omega) (by omega) ⟨nI_ne0 g0 (by omega), ?_⟩
  rw [pk_div (by omega) g0 (by omega), pk_mul]
  exact hq
theorem m_periodOf {D : Dn} {S : St} (h : RM D 0 S) (hW : WF D) (h0 : 0 < D 16 0) {Q : Int32 → Prop} (hq : Q (nI (perN D))) : wp_m_periodOf S Q := by
  have w0 := (hW.2.1 0 (by decide)).1
  have w1 := (hW.2.1 1 (by decide)).1
  have g0 : 0 < Nat.gcd (D 16 0) (D 16 1) := Nat.gcd_pos_of_pos_left _ h0
  have g1 : Nat.gcd (D 16 0) (D 16 1) ≤ D 16 0 := Nat.gcd_le_left _ h0
  unfold wp_m_periodOf
  have l0 := fun Q => m_lengthOf_eq h (s := 0) (by decide) Q
  have l1 := fun Q => m_lengthOf_eq h (s := 1) (by decide) Q
  have n0 : nI 0 = 0 := rfl
  have n1 : nI 1 = 1 := rfl
  rw [n0] at l0
  rw [n1] at l1
  simp only [l0, l1]
  refine m_commonN 100 _ _ _ (by omega) (by omega) (by omega) ⟨nI_ne0 g0 (by omega), ?_⟩
  rw [pk_div (by omega) g0 (by omega), pk_mul]
  exact hq
section
variable {L : Lx} {I : Ix} {S S' : St}
theorem pl_period (h : R9 L I S S') : wp_o_period S (fun v => wp_m_period S' (fun v' T => v = v' ∧ R9 L I S T)) := by
  obtain ⟨D, hW, hX, hM, -⟩ := id h
  have hM2 := (kn0 S' 0).rm hM
  have k := h.keep (KX.rf S) (kn0 S' 0)
  unfold wp_o_period
  try dsimp only
  rw [o_isDance_eq hX hW, o_areRounds_eq hX hW, if_q', if_q]
  have mm : ∀ v : Int32, (¬ 0 < D 15 3 → v = -2) → (0 < D 15 3 → ¬ (0 < D 16 0 ∧ 0 < D 16 1) → v = -1) → (0 < D 15 3 → (0 < D 16 0 ∧ 0 < D 16 1) → v = nI (perN D)) → wp_m_period S' (fun v' T => v = v' ∧ R9 L I S T) := by
    intro v v2 v1 v0
    unfold wp_m_period
    try dsimp only
    rw [m_isDance_eq hM2.lines hW, m_areRounds_eq hM2 hW, if_q', if_q]
    exact ⟨fun c => ⟨fun c2 => ⟨v1 c c2, k⟩, fun c2 => m_periodOf hM2 hW c2.1 ⟨v0 c c2, k⟩⟩, fun c => ⟨v2 c, k⟩⟩
  refine ⟨fun c => ⟨fun c2 => mm _ (fun z => absurd c z) (fun _ _ => rfl) (fun _ z => absurd ⟨c, z⟩ c2), fun c2 => x_periodOf hX hW c2.2.1 (mm _ (fun z => absurd c z) (fun _ z => absurd c2.2 z) (fun _ _ => rfl))⟩, fun c => mm _ (fun _ => rfl) (fun z => absurd z c) (fun z => absurd z c)⟩
theorem o_isPlace_eq {D : Dn} {S : St} (h : RX D S) (hW : WF D) {s : Nat} (hs : s < 2) (x : Int32) (Q : Int32 → Prop) : wp_o_isPlace S (nI s) x Q = Q (b2i (0 < D 15 3 ∧ isI x (D 16 s))) := by
  have w := (hW.2.1 s hs).1
  unfold wp_o_isPlace
  rw [o_isSide_eq h hW, nI_clamp (show s < 2 ^ 31 by omega), h.len hs, o_isIn_eq, b2i_congr (in_many rfl (show D 16 s < 2 ^ 30 by omega)), b01_q, in_nI (by omega) (by decide)]
  simp only [hs, true_and]
  rw [an_q]
  exact congrArg Q (b2i_congr ⟨fun z => ⟨z.1.1, z.2⟩, fun z => ⟨⟨z.1, isI_of hs (by decide)⟩, z.2⟩⟩)
theorem e12 (s b : Nat) : (12 : Int32) * nI s + nI b = nI (12 * s + b) := by rw [p_lit 12, pk_mul, nI_add]
theorem pl_step (h : R9 L I S S') (x y : Int32) : wp_o_step S x y (fun v => wp_m_step S' x y (fun v' T => v = v' ∧ R9 L I S T)) := by
  obtain ⟨D, hW, hX, hM, -⟩ := id h
  have hM2 := (kn0 S' 0).rm hM
  have k := h.keep (KX.rf S) (kn0 S' 0)
  unfold wp_o_step
  try dsimp only
  rw [o_isSide_eq hX hW, if_q']
  refine ⟨fun c => ?_, fun c => ?_⟩
  · obtain ⟨s, hs, rfl⟩ := isI_ex c.2 (by decide)
    have w := hW.2.1 s hs
    have mm : ∀ v : Int32, (¬ isI y (D 16 s) → v = -1) → (∀ j, j < D 16 s → y = nI j → v = nI (D 18 (12 * s + j))) → wp_m_step S' (nI s) y (fun v' T => v = v' ∧ R9 L I S T) := by
      intro v v1 v0
      unfold wp_m_step
      try dsimp only
      rw [m_isSide_eq hM2.lines hW, if_q', m_lengthOf_eq hM2 hs, m_in_eq, b2i_congr (in_many rfl (show D 16 s < 2 ^ 30 by omega)), if_q]
      refine ⟨fun _ => ⟨fun c2 => ⟨v1 c2, k⟩, fun c2 => ?_⟩, fun c2 => absurd c c2⟩
      obtain ⟨j, hj, rfl⟩ := isI_ex c2 (by omega)
      rw [e12, nI_clamp (show 12 * s + j < 2 ^ 31 by omega), hM2.rnd hs hj]
      exact ⟨vp_in_nI (by omega) (by omega), v0 j hj rfl, k⟩
    rw [o_isPlace_eq hX hW hs, if_q]
    refine ⟨fun c2 => mm _ (fun _ => rfl) (fun j hj e => absurd ⟨c.1, by rw [e]; exact isI_of hj (by omega)⟩ c2), fun c2 => ?_⟩
    obtain ⟨j, hj, rfl⟩ := isI_ex c2.2 (by omega)
    unfold wp_d_step
    rw [e12, nI_clamp (show 12 * s + j < 2 ^ 31 by omega), hX.rnd (by omega)]
    refine ⟨vp_in_nI (by omega) (by omega), mm _ (fun z => absurd c2.2 z) (fun i hi e => ?_)⟩
    rw [(nI_eq (by omega) (by omega)).mp e]
  · unfold wp_m_step
    try dsimp only
    rw [m_isSide_eq hM2.lines hW, if_q']
    exact ⟨fun z => absurd z c, fun _ => ⟨rfl, k⟩⟩
theorem pl_answers (h : R9 L I S S') (x : Int32) : wp_o_answers S x (fun v => wp_m_answers S' x (fun v' T => v = v' ∧ R9 L I S T)) := by
  obtain ⟨D, hW, hX, hM, -⟩ := id h
  have hM2 := (kn0 S' 0).rm hM
  have k := h.keep (KX.rf S) (kn0 S' 0)
  have mm : ∀ v : Int32, (¬ (0 < D 15 3 ∧ isI x 6) → v = -2) → (∀ j, j < 6 → 0 < D 15 3 → x = nI j → v = nI (D 19 j)) → wp_m_answers S' x (fun v' T => v = v' ∧ R9 L I S T) := by
    intro v v1 v0
    unfold wp_m_answers
    try dsimp only
    rw [m_isDance_eq hM2.lines hW, m_isStep_eq, if_q, if_q]
    refine ⟨fun c => ⟨v1 (fun z => c z.1), k⟩, fun c => ⟨fun c2 => ⟨v1 (fun z => c2 z.2), k⟩, fun c2 => ?_⟩⟩
    obtain ⟨j, hj, rfl⟩ := isI_ex c2 (by decide)
    rw [nI_clamp (show j < 2 ^ 31 by omega), hM2.ans hj]
    exact ⟨vp_in_nI (by omega) (by omega), v0 j hj c rfl, k⟩
  unfold wp_o_answers
  try dsimp only
  rw [o_isStep_eq hX hW, if_q]
  refine ⟨fun c => mm _ (fun _ => rfl) (fun j hj h0 e => absurd ⟨h0, by rw [e]; exact isI_of hj (by decide)⟩ c), fun c => ?_⟩
  obtain ⟨j, hj, rfl⟩ := isI_ex c.2 (by decide)
  rw [nI_clamp (show j < 2 ^ 31 by omega), hX.ans hj]
  refine ⟨vp_in_nI hj (by omega), mm _ (fun z => absurd c z) (fun i hi _ e => ?_)⟩
  rw [(nI_eq (by omega) (by omega)).mp e]
theorem e4 (s b : Nat) : (4 : Int32) * nI s + nI b = nI (4 * s + b) := by rw [p_lit 4, pk_mul, nI_add]
theorem pl_stumbled (h : R9 L I S S') (x y : Int32) : wp_o_stumbled S x y (fun v => wp_m_stumbled S' x y (fun v' T => v = v' ∧ R9 L I S T)) := by
  obtain ⟨D, hW, hX, hM, -⟩ := id h
  have hM2 := (kn0 S' 0).rm hM
  have k := h.keep (KX.rf S) (kn0 S' 0)
  have w := hW.1
  have h7 : (sI S' 0 0 0).1 7 7 = nI (D 15 4) := hM2.h (j := 7) (by decide)
  have bad : ¬ (isI x (D 15 4) ∧ isI y 4) → wp_m_stumbled S' x y (fun v' T => -2 = v' ∧ R9 L I S T) := by
    intro c
    unfold wp_m_stumbled
    try dsimp only
    rw [m_in_eq, b2i_congr (in_many h7 (by omega)), m_in_eq, b2i_congr (in_isI y (n := 4) (by decide)), if_q, if_q]
    exact ⟨fun _ => ⟨rfl, k⟩, fun c1 => ⟨fun _ => ⟨rfl, k⟩, fun c2 => absurd ⟨c1, c2⟩ c⟩⟩
  unfold wp_o_stumbled
  try dsimp only
  rw [o_isStumble_eq hX hW, o_isOneOf_eq y (m := 4) (n := 4) rfl (by decide) (by decide), if_q, if_q']
  refine ⟨fun c => bad (fun z => c z.1), fun c => ⟨fun c2 => ?_, fun c2 => bad (fun z => c2 z.2)⟩⟩
  obtain ⟨j, hj, rfl⟩ := isI_ex c (by omega)
  obtain ⟨i, hi, rfl⟩ := isI_ex c2 (by decide)
  obtain ⟨g0, g1, g2, g3⟩ := hM2.st hj
  have good : ∀ v : Int32, v = (sI S' 0 0 0).1 10 (4 * j + i) → wp_m_stumbled S' (nI j) (nI i) (fun v' T => v = v' ∧ R9 L I S T) := by
    intro v hv
    unfold wp_m_stumbled
    try dsimp only
    rw [m_in_eq, b2i_congr (in_many h7 (by omega)), m_in_eq, b2i_congr (in_isI (nI i) (n := 4) (by decide)), if_q, if_q, e4, nI_clamp (show 4 * j + i < 2 ^ 31 by omega)]
    exact ⟨fun z => absurd c z, fun _ => ⟨fun z => absurd c2 z, fun _ => ⟨vp_in_nI (by omega) (by omega), hv, k⟩⟩⟩
  have ej : (nI j).toNatClampNeg = j := nI_clamp (by omega)
  rw [ej, hX 20 j (by unfold inD; omega), hX 21 j (by unfold inD; omega), hX 22 j (by unfold inD; omega), hX 23 j (by unfold inD; omega)]
  have vi : vp_in (nI j) 8 := vp_in_nI (by omega) (by decide)
  rcases (show i = 0 ∨ i = 1 ∨ i = 2 ∨ i = 3 by omega) with rfl | rfl | rfl | rfl
  · exact ⟨fun z => absurd rfl z, fun _ => ⟨vi, good _ g0.symm⟩⟩
  · exact ⟨fun _ => ⟨fun z => absurd rfl z, fun _ => ⟨vi, good _ g1.symm⟩⟩, fun z => absurd z (by decide)⟩
  · exact ⟨fun _ => ⟨fun _ => ⟨fun z => absurd rfl z, fun _ => ⟨vi, good _ g2.symm⟩⟩, fun z => absurd z (by decide)⟩, fun z => absurd z (by decide)⟩
  · exact ⟨fun _ => ⟨fun _ => ⟨fun _ => ⟨vi, good _ g3.symm⟩, fun z => absurd z (by decide)⟩, fun z => absurd z (by decide)⟩, fun z => absurd z (by decide)⟩
theorem pl_muddy (h : R9 L I S S') (x : Int32) : wp_o_muddy S x (fun v => wp_m_muddy S' x (fun v' T => v = v' ∧ R9 L I S T)) := by
  obtain ⟨D, hW, hX, hM, -⟩ := id h
  have hM2 := (kn0 S' 0).rm hM
  have k := h.keep (KX.rf S) (kn0 S' 0)
  have wm := hW.2.2.2.2.2.2.1
  have bad : ¬ (0 < D 15 3 ∧ isI x 200) → wp_m_muddy S' x (fun v' T => -2 = v' ∧ R9 L I S T) := by
    intro c
    unfold wp_m_muddy
    try dsimp only
    rw [m_isDance_eq hM2.lines hW, m_isBeat_eq, if_q, if_q]
    exact ⟨fun _ => ⟨rfl, k⟩, fun c1 => ⟨fun _ => ⟨rfl, k⟩, fun c2 => absurd ⟨c1, c2⟩ c⟩⟩
  unfold wp_o_muddy
  try dsimp only
  rw [o_isBeat_eq hX hW, if_q]
  refine ⟨bad, fun c => ?_⟩
  obtain ⟨b, hb, rfl⟩ := isI_ex c.2 (by decide)
  have good : ∀ v : Int32, v = nI (D 29 b) → wp_m_muddy S' (nI b) (fun v' T => v = v' ∧ R9 L I S T) := by
    intro v hv
    unfold wp_m_muddy
    try dsimp only
    rw [m_isDance_eq hM2.lines hW, m_isBeat_eq, if_q, if_q, nI_clamp (show b < 2 ^ 31 by omega), hM2.mud hb]
    refine ⟨fun z => absurd c.1 z, fun _ => ⟨fun z => absurd c.2 z, fun _ => ⟨vp_in_nI (by omega) (by omega), fun z => ⟨hv.trans z, k⟩, fun z => ⟨hv.trans ?_, k⟩⟩⟩⟩
    rcases (show D 29 b = 0 ∨ D 29 b = 1 by have := wm b hb; omega) with e | e
    · exact absurd (by rw [e]; rfl) z
    · rw [e]; rfl
  rw [nI_clamp (show b < 2 ^ 31 by omega), hX.mud hb]
  refine ⟨vp_in_nI hb (by omega), fun z => good _ z.symm, fun z => good _ ?_⟩
  rcases (show D 29 b = 0 ∨ D 29 b = 1 by have := wm b hb; omega) with e | e
  · exact absurd (by rw [e]; rfl) z
  · rw [e]; rfl
theorem pl_fault (h : R9 L I S S') (x : Int32) : wp_o_fault S x (fun v => wp_m_fault S' x (fun v' T => v = v' ∧ R9 L I S T)) := by
  obtain ⟨D, hW, hX, hM, hF, -⟩ := id h
  have k := h.keep (KX.rf S) (kn0 S' 0)
  have e14 : (sI S' 0 0 0).1 0 14 = S'.1 0 14 := by rw [sI_1, if_neg (by omega)]
  have e15 : (sI S' 0 0 0).1 0 15 = S'.1 0 15 := by rw [sI_1, if_neg (by omega)]
  unfold wp_o_fault wp_m_fault
  try dsimp only
  rw [e14, e15]
  exact ⟨fun c => ⟨fun c2 => ⟨fun _ => ⟨fun _ => ⟨rfl, k⟩, fun z => absurd z c2⟩, fun z => absurd z c⟩, fun c2 => ⟨fun _ => ⟨fun z => absurd c2 z, fun _ => ⟨hF.2.2.1, k⟩⟩, fun z => absurd z c⟩⟩, fun c => ⟨fun z => absurd c z, fun _ => ⟨hF.2.1, k⟩⟩⟩
/-- what a writer of the tape leaves as it was -/
def KD (S S1 : St) : Prop := ∀ c k, 15 ≤ c → S1.1 c k = S.1 c k
def KMD (S T : St) : Prop := (∀ c k, (c = 1 ∨ c = 2 ∨ (6 ≤ c ∧ c < 16)) → T.1 c k = S.1 c k) ∧ ∀ k, T.2 3 k = S.2 3 k
theorem KMD.rm {D : Dn} {w : Nat} {S T : St} (h : KMD S T) (g : RM D w S) : RM D w T := by
  -- a state that agrees with T there and with S elsewhere
  have k : KN S (fun c k => if c = 0 ∨ c = 5 then S.1 c k else T.1 c k, T.2) := ⟨fun c k q => by
    show (if c = 0 ∨ c = 5 then S.1 c k else T.1 c k) = S.1 c k
    by_cases z : c = 0 ∨ c = 5
    · rw [if_pos z]
    · rw [if_neg z]; exact h.1 c k (by unfold kM at q; omega), h.2⟩
  have g2 := k.rm g
  exact g2
theorem R9.keepF {S1 T : St} (h : R9 L I S S') (k1 : KD S S1) (k2 : KMD S' T) (f : RF S1 T) : R9 L I S1 T := by
  obtain ⟨D, h1, h2, h3, h4, h5, h6⟩ := h
  refine ⟨D, h1, fun c k q => (k1 c k (by unfold inD at q; omega)).trans (h2 c k q), k2.rm h3, f, fun s hs => ?_, fun k hk => ?_⟩
  · obtain ⟨g1, g2, g3⟩ := h5 s hs
    exact ⟨g1, (k2.1 1 s (by omega)).trans g2, fun n => ⟨(g3 n).1, (k2.1 2 s (by omega)).trans (g3 n).2.1, fun k hk => ⟨(k2.2 _).trans ((g3 n).2.2 k hk).1, ((g3 n).2.2 k hk).2⟩⟩⟩
  · obtain ⟨g1, g2⟩ := h6 k hk
    refine ⟨(k2.1 15 k (by omega)).trans g1, fun c => ?_⟩
    obtain ⟨D2, q1, q2, q3⟩ := g2 c
    exact ⟨D2, q1, q2, k2.rm q3⟩
theorem in_to {x v : Int32} {n : Nat} (hv : v = nI n) (hn : n < 2 ^ 30) : ((0 : Int64).toInt ≤ x.toInt64.toInt ∧ x.toInt64.toInt ≤ v.toInt64.toInt) ↔ isI x (n + 1) := by
  rw [tL, tL, hv, nI_toInt (by omega), show (0 : Int64).toInt = 0 from by decide]
  unfold isI
  omega
theorem pl_end (h : R9 L I S S') (x : Int32) : wp_o_end S x (fun v S1 => wp_m_end S' x (fun v' T => v = v' ∧ R9 L I S1 T)) := by
  obtain ⟨D, hW, hX, hM, hF, -⟩ := id h
  obtain ⟨⟨tp, h0, h1, h2⟩, h3, h4, h5, h6⟩ := hF
  have e6 : (sI S' 0 0 0).1 0 6 = nI tp := by rw [sI_1, if_neg (by omega)]; exact h2
  unfold wp_o_end
  try dsimp only
  rw [o_isIn_eq, b2i_congr (in_to h1 (by omega)), if_q']
  refine ⟨fun c => ?_, fun c => ?_⟩
  · unfold wp_m_end
    try dsimp only
    rw [m_in_eq, b2i_congr (in_to e6 (by omega)), if_q']
    refine ⟨fun _ => ⟨rfl, ?_⟩, fun z => absurd c z⟩
    obtain ⟨j, hj, rfl⟩ := isI_ex c (by omega)
    refine h.keepF (fun c k hc => by rw [sI_1, if_neg (by omega)]) ⟨fun c k hc => by rw [sI_1, if_neg (by omega), sI_1, if_neg (by omega)], fun k => rfl⟩ ⟨⟨j, by omega, ?_, ?_⟩, ?_, ?_, fun k hk => ?_, fun k hk => ?_⟩
    · rw [sI_1, if_pos ⟨rfl, rfl⟩]
    · rw [sI_1, if_pos ⟨rfl, rfl⟩]
    · rw [sI_1, if_neg (by omega), sI_1, if_neg (by omega), sI_1, if_neg (by omega)]; exact h3
    · rw [sI_1, if_neg (by omega), sI_1, if_neg (by omega), sI_1, if_neg (by omega)]; exact h4
    · rw [sI_1, if_neg (by omega), sI_1, if_neg (by omega), sI_1, if_neg (by omega)]; exact h5 k hk
    · rw [sI_1, if_neg (by omega)]; exact h6 k hk
  · unfold wp_m_end
    try dsimp only
    rw [m_in_eq, b2i_congr (in_to e6 (by omega)), if_q']
    exact ⟨fun z => absurd z c, fun _ => ⟨rfl, h.keep (KX.rf S) (kn0 S' 0)⟩⟩
-- ---- the tape
def byt (v z : Int32) : Int32 := vp_nar .byte ((v >>> (z &&& 31))).toInt8.toInt32
theorem byt_ok (v z : Int32) : (byt v z).toInt8.toInt32 = byt v z := by
  show ((((v >>> (z &&& 31))).toInt8.toInt32).toInt8.toInt32).toInt8.toInt32 = (((v >>> (z &&& 31))).toInt8.toInt32).toInt8.toInt32
  rw [Int8.toInt8_toInt32, Int8.toInt8_toInt32]
def put4 (f : Nat → Int32) (tp : Nat) (v : Int32) : Nat → Int32 := upd (upd (upd (upd f tp (byt v 24)) (tp + 1) (byt v 16)) (tp + 2) (byt v 8)) (tp + 3) (byt v 0)
/-- four bytes more -/
def P4 (c1 kt : Nat) (tp : Nat) (v : Int32) (S S1 : St) : Prop := S1.1 0 kt = nI (tp + 4) ∧ (∀ k, S1.1 c1 k = put4 (S.1 c1) tp v k) ∧ (∀ c k, ¬ c = c1 → ¬ (c = 0 ∧ k = kt) → S1.1 c k = S.1 c k) ∧ S1.2 = S.2
theorem x_puts {tp : Nat} (hS : S.1 0 2 = nI tp) (htp : tp + 4 ≤ 1200) (v : Int32) {Q : St → Prop} (hQ : ∀ S1, P4 1 2 tp v S S1 → Q S1) : wp_o_puts S v Q := by
  have one : ∀ (n : Nat) (S : St) (tp : Nat) (x : Int32), S.1 0 2 = nI tp → tp < 1200 → ¬ x < 0 → wp_o_puts_b3 Q v n (sI (sI S 1 tp (byt v x)) 0 2 (nI (tp + 1))) (x + (-8)) → wp_o_puts_b3 Q v (n + 1) S x := by
    intro n S tp x h1 h2 h3 h4
    have e : (sI S 1 tp (byt v x)).1 0 2 = nI tp := by rw [sI_1, if_neg (by omega)]; exact h1
    rw [wp_o_puts_b3]
    dsimp only
    rw [h1, nI_clamp (show tp < 2 ^ 31 by omega)]
    refine ⟨fun c => absurd c h3, fun _ => ⟨vp_in_nI h2 (by omega), ?_⟩⟩
    show wp_o_puts_b3 Q v n (sI (sI S 1 tp (byt v x)) 0 2 ((sI S 1 tp (byt v x)).1 0 2 + 1)) (x + (-8))
    rw [e, nI_1]
    exact h4
  refine ⟨5, one 4 S tp 24 hS (by omega) (by decide) ?_⟩
  rw [show (24 : Int32) + (-8) = 16 from by decide]
  refine one 3 _ (tp + 1) 16 (by rw [sI_1, if_pos ⟨rfl, rfl⟩]) (by omega) (by decide) ?_
  rw [show (16 : Int32) + (-8) = 8 from by decide]
  refine one 2 _ (tp + 2) 8 (by rw [sI_1, if_pos ⟨rfl, rfl⟩]) (by omega) (by decide) ?_
  rw [show (8 : Int32) + (-8) = 0 from by decide]
  refine one 1 _ (tp + 3) 0 (by rw [sI_1, if_pos ⟨rfl, rfl⟩]) (by omega) (by decide) ?_
  rw [wp_o_puts_b3]
  refine ⟨fun _ => hQ _ ⟨?_, fun k => ?_, fun c k n1 n2 => ?_, rfl⟩, fun c => absurd (by decide) c⟩
  · rw [sI_1, if_pos ⟨rfl, rfl⟩]
  · unfold put4
    simp only [sI_1, upd, show ¬ (1 = 0) by decide, false_and, if_false, true_and]
  · simp only [sI_1, n1, n2, false_and, if_false]
theorem m_four {tp : Nat} (hS : S.1 0 6 = nI tp) (htp : tp + 4 ≤ 1200) (v : Int32) {Q : St → Prop} (hQ : ∀ S1, P4 5 6 tp v S S1 → Q S1) : wp_m_four S v Q := by
  have one : ∀ (n : Nat) (S : St) (tp : Nat) (x : Int32), S.1 0 6 = nI tp → tp < 1200 → ¬ x < 0 → wp_m_four_b3 Q v n (sI (sI S 5 tp (byt v x)) 0 6 (nI (tp + 1))) (x + (-8)) → wp_m_four_b3 Q v (n + 1) S x := by
    intro n S tp x h1 h2 h3 h4
    have e : (sI S 5 tp (byt v x)).1 0 6 = nI tp := by rw [sI_1, if_neg (by omega)]; exact h1
    rw [wp_m_four_b3]
    dsimp only
    rw [h1, nI_clamp (show tp < 2 ^ 31 by omega)]
    refine ⟨fun c => absurd c h3, fun _ => ⟨vp_in_nI h2 (by omega), ?_⟩⟩
    show wp_m_four_b3 Q v n (sI (sI S 5 tp (byt v x)) 0 6 ((sI S 5 tp (byt v x)).1 0 6 + 1)) (x + (-8))
    rw [e, nI_1]
    exact h4
  refine ⟨5, one 4 S tp 24 hS (by omega) (by decide) ?_⟩
  rw [show (24 : Int32) + (-8) = 16 from by decide]
  refine one 3 _ (tp + 1) 16 (by rw [sI_1, if_pos ⟨rfl, rfl⟩]) (by omega) (by decide) ?_
  rw [show (16 : Int32) + (-8) = 8 from by decide]
  refine one 2 _ (tp + 2) 8 (by rw [sI_1, if_pos ⟨rfl, rfl⟩]) (by omega) (by decide) ?_
  rw [show (8 : Int32) + (-8) = 0 from by decide]
  refine one 1 _ (tp + 3) 0 (by rw [sI_1, if_pos ⟨rfl, rfl⟩]) (by omega) (by decide) ?_
  rw [wp_m_four_b3]
  refine ⟨fun _ => hQ _ ⟨?_, fun k => ?_, fun c k n1 n2 => ?_, rfl⟩, fun c => absurd (by decide) c⟩
  · rw [sI_1, if_pos ⟨rfl, rfl⟩]
  · unfold put4
    simp only [sI_1, upd, show ¬ (5 = 0) by decide, false_and, if_false, true_and]
  · simp only [sI_1, n1, n2, false_and, if_false]
/-- the tapes alike, so far -/
def TA (tp : Nat) (S0 S S0' S' : St) : Prop := S.1 0 2 = nI tp ∧ S'.1 0 6 = nI tp ∧ (∀ k, k < 1200 → S.1 1 k = S'.1 5 k ∧ (S.1 1 k).toInt8.toInt32 = S.1 1 k) ∧ (∀ c k, ¬ c = 1 → ¬ (c = 0 ∧ k = 2) → S.1 c k = S0.1 c k) ∧ (∀ c k, ¬ c = 5 → ¬ (c = 0 ∧ k = 6) → S'.1 c k = S0'.1 c k) ∧ S'.2 = S0'.2
theorem TA.step {tp : Nat} {S0 S0' S1 T : St} {v : Int32} (h : TA tp S0 S S0' S') (p : P4 1 2 tp v S S1) (q : P4 5 6 tp v S' T) : TA (tp + 4) S0 S1 S0' T := by
  obtain ⟨h1, h2, h3, h4, h5, h6⟩ := h
  refine ⟨p.1, q.1, fun k hk => ?_, fun c k n1 n2 => (p.2.2.1 c k n1 n2).trans (h4 c k n1 n2), fun c k n1 n2 => (q.2.2.1 c k n1 n2).trans (h5 c k n1 n2), q.2.2.2.trans h6⟩
  rw [p.2.1 k, q.2.1 k]
  unfold put4
  simp only [upd]
  by_cases c3 : k = tp + 3
  · simp only [c3, if_true]; exact ⟨trivial, byt_ok _ _⟩
  · by_cases c2 : k = tp + 2
    · simp only [c2, if_true, show ¬ tp + 2 = tp + 3 by omega, if_false]; exact ⟨trivial, byt_ok _ _⟩
    · by_cases c1 : k = tp + 1
      · simp only [c1, if_true, show ¬ tp + 1 = tp + 3 by omega, show ¬ tp + 1 = tp + 2 by omega, if_false]; exact ⟨trivial, byt_ok _ _⟩
      · by_cases c0 : k = tp
        · simp only [c0, if_true, show ¬ tp = tp + 3 by omega, show ¬ tp = tp + 2 by omega, show ¬ tp = tp + 1 by omega, if_false]; exact ⟨trivial, byt_ok _ _⟩
        · simp only [c0, c1, c2, c3, if_false]; exact h3 k hk
theorem pl_feed (h : R9 L I S S') (a b c d e : Int32) : wp_o_feed S a b c d e (fun v S1 => wp_m_feed S' a b c d e (fun v' T => v = v' ∧ R9 L I S1 T)) := by
  obtain ⟨D, hW, hX, hM, hF, -⟩ := id h
  obtain ⟨⟨tp, h0, h1, h2⟩, h3, h4, h5, h6⟩ := hF
  have e6 : (sI S' 0 0 0).1 0 6 = nI tp := by rw [sI_1, if_neg (by omega)]; exact h2
  unfold wp_o_feed
  try dsimp only
  rw [h1, p_lit 20, p_lit 1200, nI_add, nI_leI (by omega) (by omega)]
  refine ⟨fun q => ?_, fun q => ?_⟩
  · refine x_puts h1 (by omega) a (fun S1 p1 => x_puts p1.1 (by omega) b (fun S2 p2 => x_puts p2.1 (by omega) c (fun S3 p3 => x_puts p3.1 (by omega) d (fun S4 p4 => x_puts p4.1 (by omega) e (fun S5 p5 => ?_)))))
    unfold wp_m_feed
    try dsimp only
    rw [e6, p_lit 20, p_lit 1200, nI_add, nI_leI (by omega) (by omega)]
    refine ⟨fun _ => ?_, fun z => absurd q z⟩
    refine m_four e6 (by omega) a (fun T1 q1 => m_four q1.1 (by omega) b (fun T2 q2 => m_four q2.1 (by omega) c (fun T3 q3 => m_four q3.1 (by omega) d (fun T4 q4 => m_four q4.1 (by omega) e (fun T5 q5 => ?_)))))
    have t0 : TA tp S S (sI S' 0 0 0) (sI S' 0 0 0) := ⟨h1, e6, fun k hk => by rw [sI_1, if_neg (by omega)]; exact h5 k hk, fun _ _ _ _ => rfl, fun _ _ _ _ => rfl, rfl⟩
    obtain ⟨g1, g2, g3, g4, g5, g6⟩ := ((((t0.step p1 q1).step p2 q2).step p3 q3).step p4 q4).step p5 q5
    refine ⟨p5.1.trans q5.1.symm, h.keepF (fun c k hc => g4 c k (by omega) (by omega)) ⟨fun c k hc => ?_, fun k => ?_⟩ ⟨⟨tp + 20, by omega, g1, g2⟩, ?_, ?_, g3, fun k hk => ?_⟩⟩
    · rw [g5 c k (by omega) (by omega), sI_1, if_neg (by omega)]
    · rw [g6]; rfl
    · rw [g4 0 3 (by omega) (by omega), g5 0 14 (by omega) (by omega), sI_1, if_neg (by omega)]; exact h3
    · rw [g4 0 4 (by omega) (by omega), g5 0 15 (by omega) (by omega), sI_1, if_neg (by omega)]; exact h4
    · rw [g4 13 k (by omega) (by omega)]; exact h6 k hk
  · unfold wp_m_feed
    try dsimp only
    rw [e6, p_lit 20, p_lit 1200, nI_add, nI_leI (by omega) (by omega)]
    exact ⟨fun z => absurd z q, fun _ => ⟨rfl, h.keep (KX.rf S) (kn0 S' 0)⟩⟩
theorem x_cntMud {D : Dn} {S : St} (hX : RX D S) (hW : WF D) (L : Lx) (Q : Int32 → Prop) : ∀ m a acc, a + m = 200 → Q (nI (acc + cntF (fun b => D 29 b != 0) m a)) → wp_o_count_b135 L S Q (m + 1) (nI acc) (nI 200) (nI a) := by
  have wm := hW.2.2.2.2.2.2.1
  intro m
  induction m with
  | zero =>
    intro a acc ha hq
    rw [wp_o_count_b135]
    exact ⟨fun _ => hq, fun c => absurd (nI_le (by omega) (by omega)) c⟩
  | succ m ih =>
    intro a acc ha hq
    have := wm a (by omega)
    rw [wp_o_count_b135]
    dsimp only
    rw [nI_clamp (show a < 2 ^ 31 by omega), hX.mud (by omega), eq0 (by omega), nI_1 a, nI_1 acc, show nI acc + 0 = nI acc from Int32.add_zero _]
    unfold cntF at hq
    refine ⟨fun c => absurd c (nI_ge (by omega) (by omega)), fun _ => ⟨vp_in_nI (by omega) (by decide), fun c => ih (a + 1) acc (by omega) ?_, fun c => ih (a + 1) (acc + 1) (by omega) ?_⟩⟩
    · rwa [if_neg (by simp [c]), Nat.zero_add] at hq
    · rwa [if_pos (by simp [c]), ← Nat.add_assoc] at hq
theorem m_cntMud {D : Dn} {S : St} (hM : RM D 0 S) (hW : WF D) (Q : Int32 → St → Prop) : ∀ m a acc, a + m = 200 → Q (nI (acc + cntF (fun b => D 29 b != 0) m a)) S → wp_m_count_b119 Q (m + 1) S (nI acc) (nI a) := by
  have wm := hW.2.2.2.2.2.2.1
  intro m
  induction m with
  | zero =>
    intro a acc ha hq
    rw [wp_m_count_b119]
    dsimp only
    rw [p_lit 200]
    exact ⟨fun _ => hq, fun c => absurd (nI_le (by omega) (by omega)) c⟩
  | succ m ih =>
    intro a acc ha hq
    have := wm a (by omega)
    rw [wp_m_count_b119]
    dsimp only
    rw [nI_clamp (show a < 2 ^ 31 by omega), hM.mud (by omega), eq0 (by omega), nI_1 a, nI_1 acc, show nI acc + 0 = nI acc from Int32.add_zero _, p_lit 200]
    unfold cntF at hq
    refine ⟨fun c => absurd c (nI_ge (by omega) (by omega)), fun _ => ⟨vp_in_nI (by omega) (by decide), fun c => ih (a + 1) acc (by omega) ?_, fun c => ih (a + 1) (acc + 1) (by omega) ?_⟩⟩
    · rwa [if_neg (by simp [c]), Nat.zero_add] at hq
    · rwa [if_pos (by simp [c]), ← Nat.add_assoc] at hq
theorem x_cntSl {S : St} (L : Lx) (Q : Int32 → Prop) : ∀ m a acc, a + m = 4 → Q (nI (acc + cntF (fun s => L.1 s != 0) m a)) → wp_o_count_b208 L S Q (m + 1) (nI acc) (nI a) := by
  intro m
  induction m with
  | zero =>
    intro a acc ha hq
    rw [wp_o_count_b208]
    dsimp only
    rw [p_lit 4]
    exact ⟨fun _ => hq, fun c => absurd (nI_le (by omega) (by omega)) c⟩
  | succ m ih =>
    intro a acc ha hq
    rw [wp_o_count_b208]
    dsimp only
    rw [nI_clamp (show a < 2 ^ 31 by omega), nI_1 a, nI_1 acc, show nI acc + 0 = nI acc from Int32.add_zero _, p_lit 4]
    unfold cntF at hq
    refine ⟨fun c => absurd c (nI_ge (by omega) (by omega)), fun _ => ⟨vp_in_nI (by omega) (by decide), fun c => ih (a + 1) (acc + 1) (by omega) ?_, fun c => ih (a + 1) acc (by omega) ?_⟩⟩
    · rwa [if_pos (by simp [c]), ← Nat.add_assoc] at hq
    · rwa [if_neg (by simp [c]), Nat.zero_add] at hq
theorem m_cntSl {S : St} {L : Lx} (hL : RS L S) (Q : Int32 → St → Prop) : ∀ m a acc, a + m = 4 → Q (nI (acc + cntF (fun s => L.1 s != 0) m a)) S → wp_m_count_b189 Q (m + 1) S (nI acc) (nI a) := by
  intro m
  induction m with
  | zero =>
    intro a acc ha hq
    rw [wp_m_count_b189]
    dsimp only
    rw [p_lit 4]
    exact ⟨fun _ => hq, fun c => absurd (nI_le (by omega) (by omega)) c⟩
  | succ m ih =>
    intro a acc ha hq
    have hs := hL a (by omega)
    rw [wp_m_count_b189]
    dsimp only
    rw [nI_clamp (show a < 2 ^ 31 by omega), hs.2.1, nI_1 a, nI_1 acc, show nI acc + 0 = nI acc from Int32.add_zero _, p_lit 4]
    unfold cntF at hq
    refine ⟨fun c => absurd c (nI_ge (by omega) (by omega)), fun _ => ⟨vp_in_nI (by omega) (by decide), fun c => ih (a + 1) (acc + 1) (by omega) ?_, fun c => ih (a + 1) acc (by omega) ?_⟩⟩
    · have z : ¬ L.1 a = 0 := fun z => c (if_pos z)
      rwa [if_pos (by simp [z]), ← Nat.add_assoc] at hq
    · have z : L.1 a = 0 := Classical.byContradiction fun z => by rw [if_neg z] at c; exact m1_ne (by omega) c
      rwa [if_neg (by simp [z]), Nat.zero_add] at hq
theorem pl_count (h : R9 L I S S') (x : Int32) : wp_o_count L S x (fun v => wp_m_count S' x (fun v' T => v = v' ∧ R9 L I S T)) := by
  obtain ⟨D, hW, hX, hM, hF, hS, -⟩ := id h
  have hM2 := (kn0 S' 0).rm hM
  have hS2 := hS.keep (kn0 S' 0)
  have k := h.keep (KX.rf S) (kn0 S' 0)
  obtain ⟨tp, -, t1, t2⟩ := hF.1
  have e6 : (sI S' 0 0 0).1 0 6 = nI tp := by rw [sI_1, if_neg (by omega)]; exact t2
  have l0 := fun Q => m_lengthOf_eq hM2 (s := 0) (by decide) Q
  have l1 := fun Q => m_lengthOf_eq hM2 (s := 1) (by decide) Q
  unfold wp_o_count
  try dsimp only
  refine ⟨fun c => ?_, fun c => ?_, fun c => ?_, fun c => ?_, fun c => ?_, fun c => ?_, fun c => ?_, fun c => ?_, fun c => ?_, fun c => ?_, fun c => ?_, fun c => ?_, fun c => ?_, fun c => ?_⟩
  · unfold wp_m_count
    try dsimp only
    exact ⟨fun _ => ⟨rfl, k⟩, fun z => absurd c (by rw [z]; decide), fun z => absurd c (by rw [z]; decide), fun z => absurd c (by rw [z]; decide), fun z => absurd c (by rw [z]; decide), fun z => absurd c (by rw [z]; decide), fun z => absurd c (by rw [z]; decide), fun z => absurd c (by rw [z]; decide), fun z => absurd c (by rw [z]; decide), fun z => absurd c (by rw [z]; decide), fun z => absurd c (by rw [z]; decide), fun z => absurd c (by rw [z]; decide), fun z => absurd c (by rw [z]; decide), fun z => absurd c (by rw [z]; decide)⟩
  · subst c
    unfold wp_m_count
    try dsimp only
    exact ⟨fun c => absurd c (by decide), fun _ => ⟨(hX.g (k := 0) (by decide)).trans (hM2.h (j := 0) (by decide)).symm, k⟩, fun c => absurd c (by decide), fun c => absurd c (by decide), fun c => absurd c (by decide), fun c => absurd c (by decide), fun c => absurd c (by decide), fun c => absurd c (by decide), fun c => absurd c (by decide), fun c => absurd c (by decide), fun c => absurd c (by decide), fun c => absurd c (by decide), fun c => absurd c (by decide), fun c => absurd c (by decide)⟩
  · subst c
    unfold wp_m_count
    try dsimp only
    exact ⟨fun c => absurd c (by decide), fun c => absurd c (by decide), fun _ => ⟨(hX.g (k := 1) (by decide)).trans (hM2.h (j := 1) (by decide)).symm, k⟩, fun c => absurd c (by decide), fun c => absurd c (by decide), fun c => absurd c (by decide), fun c => absurd c (by decide), fun c => absurd c (by decide), fun c => absurd c (by decide), fun c => absurd c (by decide), fun c => absurd c (by decide), fun c => absurd c (by decide), fun c => absurd c (by decide), fun c => absurd c (by decide)⟩
  · subst c
    unfold wp_m_count
    try dsimp only
    exact ⟨fun c => absurd c (by decide), fun c => absurd c (by decide), fun c => absurd c (by decide), fun _ => ⟨(hX.g (k := 2) (by decide)).trans (hM2.h (j := 2) (by decide)).symm, k⟩, fun c => absurd c (by decide), fun c => absurd c (by decide), fun c => absurd c (by decide), fun c => absurd c (by decide), fun c => absurd c (by decide), fun c => absurd c (by decide), fun c => absurd c (by decide), fun c => absurd c (by decide), fun c => absurd c (by decide), fun c => absurd c (by decide)⟩
  · subst c
    unfold wp_m_count
    try dsimp only
    exact ⟨fun c => absurd c (by decide), fun c => absurd c (by decide), fun c => absurd c (by decide), fun c => absurd c (by decide), fun _ => ((l0 _).mpr ⟨hX.len (s := 0) (by decide), k⟩), fun c => absurd c (by decide), fun c => absurd c (by decide), fun c => absurd c (by decide), fun c => absurd c (by decide), fun c => absurd c (by decide), fun c => absurd c (by decide), fun c => absurd c (by decide), fun c => absurd c (by decide), fun c => absurd c (by decide)⟩
  · subst c
    unfold wp_m_count
    try dsimp only
    exact ⟨fun c => absurd c (by decide), fun c => absurd c (by decide), fun c => absurd c (by decide), fun c => absurd c (by decide), fun c => absurd c (by decide), fun _ => ((l1 _).mpr ⟨hX.len (s := 1) (by decide), k⟩), fun c => absurd c (by decide), fun c => absurd c (by decide), fun c => absurd c (by decide), fun c => absurd c (by decide), fun c => absurd c (by decide), fun c => absurd c (by decide), fun c => absurd c (by decide), fun c => absurd c (by decide)⟩
  · subst c
    unfold wp_m_count
    try dsimp only
    exact ⟨fun c => absurd c (by decide), fun c => absurd c (by decide), fun c => absurd c (by decide), fun c => absurd c (by decide), fun c => absurd c (by decide), fun c => absurd c (by decide), fun _ => ⟨(hX.g (k := 4) (by decide)).trans (hM2.h (j := 7) (by decide)).symm, k⟩, fun c => absurd c (by decide), fun c => absurd c (by decide), fun c => absurd c (by decide), fun c => absurd c (by decide), fun c => absurd c (by decide), fun c => absurd c (by decide), fun c => absurd c (by decide)⟩
  · subst c
    refine ⟨_, x_cntMud hX hW L _ 200 0 0 (by omega) ?_⟩
    unfold wp_m_count
    try dsimp only
    exact ⟨fun c => absurd c (by decide), fun c => absurd c (by decide), fun c => absurd c (by decide), fun c => absurd c (by decide), fun c => absurd c (by decide), fun c => absurd c (by decide), fun c => absurd c (by decide), fun _ => ⟨_, m_cntMud hM2 hW _ 200 0 0 (by omega) ⟨rfl, k⟩⟩, fun c => absurd c (by decide), fun c => absurd c (by decide), fun c => absurd c (by decide), fun c => absurd c (by decide), fun c => absurd c (by decide), fun c => absurd c (by decide)⟩
  · subst c
    unfold wp_m_count
    try dsimp only
    exact ⟨fun c => absurd c (by decide), fun c => absurd c (by decide), fun c => absurd c (by decide), fun c => absurd c (by decide), fun c => absurd c (by decide), fun c => absurd c (by decide), fun c => absurd c (by decide), fun c => absurd c (by decide), fun _ => ⟨(hX.g (k := 5) (by decide)).trans (hM2.h (j := 8) (by decide)).symm, k⟩, fun c => absurd c (by decide), fun c => absurd c (by decide), fun c => absurd c (by decide), fun c => absurd c (by decide), fun c => absurd c (by decide)⟩
  · subst c
    unfold wp_m_count
    try dsimp only
    exact ⟨fun c => absurd c (by decide), fun c => absurd c (by decide), fun c => absurd c (by decide), fun c => absurd c (by decide), fun c => absurd c (by decide), fun c => absurd c (by decide), fun c => absurd c (by decide), fun c => absurd c (by decide), fun c => absurd c (by decide), fun _ => ⟨(hX.g (k := 6) (by decide)).trans (hM2.h (j := 9) (by decide)).symm, k⟩, fun c => absurd c (by decide), fun c => absurd c (by decide), fun c => absurd c (by decide), fun c => absurd c (by decide)⟩
  · subst c
    unfold wp_m_count
    try dsimp only
    exact ⟨fun c => absurd c (by decide), fun c => absurd c (by decide), fun c => absurd c (by decide), fun c => absurd c (by decide), fun c => absurd c (by decide), fun c => absurd c (by decide), fun c => absurd c (by decide), fun c => absurd c (by decide), fun c => absurd c (by decide), fun c => absurd c (by decide), fun _ => ⟨(hX.g (k := 7) (by decide)).trans (hM2.h (j := 10) (by decide)).symm, k⟩, fun c => absurd c (by decide), fun c => absurd c (by decide), fun c => absurd c (by decide)⟩
  · subst c
    unfold wp_m_count
    try dsimp only
    exact ⟨fun c => absurd c (by decide), fun c => absurd c (by decide), fun c => absurd c (by decide), fun c => absurd c (by decide), fun c => absurd c (by decide), fun c => absurd c (by decide), fun c => absurd c (by decide), fun c => absurd c (by decide), fun c => absurd c (by decide), fun c => absurd c (by decide), fun c => absurd c (by decide), fun _ => ⟨(hX.g (k := 3) (by decide)).trans (hM2.lines).symm, k⟩, fun c => absurd c (by decide), fun c => absurd c (by decide)⟩
  · subst c
    unfold wp_m_count
    try dsimp only
    exact ⟨fun c => absurd c (by decide), fun c => absurd c (by decide), fun c => absurd c (by decide), fun c => absurd c (by decide), fun c => absurd c (by decide), fun c => absurd c (by decide), fun c => absurd c (by decide), fun c => absurd c (by decide), fun c => absurd c (by decide), fun c => absurd c (by decide), fun c => absurd c (by decide), fun c => absurd c (by decide), fun _ => ⟨(t1).trans (e6).symm, k⟩, fun c => absurd c (by decide)⟩
  · subst c
    refine ⟨_, x_cntSl L _ 4 0 0 (by omega) ?_⟩
    unfold wp_m_count
    try dsimp only
    exact ⟨fun c => absurd c (by decide), fun c => absurd c (by decide), fun c => absurd c (by decide), fun c => absurd c (by decide), fun c => absurd c (by decide), fun c => absurd c (by decide), fun c => absurd c (by decide), fun c => absurd c (by decide), fun c => absurd c (by decide), fun c => absurd c (by decide), fun c => absurd c (by decide), fun c => absurd c (by decide), fun c => absurd c (by decide), fun _ => ⟨_, m_cntSl hS2 _ 4 0 0 (by omega) ⟨rfl, k⟩⟩⟩
end
