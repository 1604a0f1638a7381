/-! THE PLAIN LAW: place, danced, hears, late, hole, next, holes, run, begins, undoes, causes -/
set_option maxRecDepth 100000
theorem go1 {A B : Prop} (h : B) : ((1 : Int32) = 0 → A) ∧ (¬ (1 : Int32) = 0 → B) := ⟨fun c => absurd c (by decide), fun _ => h⟩
theorem x_ask_eq {D : Dn} {S : St} (h : RX D S) (hW : WF D) (x y : Int32) (Good Bad : Prop) : wp_o_isAsked S x y (fun r => ((¬ r = 0 → Good) ∧ (r = 0 → Bad))) = (((0 < D 15 3 ∧ isI x 2) ∧ isI y 200 → Good) ∧ (¬ ((0 < D 15 3 ∧ isI x 2) ∧ isI y 200) → Bad)) := by
  rw [o_isAsked_eq h hW, if_q']
theorem and_if {A B Good Bad : Prop} : ((¬ A → Bad) ∧ (A → ((B → Good) ∧ (¬ B → Bad)))) = ((A ∧ B → Good) ∧ (¬ (A ∧ B) → Bad)) := propext ⟨fun h => ⟨fun q => (h.2 q.1).1 q.2, fun q => Classical.byCases (fun a : A => (h.2 a).2 (fun b => q ⟨a, b⟩)) h.1⟩, fun h => ⟨fun a => h.2 (fun q => a q.1), fun a => ⟨fun b => h.1 ⟨a, b⟩, fun b => h.2 (fun q => b q.2)⟩⟩⟩
theorem m_ask_eq {D : Dn} {S : St} (h : RM D 0 S) (hW : WF D) (x y : Int32) (Good Bad : Prop) : wp_m_isSide S x (fun r1 => ((r1 = 0 → Bad) ∧ (¬ r1 = 0 → wp_m_isBeat y.toInt64 (fun r7 => ((¬ r7 = 0 → Good) ∧ (r7 = 0 → Bad)))))) = (((0 < D 15 3 ∧ isI x 2) ∧ isI y 200 → Good) ∧ (¬ ((0 < D 15 3 ∧ isI x 2) ∧ isI y 200) → Bad)) := by
  rw [m_isSide_eq h.lines hW, m_isBeat_eq, if_q, if_q']
  exact and_if
theorem e200 (s b : Nat) : (200 : Int32) * nI s + nI b = nI (200 * s + b) := by rw [p_lit 200, pk_mul, nI_add]
theorem e201 (s b : Nat) : (201 : Int32) * nI s + nI b = nI (201 * s + b) := by rw [p_lit 201, pk_mul, nI_add]
section
variable {L : Lx} {I : Ix} {S S' : St}
theorem pl_place (h : R9 L I S S') (x y : Int32) : wp_o_place S x y (fun v S1 => wp_m_place S' x y (fun v' T => v = v' ∧ R9 L I S1 T)) := by
  obtain ⟨D, hW, hX, hM, -⟩ := id h
  have hM2 := (kn0 S' 0).rm hM
  unfold wp_o_place
  try dsimp only
  rw [x_ask_eq hX hW]
  refine ⟨fun p => ?_, fun p => ?_⟩
  · obtain ⟨s, hs, rfl⟩ := isI_ex p.1.2 (by decide)
    obtain ⟨b, hb, rfl⟩ := isI_ex p.2 (by decide)
    refine x_both hX hW (fun S1 hL => ?_)
    rw [e200, nI_clamp (show 200 * s + b < 2 ^ 31 by omega), (hL.1 s b hs hb).1]
    refine ⟨vp_in_nI (by omega) (by omega), ?_⟩
    unfold wp_m_place
    try dsimp only
    rw [m_ask_eq hM2 hW]
    refine ⟨fun _ => m_both hM2 hW (fun T hT => ?_), fun c => absurd p c⟩
    rw [e201, nI_clamp (show 201 * s + b < 2 ^ 31 by omega), (hT.1 s b hs hb).1]
    exact ⟨vp_in_nI (by omega) (by omega), rfl, h.keep hL.x ((kn0 S' 0).tr hT.n)⟩
  · unfold wp_m_place
    try dsimp only
    rw [m_ask_eq hM2 hW]
    exact ⟨fun c => absurd c p, fun _ => ⟨rfl, h.keep (KX.rf S) (kn0 S' 0)⟩⟩
theorem pl_danced (h : R9 L I S S') (x y : Int32) : wp_o_danced S x y (fun v S1 => wp_m_danced S' x y (fun v' T => v = v' ∧ R9 L I S1 T)) := by
  obtain ⟨D, hW, hX, hM, -⟩ := id h
  have hM2 := (kn0 S' 0).rm hM
  unfold wp_o_danced
  try dsimp only
  rw [x_ask_eq hX hW]
  refine ⟨fun p => ?_, fun p => ?_⟩
  · obtain ⟨s, hs, rfl⟩ := isI_ex p.1.2 (by decide)
    obtain ⟨b, hb, rfl⟩ := isI_ex p.2 (by decide)
    refine x_both hX hW (fun S1 hL => ?_)
    unfold wp_o_stepIn
    try dsimp only
    rw [e200, nI_clamp (show 200 * s + b < 2 ^ 31 by omega), (hL.1 s b hs hb).2]
    refine ⟨vp_in_nI (by omega) (by omega), ?_⟩
    unfold wp_m_danced
    try dsimp only
    rw [m_ask_eq hM2 hW]
    refine ⟨fun _ => m_both hM2 hW (fun T hT => ?_), fun c => absurd p c⟩
    rw [e200, nI_clamp (show 200 * s + b < 2 ^ 31 by omega), (hT.1 s b hs hb).2]
    exact ⟨vp_in_nI (by omega) (by omega), rfl, h.keep hL.x ((kn0 S' 0).tr hT.n)⟩
  · unfold wp_m_danced
    try dsimp only
    rw [m_ask_eq hM2 hW]
    exact ⟨fun c => absurd c p, fun _ => ⟨rfl, h.keep (KX.rf S) (kn0 S' 0)⟩⟩
theorem pl_hears (h : R9 L I S S') (x y : Int32) : wp_o_hears S x y (fun v S1 => wp_m_hears S' x y (fun v' T => v = v' ∧ R9 L I S1 T)) := by
  obtain ⟨D, hW, hX, hM, -⟩ := id h
  have hM2 := (kn0 S' 0).rm hM
  unfold wp_o_hears
  try dsimp only
  rw [x_ask_eq hX hW]
  refine ⟨fun p => ?_, fun p => ?_⟩
  · obtain ⟨s, hs, rfl⟩ := isI_ex p.1.2 (by decide)
    obtain ⟨b, hb, rfl⟩ := isI_ex p.2 (by decide)
    refine x_both hX hW (fun S1 hL => ?_)
    rw [x_heardIn (hL.x.rx hX) hW hs hb (st := stA D 200) (fun _ => (hL.1 (1 - s) (b - D 15 0) (by omega) (by omega)).2)]
    unfold wp_m_hears
    try dsimp only
    rw [m_ask_eq hM2 hW]
    refine ⟨fun _ => m_both hM2 hW (fun T hT => ?_), fun c => absurd p c⟩
    rw [m_hearsAt_eq (hT.n.rm hM2) hW hs hb (st := stA D 200) (fun _ => (hT.1 (1 - s) (b - D 15 0) (by omega) (by omega)).2)]
    exact ⟨rfl, h.keep hL.x ((kn0 S' 0).tr hT.n)⟩
  · unfold wp_m_hears
    try dsimp only
    rw [m_ask_eq hM2 hW]
    exact ⟨fun c => absurd c p, fun _ => ⟨rfl, h.keep (KX.rf S) (kn0 S' 0)⟩⟩
theorem pl_hole (h : R9 L I S S') (x y : Int32) : wp_o_hole S x y (fun v S1 => wp_m_hole S' x y (fun v' T => v = v' ∧ R9 L I S1 T)) := by
  obtain ⟨D, hW, hX, hM, -⟩ := id h
  have hM2 := (kn0 S' 0).rm hM
  unfold wp_o_hole
  try dsimp only
  rw [x_ask_eq hX hW]
  refine ⟨fun p => ?_, fun p => ?_⟩
  · obtain ⟨s, hs, rfl⟩ := isI_ex p.1.2 (by decide)
    obtain ⟨b, hb, rfl⟩ := isI_ex p.2 (by decide)
    refine x_both hX hW (fun S1 hL => ?_)
    rw [xH hX hW hL hs hb, if_q]
    have key : ∀ v : Int32, (hoB D (stA D 200) s b = true → v = 1) → (¬ hoB D (stA D 200) s b = true → v = 0) → wp_m_hole S' (nI s) (nI b) (fun v' T => v = v' ∧ R9 L I S1 T) := by
      intro v v1 v0
      unfold wp_m_hole
      try dsimp only
      rw [m_ask_eq hM2 hW]
      refine ⟨fun _ => m_both hM2 hW (fun T hT => ?_), fun c => absurd p c⟩
      rw [mH hM2 hW hT hs hb, if_q]
      exact ⟨fun c => ⟨v0 c, h.keep hL.x ((kn0 S' 0).tr hT.n)⟩, fun c => ⟨v1 c, h.keep hL.x ((kn0 S' 0).tr hT.n)⟩⟩
    exact ⟨fun c => key 0 (fun z => absurd z c) (fun _ => rfl), fun c => key 1 (fun _ => rfl) (fun z => absurd c z)⟩
  · unfold wp_m_hole
    try dsimp only
    rw [m_ask_eq hM2 hW]
    exact ⟨fun c => absurd c p, fun _ => ⟨rfl, h.keep (KX.rf S) (kn0 S' 0)⟩⟩
theorem pl_late (h : R9 L I S S') (x y : Int32) : wp_o_late S x y (fun v S1 => wp_m_late S' x y (fun v' T => v = v' ∧ R9 L I S1 T)) := by
  obtain ⟨D, hW, hX, hM, -⟩ := id h
  have hM2 := (kn0 S' 0).rm hM
  unfold wp_o_late
  try dsimp only
  rw [x_ask_eq hX hW]
  refine ⟨fun p => ?_, fun p => ?_⟩
  · obtain ⟨s, hs, rfl⟩ := isI_ex p.1.2 (by decide)
    obtain ⟨b, hb, rfl⟩ := isI_ex p.2 (by decide)
    have wr := hW.2.1 s hs
    refine x_both hX hW (fun S1 hL => ?_)
    have hX1 := hL.x.rx hX
    rw [e200, nI_clamp (show 200 * s + b < 2 ^ 31 by omega), (hL.1 s b hs hb).1, nI_clamp (show s < 2 ^ 31 by omega), hX1.beg hs, hX1.len hs]
    refine ⟨vp_in_nI (by omega) (by omega), ?_⟩
    have eB : wp_m_late S' (nI s) (nI b) = fun Q => wp_m_late S' (nI s) (nI b) Q := rfl
    have mm : ∀ v : Int32, (D 16 s = 0 → v = -1) → (0 < D 16 s → v = nI ((D 17 s + b + 12 * D 16 s - spP D s (fBut D s 200) b) % D 16 s)) → wp_m_late S' (nI s) (nI b) (fun v' T => v = v' ∧ R9 L I S1 T) := by
      intro v v0 v1
      unfold wp_m_late wp_m_lengthOf
      try dsimp only
      rw [m_ask_eq hM2 hW, show (3 : Int32) + nI s = nI (3 + s) by rw [p_lit 3, nI_add], nI_clamp (show 3 + s < 2 ^ 31 by omega), hM2.len hs]
      refine ⟨fun _ => ⟨vp_in_nI (by omega) (by omega), fun c => ?_, fun c => ?_⟩, fun c => absurd p c⟩
      · have h0n : 0 < D 16 s := by
          rcases Nat.eq_zero_or_pos (D 16 s) with z | z
          · exact absurd (by rw [z]; rfl) c
          · exact z
        refine m_both hM2 hW (fun T hT => ?_)
        have hp := spP_lt hW hs h0n (fBut D s 200) b
        rw [show (5 : Int32) + nI s = nI (5 + s) by rw [p_lit 5, nI_add], nI_clamp (show 5 + s < 2 ^ 31 by omega), (hT.n.rm hM2).beg hs, e201, nI_clamp (show 201 * s + b < 2 ^ 31 by omega), (hT.1 s b hs hb).1, show spV D s (gAll D 200 s) b = nI (spP D s (fBut D s 200) b) from if_neg (by omega), nI_add, (fm_all (show D 16 s < 13 by omega) h0n (by omega) (by omega)).2]
        exact ⟨vp_in_nI (by omega) (by omega), vp_in_nI (by omega) (by omega), nI_ne0 h0n (by omega), nI_ne0 h0n (by omega), v1 h0n, h.keep hL.x ((kn0 S' 0).tr hT.n)⟩
      · exact ⟨v0 ((eq0 (by omega)).mp c), h.keep hL.x (kn0 S' 0)⟩
    by_cases h0n : D 16 s = 0
    · rw [show spV D s (gAll D 200 s) b = -1 from if_pos h0n]
      exact ⟨fun c => absurd rfl c, fun _ => mm _ (fun _ => rfl) (fun z => absurd z (by omega))⟩
    · have hp := spP_lt hW hs (by omega) (fBut D s 200) b
      rw [show spV D s (gAll D 200 s) b = nI (spP D s (fBut D s 200) b) from if_neg h0n, jm_floorMod_eq, nI_add, (fm_all (show D 16 s < 13 by omega) (by omega) (by omega) (by omega)).1]
      exact ⟨fun _ => ⟨vp_in_nI hs (by omega), vp_in_nI hs (by omega), nI_ne0 (by omega) (by omega), mm _ (fun z => absurd z h0n) (fun _ => rfl)⟩, fun c => absurd c (m1_ne (by omega))⟩
  · unfold wp_m_late
    try dsimp only
    rw [m_ask_eq hM2 hW]
    exact ⟨fun c => absurd c p, fun _ => ⟨rfl, h.keep (KX.rf S) (kn0 S' 0)⟩⟩
-- ---- counting
def cntF (p : Nat → Bool) : Nat → Nat → Nat
  | 0, _ => 0
  | m + 1, a => (if p a = true then 1 else 0) + cntF p m (a + 1)
theorem cntF_le (p : Nat → Bool) : ∀ m a, cntF p m a ≤ m
  | 0, _ => Nat.le_refl _
  | m + 1, a => by
    unfold cntF
    have := cntF_le p m (a + 1)
    by_cases h : p a = true
    · rw [if_pos h]; omega
    · rw [if_neg h]; omega
theorem x_holesLoop {D : Dn} {S : St} {p : Nat → Bool} {s to : Nat} (hto : to < 200) (hh : ∀ b, b < 200 → ∀ Q : Int32 → Prop, wp_o_isHole S (nI s) (nI b) Q = Q (b2i (p b = true))) (Q : Int32 → Prop) : ∀ m a acc, a + m = to + 1 → Q (nI (acc + cntF p m a)) → wp_o_holesOf_b6 S Q (nI s) (nI to) (m + 1) (nI acc) (nI a) := by
  intro m
  induction m with
  | zero =>
    intro a acc ha hq
    rw [wp_o_holesOf_b6]
    exact ⟨fun _ => hq, fun c => absurd (nI_lt (by omega) (by omega)) c⟩
  | succ m ih =>
    intro a acc ha hq
    rw [wp_o_holesOf_b6]
    dsimp only
    rw [hh a (by omega), if_q, nI_1 a, nI_1 acc, show nI acc + 0 = nI acc from Int32.add_zero _]
    unfold cntF at hq
    refine ⟨fun c => absurd c (nI_nlt (by omega) (by omega)), fun _ => ⟨fun c => ih (a + 1) acc (by omega) ?_, fun c => ih (a + 1) (acc + 1) (by omega) ?_⟩⟩
    · rwa [if_neg c, Nat.zero_add] at hq
    · rwa [if_pos c, ← Nat.add_assoc] at hq
theorem m_holesLoop {S : St} {p : Nat → Bool} {s to : Nat} (hto : to < 200) (hh : ∀ b, b < 200 → ∀ Q : Int32 → Prop, wp_m_isHole S (nI s) (nI b) Q = Q (b2i (p b = true))) (Q : Int32 → Prop) : ∀ m a acc, a + m = to + 1 → Q (nI (acc + cntF p m a)) → wp_m_holesOf_b6 S Q (nI s) (nI to) (m + 1) (nI acc) (nI a) := by
  intro m
  induction m with
  | zero =>
    intro a acc ha hq
    rw [wp_m_holesOf_b6]
    exact ⟨fun _ => hq, fun c => absurd (nI_lt (by omega) (by omega)) c⟩
  | succ m ih =>
    intro a acc ha hq
    rw [wp_m_holesOf_b6]
    dsimp only
    rw [hh a (by omega), if_q, nI_1 a, nI_1 acc, show nI acc + 0 = nI acc from Int32.add_zero _]
    unfold cntF at hq
    refine ⟨fun c => absurd c (nI_nlt (by omega) (by omega)), fun _ => ⟨fun c => ih (a + 1) acc (by omega) ?_, fun c => ih (a + 1) (acc + 1) (by omega) ?_⟩⟩
    · rwa [if_neg c, Nat.zero_add] at hq
    · rwa [if_pos c, ← Nat.add_assoc] at hq
theorem x_holesOf {S : St} {p : Nat → Bool} {s a to : Nat} (hto : to < 200) (hat : a ≤ to) (hh : ∀ b, b < 200 → ∀ Q : Int32 → Prop, wp_o_isHole S (nI s) (nI b) Q = Q (b2i (p b = true))) (Q : Int32 → Prop) (hq : Q (nI (cntF p (to + 1 - a) a))) : wp_o_holesOf S (nI s) (nI a) (nI to) Q := ⟨_, x_holesLoop (D := fun _ _ => 0) hto hh Q (to + 1 - a) a 0 (by omega) (by rwa [Nat.zero_add])⟩
theorem m_holesOf {S : St} {p : Nat → Bool} {s a to : Nat} (hto : to < 200) (hat : a ≤ to) (hh : ∀ b, b < 200 → ∀ Q : Int32 → Prop, wp_m_isHole S (nI s) (nI b) Q = Q (b2i (p b = true))) (Q : Int32 → Prop) (hq : Q (nI (cntF p (to + 1 - a) a))) : wp_m_holesOf S (nI s) (nI a) (nI to) Q := ⟨_, m_holesLoop hto hh Q (to + 1 - a) a 0 (by omega) (by rwa [Nat.zero_add])⟩
theorem pl_next (h : R9 L I S S') (x y : Int32) : wp_o_next S x y (fun v S1 => wp_m_next_2 S' x y (fun v' T => v = v' ∧ R9 L I S1 T)) := by
  obtain ⟨D, hW, hX, hM, -⟩ := id h
  have hM2 := (kn0 S' 0).rm hM
  unfold wp_o_next
  try dsimp only
  rw [x_ask_eq hX hW]
  refine ⟨fun p => ?_, fun p => ?_⟩
  · obtain ⟨s, hs, rfl⟩ := isI_ex p.1.2 (by decide)
    obtain ⟨b, hb, rfl⟩ := isI_ex p.2 (by decide)
    refine x_both hX hW (fun S1 hL => ?_)
    have xh := fun a ha => xH hX hW hL hs (b := a) ha
    -- both loops side by side
    have key : ∀ m a, a + m = 200 → b ≤ a → (∀ k, b ≤ k → k < a → ¬ hoB D (stA D 200) s k = true) → wp_o_next_b21 (fun v S1 => wp_m_next_2 S' (nI s) (nI b) (fun v' T => v = v' ∧ R9 L I S1 T)) (nI s) (m + 1) S1 (nI a) := by
      have fin : ∀ (v : Int32) (a : Nat), b ≤ a → a ≤ 200 → (∀ k, b ≤ k → k < a → ¬ hoB D (stA D 200) s k = true) → (a = 200 → v = -1) → (a < 200 → v = nI a ∧ hoB D (stA D 200) s a = true) → wp_m_next_2 S' (nI s) (nI b) (fun v' T => v = v' ∧ R9 L I S1 T) := by
        intro v a h1 h2 h3 h4 h5
        unfold wp_m_next_2
        try dsimp only
        rw [m_ask_eq hM2 hW]
        refine ⟨fun _ => m_both hM2 hW (fun T hT => ?_), fun c => absurd p c⟩
        have mh := fun k hk => mH hM2 hW hT hs (b := k) hk
        have kk := h.keep hL.x ((kn0 S' 0).tr hT.n)
        have loop : ∀ m k, k + m = a → b ≤ k → wp_m_next_2_b30 (fun v' T => v = v' ∧ R9 L I S1 T) (nI s) (m + 1) T (nI k) := by
          intro m
          induction m with
          | zero =>
            intro k hk hbk
            obtain rfl : k = a := by omega
            rw [wp_m_next_2_b30]
            dsimp only
            rw [p_lit 200]
            rcases Nat.lt_or_ge k 200 with z | z
            · rw [mh k z, if_q]
              exact ⟨fun c => absurd c (nI_ge z (by decide)), fun _ => ⟨fun c => absurd (h5 z).2 c, fun _ => ⟨(h5 z).1, kk⟩⟩⟩
            · exact ⟨fun _ => ⟨h4 (by omega), kk⟩, fun c => absurd (nI_le z (by omega)) c⟩
          | succ m ih =>
            intro k hk hbk
            rw [wp_m_next_2_b30]
            dsimp only
            rw [mh k (by omega), if_q, nI_1 k, p_lit 200]
            exact ⟨fun c => absurd c (nI_ge (by omega) (by decide)), fun _ => ⟨fun _ => ih (k + 1) (by omega) (by omega), fun c => absurd c (h3 k hbk (by omega))⟩⟩
        exact ⟨_, loop (a - b) b (by omega) (Nat.le_refl _)⟩
      intro m
      induction m with
      | zero =>
        intro a ha hba hno
        obtain rfl : a = 200 := by omega
        rw [wp_o_next_b21]
        dsimp only
        rw [p_lit 200]
        exact ⟨fun _ => fin _ 200 hba (by omega) hno (fun _ => rfl) (fun z => absurd z (by omega)), fun c => absurd (nI_le (Nat.le_refl _) (by decide)) c⟩
      | succ m ih =>
        intro a ha hba hno
        rw [wp_o_next_b21]
        dsimp only
        rw [xh a (by omega), if_q, nI_1 a, p_lit 200]
        refine ⟨fun c => absurd c (nI_ge (by omega) (by decide)), fun _ => ⟨fun c => ih (a + 1) (by omega) (by omega) (fun k h1 h2 => ?_), fun c => fin _ a hba (by omega) hno (fun z => absurd z (by omega)) (fun _ => ⟨rfl, c⟩)⟩⟩
        rcases Nat.lt_or_ge k a with z | z
        · exact hno k h1 z
        · obtain rfl : k = a := by omega
          exact c
    exact ⟨_, key (200 - b) b (by omega) (Nat.le_refl _) (fun k h1 h2 => absurd h2 (by omega))⟩
  · unfold wp_m_next_2
    try dsimp only
    rw [m_ask_eq hM2 hW]
    exact ⟨fun c => absurd c p, fun _ => ⟨rfl, h.keep (KX.rf S) (kn0 S' 0)⟩⟩
theorem pl_holes (h : R9 L I S S') (x y z : Int32) : wp_o_holes S x y z (fun v S1 => wp_m_holes S' x y z (fun v' T => v = v' ∧ R9 L I S1 T)) := by
  obtain ⟨D, hW, hX, hM, -⟩ := id h
  have hM2 := (kn0 S' 0).rm hM
  have bad : ∀ (w : ¬ ((0 < D 15 3 ∧ isI x 2) ∧ (0 < D 15 3 ∧ isI y 200) ∧ (0 < D 15 3 ∧ isI z 200) ∧ ¬ z < y)), wp_m_holes S' x y z (fun v' T => -2 = v' ∧ R9 L I S T) := by
    intro w
    unfold wp_m_holes
    try dsimp only
    rw [m_isSide_eq hM2.lines hW, m_isSpan_eq hM2.lines hW, if_q, if_q']
    have k := h.keep (KX.rf S) (kn0 S' 0)
    exact ⟨fun _ => ⟨rfl, k⟩, fun c1 => ⟨fun c2 => absurd ⟨c1, c2⟩ w, fun _ => ⟨rfl, k⟩⟩⟩
  unfold wp_o_holes
  try dsimp only
  rw [o_isSide_eq hX hW, o_isSpan_eq hX hW, if_q, if_q']
  refine ⟨fun c => bad (fun w => c w.1), fun c => ⟨fun c2 => ?_, fun c2 => bad (fun w => c2 w.2)⟩⟩
  obtain ⟨s, hs, rfl⟩ := isI_ex c.2 (by decide)
  obtain ⟨a, ha, rfl⟩ := isI_ex c2.1.2 (by decide)
  obtain ⟨b, hb, rfl⟩ := isI_ex c2.2.1.2 (by decide)
  have hab : a ≤ b := Nat.not_lt.mp fun q => c2.2.2 (nI_lt q (by omega))
  refine x_both hX hW (fun S1 hL => x_holesOf hb hab (fun k hk => xH hX hW hL hs hk) _ ?_)
  unfold wp_m_holes
  try dsimp only
  rw [m_isSide_eq hM2.lines hW, m_isSpan_eq hM2.lines hW, if_q, if_q']
  exact ⟨fun q => absurd c q, fun _ => ⟨fun _ => m_both hM2 hW (fun T hT => m_holesOf hb hab (fun k hk => mH hM2 hW hT hs hk) _ ⟨rfl, h.keep hL.x ((kn0 S' 0).tr hT.n)⟩), fun q => absurd c2 q⟩⟩
theorem x_allHoles {D : Dn} {S0 S1 : St} (hX : RX D S0) (hW : WF D) {but : Nat} (hL : LXf 2 3 200 D (gAll D but) S0 S1) {Q : Int32 → Prop} (hq : Q (nI (cntF (hoB D (stA D but) 0) 200 0) + nI (cntF (hoB D (stA D but) 1) 200 0))) : wp_o_allHoles S1 Q := by
  unfold wp_o_allHoles
  exact x_holesOf (s := 0) (a := 0) (to := 199) (by decide) (by decide) (fun k hk => xH hX hW hL (by decide) hk) _ (x_holesOf (s := 1) (a := 0) (to := 199) (by decide) (by decide) (fun k hk => xH hX hW hL (by decide) hk) _ hq)
theorem m_allHoles {D : Dn} {S0 S1 : St} (hM : RM D 0 S0) (hW : WF D) {but : Nat} (hL : LXf 17 18 201 D (gAll D but) S0 S1) {Q : Int32 → Prop} (hq : Q (nI (cntF (hoB D (stA D but) 0) 200 0) + nI (cntF (hoB D (stA D but) 1) 200 0))) : wp_m_allHoles S1 Q := by
  unfold wp_m_allHoles
  exact m_holesOf (s := 0) (a := 0) (to := 199) (by decide) (by decide) (fun k hk => mH hM hW hL (by decide) hk) _ (m_holesOf (s := 1) (a := 0) (to := 199) (by decide) (by decide) (fun k hk => mH hM hW hL (by decide) hk) _ hq)
/-- of so many, one that is there -/
theorem in_many {x v : Int32} {n : Nat} (hv : v = nI n) (hn : n < 2 ^ 30) : ((0 : Int64).toInt ≤ x.toInt64.toInt ∧ x.toInt64.toInt ≤ (v - 1).toInt64.toInt) ↔ isI x n := by
  rw [tL, tL, hv, show (1 : Int32) = nI 1 from rfl, pk_sub_toInt (by omega) (by decide), show (0 : Int64).toInt = 0 from by decide]
  unfold isI
  omega
theorem o_isStumble_eq {D : Dn} {S : St} (h : RX D S) (hW : WF D) (x : Int32) (Q : Int32 → Prop) : wp_o_isStumble S x Q = Q (b2i (isI x (D 15 4))) := by
  have w := hW.1
  unfold wp_o_isStumble
  rw [o_isIn_eq, b2i_congr (in_many (h.g (k := 4) (by decide)) (by omega))]
  exact nar_q Q
theorem pl_undoes (h : R9 L I S S') (x : Int32) : wp_o_undoes S x (fun v S1 => wp_m_undoes S' x (fun v' T => v = v' ∧ R9 L I S1 T)) := by
  obtain ⟨D, hW, hX, hM, -⟩ := id h
  have hM2 := (kn0 S' 0).rm hM
  have w := hW.1
  have h7 : (sI S' 0 0 0).1 7 7 = nI (D 15 4) := hM2.h (j := 7) (by decide)
  unfold wp_o_undoes
  try dsimp only
  rw [o_isStumble_eq hX hW, if_q']
  refine ⟨fun c => ?_, fun c => ?_⟩
  · obtain ⟨k, hk, rfl⟩ := isI_ex c (by omega)
    refine x_both hX hW (fun S1 hL => x_allHoles hX hW hL ?_)
    have k1 : KX S1 (sI S1 6 3 (nI k)) := (KX.rf S1).wI _ (by unfold kX; omega)
    have hX1 := (hL.x.tr k1).rx hX
    refine x_both6 hX1 hW (w := k) (by omega) rfl (fun S2 hL2 => x_allHoles hX1 hW hL2 ?_)
    unfold wp_m_undoes
    try dsimp only
    rw [m_in_eq, b2i_congr (in_many h7 (by omega)), if_q']
    refine ⟨fun _ => m_both hM2 hW (fun T hT => m_allHoles hM2 hW hT ?_), fun q => absurd c q⟩
    refine m_but (hT.n.rm hM2) hW (w := k) (by omega) (fun T2 hT2 => m_allHoles (hT.n.rm hM2) hW hT2 ?_)
    exact ⟨rfl, h.keep ((hL.x.tr k1).tr hL2.x) (((kn0 S' 0).tr hT.n).tr hT2.n)⟩
  · unfold wp_m_undoes
    try dsimp only
    rw [m_in_eq, b2i_congr (in_many h7 (by omega)), if_q']
    exact ⟨fun q => absurd q c, fun _ => ⟨rfl, h.keep (KX.rf S) (kn0 S' 0)⟩⟩
end
