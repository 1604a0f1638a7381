/-! THE PLAIN LAW: drawn, nights (the questions) -/
set_option maxRecDepth 100000
section
variable {L : Lx} {I : Ix} {S S' : St}
theorem m_night {D : Dn} (hM : RM D 0 S) (hW : WF D) {z : Int64} {N : Nat} (hN : N ≤ 100) {Q : St → Prop} (hq : ∀ T, KN S T → T.1 0 40 = nI (nRun D z N).2.2.2.1 → T.1 0 41 = (nRun D z N).2.2.2.2.1 → T.1 0 42 = nI (nRun D z N).2.2.2.2.2.1 → T.1 0 43 = nI (nRun D z N).2.2.2.2.2.2 → Q T) : wp_m_draws S z (nI N) Q := by
  sorry
abbrev sd (x : Int32) : Prop := (0 : Int64).toInt ≤ x.toInt64.toInt ∧ x.toInt64.toInt ≤ (2000000000 : Int64).toInt
abbrev hd9 (y : Int32) : Prop := (1 : Int64).toInt ≤ y.toInt64.toInt ∧ y.toInt64.toInt ≤ (100 : Int64).toInt
theorem o_isNight_eq {D : Dn} (hX : RX D S) (hW : WF D) (x y : Int32) (Q : Int32 → Prop) : wp_o_isNight S x y Q = Q (b2i (0 < D 15 3 ∧ sd x ∧ hd9 y)) := by
  unfold wp_o_isNight wp_o_isSeed
  rw [o_isDance_eq hX hW, o_isIn_eq, b2i_nar]
  simp only [true_and]
  rw [o_isIn_eq, b01_q, an_q, an_q]
theorem m_isDraw_eq {D : Dn} (hM : RM D 0 S) (hW : WF D) (x y : Int32) (Q : Int32 → Prop) : wp_m_isDraw S x y Q = Q (b2i (0 < D 15 3 ∧ sd x ∧ hd9 y)) := by
  unfold wp_m_isDraw
  rw [m_isDance_eq hM.lines hW, m_in_eq, m_in_eq, b01_q, an_q, an_q]
theorem hd9_ex {y : Int32} (h : hd9 y) : ∃ n : Nat, n < 101 ∧ y = nI n := by
  have h1 := h.1
  have h2 := h.2
  rw [tL, show (1 : Int64).toInt = 1 from rfl] at h1
  rw [tL, show (100 : Int64).toInt = 100 from rfl] at h2
  exact isI_ex (n := 101) (x := y) ⟨by omega, by omega⟩ (by decide)
/-- what is asked of a night -/
def nAsk (q : Nst) (w : Int32) : Int32 := if w = 0 then nI q.2.2.2.1 else if w = 1 then q.2.2.2.2.1 else if w = 2 then nI q.2.2.2.2.2.1 else nI q.2.2.2.2.2.2
theorem pl_drawn (h : R9 L I S S') (x y w : Int32) : wp_o_drawn S x y w (fun v S1 => wp_m_drawn S' x y w (fun v' T => v = v' ∧ R9 L I S1 T)) := by
  obtain ⟨D, hW, hX, hM, -⟩ := id h
  have hM2 := (kn0 S' 0).rm hM
  have mm : ∀ (v : Int32) (S1 : St), KX S S1 → (¬ ((0 < D 15 3 ∧ sd x ∧ hd9 y) ∧ isI w 4) → v = -2) → (∀ N, N < 101 → ((0 < D 15 3 ∧ sd x ∧ hd9 y) ∧ isI w 4) → y = nI N → v = nAsk (nRun D x.toInt64 N) w) → wp_m_drawn S' x y w (fun v' T => v = v' ∧ R9 L I S1 T) := by
    intro v S1 k1 v1 v0
    have k := h.keep k1 (kn0 S' 0)
    unfold wp_m_drawn
    dsimp only
    rw [m_isDraw_eq hM2 hW, m_in_eq, b2i_congr (in_isI w (m := 3) (n := 4) (by decide)), if_q, if_q']
    refine ⟨fun c => ⟨v1 (fun q => c q.1), k⟩, fun c => ⟨fun c1 => ?_, fun c1 => ⟨v1 (fun q => c1 q.2), k⟩⟩⟩
    obtain ⟨N, hN, rfl⟩ := hd9_ex c.2.2
    have v9 := v0 N hN ⟨c, c1⟩ rfl
    refine m_night hM2 hW (by omega) (fun T hT g1 g2 g3 g4 => ?_)
    have k9 := h.keep k1 ((kn0 S' 0).tr hT)
    unfold nAsk at v9
    refine ⟨fun z0 => ⟨fun z1 => ⟨fun z2 => ⟨?_, k9⟩, fun z2 => ⟨?_, k9⟩⟩, fun z1 => ⟨?_, k9⟩⟩, fun z0 => ⟨?_, k9⟩⟩
    · rw [v9, if_neg z0, if_neg z1, if_neg z2, g4]
    · rw [v9, if_neg z0, if_neg z1, if_pos z2, g3]
    · rw [v9, if_neg z0, if_pos z1, g2]
    · rw [v9, if_pos z0, g1]
  unfold wp_o_drawn
  rw [o_isNight_eq hX hW, o_isOneOf_eq w (m := 4) (n := 4) rfl (by omega) (by omega), if_q, if_q']
  have bad : ¬ ((0 < D 15 3 ∧ sd x ∧ hd9 y) ∧ isI w 4) → wp_m_drawn S' x y w (fun v' T => -2 = v' ∧ R9 L I S T) := fun c => mm _ S (KX.rf S) (fun _ => rfl) (fun N hN q _ => absurd q c)
  refine ⟨fun c => bad (fun q => c q.1), fun c => ⟨fun c1 => ?_, fun c1 => bad (fun q => c1 q.2)⟩⟩
  obtain ⟨N, hN, rfl⟩ := hd9_ex c.2.2
  refine x_night hX hW (by omega) (fun T hT g1 g2 g3 g4 => ?_)
  have fin : ∀ v, v = nAsk (nRun D x.toInt64 N) w → wp_m_drawn S' x (nI N) w (fun v' T1 => v = v' ∧ R9 L I T T1) := fun v hv => mm v T hT (fun q => absurd ⟨c, c1⟩ q) (fun N' hN' _ e => by rw [← (nI_eq (by omega) (by omega)).mp e]; exact hv)
  unfold nAsk at fin
  refine ⟨fun z0 => ⟨fun z1 => ⟨fun z2 => fin _ ?_, fun z2 => fin _ ?_⟩, fun z1 => fin _ ?_⟩, fun z0 => fin _ ?_⟩
  · rw [if_neg z0, if_neg z1, if_neg z2, g4]
  · rw [if_neg z0, if_neg z1, if_pos z2, g3]
  · rw [if_neg z0, if_pos z1, g2]
  · rw [if_pos z0, g1]
/-- how many nights of the first k have no hole -/
def ntN (D : Dn) (x : Int32) (N : Nat) : Nat → Nat
  | 0 => 0
  | k + 1 => ntN D x N k + (if (nRun D (x.toInt64 + (nI k).toInt64) N).2.2.2.1 = 0 then 1 else 0)
abbrev tw (y : Int32) : Prop := (1 : Int64).toInt ≤ y.toInt64.toInt ∧ y.toInt64.toInt ≤ (20 : Int64).toInt
theorem tw_ex {y : Int32} (h : tw y) : ∃ n : Nat, n < 21 ∧ y = nI n := by
  have h1 := h.1
  have h2 := h.2
  rw [tL, show (1 : Int64).toInt = 1 from rfl] at h1
  rw [tL, show (20 : Int64).toInt = 20 from rfl] at h2
  exact isI_ex (n := 21) (x := y) ⟨by omega, by omega⟩ (by decide)
theorem pl_nights (h : R9 L I S S') (x n y : Int32) : wp_o_nights S x n y (fun v S1 => wp_m_nights S' x n y (fun v' T => v = v' ∧ R9 L I S1 T)) := by
  obtain ⟨D, hW, hX, hM, -⟩ := id h
  have hM2 := (kn0 S' 0).rm hM
  have mm : ∀ (v : Int32) (S1 : St), KX S S1 → (¬ ((0 < D 15 3 ∧ sd x ∧ hd9 y) ∧ tw n) → v = -2) → (∀ N k, N < 101 → k < 21 → ((0 < D 15 3 ∧ sd x ∧ hd9 y) ∧ tw n) → y = nI N → n = nI k → v = nI (ntN D x N k)) → wp_m_nights S' x n y (fun v' T => v = v' ∧ R9 L I S1 T) := by
    intro v S1 k1 v1 v0
    have k := h.keep k1 (kn0 S' 0)
    unfold wp_m_nights
    dsimp only
    rw [m_isDraw_eq hM2 hW, m_in_eq, if_q, if_q']
    refine ⟨fun c => ⟨v1 (fun q => c q.1), k⟩, fun c => ⟨fun c1 => ?_, fun c1 => ⟨v1 (fun q => c1 q.2), k⟩⟩⟩
    obtain ⟨N, hN, rfl⟩ := hd9_ex c.2.2
    obtain ⟨K, hK, rfl⟩ := tw_ex c1
    have v9 := v0 N K hN hK ⟨c, c1⟩ rfl rfl
    have key : ∀ m j T, j + m = K → KN (sI S' 0 0 0) T → wp_m_nights_b35 (fun v' T => v = v' ∧ R9 L I S1 T) x (nI K) (nI N) (m + 1) T (nI (ntN D x N j)) (nI j) := by
      intro m
      induction m with
      | zero =>
        intro j T hj hT
        rw [wp_m_nights_b35]
        obtain rfl : j = K := by omega
        exact ⟨fun _ => ⟨v9, h.keep k1 ((kn0 S' 0).tr hT)⟩, fun z => absurd (nI_le (Nat.le_refl _) (by omega)) z⟩
      | succ m ih =>
        intro j T hj hT
        rw [wp_m_nights_b35]
        refine ⟨fun z => absurd z (nI_ge (by omega) (by omega)), fun _ => m_night (hT.rm hM2) hW (by omega) (fun T2 hT2 g1 g2 g3 g4 => ?_)⟩
        have i1 := ih (j + 1) T2 (by omega) (hT.tr hT2)
        rw [ntN] at i1
        have hh := (nRun_ok hW (x.toInt64 + (nI j).toInt64) N).2.2.1
        rw [g1, eq0 (by omega), nI_1 j, nI_1 (ntN D x N j), ad0]
        exact ⟨fun z => by rwa [if_neg z] at i1, fun z => by rwa [if_pos z] at i1⟩
    exact ⟨_, key K 0 _ (by omega) (KN.rf _)⟩
  have bad : ¬ ((0 < D 15 3 ∧ sd x ∧ hd9 y) ∧ tw n) → wp_m_nights S' x n y (fun v' T => -2 = v' ∧ R9 L I S T) := fun c => mm _ S (KX.rf S) (fun _ => rfl) (fun N k hN hk q _ _ => absurd q c)
  unfold wp_o_nights
  rw [o_isNight_eq hX hW, o_isIn_eq, if_q, if_q']
  refine ⟨fun c => bad (fun q => c q.1), fun c => ⟨fun c1 => ?_, fun c1 => bad (fun q => c1 q.2)⟩⟩
  obtain ⟨N, hN, rfl⟩ := hd9_ex c.2.2
  obtain ⟨K, hK, rfl⟩ := tw_ex c1
  have key : ∀ m j T, j + m = K → KX S T → wp_o_nights_b30 (fun v S1 => wp_m_nights S' x (nI K) (nI N) (fun v' T => v = v' ∧ R9 L I S1 T)) x (nI K) (nI N) (m + 1) T (nI (ntN D x N j)) (nI j) := by
    intro m
    induction m with
    | zero =>
      intro j T hj hT
      rw [wp_o_nights_b30]
      obtain rfl : j = K := by omega
      exact ⟨fun _ => mm _ T hT (fun q => absurd ⟨c, c1⟩ q) (fun N' k' hN' hk' _ e1 e2 => by rw [(nI_eq (by omega) (by omega)).mp e1, (nI_eq (by omega) (by omega)).mp e2]), fun z => absurd (nI_le (Nat.le_refl _) (by omega)) z⟩
    | succ m ih =>
      intro j T hj hT
      rw [wp_o_nights_b30]
      refine ⟨fun z => absurd z (nI_ge (by omega) (by omega)), fun _ => x_night (hT.rx hX) hW (by omega) (fun T2 hT2 g1 g2 g3 g4 => ?_)⟩
      have i1 := ih (j + 1) T2 (by omega) (hT.tr hT2)
      rw [ntN] at i1
      have hh := (nRun_ok hW (x.toInt64 + (nI j).toInt64) N).2.2.1
      rw [g1, eq0 (by omega), nI_1 j, nI_1 (ntN D x N j), ad0]
      exact ⟨fun z => by rwa [if_neg z] at i1, fun z => by rwa [if_pos z] at i1⟩
  exact ⟨_, key K 0 S (by omega) (KX.rf S)⟩
end
