/-! THE PLAIN LAW: run, begins, causes, least -/
set_option maxRecDepth 100000
/-- the longest run so far: how long now, how long at most, where it began (one more; 0: nowhere) -/
def rnS (p : Nat → Bool) (a : Nat) : Nat → Nat × Nat × Nat
  | 0 => (0, 0, 0)
  | m + 1 =>
    let q := rnS p a m
    let now := if p (a + m) = true then 0 else q.1 + 1
    if q.2.1 < now then (now, now, a + m + 1 - now + 1) else (now, q.2.1, q.2.2)
theorem rnS_ok (p : Nat → Bool) (a : Nat) : ∀ m, (rnS p a m).1 ≤ m ∧ (rnS p a m).2.1 ≤ m ∧ (rnS p a m).2.2 ≤ a + m + 1
  | 0 => by unfold rnS; exact ⟨Nat.le_refl _, Nat.le_refl _, Nat.zero_le _⟩
  | m + 1 => by
    obtain ⟨h1, h2, h3⟩ := rnS_ok p a m
    unfold rnS
    dsimp only
    have hn : (if p (a + m) = true then 0 else (rnS p a m).1 + 1) ≤ m + 1 := by
      by_cases c : p (a + m) = true
      · rw [if_pos c]; omega
      · rw [if_neg c]; omega
    generalize (if p (a + m) = true then 0 else (rnS p a m).1 + 1) = now at hn ⊢
    by_cases c : (rnS p a m).2.1 < now
    · rw [if_pos c]; dsimp only; omega
    · rw [if_neg c]; dsimp only; omega
section
variable {L : Lx} {I : Ix} {S S' : St}
def mI (n : Nat) : Int32 := nI n - 1
theorem mI0 : mI 0 = -1 := by decide
theorem mI_s (n : Nat) : mI (n + 1) = nI n := nI_pred n
/-- whether a beat has a hole on a side -/
def hol2 (D : Dn) (b : Nat) : Bool := hoB D (stA D 200) 0 b || hoB D (stA D 200) 1 b
theorem x_findsRun {D : Dn} (hX : RX D S) (hW : WF D) {a b : Nat} (hab : a ≤ b) (hb : b < 200) {Q : St → Prop} (hq : ∀ S1, KX S S1 → S1.1 0 11 = nI (rnS (hol2 D) a (b + 1 - a)).2.1 → S1.1 0 12 = mI (rnS (hol2 D) a (b + 1 - a)).2.2 → Q S1) : wp_o_findsRun S (nI a) (nI b) Q := by
  unfold wp_o_findsRun
  refine x_both hX hW (fun S0 hL => ?_)
  have key : ∀ m j T, j + m = b + 1 - a → (∀ c k, ¬ (c = 0 ∧ (k = 11 ∨ k = 12)) → T.1 c k = S0.1 c k) → T.1 0 11 = nI (rnS (hol2 D) a j).2.1 → T.1 0 12 = mI (rnS (hol2 D) a j).2.2 → wp_o_findsRun_b22 Q (nI b) (m + 1) T (nI (rnS (hol2 D) a j).1) (nI (a + j)) := by
    intro m
    induction m with
    | zero =>
      intro j T hj hT h11 h12
      have ej : j = b + 1 - a := by omega
      rw [wp_o_findsRun_b22]
      dsimp only
      rw [nI_ltI (by omega) (by omega)]
      exact ⟨fun _ => hq T (hL.x.tr (fun c k q => hT c k (by unfold kX at q; omega))) (by rw [← ej]; exact h11) (by rw [← ej]; exact h12), fun c => absurd (show b < a + j by omega) c⟩
    | succ m ih =>
      intro j T hj hT h11 h12
      obtain ⟨r1, r2, r3⟩ := rnS_ok (hol2 D) a j
      have hXT : RX D T := (hL.x.tr (fun c k q => hT c k (by unfold kX at q; omega))).rx hX
      have hh : ∀ s, s < 2 → ∀ Q : Int32 → Prop, wp_o_isHole T (nI s) (nI (a + j)) Q = Q (b2i (hoB D (stA D 200) s (a + j) = true)) := fun s hs Q => x_isHole hXT hW hs (by omega) (st := stA D 200) (by rw [hT 3 _ (by omega)]; exact (hL.1 s (a + j) hs (by omega)).2) (fun _ => by rw [hT 3 _ (by omega)]; exact (hL.1 (1 - s) _ (by omega) (by omega)).2) (stA_stp hW 200 hs (by omega)) (fun _ => stA_stp hW 200 (by omega) (by omega)) Q
      have h0 := hh 0 (by decide)
      have h1 := hh 1 (by decide)
      rw [show nI 0 = 0 from rfl] at h0
      rw [show nI 1 = 1 from rfl] at h1
      have fin : ∀ now, now = (if hol2 D (a + j) = true then 0 else (rnS (hol2 D) a j).1 + 1) → wp_o_findsRun_b55 Q (nI b) (fun Sy y3 y4 => wp_o_findsRun_b22 Q (nI b) (m + 1) Sy y3 y4) T (nI (a + j)) (nI now) := by
        intro now hn
        have hle : now ≤ j + 1 := by
          rw [hn]
          by_cases c : hol2 D (a + j) = true
          · rw [if_pos c]; omega
          · rw [if_neg c]; omega
        unfold wp_o_findsRun_b55
        rw [h11, nI_ltI (by omega) (by omega), nI_1 (a + j)]
        have e1 : (rnS (hol2 D) a (j + 1)).1 = now := by
          rw [rnS]
          try dsimp only
          rw [← hn]
          by_cases c : (rnS (hol2 D) a j).2.1 < now
          · rw [if_pos c]
          · rw [if_neg c]
        refine ⟨fun c => ?_, fun c => ?_⟩
        · have e2 : (rnS (hol2 D) a (j + 1)).2 = (now, a + j + 1 - now + 1) := by
            rw [rnS]
            try dsimp only
            rw [← hn, if_pos c]
          have := ih (j + 1) (sI (sI T 0 11 (nI now)) 0 12 ((nI (a + j) - nI now) + 1)) (by omega) (fun c k n => by rw [sI_1, if_neg (by omega), sI_1, if_neg (by omega)]; exact hT c k n) (by rw [sI_1, if_neg (by omega), sI_1, if_pos ⟨rfl, rfl⟩, e2]) (by
            rw [sI_1, if_pos ⟨rfl, rfl⟩, e2]
            show nI (a + j) - nI now + 1 = mI (a + j + 1 - now + 1)
            rw [mI_s]
            rcases Nat.lt_or_ge (a + j) now with z | z
            · have h9 : now = a + j + 1 := by omega
              rw [h9, ← nI_1, Nat.sub_self]
              rw [Int32.sub_eq_add_neg, Int32.neg_add, Int32.sub_eq_add_neg (-nI (a + j)), ← Int32.add_assoc, Int32.add_right_neg, Int32.zero_add]
              rfl
            · rw [pk_sub z, nI_1]; congr 1; omega)
          rwa [e1] at this
        · have e2 : (rnS (hol2 D) a (j + 1)).2 = (rnS (hol2 D) a j).2 := by
            rw [rnS]
            try dsimp only
            rw [← hn, if_neg c]
          have := ih (j + 1) T (by omega) hT (by rw [e2]; exact h11) (by rw [e2]; exact h12)
          rwa [e1] at this
      rw [wp_o_findsRun_b22]
      dsimp only
      rw [h0, if_q', nI_ltI (by omega) (by omega)]
      refine ⟨fun c => absurd c (by omega), fun _ => ⟨fun c => ?_, fun c => ?_⟩⟩
      · exact fin 0 (by rw [if_pos (by unfold hol2; rw [c]; rfl)])
      · rw [h1, if_q, nI_1]
        refine ⟨fun c2 => fin _ (by rw [if_neg (by unfold hol2; simp [c, c2])]), fun c2 => fin 0 (by rw [if_pos (by unfold hol2; rw [c2]; simp)])⟩
  exact ⟨_, key (b + 1 - a) 0 _ (by omega) (fun c k n => by rw [sI_1, if_neg (by omega), sI_1, if_neg (by omega)]) (by rw [sI_1, if_neg (by omega), sI_1, if_pos ⟨rfl, rfl⟩]; rfl) (by rw [sI_1, if_pos ⟨rfl, rfl⟩]; exact mI0.symm)⟩
theorem m_laysRun {D : Dn} (hM : RM D 0 S) (hW : WF D) {a b : Nat} (hab : a ≤ b) (hb : b < 200) {Q : St → Prop} (hq : ∀ S1, KN S S1 → S1.1 0 29 = nI (rnS (hol2 D) a (b + 1 - a)).2.1 → S1.1 0 30 = mI (rnS (hol2 D) a (b + 1 - a)).2.2 → Q S1) : wp_m_laysRun S (nI a) (nI b) Q := by
  unfold wp_m_laysRun
  refine m_both hM hW (fun S0 hL => ?_)
  have key : ∀ m j T, j + m = b + 1 - a → (∀ c k, ¬ (c = 0 ∧ (k = 29 ∨ k = 30)) → T.1 c k = S0.1 c k) → T.2 = S0.2 → T.1 0 29 = nI (rnS (hol2 D) a j).2.1 → T.1 0 30 = mI (rnS (hol2 D) a j).2.2 → wp_m_laysRun_b19 Q (nI b) (m + 1) T (nI (rnS (hol2 D) a j).1) (nI (a + j)) := by
    intro m
    induction m with
    | zero =>
      intro j T hj hT hT2 h11 h12
      have ej : j = b + 1 - a := by omega
      rw [wp_m_laysRun_b19]
      dsimp only
      rw [nI_ltI (by omega) (by omega)]
      exact ⟨fun _ => hq T (hL.n.tr ⟨fun c k q => hT c k (by unfold kM at q; omega), fun k => by rw [hT2]⟩) (by rw [← ej]; exact h11) (by rw [← ej]; exact h12), fun c => absurd (show b < a + j by omega) c⟩
    | succ m ih =>
      intro j T hj hT hT2 h11 h12
      obtain ⟨r1, r2, r3⟩ := rnS_ok (hol2 D) a j
      have hXT : RM D 0 T := (hL.n.tr ⟨fun c k q => hT c k (by unfold kM at q; omega), fun k => by rw [hT2]⟩).rm hM
      have hh : ∀ s, s < 2 → ∀ Q : Int32 → Prop, wp_m_isHole T (nI s) (nI (a + j)) Q = Q (b2i (hoB D (stA D 200) s (a + j) = true)) := fun s hs Q => m_isHole_eq hXT hW hs (by omega) (st := stA D 200) (by rw [hT 18 _ (by omega)]; exact (hL.1 s (a + j) hs (by omega)).2) (fun _ => by rw [hT 18 _ (by omega)]; exact (hL.1 (1 - s) _ (by omega) (by omega)).2) (stA_stp hW 200 hs (by omega)) (fun _ => stA_stp hW 200 (by omega) (by omega)) Q
      have h0 := hh 0 (by decide)
      have h1 := hh 1 (by decide)
      rw [show nI 0 = 0 from rfl] at h0
      rw [show nI 1 = 1 from rfl] at h1
      have fin : ∀ now, now = (if hol2 D (a + j) = true then 0 else (rnS (hol2 D) a j).1 + 1) → wp_m_laysRun_b52 Q (nI b) (fun Sy y3 y4 => wp_m_laysRun_b19 Q (nI b) (m + 1) Sy y3 y4) T (nI (a + j)) (nI now) := by
        intro now hn
        have hle : now ≤ j + 1 := by
          rw [hn]
          by_cases c : hol2 D (a + j) = true
          · rw [if_pos c]; omega
          · rw [if_neg c]; omega
        unfold wp_m_laysRun_b52
        rw [h11, nI_ltI (by omega) (by omega), nI_1 (a + j)]
        have e1 : (rnS (hol2 D) a (j + 1)).1 = now := by
          rw [rnS]
          try dsimp only
          rw [← hn]
          by_cases c : (rnS (hol2 D) a j).2.1 < now
          · rw [if_pos c]
          · rw [if_neg c]
        refine ⟨fun c => ?_, fun c => ?_⟩
        · have e2 : (rnS (hol2 D) a (j + 1)).2 = (now, a + j + 1 - now + 1) := by
            rw [rnS]
            try dsimp only
            rw [← hn, if_pos c]
          have := ih (j + 1) (sI (sI T 0 29 (nI now)) 0 30 ((nI (a + j) - nI now) + 1)) (by omega) (fun c k n => by rw [sI_1, if_neg (by omega), sI_1, if_neg (by omega)]; exact hT c k n) hT2 (by rw [sI_1, if_neg (by omega), sI_1, if_pos ⟨rfl, rfl⟩, e2]) (by
            rw [sI_1, if_pos ⟨rfl, rfl⟩, e2]
            show nI (a + j) - nI now + 1 = mI (a + j + 1 - now + 1)
            rw [mI_s]
            rcases Nat.lt_or_ge (a + j) now with z | z
            · have h9 : now = a + j + 1 := by omega
              rw [h9, ← nI_1, Nat.sub_self]
              rw [Int32.sub_eq_add_neg, Int32.neg_add, Int32.sub_eq_add_neg (-nI (a + j)), ← Int32.add_assoc, Int32.add_right_neg, Int32.zero_add]
              rfl
            · rw [pk_sub z, nI_1]; congr 1; omega)
          rwa [e1] at this
        · have e2 : (rnS (hol2 D) a (j + 1)).2 = (rnS (hol2 D) a j).2 := by
            rw [rnS]
            try dsimp only
            rw [← hn, if_neg c]
          have := ih (j + 1) T (by omega) hT hT2 (by rw [e2]; exact h11) (by rw [e2]; exact h12)
          rwa [e1] at this
      rw [wp_m_laysRun_b19]
      dsimp only
      rw [h0, if_q', nI_ltI (by omega) (by omega)]
      refine ⟨fun c => absurd c (by omega), fun _ => ⟨fun c => ?_, fun c => ?_⟩⟩
      · exact fin 0 (by rw [if_pos (by unfold hol2; rw [c]; rfl)])
      · rw [h1, if_q, nI_1]
        refine ⟨fun c2 => fin _ (by rw [if_neg (by unfold hol2; simp [c, c2])]), fun c2 => fin 0 (by rw [if_pos (by unfold hol2; rw [c2]; simp)])⟩
  exact ⟨_, key (b + 1 - a) 0 _ (by omega) (fun c k n => by rw [sI_1, if_neg (by omega), sI_1, if_neg (by omega)]) rfl (by rw [sI_1, if_neg (by omega), sI_1, if_pos ⟨rfl, rfl⟩]; rfl) (by rw [sI_1, if_pos ⟨rfl, rfl⟩]; exact mI0.symm)⟩
theorem pl_run (h : R9 L I S S') (x y : Int32) : wp_o_run S x y (fun v S1 => wp_m_run S' x y (fun v' T => v = v' ∧ R9 L I S1 T)) := by
  obtain ⟨D, hW, hX, hM, -⟩ := id h
  have hM2 := (kn0 S' 0).rm hM
  unfold wp_o_run
  rw [o_isSpan_eq hX hW, if_q']
  refine ⟨fun c => ?_, fun c => ?_⟩
  · obtain ⟨a, ha, rfl⟩ := isI_ex c.1.2 (by decide)
    obtain ⟨b, hb, rfl⟩ := isI_ex c.2.1.2 (by decide)
    have hab : a ≤ b := Nat.not_lt.mp fun q => c.2.2 (nI_lt q (by omega))
    refine x_findsRun hX hW hab hb (fun S1 k1 h1 h2 => ?_)
    rw [h1]
    unfold wp_m_run
    dsimp only
    rw [m_isSpan_eq hM2.lines hW, if_q']
    refine ⟨fun _ => m_laysRun hM2 hW hab hb (fun T k2 g1 g2 => ?_), fun z => absurd c z⟩
    exact ⟨g1.symm, h.keep k1 ((kn0 S' 0).tr k2)⟩
  · unfold wp_m_run
    dsimp only
    rw [m_isSpan_eq hM2.lines hW, if_q']
    exact ⟨fun z => absurd z c, fun _ => ⟨rfl, h.keep (KX.rf S) (kn0 S' 0)⟩⟩
theorem pl_begins (h : R9 L I S S') (x y : Int32) : wp_o_begins S x y (fun v S1 => wp_m_begins_2 S' x y (fun v' T => v = v' ∧ R9 L I S1 T)) := by
  obtain ⟨D, hW, hX, hM, -⟩ := id h
  have hM2 := (kn0 S' 0).rm hM
  unfold wp_o_begins
  rw [o_isSpan_eq hX hW, if_q']
  refine ⟨fun c => ?_, fun c => ?_⟩
  · obtain ⟨a, ha, rfl⟩ := isI_ex c.1.2 (by decide)
    obtain ⟨b, hb, rfl⟩ := isI_ex c.2.1.2 (by decide)
    have hab : a ≤ b := Nat.not_lt.mp fun q => c.2.2 (nI_lt q (by omega))
    refine x_findsRun hX hW hab hb (fun S1 k1 h1 h2 => ?_)
    rw [h2]
    unfold wp_m_begins_2
    dsimp only
    rw [m_isSpan_eq hM2.lines hW, if_q']
    refine ⟨fun _ => m_laysRun hM2 hW hab hb (fun T k2 g1 g2 => ?_), fun z => absurd c z⟩
    exact ⟨g2.symm, h.keep k1 ((kn0 S' 0).tr k2)⟩
  · unfold wp_m_begins_2
    dsimp only
    rw [m_isSpan_eq hM2.lines hW, if_q']
    exact ⟨fun z => absurd z c, fun _ => ⟨rfl, h.keep (KX.rf S) (kn0 S' 0)⟩⟩
-- ---- what causes a hole: the set so far, as both sides count it
def csV (D : Dn) (s b : Nat) : Nat → Int32
  | 0 => 0
  | k + 1 => if hoB D (stA D k) s b = true then (csV D s b k ||| 0) else (csV D s b k ||| (1 <<< (nI k &&& 31)))
theorem pl_causes (h : R9 L I S S') (x y : Int32) : wp_o_causes S x y (fun v S1 => wp_m_causes S' x y (fun v' T => v = v' ∧ R9 L I S1 T)) := by
  obtain ⟨D, hW, hX, hM, -⟩ := id h
  have hM2 := (kn0 S' 0).rm hM
  have w4 := hW.1.2.2.2.2.1
  unfold wp_o_causes
  rw [x_ask_eq hX hW]
  refine ⟨fun p => ?_, fun p => ?_⟩
  · obtain ⟨s, hs, rfl⟩ := isI_ex p.1.2 (by decide)
    obtain ⟨b, hb, rfl⟩ := isI_ex p.2 (by decide)
    refine x_both hX hW (fun S1 hL => ?_)
    rw [xH hX hW hL hs hb, if_q']
    -- the reference's side
    have mm : ∀ (v : Int32) (S2 : St), KX S S2 → (hoB D (stA D 200) s b = true → v = csV D s b (D 15 4)) → (¬ hoB D (stA D 200) s b = true → v = 0) → wp_m_causes S' (nI s) (nI b) (fun v' T => v = v' ∧ R9 L I S2 T) := by
      intro v S2 k2 v1 v0
      unfold wp_m_causes
      dsimp only
      rw [m_ask_eq hM2 hW]
      refine ⟨fun _ => m_both hM2 hW (fun T hT => ?_), fun c => absurd p c⟩
      rw [mH hM2 hW hT hs hb, if_q']
      refine ⟨fun c => ?_, fun c => ⟨v0 c, h.keep k2 ((kn0 S' 0).tr hT.n)⟩⟩
      have loop : ∀ m k T, k + m = D 15 4 → KN (sI S' 0 0 0) T → wp_m_causes_b44 (fun v' T => v = v' ∧ R9 L I S2 T) (nI s) (nI b) (m + 1) T (csV D s b k) (nI k) := by
        intro m
        induction m with
        | zero =>
          intro k T hk kT
          obtain rfl : k = D 15 4 := by omega
          rw [wp_m_causes_b44]
          dsimp only
          rw [show T.1 7 7 = nI (D 15 4) from (kT.rm hM2).h (j := 7) (by decide)]
          exact ⟨fun _ => ⟨v1 c, h.keep k2 ((kn0 S' 0).tr kT)⟩, fun z => absurd (nI_le (Nat.le_refl _) (by omega)) z⟩
        | succ m ih =>
          intro k T hk kT
          rw [wp_m_causes_b44]
          dsimp only
          rw [show T.1 7 7 = nI (D 15 4) from (kT.rm hM2).h (j := 7) (by decide)]
          refine ⟨fun z => absurd z (nI_ge (by omega) (by omega)), fun _ => m_but (kT.rm hM2) hW (w := k) (by omega) (fun T2 hT2 => ?_)⟩
          rw [mH (kT.rm hM2) hW hT2 hs hb, if_q, nI_1 k]
          have := ih (k + 1) T2 (by omega) (kT.tr hT2.n)
          rw [csV] at this
          exact ⟨fun z => by rwa [if_neg z] at this, fun z => by rwa [if_pos z] at this⟩
      exact ⟨_, loop (D 15 4) 0 T (by omega) hT.n⟩
    refine ⟨fun c => ?_, fun c => mm 0 S1 hL.x (fun z => absurd z c) (fun _ => rfl)⟩
    have loop : ∀ m k S2, k + m = D 15 4 → KX S S2 → wp_o_causes_b35 (fun v S1 => wp_m_causes S' (nI s) (nI b) (fun v' T => v = v' ∧ R9 L I S1 T)) (nI s) (nI b) (m + 1) S2 (csV D s b k) (nI k) := by
      intro m
      induction m with
      | zero =>
        intro k S2 hk k2
        obtain rfl : k = D 15 4 := by omega
        rw [wp_o_causes_b35]
        dsimp only
        rw [(k2.rx hX).g (k := 4) (by decide)]
        exact ⟨fun _ => mm _ S2 k2 (fun _ => rfl) (fun z => absurd c z), fun z => absurd (nI_le (Nat.le_refl _) (by omega)) z⟩
      | succ m ih =>
        intro k S2 hk k2
        have k3 : KX S (sI S2 6 3 (nI k)) := k2.wI _ (by unfold kX; omega)
        rw [wp_o_causes_b35]
        dsimp only
        rw [(k2.rx hX).g (k := 4) (by decide)]
        refine ⟨fun z => absurd z (nI_ge (by omega) (by omega)), fun _ => x_both6 (k3.rx hX) hW (w := k) (by omega) rfl (fun S3 hS3 => ?_)⟩
        rw [xH (k3.rx hX) hW hS3 hs hb, if_q, nI_1 k]
        have := ih (k + 1) S3 (by omega) (k3.tr hS3.x)
        rw [csV] at this
        exact ⟨fun z => by rwa [if_neg z] at this, fun z => by rwa [if_pos z] at this⟩
    exact ⟨_, loop (D 15 4) 0 S1 (by omega) hL.x⟩
  · unfold wp_m_causes
    dsimp only
    rw [m_ask_eq hM2 hW]
    exact ⟨fun c => absurd c p, fun _ => ⟨rfl, h.keep (KX.rf S) (kn0 S' 0)⟩⟩
-- ---- the least clashes
def lsN (D : Dn) : Nat → Nat
  | 0 => 0
  | n + 1 => if n = 0 then 0 else if shN D n < shN D (lsN D n) then n else lsN D n
theorem lsN_lt (D : Dn) : ∀ n, 0 < n → lsN D n < n
  | 0, h => absurd h (Nat.lt_irrefl _)
  | n + 1, _ => by
    unfold lsN
    by_cases h : n = 0
    · rw [if_pos h]; omega
    · rw [if_neg h]
      have := lsN_lt D n (by omega)
      by_cases c : shN D n < shN D (lsN D n)
      · rw [if_pos c]; omega
      · rw [if_neg c]; omega
theorem shN_le {D : Dn} (hW : WF D) (n : Nat) : shN D n < 2 ^ 30 := by
  have := shS_le D n (perN D) (D 15 0)
  have := perN_le hW
  unfold shN
  omega
theorem pl_least (h : R9 L I S S') : wp_o_least S (fun v => wp_m_least S' (fun v' T => v = v' ∧ R9 L I S T)) := by
  obtain ⟨D, hW, hX, hM, -⟩ := id h
  have hM2 := (kn0 S' 0).rm hM
  have k := h.keep (KX.rf S) (kn0 S' 0)
  have w1 := (hW.2.1 1 (by decide)).1
  have l1 := fun Q => m_lengthOf_eq hM2 (s := 1) (by decide) Q
  rw [show nI 1 = 1 from rfl] at l1
  have mm : ∀ v : Int32, (¬ (0 < D 15 3 ∧ rds D) → v = -2) → (0 < D 15 3 ∧ rds D → v = nI (lsN D (D 16 1))) → wp_m_least S' (fun v' T => v = v' ∧ R9 L I S T) := by
    intro v v1 v0
    unfold wp_m_least
    dsimp only
    rw [m_isDance_eq hM2.lines hW, m_areRounds_eq hM2 hW, if_q, if_q']
    refine ⟨fun c => ⟨v1 (fun q => c q.1), k⟩, fun c => ⟨fun c1 => ?_, fun c1 => ⟨v1 (fun q => c1 q.2), k⟩⟩⟩
    have loop : ∀ m a, a + m = D 16 1 → 0 < a → wp_m_least_b26 (fun v' T => v = v' ∧ R9 L I S T) (m + 1) (sI S' 0 0 0) (nI (lsN D a)) (nI a) := by
      intro m
      induction m with
      | zero =>
        intro a ha h0
        obtain rfl : a = D 16 1 := by omega
        rw [wp_m_least_b26]
        dsimp only
        rw [l1]
        exact ⟨fun _ => ⟨v0 ⟨c, c1⟩, k⟩, fun z => absurd (nI_le (Nat.le_refl _) (by omega)) z⟩
      | succ m ih =>
        intro a ha h0
        have hlt := lsN_lt D a h0
        rw [wp_m_least_b26]
        dsimp only
        rw [l1]
        refine ⟨fun z => absurd z (nI_ge (by omega) (by omega)), fun _ => m_shiftedOf hM2 hW c1 (by omega) (m_shiftedOf hM2 hW c1 (by omega) ?_)⟩
        have s1 := shN_le hW a
        have s2 := shN_le hW (lsN D a)
        rw [nI_leI (by omega) (by omega), nI_1 a]
        have := ih (a + 1) (by omega) (by omega)
        rw [lsN, if_neg (by omega)] at this
        exact ⟨fun z => by rwa [if_neg (by omega)] at this, fun z => by rwa [if_pos (by omega)] at this⟩
    exact ⟨_, loop (D 16 1 - 1) 1 (by have := c1.2; omega) (by decide)⟩
  unfold wp_o_least
  rw [o_areRounds_eq hX hW, if_q']
  refine ⟨fun c => ?_, fun c => mm _ (fun _ => rfl) (fun q => absurd q c)⟩
  have loop : ∀ m a, a + m = D 16 1 → 0 < a → wp_o_least_b14 S (fun v => wp_m_least S' (fun v' T => v = v' ∧ R9 L I S T)) (m + 1) (nI (lsN D a)) (nI a) := by
    intro m
    induction m with
    | zero =>
      intro a ha h0
      obtain rfl : a = D 16 1 := by omega
      rw [wp_o_least_b14]
      dsimp only
      rw [hX.len (s := 1) (by decide)]
      exact ⟨fun _ => mm _ (fun q => absurd c q) (fun _ => rfl), fun z => absurd (nI_le (Nat.le_refl _) (by omega)) z⟩
    | succ m ih =>
      intro a ha h0
      have hlt := lsN_lt D a h0
      rw [wp_o_least_b14]
      dsimp only
      rw [hX.len (s := 1) (by decide)]
      refine ⟨fun z => absurd z (nI_ge (by omega) (by omega)), fun _ => x_shiftedBy hX hW c.2 (by omega) (x_shiftedBy hX hW c.2 (by omega) ?_)⟩
      have s1 := shN_le hW a
      have s2 := shN_le hW (lsN D a)
      rw [nI_leI (by omega) (by omega), nI_1 a]
      have := ih (a + 1) (by omega) (by omega)
      rw [lsN, if_neg (by omega)] at this
      exact ⟨fun z => by rwa [if_neg (by omega)] at this, fun z => by rwa [if_pos (by omega)] at this⟩
  exact ⟨_, loop (D 16 1 - 1) 1 (by have := c.2.2; omega) (by decide)⟩
end
