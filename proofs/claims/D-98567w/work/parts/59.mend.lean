/-! THE PLAIN LAW: mend, mended, stuck -/
set_option maxRecDepth 100000
/-- beat b forbids step t at place i of side s -/
def mbX (D : Dn) (s i t b : Nat) : Bool := (decide (plc D s b = i) && cla D t (stR D (1 - s) (b - D 15 0))) || (decide (plc D s (b - D 15 0) = i) && cla D (stR D (1 - s) b) t)
/-- the first n beats allow step t -/
def okS (D : Dn) (s i t : Nat) : Nat → Bool
  | 0 => true
  | n + 1 => okS D s i t n && !mbX D s i t (D 15 0 + n)
theorem okS_mono {D : Dn} {s i t : Nat} {n : Nat} : ∀ m, okS D s i t (n + m) = true → okS D s i t n = true
  | 0, h => h
  | m + 1, h => by
    rw [← Nat.add_assoc, okS] at h
    exact okS_mono m (by revert h; cases okS D s i t (n + m) <;> simp)
def mayB (D : Dn) (s i t : Nat) : Bool := okS D s i t (perN D)
def mendV (D : Dn) (s i : Nat) : Int32 := if mayB D s i (D 18 (12 * s + i)) = true then nI (D 18 (12 * s + i)) else fst? (fun t => mayB D s i t) 6 0
def stkV (D : Dn) (s : Nat) : Int32 := fst? (fun i => decide (mendV D s i = -1)) (D 16 s) 0
theorem one_sub {s : Nat} (hs : s < 2) : (1 : Int32) - nI s = nI (1 - s) := by
  rw [show (1 : Int32) = nI 1 from rfl, pk_sub (by omega)]
theorem and0 (a : Int32) : nI 0 = 0 := rfl
section
variable {L : Lx} {I : Ix} {S S' : St}
theorem x_mayBe {D : Dn} (hX : RX D S) (hW : WF D) (h : rds D) {s i t : Nat} (hs : s < 2) (hi : i < D 16 s) (ht : t < 6) {Q : Int32 → Prop} (hq : Q (b2i (mayB D s i t = true))) : wp_o_mayBe S (nI s) (nI i) (nI t) Q := by
  have hN := perN_le hW
  have hg := hW.1.1
  have w := hW.2.1 s hs
  have eg := hX.g (k := 0) (by decide)
  have bad : ∀ n, n < perN D → okS D s i t (n + 1) = false → Q 0 := by
    intro n hn ho
    have : ¬ mayB D s i t = true := fun c => by
      have := okS_mono (n := n + 1) (perN D - (n + 1)) (show okS D s i t (n + 1 + (perN D - (n + 1))) = true by rw [Nat.add_sub_cancel' hn]; exact c)
      rw [ho] at this; exact absurd this (by decide)
    rwa [b2i_f this] at hq
  have key : ∀ m n, n + m = perN D → okS D s i t n = true → wp_o_mayBe_b14 S Q (nI s) (nI i) (nI t) (m + 1) (nI (1 - s)) (nI (D 15 0 + n)) := by
    intro m
    induction m with
    | zero =>
      intro n hn ho
      rw [wp_o_mayBe_b14]
      refine x_periodOf hX hW h.1 ?_
      rw [eg, nI_add]
      refine ⟨fun _ => ?_, fun c => absurd (nI_le (by omega) (by omega)) c⟩
      obtain rfl : n = perN D := by omega
      rwa [b2i_t (show mayB D s i t = true from ho)] at hq
    | succ m ih =>
      intro n hn ho
      have p0 := plc_lt h hs (D 15 0 + n)
      have p1 := plc_lt h hs n
      have s0 := stR_lt hW h (s := 1 - s) (by omega) n
      have s1 := stR_lt hW h (s := 1 - s) (by omega) (D 15 0 + n)
      have go : okS D s i t (n + 1) = true → wp_o_mayBe_b14 S Q (nI s) (nI i) (nI t) (m + 1) (nI (1 - s)) (nI (D 15 0 + n + 1)) := fun c => ih (n + 1) (by omega) c
      have e77 : ∀ c1 : ¬ (plc D s (D 15 0 + n) = i ∧ cla D t (stR D (1 - s) n) = true), wp_o_mayBe_b77 S Q (nI s) (nI i) (nI t) (fun y4 y5 => wp_o_mayBe_b14 S Q (nI s) (nI i) (nI t) (m + 1) y4 y5) (nI (1 - s)) (nI (D 15 0 + n)) := by
        intro c1
        have c1' : (decide (plc D s (D 15 0 + n) = i) && cla D t (stR D (1 - s) n)) = false := by
          by_cases q : plc D s (D 15 0 + n) = i
          · have : cla D t (stR D (1 - s) n) = false := Bool.eq_false_iff.mpr fun z => c1 ⟨q, z⟩
            simp [this]
          · simp [q]
        unfold wp_o_mayBe_b77
        rw [eg, pk_sub (Nat.le_add_right _ _), Nat.add_sub_cancel_left, x_placeBy hX hW h hs (by omega), nI_eq (by omega) (by omega), x_placeBy hX hW h (by omega) (by omega), x_dstep hX hW h (by omega), x_clashes hX hW s1 ht, if_q, nI_1]
        refine ⟨fun c2 => go ?_, fun c2 => ⟨fun c3 => go ?_, fun c3 => bad n (by omega) ?_⟩⟩
        · rw [okS, ho]; unfold mbX; rw [Nat.add_sub_cancel_left]; rw [c1']; simp [c2]
        · rw [okS, ho]; unfold mbX; rw [Nat.add_sub_cancel_left]; rw [c1']; simp [c3]
        · rw [okS, ho]; unfold mbX; rw [Nat.add_sub_cancel_left, c1']; simp [c2, c3]
      rw [wp_o_mayBe_b14]
      refine x_periodOf hX hW h.1 ?_
      rw [eg, nI_add, x_placeBy hX hW h hs (by omega), nI_eq (by omega) (by omega), pk_sub (Nat.le_add_right _ _), Nat.add_sub_cancel_left, x_placeBy hX hW h (by omega) (by omega), x_dstep hX hW h (by omega), x_clashes hX hW ht s0, if_q]
      refine ⟨fun c => absurd c (nI_ge (by omega) (by omega)), fun _ => ⟨fun c1 => e77 (fun c => c1 c.1), fun c1 => ⟨fun c2 => e77 (fun c => c2 c.2), fun c2 => bad n (by omega) ?_⟩⟩⟩
      rw [okS, ho]; unfold mbX; rw [Nat.add_sub_cancel_left]; simp [c1, c2]
  unfold wp_o_mayBe
  rw [one_sub hs, eg]
  exact ⟨_, key (perN D) 0 (by omega) rfl⟩
theorem x_mendedAt {D : Dn} (hX : RX D S) (hW : WF D) (h : rds D) {s i : Nat} (hs : s < 2) (hi : i < D 16 s) {Q : Int32 → Prop} (hq : Q (mendV D s i)) : wp_o_mendedAt S (nI s) (nI i) Q := by
  have w := (hW.2.1 s hs).2.2.2 i hi
  unfold wp_o_mendedAt
  rw [x_dstepI hX hW hs hi]
  refine x_mayBe hX hW h hs hi w ?_
  rw [if_q, x_dstepI hX hW hs hi]
  unfold mendV at hq
  refine ⟨fun c => ?_, fun c => by rwa [if_pos c] at hq⟩
  rw [if_neg c] at hq
  have key : ∀ m t, t + m = 6 → Q (fst? (fun t => mayB D s i t) m t) → wp_o_mendedAt_b30 S Q (nI s) (nI i) (m + 1) (nI t) := by
    intro m
    induction m with
    | zero =>
      intro t ht hq
      rw [wp_o_mendedAt_b30, p_lit 6]
      exact ⟨fun _ => hq, fun c => absurd (nI_le (by omega) (by omega)) c⟩
    | succ m ih =>
      intro t ht hq
      rw [wp_o_mendedAt_b30, p_lit 6]
      refine ⟨fun c => absurd c (nI_ge (by omega) (by omega)), fun _ => x_mayBe hX hW h hs hi (by omega) ?_⟩
      rw [if_q, nI_1]
      unfold fst? at hq
      exact ⟨fun c => ih (t + 1) (by omega) (by rwa [if_neg c] at hq), fun c => by rwa [if_pos c] at hq⟩
  exact ⟨_, key 6 0 rfl hq⟩
theorem fst?_or {p : Nat → Bool} : ∀ m a, fst? p m a = -1 ∨ ∃ j, a ≤ j ∧ j < a + m ∧ p j = true ∧ fst? p m a = nI j
  | 0, a => Or.inl rfl
  | m + 1, a => by
    unfold fst?
    by_cases c : p a = true
    · rw [if_pos c]; exact Or.inr ⟨a, by omega, by omega, c, rfl⟩
    · rw [if_neg c]
      rcases fst?_or (p := p) m (a + 1) with z | ⟨j, h1, h2, h3, h4⟩
      · exact Or.inl z
      · exact Or.inr ⟨j, by omega, by omega, h3, h4⟩
theorem mendV_or {D : Dn} (hW : WF D) {s i : Nat} (hs : s < 2) (hi : i < D 16 s) : mendV D s i = -1 ∨ ∃ t, t < 6 ∧ mendV D s i = nI t := by
  have w := (hW.2.1 s hs).2.2.2 i hi
  unfold mendV
  split
  · exact Or.inr ⟨_, w, rfl⟩
  · rcases fst?_or (p := fun t => mayB D s i t) 6 0 with z | ⟨j, h1, h2, h3, h4⟩
    · exact Or.inl z
    · exact Or.inr ⟨j, by omega, h4⟩
theorem x_stuckAt {D : Dn} (hX : RX D S) (hW : WF D) (h : rds D) {s : Nat} (hs : s < 2) {Q : Int32 → Prop} (hq : Q (stkV D s)) : wp_o_stuckAt S (nI s) Q := by
  have w := (hW.2.1 s hs).1
  have key : ∀ m a, a + m = D 16 s → Q (fst? (fun i => decide (mendV D s i = -1)) m a) → wp_o_stuckAt_b2 S Q (nI s) (m + 1) (nI a) := by
    intro m
    induction m with
    | zero =>
      intro a ha hq
      rw [wp_o_stuckAt_b2, nI_clamp (show s < 2 ^ 31 by omega), hX.len hs]
      exact ⟨(in_nI (by omega) (by omega)).mpr hs, fun _ => hq, fun c => absurd (nI_le (by omega) (by omega)) c⟩
    | succ m ih =>
      intro a ha hq
      rw [wp_o_stuckAt_b2, nI_clamp (show s < 2 ^ 31 by omega), hX.len hs]
      refine ⟨(in_nI (by omega) (by omega)).mpr hs, fun c => absurd c (nI_ge (by omega) (by omega)), fun _ => x_mendedAt hX hW h hs (by omega) ?_⟩
      rw [nI_1]
      unfold fst? at hq
      exact ⟨fun c => ih (a + 1) (by omega) (by rwa [if_neg (by simpa using c)] at hq), fun c => by rwa [if_pos (by simpa using c)] at hq⟩
  unfold wp_o_stuckAt
  exact ⟨_, key (D 16 s) 0 (by omega) hq⟩
-- ---- the reference's side: the steps that are left, as bits
def clB (a t : Nat) : Nat := a &&& (63 ^^^ 2 ^ t)
theorem clB_e : ∀ a, a < 64 → ∀ t, t < 6 → (nI a &&& ((1 <<< (nI t &&& 31)) ^^^ (-1))) = nI (clB a t) := by decide +kernel
theorem clB_lt {a : Nat} (h : a < 64) (t : Nat) : clB a t < 64 := Nat.lt_of_le_of_lt Nat.and_le_left h
theorem clB_b : ∀ t, t < 6 → ∀ u, u < 6 → (63 ^^^ 2 ^ t).testBit u = !decide (u = t) := by decide +kernel
theorem clB_bit {t u : Nat} (a : Nat) (ht : t < 6) (hu : u < 6) : (clB a t).testBit u = (a.testBit u && !decide (u = t)) := by
  unfold clB; rw [Nat.testBit_and, clB_b t ht u hu]
theorem bits0 {a : Nat} (ha : a < 64) (h : ∀ t, t < 6 → a.testBit t = false) : a = 0 := by
  apply Nat.eq_of_testBit_eq
  intro i
  rw [Nat.zero_testBit]
  rcases Nat.lt_or_ge i 6 with c | c
  · exact h i c
  · exact Nat.testBit_lt_two_pow (Nat.lt_of_lt_of_le ha (Nat.pow_le_pow_right (n := 2) (by decide) c))
theorem m_mayBe {D : Dn} (hM : RM D 0 S) (hW : WF D) (h : rds D) {s i : Nat} (hs : s < 2) (hi : i < D 16 s) {Q : Int32 → Prop} (hq : ∀ a, a < 64 → (∀ t, t < 6 → a.testBit t = mayB D s i t) → Q (nI a)) : wp_m_mayBe S (nI s) (nI i) Q := by
  have hN := perN_le hW
  have hg := hW.1.1
  have w := hW.2.1 s hs
  have h0 := h.s hs
  have eg : S.1 7 0 = nI (D 15 0) := hM.h (j := 0) (by decide)
  have e5 : (5 : Int32) + nI s = nI (5 + s) := by rw [p_lit 5, nI_add]
  have i5 : vp_in (nI (5 + s)) 55 := (in_nI (by omega) (by omega)).mpr (by omega)
  have pl : ∀ b, b < 100000 → ∀ Q, wp_m_plain S (nI (1 - s)) (nI b) 0 Q = Q (nI (stR D (1 - s) b)) := fun b hb Q => m_plain_eq hM hW h (s := 1 - s) (b := b) (c := 0) (by omega) hb (by omega) Q
  have key : ∀ m n a, n + m = perN D → a < 64 → (∀ t, t < 6 → a.testBit t = okS D s i t n) → wp_m_mayBe_b15 S Q (nI s) (nI i) (m + 1) (nI a) (nI (D 15 0)) (nI (D 15 0 + n)) := by
    intro m
    induction m with
    | zero =>
      intro n a hn ha hb
      rw [wp_m_mayBe_b15]
      refine m_periodOf hM hW h.1 ?_
      rw [nI_add]
      refine ⟨fun _ => ?_, fun c => absurd (nI_le (by omega) (by omega)) c⟩
      obtain rfl : n = perN D := by omega
      exact hq a ha hb
    | succ m ih =>
      intro n a hn ha hb
      have p0 := plc_lt h hs (D 15 0 + n)
      have p1 := plc_lt h hs n
      have s0 := stR_lt hW h (s := 1 - s) (by omega) n
      have s1 := stR_lt hW h (s := 1 - s) (by omega) (D 15 0 + n)
      -- over the steps
      have inner : ∀ (x6 x7 : Int32), (x6 = 0 ↔ ¬ plc D s (D 15 0 + n) = i) → (x7 = 0 ↔ ¬ plc D s n = i) → ∀ j t a, t + j = 6 → a < 64 → (∀ u, u < 6 → a.testBit u = okS D s i u (if u < t then n + 1 else n)) → wp_m_mayBe_b89 S Q (nI s) (nI i) (fun y3 y4 y5 => wp_m_mayBe_b15 S Q (nI s) (nI i) (m + 1) y3 y4 y5) (j + 1) (nI a) (nI (D 15 0)) (nI (D 15 0 + n)) x6 x7 (nI t) := by
        intro x6 x7 h6 h7 j
        induction j with
        | zero =>
          intro t a ht ha hb
          rw [wp_m_mayBe_b89, p_lit 6]
          dsimp only
          rw [nI_1]
          refine ⟨fun _ => ih (n + 1) a (by omega) ha (fun u hu => ?_), fun c => absurd (nI_le (by omega) (by omega)) c⟩
          have := hb u hu
          rwa [if_pos (by omega)] at this
        | succ j ihj =>
          intro t a ht ha hb
          have ht6 : t < 6 := by omega
          have step : ∀ a', a' < 64 → (∀ u, u < 6 → ¬ u = t → a'.testBit u = a.testBit u) → a'.testBit t = okS D s i t (n + 1) → wp_m_mayBe_b89 S Q (nI s) (nI i) (fun y3 y4 y5 => wp_m_mayBe_b15 S Q (nI s) (nI i) (m + 1) y3 y4 y5) (j + 1) (nI a') (nI (D 15 0)) (nI (D 15 0 + n)) x6 x7 (nI t + 1) := by
            intro a' ha' hne het
            rw [nI_1]
            refine ihj (t + 1) a' (by omega) ha' (fun u hu => ?_)
            by_cases e : u = t
            · subst e; rw [if_pos (by omega)]; exact het
            · rw [hne u hu e, hb u hu]
              by_cases l : u < t
              · rw [if_pos l, if_pos (by omega)]
              · rw [if_neg l, if_neg (by omega)]
          have hbt : a.testBit t = okS D s i t n := by
            have := hb t ht6
            rwa [if_neg (by omega)] at this
          have e136 : ∀ a', a' < 64 → (∀ u, u < 6 → ¬ u = t → a'.testBit u = a.testBit u) → a'.testBit t = (okS D s i t n && !(decide (plc D s (D 15 0 + n) = i) && cla D t (stR D (1 - s) n))) → wp_m_mayBe_b136 S Q (nI s) (nI i) (fun y3 y4 y5 => wp_m_mayBe_b15 S Q (nI s) (nI i) (m + 1) y3 y4 y5) (fun y3 y4 y5 y6 y7 y8 => wp_m_mayBe_b89 S Q (nI s) (nI i) (fun y3 y4 y5 => wp_m_mayBe_b15 S Q (nI s) (nI i) (m + 1) y3 y4 y5) (j + 1) y3 y4 y5 y6 y7 y8) (nI a') (nI (D 15 0)) (nI (D 15 0 + n)) x6 x7 (nI t) := by
            intro a' ha' hne het
            unfold wp_m_mayBe_b136
            rw [h7, one_sub hs, pl _ (by omega), nI_clamp (Nat.lt_trans s1 (by decide)), hM.ans s1, m_isBit_eq (hW.2.2.1 _ s1) ht6, if_q', clB_e a' ha' t ht6]
            refine ⟨fun c => step a' ha' hne ?_, fun c => ⟨(in_nI (Nat.lt_trans s1 (by decide)) (by decide)).mpr (Nat.lt_trans s1 (by decide)), fun c2 => step a' ha' hne ?_, fun c2 => step (clB a' t) (clB_lt ha' t) (fun u hu e => by rw [clB_bit _ ht6 hu, hne u hu e]; simp [e]) ?_⟩⟩
            · rw [het, okS]; unfold mbX; rw [Nat.add_sub_cancel_left]; simp [c]
            · rw [het, okS]; unfold mbX; rw [Nat.add_sub_cancel_left]
              have : cla D (stR D (1 - s) (D 15 0 + n)) t = false := by unfold cla; rw [c2]; rfl
              simp [this]
            · rw [clB_bit _ ht6 ht6, okS]; unfold mbX; rw [Nat.add_sub_cancel_left]
              have : cla D (stR D (1 - s) (D 15 0 + n)) t = true := by unfold cla; simp [c2]
              have c' : plc D s n = i := Classical.not_not.mp c
              simp [this, c']
          rw [wp_m_mayBe_b89, p_lit 6]
          refine ⟨fun c => absurd c (nI_ge (by omega) (by omega)), fun _ => ?_⟩
          rw [h6, one_sub hs, pk_sub (Nat.le_add_right _ _), Nat.add_sub_cancel_left, pl _ (by omega), nI_clamp (show t < 2 ^ 31 by omega), hM.ans ht6, m_isBit_eq (hW.2.2.1 _ ht6) s0, if_q', clB_e a ha t ht6]
          refine ⟨fun c => e136 a ha (fun _ _ _ => rfl) (by rw [hbt]; simp [c]), fun c => ⟨(in_nI (by omega) (by decide)).mpr (by omega), fun c2 => e136 a ha (fun _ _ _ => rfl) ?_, fun c2 => e136 (clB a t) (clB_lt ha t) (fun u hu e => by rw [clB_bit _ ht6 hu]; simp [e]) ?_⟩⟩
          · have : cla D t (stR D (1 - s) n) = false := by unfold cla; rw [c2]; rfl
            rw [hbt]; simp [this]
          · have : cla D t (stR D (1 - s) n) = true := by unfold cla; simp [c2]
            have c' : plc D s (D 15 0 + n) = i := Classical.not_not.mp c
            rw [clB_bit _ ht6 ht6]; simp [this, c']
      have e53 : ∀ x6 : Int32, (x6 = 0 ↔ ¬ plc D s (D 15 0 + n) = i) → wp_m_mayBe_b53 S Q (nI s) (nI i) (fun y3 y4 y5 => wp_m_mayBe_b15 S Q (nI s) (nI i) (m + 1) y3 y4 y5) (nI a) (nI (D 15 0)) (nI (D 15 0 + n)) x6 := by
        intro x6 h6
        unfold wp_m_mayBe_b53
        rw [e5, nI_clamp (show 5 + s < 2 ^ 31 by omega), hM.beg hs, m_lengthOf_eq hM hs, nI_add, pk_sub (by omega), rem_nI (by omega) h0 (by omega), show (D 17 s + (D 15 0 + n) - D 15 0) % D 16 s = plc D s n by unfold plc; congr 1; omega, nI_eq (by omega) (by omega)]
        have hb' : ∀ u, u < 6 → a.testBit u = okS D s i u (if u < 0 then n + 1 else n) := fun u hu => by rw [if_neg (Nat.not_lt_zero u)]; exact hb u hu
        exact ⟨i5, nI_ne0 h0 (by omega), fun c => ⟨_, inner x6 0 h6 (iff_of_true rfl c) 6 0 a rfl ha hb'⟩, fun c => ⟨_, inner x6 1 h6 (iff_of_false (by decide) (fun z => z c)) 6 0 a rfl ha hb'⟩⟩
      rw [wp_m_mayBe_b15]
      refine m_periodOf hM hW h.1 ?_
      rw [nI_add, e5, nI_clamp (show 5 + s < 2 ^ 31 by omega), hM.beg hs, m_lengthOf_eq hM hs, nI_add, rem_nI (by omega) h0 (by omega), show (D 17 s + (D 15 0 + n)) % D 16 s = plc D s (D 15 0 + n) from rfl, nI_eq (by omega) (by omega)]
      exact ⟨fun c => absurd c (nI_ge (by omega) (by omega)), fun _ => ⟨i5, nI_ne0 h0 (by omega), fun c => e53 0 (iff_of_true rfl c), fun c => e53 1 (iff_of_false (by decide) (fun z => z c))⟩⟩
  unfold wp_m_mayBe
  rw [eg]
  refine ⟨_, key (perN D) 0 63 (by omega) (by decide) (fun t ht => ?_)⟩
  rw [okS]
  revert ht; revert t; decide
theorem m_mendedOf {D : Dn} (hM : RM D 0 S) (hW : WF D) (h : rds D) {s i : Nat} (hs : s < 2) (hi : i < D 16 s) {Q : Int32 → Prop} (hq : Q (mendV D s i)) : wp_m_mendedOf S (nI s) (nI i) Q := by
  have w := hW.2.1 s hs
  have w6 := w.2.2.2 i hi
  unfold wp_m_mendedOf
  refine m_mayBe hM hW h hs hi (fun a ha hb => ?_)
  rw [e12, nI_clamp (show 12 * s + i < 2 ^ 31 by omega), hM.rnd hs hi, in_nI (by omega) (by omega), eq0 (by omega), m_isBit_eq ha w6, if_q, hb _ w6]
  unfold mendV at hq
  refine ⟨by omega, fun c => ⟨fun z => absurd c z, fun _ => ?_⟩, fun c => ⟨fun c2 => ?_, fun c2 => ⟨fun _ => by rwa [if_pos c2] at hq, fun z => absurd z c⟩⟩⟩
  · subst c
    have : ∀ t, t < 6 → mayB D s i t = false := fun t ht => by rw [← hb t ht]; exact Nat.zero_testBit t
    rw [this _ w6] at hq
    simpa [fst?, this] using hq
  · rw [if_neg c2] at hq
    have key : ∀ m t, t + m = 6 → (∀ u, u < t → mayB D s i u = false) → Q (fst? (fun t => mayB D s i t) m t) → wp_m_mendedOf_b47 S Q (m + 1) (nI a) (nI t) := by
      intro m
      induction m with
      | zero =>
        intro t ht hu hq
        exact absurd (bits0 ha fun t ht => (hb t ht).trans (hu t (by omega))) c
      | succ m ih =>
        intro t ht hu hq
        rw [wp_m_mendedOf_b47]
        dsimp only
        rw [m_isBit_eq ha (by omega), if_q', hb t (by omega), nI_1]
        unfold fst? at hq
        exact ⟨fun z => by rwa [if_pos z] at hq, fun z => ih (t + 1) (by omega) (fun u h9 => by
          rcases (show u < t ∨ u = t by omega) with q | q
          · exact hu u q
          · rw [q]; exact Bool.eq_false_iff.mpr z) (by rwa [if_neg z] at hq)⟩
    exact ⟨_, key 6 0 rfl (fun u hu => absurd hu (Nat.not_lt_zero u)) hq⟩
theorem m_stuckOf {D : Dn} (hM : RM D 0 S) (hW : WF D) (h : rds D) {s : Nat} (hs : s < 2) {Q : Int32 → Prop} (hq : Q (stkV D s)) : wp_m_stuckOf S (nI s) Q := by
  have w := (hW.2.1 s hs).1
  have key : ∀ m a, a + m = D 16 s → Q (fst? (fun i => decide (mendV D s i = -1)) m a) → wp_m_stuckOf_b2 S Q (nI s) (m + 1) (nI a) := by
    intro m
    induction m with
    | zero =>
      intro a ha hq
      rw [wp_m_stuckOf_b2]
      dsimp only
      rw [m_lengthOf_eq hM hs]
      exact ⟨fun _ => hq, fun c => absurd (nI_le (by omega) (by omega)) c⟩
    | succ m ih =>
      intro a ha hq
      rw [wp_m_stuckOf_b2]
      dsimp only
      rw [m_lengthOf_eq hM hs]
      refine ⟨fun c => absurd c (nI_ge (by omega) (by omega)), fun _ => m_mendedOf hM hW h hs (by omega) ?_⟩
      rw [nI_1]
      unfold fst? at hq
      exact ⟨fun c => ih (a + 1) (by omega) (by rwa [if_neg (by simpa using c)] at hq), fun c => by rwa [if_pos (by simpa using c)] at hq⟩
  unfold wp_m_stuckOf
  exact ⟨_, key (D 16 s) 0 (by omega) hq⟩
theorem pl_stuck (h : R9 L I S S') (x : Int32) : wp_o_stuck S x (fun v => wp_m_stuck S' x (fun v' T => v = v' ∧ R9 L I S T)) := by
  obtain ⟨D, hW, hX, hM, -⟩ := id h
  have hM2 := (kn0 S' 0).rm hM
  have k := h.keep (KX.rf S) (kn0 S' 0)
  have mm : ∀ v : Int32, (¬ ((0 < D 15 3 ∧ isI x 2) ∧ rds D) → v = -2) → (∀ s, s < 2 → 0 < D 15 3 → rds D → x = nI s → v = stkV D s) → wp_m_stuck S' x (fun v' T => v = v' ∧ R9 L I S T) := by
    intro v v1 v0
    unfold wp_m_stuck
    dsimp only
    rw [m_isSide_eq hM2.lines hW, m_areRounds_eq hM2 hW, if_q, if_q]
    refine ⟨fun c => ⟨v1 (fun q => c q.1), k⟩, fun c => ⟨fun c1 => ⟨v1 (fun q => c1 q.2), k⟩, fun c1 => ?_⟩⟩
    obtain ⟨s, hs, rfl⟩ := isI_ex c.2 (by decide)
    exact m_stuckOf hM2 hW c1 hs ⟨v0 s hs c.1 c1 rfl, k⟩
  have bad : ¬ ((0 < D 15 3 ∧ isI x 2) ∧ rds D) → wp_m_stuck S' x (fun v' T => -2 = v' ∧ R9 L I S T) := fun c => mm _ (fun _ => rfl) (fun s hs h1 h2 e => absurd ⟨⟨h1, by rw [e]; exact isI_of hs (by omega)⟩, h2⟩ c)
  unfold wp_o_stuck
  rw [o_isSide_eq hX hW, o_areRounds_eq hX hW, if_q, if_q]
  refine ⟨fun c => bad (fun q => c q.1), fun c => ⟨fun c1 => bad (fun q => c1 ⟨q.1.1, q.2⟩), fun c1 => ?_⟩⟩
  obtain ⟨s, hs, rfl⟩ := isI_ex c.2 (by decide)
  refine x_stuckAt hX hW c1.2 hs (mm _ (fun q => absurd ⟨c, c1.2⟩ q) (fun s' hs' _ _ e => ?_))
  rw [(nI_eq (by omega) (by omega)).mp e]
/-- how many places of a round the mending changes -/
def mdN (D : Dn) (s : Nat) : Nat → Nat
  | 0 => 0
  | n + 1 => mdN D s n + (if mendV D s n = nI (D 18 (12 * s + n)) then 0 else 1)
theorem pl_mend (h : R9 L I S S') (x : Int32) : wp_o_mend S x (fun v => wp_m_mend S' x (fun v' T => v = v' ∧ R9 L I S T)) := by
  obtain ⟨D, hW, hX, hM, -⟩ := id h
  have hM2 := (kn0 S' 0).rm hM
  have k := h.keep (KX.rf S) (kn0 S' 0)
  have mm : ∀ v : Int32, (¬ ((0 < D 15 3 ∧ isI x 2) ∧ rds D) → v = -2) → (∀ s, s < 2 → 0 < D 15 3 → rds D → x = nI s → v = if stkV D s = -1 then nI (mdN D s (D 16 s)) else -1) → wp_m_mend S' x (fun v' T => v = v' ∧ R9 L I S T) := by
    intro v v1 v0
    unfold wp_m_mend
    dsimp only
    rw [m_isSide_eq hM2.lines hW, m_areRounds_eq hM2 hW, if_q, if_q']
    refine ⟨fun c => ⟨v1 (fun q => c q.1), k⟩, fun c => ⟨fun c1 => ?_, fun c1 => ⟨v1 (fun q => c1 q.2), k⟩⟩⟩
    obtain ⟨s, hs, rfl⟩ := isI_ex c.2 (by decide)
    have v9 := v0 s hs c.1 c1 rfl
    have w := hW.2.1 s hs
    refine m_stuckOf hM2 hW c1 hs ⟨fun c2 => ?_, fun c2 => ⟨by rw [v9, if_neg c2], k⟩⟩
    rw [if_pos c2] at v9
    have key : ∀ m a, a + m = D 16 s → wp_m_mend_b38 (fun v' T => v = v' ∧ R9 L I S T) (nI s) (m + 1) (sI S' 0 0 0) (nI (mdN D s a)) (nI a) := by
      intro m
      induction m with
      | zero =>
        intro a ha
        rw [wp_m_mend_b38]
        dsimp only
        rw [m_lengthOf_eq hM2 hs]
        obtain rfl : a = D 16 s := by omega
        exact ⟨fun _ => ⟨v9, k⟩, fun z => absurd (nI_le (Nat.le_refl _) (by omega)) z⟩
      | succ m ih =>
        intro a ha
        rw [wp_m_mend_b38]
        dsimp only
        rw [m_lengthOf_eq hM2 hs, e12, nI_clamp (show 12 * s + a < 2 ^ 31 by omega), hM2.rnd hs (show a < D 16 s by omega), in_nI (by omega) (by omega), nI_1 a, nI_1 (mdN D s a), show nI (mdN D s a) + 0 = nI (mdN D s a) from Int32.add_zero _]
        refine ⟨fun z => absurd z (nI_ge (by omega) (by omega)), fun _ => m_mendedOf hM2 hW c1 hs (by omega) ⟨by omega, fun z => ?_, fun z => ?_⟩⟩
        · have := ih (a + 1) (by omega)
          rwa [mdN, if_pos z] at this
        · have := ih (a + 1) (by omega)
          rwa [mdN, if_neg z] at this
    exact ⟨_, key (D 16 s) 0 (by omega)⟩
  have bad : ¬ ((0 < D 15 3 ∧ isI x 2) ∧ rds D) → wp_m_mend S' x (fun v' T => -2 = v' ∧ R9 L I S T) := fun c => mm _ (fun _ => rfl) (fun s hs h1 h2 e => absurd ⟨⟨h1, by rw [e]; exact isI_of hs (by omega)⟩, h2⟩ c)
  unfold wp_o_mend
  rw [o_isSide_eq hX hW, o_areRounds_eq hX hW, if_q, if_q']
  refine ⟨fun c => bad (fun q => c q.1), fun c => ⟨fun c1 => ?_, fun c1 => bad (fun q => c1 ⟨q.1.1, q.2⟩)⟩⟩
  obtain ⟨s, hs, rfl⟩ := isI_ex c.2 (by decide)
  have w := hW.2.1 s hs
  have fin : ∀ v : Int32, v = (if stkV D s = -1 then nI (mdN D s (D 16 s)) else -1) → wp_m_mend S' (nI s) (fun v' T => v = v' ∧ R9 L I S T) := fun v hv => mm _ (fun q => absurd ⟨c, c1.2⟩ q) (fun s' hs' _ _ e => by rw [hv, (nI_eq (by omega) (by omega)).mp e])
  refine x_stuckAt hX hW c1.2 hs ⟨fun c2 => ?_, fun c2 => fin _ (by rw [if_neg c2])⟩
  have key : ∀ m a, a + m = D 16 s → wp_o_mend_b33 S (fun v => wp_m_mend S' (nI s) (fun v' T => v = v' ∧ R9 L I S T)) (nI s) (m + 1) (nI (mdN D s a)) (nI a) := by
    intro m
    induction m with
    | zero =>
      intro a ha
      rw [wp_o_mend_b33, nI_clamp (show s < 2 ^ 31 by omega), hX.len hs]
      obtain rfl : a = D 16 s := by omega
      exact ⟨(in_nI (by omega) (by omega)).mpr hs, fun _ => fin _ (by rw [if_pos c2]), fun z => absurd (nI_le (Nat.le_refl _) (by omega)) z⟩
    | succ m ih =>
      intro a ha
      rw [wp_o_mend_b33, nI_clamp (show s < 2 ^ 31 by omega), hX.len hs]
      refine ⟨(in_nI (by omega) (by omega)).mpr hs, fun z => absurd z (nI_ge (by omega) (by omega)), fun _ => x_mendedAt hX hW c1.2 hs (by omega) ?_⟩
      rw [x_dstepI hX hW hs (show a < D 16 s by omega), nI_1 a, nI_1 (mdN D s a), show nI (mdN D s a) + 0 = nI (mdN D s a) from Int32.add_zero _]
      have := ih (a + 1) (by omega)
      rw [mdN] at this
      exact ⟨fun z => by rwa [if_pos z] at this, fun z => by rwa [if_neg z] at this⟩
  exact ⟨_, key (D 16 s) 0 (by omega)⟩
theorem pl_mended (h : R9 L I S S') (x y : Int32) : wp_o_mended S x y (fun v => wp_m_mended S' x y (fun v' T => v = v' ∧ R9 L I S T)) := by
  obtain ⟨D, hW, hX, hM, -⟩ := id h
  have hM2 := (kn0 S' 0).rm hM
  have k := h.keep (KX.rf S) (kn0 S' 0)
  have mm : ∀ v : Int32, ((∀ s i, s < 2 → i < D 16 s → 0 < D 15 3 → rds D → x = nI s → y = nI i → False) → v = -2) → (∀ s i, s < 2 → i < D 16 s → 0 < D 15 3 → rds D → x = nI s → y = nI i → v = if stkV D s = -1 then mendV D s i else -1) → wp_m_mended S' x y (fun v' T => v = v' ∧ R9 L I S T) := by
    intro v v1 v0
    unfold wp_m_mended
    dsimp only
    rw [m_isSide_eq hM2.lines hW, m_areRounds_eq hM2 hW, if_q, if_q]
    refine ⟨fun c => ⟨v1 (fun s i hs hi h1 h2 e1 e2 => c ⟨h1, by rw [e1]; exact isI_of hs (by omega)⟩), k⟩, fun c => ⟨fun c1 => ⟨v1 (fun s i hs hi h1 h2 e1 e2 => c1 h2), k⟩, fun c1 => ?_⟩⟩
    obtain ⟨s, hs, rfl⟩ := isI_ex c.2 (by decide)
    have w := hW.2.1 s hs
    rw [m_lengthOf_eq hM2 hs, m_in_eq, b2i_congr (in_many rfl (show D 16 s < 2 ^ 30 by omega)), if_q']
    refine ⟨fun c2 => ?_, fun c2 => ⟨v1 (fun s' i hs' hi h1 h2 e1 e2 => c2 (by rw [e2, (nI_eq (by omega) (by omega)).mp e1]; exact isI_of hi (by have := (hW.2.1 s' hs').1; omega))), k⟩⟩
    obtain ⟨i, hi, rfl⟩ := isI_ex c2 (by omega)
    have v9 := v0 s i hs hi c.1 c1 rfl rfl
    exact m_stuckOf hM2 hW c1 hs ⟨fun z => m_mendedOf hM2 hW c1 hs hi ⟨by rw [v9, if_pos z], k⟩, fun z => ⟨by rw [v9, if_neg z], k⟩⟩
  have bad : (∀ s i, s < 2 → i < D 16 s → 0 < D 15 3 → rds D → x = nI s → y = nI i → False) → wp_m_mended S' x y (fun v' T => -2 = v' ∧ R9 L I S T) := fun c => mm _ (fun _ => rfl) (fun s i hs hi h1 h2 e1 e2 => (c s i hs hi h1 h2 e1 e2).elim)
  unfold wp_o_mended
  by_cases cs : isI x 2
  · obtain ⟨s, hs, rfl⟩ := isI_ex cs (by decide)
    have w := hW.2.1 s hs
    rw [o_isPlace_eq hX hW hs, o_areRounds_eq hX hW, if_q, if_q']
    refine ⟨fun c => bad (fun s' i hs' hi h1 h2 e1 e2 => c ⟨h1, by rw [e2, (nI_eq (by omega) (by omega)).mp e1]; exact isI_of hi (by have := (hW.2.1 s' hs').1; omega)⟩), fun c => ⟨fun c1 => ?_, fun c1 => bad (fun s' i hs' hi h1 h2 e1 e2 => c1 ⟨h1, h2⟩)⟩⟩
    obtain ⟨i, hi, rfl⟩ := isI_ex c.2 (by omega)
    have fin : ∀ v : Int32, v = (if stkV D s = -1 then mendV D s i else -1) → wp_m_mended S' (nI s) (nI i) (fun v' T => v = v' ∧ R9 L I S T) := fun v hv => mm _ (fun q => (q s i hs hi c.1 c1.2 rfl rfl).elim) (fun s' i' hs' hi' _ _ e1 e2 => by rw [hv, (nI_eq (by omega) (by omega)).mp e1, (nI_eq (by omega) (by have := (hW.2.1 s' hs').1; omega)).mp e2])
    exact x_stuckAt hX hW c1.2 hs ⟨fun z => x_mendedAt hX hW c1.2 hs hi (fin _ (by rw [if_pos z])), fun z => fin _ (by rw [if_neg z])⟩
  · unfold wp_o_isPlace
    rw [o_isSide_eq hX hW, if_q]
    exact ⟨fun _ => ⟨fun _ => bad (fun s' i hs' hi h1 h2 e1 e2 => cs (by rw [e1]; exact isI_of hs' (by omega))), fun z => absurd rfl z⟩, fun z => absurd z.2 cs⟩
end
