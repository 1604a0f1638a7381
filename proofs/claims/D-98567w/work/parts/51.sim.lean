/-! THE PLAIN LAW: rounds danced beat by beat -/
set_option maxRecDepth 100000
theorem RX.g {D : Dn} {S : St} (h : RX D S) {k : Nat} (hk : k < 8) : S.1 15 k = nI (D 15 k) := h 15 k (by unfold inD; omega)
theorem RX.len {D : Dn} {S : St} (h : RX D S) {s : Nat} (hs : s < 2) : S.1 16 s = nI (D 16 s) := h 16 s (by unfold inD; omega)
theorem RX.beg {D : Dn} {S : St} (h : RX D S) {s : Nat} (hs : s < 2) : S.1 17 s = nI (D 17 s) := h 17 s (by unfold inD; omega)
theorem RX.rnd {D : Dn} {S : St} (h : RX D S) {k : Nat} (hk : k < 24) : S.1 18 k = nI (D 18 k) := h 18 k (by unfold inD; omega)
theorem RX.ans {D : Dn} {S : St} (h : RX D S) {k : Nat} (hk : k < 6) : S.1 19 k = nI (D 19 k) := h 19 k (by unfold inD; omega)
theorem RX.mud {D : Dn} {S : St} (h : RX D S) {k : Nat} (hk : k < 200) : S.1 29 k = nI (D 29 k) := h 29 k (by unfold inD; omega)
theorem RM.h {D : Dn} {S : St} (h : RM D 0 S) {j : Nat} (hj : j < 11) : S.1 7 j = nI (D (hasP j).1 (hasP j).2) := by
  have := h.1.2 j hj
  rwa [Nat.mul_zero, Nat.zero_add] at this
theorem RM.lines {D : Dn} {S : St} (h : RM D 0 S) : S.1 6 0 = nI (D 15 3) := h.1.1
theorem RM.len {D : Dn} {S : St} (h : RM D 0 S) {s : Nat} (hs : s < 2) : S.1 7 (3 + s) = nI (D 16 s) := by
  rcases (show s = 0 ∨ s = 1 by omega) with rfl | rfl
  · exact h.h (j := 3) (by decide)
  · exact h.h (j := 4) (by decide)
theorem RM.beg {D : Dn} {S : St} (h : RM D 0 S) {s : Nat} (hs : s < 2) : S.1 7 (5 + s) = nI (D 17 s) := by
  rcases (show s = 0 ∨ s = 1 by omega) with rfl | rfl
  · exact h.h (j := 5) (by decide)
  · exact h.h (j := 6) (by decide)
theorem RM.rnd {D : Dn} {S : St} (h : RM D 0 S) {s i : Nat} (hs : s < 2) (hi : i < D 16 s) : S.1 8 (12 * s + i) = nI (D 18 (12 * s + i)) := by
  have := h.2.1 s i hs hi
  rwa [Nat.mul_zero, Nat.zero_add] at this
theorem RM.ans {D : Dn} {S : St} (h : RM D 0 S) {t : Nat} (ht : t < 6) : S.1 9 t = nI (D 19 t) := by
  have := h.2.2.1 t ht
  rwa [Nat.mul_zero, Nat.zero_add] at this
theorem RM.mud {D : Dn} {S : St} (h : RM D 0 S) {b : Nat} (hb : b < 200) : S.1 11 b = nI (D 29 b) := by
  have := h.2.2.2.2.1 b hb
  rwa [Nat.mul_zero, Nat.zero_add] at this
theorem RM.st {D : Dn} {S : St} (h : RM D 0 S) {k : Nat} (hk : k < D 15 4) : S.1 10 (4 * k) = nI (D 20 k) ∧ S.1 10 (4 * k + 1) = nI (D 21 k) ∧ S.1 10 (4 * k + 2) = nI (D 22 k) ∧ S.1 10 (4 * k + 3) = nI (D 23 k) := by
  have := h.2.2.2.1 k hk
  rwa [Nat.mul_zero, Nat.zero_add] at this
-- ---- the place ahead of a beat, the step in it
def spP (D : Dn) (s : Nat) (f : Nat → Option (Nat × Nat)) : Nat → Nat
  | 0 => D 17 s
  | b + 1 => if D 29 b = 0 then (spP D s f b + 1 + 10 * D 16 s - (match f b with | none => 0 | some q => q.2)) % D 16 s else spP D s f b
def spV (D : Dn) (s : Nat) (f : Nat → Option (Nat × Nat)) (b : Nat) : Int32 := if D 16 s = 0 then -1 else nI (spP D s f b)
def stN (D : Dn) (s : Nat) (f : Nat → Option (Nat × Nat)) (b : Nat) : Nat := match f b with | none => D 18 (12 * s + spP D s f b) | some q => q.1
def stV (D : Dn) (s : Nat) (f : Nat → Option (Nat × Nat)) (b : Nat) : Int32 := if D 16 s = 0 ∨ ¬ D 29 b = 0 then -1 else nI (stN D s f b)
/-- a way of stumbling that is possible -/
def fOk (f : Nat → Option (Nat × Nat)) : Prop := ∀ b q, b < 200 → f b = some q → q.1 < 6 ∧ q.2 ≤ 9
theorem spP_lt {D : Dn} (hW : WF D) {s : Nat} (hs : s < 2) (h0 : 0 < D 16 s) (f : Nat → Option (Nat × Nat)) : ∀ b, spP D s f b < D 16 s
  | 0 => (hW.2.1 s hs).2.2.1 h0
  | b + 1 => by
    unfold spP
    by_cases h : D 29 b = 0
    · rw [if_pos h]; exact Nat.mod_lt _ h0
    · rw [if_neg h]; exact spP_lt hW hs h0 f b
theorem stN_lt {D : Dn} (hW : WF D) {s : Nat} (hs : s < 2) (h0 : 0 < D 16 s) {f : Nat → Option (Nat × Nat)} (hf : fOk f) {b : Nat} (hb : b < 200) : stN D s f b < 6 := by
  unfold stN
  cases h : f b with
  | none => exact (hW.2.1 s hs).2.2.2 _ (spP_lt hW hs h0 f b)
  | some q => exact (hf b q hb h).1
theorem stV_or {D : Dn} (hW : WF D) {s : Nat} (hs : s < 2) {f : Nat → Option (Nat × Nat)} (hf : fOk f) {b : Nat} (hb : b < 200) : stV D s f b = -1 ∨ ∃ t, t < 6 ∧ stV D s f b = nI t := by
  unfold stV
  by_cases h : D 16 s = 0 ∨ ¬ D 29 b = 0
  · rw [if_pos h]; exact Or.inl rfl
  · rw [if_neg h]; exact Or.inr ⟨_, stN_lt hW hs (by omega) hf hb, rfl⟩
/-- the steps' cells hold what was danced up to beat b by side s; nothing else has changed -/
def UPx (c1 c2 m : Nat) (D : Dn) (s : Nat) (f : Nat → Option (Nat × Nat)) (b : Nat) (S0 S : St) : Prop := (∀ c k, S.1 c k = if c = c1 ∧ m * s ≤ k ∧ k < m * s + b then spV D s f (k - m * s) else if c = c2 ∧ 200 * s ≤ k ∧ k < 200 * s + b then stV D s f (k - 200 * s) else S0.1 c k) ∧ S.2 = S0.2
theorem UPx.rf (c1 c2 m : Nat) (D : Dn) (s : Nat) (f : Nat → Option (Nat × Nat)) (S : St) : UPx c1 c2 m D s f 0 S S := ⟨fun c k => by
  rw [if_neg (by omega), if_neg (by omega)], rfl⟩
theorem UPx.step {c1 c2 m : Nat} (h12 : c1 ≠ c2) {D : Dn} {s : Nat} {f : Nat → Option (Nat × Nat)} {b : Nat} {S0 S T : St} (h : UPx c1 c2 m D s f b S0 S) (hT : ∀ c k, T.1 c k = if c = c1 ∧ k = m * s + b then spV D s f b else if c = c2 ∧ k = 200 * s + b then stV D s f b else S.1 c k) (hT2 : T.2 = S.2) : UPx c1 c2 m D s f (b + 1) S0 T := by
  refine ⟨fun c k => ?_, hT2.trans h.2⟩
  rw [hT c k, h.1 c k]
  by_cases h1 : c = c1
  · have n2 : ¬ c = c2 := fun z => h12 (h1.symm.trans z)
    have n3 : ¬ c1 = c2 := h12
    simp only [h1, n3, true_and, false_and, if_false]
    by_cases h3 : k = m * s + b
    · rw [if_pos h3, if_pos (by omega)]
      congr 1; omega
    · rw [if_neg h3]
      by_cases h4 : m * s ≤ k ∧ k < m * s + b
      · rw [if_pos h4, if_pos (by omega)]
      · rw [if_neg h4, if_neg (by omega)]
  · by_cases h2 : c = c2
    · have n1 : ¬ c2 = c1 := fun z => h1 (h2.trans z)
      simp only [h2, n1, true_and, false_and, if_false]
      by_cases h3 : k = 200 * s + b
      · rw [if_pos h3, if_pos (by omega)]
        congr 1; omega
      · rw [if_neg h3]
        by_cases h4 : 200 * s ≤ k ∧ k < 200 * s + b
        · rw [if_pos h4, if_pos (by omega)]
        · rw [if_neg h4, if_neg (by omega)]
    · simp only [h1, h2, false_and, if_false]
-- ---- small numbers' laws, by cases
def fmV (x y : Int32) : Int32 := if 0 ≤ (x ^^^ y) then irm x y else if irm x y = 0 then irm x y else irm x y + y
theorem jm_floorMod_eq (x y : Int32) (Q : Int32 → Prop) : wp_jm_floorMod x y Q = (¬ y = 0 ∧ Q (fmV x y)) := by
  unfold wp_jm_floorMod fmV
  rw [br_q Q, br_q Q]
theorem x_next : ∀ n, n < 13 → 0 < n → ∀ p, p < n → irm (nI p + 1) (nI n) = nI ((p + 1 + 10 * n - 0) % n) := by
  intro n hn h0 p hp
  rw [nI_1, rem_nI (by omega) h0 (by omega)]
  congr 1
  rw [Nat.sub_zero, Nat.add_mul_mod_self_right]
theorem nI_xor (a b : Nat) : nI a ^^^ nI b = nI (a ^^^ b) := by
  apply Int32.toBitVec_inj.mp
  rw [Int32.toBitVec_xor]
  show BitVec.ofNat 32 a ^^^ BitVec.ofNat 32 b = BitVec.ofNat 32 (a ^^^ b)
  exact (BitVec.ofNat_xor ..).symm
theorem fm_pos {a n : Nat} (ha : a < 2 ^ 31) (h0 : 0 < n) (hn : n < 2 ^ 31) : fmV (nI a) (nI n) = nI (a % n) := by
  have h : (0 : Int32) ≤ nI a ^^^ nI n := by
    rw [nI_xor]
    exact nI_pos' (Nat.xor_lt_two_pow ha hn)
  unfold fmV
  rw [if_pos h, rem_nI ha h0 hn]
theorem fm_neg : ∀ n, n < 13 → 0 < n → ∀ d, d < 12 → fmV (nI 0 - nI d) (nI n) = nI ((12 * n - d) % n) := by decide +kernel
theorem rm_neg : ∀ n, n < 13 → 0 < n → ∀ d, d < 12 → irm (irm (nI 0 - nI d) (nI n) + nI n) (nI n) = nI ((12 * n - d) % n) := by decide +kernel
theorem sub_neg {a l : Nat} (h : a ≤ l) : nI a - nI l = nI 0 - nI (l - a) := by
  have h1 : nI l = nI (l - a) + nI a := by rw [nI_add]; congr 1; omega
  rw [Int32.sub_eq_iff_eq_add, h1, ← Int32.add_assoc, Int32.sub_add_cancel, show nI 0 = 0 from rfl, Int32.zero_add]
/-- the way back, as both sides count it -/
theorem fm_all {n a l : Nat} (hn : n < 13) (h0 : 0 < n) (ha : a < 2 ^ 30) (hl : l < 12) : fmV (nI a - nI l) (nI n) = nI ((a + 12 * n - l) % n) ∧ irm (irm (nI a - nI l) (nI n) + nI n) (nI n) = nI ((a + 12 * n - l) % n) := by
  rcases Nat.lt_or_ge l a with h | h
  · rw [pk_sub (by omega), fm_pos (by omega) h0 (by omega), rem_nI (by omega) h0 (by omega), nI_add, rem_nI (by have := Nat.mod_lt (a - l) h0; omega) h0 (by omega), Nat.add_mod_right, Nat.mod_mod, show a + 12 * n - l = a - l + 12 * n by omega, Nat.add_mul_mod_self_right]
    exact ⟨rfl, rfl⟩
  · rw [sub_neg h, fm_neg n hn h0 _ (by omega), rm_neg n hn h0 _ (by omega), show a + 12 * n - l = 12 * n - (l - a) by omega]
    exact ⟨rfl, rfl⟩
theorem x_back : ∀ n, n < 13 → 0 < n → ∀ p, p < n → ∀ l, l < 10 → fmV (irm (nI p + 1) (nI n) - nI l) (nI n) = nI ((p + 1 + 10 * n - l) % n) := by
  intro n hn h0 p hp l hl
  rw [nI_1, rem_nI (by omega) h0 (by omega), (fm_all hn h0 (by have := Nat.mod_lt (p + 1) h0; omega) (by omega)).1]
  congr 1
  rcases Nat.lt_or_ge (p + 1) n with h | h
  · rw [Nat.mod_eq_of_lt h, show p + 1 + 12 * n - l = p + 1 + 10 * n - l + 2 * n by omega, Nat.add_mul_mod_self_right]
  · rw [show p + 1 = n by omega, Nat.mod_self, show n + 10 * n - l = 0 + 11 * n - l by omega, show 0 + 12 * n - l = 0 + 11 * n - l + 1 * n by omega, Nat.add_mul_mod_self_right]
theorem m_back : ∀ n, n < 13 → 0 < n → ∀ p, p < n → ∀ l, l < 10 → irm (irm ((nI p + 1) - nI l) (nI n) + nI n) (nI n) = nI ((p + 1 + 10 * n - l) % n) := by
  intro n hn h0 p hp l hl
  rw [nI_1, (fm_all hn h0 (by omega) (by omega)).2, show p + 1 + 12 * n - l = p + 1 + 10 * n - l + 2 * n by omega, Nat.add_mul_mod_self_right]
-- ---- who stumbles
def oI : Option Nat → Int32
  | none => -1
  | some k => nI k
def fndF (D : Dn) (s b : Nat) : Nat → Nat → Option Nat
  | 0, _ => none
  | m + 1, j => if D 20 j = s ∧ D 21 j = b then some j else fndF D s b m (j + 1)
def stk (D : Dn) (s b : Nat) : Option Nat := fndF D s b (D 15 4) 0
theorem fndF_some {D : Dn} {s b : Nat} : ∀ {m j k : Nat}, fndF D s b m j = some k → j ≤ k ∧ k < j + m ∧ D 20 k = s ∧ D 21 k = b
  | 0, _, _, h => by simp [fndF] at h
  | m + 1, j, k, h => by
    unfold fndF at h
    by_cases c : D 20 j = s ∧ D 21 j = b
    · rw [if_pos c] at h
      cases h
      exact ⟨by omega, by omega, c.1, c.2⟩
    · rw [if_neg c] at h
      obtain ⟨h1, h2, h3⟩ := fndF_some h
      exact ⟨by omega, by omega, h3⟩
theorem fndF_none {D : Dn} {s b : Nat} : ∀ {m j : Nat}, fndF D s b m j = none → ∀ k, j ≤ k → k < j + m → ¬ (D 20 k = s ∧ D 21 k = b)
  | 0, j, _, k, h1, h2 => absurd h2 (by omega)
  | m + 1, j, h, k, h1, h2 => by
    unfold fndF at h
    by_cases c : D 20 j = s ∧ D 21 j = b
    · rw [if_pos c] at h; cases h
    · rw [if_neg c] at h
      rcases Nat.eq_or_lt_of_le h1 with rfl | h3
      · exact c
      · exact fndF_none h k h3 (by omega)
theorem stk_iff {D : Dn} (hW : WF D) {s b k : Nat} (hk : k < D 15 4) : (D 20 k = s ∧ D 21 k = b) ↔ stk D s b = some k := by
  constructor
  · intro h
    cases e : stk D s b with
    | none => exact absurd h (fndF_none e k (Nat.zero_le _) (by omega))
    | some j =>
      obtain ⟨-, h2, h3, h4⟩ := fndF_some e
      rw [hW.2.2.2.1.2 k j hk (by omega) (h.1.trans h3.symm) (h.2.trans h4.symm)]
  · intro e
    exact (fndF_some e).2.2
/-- by all stumbles but one (200: by all) -/
def fBut (D : Dn) (s but : Nat) (b : Nat) : Option (Nat × Nat) := match stk D s b with
  | none => none
  | some k => if k = but then none else some (D 22 k, D 23 k)
/-- one alone that is thought of -/
def fOne (n : Nat) (b : Nat) : Option (Nat × Nat) := if 0 < n ∧ (n - 1) / 60 = b then some ((n - 1) % 60 / 10, (n - 1) % 10) else none
theorem fBut_ok {D : Dn} (hW : WF D) (s but : Nat) : fOk (fBut D s but) := by
  intro b q hb h
  unfold fBut at h
  cases e : stk D s b with
  | none => rw [e] at h; cases h
  | some k =>
    rw [e] at h
    dsimp only at h
    by_cases c : k = but
    · rw [if_pos c] at h; cases h
    · rw [if_neg c] at h
      cases h
      have h2 := hW.2.2.2.1.1 k (by have := (fndF_some e).2.1; omega)
      exact ⟨h2.2.2.1, h2.2.2.2⟩
theorem fOne_ok (n : Nat) : fOk (fOne n) := by
  intro b q hb h
  unfold fOne at h
  by_cases c : 0 < n ∧ (n - 1) / 60 = b
  · rw [if_pos c] at h
    cases h
    exact ⟨by omega, by omega⟩
  · rw [if_neg c] at h; cases h
theorem x_stumbleAt {D : Dn} {S : St} {Q : Int32 → Prop} (h : RX D S) (hW : WF D) {s b : Nat} (hs : s < 2) (hb : b < 200) (hq : Q (oI (stk D s b))) : wp_d_stumbleAt S (nI s) (nI b) Q := by
  obtain ⟨⟨w0, w1, w2, w3, w4, w5, w6, w7⟩, wr, wa, ws, -⟩ := hW
  have key : ∀ m j, j + m = D 15 4 → Q (oI (fndF D s b m j)) → wp_d_stumbleAt_b2 S Q (nI s) (nI b) (m + 1) (nI j) := by
    intro m
    induction m with
    | zero =>
      intro j hj hq
      rw [wp_d_stumbleAt_b2]
      dsimp only
      rw [h.g (k := 4) (by decide)]
      exact ⟨fun _ => hq, fun c => absurd ((nI_leI (by omega) (by omega)).mpr (by omega)) c⟩
    | succ m ih =>
      intro j hj hq
      have hk := ws.1 j (by omega)
      rw [wp_d_stumbleAt_b2]
      dsimp only
      rw [h.g (k := 4) (by decide), nI_clamp (show j < 2 ^ 31 by omega), h 20 j (by unfold inD; omega), h 21 j (by unfold inD; omega), nI_1]
      simp (disch := omega) only [nI_leI, in_nI, nI_eq]
      unfold fndF at hq
      refine ⟨fun c => absurd c (by omega), fun _ => ⟨by omega, fun c => ih (j + 1) (by omega) ?_, fun c => ⟨by omega, fun c2 => ih (j + 1) (by omega) ?_, fun c2 => ?_⟩⟩⟩
      · rwa [if_neg (fun z => c z.1)] at hq
      · rwa [if_neg (fun z => c2 z.2)] at hq
      · rwa [if_pos ⟨c, c2⟩] at hq
  exact ⟨_, key (D 15 4) 0 (by omega) hq⟩

set_option maxRecDepth 100000 in
theorem x_goes5 {D : Dn} {S0 : St} {Q : St → Prop} (h0 : RX D S0) (hW : WF D) {s : Nat} (hs : s < 2) {f : Nat → Option (Nat × Nat)} (hf : fOk f) (hst : ∀ (S : St) (b : Nat) (Q : Int32 → Prop), (∀ k, S.1 0 k = S0.1 0 k) → RX D S → b < 200 → (f b = none → Q (-1)) → (∀ (q : Nat × Nat) (r : Int32), f b = some q → ¬ r = -1 → (∀ Q2 : Int32 → Prop, Q2 (nI q.1) → wp_t_does_5 S r Q2) → (∀ (S2 : St), RX D S2 → ∀ Q2 : Int32 → Prop, Q2 (nI q.2) → wp_t_lag_5 S2 r Q2) → Q r) → wp_t_stumble_5 S (nI s) (nI b) Q) (hQ : ∀ S, UPx 2 3 200 D s f 200 S0 S → Q S) : wp_p_goes_5 S0 (nI s) Q := by
  have wr := hW.2.1 s hs
  have wm := hW.2.2.2.2.2.2.1
  have key : ∀ m b S x2, b + m = 200 → UPx 2 3 200 D s f b S0 S → (0 < D 16 s → x2 = nI (spP D s f b)) → wp_p_goes_5_b15 Q (nI s) (m + 1) S x2 (nI b) := by
    intro m
    induction m with
    | zero =>
      intro b S x2 hb hU hx
      obtain rfl : b = 200 := by omega
      rw [wp_p_goes_5_b15]
      dsimp only
      rw [p_lit 200]
      exact ⟨fun _ => hQ S hU, fun c => absurd (nI_le (Nat.le_refl _) (by decide)) c⟩
    | succ m ih =>
      intro b S x2 hb hU hx
      have eS : ∀ c k, ¬ c = 2 → ¬ c = 3 → S.1 c k = S0.1 c k := fun c k n2 n3 => by rw [hU.1 c k, if_neg (fun z => n2 z.1), if_neg (fun z => n3 z.1)]
      have hR : RX D S := fun c k q => by rw [eS c k (by unfold inD at q; omega) (by unfold inD at q; omega)]; exact h0 c k q
      have e200 : (200 : Int32) * nI s + nI b = nI (200 * s + b) := by rw [p_lit 200, pk_mul, nI_add]
      rw [wp_p_goes_5_b15]
      dsimp only
      rw [e200, nI_clamp (show s < 2 ^ 31 by omega), hR.len hs, p_lit 200]
      refine ⟨fun c => absurd c (nI_ge (by omega) (by omega)), fun _ => ⟨vp_in_nI hs (by omega), fun c => ?_, fun c => ?_⟩⟩
      · -- the side has a round
        have h0n : 0 < D 16 s := by
          rcases Nat.eq_zero_or_pos (D 16 s) with z | z
          · exact absurd (by rw [z]; rfl) c
          · exact z
        have hx := hx h0n
        have hp := spP_lt hW hs h0n f b
        subst hx
        unfold wp_p_goes_5_b56
        rw [e200, nI_clamp (show 200 * s + b < 2 ^ 31 by omega), nI_clamp (show s < 2 ^ 31 by omega)]
        generalize hS1 : sI (sI S 2 (200 * s + b) (nI (spP D s f b))) 3 (200 * s + b) (-1) = S1
        have e1 : ∀ c k, S1.1 c k = if c = 3 ∧ k = 200 * s + b then -1 else if c = 2 ∧ k = 200 * s + b then nI (spP D s f b) else S.1 c k := fun c k => by rw [← hS1, sI_1, sI_1]
        have eS1 : ∀ c k, ¬ c = 2 → ¬ c = 3 → S1.1 c k = S.1 c k := fun c k n2 n3 => by rw [e1, if_neg (fun z => n3 z.1), if_neg (fun z => n2 z.1)]
        have hR1 : RX D S1 := fun c k q => by rw [eS1 c k (by unfold inD at q; omega) (by unfold inD at q; omega)]; exact hR c k q
        have hs2 : S1.2 = S.2 := by rw [← hS1]; rfl
        rw [hR1.len hs, nI_1 b]
        refine ⟨vp_in_nI (by omega) (by omega), vp_in_nI (by omega) (by omega), vp_in_nI hs (by omega), fun c3 => absurd c3 (nI_ne0 h0n (by omega)), fun _ => ?_⟩
        unfold wp_u_isMud_5
        rw [nI_clamp (show b < 2 ^ 31 by omega), hR1.mud (by omega)]
        have hm2 := wm b (by omega)
        refine ⟨vp_in_nI (by omega) (by omega), ?_, fun c4 => ?_, fun c4 => ?_⟩
        · rcases (show D 29 b = 0 ∨ D 29 b = 1 by omega) with z | z <;> rw [z] <;> rfl
        · -- no mud
          have hmud : D 29 b = 0 := (eq0 (by omega)).mp c4
          have hlen := wr.1
          have fin : ∀ (x4 s0 : Int32) (l : Nat), l ≤ 9 → (x4 = -1 → l = 0) → (¬ x4 = -1 → ∀ S2 : St, RX D S2 → ∀ Q2 : Int32 → Prop, Q2 (nI l) → wp_t_lag_5 S2 x4 Q2) → s0 = nI (stN D s f b) → l = (match f b with | none => 0 | some q => q.2) → wp_p_goes_5_b148 Q (nI s) (fun Sy y2 y3 => wp_p_goes_5_b15 Q (nI s) (m + 1) Sy y2 y3) S1 (nI (spP D s f b)) (nI b) x4 s0 (nI (200 * s + b)) := by
            intro x4 s0 l hl h1 h2 hs0 hl2
            unfold wp_p_goes_5_b148
            rw [nI_clamp (show 200 * s + b < 2 ^ 31 by omega), nI_clamp (show s < 2 ^ 31 by omega)]
            generalize hS2 : sI S1 3 (200 * s + b) s0 = S2
            have e2 : ∀ c k, S2.1 c k = if c = 3 ∧ k = 200 * s + b then s0 else S1.1 c k := fun c k => by rw [← hS2, sI_1]
            have hR2 : RX D S2 := fun c k q => by rw [e2, if_neg (by unfold inD at q; omega)]; exact hR1 c k q
            have hs3 : S2.2 = S.2 := by rw [← hS2]; exact hs2
            rw [hR2.len hs, nI_1 b]
            have hU2 : UPx 2 3 200 D s f (b + 1) S0 S2 := by
              refine hU.step (by decide) (fun c k => ?_) hs3
              rw [e2, e1]
              by_cases q3 : c = 3 ∧ k = 200 * s + b
              · rw [if_pos q3, if_neg (by omega), if_pos q3, hs0]
                unfold stV
                rw [if_neg (by omega)]
              · rw [if_neg q3, if_neg q3]
                by_cases q2 : c = 2 ∧ k = 200 * s + b
                · rw [if_pos q2, if_pos q2]
                  unfold spV
                  rw [if_neg (by omega)]
                · rw [if_neg q2, if_neg q2, if_neg q3]
            have hx2 : spP D s f (b + 1) = (spP D s f b + 1 + 10 * D 16 s - l) % D 16 s := by
              rw [spP, if_pos hmud, ← hl2]
            refine ⟨vp_in_nI (by omega) (by omega), vp_in_nI hs (by omega), nI_ne0 h0n (by omega), fun c5 => ?_, fun c5 => ?_⟩
            · refine ih (b + 1) S2 _ (by omega) hU2 (fun _ => ?_)
              rw [hx2, h1 c5]
              exact x_next (D 16 s) (by omega) h0n _ hp
            · refine h2 c5 S2 hR2 _ ⟨vp_in_nI hs (by omega), ?_⟩
              rw [jm_floorMod_eq]
              refine ⟨nI_ne0 h0n (by omega), ih (b + 1) S2 _ (by omega) hU2 (fun _ => ?_)⟩
              rw [hx2]
              exact x_back (D 16 s) (by omega) h0n _ hp l (by omega)
          refine hst S1 b _ (fun k => by rw [eS1 _ _ (by decide) (by decide), eS _ _ (by decide) (by decide)]) hR1 (by omega) (fun hn => ?_) (fun q r hq hr hd hl => ?_)
          · refine ⟨fun c5 => absurd rfl c5, fun _ => ?_⟩
            unfold wp_d_step
            rw [show (12 : Int32) * nI s + nI (spP D s f b) = nI (12 * s + spP D s f b) by rw [p_lit 12, pk_mul, nI_add], nI_clamp (show 12 * s + spP D s f b < 2 ^ 31 by omega), hR1.rnd (by omega)]
            refine ⟨vp_in_nI (by omega) (by omega), fin _ _ 0 (by omega) (fun _ => rfl) (fun c6 => absurd rfl c6) ?_ (by rw [hn])⟩
            unfold stN; rw [hn]
          · refine ⟨fun _ => hd _ (fin _ _ q.2 (hf b q (by omega) hq).2 (fun c6 => absurd c6 hr) (fun _ => hl) ?_ (by rw [hq])), fun c5 => absurd c5 hr⟩
            unfold stN; rw [hq]
        · -- mud
          have hmud : ¬ D 29 b = 0 := fun z => c4 (by rw [z]; rfl)
          refine ih (b + 1) S1 _ (by omega) ?_ (fun _ => ?_)
          · refine hU.step (by decide) (fun c k => ?_) hs2
            rw [e1]
            by_cases q3 : c = 3 ∧ k = 200 * s + b
            · rw [if_pos q3, if_neg (by omega), if_pos q3]
              unfold stV
              rw [if_pos (Or.inr hmud)]
            · rw [if_neg q3]
              by_cases q2 : c = 2 ∧ k = 200 * s + b
              · rw [if_pos q2, if_pos q2]
                unfold spV
                rw [if_neg (by omega)]
              · rw [if_neg q2, if_neg q2, if_neg q3]
          · rw [spP, if_neg hmud]
      · -- no round
        have h0n : D 16 s = 0 := (eq0 (by omega)).mp c
        unfold wp_p_goes_5_b56
        rw [e200, nI_clamp (show 200 * s + b < 2 ^ 31 by omega), nI_clamp (show s < 2 ^ 31 by omega)]
        generalize hS1 : sI (sI S 2 (200 * s + b) (-1)) 3 (200 * s + b) (-1) = S1
        have e1 : ∀ c k, S1.1 c k = if c = 3 ∧ k = 200 * s + b then -1 else if c = 2 ∧ k = 200 * s + b then -1 else S.1 c k := fun c k => by rw [← hS1, sI_1, sI_1]
        have hR1 : RX D S1 := fun c k q => by rw [e1, if_neg (by unfold inD at q; omega), if_neg (by unfold inD at q; omega)]; exact hR c k q
        rw [hR1.len hs, h0n, nI_1 b]
        refine ⟨vp_in_nI (by omega) (by omega), vp_in_nI (by omega) (by omega), vp_in_nI hs (by omega), fun _ => ?_, fun c3 => absurd rfl c3⟩
        refine ih (b + 1) S1 _ (by omega) ?_ (fun z => absurd z (by omega))
        refine hU.step (by decide) (fun c k => ?_) (by rw [← hS1]; rfl)
        rw [e1]
        by_cases q3 : c = 3 ∧ k = 200 * s + b
        · rw [if_pos q3, if_neg (by omega), if_pos q3]
          unfold stV
          rw [if_pos (Or.inl h0n)]
        · rw [if_neg q3]
          by_cases q2 : c = 2 ∧ k = 200 * s + b
          · rw [if_pos q2, if_pos q2]
            unfold spV
            rw [if_pos h0n]
          · rw [if_neg q2, if_neg q2, if_neg q3]
  unfold wp_p_goes_5
  rw [nI_clamp (show s < 2 ^ 31 by omega), h0.beg hs]
  exact ⟨vp_in_nI hs (by omega), _, key 200 0 S0 _ (by omega) (UPx.rf ..) (fun _ => rfl)⟩
set_option maxRecDepth 100000 in
theorem x_goes6 {D : Dn} {S0 : St} {Q : St → Prop} (h0 : RX D S0) (hW : WF D) {s : Nat} (hs : s < 2) {f : Nat → Option (Nat × Nat)} (hf : fOk f) (hst : ∀ (S : St) (b : Nat) (Q : Int32 → Prop), (∀ k, S.1 6 k = S0.1 6 k) → RX D S → b < 200 → (f b = none → Q (-1)) → (∀ (q : Nat × Nat) (r : Int32), f b = some q → ¬ r = -1 → (∀ Q2 : Int32 → Prop, Q2 (nI q.1) → wp_t_does_6 S r Q2) → (∀ (S2 : St), RX D S2 → ∀ Q2 : Int32 → Prop, Q2 (nI q.2) → wp_t_lag_6 S2 r Q2) → Q r) → wp_w_stumble_6 S (nI s) (nI b) Q) (hQ : ∀ S, UPx 2 3 200 D s f 200 S0 S → Q S) : wp_p_goes_6 S0 (nI s) Q := by
  have wr := hW.2.1 s hs
  have wm := hW.2.2.2.2.2.2.1
  have key : ∀ m b S x2, b + m = 200 → UPx 2 3 200 D s f b S0 S → (0 < D 16 s → x2 = nI (spP D s f b)) → wp_p_goes_6_b15 Q (nI s) (m + 1) S x2 (nI b) := by
    intro m
    induction m with
    | zero =>
      intro b S x2 hb hU hx
      obtain rfl : b = 200 := by omega
      rw [wp_p_goes_6_b15]
      dsimp only
      rw [p_lit 200]
      exact ⟨fun _ => hQ S hU, fun c => absurd (nI_le (Nat.le_refl _) (by decide)) c⟩
    | succ m ih =>
      intro b S x2 hb hU hx
      have eS : ∀ c k, ¬ c = 2 → ¬ c = 3 → S.1 c k = S0.1 c k := fun c k n2 n3 => by rw [hU.1 c k, if_neg (fun z => n2 z.1), if_neg (fun z => n3 z.1)]
      have hR : RX D S := fun c k q => by rw [eS c k (by unfold inD at q; omega) (by unfold inD at q; omega)]; exact h0 c k q
      have e200 : (200 : Int32) * nI s + nI b = nI (200 * s + b) := by rw [p_lit 200, pk_mul, nI_add]
      rw [wp_p_goes_6_b15]
      dsimp only
      rw [e200, nI_clamp (show s < 2 ^ 31 by omega), hR.len hs, p_lit 200]
      refine ⟨fun c => absurd c (nI_ge (by omega) (by omega)), fun _ => ⟨vp_in_nI hs (by omega), fun c => ?_, fun c => ?_⟩⟩
      · -- the side has a round
        have h0n : 0 < D 16 s := by
          rcases Nat.eq_zero_or_pos (D 16 s) with z | z
          · exact absurd (by rw [z]; rfl) c
          · exact z
        have hx := hx h0n
        have hp := spP_lt hW hs h0n f b
        subst hx
        unfold wp_p_goes_6_b56
        rw [e200, nI_clamp (show 200 * s + b < 2 ^ 31 by omega), nI_clamp (show s < 2 ^ 31 by omega)]
        generalize hS1 : sI (sI S 2 (200 * s + b) (nI (spP D s f b))) 3 (200 * s + b) (-1) = S1
        have e1 : ∀ c k, S1.1 c k = if c = 3 ∧ k = 200 * s + b then -1 else if c = 2 ∧ k = 200 * s + b then nI (spP D s f b) else S.1 c k := fun c k => by rw [← hS1, sI_1, sI_1]
        have eS1 : ∀ c k, ¬ c = 2 → ¬ c = 3 → S1.1 c k = S.1 c k := fun c k n2 n3 => by rw [e1, if_neg (fun z => n3 z.1), if_neg (fun z => n2 z.1)]
        have hR1 : RX D S1 := fun c k q => by rw [eS1 c k (by unfold inD at q; omega) (by unfold inD at q; omega)]; exact hR c k q
        have hs2 : S1.2 = S.2 := by rw [← hS1]; rfl
        rw [hR1.len hs, nI_1 b]
        refine ⟨vp_in_nI (by omega) (by omega), vp_in_nI (by omega) (by omega), vp_in_nI hs (by omega), fun c3 => absurd c3 (nI_ne0 h0n (by omega)), fun _ => ?_⟩
        unfold wp_u_isMud_6
        rw [nI_clamp (show b < 2 ^ 31 by omega), hR1.mud (by omega)]
        have hm2 := wm b (by omega)
        refine ⟨vp_in_nI (by omega) (by omega), ?_, fun c4 => ?_, fun c4 => ?_⟩
        · rcases (show D 29 b = 0 ∨ D 29 b = 1 by omega) with z | z <;> rw [z] <;> rfl
        · -- no mud
          have hmud : D 29 b = 0 := (eq0 (by omega)).mp c4
          have hlen := wr.1
          have fin : ∀ (x4 s0 : Int32) (l : Nat), l ≤ 9 → (x4 = -1 → l = 0) → (¬ x4 = -1 → ∀ S2 : St, RX D S2 → ∀ Q2 : Int32 → Prop, Q2 (nI l) → wp_t_lag_6 S2 x4 Q2) → s0 = nI (stN D s f b) → l = (match f b with | none => 0 | some q => q.2) → wp_p_goes_6_b148 Q (nI s) (fun Sy y2 y3 => wp_p_goes_6_b15 Q (nI s) (m + 1) Sy y2 y3) S1 (nI (spP D s f b)) (nI b) x4 s0 (nI (200 * s + b)) := by
            intro x4 s0 l hl h1 h2 hs0 hl2
            unfold wp_p_goes_6_b148
            rw [nI_clamp (show 200 * s + b < 2 ^ 31 by omega), nI_clamp (show s < 2 ^ 31 by omega)]
            generalize hS2 : sI S1 3 (200 * s + b) s0 = S2
            have e2 : ∀ c k, S2.1 c k = if c = 3 ∧ k = 200 * s + b then s0 else S1.1 c k := fun c k => by rw [← hS2, sI_1]
            have hR2 : RX D S2 := fun c k q => by rw [e2, if_neg (by unfold inD at q; omega)]; exact hR1 c k q
            have hs3 : S2.2 = S.2 := by rw [← hS2]; exact hs2
            rw [hR2.len hs, nI_1 b]
            have hU2 : UPx 2 3 200 D s f (b + 1) S0 S2 := by
              refine hU.step (by decide) (fun c k => ?_) hs3
              rw [e2, e1]
              by_cases q3 : c = 3 ∧ k = 200 * s + b
              · rw [if_pos q3, if_neg (by omega), if_pos q3, hs0]
                unfold stV
                rw [if_neg (by omega)]
              · rw [if_neg q3, if_neg q3]
                by_cases q2 : c = 2 ∧ k = 200 * s + b
                · rw [if_pos q2, if_pos q2]
                  unfold spV
                  rw [if_neg (by omega)]
                · rw [if_neg q2, if_neg q2, if_neg q3]
            have hx2 : spP D s f (b + 1) = (spP D s f b + 1 + 10 * D 16 s - l) % D 16 s := by
              rw [spP, if_pos hmud, ← hl2]
            refine ⟨vp_in_nI (by omega) (by omega), vp_in_nI hs (by omega), nI_ne0 h0n (by omega), fun c5 => ?_, fun c5 => ?_⟩
            · refine ih (b + 1) S2 _ (by omega) hU2 (fun _ => ?_)
              rw [hx2, h1 c5]
              exact x_next (D 16 s) (by omega) h0n _ hp
            · refine h2 c5 S2 hR2 _ ⟨vp_in_nI hs (by omega), ?_⟩
              rw [jm_floorMod_eq]
              refine ⟨nI_ne0 h0n (by omega), ih (b + 1) S2 _ (by omega) hU2 (fun _ => ?_)⟩
              rw [hx2]
              exact x_back (D 16 s) (by omega) h0n _ hp l (by omega)
          refine hst S1 b _ (fun k => by rw [eS1 _ _ (by decide) (by decide), eS _ _ (by decide) (by decide)]) hR1 (by omega) (fun hn => ?_) (fun q r hq hr hd hl => ?_)
          · refine ⟨fun c5 => absurd rfl c5, fun _ => ?_⟩
            unfold wp_d_step
            rw [show (12 : Int32) * nI s + nI (spP D s f b) = nI (12 * s + spP D s f b) by rw [p_lit 12, pk_mul, nI_add], nI_clamp (show 12 * s + spP D s f b < 2 ^ 31 by omega), hR1.rnd (by omega)]
            refine ⟨vp_in_nI (by omega) (by omega), fin _ _ 0 (by omega) (fun _ => rfl) (fun c6 => absurd rfl c6) ?_ (by rw [hn])⟩
            unfold stN; rw [hn]
          · refine ⟨fun _ => hd _ (fin _ _ q.2 (hf b q (by omega) hq).2 (fun c6 => absurd c6 hr) (fun _ => hl) ?_ (by rw [hq])), fun c5 => absurd c5 hr⟩
            unfold stN; rw [hq]
        · -- mud
          have hmud : ¬ D 29 b = 0 := fun z => c4 (by rw [z]; rfl)
          refine ih (b + 1) S1 _ (by omega) ?_ (fun _ => ?_)
          · refine hU.step (by decide) (fun c k => ?_) hs2
            rw [e1]
            by_cases q3 : c = 3 ∧ k = 200 * s + b
            · rw [if_pos q3, if_neg (by omega), if_pos q3]
              unfold stV
              rw [if_pos (Or.inr hmud)]
            · rw [if_neg q3]
              by_cases q2 : c = 2 ∧ k = 200 * s + b
              · rw [if_pos q2, if_pos q2]
                unfold spV
                rw [if_neg (by omega)]
              · rw [if_neg q2, if_neg q2, if_neg q3]
          · rw [spP, if_neg hmud]
      · -- no round
        have h0n : D 16 s = 0 := (eq0 (by omega)).mp c
        unfold wp_p_goes_6_b56
        rw [e200, nI_clamp (show 200 * s + b < 2 ^ 31 by omega), nI_clamp (show s < 2 ^ 31 by omega)]
        generalize hS1 : sI (sI S 2 (200 * s + b) (-1)) 3 (200 * s + b) (-1) = S1
        have e1 : ∀ c k, S1.1 c k = if c = 3 ∧ k = 200 * s + b then -1 else if c = 2 ∧ k = 200 * s + b then -1 else S.1 c k := fun c k => by rw [← hS1, sI_1, sI_1]
        have hR1 : RX D S1 := fun c k q => by rw [e1, if_neg (by unfold inD at q; omega), if_neg (by unfold inD at q; omega)]; exact hR c k q
        rw [hR1.len hs, h0n, nI_1 b]
        refine ⟨vp_in_nI (by omega) (by omega), vp_in_nI (by omega) (by omega), vp_in_nI hs (by omega), fun _ => ?_, fun c3 => absurd rfl c3⟩
        refine ih (b + 1) S1 _ (by omega) ?_ (fun z => absurd z (by omega))
        refine hU.step (by decide) (fun c k => ?_) (by rw [← hS1]; rfl)
        rw [e1]
        by_cases q3 : c = 3 ∧ k = 200 * s + b
        · rw [if_pos q3, if_neg (by omega), if_pos q3]
          unfold stV
          rw [if_pos (Or.inl h0n)]
        · rw [if_neg q3]
          by_cases q2 : c = 2 ∧ k = 200 * s + b
          · rw [if_pos q2, if_pos q2]
            unfold spV
            rw [if_pos h0n]
          · rw [if_neg q2, if_neg q2, if_neg q3]
  unfold wp_p_goes_6
  rw [nI_clamp (show s < 2 ^ 31 by omega), h0.beg hs]
  exact ⟨vp_in_nI hs (by omega), _, key 200 0 S0 _ (by omega) (UPx.rf ..) (fun _ => rfl)⟩
set_option maxRecDepth 100000 in
theorem x_goes7 {D : Dn} {S0 : St} {Q : St → Prop} (h0 : RX D S0) (hW : WF D) {s : Nat} (hs : s < 2) {f : Nat → Option (Nat × Nat)} (hf : fOk f) (hst : ∀ (S : St) (b : Nat) (Q : Int32 → Prop), (∀ k, S.1 7 k = S0.1 7 k) → RX D S → b < 200 → (f b = none → Q (-1)) → (∀ (q : Nat × Nat) (r : Int32), f b = some q → ¬ r = -1 → (∀ Q2 : Int32 → Prop, Q2 (nI q.1) → wp_h_does_7 S r Q2) → (∀ (S2 : St), RX D S2 → ∀ Q2 : Int32 → Prop, Q2 (nI q.2) → wp_h_lag_7 S2 r Q2) → Q r) → wp_h_stumble_7 S (nI s) (nI b) Q) (hQ : ∀ S, UPx 2 3 200 D s f 200 S0 S → Q S) : wp_p_goes_7 S0 (nI s) Q := by
  have wr := hW.2.1 s hs
  have wm := hW.2.2.2.2.2.2.1
  have key : ∀ m b S x2, b + m = 200 → UPx 2 3 200 D s f b S0 S → (0 < D 16 s → x2 = nI (spP D s f b)) → wp_p_goes_7_b15 Q (nI s) (m + 1) S x2 (nI b) := by
    intro m
    induction m with
    | zero =>
      intro b S x2 hb hU hx
      obtain rfl : b = 200 := by omega
      rw [wp_p_goes_7_b15]
      dsimp only
      rw [p_lit 200]
      exact ⟨fun _ => hQ S hU, fun c => absurd (nI_le (Nat.le_refl _) (by decide)) c⟩
    | succ m ih =>
      intro b S x2 hb hU hx
      have eS : ∀ c k, ¬ c = 2 → ¬ c = 3 → S.1 c k = S0.1 c k := fun c k n2 n3 => by rw [hU.1 c k, if_neg (fun z => n2 z.1), if_neg (fun z => n3 z.1)]
      have hR : RX D S := fun c k q => by rw [eS c k (by unfold inD at q; omega) (by unfold inD at q; omega)]; exact h0 c k q
      have e200 : (200 : Int32) * nI s + nI b = nI (200 * s + b) := by rw [p_lit 200, pk_mul, nI_add]
      rw [wp_p_goes_7_b15]
      dsimp only
      rw [e200, nI_clamp (show s < 2 ^ 31 by omega), hR.len hs, p_lit 200]
      refine ⟨fun c => absurd c (nI_ge (by omega) (by omega)), fun _ => ⟨vp_in_nI hs (by omega), fun c => ?_, fun c => ?_⟩⟩
      · -- the side has a round
        have h0n : 0 < D 16 s := by
          rcases Nat.eq_zero_or_pos (D 16 s) with z | z
          · exact absurd (by rw [z]; rfl) c
          · exact z
        have hx := hx h0n
        have hp := spP_lt hW hs h0n f b
        subst hx
        unfold wp_p_goes_7_b56
        rw [e200, nI_clamp (show 200 * s + b < 2 ^ 31 by omega), nI_clamp (show s < 2 ^ 31 by omega)]
        generalize hS1 : sI (sI S 2 (200 * s + b) (nI (spP D s f b))) 3 (200 * s + b) (-1) = S1
        have e1 : ∀ c k, S1.1 c k = if c = 3 ∧ k = 200 * s + b then -1 else if c = 2 ∧ k = 200 * s + b then nI (spP D s f b) else S.1 c k := fun c k => by rw [← hS1, sI_1, sI_1]
        have eS1 : ∀ c k, ¬ c = 2 → ¬ c = 3 → S1.1 c k = S.1 c k := fun c k n2 n3 => by rw [e1, if_neg (fun z => n3 z.1), if_neg (fun z => n2 z.1)]
        have hR1 : RX D S1 := fun c k q => by rw [eS1 c k (by unfold inD at q; omega) (by unfold inD at q; omega)]; exact hR c k q
        have hs2 : S1.2 = S.2 := by rw [← hS1]; rfl
        rw [hR1.len hs, nI_1 b]
        refine ⟨vp_in_nI (by omega) (by omega), vp_in_nI (by omega) (by omega), vp_in_nI hs (by omega), fun c3 => absurd c3 (nI_ne0 h0n (by omega)), fun _ => ?_⟩
        unfold wp_u_isMud_7
        rw [nI_clamp (show b < 2 ^ 31 by omega), hR1.mud (by omega)]
        have hm2 := wm b (by omega)
        refine ⟨vp_in_nI (by omega) (by omega), ?_, fun c4 => ?_, fun c4 => ?_⟩
        · rcases (show D 29 b = 0 ∨ D 29 b = 1 by omega) with z | z <;> rw [z] <;> rfl
        · -- no mud
          have hmud : D 29 b = 0 := (eq0 (by omega)).mp c4
          have hlen := wr.1
          have fin : ∀ (x4 s0 : Int32) (l : Nat), l ≤ 9 → (x4 = -1 → l = 0) → (¬ x4 = -1 → ∀ S2 : St, RX D S2 → ∀ Q2 : Int32 → Prop, Q2 (nI l) → wp_h_lag_7 S2 x4 Q2) → s0 = nI (stN D s f b) → l = (match f b with | none => 0 | some q => q.2) → wp_p_goes_7_b148 Q (nI s) (fun Sy y2 y3 => wp_p_goes_7_b15 Q (nI s) (m + 1) Sy y2 y3) S1 (nI (spP D s f b)) (nI b) x4 s0 (nI (200 * s + b)) := by
            intro x4 s0 l hl h1 h2 hs0 hl2
            unfold wp_p_goes_7_b148
            rw [nI_clamp (show 200 * s + b < 2 ^ 31 by omega), nI_clamp (show s < 2 ^ 31 by omega)]
            generalize hS2 : sI S1 3 (200 * s + b) s0 = S2
            have e2 : ∀ c k, S2.1 c k = if c = 3 ∧ k = 200 * s + b then s0 else S1.1 c k := fun c k => by rw [← hS2, sI_1]
            have hR2 : RX D S2 := fun c k q => by rw [e2, if_neg (by unfold inD at q; omega)]; exact hR1 c k q
            have hs3 : S2.2 = S.2 := by rw [← hS2]; exact hs2
            rw [hR2.len hs, nI_1 b]
            have hU2 : UPx 2 3 200 D s f (b + 1) S0 S2 := by
              refine hU.step (by decide) (fun c k => ?_) hs3
              rw [e2, e1]
              by_cases q3 : c = 3 ∧ k = 200 * s + b
              · rw [if_pos q3, if_neg (by omega), if_pos q3, hs0]
                unfold stV
                rw [if_neg (by omega)]
              · rw [if_neg q3, if_neg q3]
                by_cases q2 : c = 2 ∧ k = 200 * s + b
                · rw [if_pos q2, if_pos q2]
                  unfold spV
                  rw [if_neg (by omega)]
                · rw [if_neg q2, if_neg q2, if_neg q3]
            have hx2 : spP D s f (b + 1) = (spP D s f b + 1 + 10 * D 16 s - l) % D 16 s := by
              rw [spP, if_pos hmud, ← hl2]
            refine ⟨vp_in_nI (by omega) (by omega), vp_in_nI hs (by omega), nI_ne0 h0n (by omega), fun c5 => ?_, fun c5 => ?_⟩
            · refine ih (b + 1) S2 _ (by omega) hU2 (fun _ => ?_)
              rw [hx2, h1 c5]
              exact x_next (D 16 s) (by omega) h0n _ hp
            · refine h2 c5 S2 hR2 _ ⟨vp_in_nI hs (by omega), ?_⟩
              rw [jm_floorMod_eq]
              refine ⟨nI_ne0 h0n (by omega), ih (b + 1) S2 _ (by omega) hU2 (fun _ => ?_)⟩
              rw [hx2]
              exact x_back (D 16 s) (by omega) h0n _ hp l (by omega)
          refine hst S1 b _ (fun k => by rw [eS1 _ _ (by decide) (by decide), eS _ _ (by decide) (by decide)]) hR1 (by omega) (fun hn => ?_) (fun q r hq hr hd hl => ?_)
          · refine ⟨fun c5 => absurd rfl c5, fun _ => ?_⟩
            unfold wp_d_step
            rw [show (12 : Int32) * nI s + nI (spP D s f b) = nI (12 * s + spP D s f b) by rw [p_lit 12, pk_mul, nI_add], nI_clamp (show 12 * s + spP D s f b < 2 ^ 31 by omega), hR1.rnd (by omega)]
            refine ⟨vp_in_nI (by omega) (by omega), fin _ _ 0 (by omega) (fun _ => rfl) (fun c6 => absurd rfl c6) ?_ (by rw [hn])⟩
            unfold stN; rw [hn]
          · refine ⟨fun _ => hd _ (fin _ _ q.2 (hf b q (by omega) hq).2 (fun c6 => absurd c6 hr) (fun _ => hl) ?_ (by rw [hq])), fun c5 => absurd c5 hr⟩
            unfold stN; rw [hq]
        · -- mud
          have hmud : ¬ D 29 b = 0 := fun z => c4 (by rw [z]; rfl)
          refine ih (b + 1) S1 _ (by omega) ?_ (fun _ => ?_)
          · refine hU.step (by decide) (fun c k => ?_) hs2
            rw [e1]
            by_cases q3 : c = 3 ∧ k = 200 * s + b
            · rw [if_pos q3, if_neg (by omega), if_pos q3]
              unfold stV
              rw [if_pos (Or.inr hmud)]
            · rw [if_neg q3]
              by_cases q2 : c = 2 ∧ k = 200 * s + b
              · rw [if_pos q2, if_pos q2]
                unfold spV
                rw [if_neg (by omega)]
              · rw [if_neg q2, if_neg q2, if_neg q3]
          · rw [spP, if_neg hmud]
      · -- no round
        have h0n : D 16 s = 0 := (eq0 (by omega)).mp c
        unfold wp_p_goes_7_b56
        rw [e200, nI_clamp (show 200 * s + b < 2 ^ 31 by omega), nI_clamp (show s < 2 ^ 31 by omega)]
        generalize hS1 : sI (sI S 2 (200 * s + b) (-1)) 3 (200 * s + b) (-1) = S1
        have e1 : ∀ c k, S1.1 c k = if c = 3 ∧ k = 200 * s + b then -1 else if c = 2 ∧ k = 200 * s + b then -1 else S.1 c k := fun c k => by rw [← hS1, sI_1, sI_1]
        have hR1 : RX D S1 := fun c k q => by rw [e1, if_neg (by unfold inD at q; omega), if_neg (by unfold inD at q; omega)]; exact hR c k q
        rw [hR1.len hs, h0n, nI_1 b]
        refine ⟨vp_in_nI (by omega) (by omega), vp_in_nI (by omega) (by omega), vp_in_nI hs (by omega), fun _ => ?_, fun c3 => absurd rfl c3⟩
        refine ih (b + 1) S1 _ (by omega) ?_ (fun z => absurd z (by omega))
        refine hU.step (by decide) (fun c k => ?_) (by rw [← hS1]; rfl)
        rw [e1]
        by_cases q3 : c = 3 ∧ k = 200 * s + b
        · rw [if_pos q3, if_neg (by omega), if_pos q3]
          unfold stV
          rw [if_pos (Or.inl h0n)]
        · rw [if_neg q3]
          by_cases q2 : c = 2 ∧ k = 200 * s + b
          · rw [if_pos q2, if_pos q2]
            unfold spV
            rw [if_pos h0n]
          · rw [if_neg q2, if_neg q2, if_neg q3]
  unfold wp_p_goes_7
  rw [nI_clamp (show s < 2 ^ 31 by omega), h0.beg hs]
  exact ⟨vp_in_nI hs (by omega), _, key 200 0 S0 _ (by omega) (UPx.rf ..) (fun _ => rfl)⟩
theorem x_doeslag5 {D : Dn} {S : St} (h : RX D S) {k : Nat} (hk : k < 8) (Q : Int32 → Prop) : (Q (nI (D 22 k)) → wp_t_does_5 S (nI k) Q) ∧ (Q (nI (D 23 k)) → wp_t_lag_5 S (nI k) Q) := by
  unfold wp_t_does_5 wp_t_lag_5
  rw [nI_clamp (show k < 2 ^ 31 by omega), h 22 k (by unfold inD; omega), h 23 k (by unfold inD; omega)]
  exact ⟨fun q => ⟨vp_in_nI hk (by omega), q⟩, fun q => ⟨vp_in_nI hk (by omega), q⟩⟩
theorem x_doeslag6 {D : Dn} {S : St} (h : RX D S) {k : Nat} (hk : k < 8) (Q : Int32 → Prop) : (Q (nI (D 22 k)) → wp_t_does_6 S (nI k) Q) ∧ (Q (nI (D 23 k)) → wp_t_lag_6 S (nI k) Q) := by
  unfold wp_t_does_6 wp_t_lag_6
  rw [nI_clamp (show k < 2 ^ 31 by omega), h 22 k (by unfold inD; omega), h 23 k (by unfold inD; omega)]
  exact ⟨fun q => ⟨vp_in_nI hk (by omega), q⟩, fun q => ⟨vp_in_nI hk (by omega), q⟩⟩
theorem x_told {D : Dn} {S0 : St} {Q : St → Prop} (h0 : RX D S0) (hW : WF D) {s : Nat} (hs : s < 2) (hQ : ∀ S, UPx 2 3 200 D s (fBut D s 200) 200 S0 S → Q S) : wp_p_goes_5 S0 (nI s) Q := by
  refine x_goes5 h0 hW hs (fBut_ok hW s 200) (fun S b Q _ hR hb hn hsm => ?_) hQ
  unfold wp_t_stumble_5
  refine x_stumbleAt hR hW hs hb ?_
  cases e : stk D s b with
  | none => exact hn (by unfold fBut; rw [e])
  | some k =>
    have hk : k < 8 := by have := (fndF_some e).2.1; have := hW.1.2.2.2.2.1; omega
    refine hsm (D 22 k, D 23 k) (nI k) ?_ (m1_ne (by omega)) (fun Q2 q => (x_doeslag5 hR hk Q2).1 q) (fun S2 hR2 Q2 q => (x_doeslag5 hR2 hk Q2).2 q)
    unfold fBut
    rw [e]
    exact if_neg (by omega)
theorem x_without {D : Dn} {S0 : St} {Q : St → Prop} (h0 : RX D S0) (hW : WF D) {s w : Nat} (hs : s < 2) (hw : w < 8) (hw0 : S0.1 6 3 = nI w) (hQ : ∀ S, UPx 2 3 200 D s (fBut D s w) 200 S0 S → Q S) : wp_p_goes_6 S0 (nI s) Q := by
  refine x_goes6 h0 hW hs (fBut_ok hW s w) (fun S b Q hO hR hb hn hsm => ?_) hQ
  unfold wp_w_stumble_6 wp_t_stumble_6
  rw [hO 3, hw0]
  refine x_stumbleAt hR hW hs hb ?_
  cases e : stk D s b with
  | none => exact ⟨fun _ => hn (by unfold fBut; rw [e]), fun c => absurd c (m1_ne' (by omega))⟩
  | some k =>
    have hk : k < 8 := by have := (fndF_some e).2.1; have := hW.1.2.2.2.2.1; omega
    have hi : nI k = nI w ↔ k = w := nI_eq (by omega) (by omega)
    refine ⟨fun c => ?_, fun c => hn ?_⟩
    · refine hsm (D 22 k, D 23 k) (nI k) ?_ (m1_ne (by omega)) (fun Q2 q => (x_doeslag6 hR hk Q2).1 q) (fun S2 hR2 Q2 q => (x_doeslag6 hR2 hk Q2).2 q)
      unfold fBut
      rw [e]
      exact if_neg (fun z => c (hi.mpr z))
    · unfold fBut
      rw [e]
      exact if_pos (hi.mp c)
theorem div60 : ∀ n, n < 3602 → (nI n - 1) / 60 = (if n = 0 then 0 else nI ((n - 1) / 60)) ∧ (irm (nI n - 1) 60) / 10 = (if n = 0 then 0 else nI ((n - 1) % 60 / 10)) ∧ irm (nI n - 1) 10 = (if n = 0 then -1 else nI ((n - 1) % 10)) := by
  intro n hn
  rcases Nat.eq_zero_or_pos n with rfl | h
  · decide +kernel
  · rw [if_neg (by omega), if_neg (by omega), if_neg (by omega), show (1 : Int32) = nI 1 from rfl, pk_sub (by omega), p_lit 60, p_lit 10, pk_div (by omega) (by decide) (by decide), rem_nI (by omega) (by decide) (by decide), pk_div (by omega) (by decide) (by decide), rem_nI (by omega) (by decide) (by decide)]
    exact ⟨rfl, rfl, rfl⟩
theorem x_thought {D : Dn} {S0 : St} {Q : St → Prop} (h0 : RX D S0) (hW : WF D) {s n : Nat} (hs : s < 2) (hn9 : n < 3602) (hw0 : S0.1 7 2 = nI n) (hQ : ∀ S, UPx 2 3 200 D s (fOne n) 200 S0 S → Q S) : wp_p_goes_7 S0 (nI s) Q := by
  refine x_goes7 h0 hW hs (fOne_ok n) (fun S b Q hO hR hb hn hsm => ?_) hQ
  obtain ⟨d1, d2, d3⟩ := div60 n hn9
  unfold wp_h_stumble_7
  rw [hO 2, hw0, d1, le0 (show n < 2 ^ 31 by omega)]
  refine ⟨fun c => hn (by unfold fOne; rw [if_neg (by omega)]), fun c => ?_⟩
  rw [if_neg c, nI_eq (by omega) (by omega)]
  refine ⟨fun c2 => hn (by unfold fOne; rw [if_neg (by omega)]), fun c2 => ?_⟩
  refine hsm ((n - 1) % 60 / 10, (n - 1) % 10) (nI n) (by unfold fOne; rw [if_pos ⟨by omega, c2⟩]) (m1_ne (by omega)) (fun Q2 q => ?_) (fun S2 _ Q2 q => ?_)
  · unfold wp_h_does_7
    rw [d2, if_neg c]; exact q
  · unfold wp_h_lag_7
    rw [d3, if_neg c]; exact q
