/-! THE PLAIN LAW: crosses, returns, meet, cell, longest -/
set_option maxRecDepth 100000
/-- how long one waits -/
def dst (e a b : Nat) : Nat := (a + e - b % e) % e
theorem dst_all {e a : Nat} (h1 : 1 ≤ e) (h9 : e ≤ 9) (ha : a < e) (b : Nat) : (b % e = a → dst e a b = 0) ∧ (¬ b % e = a → dst e a (b + 1) + 1 = dst e a b) ∧ dst e a b ≤ 8 := by
  unfold dst
  rcases (show e = 1 ∨ e = 2 ∨ e = 3 ∨ e = 4 ∨ e = 5 ∨ e = 6 ∨ e = 7 ∨ e = 8 ∨ e = 9 by omega) with rfl | rfl | rfl | rfl | rfl | rfl | rfl | rfl | rfl <;> omega
def ent (D : Dn) (k b : Nat) : Nat := b + dst (D 24 k) (D 25 k) b + 1
theorem ent_le {D : Dn} (hW : WF D) {k : Nat} (hk : k < D 15 5) (b : Nat) : ent D k b ≤ b + 9 := by
  have w := hW.2.2.2.2.1 k hk
  have := (dst_all w.1 w.2.1 w.2.2 b).2.2
  unfold ent
  omega
/-- over the hill, back: the beat behind so many cells -/
def ov (D : Dn) (b : Nat) : Nat → Nat
  | 0 => b
  | k + 1 => ent D k (ov D b k)
def bk (D : Dn) (b : Nat) : Nat → Nat
  | 0 => b
  | k + 1 => ent D (D 15 5 - 1 - k) (bk D b k)
theorem ov_le {D : Dn} (hW : WF D) (b : Nat) : ∀ k, k ≤ D 15 5 → ov D b k ≤ b + 9 * k
  | 0, _ => Nat.le_refl _
  | k + 1, h => by
    have h1 := ov_le hW b k (by omega)
    have h2 := ent_le hW (k := k) (by omega) (ov D b k)
    unfold ov
    omega
theorem bk_le {D : Dn} (hW : WF D) (b : Nat) : ∀ k, k ≤ D 15 5 → bk D b k ≤ b + 9 * k
  | 0, _ => Nat.le_refl _
  | k + 1, h => by
    have h1 := bk_le hW b k (by omega)
    have h2 := ent_le hW (k := D 15 5 - 1 - k) (by omega) (bk D b k)
    unfold bk
    omega
theorem RX.evy {D : Dn} {S : St} (h : RX D S) {k : Nat} (hk : k < 12) : S.1 24 k = nI (D 24 k) ∧ S.1 25 k = nI (D 25 k) := ⟨h 24 k (by unfold inD; omega), h 25 k (by unfold inD; omega)⟩
theorem RM.evy {D : Dn} {S : St} (h : RM D 0 S) {k : Nat} (hk : k < D 15 5) : S.1 12 (2 * k) = nI (D 24 k) ∧ S.1 12 (2 * k + 1) = nI (D 25 k) := by
  have := h.2.2.2.2.2.1 k hk
  rwa [Nat.mul_zero, Nat.zero_add] at this
theorem x_entered {D : Dn} {S : St} (hX : RX D S) (hW : WF D) {k b : Nat} (hk : k < D 15 5) (hb : b < 100000) {Q : Int32 → Prop} (hq : Q (nI (ent D k b))) : wp_o_entered S (nI b) (nI k) Q := by
  have w5 := hW.1.2.2.2.2.2.1
  have w := hW.2.2.2.2.1 k hk
  obtain ⟨e1, e2⟩ := hX.evy (k := k) (by omega)
  have key : ∀ d b, dst (D 24 k) (D 25 k) b = d → b + d < 200000 → Q (nI (b + d + 1)) → wp_o_entered_b2 S Q (nI k) (d + 1) (nI b) := by
    intro d
    induction d with
    | zero =>
      intro b hd hb hq
      have dd := dst_all w.1 w.2.1 w.2.2 b
      have h0 : b % D 24 k = D 25 k := Classical.byContradiction fun z => by have := dd.2.1 z; omega
      rw [wp_o_entered_b2]
      dsimp only
      rw [nI_clamp (show k < 2 ^ 31 by omega), e1, e2, rem_nI (by omega) (by omega) (by omega), nI_1 b, h0]
      exact ⟨vp_in_nI (by omega) (by decide), nI_ne0 (by omega) (by omega), vp_in_nI (by omega) (by decide), fun _ => hq, fun c => absurd rfl c⟩
    | succ d ih =>
      intro b hd hb hq
      have dd := dst_all w.1 w.2.1 w.2.2 b
      have h0 : ¬ b % D 24 k = D 25 k := fun z => by have := dd.1 z; omega
      have hl := Nat.mod_lt b (show 0 < D 24 k by omega)
      rw [wp_o_entered_b2]
      dsimp only
      rw [nI_clamp (show k < 2 ^ 31 by omega), e1, e2, rem_nI (by omega) (by omega) (by omega), nI_1 b, nI_eq (by omega) (by omega)]
      exact ⟨vp_in_nI (by omega) (by decide), nI_ne0 (by omega) (by omega), vp_in_nI (by omega) (by decide), fun c => absurd c h0, fun _ => ih (b + 1) (by have := dd.2.1 h0; omega) (by omega) (by rwa [show b + 1 + d + 1 = b + (d + 1) + 1 by omega])⟩
  have := (dst_all w.1 w.2.1 w.2.2 b).2.2
  exact ⟨_, key _ b rfl (by omega) hq⟩
/-- so many cells of the first row hold what f says; else nothing has changed -/
def UF (c0 o : Nat) (f : Nat → Nat) (j : Nat) (S0 S : St) : Prop := (∀ c k, S.1 c k = if c = c0 ∧ o ≤ k ∧ k < o + j then nI (f (k - o)) else S0.1 c k) ∧ S.2 = S0.2
theorem x_goesOver {D : Dn} {S0 : St} (hX : RX D S0) (hW : WF D) {b : Nat} (hb : b < 200) {Q : Int32 → St → Prop} (hq : ∀ S, UF 9 0 (fun k => ov D b (k + 1)) (D 15 5) S0 S → Q (nI (ov D b (D 15 5) + 1)) S) : wp_o_goesOver S0 (nI b) Q := by
  have w5 := hW.1.2.2.2.2.2.1
  have key : ∀ m j S, j + m = D 15 5 → UF 9 0 (fun k => ov D b (k + 1)) j S0 S → wp_o_goesOver_b4 Q (m + 1) S (nI (ov D b j)) (nI j) := by
    intro m
    induction m with
    | zero =>
      intro j S hj hU
      obtain rfl : j = D 15 5 := by omega
      have hX1 : RX D S := fun c k q => by rw [hU.1, if_neg (by unfold inD at q; omega)]; exact hX c k q
      rw [wp_o_goesOver_b4]
      dsimp only
      rw [hX1.g (k := 5) (by decide), nI_1]
      exact ⟨fun _ => hq S hU, fun c => absurd (nI_le (Nat.le_refl _) (by omega)) c⟩
    | succ m ih =>
      intro j S hj hU
      have hX1 : RX D S := fun c k q => by rw [hU.1, if_neg (by unfold inD at q; omega)]; exact hX c k q
      have hl := ov_le hW b j (by omega)
      rw [wp_o_goesOver_b4]
      dsimp only
      rw [hX1.g (k := 5) (by decide), nI_clamp (show j < 2 ^ 31 by omega), nI_1 j]
      refine ⟨fun c => absurd c (nI_ge (by omega) (by omega)), fun _ => x_entered hX1 hW (by omega) (by omega) ⟨vp_in_nI (by omega) (by decide), ih (j + 1) _ (by omega) ⟨fun c k => ?_, hU.2⟩⟩⟩
      rw [sI_1, hU.1]
      by_cases h1 : c = 9 ∧ k = j
      · obtain ⟨rfl, rfl⟩ := h1
        rw [if_pos ⟨rfl, rfl⟩, if_pos ⟨rfl, by omega, by omega⟩]
        rfl
      · rw [if_neg h1]
        by_cases h2 : c = 9 ∧ 0 ≤ k ∧ k < 0 + j
        · rw [if_pos h2, if_pos ⟨h2.1, h2.2.1, by omega⟩]
        · rw [if_neg h2, if_neg (by omega)]
  exact ⟨_, key (D 15 5) 0 S0 (by omega) ⟨fun c k => by rw [if_neg (by omega)], rfl⟩⟩
theorem x_goesBack {D : Dn} {S0 : St} (hX : RX D S0) (hW : WF D) {b : Nat} (hb : b < 200) {Q : Int32 → St → Prop} (hq : ∀ S, UF 10 0 (fun k => bk D b (D 15 5 - k)) (D 15 5) S0 S → Q (nI (bk D b (D 15 5) + 1)) S) : wp_o_goesBack S0 (nI b) Q := by
  have w5 := hW.1.2.2.2.2.2.1
  -- m cells are left, the last of them next
  have key : ∀ m S, m ≤ D 15 5 → ((∀ c k, S.1 c k = if c = 10 ∧ m ≤ k ∧ k < D 15 5 then nI (bk D b (D 15 5 - k)) else S0.1 c k) ∧ S.2 = S0.2) → wp_o_goesBack_b12 Q (m + 1) S (nI (bk D b (D 15 5 - m))) (nI m - 1) := by
    intro m
    induction m with
    | zero =>
      intro S hm hU
      rw [wp_o_goesBack_b12]
      dsimp only
      rw [Nat.sub_zero, nI_1]
      refine ⟨fun _ => hq S ⟨fun c k => ?_, hU.2⟩, fun c => absurd (by decide) c⟩
      rw [hU.1]
      by_cases h : c = 10 ∧ 0 ≤ k ∧ k < D 15 5
      · rw [if_pos h, if_pos ⟨h.1, h.2.1, by omega⟩]; rfl
      · rw [if_neg h, if_neg (by omega)]
    | succ m ih =>
      intro S hm hU
      have hX1 : RX D S := fun c k q => by rw [hU.1, if_neg (by unfold inD at q; omega)]; exact hX c k q
      have hl := bk_le hW b (D 15 5 - (m + 1)) (by omega)
      have em : nI (m + 1) - 1 = nI m := nI_pred m
      rw [em, wp_o_goesBack_b12]
      dsimp only
      rw [nI_clamp (show m < 2 ^ 31 by omega), show nI m + (-1) = nI m - 1 from (Int32.sub_eq_add_neg ..).symm]
      have eb : ent D m (bk D b (D 15 5 - (m + 1))) = bk D b (D 15 5 - m) := by
        rw [show D 15 5 - m = (D 15 5 - (m + 1)) + 1 by omega, bk]
        congr 1
        omega
      refine ⟨fun c => absurd c (nI_pos (by omega)), fun _ => x_entered hX1 hW (by omega) (by omega) ⟨vp_in_nI (by omega) (by decide), ?_⟩⟩
      rw [eb]
      refine ih _ (by omega) ⟨fun c k => ?_, hU.2⟩
      rw [sI_1, hU.1]
      by_cases h1 : c = 10 ∧ k = m
      · obtain ⟨rfl, rfl⟩ := h1
        rw [if_pos ⟨rfl, rfl⟩, if_pos ⟨rfl, by omega, by omega⟩]
      · rw [if_neg h1]
        by_cases h2 : c = 10 ∧ m + 1 ≤ k ∧ k < D 15 5
        · rw [if_pos h2, if_pos ⟨h2.1, by omega, h2.2.2⟩]
        · rw [if_neg h2, if_neg (by omega)]
  have k0 := key (D 15 5) S0 (Nat.le_refl _) ⟨fun c k => by rw [if_neg (by omega)], rfl⟩
  rw [Nat.sub_self] at k0
  unfold wp_o_goesBack
  rw [hX.g (k := 5) (by decide)]
  exact ⟨_, k0⟩
/-- by sides the beat behind so many cells; which cell that is -/
def wkN (D : Dn) (s b j : Nat) : Nat := if s = 0 then ov D b j else bk D b j
def wkC (D : Dn) (s j : Nat) : Nat := if s = 0 then j else D 15 5 - 1 - j
theorem wkN_s (D : Dn) (s b j : Nat) : wkN D s b (j + 1) = ent D (wkC D s j) (wkN D s b j) := by
  unfold wkN wkC
  by_cases h : s = 0
  · rw [if_pos h, if_pos h, if_pos h, ov]
  · rw [if_neg h, if_neg h, if_neg h, bk]
theorem wkN_le {D : Dn} (hW : WF D) (s b : Nat) {k : Nat} (hk : k ≤ D 15 5) : wkN D s b k ≤ b + 9 * k := by
  unfold wkN
  by_cases h : s = 0
  · rw [if_pos h]; exact ov_le hW b k hk
  · rw [if_neg h]; exact bk_le hW b k hk
/-- what of the reference's cells holds the walk of side s, so far -/
def UW (D : Dn) (s b j : Nat) (S0 S : St) : Prop := (∀ i, i < j → S.1 20 (12 * s + wkC D s i) = nI (wkN D s b (i + 1))) ∧ (∀ c k, ¬ (c = 20 ∧ 12 * s ≤ k ∧ k < 12 * s + 12) → S.1 c k = S0.1 c k) ∧ S.2 = S0.2
theorem m_walks {D : Dn} {S0 : St} (hM : RM D 0 S0) (hW : WF D) {s b : Nat} (hs : s < 2) (hb : b < 200) {Q : Int32 → St → Prop} (hq : ∀ S, UW D s b (D 15 5) S0 S → Q (nI (wkN D s b (D 15 5) + 1)) S) : wp_m_walks S0 (nI s) (nI b) Q := by
  have w5 := hW.1.2.2.2.2.2.1
  have kn : ∀ j S, UW D s b j S0 S → KN S0 S := fun j S h => ⟨fun c k q => h.2.1 c k (by unfold kM at q; omega), fun k => by rw [h.2.2]⟩
  have key : ∀ m j S, j + m = D 15 5 → UW D s b j S0 S → wp_m_walks_b5 Q (nI s) (m + 1) S (nI (wkN D s b j)) (nI j) := by
    intro m
    induction m with
    | zero =>
      intro j S hj hU
      obtain rfl : j = D 15 5 := by omega
      have hM1 := (kn _ S hU).rm hM
      rw [wp_m_walks_b5]
      dsimp only
      rw [show S.1 7 8 = nI (D 15 5) from hM1.h (j := 8) (by decide), nI_1 (wkN D s b (D 15 5))]
      exact ⟨fun _ => hq S hU, fun c => absurd (nI_le (Nat.le_refl _) (by omega)) c⟩
    | succ m ih =>
      intro j S hj hU
      have hM1 := (kn _ S hU).rm hM
      have hl := wkN_le hW s b (k := j) (by omega)
      have hc : wkC D s j < D 15 5 := by
        unfold wkC
        by_cases h : s = 0
        · rw [if_pos h]; omega
        · rw [if_neg h]; omega
      have w := hW.2.2.2.2.1 _ hc
      obtain ⟨e1, e2⟩ := hM1.evy hc
      have inner : ∀ (S1 : St), S1 = S → ∀ d x, dst (D 24 (wkC D s j)) (D 25 (wkC D s j)) x = d → x + d + 1 = wkN D s b (j + 1) → wp_m_walks_b40 Q (nI s) (fun Sy y3 y4 => wp_m_walks_b5 Q (nI s) (m + 1) Sy y3 y4) (d + 1) S1 (nI x) (nI j) (nI (wkC D s j)) := by
        intro S1 hS1 d
        subst hS1
        have hx9 := wkN_le hW s b (k := j + 1) (by omega)
        induction d with
        | zero =>
          intro x hd hx
          have dd := dst_all w.1 w.2.1 w.2.2 x
          have h0 : x % D 24 (wkC D s j) = D 25 (wkC D s j) := Classical.byContradiction fun z => by have := dd.2.1 z; omega
          rw [wp_m_walks_b40]
          dsimp only
          rw [show (2 : Int32) * nI (wkC D s j) = nI (2 * wkC D s j) by rw [p_lit 2, pk_mul], nI_1 (2 * wkC D s j), nI_clamp (show 2 * wkC D s j < 2 ^ 31 by omega), nI_clamp (show 2 * wkC D s j + 1 < 2 ^ 31 by omega), e1, e2, rem_nI (by omega) (by omega) (by omega), h0, e12, nI_clamp (show 12 * s + wkC D s j < 2 ^ 31 by omega), nI_1 x, nI_1 j, show x + 1 = wkN D s b (j + 1) by omega]
          refine ⟨vp_in_nI (by omega) (by decide), nI_ne0 (by omega) (by omega), vp_in_nI (by omega) (by decide), fun _ => ⟨vp_in_nI (by omega) (by decide), ih (j + 1) _ (by omega) ⟨fun i hi => ?_, fun c k n => ?_, hU.2.2⟩⟩, fun c => absurd rfl c⟩
          · rw [sI_1]
            by_cases h1 : i = j
            · subst h1; rw [if_pos ⟨rfl, rfl⟩]
            · rw [if_neg (fun z => h1 ?_)]
              · exact hU.1 i (by omega)
              · have := z.2
                unfold wkC at this
                by_cases h : s = 0
                · rw [if_pos h, if_pos h] at this; omega
                · rw [if_neg h, if_neg h] at this; omega
          · rw [sI_1, if_neg (by omega)]
            exact hU.2.1 c k n
        | succ d ih2 =>
          intro x hd hx
          have dd := dst_all w.1 w.2.1 w.2.2 x
          have h0 : ¬ x % D 24 (wkC D s j) = D 25 (wkC D s j) := fun z => by have := dd.1 z; omega
          have hlt := Nat.mod_lt x (show 0 < D 24 (wkC D s j) by omega)
          rw [wp_m_walks_b40]
          dsimp only
          rw [show (2 : Int32) * nI (wkC D s j) = nI (2 * wkC D s j) by rw [p_lit 2, pk_mul], nI_1 (2 * wkC D s j), nI_clamp (show 2 * wkC D s j < 2 ^ 31 by omega), nI_clamp (show 2 * wkC D s j + 1 < 2 ^ 31 by omega), e1, e2, rem_nI (by omega) (by omega) (by omega), nI_eq (by omega) (by omega), nI_1 x]
          exact ⟨vp_in_nI (by omega) (by decide), nI_ne0 (by omega) (by omega), vp_in_nI (by omega) (by decide), fun c => absurd c h0, fun _ => ih2 (x + 1) (by have := dd.2.1 h0; omega) (by omega)⟩
      have fin := inner S rfl _ (wkN D s b j) rfl (by rw [wkN_s]; rfl)
      rw [wp_m_walks_b5]
      dsimp only
      rw [show S.1 7 8 = nI (D 15 5) from hM1.h (j := 8) (by decide), eq0 (show s < 2 ^ 31 by omega)]
      refine ⟨fun c => absurd c (nI_ge (by omega) (by omega)), fun _ => ⟨fun c => ⟨dst (D 24 (wkC D s j)) (D 25 (wkC D s j)) (wkN D s b j) + 1, ?_⟩, fun c => ⟨dst (D 24 (wkC D s j)) (D 25 (wkC D s j)) (wkN D s b j) + 1, ?_⟩⟩⟩
      · rw [show nI (D 15 5) - 1 - nI j = nI (wkC D s j) by unfold wkC; rw [if_neg c, show (1 : Int32) = nI 1 from rfl, pk_sub (by omega), pk_sub (by omega)]]
        exact fin
      · have e : wkC D s j = j := if_pos c
        rw [e] at fin ⊢
        exact fin
  unfold wp_m_walks
  have k0 := key (D 15 5) 0 S0 (by omega) ⟨fun i hi => absurd hi (by omega), fun c k n => rfl, rfl⟩
  rw [show wkN D s b 0 = b by unfold wkN; by_cases h : s = 0 <;> simp [h, ov, bk]] at k0
  exact ⟨_, k0⟩
theorem m_known_eq {n : Nat} (h : n ≤ 1000) (Q : Int32 → Prop) : wp_m_known (nI n) Q = Q (nI n) := by
  unfold wp_m_known
  rw [p_lit 1000, nI_leI (by omega) (by decide)]
  simp [h]
section
variable {L : Lx} {I : Ix} {S S' : St}
theorem UF.x {c0 o : Nat} {f : Nat → Nat} {j : Nat} {S0 S : St} (h : UF c0 o f j S0 S) (hc : c0 = 9 ∨ c0 = 10) : KX S0 S := fun c k q => by
  rw [h.1, if_neg (by unfold kX at q; omega)]
theorem UW.n {D : Dn} {s b j : Nat} {S0 S : St} (h : UW D s b j S0 S) : KN S0 S := ⟨fun c k q => h.2.1 c k (by unfold kM at q; omega), fun k => by rw [h.2.2]⟩
theorem pl_crosses (h : R9 L I S S') (x : Int32) : wp_o_crosses S x (fun v S1 => wp_m_crosses S' x (fun v' T => v = v' ∧ R9 L I S1 T)) := by
  obtain ⟨D, hW, hX, hM, -⟩ := id h
  have hM2 := (kn0 S' 0).rm hM
  have w5 := hW.1.2.2.2.2.2.1
  unfold wp_o_crosses
  try dsimp only
  rw [o_isBeat_eq hX hW, if_q]
  refine ⟨fun c => ?_, fun c => ?_⟩
  · unfold wp_m_crosses
    try dsimp only
    rw [m_isDance_eq hM2.lines hW, m_isBeat_eq, if_q, if_q]
    have k := h.keep (KX.rf S) (kn0 S' 0)
    exact ⟨fun _ => ⟨rfl, k⟩, fun c1 => ⟨fun _ => ⟨rfl, k⟩, fun c2 => absurd ⟨c1, c2⟩ c⟩⟩
  · obtain ⟨b, hb, rfl⟩ := isI_ex c.2 (by decide)
    have hl := ov_le hW b (D 15 5) (Nat.le_refl _)
    refine x_goesOver hX hW hb (fun S1 h1 => ?_)
    unfold wp_m_crosses
    try dsimp only
    rw [m_isDance_eq hM2.lines hW, m_isBeat_eq, if_q, if_q]
    refine ⟨fun z => absurd c.1 z, fun _ => ⟨fun z => absurd c.2 z, fun _ => m_walks (s := 0) hM2 hW (by decide) hb (fun T hT => ?_)⟩⟩
    rw [show wkN D 0 b (D 15 5) = ov D b (D 15 5) from if_pos rfl, m_known_eq (by omega)]
    exact ⟨rfl, h.keep (h1.x (Or.inl rfl)) ((kn0 S' 0).tr hT.n)⟩
theorem pl_returns (h : R9 L I S S') (x : Int32) : wp_o_returns S x (fun v S1 => wp_m_returns S' x (fun v' T => v = v' ∧ R9 L I S1 T)) := by
  obtain ⟨D, hW, hX, hM, -⟩ := id h
  have hM2 := (kn0 S' 0).rm hM
  have w5 := hW.1.2.2.2.2.2.1
  unfold wp_o_returns
  try dsimp only
  rw [o_isBeat_eq hX hW, if_q]
  refine ⟨fun c => ?_, fun c => ?_⟩
  · unfold wp_m_returns
    try dsimp only
    rw [m_isDance_eq hM2.lines hW, m_isBeat_eq, if_q, if_q]
    have k := h.keep (KX.rf S) (kn0 S' 0)
    exact ⟨fun _ => ⟨rfl, k⟩, fun c1 => ⟨fun _ => ⟨rfl, k⟩, fun c2 => absurd ⟨c1, c2⟩ c⟩⟩
  · obtain ⟨b, hb, rfl⟩ := isI_ex c.2 (by decide)
    have hl := bk_le hW b (D 15 5) (Nat.le_refl _)
    refine x_goesBack hX hW hb (fun S1 h1 => ?_)
    unfold wp_m_returns
    try dsimp only
    rw [m_isDance_eq hM2.lines hW, m_isBeat_eq, if_q, if_q]
    refine ⟨fun z => absurd c.1 z, fun _ => ⟨fun z => absurd c.2 z, fun _ => m_walks (s := 1) hM2 hW (by decide) hb (fun T hT => ?_)⟩⟩
    rw [show wkN D 1 b (D 15 5) = bk D b (D 15 5) from if_neg (by decide), m_known_eq (by omega)]
    exact ⟨rfl, h.keep (h1.x (Or.inr rfl)) ((kn0 S' 0).tr hT.n)⟩
-- ---- where two meet
def mtV (D : Dn) (b o k : Nat) : Nat := max (ov D b (k + 1)) (bk D o (D 15 5 - k))
def mtB (D : Dn) (b o : Nat) : Nat → Option (Nat × Nat)
  | 0 => none
  | j + 1 => match mtB D b o j with
    | none => some (mtV D b o j, j)
    | some q => if mtV D b o j < q.1 then some (mtV D b o j, j) else some q
theorem mtB_ok {D : Dn} (hW : WF D) {b o : Nat} (hb : b < 200) (ho : o < 200) : ∀ j q, j ≤ D 15 5 → mtB D b o j = some q → q.1 ≤ 400 ∧ q.2 < 12
  | 0, q, _, h => by cases h
  | j + 1, q, hj, h => by
    have w5 := hW.1.2.2.2.2.2.1
    have h1 := ov_le hW b (j + 1) hj
    have h2 := bk_le hW o (D 15 5 - j) (by omega)
    have hv : mtV D b o j ≤ 400 := by unfold mtV; omega
    unfold mtB at h
    cases e : mtB D b o j with
    | none =>
      rw [e] at h
      cases h
      exact ⟨hv, by omega⟩
    | some q2 =>
      rw [e] at h
      dsimp only at h
      by_cases c : mtV D b o j < q2.1
      · rw [if_pos c] at h; cases h; exact ⟨hv, by omega⟩
      · rw [if_neg c] at h
        rw [← Option.some.inj h]
        exact mtB_ok hW hb ho j q2 (by omega) e
def mtA (q : Option (Nat × Nat)) : Int32 × Int32 := match q with
  | none => (-1, -1)
  | some q => (nI q.1, nI q.2)
theorem jm_max_nI {a b : Nat} (ha : a < 2 ^ 31) (hb : b < 2 ^ 31) (Q : Int32 → Prop) : wp_jm_max (nI a) (nI b) Q = Q (nI (max a b)) := by
  unfold wp_jm_max
  rw [nI_ltI ha hb]
  by_cases h : a < b
  · rw [Nat.max_eq_right (by omega)]; simp [h]
  · rw [Nat.max_eq_left (by omega)]; simp [h]
theorem x_meetCell {D : Dn} (hX : RX D S) (hW : WF D) {b o : Nat} (hb : b < 200) (ho : o < 200) {Q : Int32 → St → Prop} (hq : ∀ S1, KX S S1 → S1.1 0 20 = (mtA (mtB D b o (D 15 5))).1 → Q (mtA (mtB D b o (D 15 5))).2 S1) : wp_o_meetCell S (nI b) (nI o) Q := by
  have w5 := hW.1.2.2.2.2.2.1
  unfold wp_o_meetCell
  refine x_goesOver hX hW hb (fun S1 h1 => x_goesBack ((h1.x (Or.inl rfl)).rx hX) hW ho (fun S2 h2 => ?_))
  have k2 : KX S S2 := (h1.x (Or.inl rfl)).tr (h2.x (Or.inr rfl))
  have key : ∀ m j T, j + m = D 15 5 → (∀ c k, ¬ (c = 0 ∧ k = 20) → T.1 c k = S2.1 c k) → T.1 0 20 = (mtA (mtB D b o j)).1 → wp_o_meetCell_b22 Q (m + 1) T (mtA (mtB D b o j)).2 (nI j) := by
    intro m
    induction m with
    | zero =>
      intro j T hj hT h20
      obtain rfl : j = D 15 5 := by omega
      have kT : KX S T := k2.tr (fun c k q => hT c k (by unfold kX at q; omega))
      rw [wp_o_meetCell_b22]
      dsimp only
      rw [(kT.rx hX).g (k := 5) (by decide)]
      exact ⟨fun _ => hq T kT h20, fun c => absurd (nI_le (Nat.le_refl _) (by omega)) c⟩
    | succ m ih =>
      intro j T hj hT h20
      have kT : KX S T := k2.tr (fun c k q => hT c k (by unfold kX at q; omega))
      have l1 := ov_le hW b (j + 1) (by omega)
      have l2 := bk_le hW o (D 15 5 - j) (by omega)
      have e9 : T.1 9 j = nI (ov D b (j + 1)) := by rw [hT 9 j (by omega), h2.1, if_neg (by omega), h1.1, if_pos ⟨rfl, by omega, by omega⟩]; rfl
      have e10 : T.1 10 j = nI (bk D o (D 15 5 - j)) := by rw [hT 10 j (by omega), h2.1, if_pos ⟨rfl, by omega, by omega⟩]; rfl
      rw [wp_o_meetCell_b22]
      dsimp only
      rw [(kT.rx hX).g (k := 5) (by decide), nI_clamp (show j < 2 ^ 31 by omega), e9, e10, jm_max_nI (by omega) (by omega), nI_1 j, h20]
      have hv : mtV D b o j ≤ 400 := by unfold mtV; omega
      rw [show max (ov D b (j + 1)) (bk D o (D 15 5 - j)) = mtV D b o j from rfl]
      have wr : mtB D b o (j + 1) = some (mtV D b o j, j) → wp_o_meetCell_b22 Q (m + 1) (sI T 0 20 (nI (mtV D b o j))) (nI j) (nI (j + 1)) := by
        intro e
        have := ih (j + 1) (sI T 0 20 (nI (mtV D b o j))) (by omega) (fun c k n => by rw [sI_1, if_neg n]; exact hT c k n) (by rw [sI_1, if_pos ⟨rfl, rfl⟩, e]; rfl)
        rw [e] at this
        exact this
      refine ⟨fun c => absurd c (nI_ge (by omega) (by omega)), fun _ => ⟨vp_in_nI (by omega) (by decide), vp_in_nI (by omega) (by decide), ?_⟩⟩
      cases e : mtB D b o j with
      | none =>
        exact ⟨fun _ => wr (by rw [mtB, e]), fun c => absurd rfl c⟩
      | some q =>
        have hq2 := mtB_ok hW hb ho j q (by omega) e
        show (nI q.2 = -1 → _) ∧ (¬ nI q.2 = -1 → ((nI (mtV D b o j) < nI q.1 → _) ∧ (¬ nI (mtV D b o j) < nI q.1 → _)))
        rw [nI_ltI (by omega) (by omega)]
        refine ⟨fun c => absurd c (m1_ne (by omega)), fun _ => ⟨fun c => wr (by rw [mtB, e]; exact if_pos c), fun c => ?_⟩⟩
        have e2 : mtB D b o (j + 1) = some q := by rw [mtB, e]; exact if_neg c
        have := ih (j + 1) T (by omega) hT (by rw [h20, e, e2])
        rw [e2] at this
        exact this
  exact ⟨_, key (D 15 5) 0 _ (by omega) (fun c k n => by rw [sI_1, if_neg n]) (by rw [sI_1, if_pos ⟨rfl, rfl⟩]; rfl)⟩
theorem m_laysMeet {D : Dn} (hM : RM D 0 S) (hW : WF D) {b o : Nat} (hb : b < 200) (ho : o < 200) {Q : St → Prop} (hq : ∀ T, KN S T → (∀ P : Int32 → Prop, P (mtA (mtB D b o (D 15 5))).1 → wp_m_known (T.1 0 37) P) → T.1 0 38 = (mtA (mtB D b o (D 15 5))).2 → Q T) : wp_m_laysMeet S (nI b) (nI o) Q := by
  have w5 := hW.1.2.2.2.2.2.1
  unfold wp_m_laysMeet
  refine m_walks (s := 0) hM hW (by decide) hb (fun S1 h1 => m_walks (s := 1) (h1.n.rm hM) hW (by decide) ho (fun S2 h2 => ?_))
  have k2 : KN S S2 := h1.n.tr h2.n
  let far : Option (Nat × Nat) → Int32 := fun q => match q with | none => nI 1000000 | some q => nI q.1
  have key : ∀ m j T, j + m = D 15 5 → (∀ c k, ¬ (c = 0 ∧ (k = 37 ∨ k = 38)) → T.1 c k = S2.1 c k) → T.2 = S2.2 → T.1 0 37 = far (mtB D b o j) → T.1 0 38 = (mtA (mtB D b o j)).2 → wp_m_laysMeet_b27 Q (m + 1) T (nI j) := by
    intro m
    induction m with
    | zero =>
      intro j T hj hT hT2 h37 h38
      obtain rfl : j = D 15 5 := by omega
      have kT : KN S T := k2.tr ⟨fun c k q => hT c k (by unfold kM at q; omega), fun k => by rw [hT2]⟩
      rw [wp_m_laysMeet_b27]
      dsimp only
      rw [show T.1 7 8 = nI (D 15 5) from (kT.rm hM).h (j := 8) (by decide), h37]
      refine ⟨fun _ => ?_, fun c => absurd (nI_le (Nat.le_refl _) (by omega)) c⟩
      cases e : mtB D b o (D 15 5) with
      | none =>
        refine ⟨fun c => absurd c (by decide), fun _ => hq _ (kT.wI _ (by unfold kM; omega)) (fun P hP => ?_) ?_⟩
        · rw [sI_1, if_neg (by omega), h37, e]
          rw [e] at hP
          exact ⟨fun c => absurd c (by decide), fun _ => hP⟩
        · rw [sI_1, if_pos ⟨rfl, rfl⟩, e]; rfl
      | some q =>
        have hq2 := mtB_ok hW hb ho _ q (Nat.le_refl _) e
        show (nI q.1 ≤ 1000 → Q T) ∧ _
        refine ⟨fun _ => hq T kT (fun P hP => ?_) (by rw [h38]), fun c => absurd (nI_le (b := 1000) (by omega) (by decide)) c⟩
        rw [h37, e]
        rw [e] at hP
        show wp_m_known (nI q.1) P
        rw [m_known_eq (by omega)]
        exact hP
    | succ m ih =>
      intro j T hj hT hT2 h37 h38
      have kT : KN S T := k2.tr ⟨fun c k q => hT c k (by unfold kM at q; omega), fun k => by rw [hT2]⟩
      have l1 := ov_le hW b (j + 1) (by omega)
      have l2 := bk_le hW o (D 15 5 - j) (by omega)
      have e9 : T.1 20 j = nI (ov D b (j + 1)) := by
        rw [hT 20 j (by omega), h2.2.1 20 j (by omega)]
        have := h1.1 j (by omega)
        rwa [show 12 * 0 + wkC D 0 j = j by unfold wkC; simp, show wkN D 0 b (j + 1) = ov D b (j + 1) from if_pos rfl] at this
      have e10 : T.1 20 (12 + j) = nI (bk D o (D 15 5 - j)) := by
        rw [hT 20 (12 + j) (by omega)]
        have := h2.1 (D 15 5 - 1 - j) (by omega)
        rwa [show 12 * 1 + wkC D 1 (D 15 5 - 1 - j) = 12 + j by unfold wkC; rw [if_neg (by decide)]; omega, show wkN D 1 o (D 15 5 - 1 - j + 1) = bk D o (D 15 5 - j) by unfold wkN; rw [if_neg (by decide)]; congr 1; omega] at this
      have hv : mtV D b o j ≤ 400 := by unfold mtV; omega
      rw [wp_m_laysMeet_b27]
      dsimp only
      rw [show T.1 7 8 = nI (D 15 5) from (kT.rm hM).h (j := 8) (by decide), show (12 : Int32) + nI j = nI (12 + j) by rw [p_lit 12, nI_add], nI_clamp (show j < 2 ^ 31 by omega), nI_clamp (show 12 + j < 2 ^ 31 by omega), e9, e10, nI_leI (a := ov D b (j + 1)) (b := bk D o (D 15 5 - j)) (by omega) (by omega)]
      have go : ∀ v, v = mtV D b o j → wp_m_laysMeet_b74 Q (fun Sy y3 => wp_m_laysMeet_b27 Q (m + 1) Sy y3) T (nI j) (nI v) := by
        intro v hv2
        subst hv2
        unfold wp_m_laysMeet_b74
        rw [h37, nI_1 j]
        have wr : mtB D b o (j + 1) = some (mtV D b o j, j) → wp_m_laysMeet_b27 Q (m + 1) (sI (sI T 0 37 (nI (mtV D b o j))) 0 38 (nI j)) (nI (j + 1)) := by
          intro e
          refine ih (j + 1) _ (by omega) (fun c k n => by rw [sI_1, if_neg (by omega), sI_1, if_neg (by omega)]; exact hT c k n) hT2 ?_ ?_
          · rw [sI_1, if_neg (by omega), sI_1, if_pos ⟨rfl, rfl⟩, e]
          · rw [sI_1, if_pos ⟨rfl, rfl⟩, e]; rfl
        cases e : mtB D b o j with
        | none =>
          show (nI (mtV D b o j) < nI 1000000 → _) ∧ (¬ nI (mtV D b o j) < nI 1000000 → _)
          exact ⟨fun _ => wr (by rw [mtB, e]), fun c => absurd (nI_lt (by omega) (by decide)) c⟩
        | some q =>
          have hq2 := mtB_ok hW hb ho j q (by omega) e
          show (nI (mtV D b o j) < nI q.1 → _) ∧ (¬ nI (mtV D b o j) < nI q.1 → _)
          rw [nI_ltI (by omega) (by omega)]
          refine ⟨fun c => wr (by rw [mtB, e]; exact if_pos c), fun c => ?_⟩
          have e2 : mtB D b o (j + 1) = some q := by rw [mtB, e]; exact if_neg c
          exact ih (j + 1) T (by omega) hT hT2 (by rw [h37, e, e2]) (by rw [h38, e, e2])
      refine ⟨fun c => absurd c (nI_ge (by omega) (by omega)), fun _ => ⟨vp_in_nI (by omega) (by decide), vp_in_nI (by omega) (by decide), fun c => ⟨vp_in_nI (by omega) (by decide), go _ ?_⟩, fun c => ⟨vp_in_nI (by omega) (by decide), go _ ?_⟩⟩⟩
      · unfold mtV; omega
      · unfold mtV; omega
  exact ⟨_, key (D 15 5) 0 _ (by omega) (fun c k n => by rw [sI_1, if_neg (by omega), sI_1, if_neg (by omega)]) rfl (by rw [sI_1, if_neg (by omega), sI_1, if_pos ⟨rfl, rfl⟩]; rfl) (by rw [sI_1, if_pos ⟨rfl, rfl⟩]; rfl)⟩
theorem pl_meet (h : R9 L I S S') (x y : Int32) : wp_o_meet S x y (fun v S1 => wp_m_meet S' x y (fun v' T => v = v' ∧ R9 L I S1 T)) := by
  obtain ⟨D, hW, hX, hM, -⟩ := id h
  have hM2 := (kn0 S' 0).rm hM
  have k := h.keep (KX.rf S) (kn0 S' 0)
  have bad : ¬ (0 < D 15 3 ∧ isI x 200 ∧ isI y 200) → wp_m_meet S' x y (fun v' T => -2 = v' ∧ R9 L I S T) := by
    intro c
    unfold wp_m_meet
    try dsimp only
    rw [m_isDance_eq hM2.lines hW, m_isBeat_eq, m_isBeat_eq, if_q, if_q, if_q']
    exact ⟨fun _ => ⟨rfl, k⟩, fun c1 => ⟨fun _ => ⟨rfl, k⟩, fun c2 => ⟨fun c3 => absurd ⟨c1, c2, c3⟩ c, fun _ => ⟨rfl, k⟩⟩⟩⟩
  unfold wp_o_meet
  try dsimp only
  rw [o_isBeat_eq hX hW, o_isBeat_eq hX hW, if_q, if_q']
  refine ⟨fun c => bad (fun z => c ⟨z.1, z.2.1⟩), fun c => ⟨fun c2 => ?_, fun c2 => bad (fun z => c2 ⟨z.1, z.2.2⟩)⟩⟩
  obtain ⟨b, hb, rfl⟩ := isI_ex c.2 (by decide)
  obtain ⟨o, ho, rfl⟩ := isI_ex c2.2 (by decide)
  refine x_meetCell hX hW hb ho (fun S1 k1 h20 => ?_)
  unfold wp_m_meet
  try dsimp only
  rw [m_isDance_eq hM2.lines hW, m_isBeat_eq, m_isBeat_eq, if_q, if_q, if_q']
  refine ⟨fun z => absurd c.1 z, fun _ => ⟨fun z => absurd c.2 z, fun _ => ⟨fun _ => m_laysMeet hM2 hW hb ho (fun T kT hk _ => hk _ ⟨h20, h.keep k1 ((kn0 S' 0).tr kT)⟩), fun z => absurd c2.2 z⟩⟩⟩
theorem pl_cell (h : R9 L I S S') (x y : Int32) : wp_o_cell S x y (fun v S1 => wp_m_cell S' x y (fun v' T => v = v' ∧ R9 L I S1 T)) := by
  obtain ⟨D, hW, hX, hM, -⟩ := id h
  have hM2 := (kn0 S' 0).rm hM
  have k := h.keep (KX.rf S) (kn0 S' 0)
  have bad : ¬ (0 < D 15 3 ∧ isI x 200 ∧ isI y 200) → wp_m_cell S' x y (fun v' T => -2 = v' ∧ R9 L I S T) := by
    intro c
    unfold wp_m_cell
    try dsimp only
    rw [m_isDance_eq hM2.lines hW, m_isBeat_eq, m_isBeat_eq, if_q, if_q, if_q']
    exact ⟨fun _ => ⟨rfl, k⟩, fun c1 => ⟨fun _ => ⟨rfl, k⟩, fun c2 => ⟨fun c3 => absurd ⟨c1, c2, c3⟩ c, fun _ => ⟨rfl, k⟩⟩⟩⟩
  unfold wp_o_cell
  try dsimp only
  rw [o_isBeat_eq hX hW, o_isBeat_eq hX hW, if_q, if_q]
  refine ⟨fun c => bad (fun z => c ⟨z.1, z.2.1⟩), fun c => ⟨fun c2 => bad (fun z => c2 ⟨z.1, z.2.2⟩), fun c2 => ?_⟩⟩
  obtain ⟨b, hb, rfl⟩ := isI_ex c.2 (by decide)
  obtain ⟨o, ho, rfl⟩ := isI_ex c2.2 (by decide)
  refine x_meetCell hX hW hb ho (fun S1 k1 _ => ?_)
  unfold wp_m_cell
  try dsimp only
  rw [m_isDance_eq hM2.lines hW, m_isBeat_eq, m_isBeat_eq, if_q, if_q, if_q']
  refine ⟨fun z => absurd c.1 z, fun _ => ⟨fun z => absurd c.2 z, fun _ => ⟨fun _ => m_laysMeet hM2 hW hb ho (fun T kT _ h38 => ⟨h38.symm, h.keep k1 ((kn0 S' 0).tr kT)⟩), fun z => absurd c2.2 z⟩⟩⟩
def lgN (D : Dn) : Nat → Nat
  | 0 => 0
  | b + 1 => max (lgN D b) (ov D b (D 15 5) + 1 - b)
theorem ov_ge {D : Dn} (b : Nat) : ∀ k, b ≤ ov D b k
  | 0 => Nat.le_refl _
  | k + 1 => by
    have := ov_ge (D := D) b k
    unfold ov ent
    omega
theorem lgN_le {D : Dn} (hW : WF D) : ∀ b, lgN D b ≤ 200
  | 0 => by unfold lgN; omega
  | b + 1 => by
    have w5 := hW.1.2.2.2.2.2.1
    have h1 := lgN_le hW b
    have h2 := ov_le hW b (D 15 5) (Nat.le_refl _)
    unfold lgN
    omega
theorem pl_longest (h : R9 L I S S') : wp_o_longest S (fun v S1 => wp_m_longest S' (fun v' T => v = v' ∧ R9 L I S1 T)) := by
  obtain ⟨D, hW, hX, hM, -⟩ := id h
  have hM2 := (kn0 S' 0).rm hM
  have w5 := hW.1.2.2.2.2.2.1
  unfold wp_o_longest
  try dsimp only
  rw [o_isDance_eq hX hW, if_q']
  refine ⟨fun c => ?_, fun c => ?_⟩
  · have mm : ∀ S1, KX S S1 → wp_m_longest S' (fun v' T => nI (lgN D 200) = v' ∧ R9 L I S1 T) := by
      intro S1 k1
      unfold wp_m_longest
      try dsimp only
      rw [m_isDance_eq hM2.lines hW, if_q']
      refine ⟨fun _ => ?_, fun z => absurd c z⟩
      have loop : ∀ m b T, b + m = 200 → KN (sI S' 0 0 0) T → wp_m_longest_b19 (fun v' T => nI (lgN D 200) = v' ∧ R9 L I S1 T) (m + 1) T (nI (lgN D b)) (nI b) := by
        intro m
        induction m with
        | zero =>
          intro b T hb kT
          obtain rfl : b = 200 := by omega
          rw [wp_m_longest_b19]
          dsimp only
          rw [p_lit 200]
          exact ⟨fun _ => ⟨rfl, h.keep k1 ((kn0 S' 0).tr kT)⟩, fun z => absurd (nI_le (Nat.le_refl _) (by decide)) z⟩
        | succ m ih =>
          intro b T hb kT
          have h1 := lgN_le hW b
          have h2 := ov_le hW b (D 15 5) (Nat.le_refl _)
          have h3 := ov_ge (D := D) b (D 15 5)
          rw [wp_m_longest_b19]
          dsimp only
          rw [p_lit 200]
          refine ⟨fun z => absurd z (nI_ge (by omega) (by decide)), fun _ => m_walks (s := 0) (kT.rm hM2) hW (by decide) (by omega) (fun T2 hT2 => ?_)⟩
          rw [show wkN D 0 b (D 15 5) = ov D b (D 15 5) from if_pos rfl, p_lit 1000, nI_leI (by omega) (by decide), pk_sub (by omega), nI_leI (by omega) (by omega), nI_1 b]
          refine ⟨fun _ => ⟨fun q => ?_, fun q => ?_⟩, fun z => absurd (show ov D b (D 15 5) + 1 ≤ 1000 by omega) z⟩
          · have := ih (b + 1) T2 (by omega) (kT.tr hT2.n)
            rwa [show lgN D (b + 1) = lgN D b from Nat.max_eq_left (by omega)] at this
          · have := ih (b + 1) T2 (by omega) (kT.tr hT2.n)
            rwa [show lgN D (b + 1) = ov D b (D 15 5) + 1 - b from Nat.max_eq_right (by omega)] at this
      exact ⟨_, loop 200 0 _ (by omega) (KN.rf _)⟩
    have loop : ∀ m b S1, b + m = 200 → KX S S1 → wp_o_longest_b14 (fun v S1 => wp_m_longest S' (fun v' T => v = v' ∧ R9 L I S1 T)) (m + 1) S1 (nI (lgN D b)) (nI b) := by
      intro m
      induction m with
      | zero =>
        intro b S1 hb k1
        obtain rfl : b = 200 := by omega
        rw [wp_o_longest_b14]
        dsimp only
        rw [p_lit 200]
        exact ⟨fun _ => mm S1 k1, fun z => absurd (nI_le (Nat.le_refl _) (by decide)) z⟩
      | succ m ih =>
        intro b S1 hb k1
        have h1 := lgN_le hW b
        have h2 := ov_le hW b (D 15 5) (Nat.le_refl _)
        have h3 := ov_ge (D := D) b (D 15 5)
        rw [wp_o_longest_b14]
        dsimp only
        rw [p_lit 200]
        refine ⟨fun z => absurd z (nI_ge (by omega) (by decide)), fun _ => x_goesOver (k1.rx hX) hW (by omega) (fun S2 hS2 => ?_)⟩
        rw [pk_sub (by omega), jm_max_nI (by omega) (by omega), nI_1 b]
        exact ih (b + 1) S2 (by omega) (k1.tr (hS2.x (Or.inl rfl)))
    exact ⟨_, loop 200 0 S (by omega) (KX.rf S)⟩
  · unfold wp_m_longest
    try dsimp only
    rw [m_isDance_eq hM2.lines hW, if_q']
    exact ⟨fun z => absurd z c, fun _ => ⟨rfl, h.keep (KX.rf S) (kn0 S' 0)⟩⟩
end
