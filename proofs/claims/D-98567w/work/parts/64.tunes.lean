/-! THE PLAIN LAW: together, again, most, chorus -/
set_option maxRecDepth 100000
/-- after how many beats the tunes of a set are at once again -/
def lcS (D : Dn) (x : Nat) : Nat → Nat
  | 0 => 1
  | k + 1 => if x.testBit k = true then Nat.lcm (lcS D x k) (D 26 k) else lcS D x k
/-- the tunes of a set are all there at beat n -/
def solP (D : Dn) (x k n : Nat) : Prop := ∀ j, j < k → x.testBit j = true → n % D 26 j = D 27 j
theorem WF.tn {D : Dn} (h : WF D) : D 15 6 ≤ 5 ∧ ∀ k, k < D 15 6 → 1 ≤ D 26 k ∧ D 26 k ≤ 30 ∧ D 27 k < D 26 k := ⟨h.1.2.2.2.2.2.2.1, h.2.2.2.2.2.1⟩
theorem lcS_b {D : Dn} (hW : WF D) (x : Nat) : ∀ k, k ≤ D 15 6 → 0 < lcS D x k ∧ lcS D x k ≤ 30 ^ k
  | 0, _ => ⟨Nat.one_pos, Nat.le_refl 1⟩
  | k + 1, h => by
    obtain ⟨h1, h2⟩ := lcS_b hW x k (by omega)
    obtain ⟨w1, w2, w3⟩ := hW.tn.2 k (by omega)
    rw [lcS]
    have hp : 30 ^ k ≤ 30 ^ (k + 1) := Nat.pow_le_pow_right (by decide) (by omega)
    by_cases c : x.testBit k = true
    · rw [if_pos c]
      refine ⟨Nat.lcm_pos h1 w1, ?_⟩
      have : Nat.lcm (lcS D x k) (D 26 k) ≤ lcS D x k * D 26 k := by
        unfold Nat.lcm
        exact Nat.div_le_self _ _
      exact Nat.le_trans this (by rw [Nat.pow_succ]; exact Nat.mul_le_mul h2 w2)
    · rw [if_neg c]; exact ⟨h1, by omega⟩
theorem p30 {k : Nat} (h : k ≤ 5) : 30 ^ k ≤ 24300000 := Nat.le_trans (Nat.pow_le_pow_right (by decide) h) (by decide)
theorem lcS_dvd {D : Dn} (x : Nat) : ∀ k j, j < k → x.testBit j = true → D 26 j ∣ lcS D x k
  | 0, _, h, _ => absurd h (Nat.not_lt_zero _)
  | k + 1, j, h, hb => by
    rw [lcS]
    by_cases e : j = k
    · subst e; rw [if_pos hb]; exact Nat.dvd_lcm_right _ _
    · have := lcS_dvd (D := D) x k j (by omega) hb
      split
      · exact Nat.dvd_trans this (Nat.dvd_lcm_left _ _)
      · exact this
theorem lcS_least {D : Dn} (x m : Nat) : ∀ k, (∀ j, j < k → x.testBit j = true → D 26 j ∣ m) → lcS D x k ∣ m
  | 0, _ => Nat.one_dvd _
  | k + 1, h => by
    have := lcS_least (D := D) x m k fun j hj => h j (by omega)
    rw [lcS]
    by_cases c : x.testBit k = true
    · rw [if_pos c]; exact Nat.lcm_dvd this (h k (by omega) c)
    · rw [if_neg c]; exact this
theorem sol_add {D : Dn} {x k a : Nat} (t : Nat) (h : solP D x k a) : solP D x k (a + t * lcS D x k) := fun j hj hb => by
  obtain ⟨d, hd⟩ := lcS_dvd (D := D) x k j hj hb
  rw [hd, show t * (D 26 j * d) = D 26 j * (t * d) by rw [Nat.mul_left_comm], Nat.add_mul_mod_self_left]
  exact h j hj hb
theorem sol_dvd {D : Dn} {x k a b : Nat} (ha : solP D x k a) (hb : solP D x k b) : lcS D x k ∣ b - a := lcS_least x _ k fun j hj h => Nat.dvd_of_mod_eq_zero (Nat.sub_mod_eq_zero_of_mod_eq ((hb j hj h).trans (ha j hj h).symm))
theorem sol_ex {D : Dn} {x k a b : Nat} (ha : solP D x k a) (hb : solP D x k b) (h : a ≤ b) : ∃ t, b = a + t * lcS D x k := by
  obtain ⟨t, ht⟩ := sol_dvd ha hb
  exact ⟨t, by rw [Nat.mul_comm, ← ht]; omega⟩
theorem sol_s {D : Dn} {x k n : Nat} : solP D x (k + 1) n ↔ solP D x k n ∧ (x.testBit k = true → n % D 26 k = D 27 k) := by
  constructor
  · exact fun h => ⟨fun j hj => h j (by omega), h k (by omega)⟩
  · rintro ⟨h1, h2⟩ j hj hb
    rcases (show j < k ∨ j = k by omega) with q | q
    · exact h1 j q hb
    · subst q; exact h2 hb
theorem sol_anti {D : Dn} {x n : Nat} {k m : Nat} (h : k ≤ m) (g : solP D x m n) : solP D x k n := fun j hj => g j (by omega)
/-- none of the places tried: none at all -/
theorem nosol {D : Dn} {x k a : Nat} (hL : 0 < lcS D x k) (he : 0 < D 26 k) (ha : solP D x k a) (hb : x.testBit k = true) (h : ∀ j, j ≤ D 26 k → ¬ (a + j * lcS D x k) % D 26 k = D 27 k) : ∀ n, ¬ solP D x (k + 1) n := by
  intro n hn
  have h2 : solP D x (k + 1) (n + (D 26 k * lcS D x k) * a) := by
    rw [sol_s] at hn ⊢
    refine ⟨?_, fun z => ?_⟩
    · rw [show D 26 k * lcS D x k * a = (D 26 k * a) * lcS D x k by rw [Nat.mul_assoc, Nat.mul_comm (lcS D x k), Nat.mul_assoc]]
      exact sol_add _ hn.1
    · rw [Nat.mul_assoc, Nat.add_mul_mod_self_left]; exact hn.2 z
  have hle : a ≤ n + (D 26 k * lcS D x k) * a := Nat.le_trans (Nat.le_mul_of_pos_left a (Nat.mul_pos he hL)) (Nat.le_add_left _ _)
  obtain ⟨J, hJ⟩ := sol_ex ha (sol_s.mp h2).1 hle
  refine h (J % D 26 k) (Nat.le_of_lt (Nat.mod_lt _ he)) ?_
  have e := (sol_s.mp h2).2 hb
  rw [hJ] at e
  rw [← e, Nat.add_mod, Nat.mul_mod, Nat.mod_mod, ← Nat.mul_mod, ← Nat.add_mod]
theorem lcm_e (a b : Nat) : a / Nat.gcd a b * b = Nat.lcm a b := by
  unfold Nat.lcm
  exact Nat.div_mul_right_comm (Nat.gcd_dvd_left a b) b
theorem one_shl : ∀ n, n < 6 → (1 <<< (nI n &&& 31) : Int32) = nI (2 ^ n) ∧ 2 ^ n < 33 := by decide +kernel
section
variable {L : Lx} {I : Ix} {S S' : St}
theorem RX.tun {D : Dn} (h : RX D S) {k : Nat} (hk : k < 5) : S.1 26 k = nI (D 26 k) ∧ S.1 27 k = nI (D 27 k) := ⟨h 26 k (by unfold inD; omega), h 27 k (by unfold inD; omega)⟩
theorem RM.tun {D : Dn} (h : RM D 0 S) {k : Nat} (hk : k < D 15 6) : S.1 13 (2 * k) = nI (D 26 k) ∧ S.1 13 (2 * k + 1) = nI (D 27 k) := by
  have := h.2.2.2.2.2.2.1 k hk
  rwa [show 10 * 0 + 2 * k = 2 * k by omega] at this
theorem m1N {n : Nat} (h : n < 2 ^ 63) : ¬ lN n = -1 := fun c => by
  have := congrArg Int64.toInt c
  rw [pk_lT h, show (-1 : Int64).toInt = -1 by decide] at this
  omega
/-- what joining the first k tunes of a set gives -/
def jnP (D : Dn) (x k : Nat) (v : Int64) : Prop := (∃ a, a ≤ k * 729000000 ∧ solP D x k a ∧ v = lN a) ∨ ((∀ a, ¬ solP D x k a) ∧ v = -1)
theorem x_joins {D : Dn} (hX : RX D S) (hW : WF D) {x : Nat} (hx : x < 64) {Q : St → Prop} (hq : ∀ T, T.1 = S.1 → T.2 0 23 = lN (lcS D x (D 15 6)) → jnP D x (D 15 6) (T.2 0 22) → Q T) : wp_o_joins S (nI x) Q := by
  obtain ⟨w5, wt⟩ := hW.tn
  have e6 := hX.g (k := 6) (by decide)
  have key : ∀ m k T, k + m = D 15 6 → T.1 = S.1 → T.2 0 23 = lN (lcS D x k) → jnP D x k (T.2 0 22) → wp_o_joins_b12 Q (nI x) (m + 1) T (nI k) := by
    intro m
    induction m with
    | zero =>
      intro k T hk h1 h2 h3
      rw [wp_o_joins_b12]
      obtain rfl : k = D 15 6 := by omega
      try dsimp only
      rw [h1, e6]
      exact ⟨fun _ => hq T h1 h2 h3, fun c => absurd (nI_le (Nat.le_refl _) (by omega)) c⟩
    | succ m ih =>
      intro k T hk h1 h2 h3
      obtain ⟨t1, t2, t3⟩ := wt k (by omega)
      obtain ⟨l1, l2⟩ := lcS_b hW x k (by omega)
      have l3 := p30 (k := k) (by omega)
      have i1 := fun (T : St) (h1 : T.1 = S.1) => ih (k + 1) T (by omega) h1
      rw [wp_o_joins_b12]
      dsimp only
      rw [h1, e6, o_has_eq hx (show k < 6 by omega), if_q', nI_clamp (show k < 2 ^ 31 by omega), (hX.tun (show k < 5 by omega)).1, nI_1]
      refine ⟨fun z => absurd z (nI_ge (by omega) (by omega)), fun _ => ⟨fun c => ⟨(in_nI (by omega) (by omega)).mpr (by omega), ?_⟩, fun c => ?_⟩⟩
      · have e23 : lcS D x (k + 1) = Nat.lcm (lcS D x k) (D 26 k) := by rw [lcS, if_pos c]
        have b111 : ∀ T, T.1 = S.1 → T.2 0 23 = lN (lcS D x k) → jnP D x (k + 1) (T.2 0 22) → wp_o_joins_b111 Q (nI x) (fun Sy y2 => wp_o_joins_b12 Q (nI x) (m + 1) Sy y2) T (nI k) (nI (D 26 k)) := by
          intro T g1 g2 g3
          have gp : 0 < Nat.gcd (lcS D x k) (D 26 k) := Nat.gcd_pos_of_pos_right _ t1
          have gl : Nat.gcd (lcS D x k) (D 26 k) ≤ D 26 k := Nat.gcd_le_right _ t1
          have md := Nat.mod_lt (lcS D x k) t1
          unfold wp_o_joins_b111
          rw [nI_l (by omega), g2, lrm_N (by omega) t1 (by omega), lN_i]
          refine ⟨lz' t1 (by omega), x_divisor (by omega) (by omega) ?_⟩
          rw [show Nat.gcd (lcS D x k % D 26 k) (D 26 k) = Nat.gcd (lcS D x k) (D 26 k) by rw [← Nat.gcd_rec, Nat.gcd_comm], nI_l (by omega), pk_lDiv (by omega) gp (by omega), lN_mul, lcm_e, nI_1]
          refine ⟨lz' gp (by omega), i1 _ g1 ?_ ?_⟩
          · rw [e23, sL_2, if_pos ⟨rfl, rfl⟩]
          · rw [sL_2, if_neg (by decide)]; exact g3
        rcases h3 with ⟨a, ha, hs, hv⟩ | ⟨hn, hv⟩
        · have inner : ∀ n j T, j + n = D 26 k → T.1 = S.1 → T.2 0 23 = lN (lcS D x k) → T.2 0 22 = lN (a + j * lcS D x k) → (∀ i, i < j → ¬ (a + i * lcS D x k) % D 26 k = D 27 k) → wp_o_joins_b47 Q (nI x) (fun Sy y2 => wp_o_joins_b12 Q (nI x) (m + 1) Sy y2) (n + 2) T (nI k) (nI (D 26 k)) (nI j) := by
            intro n
            induction n with
            | zero =>
              intro j T hj g1 g2 g3 g4
              have jl : j * lcS D x k ≤ 30 * 24300000 := Nat.mul_le_mul (by omega) (by omega)
              have md := Nat.mod_lt (a + j * lcS D x k) t1
              rw [wp_o_joins_b47]
              dsimp only
              rw [lgc_0, lgc_0, g3, g2, g1, nI_clamp (show k < 2 ^ 31 by omega), (hX.tun (show k < 5 by omega)).2, nI_l (by omega), nI_l (by omega), lrm_N (by omega) t1 (by omega), pk_lEQ (by omega) (by omega), nI_1 j, lN_add]
              refine ⟨fun z => absurd z (m1N (by omega)), fun _ => ⟨lz' t1 (by omega), (in_nI (by omega) (by omega)).mpr (by omega), fun z => b111 T g1 g2 (Or.inl ⟨_, by omega, sol_s.mpr ⟨sol_add _ hs, fun _ => z⟩, g3⟩), fun z => ⟨fun q => absurd q (nI_ge (by omega) (by omega)), fun _ => ?_⟩⟩⟩
              rw [wp_o_joins_b47]
              dsimp only
              rw [lgc_0, sL_2, if_pos ⟨rfl, rfl⟩]
              refine ⟨fun _ => b111 _ g1 ?_ (Or.inr ⟨nosol l1 t1 hs c (fun i hi => ?_), by rw [sL_2, if_pos ⟨rfl, rfl⟩]⟩), fun q => absurd rfl q⟩
              · rw [sL_2, if_neg (by decide), sL_2, if_neg (by decide)]; exact g2
              · rcases (show i < j ∨ i = j by omega) with q | q
                · exact g4 i q
                · rw [q]; exact z
            | succ n ihn =>
              intro j T hj g1 g2 g3 g4
              have jl : j * lcS D x k ≤ 30 * 24300000 := Nat.mul_le_mul (by omega) (by omega)
              have md := Nat.mod_lt (a + j * lcS D x k) t1
              rw [wp_o_joins_b47]
              dsimp only
              rw [lgc_0, lgc_0, g3, g2, g1, nI_clamp (show k < 2 ^ 31 by omega), (hX.tun (show k < 5 by omega)).2, nI_l (by omega), nI_l (by omega), lrm_N (by omega) t1 (by omega), pk_lEQ (by omega) (by omega), nI_1 j, lN_add]
              refine ⟨fun z => absurd z (m1N (by omega)), fun _ => ⟨lz' t1 (by omega), (in_nI (by omega) (by omega)).mpr (by omega), fun z => b111 T g1 g2 (Or.inl ⟨_, by omega, sol_s.mpr ⟨sol_add _ hs, fun _ => z⟩, g3⟩), fun z => ⟨fun _ => ihn (j + 1) _ (by omega) g1 ?_ ?_ (fun i hi => ?_), fun q => absurd (nI_le (by omega) (by omega)) q⟩⟩⟩
              · rw [sL_2, if_neg (by decide)]; exact g2
              · rw [sL_2, if_pos ⟨rfl, rfl⟩, Nat.succ_mul, Nat.add_assoc]
              · rcases (show i < j ∨ i = j by omega) with q | q
                · exact g4 i q
                · rw [q]; exact z
          exact ⟨_, inner (D 26 k) 0 T (by omega) h1 h2 (by rw [Nat.zero_mul]; exact hv) (fun i hi => absurd hi (Nat.not_lt_zero i))⟩
        · refine ⟨1, ?_⟩
          rw [wp_o_joins_b47]
          dsimp only
          rw [lgc_0, hv]
          exact ⟨fun _ => b111 T h1 h2 (Or.inr ⟨fun a ha => hn a (sol_s.mp ha).1, hv⟩), fun q => absurd rfl q⟩
      · have e23 : lcS D x (k + 1) = lcS D x k := by rw [lcS, if_neg c]
        refine i1 T h1 (by rw [e23]; exact h2) ?_
        have ss : ∀ a, solP D x (k + 1) a ↔ solP D x k a := fun a => by rw [sol_s]; exact ⟨fun z => z.1, fun z => ⟨z, fun q => absurd q c⟩⟩
        rcases h3 with ⟨a, ha, hs, hv⟩ | ⟨hn, hv⟩
        · exact Or.inl ⟨a, Nat.le_trans ha (Nat.mul_le_mul_right _ (Nat.le_succ k)), (ss a).mpr hs, hv⟩
        · exact Or.inr ⟨fun a ha => hn a ((ss a).mp ha), hv⟩
  unfold wp_o_joins
  refine ⟨_, key (D 15 6) 0 _ (by omega) rfl ?_ (Or.inl ⟨0, Nat.zero_le _, fun j hj => absurd hj (Nat.not_lt_zero j), ?_⟩)⟩
  · rw [sL_2, if_pos ⟨rfl, rfl⟩]; rfl
  · rw [sL_2, if_neg (by decide), sL_2, if_pos ⟨rfl, rfl⟩]; rfl
/-- the first beat from s on with all the tunes of a set -/
def IsL (D : Dn) (x k s v : Nat) : Prop := s ≤ v ∧ solP D x k v ∧ ∀ b, s ≤ b → solP D x k b → v ≤ b
theorem IsL.eq {D : Dn} {x k s v w : Nat} (h : IsL D x k s v) (g : IsL D x k s w) : v = w := Nat.le_antisymm (h.2.2 w g.1 g.2.1) (g.2.2 v h.1 h.2.1)
theorem m_togetherOf {D : Dn} (hM : RM D 0 S) (hW : WF D) {x s : Nat} (hx : x < 64) (hs : s < 200) {Q : Int64 → Prop} (hq : ∀ v, IsL D x (D 15 6) s v → Q (lN v)) (hq0 : (∀ a, ¬ solP D x (D 15 6) a) → Q (-1)) : wp_m_togetherOf S (nI x) (nI s) Q := by
  obtain ⟨w5, wt⟩ := hW.tn
  have e9 : S.1 7 9 = nI (D 15 6) := hM.h (j := 9) (by decide)
  have key : ∀ m k a, k + m = D 15 6 → a ≤ s + k * 729000000 → IsL D x k s a → wp_m_togetherOf_b9 S Q (nI x) (m + 1) (lN a) (lN (lcS D x k)) (nI k) := by
    intro m
    induction m with
    | zero =>
      intro k a hk ha hl
      rw [wp_m_togetherOf_b9]
      obtain rfl : k = D 15 6 := by omega
      try dsimp only
      rw [e9]
      exact ⟨fun _ => hq a hl, fun c => absurd (nI_le (Nat.le_refl _) (by omega)) c⟩
    | succ m ih =>
      intro k a hk ha hl
      obtain ⟨t1, t2, t3⟩ := wt k (by omega)
      obtain ⟨l1, l2⟩ := lcS_b hW x k (by omega)
      have l3 := p30 (k := k) (by omega)
      obtain ⟨f1, f2⟩ := hM.tun (show k < D 15 6 by omega)
      have ei : (2 : Int32) * nI k = nI (2 * k) := by rw [p_lit 2, pk_mul]
      rw [wp_m_togetherOf_b9]
      dsimp only
      rw [e9, m_isBit_eq hx (show k < 6 by omega), if_q', nI_1]
      refine ⟨fun z => absurd z (nI_ge (by omega) (by omega)), fun _ => ⟨fun c => ?_, fun c => ?_⟩⟩
      · have e23 : lcS D x (k + 1) = Nat.lcm (lcS D x k) (D 26 k) := by rw [lcS, if_pos c]
        have gp : 0 < Nat.gcd (lcS D x k) (D 26 k) := Nat.gcd_pos_of_pos_right _ t1
        have gl : Nat.gcd (lcS D x k) (D 26 k) ≤ D 26 k := Nat.gcd_le_right _ t1
        have i1 : vp_in (nI (2 * k)) 50 := (in_nI (by omega) (by omega)).mpr (by omega)
        have i2 : vp_in (nI (2 * k + 1)) 50 := (in_nI (by omega) (by omega)).mpr (by omega)
        have inner : ∀ n j, j + n = D 26 k → (∀ i, i < j → ¬ (a + i * lcS D x k) % D 26 k = D 27 k) → wp_m_togetherOf_b36 S Q (nI x) (fun y3 y5 y7 => wp_m_togetherOf_b9 S Q (nI x) (m + 1) y3 y5 y7) (n + 1) (lN (a + j * lcS D x k)) (lN (lcS D x k)) (nI k) (nI j) := by
          intro n
          induction n with
          | zero =>
            intro j hj g4
            have jl : j * lcS D x k ≤ 30 * 24300000 := Nat.mul_le_mul (by omega) (by omega)
            have md := Nat.mod_lt (a + j * lcS D x k) t1
            have no : ¬ (a + j * lcS D x k) % D 26 k = D 27 k := by
              intro z
              refine g4 0 (by omega) ?_
              rw [← z, show j = D 26 k by omega, Nat.zero_mul, Nat.add_zero, Nat.add_mul_mod_self_left]
            have b89 : wp_m_togetherOf_b89 S Q (nI x) (fun y3 y5 y7 => wp_m_togetherOf_b9 S Q (nI x) (m + 1) y3 y5 y7) (lN (a + j * lcS D x k)) (lN (lcS D x k)) (nI k) := by
              unfold wp_m_togetherOf_b89
              rw [ei, nI_1, nI_clamp (show 2 * k < 2 ^ 31 by omega), nI_clamp (show 2 * k + 1 < 2 ^ 31 by omega), f1, f2, lgc_0, nI_l (by omega), nI_l (by omega), lrm_N (by omega) t1 (by omega), pk_lEQ (by omega) (by omega)]
              refine ⟨i1, lz' t1 (by omega), i2, fun z => absurd z no, fun _ => hq0 (fun b hb => ?_)⟩
              refine nosol l1 t1 hl.2.1 c (fun i hi => ?_) b (sol_anti (by omega) hb)
              rcases (show i < j ∨ i = j by omega) with q | q
              · exact g4 i q
              · rw [q]; exact no
            rw [wp_m_togetherOf_b36]
            dsimp only
            rw [ei, nI_1 (2 * k), nI_clamp (show 2 * k < 2 ^ 31 by omega), nI_clamp (show 2 * k + 1 < 2 ^ 31 by omega), f1, f2, lgc_0, nI_l (by omega), nI_l (by omega), lrm_N (by omega) t1 (by omega), pk_lEQ (by omega) (by omega)]
            exact ⟨i1, lz' t1 (by omega), i2, fun z => absurd z no, fun _ => ⟨i1, fun _ => b89, fun z => absurd (nI_le (by omega) (by omega)) z⟩⟩
          | succ n ihn =>
            intro j hj g4
            have jl : j * lcS D x k ≤ 30 * 24300000 := Nat.mul_le_mul (by omega) (by omega)
            have md := Nat.mod_lt (a + j * lcS D x k) t1
            rw [wp_m_togetherOf_b36]
            dsimp only
            rw [ei, nI_1 (2 * k), nI_clamp (show 2 * k < 2 ^ 31 by omega), nI_clamp (show 2 * k + 1 < 2 ^ 31 by omega), f1, f2, lgc_0, nI_l (by omega), nI_l (by omega), lrm_N (by omega) t1 (by omega), pk_lEQ (by omega) (by omega), nI_1 j, lN_add]
            refine ⟨i1, lz' t1 (by omega), i2, fun z => ?_, fun z => ⟨i1, fun q => absurd q (nI_ge (by omega) (by omega)), fun _ => ?_⟩⟩
            · unfold wp_m_togetherOf_b89
              rw [ei, nI_1 (2 * k), nI_clamp (show 2 * k < 2 ^ 31 by omega), nI_clamp (show 2 * k + 1 < 2 ^ 31 by omega), f1, f2, lgc_0, nI_l (by omega), nI_l (by omega), lrm_N (by omega) t1 (by omega), pk_lEQ (by omega) (by omega), nI_1 k]
              refine ⟨i1, lz' t1 (by omega), i2, fun _ => ⟨i1, m_common64 (by omega) (by omega) ⟨lz' gp (by omega), i1, ?_⟩⟩, fun q => absurd z q⟩
              rw [pk_lDiv (by omega) gp (by omega), lN_mul, lcm_e, ← e23]
              refine ih (k + 1) _ (by omega) (by omega) ⟨by have := hl.1; omega, sol_s.mpr ⟨sol_add _ hl.2.1, fun _ => z⟩, fun b hb1 hb2 => ?_⟩
              have hb3 := sol_s.mp hb2
              obtain ⟨J, hJ⟩ := sol_ex hl.2.1 hb3.1 (hl.2.2 b hb1 hb3.1)
              rcases Nat.lt_or_ge J j with q | q
              · exact absurd (by rw [← hJ]; exact hb3.2 c) (g4 J q)
              · rw [hJ]; exact Nat.add_le_add_left (Nat.mul_le_mul_right _ q) a
            · have := ihn (j + 1) (by omega) (fun i hi => by
                rcases (show i < j ∨ i = j by omega) with q | q
                · exact g4 i q
                · rw [q]; exact z)
              rwa [Nat.succ_mul, ← Nat.add_assoc] at this
        have := inner (D 26 k) 0 (by omega) (fun i hi => absurd hi (Nat.not_lt_zero i))
        rw [Nat.zero_mul] at this
        exact ⟨_, this⟩
      · have ss : ∀ a, solP D x (k + 1) a ↔ solP D x k a := fun a => by rw [sol_s]; exact ⟨fun z => z.1, fun z => ⟨z, fun q => absurd q c⟩⟩
        have := ih (k + 1) a (by omega) (Nat.le_trans ha (Nat.add_le_add_left (Nat.mul_le_mul_right _ (Nat.le_succ k)) s)) ⟨hl.1, (ss a).mpr hl.2.1, fun b h1 h2 => hl.2.2 b h1 ((ss b).mp h2)⟩
        rwa [lcS, if_neg c] at this
  unfold wp_m_togetherOf
  rw [nI_l (by omega)]
  exact ⟨_, key (D 15 6) 0 s (by omega) (by omega) ⟨Nat.le_refl _, fun j hj => absurd hj (Nat.not_lt_zero j), fun b h _ => h⟩⟩
theorem m_againOf {D : Dn} (hM : RM D 0 S) (hW : WF D) {x : Nat} (hx : x < 64) {Q : Int64 → Prop} (hq : Q (lN (lcS D x (D 15 6)))) : wp_m_againOf S (nI x) Q := by
  obtain ⟨w5, wt⟩ := hW.tn
  have e9 : S.1 7 9 = nI (D 15 6) := hM.h (j := 9) (by decide)
  have key : ∀ m k, k + m = D 15 6 → wp_m_againOf_b5 S Q (nI x) (m + 1) (lN (lcS D x k)) (nI k) := by
    intro m
    induction m with
    | zero =>
      intro k hk
      rw [wp_m_againOf_b5]
      obtain rfl : k = D 15 6 := by omega
      try dsimp only
      rw [e9]
      exact ⟨fun _ => hq, fun c => absurd (nI_le (Nat.le_refl _) (by omega)) c⟩
    | succ m ih =>
      intro k hk
      obtain ⟨t1, t2, t3⟩ := wt k (by omega)
      obtain ⟨l1, l2⟩ := lcS_b hW x k (by omega)
      have l3 := p30 (k := k) (by omega)
      obtain ⟨f1, f2⟩ := hM.tun (show k < D 15 6 by omega)
      have gp : 0 < Nat.gcd (lcS D x k) (D 26 k) := Nat.gcd_pos_of_pos_right _ t1
      have gl : Nat.gcd (lcS D x k) (D 26 k) ≤ D 26 k := Nat.gcd_le_right _ t1
      have i1 : vp_in (nI (2 * k)) 50 := (in_nI (by omega) (by omega)).mpr (by omega)
      have := ih (k + 1) (by omega)
      rw [lcS] at this
      rw [wp_m_againOf_b5]
      dsimp only
      rw [e9, m_isBit_eq hx (show k < 6 by omega), if_q, nI_1, p_lit 2, pk_mul, nI_clamp (show 2 * k < 2 ^ 31 by omega), f1, nI_l (by omega)]
      refine ⟨fun z => absurd z (nI_ge (by omega) (by omega)), fun _ => ⟨fun c => by rwa [if_neg c] at this, fun c => ⟨i1, m_common64 (by omega) (by omega) ⟨lz' gp (by omega), i1, ?_⟩⟩⟩⟩
      rw [pk_lDiv (by omega) gp (by omega), lN_mul, lcm_e]
      rwa [if_pos c] at this
  unfold wp_m_againOf
  exact ⟨_, key (D 15 6) 0 (by omega)⟩
theorem in_set {n : Nat} (hn : n < 6) (x : Int32) : ((0 : Int64).toInt ≤ x.toInt64.toInt ∧ x.toInt64.toInt ≤ ((1 <<< (nI n &&& 31) : Int32) - 1).toInt64.toInt) ↔ isI x (2 ^ n) := in_many (one_shl n hn).1 (by have := (one_shl n hn).2; omega)
theorem o_areTunes_eq {D : Dn} (hX : RX D S) (hW : WF D) (x : Int32) (Q : Int32 → Prop) : wp_o_areTunes S x Q = Q (b2i (0 < D 15 3 ∧ isI x (2 ^ D 15 6))) := by
  unfold wp_o_areTunes
  rw [o_isDance_eq hX hW, hX.g (k := 6) (by decide), o_isIn_eq, b2i_congr (in_set (by have := hW.tn.1; omega) x), b01_q, an_q]
theorem m_isSet_eq {D : Dn} (hM : RM D 0 S) (hW : WF D) (x : Int32) (Q : Int32 → Prop) : wp_m_isSet S x Q = Q (b2i (0 < D 15 3 ∧ isI x (2 ^ D 15 6))) := by
  unfold wp_m_isSet
  rw [m_isDance_eq hM.lines hW, show S.1 7 9 = nI (D 15 6) from hM.h (j := 9) (by decide), m_in_eq, b2i_congr (in_set (by have := hW.tn.1; omega) x), b01_q, an_q]
theorem pl_again (h : R9 L I S S') (x : Int32) : wp_o_again S x (fun v S1 => wp_m_again S' x (fun v' T => v = v' ∧ R9 L I S1 T)) := by
  obtain ⟨D, hW, hX, hM, -⟩ := id h
  have hM2 := (kn0 S' 0).rm hM
  have w5 := hW.tn.1
  have p32 := (one_shl (D 15 6) (by omega)).2
  unfold wp_o_again
  rw [o_areTunes_eq hX hW, if_q']
  refine ⟨fun c => ?_, fun c => ?_⟩
  · obtain ⟨y, hy, rfl⟩ := isI_ex c.2 (by omega)
    refine x_joins hX hW (by omega) (fun T h1 h2 h3 => ?_)
    have k := h.keep (show KX S T from fun c k _ => by rw [h1]) (kn0 S' 0)
    unfold wp_m_again
    dsimp only
    rw [m_isSet_eq hM2 hW, if_q, h2]
    exact ⟨fun z => absurd c z, fun _ => m_againOf hM2 hW (by omega) ⟨rfl, k⟩⟩
  · unfold wp_m_again
    dsimp only
    rw [m_isSet_eq hM2 hW, if_q]
    exact ⟨fun _ => ⟨rfl, h.keep (KX.rf S) (kn0 S' 0)⟩, fun z => absurd z c⟩
theorem pl_together (h : R9 L I S S') (x y : Int32) : wp_o_together S x y (fun v S1 => wp_m_together S' x y (fun v' T => v = v' ∧ R9 L I S1 T)) := by
  obtain ⟨D, hW, hX, hM, -⟩ := id h
  have hM2 := (kn0 S' 0).rm hM
  have w5 := hW.tn.1
  have p32 := (one_shl (D 15 6) (by omega)).2
  have mm : ∀ (v : Int64) (T : St), KX S T → (¬ ((0 < D 15 3 ∧ isI x (2 ^ D 15 6)) ∧ isI y 200) → v = -2) → (∀ a s, (0 < D 15 3 ∧ isI x (2 ^ D 15 6)) → a < 64 → s < 200 → x = nI a → y = nI s → (∀ w, IsL D a (D 15 6) s w → v = lN w) ∧ ((∀ w, ¬ solP D a (D 15 6) w) → v = -1)) → wp_m_together S' x y (fun v' T1 => v = v' ∧ R9 L I T T1) := by
    intro v T hT v1 v0
    have k := h.keep hT (kn0 S' 0)
    unfold wp_m_together
    dsimp only
    rw [m_isSet_eq hM2 hW, m_isBeat_eq, if_q, if_q]
    refine ⟨fun c => ⟨v1 (fun q => c q.1), k⟩, fun c => ⟨fun c1 => ⟨v1 (fun q => c1 q.2), k⟩, fun c1 => ?_⟩⟩
    obtain ⟨a, ha, rfl⟩ := isI_ex c.2 (by omega)
    obtain ⟨s, hs, rfl⟩ := isI_ex c1 (by decide)
    obtain ⟨q1, q2⟩ := v0 a s c (by omega) hs rfl rfl
    exact m_togetherOf hM2 hW (by omega) hs (fun w hw => ⟨q1 w hw, k⟩) (fun hn => ⟨q2 hn, k⟩)
  unfold wp_o_together
  rw [o_areTunes_eq hX hW, o_isBeat_eq hX hW, if_q, if_q']
  refine ⟨fun c => mm _ S (KX.rf S) (fun _ => rfl) (fun a s cc ha hs e1 e2 => absurd cc c), fun c => ⟨fun c1 => ?_, fun c1 => mm _ S (KX.rf S) (fun _ => rfl) (fun a s _ ha hs e1 e2 => absurd ⟨c.1, by rw [e2]; exact isI_of hs (by omega)⟩ c1)⟩⟩
  · obtain ⟨a, ha, rfl⟩ := isI_ex c.2 (by omega)
    obtain ⟨s, hs, rfl⟩ := isI_ex c1.2 (by decide)
    refine x_joins hX hW (by omega) (fun T h1 h2 h3 => ?_)
    have hT : KX S T := fun c k _ => by rw [h1]
    obtain ⟨l1, l2⟩ := lcS_b hW a (D 15 6) (Nat.le_refl _)
    have l3 := p30 (k := D 15 6) w5
    have fin : ∀ v : Int64, ((∀ w, IsL D a (D 15 6) s w → v = lN w) ∧ ((∀ w, ¬ solP D a (D 15 6) w) → v = -1)) → wp_m_together S' (nI a) (nI s) (fun v' T1 => v = v' ∧ R9 L I T T1) := fun v hv => mm v T hT (fun q => absurd ⟨c, c1.2⟩ q) (fun a' s' _ ha' hs' e1 e2 => by rw [← (nI_eq (by omega) (by omega)).mp e1, ← (nI_eq (by omega) (by omega)).mp e2]; exact hv)
    rw [lgc_0, h2]
    rcases h3 with ⟨b, hb, hso, hv⟩ | ⟨hn, hv⟩
    · have b5 : b ≤ 5 * 729000000 := Nat.le_trans hb (Nat.mul_le_mul_right _ w5)
      have md := Nat.mod_lt b l1
      rw [hv, lrm_N (by omega) l1 (by omega), lgc_lt, nI_l (by omega), pk_lT (by omega), pk_lT (by omega)]
      have hr : solP D a (D 15 6) (b % lcS D a (D 15 6)) := fun j hj hbit => by
        rw [Nat.mod_mod_of_dvd _ (lcS_dvd a _ j hj hbit)]
        exact hso j hj hbit
      refine ⟨fun _ => ⟨lz' l1 (by omega), fun z => ⟨lz' l1 (by omega), ?_⟩, fun z => ?_⟩, fun z => absurd z (m1N (by omega))⟩
      · have hz : b % lcS D a (D 15 6) < s := by omega
        have d1 : (s - b % lcS D a (D 15 6) + lcS D a (D 15 6) - 1) / lcS D a (D 15 6) * lcS D a (D 15 6) ≤ s - b % lcS D a (D 15 6) + lcS D a (D 15 6) - 1 := Nat.div_mul_le_self _ _
        have d2 := Nat.lt_div_mul_add (a := s - b % lcS D a (D 15 6) + lcS D a (D 15 6) - 1) l1
        rw [show (1 : Int64) = lN 1 from rfl, lN_sub (by omega), lN_add, lN_sub (by omega), pk_lDiv (by omega) l1 (by omega), lN_mul, lN_add]
        have g : IsL D a (D 15 6) s (b % lcS D a (D 15 6) + (s - b % lcS D a (D 15 6) + lcS D a (D 15 6) - 1) / lcS D a (D 15 6) * lcS D a (D 15 6)) := by
          refine ⟨by omega, sol_add _ hr, fun w h1 h2 => ?_⟩
          rcases Nat.lt_or_ge w (b % lcS D a (D 15 6) + (s - b % lcS D a (D 15 6) + lcS D a (D 15 6) - 1) / lcS D a (D 15 6) * lcS D a (D 15 6)) with q | q
          · have dd : lcS D a (D 15 6) ∣ (b % lcS D a (D 15 6) + (s - b % lcS D a (D 15 6) + lcS D a (D 15 6) - 1) / lcS D a (D 15 6) * lcS D a (D 15 6)) - w := sol_dvd h2 (sol_add _ hr)
            have := Nat.le_of_dvd (by omega) dd
            omega
          · exact q
        exact fin _ ⟨fun w hw => by rw [g.eq hw], fun z2 => absurd hr (z2 _)⟩
      · refine fin _ ⟨fun w hw => ?_, fun z2 => absurd hr (z2 _)⟩
        have g : IsL D a (D 15 6) s (b % lcS D a (D 15 6)) := ⟨by omega, hr, fun w h1 h2 => by
          rcases Nat.lt_or_ge w (b % lcS D a (D 15 6)) with q | q
          · have := Nat.le_of_dvd (by omega) (sol_dvd h2 hr)
            omega
          · exact q⟩
        rw [g.eq hw]
    · rw [hv]
      exact ⟨fun z => absurd rfl z, fun _ => fin _ ⟨fun w hw => absurd hw.2.1 (hn w), fun _ => rfl⟩⟩
/-- the largest set of tunes that are ever at once, of the first x sets -/
noncomputable def chS (D : Dn) : Nat → Nat
  | 0 => 0
  | x + 1 => @ite Nat ((∃ a, solP D x (D 15 6) a) ∧ popc (chS D x) < popc x) (Classical.propDecidable _) x (chS D x)
theorem chS_lt (D : Dn) : ∀ x, 0 < x → chS D x < x
  | 0, h => absurd h (Nat.lt_irrefl _)
  | x + 1, _ => by
    rw [chS]
    by_cases c : (∃ a, solP D x (D 15 6) a) ∧ popc (chS D x) < popc x
    · rw [if_pos c]; omega
    · rw [if_neg c]
      by_cases e : x = 0
      · subst e; rw [chS]; omega
      · have := chS_lt D x (by omega); omega
theorem chS_1 (D : Dn) : chS D 1 = 0 := by
  have := chS_lt D 1 (by decide); omega
theorem x_chorusOf {D : Dn} (hX : RX D S) (hW : WF D) {Q : Int32 → St → Prop} (hq : ∀ T, T.1 = S.1 → Q (nI (chS D (2 ^ D 15 6))) T) : wp_o_chorusOf S Q := by
  have w5 := hW.tn.1
  obtain ⟨o1, o2⟩ := one_shl (D 15 6) (by omega)
  have key : ∀ m x T, x + m = 2 ^ D 15 6 → T.1 = S.1 → wp_o_chorusOf_b4 Q (m + 1) T (nI (chS D x)) (nI x) := by
    intro m
    induction m with
    | zero =>
      intro x T hx h1
      rw [wp_o_chorusOf_b4]
      have e : x = 2 ^ D 15 6 := by omega
      dsimp only
      rw [h1, hX.g (k := 6) (by decide), o1, ← e]
      exact ⟨fun _ => by have := hq T h1; rwa [← e] at this, fun c => absurd (nI_le (Nat.le_refl _) (by omega)) c⟩
    | succ m ih =>
      intro x T hx h1
      have cl : chS D x < 64 := by
        by_cases e : x = 0
        · subst e; rw [chS]; decide
        · have := chS_lt D x (by omega); omega
      have hXT : RX D T := fun c k q => by rw [h1]; exact hX c k q
      rw [wp_o_chorusOf_b4]
      dsimp only
      rw [h1, hX.g (k := 6) (by decide), o1]
      refine ⟨fun c => absurd c (nI_ge (by omega) (by omega)), fun _ => x_joins hXT hW (by omega) (fun T2 g1 g2 g3 => ?_)⟩
      have i0 := ih (x + 1) T2 (by omega) (g1.trans h1)
      rw [chS] at i0
      have p1 := popc_le x
      have p2 := popc_le (chS D x)
      rw [lgc_0, bc_eq (show x < 64 by omega), bc_eq cl, nI_leI (by omega) (by omega), nI_1]
      rcases g3 with ⟨a, ha, hs, hv⟩ | ⟨hn, hv⟩
      · have ha5 : a ≤ 5 * 729000000 := Nat.le_trans ha (Nat.mul_le_mul_right _ w5)
        rw [hv]
        exact ⟨fun c => absurd c (m1N (by omega)), fun _ => ⟨fun c => by rwa [if_neg (fun q => by omega)] at i0, fun c => by rwa [if_pos ⟨⟨a, hs⟩, by omega⟩] at i0⟩⟩
      · rw [hv]
        exact ⟨fun _ => by rwa [if_neg (fun q => q.1.elim (fun a ha => hn a ha))] at i0, fun c => absurd rfl c⟩
  unfold wp_o_chorusOf
  exact ⟨_, key (2 ^ D 15 6) 0 S (by omega) rfl⟩
theorem m_chorusOf {D : Dn} (hM : RM D 0 S) (hW : WF D) {Q : Int32 → Prop} (hq : Q (nI (chS D (2 ^ D 15 6)))) : wp_m_chorusOf S Q := by
  have w5 := hW.tn.1
  obtain ⟨o1, o2⟩ := one_shl (D 15 6) (by omega)
  have e9 : S.1 7 9 = nI (D 15 6) := hM.h (j := 9) (by decide)
  have p0 : 0 < 2 ^ D 15 6 := Nat.pow_pos (by decide)
  have tg : ∀ x, x < 64 → ∀ Q : Int64 → Prop, (∀ v, IsL D x (D 15 6) 0 v → Q (lN v)) → ((∀ a, ¬ solP D x (D 15 6) a) → Q (-1)) → wp_m_togetherOf S (nI x) 0 Q := fun x hx Q h1 h2 => m_togetherOf hM hW hx (s := 0) (by decide) h1 h2
  have key : ∀ m x, x + m = 2 ^ D 15 6 → 0 < x → wp_m_chorusOf_b4 S Q (m + 1) (nI (chS D x)) (nI x) := by
    intro m
    induction m with
    | zero =>
      intro x hx h0
      rw [wp_m_chorusOf_b4]
      have e : x = 2 ^ D 15 6 := by omega
      try dsimp only
      rw [e9, o1, ← e]
      exact ⟨fun _ => by rwa [← e] at hq, fun c => absurd (nI_le (Nat.le_refl _) (by omega)) c⟩
    | succ m ih =>
      intro x hx h0
      have cl : chS D x < 64 := by have := chS_lt D x h0; omega
      have i0 := ih (x + 1) (by omega) (by omega)
      rw [chS] at i0
      have p1 := popc_le x
      have p2 := popc_le (chS D x)
      rw [wp_m_chorusOf_b4]
      dsimp only
      rw [e9, o1]
      refine ⟨fun c => absurd c (nI_ge (by omega) (by omega)), fun _ => m_sizeOf (show x < 64 by omega) (m_sizeOf cl ?_)⟩
      rw [nI_leI (by omega) (by omega), nI_1]
      refine ⟨fun c => by rwa [if_neg (fun q => by omega)] at i0, fun c => tg x (by omega) _ (fun v hv => ?_) (fun hn => ?_)⟩
      · rw [lgc_0]
        have hp : (∃ a, solP D x (D 15 6) a) ∧ popc (chS D x) < popc x := ⟨⟨v, hv.2.1⟩, by omega⟩
        rw [if_pos hp] at i0
        refine ⟨fun z => ?_, fun _ => i0⟩
        obtain ⟨l1, l2⟩ := lcS_b hW x (D 15 6) (Nat.le_refl _)
        have l3 := p30 (k := D 15 6) w5
        have md := Nat.mod_lt v l1
        have hm := hv.2.2 (v % lcS D x (D 15 6)) (Nat.zero_le _) (fun j hj hbit => by rw [Nat.mod_mod_of_dvd _ (lcS_dvd x _ j hj hbit)]; exact hv.2.1 j hj hbit)
        exact absurd z (m1N (by omega))
      · rw [lgc_0]
        rw [if_neg (fun q => q.1.elim (fun a ha => hn a ha))] at i0
        exact ⟨fun _ => i0, fun c => absurd rfl c⟩
  unfold wp_m_chorusOf
  have := key (2 ^ D 15 6 - 1) 1 (by omega) (by decide)
  rw [chS_1] at this
  exact ⟨_, this⟩
theorem chS_64 {D : Dn} (hW : WF D) : chS D (2 ^ D 15 6) < 64 := by
  have w5 := hW.tn.1
  obtain ⟨o1, o2⟩ := one_shl (D 15 6) (by omega)
  have := chS_lt D (2 ^ D 15 6) (Nat.pow_pos (by decide))
  omega
theorem pl_chorus (h : R9 L I S S') : wp_o_chorus S (fun v S1 => wp_m_chorus S' (fun v' T => v = v' ∧ R9 L I S1 T)) := by
  obtain ⟨D, hW, hX, hM, -⟩ := id h
  have hM2 := (kn0 S' 0).rm hM
  unfold wp_o_chorus
  rw [o_isDance_eq hX hW, if_q]
  refine ⟨fun c => ?_, fun c => x_chorusOf hX hW (fun T hT => ?_)⟩
  · unfold wp_m_chorus
    dsimp only
    rw [m_isDance_eq hM2.lines hW, if_q]
    exact ⟨fun _ => ⟨rfl, h.keep (KX.rf S) (kn0 S' 0)⟩, fun z => absurd z c⟩
  · unfold wp_m_chorus
    dsimp only
    rw [m_isDance_eq hM2.lines hW, if_q]
    exact ⟨fun z => absurd c z, fun _ => m_chorusOf hM2 hW ⟨rfl, h.keep (fun c k _ => by rw [hT]) (kn0 S' 0)⟩⟩
theorem pl_most (h : R9 L I S S') : wp_o_most S (fun v S1 => wp_m_most S' (fun v' T => v = v' ∧ R9 L I S1 T)) := by
  obtain ⟨D, hW, hX, hM, -⟩ := id h
  have hM2 := (kn0 S' 0).rm hM
  unfold wp_o_most
  rw [o_isDance_eq hX hW, if_q]
  refine ⟨fun c => ?_, fun c => x_chorusOf hX hW (fun T hT => ?_)⟩
  · unfold wp_m_most
    dsimp only
    rw [m_isDance_eq hM2.lines hW, if_q]
    exact ⟨fun _ => ⟨rfl, h.keep (KX.rf S) (kn0 S' 0)⟩, fun z => absurd z c⟩
  · rw [bc_eq (chS_64 hW)]
    unfold wp_m_most
    dsimp only
    rw [m_isDance_eq hM2.lines hW, if_q]
    exact ⟨fun z => absurd c z, fun _ => m_chorusOf hM2 hW (m_sizeOf (chS_64 hW) ⟨rfl, h.keep (fun c k _ => by rw [hT]) (kn0 S' 0)⟩)⟩
end
