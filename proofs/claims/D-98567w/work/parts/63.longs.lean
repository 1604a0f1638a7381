/-! THE PLAIN LAW: long numbers: dry, wet -/
set_option maxRecDepth 100000
theorem lgc_0 (x y : Int64) : (lg_cmp x y = 0) = (x = y) := by
  apply propext
  unfold lg_cmp
  by_cases h : x > y
  · rw [if_pos h]
    refine ⟨fun q => absurd q (by decide), fun q => ?_⟩
    subst q
    exact absurd h (fun z => by have := Int64.lt_iff_toInt_lt.mp z; omega)
  · rw [if_neg h]
    by_cases h2 : x = y
    · rw [if_pos h2]; exact ⟨fun _ => h2, fun _ => rfl⟩
    · rw [if_neg h2]; exact ⟨fun q => absurd q (by decide), fun q => absurd q h2⟩
theorem lz {n : Nat} (h : n < 2 ^ 63) : lN n = 0 ↔ n = 0 := pk_lEQ (b := 0) h (by decide)
theorem lrm_N {a b : Nat} (ha : a < 2 ^ 63) (h0 : 0 < b) (hb : b < 2 ^ 63) : lrm (lN a) (lN b) = lN (a % b) := pk_lRem ha h0 hb
def fb : Nat → Nat
  | 0 => 0
  | 1 => 1
  | n + 2 => fb n + fb (n + 1)
theorem fb_pos : ∀ n, 0 < fb (n + 1)
  | 0 => by decide
  | n + 1 => by
    have := fb_pos n
    rw [fb]; omega
theorem m_cl : ∀ (k a b : Nat) (Q : Int64 → Prop), b < a → b < fb k → a < 2 ^ 63 → Q (lN (Nat.gcd a b)) → wp_m_commonLong k (lN a) (lN b) Q
  | 0, a, b, Q, _, h, _, _ => absurd h (Nat.not_lt_zero _)
  | 1, a, b, Q, h1, h2, h3, hq => by
    obtain rfl : b = 0 := by rw [fb] at h2; omega
    rw [wp_m_commonLong, wp_m_commonLong_e, lgc_0]
    exact ⟨fun c => absurd rfl c, fun _ => by rwa [Nat.gcd_zero_right] at hq⟩
  | k + 2, a, b, Q, h1, h2, h3, hq => by
    have i1 := m_cl (k + 1)
    have i0 := m_cl k
    rw [wp_m_commonLong, wp_m_commonLong_e, lgc_0, lz (by omega)]
    refine ⟨fun c => ⟨c, ?_⟩, fun c => by subst c; rwa [Nat.gcd_zero_right] at hq⟩
    rw [lrm_N h3 (by omega) (by omega)]
    have hl := Nat.mod_lt a (show 0 < b by omega)
    rw [gcd_step] at hq
    by_cases hr : a % b < fb (k + 1)
    · exact i1 b (a % b) _ hl hr (by omega) hq
    · have p := fb_pos k
      rw [wp_m_commonLong, wp_m_commonLong_e, lgc_0, lz (by omega)]
      refine ⟨fun c => ⟨c, ?_⟩, fun c => absurd c (by omega)⟩
      rw [lrm_N (by omega) (by omega) (by omega)]
      have hl2 := Nat.mod_lt b (show 0 < a % b by omega)
      rw [gcd_step] at hq
      refine i0 _ _ _ hl2 ?_ (by omega) hq
      have : b % (a % b) ≤ b - a % b := by
        rw [Nat.mod_eq_sub_mod (Nat.le_of_lt hl)]
        exact Nat.mod_le _ _
      rw [fb] at h2
      omega
theorem fb99 : 2 ^ 63 ≤ fb 99 := by
  have e : ∀ n, fb (n + 2) = fb n + fb (n + 1) := fun n => by rw [fb]
  have g : ∀ n x y, fb n = x → fb (n + 1) = y → fb (n + 2) = x + y ∧ fb (n + 3) = x + (y + y) := fun n x y h1 h2 => by
    have a := e n
    have b := e (n + 1)
    rw [h1, h2] at a
    rw [a, h2] at b
    exact ⟨a, b.trans (by omega)⟩
  have s : ∀ m n x y, fb n = x → fb (n + 1) = y → fb (n + 2 * m) = (Nat.rec (motive := fun _ => Nat × Nat) (x, y) (fun _ p => (p.1 + p.2, p.1 + (p.2 + p.2))) m).1 ∧ fb (n + 2 * m + 1) = (Nat.rec (motive := fun _ => Nat × Nat) (x, y) (fun _ p => (p.1 + p.2, p.1 + (p.2 + p.2))) m).2 := by
    intro m n x y h1 h2
    induction m with
    | zero => exact ⟨h1, h2⟩
    | succ m ih => exact g (n + 2 * m) _ _ ih.1 ih.2
  rw [(s 49 0 0 1 rfl rfl).2]
  decide +kernel
theorem m_common64 {a b : Nat} {Q : Int64 → Prop} (ha : a < 2 ^ 63) (hb : b < 2 ^ 63) (hq : Q (lN (Nat.gcd a b))) : wp_m_commonLong 100 (lN a) (lN b) Q := by
  rw [wp_m_commonLong, wp_m_commonLong_e, lgc_0, lz hb]
  refine ⟨fun c => ⟨c, ?_⟩, fun c => by subst c; rwa [Nat.gcd_zero_right] at hq⟩
  rw [lrm_N ha (by omega) hb]
  have hl := Nat.mod_lt a (show 0 < b by omega)
  rw [gcd_step] at hq
  exact m_cl 99 b (a % b) _ hl (Nat.lt_of_lt_of_le (by omega) fb99) hb hq
theorem lz' {n : Nat} (h0 : 0 < n) (h : n < 2 ^ 63) : ¬ lN n = 0 := fun c => absurd ((lz h).mp c) (by omega)
theorem x_part {a b : Nat} {y : Int32} {Q : Int64 → Prop} (ha : a < 2 ^ 63) (h0 : 0 < b) (hb : b < 2 ^ 63) (hq : Q (if y = 0 then lN (a / Nat.gcd a b) else lN (b / Nat.gcd a b))) : wp_o_part (lN a) (lN b) y Q := by
  have key : ∀ n x z, z < n → x < 2 ^ 63 → z < 2 ^ 63 → Nat.gcd x z = Nat.gcd a b → wp_o_part_b6 Q (lN a) (lN b) y n (lN x) (lN z) := by
    intro n
    induction n with
    | zero => intro x z h; exact absurd h (Nat.not_lt_zero _)
    | succ n ih =>
      intro x z h h1 h2 hg
      have gp : 0 < Nat.gcd a b := Nat.gcd_pos_of_pos_right _ h0
      rw [wp_o_part_b6]
      dsimp only
      rw [lgc_0, lz h2]
      refine ⟨fun c => ?_, fun c => ⟨c, ?_⟩⟩
      · subst c
        rw [Nat.gcd_zero_right] at hg
        rw [hg, pk_lDiv hb gp (by omega), pk_lDiv ha gp (by omega)]
        exact ⟨fun c => ⟨lz' gp (by omega), by rwa [if_neg c] at hq⟩, fun c => ⟨lz' gp (by omega), by rwa [if_pos c] at hq⟩⟩
      · rw [lrm_N h1 (by omega) h2]
        have hl := Nat.mod_lt x (show 0 < z by omega)
        exact ih z (x % z) (by omega) h2 (by omega) (by rw [← gcd_step]; exact hg)
  exact ⟨_, key (b + 1) a b (by omega) ha hb rfl⟩
theorem m_part {a b : Nat} {y : Int32} {Q : Int64 → Prop} (ha : a < 2 ^ 63) (h0 : 0 < b) (hb : b < 2 ^ 63) (hq : Q (if y = 0 then lN (a / Nat.gcd a b) else lN (b / Nat.gcd a b))) : wp_m_part (lN a) (lN b) y Q := by
  have gp : 0 < Nat.gcd a b := Nat.gcd_pos_of_pos_right _ h0
  have gl : Nat.gcd a b ≤ b := Nat.gcd_le_right _ h0
  unfold wp_m_part
  refine ⟨fun c => m_common64 ha hb ⟨lz' gp (by omega), ?_⟩, fun c => m_common64 ha hb ⟨lz' gp (by omega), ?_⟩⟩
  · rw [pk_lDiv hb gp (by omega)]; rwa [if_neg c] at hq
  · rw [pk_lDiv ha gp (by omega)]; rwa [if_pos c] at hq
theorem x_power {a k : Nat} (hk : k < 2 ^ 30) {Q : Int64 → Prop} (hq : Q (lN (a ^ k))) : wp_o_power (lN a) (nI k) Q := by
  have key : ∀ m n, n + m = k → wp_o_power_b5 Q (lN a) (nI k) (m + 1) (lN (a ^ n)) (nI n) := by
    intro m
    induction m with
    | zero =>
      intro n hn
      rw [wp_o_power_b5]
      obtain rfl : n = k := by omega
      exact ⟨fun _ => hq, fun c => absurd (nI_le (Nat.le_refl _) (by omega)) c⟩
    | succ m ih =>
      intro n hn
      rw [wp_o_power_b5]
      dsimp only
      rw [lN_mul, ← Nat.pow_succ, nI_1]
      exact ⟨fun c => absurd c (nI_ge (by omega) (by omega)), fun _ => ih (n + 1) (by omega)⟩
  unfold wp_o_power
  exact ⟨_, key k 0 (by omega)⟩
theorem m_power {a k : Nat} (hk : k < 2 ^ 30) {Q : Int64 → Prop} (hq : Q (lN (a ^ k))) : wp_m_power (lN a) (nI k) Q := by
  have key : ∀ m n, n + m = k → wp_m_power_b5 Q (lN a) (nI k) (m + 1) (lN (a ^ n)) (nI n) := by
    intro m
    induction m with
    | zero =>
      intro n hn
      rw [wp_m_power_b5]
      obtain rfl : n = k := by omega
      exact ⟨fun _ => hq, fun c => absurd (nI_le (Nat.le_refl _) (by omega)) c⟩
    | succ m ih =>
      intro n hn
      rw [wp_m_power_b5]
      dsimp only
      rw [lN_mul, ← Nat.pow_succ, nI_1]
      exact ⟨fun c => absurd c (nI_ge (by omega) (by omega)), fun _ => ih (n + 1) (by omega)⟩
  unfold wp_m_power
  exact ⟨_, key k 0 (by omega)⟩
/-- how many ways to choose k of n -/
def chN (n : Nat) : Nat → Nat
  | 0 => 1
  | k + 1 => chN n k * (n - k) / (k + 1)
theorem chN_le : ∀ n, n < 10 → ∀ k, k < n + 1 → chN n k < 127 := by decide +kernel
theorem wet_le : ∀ n, n < 10 → ∀ k, k < n + 1 → ∀ r, r < 101 → chN n k * r ^ k * (100 - r) ^ (n - k) ≤ 100 ^ n := by decide +kernel
theorem hun_lt : ∀ n, n < 10 → 100 ^ n < 2 ^ 63 ∧ 0 < 100 ^ n := by decide +kernel
theorem x_choose {n k : Nat} (hn : n < 10) (hk : k ≤ n) {Q : Int64 → Prop} (hq : Q (lN (chN n k))) : wp_o_choose (nI n) (nI k) Q := by
  have key : ∀ m j, j + m = k → wp_o_choose_b5 Q (nI n) (nI k) (m + 1) (lN (chN n j)) (nI j) := by
    intro m
    induction m with
    | zero =>
      intro j hj
      rw [wp_o_choose_b5]
      obtain rfl : j = k := by omega
      exact ⟨fun _ => hq, fun c => absurd (nI_le (Nat.le_refl _) (by omega)) c⟩
    | succ m ih =>
      intro j hj
      have hc := chN_le n hn j (by omega)
      have hm : chN n j * (n - j) < 2 ^ 63 := Nat.lt_of_le_of_lt (Nat.mul_le_mul (Nat.le_of_lt hc) (show n - j ≤ 10 by omega)) (by decide)
      rw [wp_o_choose_b5]
      dsimp only
      rw [pk_sub (a := n) (b := j) (by omega), nI_1 j, nI_l (n := n - j) (by omega), nI_l (n := j + 1) (by omega), lN_mul, pk_lDiv hm (by omega) (by omega)]
      exact ⟨fun c => absurd c (nI_ge (by omega) (by omega)), fun _ => ⟨lz' (by omega) (by omega), ih (j + 1) (by omega)⟩⟩
  unfold wp_o_choose
  exact ⟨_, key k 0 (by omega)⟩
/-- the chance of k wet nights of n, cut: above (y = 0) or below -/
def wetV (D : Dn) (n k : Nat) (y : Int32) : Int64 := if y = 0 then lN (chN n k * D 15 2 ^ k * (100 - D 15 2) ^ (n - k) / Nat.gcd (chN n k * D 15 2 ^ k * (100 - D 15 2) ^ (n - k)) (100 ^ n)) else lN (100 ^ n / Nat.gcd (chN n k * D 15 2 ^ k * (100 - D 15 2) ^ (n - k)) (100 ^ n))
section
variable {L : Lx} {I : Ix} {S S' : St}
theorem x_wetOf {D : Dn} (hX : RX D S) (hW : WF D) {n k : Nat} (hn : n < 10) (hk : k ≤ n) {y : Int32} {Q : Int64 → Prop} (hq : Q (wetV D n k y)) : wp_o_wetOf S (nI n) (nI k) y Q := by
  have w2 := hW.1.2.2.1
  have e2 := hX.g (k := 2) (by decide)
  obtain ⟨h1, h2⟩ := hun_lt n hn
  have h3 := wet_le n hn k (by omega) (D 15 2) (by omega)
  unfold wp_o_wetOf
  refine x_choose hn hk ?_
  rw [e2, nI_l (by omega)]
  refine x_power (by omega) ?_
  rw [show (100 : Int64) = lN 100 from rfl, lN_sub w2, pk_sub hk]
  refine x_power (by omega) (x_power (by omega) ?_)
  rw [lN_mul, lN_mul]
  exact x_part (by omega) h2 h1 hq
theorem m_wetL {D : Dn} (hM : RM D 0 S) (hW : WF D) {n k : Nat} (hn : n < 10) (hk : k ≤ n) {y : Int32} {Q : Int64 → St → Prop} (hq : Q (wetV D n k y) S) : ∀ m j, j + m = k → wp_m_wet_b35 Q (nI n) (nI k) y (m + 1) S (lN (chN n j)) (nI j) := by
  have w2 := hW.1.2.2.1
  have e2 : S.1 7 2 = nI (D 15 2) := hM.h (j := 2) (by decide)
  obtain ⟨h1, h2⟩ := hun_lt n hn
  have h3 := wet_le n hn k (by omega) (D 15 2) (by omega)
  intro m
  induction m with
  | zero =>
    intro j hj
    rw [wp_m_wet_b35]
    obtain rfl : j = k := by omega
    try dsimp only
    rw [e2, nI_l (by omega), show (100 : Int64) = lN 100 from rfl, lN_sub w2, pk_sub hk]
    refine ⟨fun _ => m_power (by omega) (m_power (by omega) (m_power (by omega) ?_)), fun c => absurd (nI_le (Nat.le_refl _) (by omega)) c⟩
    rw [lN_mul, lN_mul]
    exact m_part (by omega) h2 h1 hq
  | succ m ih =>
    intro j hj
    have hc := chN_le n hn j (by omega)
    have hm : chN n j * (n - j) < 2 ^ 63 := Nat.lt_of_le_of_lt (Nat.mul_le_mul (Nat.le_of_lt hc) (show n - j ≤ 10 by omega)) (by decide)
    rw [wp_m_wet_b35]
    dsimp only
    rw [pk_sub (a := n) (b := j) (by omega), nI_1 j, nI_l (n := n - j) (by omega), nI_l (n := j + 1) (by omega), lN_mul, pk_lDiv hm (by omega) (by omega)]
    exact ⟨fun c => absurd c (nI_ge (by omega) (by omega)), fun _ => ⟨lz' (by omega) (by omega), ih (j + 1) (by omega)⟩⟩
theorem in19 (x : Int32) : ((1 : Int64).toInt ≤ x.toInt64.toInt ∧ x.toInt64.toInt ≤ (9 : Int64).toInt) ↔ ∃ n : Nat, 1 ≤ n ∧ n < 10 ∧ x = nI n := by
  rw [tL, show (1 : Int64).toInt = 1 from rfl, show (9 : Int64).toInt = 9 from rfl]
  constructor
  · rintro ⟨h1, h2⟩
    obtain ⟨n, hn, rfl⟩ := isI_ex (n := 10) (x := x) ⟨by omega, by omega⟩ (by decide)
    rw [nI_toInt (by omega)] at h1
    exact ⟨n, by omega, hn, rfl⟩
  · rintro ⟨n, h1, h2, rfl⟩
    rw [nI_toInt (by omega)]
    omega
theorem in0n (x : Int32) {n : Nat} (hn : n < 10) : ((0 : Int64).toInt ≤ x.toInt64.toInt ∧ x.toInt64.toInt ≤ (nI n).toInt64.toInt) ↔ isI x (n + 1) := by
  rw [tL, tL, show (0 : Int64).toInt = 0 from rfl, nI_toInt (by omega)]
  unfold isI
  omega
theorem pl_dry (h : R9 L I S S') (x y : Int32) : wp_o_dry S x y (fun v => wp_m_dry S' x y (fun v' T => v = v' ∧ R9 L I S T)) := by
  obtain ⟨D, hW, hX, hM, -⟩ := id h
  have hM2 := (kn0 S' 0).rm hM
  have k := h.keep (KX.rf S) (kn0 S' 0)
  have w2 := hW.1.2.2.1
  have e2 : (sI S' 0 0 0).1 7 2 = nI (D 15 2) := hM2.h (j := 2) (by decide)
  by_cases c1 : 0 < D 15 3 ∧ (∃ n : Nat, 1 ≤ n ∧ n < 10 ∧ x = nI n) ∧ isI y 2
  · obtain ⟨c0, ⟨n, hn1, hn, rfl⟩, cy⟩ := c1
    obtain ⟨h1, h2⟩ := hun_lt n hn
    have h3 := wet_le n hn 0 (by omega) (D 15 2) (by omega)
    have fin : wp_m_dry S' (nI n) y (fun v' T => wetV D n 0 y = v' ∧ R9 L I S T) := by
      unfold wp_m_dry
      dsimp only
      unfold wp_m_isRain
      rw [m_isDance_eq hM2.lines hW, m_in_eq, m_in_eq, b2i_congr (in_isI y (m := 1) (n := 2) (by decide)), if_q, if_q, if_q]
      refine ⟨fun c => absurd c0 c, fun _ => ⟨fun c => absurd ((in19 _).mpr ⟨n, hn1, hn, rfl⟩) c, fun _ => ⟨fun c => absurd cy c, fun _ => ⟨fun c => absurd c (by decide), fun _ => ?_⟩⟩⟩⟩
      rw [e2, nI_l (by omega), show (100 : Int64) = lN 100 from rfl, lN_sub w2]
      refine m_power (by omega) (m_power (by omega) (m_part ?_ h2 h1 ⟨?_, k⟩))
      · rw [chN, Nat.one_mul, Nat.pow_zero, Nat.one_mul, Nat.sub_zero] at h3
        omega
      · unfold wetV
        rw [chN, Nat.one_mul, Nat.pow_zero, Nat.one_mul, Nat.sub_zero]
    unfold wp_o_dry
    rw [o_isDance_eq hX hW, o_isIn_eq, o_isOneOf_eq y (m := 2) (n := 2) rfl (by omega) (by omega), if_q, if_q, if_q]
    exact ⟨fun c => absurd c0 c, fun _ => ⟨fun c => absurd ((in19 _).mpr ⟨n, hn1, hn, rfl⟩) c, fun _ => ⟨fun c => absurd cy c, fun _ => x_wetOf hX hW (k := 0) hn (by omega) fin⟩⟩⟩
  · have fin : wp_m_dry S' x y (fun v' T => -2 = v' ∧ R9 L I S T) := by
      unfold wp_m_dry
      dsimp only
      unfold wp_m_isRain
      rw [m_isDance_eq hM2.lines hW, m_in_eq, m_in_eq, b2i_congr (in_isI y (m := 1) (n := 2) (by decide)), if_q, if_q, if_q]
      exact ⟨fun _ => ⟨fun _ => ⟨rfl, k⟩, fun q => absurd rfl q⟩, fun c0 => ⟨fun _ => ⟨fun _ => ⟨rfl, k⟩, fun q => absurd rfl q⟩, fun c2 => ⟨fun _ => ⟨fun _ => ⟨rfl, k⟩, fun q => absurd rfl q⟩, fun c3 => absurd ⟨c0, (in19 _).mp c2, c3⟩ c1⟩⟩⟩
    unfold wp_o_dry
    rw [o_isDance_eq hX hW, o_isIn_eq, o_isOneOf_eq y (m := 2) (n := 2) rfl (by omega) (by omega), if_q, if_q, if_q]
    exact ⟨fun _ => fin, fun c0 => ⟨fun _ => fin, fun c2 => ⟨fun _ => fin, fun c3 => absurd ⟨c0, (in19 _).mp c2, c3⟩ c1⟩⟩⟩
theorem pl_wet (h : R9 L I S S') (x z y : Int32) : wp_o_wet S x z y (fun v => wp_m_wet S' x z y (fun v' T => v = v' ∧ R9 L I S T)) := by
  obtain ⟨D, hW, hX, hM, -⟩ := id h
  have hM2 := (kn0 S' 0).rm hM
  have k := h.keep (KX.rf S) (kn0 S' 0)
  by_cases c1 : 0 < D 15 3 ∧ (∃ n : Nat, 1 ≤ n ∧ n < 10 ∧ x = nI n ∧ isI z (n + 1)) ∧ isI y 2
  · obtain ⟨c0, ⟨n, hn1, hn, rfl, cz⟩, cy⟩ := c1
    obtain ⟨j, hj, rfl⟩ := isI_ex cz (by omega)
    have fin : wp_m_wet S' (nI n) (nI j) y (fun v' T => wetV D n j y = v' ∧ R9 L I S T) := by
      unfold wp_m_wet
      dsimp only
      unfold wp_m_isRain
      rw [m_isDance_eq hM2.lines hW, m_in_eq, m_in_eq, m_in_eq, b2i_congr (in_isI y (m := 1) (n := 2) (by decide)), b2i_congr (in0n (nI j) hn), if_q, if_q, if_q, if_q']
      exact ⟨fun c => absurd c0 c, fun _ => ⟨fun c => absurd ((in19 _).mpr ⟨n, hn1, hn, rfl⟩) c, fun _ => ⟨fun c => absurd cy c, fun _ => ⟨fun c => absurd c (by decide), fun _ => ⟨fun _ => ⟨_, m_wetL hM2 hW hn (by omega) ⟨rfl, k⟩ j 0 (by omega)⟩, fun c => absurd cz c⟩⟩⟩⟩⟩
    unfold wp_o_wet
    rw [o_isDance_eq hX hW, o_isIn_eq, o_isIn_eq, o_isOneOf_eq y (m := 2) (n := 2) rfl (by omega) (by omega), b2i_congr (in0n (nI j) hn), if_q, if_q, if_q, if_q]
    exact ⟨fun c => absurd c0 c, fun _ => ⟨fun c => absurd ((in19 _).mpr ⟨n, hn1, hn, rfl⟩) c, fun _ => ⟨fun c => absurd cz c, fun _ => ⟨fun c => absurd cy c, fun _ => x_wetOf hX hW hn (by omega) fin⟩⟩⟩⟩
  · have fin : wp_m_wet S' x z y (fun v' T => -2 = v' ∧ R9 L I S T) := by
      unfold wp_m_wet
      dsimp only
      unfold wp_m_isRain
      rw [m_isDance_eq hM2.lines hW, m_in_eq, m_in_eq, m_in_eq, b2i_congr (in_isI y (m := 1) (n := 2) (by decide)), if_q, if_q, if_q, if_q']
      refine ⟨fun _ => ⟨fun _ => ⟨rfl, k⟩, fun q => absurd rfl q⟩, fun c0 => ⟨fun _ => ⟨fun _ => ⟨rfl, k⟩, fun q => absurd rfl q⟩, fun c2 => ⟨fun _ => ⟨fun _ => ⟨rfl, k⟩, fun q => absurd rfl q⟩, fun c3 => ⟨fun q => absurd q (by decide), fun _ => ⟨fun c4 => ?_, fun _ => ⟨rfl, k⟩⟩⟩⟩⟩⟩
      obtain ⟨n, hn1, hn, rfl⟩ := (in19 _).mp c2
      exact absurd ⟨c0, ⟨n, hn1, hn, rfl, (in0n z hn).mp c4⟩, c3⟩ c1
    unfold wp_o_wet
    rw [o_isDance_eq hX hW, o_isIn_eq, o_isIn_eq, o_isOneOf_eq y (m := 2) (n := 2) rfl (by omega) (by omega), if_q, if_q, if_q, if_q]
    refine ⟨fun _ => fin, fun c0 => ⟨fun _ => fin, fun c2 => ⟨fun _ => fin, fun c4 => ⟨fun _ => fin, fun c3 => ?_⟩⟩⟩⟩
    obtain ⟨n, hn1, hn, rfl⟩ := (in19 _).mp c2
    exact absurd ⟨c0, ⟨n, hn1, hn, rfl, (in0n z hn).mp c4⟩, c3⟩ c1
end
