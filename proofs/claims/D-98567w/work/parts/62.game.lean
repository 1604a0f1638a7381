/-! THE PLAIN LAW: game, plays -/
set_option maxRecDepth 100000
abbrev Ct : Type := Nat → Nat
def okC (c : Ct) : Prop := ∀ t, t < 6 → c t ≤ 2
def sm (c : Ct) : Nat := c 0 + c 1 + c 2 + c 3 + c 4 + c 5
def inc (c : Ct) (u : Nat) : Ct := fun t => if t = u then c t + 1 else c t
def g3 (c : Ct) : Nat := c 0 + 3 * c 1 + 9 * c 2 + 27 * c 3 + 81 * c 4 + 243 * c 5
def g4 (c : Ct) : Nat := c 0 + 4 * c 1 + 16 * c 2 + 64 * c 3 + 256 * c 4 + 1024 * c 5
theorem six {u : Nat} (h : u < 6) : u = 0 ∨ u = 1 ∨ u = 2 ∨ u = 3 ∨ u = 4 ∨ u = 5 := by omega
theorem okC.all {c : Ct} (h : okC c) : c 0 ≤ 2 ∧ c 1 ≤ 2 ∧ c 2 ≤ 2 ∧ c 3 ≤ 2 ∧ c 4 ≤ 2 ∧ c 5 ≤ 2 := ⟨h 0 (by decide), h 1 (by decide), h 2 (by decide), h 3 (by decide), h 4 (by decide), h 5 (by decide)⟩
theorem okC.inc {c : Ct} (h : okC c) {u : Nat} (hu : c u < 2) : okC (inc c u) := fun t ht => by
  have := h t ht
  show (if t = u then c t + 1 else c t) ≤ 2
  by_cases e : t = u
  · rw [if_pos e]; subst e; omega
  · rw [if_neg e]; exact this
theorem g3_inc (c : Ct) {u : Nat} (h : u < 6) : g3 (inc c u) = g3 c + 3 ^ u ∧ g4 (inc c u) = g4 c + 4 ^ u ∧ sm (inc c u) = sm c + 1 := by
  rcases six h with rfl | rfl | rfl | rfl | rfl | rfl <;> simp [g3, g4, sm, inc] <;> omega
theorem g3_dig {c : Ct} (h : okC c) {u : Nat} (hu : u < 6) : g3 c / 3 ^ u % 3 = c u := by
  obtain ⟨h0, h1, h2, h3, h4, h5⟩ := h.all
  rcases six hu with rfl | rfl | rfl | rfl | rfl | rfl <;> simp only [g3, Nat.reducePow] <;> omega
theorem g4_dig {c : Ct} (h : okC c) {u : Nat} (hu : u < 6) : g4 c / 4 ^ u % 4 = c u := by
  obtain ⟨h0, h1, h2, h3, h4, h5⟩ := h.all
  rcases six hu with rfl | rfl | rfl | rfl | rfl | rfl <;> simp only [g4, Nat.reducePow] <;> omega
theorem g3_lt {c : Ct} (h : okC c) : g3 c < 729 := by
  obtain ⟨h0, h1, h2, h3, h4, h5⟩ := h.all
  unfold g3; omega
theorem g4_lt {c : Ct} (h : okC c) : g4 c < 4096 := by
  obtain ⟨h0, h1, h2, h3, h4, h5⟩ := h.all
  unfold g4; omega
theorem sm_le {c : Ct} (h : okC c) : sm c ≤ 12 := by
  obtain ⟨h0, h1, h2, h3, h4, h5⟩ := h.all
  unfold sm; omega
theorem g3_inj {c c' : Ct} (h : okC c) (h' : okC c') {t t' : Nat} (ht : t < 6) (ht' : t' < 6) (e : 6 * g3 c + t = 6 * g3 c' + t') : t = t' ∧ ∀ u, u < 6 → c u = c' u := by
  have q : g3 c = g3 c' := by omega
  exact ⟨by omega, fun u hu => by rw [← g3_dig h hu, ← g3_dig h' hu, q]⟩
theorem g4_inj {c c' : Ct} (h : okC c) (h' : okC c') {t t' : Nat} (ht : t < 6) (ht' : t' < 6) (e : 6 * g4 c + t = 6 * g4 c' + t') : t = t' ∧ ∀ u, u < 6 → c u = c' u := by
  have q : g4 c = g4 c' := by omega
  exact ⟨by omega, fun u hu => by rw [← g4_dig h hu, ← g4_dig h' hu, q]⟩
/-- whether step u may be answered to t -/
def plO (D : Dn) (c : Ct) (t u : Nat) : Bool := (D 19 t).testBit u && decide (c u < 2)
/-- who is on turn after t wins -/
def winF (D : Dn) : Nat → Ct → Nat → Bool
  | 0, _, _ => false
  | f + 1, c, t => !decide (fst? (fun u => plO D c t u && !winF D f (inc c u) u) 6 0 = -1)
theorem fst?_cg {p q : Nat → Bool} : ∀ m a, (∀ u, a ≤ u → u < a + m → p u = q u) → fst? p m a = fst? q m a
  | 0, _, _ => rfl
  | m + 1, a, h => by
    unfold fst?
    rw [h a (Nat.le_refl _) (by omega), fst?_cg m (a + 1) fun u h1 h2 => h u (by omega) (by omega)]
theorem winF_cg (D : Dn) : ∀ f (c c' : Ct) t, (∀ u, u < 6 → c u = c' u) → winF D f c t = winF D f c' t
  | 0, _, _, _, _ => rfl
  | f + 1, c, c', t, h => by
    unfold winF
    rw [fst?_cg 6 0 fun u _ hu => ?_]
    have hu : u < 6 := by omega
    rw [winF_cg D f (inc c u) (inc c' u) u fun v hv => by unfold inc; rw [h v hv]]
    unfold plO
    rw [h u hu]
def won (D : Dn) (c : Ct) (t : Nat) : Bool := winF D (13 - sm c) c t
def plV (D : Dn) (c : Ct) (t : Nat) : Int32 := fst? (fun u => plO D c t u && !won D (inc c u) u) 6 0
theorem won_e (D : Dn) {c : Ct} (h : okC c) (t : Nat) : won D c t = !decide (plV D c t = -1) := by
  have := sm_le h
  unfold won
  rw [show 13 - sm c = (12 - sm c) + 1 by omega, winF]
  unfold plV
  rw [fst?_cg (q := fun u => plO D c t u && !won D (inc c u) u) 6 0 fun u _ hu => ?_]
  try dsimp only
  unfold won
  rw [(g3_inc c (show u < 6 by omega)).2.2, show 13 - (sm c + 1) = 12 - sm c by omega]
theorem won_cg (D : Dn) {c c' : Ct} (h : ∀ u, u < 6 → c u = c' u) (t : Nat) : won D c t = won D c' t := by
  have : sm c = sm c' := by unfold sm; rw [h 0 (by decide), h 1 (by decide), h 2 (by decide), h 3 (by decide), h 4 (by decide), h 5 (by decide)]
  unfold won
  rw [this]
  exact winF_cg D _ c c' t h
def wv (D : Dn) (c : Ct) (t : Nat) : Int32 := if won D c t = true then 1 else 2
def E1 (cl : Nat) (S T : St) : Prop := (∀ c k, ¬ c = cl → T.1 c k = S.1 c k) ∧ T.2 = S.2
theorem E1.rf (cl : Nat) (S : St) : E1 cl S S := ⟨fun _ _ _ => rfl, rfl⟩
theorem E1.tr {cl : Nat} {S T U : St} (h : E1 cl S T) (g : E1 cl T U) : E1 cl S U := ⟨fun c k n => (g.1 c k n).trans (h.1 c k n), g.2.trans h.2⟩
theorem E1.w (cl : Nat) (S : St) (k : Nat) (v : Int32) : E1 cl S (sI S cl k v) := ⟨fun c k' n => by rw [sI_1, if_neg (fun q => n q.1)], rfl⟩
section
variable {L : Lx} {I : Ix} {S S' : St}
def IvX (D : Dn) (S : St) : Prop := ∀ c t, okC c → t < 6 → S.1 12 (6 * g3 c + t) = 0 ∨ S.1 12 (6 * g3 c + t) = wv D c t
theorem div_nI {a b : Nat} (ha : a < 2 ^ 31) (h0 : 0 < b) (hb : b < 2 ^ 31) : nI a / nI b = nI (a / b) := pk_div ha h0 hb
theorem p3 : ∀ u, u < 6 → 3 ^ u < 244 ∧ 0 < 3 ^ u := by decide
def QX (D : Dn) (S : St) (w : Int32) (Q : Int32 → St → Prop) : Prop := ∀ T, E1 12 S T → IvX D T → Q w T
theorem x_winner {D : Dn} (hW : WF D) {Rec : St → Int32 → Int32 → (Int32 → St → Prop) → Prop} {c : Ct} {t : Nat} (hc : okC c) (ht : t < 6) (S0 : St) (hX : RX D S0) (h13 : ∀ k, k < 6 → S0.1 13 k = nI (3 ^ k)) (hI : IvX D S0) (hR : ∀ u S Q, u < 6 → c u < 2 → E1 12 S0 S → IvX D S → QX D S (b2i (won D (inc c u) u = true)) Q → Rec S (nI (g3 (inc c u))) (nI u) Q) {Q : Int32 → St → Prop} (hq : QX D S0 (plV D c t) Q) : wp_o_winner Rec S0 (nI (g3 c)) (nI t) Q := by
  have l3 := g3_lt hc
  have key : ∀ m u S, u + m = 6 → E1 12 S0 S → IvX D S → fst? (fun u => plO D c t u && !won D (inc c u) u) m u = plV D c t → wp_o_winner_b2 Rec Q (nI (g3 c)) (nI t) (m + 1) S (nI u) := by
    intro m
    induction m with
    | zero =>
      intro u S hu hE hI hf
      rw [wp_o_winner_b2, p_lit 6]
      exact ⟨fun _ => by have := hq S hE hI; rw [← hf] at this; exact this, fun z => absurd (nI_le (by omega) (by omega)) z⟩
    | succ m ih =>
      intro u S hu hE hI hf
      have hu6 : u < 6 := by omega
      obtain ⟨p1, p2⟩ := p3 u hu6
      have e13 : S.1 13 u = nI (3 ^ u) := (hE.1 13 u (by decide)).trans (h13 u hu6)
      have e19 : S.1 19 t = nI (D 19 t) := (hE.1 19 t (by decide)).trans (hX.ans ht)
      rw [wp_o_winner_b2, p_lit 6]
      dsimp only
      rw [nI_clamp (show t < 2 ^ 31 by omega), nI_clamp (show u < 2 ^ 31 by omega), e13, e19, o_has_eq (hW.2.2.1 t ht) hu6, if_q, in_nI (by omega) (by omega), in_nI (by omega) (by omega), div_nI (by omega) p2 (by omega), p_lit 3, rem_nI (Nat.lt_of_le_of_lt (Nat.div_le_self _ _) (by omega)) (by decide) (by decide), g3_dig hc hu6, p_lit 2, nI_leI (a := 2) (b := c u) (by decide) (by have := hc u hu6; omega), nI_add, ← (g3_inc c hu6).1, nI_1]
      rw [fst?] at hf
      have no : ∀ S1, E1 12 S0 S1 → IvX D S1 → ¬ (plO D c t u && !won D (inc c u) u) = true → wp_o_winner_b2 Rec Q (nI (g3 c)) (nI t) (m + 1) S1 (nI (u + 1)) := fun S1 h1 h2 c1 => ih (u + 1) S1 (by omega) h1 h2 (by rwa [if_neg c1] at hf)
      refine ⟨fun z => absurd z (nI_ge (by omega) (by omega)), fun _ => ⟨ht, fun z => no S hE hI (by unfold plO; simp [z]), fun z => ⟨hu6, nI_ne0 p2 (by omega), fun z2 => no S hE hI (by unfold plO; simp [show ¬ c u < 2 by omega]), fun z2 => ⟨hu6, hR u S _ hu6 (by omega) hE hI (fun T hT1 hT2 => ?_)⟩⟩⟩⟩
      rw [if_q']
      have hp : plO D c t u = true := by unfold plO; simp [z, show c u < 2 by omega]
      refine ⟨fun z3 => no T (hE.tr hT1) hT2 (by simp [z3]), fun z3 => ?_⟩
      rw [if_pos (by rw [hp]; simp [z3])] at hf
      have := hq T (hE.tr hT1) hT2
      rwa [← hf] at this
  unfold wp_o_winner
  exact ⟨_, key 6 0 S0 rfl (E1.rf 12 S0) hI rfl⟩
theorem x_isWon {D : Dn} (hW : WF D) : ∀ d (c : Ct) (t : Nat) (S : St) (Q : Int32 → St → Prop), okC c → t < 6 → 13 ≤ sm c + d → RX D S → (∀ k, k < 6 → S.1 13 k = nI (3 ^ k)) → IvX D S → QX D S (b2i (won D c t = true)) Q → wp_o_isWon d S (nI (g3 c)) (nI t) Q := by
  intro d
  induction d with
  | zero => intro c t S Q hc ht hd; have := sm_le hc; omega
  | succ d ih =>
    intro c t S Q hc ht hd hX h13 hI hq
    have l3 := g3_lt hc
    rw [wp_o_isWon]
    unfold wp_o_isWon_e
    have ei : (6 : Int32) * nI (g3 c) + nI t = nI (6 * g3 c + t) := by rw [p_lit 6, pk_mul, nI_add]
    have read : ∀ T, E1 12 S T → IvX D T → T.1 12 (6 * g3 c + t) = wv D c t → wp_o_isWon_b38 (wp_o_isWon d) Q T (nI (6 * g3 c + t)) := by
      intro T h1 h2 h3
      unfold wp_o_isWon_b38
      rw [nI_clamp (show 6 * g3 c + t < 2 ^ 31 by omega), h3, in_nI (by omega) (by omega)]
      unfold wv
      by_cases w : won D c t = true
      · have := hq T h1 h2
        rw [b2i_t w] at this
        rw [if_pos w]
        exact ⟨by omega, fun z => absurd rfl z, fun _ => this⟩
      · have := hq T h1 h2
        rw [b2i_f w] at this
        rw [if_neg w]
        exact ⟨by omega, fun _ => this, fun z => absurd z (by decide)⟩
    rw [ei, nI_clamp (show 6 * g3 c + t < 2 ^ 31 by omega), in_nI (by omega) (by omega)]
    refine ⟨by omega, fun z => ?_, fun z => ?_⟩
    · rcases hI c t hc ht with q | q
      · exact absurd q z
      · exact read S (E1.rf 12 S) hI q
    · refine x_winner hW hc ht S hX h13 hI (fun u S1 Q1 hu hcu hE hI1 hQ1 => ih (inc c u) u S1 Q1 (hc.inc hcu) hu (by rw [(g3_inc c hu).2.2]; omega) (fun a b q => (hE.1 a b (by unfold inD at q; omega)).trans (hX a b q)) (fun k hk => (hE.1 13 k (by decide)).trans (h13 k hk)) hI1 hQ1) (fun T hE hI1 => ?_)
      have wr : ∀ v : Int32, v = wv D c t → vp_nar .byte v.toInt8.toInt32 = v → wp_o_isWon_b36 (wp_o_isWon d) Q T (nI (6 * g3 c + t)) v (nI (6 * g3 c + t)) := by
        intro v hv hn
        unfold wp_o_isWon_b36
        rw [nI_clamp (show 6 * g3 c + t < 2 ^ 31 by omega), in_nI (by omega) (by omega), hn]
        refine ⟨by omega, read _ (hE.tr (E1.w 12 T _ _)) (fun c' t' hc' ht' => ?_) (by rw [sI_1, if_pos ⟨rfl, rfl⟩]; exact hv)⟩
        rw [sI_1]
        by_cases e : 6 * g3 c' + t' = 6 * g3 c + t
        · rw [if_pos ⟨rfl, e⟩]
          obtain ⟨e1, e2⟩ := g3_inj hc' hc ht' ht e
          right
          rw [hv, e1]
          unfold wv
          rw [won_cg D e2 t]
        · rw [if_neg (fun q => e q.2)]
          exact hI1 c' t' hc' ht'
      have we := won_e D hc t
      refine ⟨fun z2 => wr 1 ?_ (by decide), fun z2 => wr 2 ?_ (by decide)⟩
      · unfold wv; rw [if_pos (by rw [we]; simp [z2])]
      · unfold wv; rw [if_neg (by rw [we]; simp [z2])]
theorem shr_nI {y : Nat} (hy : y < 2 ^ 31) {K : Int32} {k : Nat} (hK : (K.toBitVec.smod 32).toNat = k) : nI y >>> K = nI (y >>> k) := by
  apply Int32.toInt_inj.mp
  show (BitVec.sshiftRight' (nI y).toBitVec (K.toBitVec.smod 32)).toInt = _
  rw [BitVec.toInt_sshiftRight', hK, nI_toInt (Nat.lt_of_le_of_lt (Nat.shiftRight_le y k) hy)]
  show (nI y).toInt >>> k = _
  rw [nI_toInt hy]
  rfl
theorem nI_and (a b : Nat) : nI a &&& nI b = nI (a &&& b) := by
  apply Int32.toBitVec_inj.mp
  rw [Int32.toBitVec_and]
  show BitVec.ofNat 32 a &&& BitVec.ofNat 32 b = BitVec.ofNat 32 (a &&& b)
  exact BitVec.ofNat_and.symm
theorem g4_bits {c : Ct} (h : okC c) {u : Nat} (hu : u < 6) : (nI (g4 c) >>> ((2 * nI u) &&& 31)) &&& 3 = nI (c u) := by
  have l := g4_lt h
  have e := g4_dig h hu
  rw [p_lit 3]
  have : nI (g4 c) >>> ((2 * nI u) &&& 31) = nI (g4 c / 4 ^ u) := by
    rcases six hu with rfl | rfl | rfl | rfl | rfl | rfl
    · rw [shr_nI (k := 0) (by omega) (by decide), Nat.shiftRight_eq_div_pow]
    · rw [shr_nI (k := 2) (by omega) (by decide), Nat.shiftRight_eq_div_pow]
    · rw [shr_nI (k := 4) (by omega) (by decide), Nat.shiftRight_eq_div_pow]
    · rw [shr_nI (k := 6) (by omega) (by decide), Nat.shiftRight_eq_div_pow]
    · rw [shr_nI (k := 8) (by omega) (by decide), Nat.shiftRight_eq_div_pow]
    · rw [shr_nI (k := 10) (by omega) (by decide), Nat.shiftRight_eq_div_pow]
  rw [this, nI_and, show (3 : Nat) = 2 ^ 2 - 1 from rfl, Nat.and_two_pow_sub_one_eq_mod, show (2 : Nat) ^ 2 = 4 from rfl, e]
theorem one4 : ∀ u, u < 6 → (1 <<< ((2 * nI u) &&& 31) : Int32) = nI (4 ^ u) ∧ 4 ^ u < 1025 := by decide +kernel
theorem m_isPlay_eq {D : Dn} (hM : RM D 0 S) (hW : WF D) {c : Ct} {t u : Nat} (hc : okC c) (ht : t < 6) (hu : u < 6) (Q : Int32 → Prop) : wp_m_isPlay S (nI (g4 c)) (nI t) (nI u) Q = Q (b2i (plO D c t u = true)) := by
  have := hc u hu
  unfold wp_m_isPlay
  rw [g4_bits hc hu, nI_clamp (show t < 2 ^ 31 by omega), hM.ans ht, m_isBit_eq (hW.2.2.1 t ht) hu, if_q, in_nI (by omega) (by omega), p_lit 2, nI_leI (a := 2) (b := c u) (by decide) (by omega)]
  unfold plO
  by_cases h1 : (D 19 t).testBit u = true
  · by_cases h2 : c u < 2
    · rw [b2i_t (by simp [h1, h2])]; simp [h1, show t < 30 by omega, show ¬ 2 ≤ c u by omega]
    · rw [b2i_f (by simp [h2])]; simp [h1, show t < 30 by omega, show 2 ≤ c u by omega]
  · rw [b2i_f (by simp [h1])]; simp [h1, show t < 30 by omega]
def IvM (D : Dn) (n : Nat) (S : St) : Prop := ∀ c t, okC c → t < 6 → n ≤ sm c → S.1 21 (6 * g4 c + t) = 0 ∨ S.1 21 (6 * g4 c + t) = wv D c t
/-- the cells of states that are further on -/
def fur (n k : Nat) : Prop := ∃ c t, okC c ∧ t < 6 ∧ n ≤ sm c ∧ k = 6 * g4 c + t
def QM (D : Dn) (n : Nat) (S : St) (w : Int32) (Q : Int32 → St → Prop) : Prop := ∀ T, E1 21 S T → IvM D n T → (∀ k, ¬ fur n k → T.1 21 k = S.1 21 k) → Q w T
theorem sm_cg {c c' : Ct} (h : ∀ u, u < 6 → c u = c' u) : sm c = sm c' := by unfold sm; rw [h 0 (by decide), h 1 (by decide), h 2 (by decide), h 3 (by decide), h 4 (by decide), h 5 (by decide)]
theorem m_winsFrom {D : Dn} (hW : WF D) : ∀ d (c : Ct) (t : Nat) (S : St) (Q : Int32 → St → Prop), okC c → t < 6 → 13 ≤ sm c + d → RM D 0 S → IvM D (sm c) S → QM D (sm c) S (b2i (won D c t = true)) Q → wp_m_winsFrom d S (nI (g4 c)) (nI t) Q := by
  intro d
  induction d with
  | zero => intro c t S Q hc ht hd; have := sm_le hc; omega
  | succ d ih =>
    intro c t S Q hc ht hd hM hI hq
    have l4 := g4_lt hc
    rw [wp_m_winsFrom]
    unfold wp_m_winsFrom_e
    have ei : (6 : Int32) * nI (g4 c) + nI t = nI (6 * g4 c + t) := by rw [p_lit 6, pk_mul, nI_add]
    have cl : (nI (6 * g4 c + t)).toNatClampNeg = 6 * g4 c + t := nI_clamp (by omega)
    have il : vp_in (nI (6 * g4 c + t)) 24576 := (in_nI (by omega) (by omega)).mpr (by omega)
    have me : fur (sm c) (6 * g4 c + t) := ⟨c, t, hc, ht, Nat.le_refl _, rfl⟩
    have nme : ¬ fur (sm c + 1) (6 * g4 c + t) := by
      rintro ⟨c', t', hc', ht', hs, e⟩
      have := sm_cg (g4_inj hc hc' ht ht' e).2
      omega
    have read : ∀ T, E1 21 S T → IvM D (sm c) T → (∀ k, ¬ fur (sm c) k → T.1 21 k = S.1 21 k) → T.1 21 (6 * g4 c + t) = wv D c t → wp_m_winsFrom_b84 (wp_m_winsFrom d) Q T (nI (6 * g4 c + t)) := by
      intro T h1 h2 h4 h3
      unfold wp_m_winsFrom_b84
      rw [cl, h3]
      unfold wv
      by_cases w : won D c t = true
      · have := hq T h1 h2 h4
        rw [b2i_t w] at this
        rw [if_pos w]
        exact ⟨il, fun z => absurd rfl z, fun _ => this⟩
      · have := hq T h1 h2 h4
        rw [b2i_f w] at this
        rw [if_neg w]
        exact ⟨il, fun _ => this, fun z => absurd z (by decide)⟩
    rw [ei, cl]
    refine ⟨il, fun z => ?_, fun z => ⟨il, ?_⟩⟩
    · rcases hI c t hc ht (Nat.le_refl _) with q | q
      · exact absurd q z
      · exact read S (E1.rf 21 S) hI (fun _ _ => rfl) q
    · -- while the moves are tried
      have fin : ∀ T, E1 21 S T → IvM D (sm c + 1) T → (∀ k, ¬ fur (sm c + 1) k → ¬ k = 6 * g4 c + t → T.1 21 k = S.1 21 k) → T.1 21 (6 * g4 c + t) = wv D c t → wp_m_winsFrom_b84 (wp_m_winsFrom d) Q T (nI (6 * g4 c + t)) := by
        intro T h1 h2 h3 h4
        refine read T h1 (fun c' t' hc' ht' hs => ?_) (fun k hk => h3 k (fun ⟨c', t', a1, a2, a3, a4⟩ => hk ⟨c', t', a1, a2, by omega, a4⟩) (fun e => hk (e ▸ me))) h4
        by_cases e : 6 * g4 c' + t' = 6 * g4 c + t
        · obtain ⟨e1, e2⟩ := g4_inj hc' hc ht' ht e
          right
          rw [e, h4, e1]
          unfold wv
          rw [won_cg D e2 t]
        · by_cases e2 : sm c + 1 ≤ sm c'
          · exact h2 c' t' hc' ht' e2
          · rw [h3 _ ?_ e]
            · exact hI c' t' hc' ht' hs
            · rintro ⟨c2, t2, hc2, ht2, hs2, q⟩
              have := sm_cg (g4_inj hc' hc2 ht' ht2 q).2
              omega
      have key : ∀ m u T, u + m = 6 → E1 21 S T → IvM D (sm c + 1) T → (∀ k, ¬ fur (sm c + 1) k → ¬ k = 6 * g4 c + t → T.1 21 k = S.1 21 k) → T.1 21 (6 * g4 c + t) = 2 → fst? (fun u => plO D c t u && !won D (inc c u) u) m u = plV D c t → wp_m_winsFrom_b26 (wp_m_winsFrom d) Q (nI (g4 c)) (nI t) (m + 1) T (nI (6 * g4 c + t)) (nI u) := by
        intro m
        induction m with
        | zero =>
          intro u T hu h1 h2 h3 h4 hf
          rw [wp_m_winsFrom_b26, p_lit 6]
          refine ⟨fun _ => fin T h1 h2 h3 ?_, fun z => absurd (nI_le (by omega) (by omega)) z⟩
          rw [h4]
          unfold wv
          rw [if_neg]
          rw [won_e D hc t, ← hf]
          simp [fst?]
        | succ m ihm =>
          intro u T hu h1 h2 h3 h4 hf
          have hu6 : u < 6 := by omega
          have hMT : RM D 0 T := KN.rm ⟨fun a b q => h1.1 a b (by unfold kM at q; omega), fun k => by rw [h1.2]⟩ hM
          obtain ⟨o1, o2⟩ := one4 u hu6
          rw [fst?] at hf
          rw [wp_m_winsFrom_b26, p_lit 6]
          dsimp only
          rw [cl, h4, m_isPlay_eq hMT hW hc ht hu6, if_q, o1, nI_add, ← (g3_inc c hu6).2.1, nI_1]
          refine ⟨fun z => absurd z (nI_ge (by omega) (by omega)), fun _ => ⟨il, fun z => absurd rfl z, fun _ => ⟨fun z => ihm (u + 1) T (by omega) h1 h2 h3 h4 (by rwa [if_neg (by simp [z])] at hf), fun z => ?_⟩⟩⟩
          have hcu : c u < 2 := by
            have q := z
            unfold plO at q
            simp at q
            exact q.2
          have si := (g3_inc c hu6).2.2
          refine ih (inc c u) u T _ (hc.inc hcu) hu6 (by omega) hMT (by rw [si]; exact h2) (fun T2 g1 g2 g3 => ?_)
          rw [si] at g2 g3
          have k3 : ∀ k, ¬ fur (sm c + 1) k → ¬ k = 6 * g4 c + t → T2.1 21 k = S.1 21 k := fun k a b => (g3 k a).trans (h3 k a b)
          have k4 : T2.1 21 (6 * g4 c + t) = 2 := (g3 _ nme).trans h4
          rw [if_q']
          refine ⟨fun z2 => ihm (u + 1) T2 (by omega) (h1.tr g1) g2 k3 k4 (by rwa [if_neg (by simp [z2])] at hf), fun z2 => ⟨il, ?_⟩⟩
          rw [if_pos (by rw [z]; simp [z2])] at hf
          have w1 : wv D c t = 1 := by
            unfold wv
            rw [if_pos]
            rw [won_e D hc t, ← hf]
            simp [m1_ne (show u < 2 ^ 31 by omega)]
          -- the cell says: won
          have c1 : (sI T2 21 (6 * g4 c + t) 1).1 21 (6 * g4 c + t) = 1 := by rw [sI_1, if_pos ⟨rfl, rfl⟩]
          have f84 : wp_m_winsFrom_b84 (wp_m_winsFrom d) Q (sI T2 21 (6 * g4 c + t) 1) (nI (6 * g4 c + t)) := by
            refine fin _ ((h1.tr g1).tr (E1.w 21 T2 _ _)) (fun c' t' a1 a2 a3 => ?_) (fun k a b => ?_) (by rw [c1, w1])
            · rw [sI_1, if_neg (fun q => nme ⟨c', t', a1, a2, a3, q.2.symm⟩)]
              exact g2 c' t' a1 a2 a3
            · rw [sI_1, if_neg (fun q => b q.2)]
              exact k3 k a b
          cases m with
          | zero =>
            rw [wp_m_winsFrom_b26, p_lit 6]
            exact ⟨fun _ => f84, fun z => absurd (nI_le (by omega) (by omega)) z⟩
          | succ m =>
            rw [wp_m_winsFrom_b26, p_lit 6]
            dsimp only
            rw [cl, c1]
            exact ⟨fun _ => f84, fun _ => ⟨il, fun _ => f84, fun z => absurd z (by decide)⟩⟩
      refine ⟨_, key 6 0 _ rfl (E1.w 21 S _ _) (fun c' t' a1 a2 a3 => ?_) (fun k a b => ?_) (by rw [sI_1, if_pos ⟨rfl, rfl⟩]) rfl⟩
      · rw [sI_1, if_neg (fun q => nme ⟨c', t', a1, a2, a3, q.2.symm⟩)]
        exact hI c' t' a1 a2 (by omega)
      · rw [sI_1, if_neg (fun q => b q.2)]
-- ---- the memo is cleared first
theorem x_winnerFrom {D : Dn} (hX : RX D S) (hW : WF D) (h13 : ∀ k, k < 6 → S.1 13 k = nI (3 ^ k)) {t : Nat} (ht : t < 6) {Q : Int32 → St → Prop} (hq : ∀ T, E1 12 S T → Q (plV D (inc (fun _ => 0) t) t) T) : wp_o_winnerFrom S (nI t) Q := by
  have ok0 : okC (inc (fun _ => 0) t) := okC.inc (fun _ _ => Nat.zero_le _) (by decide)
  have key : ∀ m n T, n + m = 4374 → E1 12 S T → (∀ k, k < n → T.1 12 k = 0) → wp_o_winnerFrom_b2 Q (nI t) (m + 1) T (nI n) := by
    intro m
    induction m with
    | zero =>
      intro n T hn hE hz
      rw [wp_o_winnerFrom_b2, p_lit 4374]
      refine ⟨fun _ => ⟨(in_nI (by omega) (by omega)).mpr ht, ?_⟩, fun z => absurd (nI_le (by omega) (by omega)) z⟩
      have hX' : RX D T := fun a b q => (hE.1 a b (by unfold inD at q; omega)).trans (hX a b q)
      have h13' : ∀ k, k < 6 → T.1 13 k = nI (3 ^ k) := fun k hk => (hE.1 13 k (by decide)).trans (h13 k hk)
      have e : nI (3 ^ t) = nI (g3 (inc (fun _ => 0) t)) := by
        rw [(g3_inc _ ht).1]; congr 1; simp [g3]
      rw [nI_clamp (show t < 2 ^ 31 by omega), h13' t ht, e]
      have hI : IvX D T := fun c t' hc ht' => Or.inl (hz _ (by have := g3_lt hc; omega))
      exact x_winner hW ok0 ht T hX' h13' hI (fun u S1 Q1 hu hcu hE1 hI1 hQ1 => x_isWon hW 20 (inc (inc (fun _ => 0) t) u) u S1 Q1 (ok0.inc hcu) hu (by omega) (fun a b q => (hE1.1 a b (by unfold inD at q; omega)).trans (hX' a b q)) (fun k hk => (hE1.1 13 k (by decide)).trans (h13' k hk)) hI1 hQ1) (fun T2 h1 _ => hq T2 (hE.tr h1))
    | succ m ih =>
      intro n T hn hE hz
      rw [wp_o_winnerFrom_b2, p_lit 4374]
      dsimp only
      rw [nI_clamp (show n < 2 ^ 31 by omega), nI_1]
      refine ⟨fun z => absurd z (nI_ge (by omega) (by omega)), fun _ => ⟨(in_nI (by omega) (by omega)).mpr (by omega), ih (n + 1) _ (by omega) (hE.tr (E1.w 12 T _ _)) (fun k hk => ?_)⟩⟩
      rw [sI_1]
      by_cases e : k = n
      · rw [if_pos ⟨rfl, e⟩]; decide
      · rw [if_neg (fun q => e q.2)]; exact hz k (by omega)
  unfold wp_o_winnerFrom
  exact ⟨_, key 4374 0 S rfl (E1.rf 12 S) (fun k hk => absurd hk (Nat.not_lt_zero k))⟩
theorem m_laysGame {Q : St → Prop} (hq : ∀ T, E1 21 S T → (∀ k, k < 24576 → T.1 21 k = 0) → Q T) : wp_m_laysGame S Q := by
  have key : ∀ m n T, n + m = 24576 → E1 21 S T → (∀ k, k < n → T.1 21 k = 0) → wp_m_laysGame_b2 Q (m + 1) T (nI n) := by
    intro m
    induction m with
    | zero =>
      intro n T hn hE hz
      rw [wp_m_laysGame_b2, p_lit 24576]
      exact ⟨fun _ => hq T hE (fun k hk => hz k (by omega)), fun z => absurd (nI_le (by omega) (by omega)) z⟩
    | succ m ih =>
      intro n T hn hE hz
      rw [wp_m_laysGame_b2, p_lit 24576]
      dsimp only
      rw [nI_clamp (show n < 2 ^ 31 by omega), nI_1]
      refine ⟨fun z => absurd z (nI_ge (by omega) (by omega)), fun _ => ⟨(in_nI (by omega) (by omega)).mpr (by omega), ih (n + 1) _ (by omega) (hE.tr (E1.w 21 T _ _)) (fun k hk => ?_)⟩⟩
      rw [sI_1]
      by_cases e : k = n
      · rw [if_pos ⟨rfl, e⟩]
      · rw [if_neg (fun q => e q.2)]; exact hz k (by omega)
  unfold wp_m_laysGame
  exact ⟨_, key 24576 0 S rfl (E1.rf 21 S) (fun k hk => absurd hk (Nat.not_lt_zero k))⟩
theorem E1.x {S T : St} (h : E1 12 S T) : KX S T := fun c k q => h.1 c k (by unfold kX at q; omega)
theorem E1.n {S T : St} (h : E1 21 S T) : KN S T := ⟨fun c k q => h.1 c k (by unfold kM at q; omega), fun k => by rw [h.2]⟩
theorem pl_game (h : R9 L I S S') (x : Int32) : wp_o_game S x (fun v S1 => wp_m_game S' x (fun v' T => v = v' ∧ R9 L I S1 T)) := by
  obtain ⟨D, hW, hX, hM, hF, -⟩ := id h
  have h13 := hF.2.2.2.2
  have hM2 := (kn0 S' 0).rm hM
  unfold wp_o_game
  rw [o_isStep_eq hX hW, if_q]
  have mm : ∀ (v : Int32) (S1 : St), KX S S1 → (¬ (0 < D 15 3 ∧ isI x 6) → v = -2) → (∀ t, t < 6 → 0 < D 15 3 → x = nI t → v = b2i (won D (inc (fun _ => 0) t) t = true)) → wp_m_game S' x (fun v' T => v = v' ∧ R9 L I S1 T) := by
    intro v S1 k1 v1 v0
    have k := h.keep k1 (kn0 S' 0)
    unfold wp_m_game
    dsimp only
    rw [m_isDance_eq hM2.lines hW, m_isStep_eq, if_q, if_q']
    refine ⟨fun c => ⟨v1 (fun q => c q.1), k⟩, fun c => ⟨fun c1 => ?_, fun c1 => ⟨v1 (fun q => c1 q.2), k⟩⟩⟩
    obtain ⟨t, ht, rfl⟩ := isI_ex c1 (by decide)
    refine m_laysGame (fun T hE hz => ?_)
    have ok0 : okC (inc (fun _ => 0) t) := okC.inc (fun _ _ => Nat.zero_le _) (by decide)
    have e : nI (4 ^ t) = nI (g4 (inc (fun _ => 0) t)) := by
      rw [(g3_inc _ ht).2.1]; congr 1; simp [g4]
    rw [(one4 t ht).1, e]
    refine m_winsFrom hW 20 _ t T _ ok0 ht (by omega) (hE.n.rm hM2) (fun c' t' hc' ht' _ => Or.inl (hz _ (by have := g4_lt hc'; omega))) (fun T2 g1 _ _ => ?_)
    have k9 := h.keep k1 ((kn0 S' 0).tr (hE.tr g1).n)
    rw [if_q, v0 t ht c rfl]
    exact ⟨fun z => ⟨b2i_f z, k9⟩, fun z => ⟨b2i_t z, k9⟩⟩
  refine ⟨fun c => mm _ S (KX.rf S) (fun _ => rfl) (fun t ht h1 e => absurd ⟨h1, by rw [e]; exact isI_of ht (by omega)⟩ c), fun c => ?_⟩
  obtain ⟨t, ht, rfl⟩ := isI_ex c.2 (by decide)
  have ok0 : okC (inc (fun _ => 0) t) := okC.inc (fun _ _ => Nat.zero_le _) (by decide)
  have we := won_e D ok0 t
  refine x_winnerFrom hX hW h13 ht (fun T hE => ⟨fun z => mm _ T hE.x (fun q => absurd c q) (fun t' ht' _ e => ?_), fun z => mm _ T hE.x (fun q => absurd c q) (fun t' ht' _ e => ?_)⟩)
  · rw [← (nI_eq (by omega) (by omega)).mp e, b2i_t (by rw [we]; simp [z])]
  · rw [← (nI_eq (by omega) (by omega)).mp e, b2i_f (by rw [we]; simp [z])]
theorem pl_plays (h : R9 L I S S') (x : Int32) : wp_o_plays S x (fun v S1 => wp_m_plays S' x (fun v' T => v = v' ∧ R9 L I S1 T)) := by
  obtain ⟨D, hW, hX, hM, hF, -⟩ := id h
  have h13 := hF.2.2.2.2
  have hM2 := (kn0 S' 0).rm hM
  unfold wp_o_plays
  rw [o_isStep_eq hX hW, if_q]
  have mm : ∀ (v : Int32) (S1 : St), KX S S1 → (¬ (0 < D 15 3 ∧ isI x 6) → v = -2) → (∀ t, t < 6 → 0 < D 15 3 → x = nI t → v = plV D (inc (fun _ => 0) t) t) → wp_m_plays S' x (fun v' T => v = v' ∧ R9 L I S1 T) := by
    intro v S1 k1 v1 v0
    have k := h.keep k1 (kn0 S' 0)
    unfold wp_m_plays
    dsimp only
    rw [m_isDance_eq hM2.lines hW, m_isStep_eq, if_q, if_q']
    refine ⟨fun c => ⟨v1 (fun q => c q.1), k⟩, fun c => ⟨fun c1 => ?_, fun c1 => ⟨v1 (fun q => c1 q.2), k⟩⟩⟩
    obtain ⟨t, ht, rfl⟩ := isI_ex c1 (by decide)
    refine m_laysGame (fun T hE hz => ?_)
    have ok0 : okC (inc (fun _ => 0) t) := okC.inc (fun _ _ => Nat.zero_le _) (by decide)
    have e : nI (4 ^ t) = nI (g4 (inc (fun _ => 0) t)) := by
      rw [(g3_inc _ ht).2.1]; congr 1; simp [g4]
    rw [(one4 t ht).1, e]
    have v9 := v0 t ht c rfl
    have key : ∀ m u T2, u + m = 6 → E1 21 T T2 → IvM D (sm (inc (fun _ => 0) t) + 1) T2 → v = fst? (fun u => plO D (inc (fun _ => 0) t) t u && !won D (inc (inc (fun _ => 0) t) u) u) m u → wp_m_plays_b35 (fun v' T => v = v' ∧ R9 L I S1 T) (nI t) (m + 1) T2 (nI (g4 (inc (fun _ => 0) t))) (nI u) := by
      intro m
      induction m with
      | zero =>
        intro u T2 hu hE2 hI hv
        rw [wp_m_plays_b35, p_lit 6]
        exact ⟨fun _ => ⟨hv, h.keep k1 ((kn0 S' 0).tr (hE.tr hE2).n)⟩, fun z => absurd (nI_le (by omega) (by omega)) z⟩
      | succ m ih =>
        intro u T2 hu hE2 hI hv
        have hu6 : u < 6 := by omega
        have si := (g3_inc (inc (fun _ => 0) t) hu6).2.2
        rw [fst?] at hv
        rw [wp_m_plays_b35, p_lit 6]
        dsimp only
        rw [m_isPlay_eq ((hE.tr hE2).n.rm hM2) hW ok0 ht hu6, if_q, (one4 u hu6).1, nI_add, ← (g3_inc _ hu6).2.1, nI_1]
        refine ⟨fun z => absurd z (nI_ge (by omega) (by omega)), fun _ => ⟨fun z => ih (u + 1) T2 (by omega) hE2 hI (by rwa [if_neg (by simp [z])] at hv), fun z => ?_⟩⟩
        have hcu : inc (fun _ => 0) t u < 2 := by
          have q := z
          unfold plO at q
          simp at q
          exact q.2
        refine m_winsFrom hW 20 _ u T2 _ (ok0.inc hcu) hu6 (by omega) ((hE.tr hE2).n.rm hM2) (by rw [si]; exact hI) (fun T3 g1 g2 _ => ?_)
        rw [si] at g2
        rw [if_q']
        exact ⟨fun z2 => ih (u + 1) T3 (by omega) (hE2.tr g1) g2 (by rwa [if_neg (by simp [z2])] at hv), fun z2 => ⟨by rwa [if_pos (by rw [z]; simp [z2])] at hv, h.keep k1 ((kn0 S' 0).tr (hE.tr (hE2.tr g1)).n)⟩⟩
    exact ⟨_, key 6 0 T rfl (E1.rf 21 T) (fun c' t' hc' ht' _ => Or.inl (hz _ (by have := g4_lt hc'; omega))) v9⟩
  refine ⟨fun c => mm _ S (KX.rf S) (fun _ => rfl) (fun t ht h1 e => absurd ⟨h1, by rw [e]; exact isI_of ht (by omega)⟩ c), fun c => ?_⟩
  obtain ⟨t, ht, rfl⟩ := isI_ex c.2 (by decide)
  refine x_winnerFrom hX hW h13 ht (fun T hE => mm _ T hE.x (fun q => absurd c q) (fun t' ht' _ e => ?_))
  rw [(nI_eq (by omega) (by omega)).mp e]
end
