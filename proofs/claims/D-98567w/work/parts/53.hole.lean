/-! THE PLAIN LAW: both sides laid; what is heard; holes -/
set_option maxRecDepth 100000
-- ---- guards
theorem o_isDance_eq {D : Dn} {S : St} (h : RX D S) (hW : WF D) (Q : Int32 → Prop) : wp_o_isDance S Q = Q (b2i (0 < D 15 3)) := by
  have w := hW.1
  unfold wp_o_isDance
  rw [h.g (k := 3) (by decide)]
  refine br01 Q ?_
  rw [le0 (show D 15 3 < 2 ^ 31 by omega)]
  omega
theorem m_isDance_eq {D : Dn} {S : St} (h : S.1 6 0 = nI (D 15 3)) (hW : WF D) (Q : Int32 → Prop) : wp_m_isDance S Q = Q (b2i (0 < D 15 3)) := by
  have w := hW.1
  unfold wp_m_isDance
  rw [h]
  refine br01 Q ?_
  rw [le0 (show D 15 3 < 2 ^ 31 by omega)]
  omega
theorem o_isOneOf_eq (x : Int32) {m : Int32} {n : Nat} (hm : m = nI n) (h1 : 1 ≤ n) (h2 : n < 2 ^ 30) (Q : Int32 → Prop) : wp_o_isOneOf x m Q = Q (b2i (isI x n)) := by
  unfold wp_o_isOneOf
  rw [o_isIn_eq, b2i_nar]
  have e : (m - 1).toInt64.toInt = (n : Int) - 1 := by
    rw [tL, hm, show (1 : Int32) = nI 1 from rfl, pk_sub_toInt (by omega) (by decide)]
    omega
  rw [b2i_congr (q := isI x n) (by rw [e, tL, show (0 : Int64).toInt = 0 from by decide]; unfold isI; omega)]
  simp
theorem o_isSide_eq {D : Dn} {S : St} (h : RX D S) (hW : WF D) (x : Int32) (Q : Int32 → Prop) : wp_o_isSide S x Q = Q (b2i (0 < D 15 3 ∧ isI x 2)) := by
  unfold wp_o_isSide
  rw [o_isDance_eq h hW, o_isOneOf_eq x (m := 2) (n := 2) rfl (by decide) (by decide), b01_q]
  exact an_q Q
theorem in_isI (x : Int32) {m : Int64} {n : Nat} (hm : m.toInt = (n : Int) - 1) : (((0 : Int64).toInt ≤ x.toInt64.toInt ∧ x.toInt64.toInt ≤ m.toInt) ↔ isI x n) := by
  rw [hm, tL, show (0 : Int64).toInt = 0 from by decide]
  unfold isI
  omega
theorem o_isBeat_eq {D : Dn} {S : St} (h : RX D S) (hW : WF D) (x : Int32) (Q : Int32 → Prop) : wp_o_isBeat S x.toInt64 Q = Q (b2i (0 < D 15 3 ∧ isI x 200)) := by
  unfold wp_o_isBeat
  rw [o_isDance_eq h hW, o_isIn_eq, b2i_congr (in_isI x (n := 200) (by decide)), b01_q]
  exact an_q Q
theorem o_isStep_eq {D : Dn} {S : St} (h : RX D S) (hW : WF D) (x : Int32) (Q : Int32 → Prop) : wp_o_isStep S x.toInt64 Q = Q (b2i (0 < D 15 3 ∧ isI x 6)) := by
  unfold wp_o_isStep
  rw [o_isDance_eq h hW, o_isIn_eq, b2i_congr (in_isI x (n := 6) (by decide)), b01_q]
  exact an_q Q
theorem o_isAsked_eq {D : Dn} {S : St} (h : RX D S) (hW : WF D) (x y : Int32) (Q : Int32 → Prop) : wp_o_isAsked S x y Q = Q (b2i ((0 < D 15 3 ∧ isI x 2) ∧ isI y 200)) := by
  unfold wp_o_isAsked
  rw [o_isSide_eq h hW, o_isBeat_eq h hW, b01_q, an_q]
  exact congrArg Q (b2i_congr (by constructor <;> intro z <;> exact ⟨z.1, by first | exact z.2.2 | exact ⟨z.1.1, z.2⟩⟩))
theorem m_isSide_eq {D : Dn} {S : St} (h : S.1 6 0 = nI (D 15 3)) (hW : WF D) (x : Int32) (Q : Int32 → Prop) : wp_m_isSide S x Q = Q (b2i (0 < D 15 3 ∧ isI x 2)) := by
  unfold wp_m_isSide
  rw [m_isDance_eq h hW, m_in_eq, b2i_congr (in_isI x (n := 2) (by decide)), b01_q]
  exact an_q Q
theorem m_isBeat_eq (x : Int32) (Q : Int32 → Prop) : wp_m_isBeat x.toInt64 Q = Q (b2i (isI x 200)) := by
  unfold wp_m_isBeat
  rw [m_in_eq, b2i_congr (in_isI x (n := 200) (by decide))]
  exact nar_q Q
theorem m_isStep_eq (x : Int32) (Q : Int32 → Prop) : wp_m_isStep x.toInt64 Q = Q (b2i (isI x 6)) := by
  unfold wp_m_isStep
  rw [m_in_eq, b2i_congr (in_isI x (n := 6) (by decide))]
  exact nar_q Q
theorem o_isSpan_eq {D : Dn} {S : St} (h : RX D S) (hW : WF D) (x y : Int32) (Q : Int32 → Prop) : wp_o_isSpan S x y Q = Q (b2i ((0 < D 15 3 ∧ isI x 200) ∧ (0 < D 15 3 ∧ isI y 200) ∧ ¬ y < x)) := by
  unfold wp_o_isSpan
  rw [o_isBeat_eq h hW, o_isBeat_eq h hW, br01 (c := y < x) (p := ¬ y < x) Q Iff.rfl, an_q]
  exact an_q Q
theorem m_isSpan_eq {D : Dn} {S : St} (h : S.1 6 0 = nI (D 15 3)) (hW : WF D) (x y : Int32) (Q : Int32 → Prop) : wp_m_isSpan S x y Q = Q (b2i ((0 < D 15 3 ∧ isI x 200) ∧ (0 < D 15 3 ∧ isI y 200) ∧ ¬ y < x)) := by
  unfold wp_m_isSpan
  rw [m_isDance_eq h hW, m_isBeat_eq, m_in_eq, b01_q, an_q, an_q]
  refine congrArg Q (b2i_congr ?_)
  rw [tL, tL, show (199 : Int64).toInt = 199 from by decide, Int32.lt_iff_toInt_lt]
  unfold isI
  omega
-- ---- both sides laid
def LXf (c1 c2 m : Nat) (D : Dn) (g : Nat → Nat → Option (Nat × Nat)) (S0 S : St) : Prop := (∀ s b, s < 2 → b < 200 → S.1 c1 (m * s + b) = spV D s (g s) b ∧ S.1 c2 (200 * s + b) = stV D s (g s) b) ∧ (∀ c k, ¬ c = c1 → ¬ c = c2 → S.1 c k = S0.1 c k) ∧ S.2 = S0.2
theorem LXf.of {c1 c2 m : Nat} (h12 : c1 ≠ c2) (hm : 200 ≤ m) {D : Dn} {g : Nat → Nat → Option (Nat × Nat)} {S0 S1 S : St} (h1 : UPx c1 c2 m D 0 (g 0) 200 S0 S1) (h2 : UPx c1 c2 m D 1 (g 1) 200 S1 S) : LXf c1 c2 m D g S0 S := by
  refine ⟨fun s b hs hb => ?_, fun c k n1 n2 => ?_, h2.2.trans h1.2⟩
  · rcases (show s = 0 ∨ s = 1 by omega) with rfl | rfl
    · constructor
      · rw [h2.1, if_neg (by omega), if_neg (by omega), h1.1, if_pos ⟨rfl, by omega, by omega⟩]; congr 1; omega
      · rw [h2.1, if_neg (by omega), if_neg (by omega), h1.1, if_neg (by omega), if_pos ⟨rfl, by omega, by omega⟩]; congr 1; omega
    · constructor
      · rw [h2.1, if_pos ⟨rfl, by omega, by omega⟩]; congr 1; omega
      · rw [h2.1, if_neg (by omega), if_pos ⟨rfl, by omega, by omega⟩]; congr 1; omega
  · rw [h2.1, if_neg (fun z => n1 z.1), if_neg (fun z => n2 z.1), h1.1, if_neg (fun z => n1 z.1), if_neg (fun z => n2 z.1)]
theorem UPx.x {D : Dn} {s : Nat} {f : Nat → Option (Nat × Nat)} {b : Nat} {S0 S : St} (h : UPx 2 3 200 D s f b S0 S) : KX S0 S := fun c k q => by
  rw [h.1, if_neg (by unfold kX at q; omega), if_neg (by unfold kX at q; omega)]
theorem UPx.n {D : Dn} {s : Nat} {f : Nat → Option (Nat × Nat)} {b : Nat} {S0 S : St} (h : UPx 17 18 201 D s f b S0 S) : KN S0 S := ⟨fun c k q => by
  rw [h.1, if_neg (by unfold kM at q; omega), if_neg (by unfold kM at q; omega)], fun k => by rw [h.2]⟩
theorem LXf.x {D : Dn} {g : Nat → Nat → Option (Nat × Nat)} {S0 S : St} (h : LXf 2 3 200 D g S0 S) : KX S0 S := fun c k q => h.2.1 c k (by unfold kX at q; omega) (by unfold kX at q; omega)
theorem LXf.n {D : Dn} {g : Nat → Nat → Option (Nat × Nat)} {S0 S : St} (h : LXf 17 18 201 D g S0 S) : KN S0 S := ⟨fun c k q => h.2.1 c k (by unfold kM at q; omega) (by unfold kM at q; omega), fun k => by rw [h.2.2]⟩
abbrev gAll (D : Dn) (but : Nat) (s : Nat) : Nat → Option (Nat × Nat) := fBut D s but
theorem x_both {D : Dn} {S0 : St} {Q : St → Prop} (h0 : RX D S0) (hW : WF D) (hQ : ∀ S, LXf 2 3 200 D (gAll D 200) S0 S → Q S) : wp_p_goesBoth_5 S0 Q := by
  unfold wp_p_goesBoth_5
  exact x_told (s := 0) h0 hW (by decide) (fun S1 h1 => x_told (s := 1) (h1.x.rx h0) hW (by decide) (fun S2 h2 => hQ S2 (LXf.of (by decide) (by decide) h1 h2)))
theorem x_both6 {D : Dn} {S0 : St} {Q : St → Prop} (h0 : RX D S0) (hW : WF D) {w : Nat} (hw : w < 8) (hw0 : S0.1 6 3 = nI w) (hQ : ∀ S, LXf 2 3 200 D (gAll D w) S0 S → Q S) : wp_p_goesBoth_6 S0 Q := by
  unfold wp_p_goesBoth_6
  exact x_without (s := 0) h0 hW (by decide) hw hw0 (fun S1 h1 => x_without (s := 1) (h1.x.rx h0) hW (by decide) hw (by rw [h1.1, if_neg (by omega), if_neg (by omega)]; exact hw0) (fun S2 h2 => hQ S2 (LXf.of (by decide) (by decide) h1 h2)))
theorem m_laysBut9 {D : Dn} {S0 : St} {Q : St → Prop} (h0 : RM D 0 S0) (hW : WF D) {x1 : Int32} (h99 : ¬ x1 = 99) {but : Nat} (hbut : ∀ i, i < 8 → (nI i = x1 ↔ i = but)) (hQ : ∀ S, LXf 17 18 201 D (gAll D but) S0 S → Q S) : wp_m_laysBut S0 x1 Q := by
  unfold wp_m_laysBut
  exact m_goes (s := 0) h0 hW (by decide) (fBut_ok hW 0 but) (m_inBut hW (by decide) h99 hbut) (fun S1 h1 => m_goes (s := 1) (h1.n.rm h0) hW (by decide) (fBut_ok hW 1 but) (m_inBut hW (by decide) h99 hbut) (fun S2 h2 => hQ S2 (LXf.of (by decide) (by decide) h1 h2)))
theorem m_but {D : Dn} {S0 : St} {Q : St → Prop} (h0 : RM D 0 S0) (hW : WF D) {w : Nat} (hw : w < 8) (hQ : ∀ S, LXf 17 18 201 D (gAll D w) S0 S → Q S) : wp_m_laysBut S0 (nI w) Q := m_laysBut9 h0 hW (fun c => absurd ((nI_eq (b := 99) (by omega) (by decide)).mp c) (by omega)) (fun i hi => nI_eq (by omega) (by omega)) hQ
theorem m_both {D : Dn} {S0 : St} {Q : St → Prop} (h0 : RM D 0 S0) (hW : WF D) (hQ : ∀ S, LXf 17 18 201 D (gAll D 200) S0 S → Q S) : wp_m_lays S0 Q := by
  unfold wp_m_lays
  exact m_laysBut9 h0 hW (by decide) (fun i hi => ⟨fun c => absurd c (m1_ne (by omega)), fun c => absurd c (by omega)⟩) hQ
-- ---- holes
theorem has_all : ∀ a, a < 64 → ∀ t, t < 6 → (((nI a >>> (nI t &&& 31)) &&& 1) = 1 ↔ a.testBit t = true) := by decide +kernel
theorem o_has_eq {a t : Nat} (ha : a < 64) (ht : t < 6) (Q : Int32 → Prop) : wp_o_has (nI a) (nI t) Q = Q (b2i (a.testBit t = true)) := by
  unfold wp_o_has
  exact br10 Q (has_all a ha t ht).symm
theorem m_isBit_eq {a t : Nat} (ha : a < 64) (ht : t < 6) (Q : Int32 → Prop) : wp_m_isBit (nI a) (nI t) Q = Q (b2i (a.testBit t = true)) := o_has_eq ha ht Q
/-- a step danced, or none -/
def stp (t : Int32) : Prop := t = -1 ∨ ∃ j, j < 6 ∧ t = nI j
def hol (D : Dn) (t u : Int32) : Bool := !(t == -1) && !(u == -1) && !((D 19 t.toNatClampNeg).testBit u.toNatClampNeg)
def hrd (D : Dn) (st : Nat → Nat → Int32) (s b : Nat) : Int32 := if D 15 0 ≤ b then st (1 - s) (b - D 15 0) else -1
def hoB (D : Dn) (st : Nat → Nat → Int32) (s b : Nat) : Bool := hol D (st s b) (hrd D st s b)
theorem hol_m1 (D : Dn) (u : Int32) : hol D (-1) u = false := by unfold hol; simp
theorem hol_m1' (D : Dn) (t : Int32) : hol D t (-1) = false := by unfold hol; simp
theorem hol_of (D : Dn) {t u : Nat} (ht : t < 6) (hu : u < 6) : hol D (nI t) (nI u) = !((D 19 t).testBit u) := by
  unfold hol
  rw [nI_clamp (by omega), nI_clamp (by omega)]
  have h1 : (nI t == -1) = false := by simp [m1_ne (show t < 2 ^ 31 by omega)]
  have h2 : (nI u == -1) = false := by simp [m1_ne (show u < 2 ^ 31 by omega)]
  rw [h1, h2]
  simp
theorem x_heardIn {D : Dn} {S : St} (hR : RX D S) (hW : WF D) {s b : Nat} (hs : s < 2) (hb : b < 200) {st : Nat → Nat → Int32} (hu : D 15 0 ≤ b → S.1 3 (200 * (1 - s) + (b - D 15 0)) = st (1 - s) (b - D 15 0)) (Q : Int32 → Prop) : wp_o_heardIn S (nI s) (nI b) Q = Q (hrd D st s b) := by
  have w := hW.1
  unfold wp_o_heardIn wp_o_stepIn hrd
  rw [hR.g (k := 0) (by decide), nI_leI (by omega) (by omega)]
  by_cases h : D 15 0 ≤ b
  · have e : (200 : Int32) * (1 - nI s) + (nI b - nI (D 15 0)) = nI (200 * (1 - s) + (b - D 15 0)) := by
      rw [show (1 : Int32) = nI 1 from rfl, pk_sub (show s ≤ 1 by omega), pk_sub h, p_lit 200, pk_mul, nI_add]
    rw [e, nI_clamp (by omega), hu h, if_pos h]
    simp only [h, not_true_eq_false, false_implies, true_implies, and_true]
    rw [in_nI (by omega) (by omega)]
    simp only [show 200 * (1 - s) + (b - D 15 0) < 400 by omega, true_and]
  · simp only [h, not_false_eq_true, false_implies, true_implies, true_and, if_false]
theorem x_isHole {D : Dn} {S : St} (hR : RX D S) (hW : WF D) {s b : Nat} (hs : s < 2) (hb : b < 200) {st : Nat → Nat → Int32} (h1 : S.1 3 (200 * s + b) = st s b) (hu : D 15 0 ≤ b → S.1 3 (200 * (1 - s) + (b - D 15 0)) = st (1 - s) (b - D 15 0)) (p1 : stp (st s b)) (p2 : D 15 0 ≤ b → stp (st (1 - s) (b - D 15 0))) (Q : Int32 → Prop) : wp_o_isHole S (nI s) (nI b) Q = Q (b2i (hoB D st s b = true)) := by
  have wa := hW.2.2.1
  have p3 : stp (hrd D st s b) := by
    unfold hrd
    by_cases h : D 15 0 ≤ b
    · rw [if_pos h]; exact p2 h
    · rw [if_neg h]; exact Or.inl rfl
  unfold wp_o_isHole
  simp only [x_heardIn hR hW hs hb hu]
  unfold wp_o_stepIn
  rw [show (200 : Int32) * nI s + nI b = nI (200 * s + b) by rw [p_lit 200, pk_mul, nI_add], nI_clamp (show 200 * s + b < 2 ^ 31 by omega), h1, in_nI (by omega) (by omega)]
  unfold hoB
  generalize st s b = t at p1 ⊢
  generalize hrd D st s b = u at p3 ⊢
  simp only [show 200 * s + b < 400 by omega, true_and]
  rcases p1 with rfl | ⟨j, hj, rfl⟩
  · rw [hol_m1]
    simp [b2i]
  · rcases p3 with rfl | ⟨i, hi, rfl⟩
    · rw [hol_m1']
      simp [b2i, m1_ne (show j < 2 ^ 31 by omega)]
    · rw [hol_of D hj hi, in_nI (by omega) (by decide), nI_clamp (by omega), hR.ans hj, o_has_eq (wa j hj) hi]
      simp only [m1_ne (show j < 2 ^ 31 by omega), m1_ne (show i < 2 ^ 31 by omega), hj, not_false_eq_true, false_implies, true_implies, true_and]
      cases (D 19 j).testBit i <;> simp [b2i]
theorem m_hearsAt_eq {D : Dn} {S : St} (hR : RM D 0 S) (hW : WF D) {s b : Nat} (hs : s < 2) (hb : b < 200) {st : Nat → Nat → Int32} (hu : D 15 0 ≤ b → S.1 18 (200 * (1 - s) + (b - D 15 0)) = st (1 - s) (b - D 15 0)) (Q : Int32 → Prop) : wp_m_hearsAt S (nI s) (nI b) Q = Q (hrd D st s b) := by
  have w := hW.1
  have h0 : S.1 7 0 = nI (D 15 0) := hR.h (j := 0) (by decide)
  unfold wp_m_hearsAt hrd
  rw [h0, nI_leI (by omega) (by omega)]
  by_cases h : D 15 0 ≤ b
  · have e : (200 : Int32) * (1 - nI s) + nI b - nI (D 15 0) = nI (200 * (1 - s) + (b - D 15 0)) := by
      rw [show (1 : Int32) = nI 1 from rfl, pk_sub (show s ≤ 1 by omega), p_lit 200, pk_mul, nI_add, pk_sub (by omega)]
      congr 1; omega
    rw [e, nI_clamp (by omega), hu h, if_pos h]
    simp only [h, not_true_eq_false, false_implies, true_implies, and_true]
    rw [in_nI (by omega) (by omega)]
    simp only [show 200 * (1 - s) + (b - D 15 0) < 400 by omega, true_and]
  · simp only [h, not_false_eq_true, false_implies, true_implies, true_and, if_false]
theorem m_clashes_eq {D : Dn} {S : St} (hR : RM D 0 S) (hW : WF D) {t u : Int32} (p1 : stp t) (p3 : stp u) (Q : Int32 → Prop) : wp_m_clashes S t u Q = Q (b2i (hol D t u = true)) := by
  have wa := hW.2.2.1
  unfold wp_m_clashes
  rcases p1 with rfl | ⟨j, hj, rfl⟩
  · rw [hol_m1]
    simp [b2i]
  · rcases p3 with rfl | ⟨i, hi, rfl⟩
    · rw [hol_m1']
      simp [b2i, m1_ne (show j < 2 ^ 31 by omega)]
    · rw [hol_of D hj hi, in_nI (by omega) (by decide), nI_clamp (by omega), hR.ans hj, m_isBit_eq (wa j hj) hi]
      simp only [m1_ne (show j < 2 ^ 31 by omega), m1_ne (show i < 2 ^ 31 by omega), show j < 30 by omega, not_false_eq_true, false_implies, true_implies, true_and]
      cases (D 19 j).testBit i <;> simp [b2i]
theorem m_isHole_eq {D : Dn} {S : St} (hR : RM D 0 S) (hW : WF D) {s b : Nat} (hs : s < 2) (hb : b < 200) {st : Nat → Nat → Int32} (h1 : S.1 18 (200 * s + b) = st s b) (hu : D 15 0 ≤ b → S.1 18 (200 * (1 - s) + (b - D 15 0)) = st (1 - s) (b - D 15 0)) (p1 : stp (st s b)) (p2 : D 15 0 ≤ b → stp (st (1 - s) (b - D 15 0))) (Q : Int32 → Prop) : wp_m_isHole S (nI s) (nI b) Q = Q (b2i (hoB D st s b = true)) := by
  have p3 : stp (hrd D st s b) := by
    unfold hrd
    by_cases h : D 15 0 ≤ b
    · rw [if_pos h]; exact p2 h
    · rw [if_neg h]; exact Or.inl rfl
  unfold wp_m_isHole
  rw [m_hearsAt_eq hR hW hs hb hu, show (200 : Int32) * nI s + nI b = nI (200 * s + b) by rw [p_lit 200, pk_mul, nI_add], nI_clamp (show 200 * s + b < 2 ^ 31 by omega), h1, in_nI (by omega) (by omega), m_clashes_eq hR hW p1 p3, nar_q]
  simp only [show 200 * s + b < 400 by omega, true_and]
  rfl
/-- what was danced by all stumbles but one -/
def stA (D : Dn) (but : Nat) (s b : Nat) : Int32 := stV D s (fBut D s but) b
theorem stA_stp {D : Dn} (hW : WF D) (but : Nat) {s b : Nat} (hs : s < 2) (hb : b < 200) : stp (stA D but s b) := stV_or hW hs (fBut_ok hW s but) hb
theorem xH {D : Dn} {S0 S : St} (h0 : RX D S0) (hW : WF D) {but : Nat} (hL : LXf 2 3 200 D (gAll D but) S0 S) {s b : Nat} (hs : s < 2) (hb : b < 200) (Q : Int32 → Prop) : wp_o_isHole S (nI s) (nI b) Q = Q (b2i (hoB D (stA D but) s b = true)) := x_isHole (hL.x.rx h0) hW hs hb (st := stA D but) (hL.1 s b hs hb).2 (fun _ => (hL.1 (1 - s) (b - D 15 0) (by omega) (by omega)).2) (stA_stp hW but hs hb) (fun _ => stA_stp hW but (by omega) (by omega)) Q
theorem mH {D : Dn} {S0 S : St} (h0 : RM D 0 S0) (hW : WF D) {but : Nat} (hL : LXf 17 18 201 D (gAll D but) S0 S) {s b : Nat} (hs : s < 2) (hb : b < 200) (Q : Int32 → Prop) : wp_m_isHole S (nI s) (nI b) Q = Q (b2i (hoB D (stA D but) s b = true)) := m_isHole_eq (hL.n.rm h0) hW hs hb (st := stA D but) (hL.1 s b hs hb).2 (fun _ => (hL.1 (1 - s) (b - D 15 0) (by omega) (by omega)).2) (stA_stp hW but hs hb) (fun _ => stA_stp hW but (by omega) (by omega)) Q
