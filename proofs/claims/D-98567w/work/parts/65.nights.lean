/-! THE PLAIN LAW: drawn, nights -/
set_option maxRecDepth 100000
def nz (z : Int64) : Int64 := lrm ((1103515245 * z) + 12345) 2147483648
def blw (z : Int64) (v : Nat) : Bool := !decide (0 ≤ lg_cmp (lrm (nz z / 65536) 100) (nI v).toInt64)
/-- one side's step at one beat of a night: the seed, the place, the slips; the step -/
def nS (D : Dn) (s : Nat) (z : Int64) (p e : Nat) : Int64 × Nat × Nat × Int32 := if D 16 s = 0 then (z, p, e, -1) else (nz z, (p + 1) % D 16 s, e + (blw z (D 15 1)).toNat, nI (if blw z (D 15 1) = true then (D 18 (12 * s + p) + 1) % 6 else D 18 (12 * s + p)))
/-- a night: the seed, the places, the steps, the holes, the first hole, the wet beats, the slips -/
abbrev Nst : Type := Int64 × (Nat → Nat) × (Nat → Nat → Int32) × Nat × Int32 × Nat × Nat
def nPut (q : Nst) (b : Nat) (f : Nat → Int32) : Nat → Nat → Int32 := fun s k => if k = b then f s else q.2.2.1 s k
def nHo (D : Dn) (st : Nat → Nat → Int32) (b : Nat) : Nat := (hoB D st 0 b).toNat + (hoB D st 1 b).toNat
def nEnd (D : Dn) (q : Nst) (b : Nat) (z : Int64) (p : Nat → Nat) (st : Nat → Nat → Int32) (w e : Nat) : Nst := (z, p, st, q.2.2.2.1 + nHo D st b, if q.2.2.2.2.1 = -1 ∧ 0 < nHo D st b then nI b else q.2.2.2.2.1, w, e)
theorem nEnd_p (D : Dn) (q : Nst) (b : Nat) (z : Int64) (p : Nat → Nat) (st : Nat → Nat → Int32) (w e : Nat) : (nEnd D q b z p st w e).2.1 = p := rfl
theorem nEnd_st (D : Dn) (q : Nst) (b : Nat) (z : Int64) (p : Nat → Nat) (st : Nat → Nat → Int32) (w e : Nat) : (nEnd D q b z p st w e).2.2.1 = st := rfl
def nDry (D : Dn) (q : Nst) (b : Nat) (a c : Int64 × Nat × Nat × Int32) : Nst := nEnd D q b c.1 (fun s => if s = 0 then a.2.1 else c.2.1) (nPut q b fun s => if s = 0 then a.2.2.2 else c.2.2.2) q.2.2.2.2.2.1 c.2.2.1
def nStep (D : Dn) (q : Nst) (b : Nat) : Nst := if blw q.1 (D 15 2) = true then nEnd D q b (nz q.1) q.2.1 (nPut q b fun _ => -1) (q.2.2.2.2.2.1 + 1) q.2.2.2.2.2.2 else nDry D q b (nS D 0 (nz q.1) (q.2.1 0) q.2.2.2.2.2.2) (nS D 1 (nS D 0 (nz q.1) (q.2.1 0) q.2.2.2.2.2.2).1 (q.2.1 1) (nS D 0 (nz q.1) (q.2.1 0) q.2.2.2.2.2.2).2.2.1)
def nRun (D : Dn) (z : Int64) : Nat → Nst
  | 0 => (z, fun s => D 17 s, fun _ _ => 0, 0, -1, 0, 0)
  | b + 1 => nStep D (nRun D z b) b
/-- what holds after b beats -/
def nOk (D : Dn) (q : Nst) (b : Nat) : Prop := (∀ s, s < 2 → 0 < D 16 s → q.2.1 s < D 16 s) ∧ (∀ s k, s < 2 → k < b → stp (q.2.2.1 s k)) ∧ q.2.2.2.1 ≤ 2 * b ∧ q.2.2.2.2.2.1 ≤ b ∧ q.2.2.2.2.2.2 ≤ 2 * b
theorem tn1 (b : Bool) : b.toNat ≤ 1 := by cases b <;> decide
theorem nS_ok {D : Dn} (hW : WF D) {s : Nat} (hs : s < 2) (z : Int64) {p : Nat} (e : Nat) (hp : 0 < D 16 s → p < D 16 s) : (0 < D 16 s → (nS D s z p e).2.1 < D 16 s) ∧ stp (nS D s z p e).2.2.2 ∧ (nS D s z p e).2.2.1 ≤ e + 1 := by
  have w := hW.2.1 s hs
  have t := tn1 (blw z (D 15 1))
  unfold nS
  by_cases h : D 16 s = 0
  · rw [if_pos h]; exact ⟨hp, Or.inl rfl, by dsimp only; omega⟩
  · rw [if_neg h]
    have h0 : 0 < D 16 s := by omega
    refine ⟨fun _ => Nat.mod_lt _ h0, Or.inr ?_, by dsimp only; omega⟩
    have := w.2.2.2 p (hp h0)
    dsimp only
    split
    · exact ⟨_, Nat.mod_lt _ (by decide), rfl⟩
    · exact ⟨_, this, rfl⟩
theorem nHo_le (D : Dn) (st : Nat → Nat → Int32) (b : Nat) : nHo D st b ≤ 2 := by
  have := tn1 (hoB D st 0 b); have := tn1 (hoB D st 1 b)
  unfold nHo; omega
theorem nPut_ok {D : Dn} {q : Nst} {b : Nat} (h : nOk D q b) {f : Nat → Int32} (hf : ∀ s, s < 2 → stp (f s)) : ∀ s k, s < 2 → k < b + 1 → stp (nPut q b f s k) := fun s k hs hk => by
  unfold nPut
  by_cases e : k = b
  · rw [if_pos e]; exact hf s hs
  · rw [if_neg e]; exact h.2.1 s k hs (by omega)
theorem nStep_ok {D : Dn} (hW : WF D) {q : Nst} {b : Nat} (h : nOk D q b) : nOk D (nStep D q b) (b + 1) := by
  unfold nStep
  by_cases c : blw q.1 (D 15 2) = true
  · rw [if_pos c]
    have := nHo_le D (nPut q b fun _ => -1) b
    obtain ⟨h1, h2, h3, h4, h5⟩ := h
    exact ⟨h1, nPut_ok ⟨h1, h2, h3, h4, h5⟩ (fun _ _ => Or.inl rfl), by unfold nEnd; dsimp only; omega, by unfold nEnd; dsimp only; omega, by unfold nEnd; dsimp only; omega⟩
  · rw [if_neg c]
    obtain ⟨a1, a2, a3⟩ := nS_ok hW (s := 0) (by decide) (nz q.1) q.2.2.2.2.2.2 (h.1 0 (by decide))
    generalize nS D 0 (nz q.1) (q.2.1 0) q.2.2.2.2.2.2 = a at *
    obtain ⟨c1, c2, c3⟩ := nS_ok hW (s := 1) (by decide) a.1 a.2.2.1 (h.1 1 (by decide))
    generalize nS D 1 a.1 (q.2.1 1) a.2.2.1 = d at *
    unfold nDry
    have := nHo_le D (nPut q b fun s => if s = 0 then a.2.2.2 else d.2.2.2) b
    have h9 := h
    obtain ⟨h1, h2, h3, h4, h5⟩ := h
    refine ⟨fun s hs h0 => ?_, nPut_ok h9 (fun s hs => ?_), by unfold nEnd; dsimp only; omega, by unfold nEnd; dsimp only; omega, by unfold nEnd; dsimp only; omega⟩
    · rcases (show s = 0 ∨ s = 1 by omega) with rfl | rfl
      · exact a1 h0
      · exact c1 h0
    · rcases (show s = 0 ∨ s = 1 by omega) with rfl | rfl
      · exact a2
      · exact c2
theorem nRun_ok {D : Dn} (hW : WF D) (z : Int64) : ∀ b, nOk D (nRun D z b) b
  | 0 => ⟨fun s hs h0 => (hW.2.1 s hs).2.2.1 h0, fun _ k _ hk => absurd hk (Nat.not_lt_zero k), Nat.le_refl _, Nat.le_refl _, Nat.le_refl _⟩
  | b + 1 => nStep_ok hW (nRun_ok hW z b)
section
variable {L : Lx} {I : Ix} {S S' : St}
theorem x_draws {v : Nat} {Q : Int32 → St → Prop} (h0 : ¬ blw (S.2 0 26) v = true → Q 0 (sL S 0 26 (nz (S.2 0 26)))) (h1 : blw (S.2 0 26) v = true → Q 1 (sL S 0 26 (nz (S.2 0 26)))) : wp_o_draws S (nI v) Q := by
  unfold wp_o_draws
  rw [sL_2, if_pos ⟨rfl, rfl⟩]
  exact ⟨fun c => h0 (by have c' : 0 ≤ lg_cmp (lrm (nz (S.2 0 26) / 65536) 100) (nI v).toInt64 := c; unfold blw; rw [decide_eq_true c']; decide), fun c => h1 (by have c' : ¬ 0 ≤ lg_cmp (lrm (nz (S.2 0 26) / 65536) 100) (nI v).toInt64 := c; unfold blw; rw [decide_eq_false c']; rfl)⟩
theorem m_isBelow {v : Nat} {Q : Int32 → St → Prop} (h0 : ¬ blw (S.2 0 44) v = true → Q 0 (sL S 0 44 (nz (S.2 0 44)))) (h1 : blw (S.2 0 44) v = true → Q 1 (sL S 0 44 (nz (S.2 0 44)))) : wp_m_isBelow S (nI v) Q := by
  unfold wp_m_isBelow
  rw [sL_2, if_pos ⟨rfl, rfl⟩]
  exact ⟨fun c => h0 (by have c' : 0 ≤ lg_cmp (lrm (nz (S.2 0 44) / 65536) 100) (nI v).toInt64 := c; unfold blw; rw [decide_eq_true c']; decide), fun c => h1 (by have c' : ¬ 0 ≤ lg_cmp (lrm (nz (S.2 0 44) / 65536) 100) (nI v).toInt64 := c; unfold blw; rw [decide_eq_false c']; rfl)⟩
theorem e200' (s b : Nat) : (200 : Int32) * nI s + nI b = nI (200 * s + b) := by rw [p_lit 200, pk_mul, nI_add]
/-- X: one side's step -/
theorem x_dances {D : Dn} (hX : RX D S) (hW : WF D) {s b p e : Nat} (hs : s < 2) (hb : b < 200) (h14 : S.1 14 s = nI p) (hp : 0 < D 16 s → p < D 16 s) (h31 : S.1 0 31 = nI e) {Q : St → Prop} (hq : ∀ T, (∀ c k, ¬ (c = 3 ∧ k = 200 * s + b) → ¬ (c = 14 ∧ k = s) → ¬ (c = 0 ∧ k = 31) → T.1 c k = S.1 c k) → T.1 3 (200 * s + b) = (nS D s (S.2 0 26) p e).2.2.2 → T.1 14 s = nI (nS D s (S.2 0 26) p e).2.1 → T.1 0 31 = nI (nS D s (S.2 0 26) p e).2.2.1 → T.2 0 26 = (nS D s (S.2 0 26) p e).1 → Q T) : wp_o_dances S (nI s) (nI b) 0 Q := by
  have w := hW.2.1 s hs
  have w1 := hW.1.2.1
  have ip : vp_in (nI (200 * s + b)) 400 := (in_nI (by omega) (by omega)).mpr (by omega)
  have is2 : vp_in (nI s) 2 := (in_nI (by omega) (by omega)).mpr hs
  have c1 : (nI (200 * s + b)).toNatClampNeg = 200 * s + b := nI_clamp (by omega)
  have c2 : (nI s).toNatClampNeg = s := nI_clamp (by omega)
  unfold wp_o_dances
  rw [e200', c1, c2]
  have hX1 : RX D (sI S 3 (200 * s + b) (-1)) := fun c k q => by rw [sI_1, if_neg (fun z => by unfold inD at q; omega)]; exact hX c k q
  have e14 : (sI S 3 (200 * s + b) (-1)).1 14 s = nI p := by rw [sI_1, if_neg (by omega)]; exact h14
  rw [hX1.len hs, e14, eq0 (by omega)]
  unfold nS at hq
  refine ⟨ip, fun z => absurd rfl z, fun _ => ⟨is2, fun h0 => ⟨is2, ?_⟩, fun h0 => ?_⟩⟩
  · have hp' := hp (by omega)
    have hst := w.2.2.2 p hp'
    simp only [if_neg h0] at hq
    rw [x_dstepI hX1 hW hs hp', nI_1 p, rem_nI (by omega) (by omega) (by omega), show (sI (sI S 3 (200 * s + b) (-1)) 14 s (nI ((p + 1) % D 16 s))).1 15 1 = nI (D 15 1) by rw [sI_1, if_neg (by omega)]; exact hX1.g (k := 1) (by decide)]
    refine ⟨is2, is2, fun z => h0 z, is2, x_draws (fun hb0 => ⟨fun _ => ?_, fun z => absurd rfl z⟩) (fun hb1 => ⟨fun z => absurd z (by decide), fun _ => ?_⟩)⟩
    · have hb0' : ¬ blw (S.2 0 26) (D 15 1) = true := hb0
      simp only [if_neg hb0', Bool.eq_false_iff.mpr hb0'] at hq
      unfold wp_o_dances_b98
      rw [e200', c1]
      refine ⟨fun _ => ⟨ip, hq _ (fun c k n1 n2 n3 => ?_) ?_ ?_ ?_ rfl⟩, fun z => absurd rfl z⟩
      · rw [sI_1, if_neg n1, sI_1, if_neg n3, sL_1, sI_1, if_neg n2, sI_1, if_neg n1]
      · rw [sI_1, if_pos ⟨rfl, rfl⟩]; rfl
      · rw [sI_1, if_neg (by omega), sI_1, if_neg (by omega), sL_1, sI_1, if_pos ⟨rfl, rfl⟩]
      · rw [sI_1, if_neg (by omega), sI_1, if_pos ⟨rfl, rfl⟩, sL_1, sI_1, if_neg (by omega), sI_1, if_neg (by omega), h31]
        exact Int32.add_zero _
    · have hb1' : blw (S.2 0 26) (D 15 1) = true := hb1
      simp only [if_pos hb1', hb1'] at hq
      unfold wp_o_dances_b98
      rw [e200', c1, nI_1, p_lit 6, rem_nI (by omega) (by decide) (by decide)]
      refine ⟨fun z => absurd z (by decide), fun _ => ⟨ip, hq _ (fun c k n1 n2 n3 => ?_) ?_ ?_ ?_ rfl⟩⟩
      · rw [sI_1, if_neg n1, sI_1, if_neg n3, sL_1, sI_1, if_neg n2, sI_1, if_neg n1]
      · rw [sI_1, if_pos ⟨rfl, rfl⟩]; rfl
      · rw [sI_1, if_neg (by omega), sI_1, if_neg (by omega), sL_1, sI_1, if_pos ⟨rfl, rfl⟩]
      · rw [sI_1, if_neg (by omega), sI_1, if_pos ⟨rfl, rfl⟩, sL_1, sI_1, if_neg (by omega), sI_1, if_neg (by omega), h31, nI_1]
        rfl
  · simp only [if_pos h0] at hq
    exact hq _ (fun c k n1 _ _ => by rw [sI_1, if_neg n1]) (by rw [sI_1, if_pos ⟨rfl, rfl⟩]) e14 (by rw [sI_1, if_neg (by omega)]; exact h31) rfl
theorem x_dancesW {s b : Nat} (hs : s < 2) (hb : b < 200) {Q : St → Prop} (hq : Q (sI S 3 (200 * s + b) (-1))) : wp_o_dances S (nI s) (nI b) 1 Q := by
  unfold wp_o_dances
  rw [e200', nI_clamp (show 200 * s + b < 2 ^ 31 by omega)]
  exact ⟨(in_nI (by omega) (by omega)).mpr (by omega), fun _ => hq, fun z => absurd z (by decide)⟩
-- ---- X: the nights
def xP (S0 T : St) (q : Nst) (b : Nat) : Prop := KX S0 T ∧ T.2 0 26 = q.1 ∧ (∀ s, s < 2 → T.1 14 s = nI (q.2.1 s)) ∧ (∀ s k, s < 2 → k < b → T.1 3 (200 * s + k) = q.2.2.1 s k) ∧ T.1 0 28 = nI q.2.2.2.1 ∧ T.1 0 29 = q.2.2.2.2.1 ∧ T.1 0 30 = nI q.2.2.2.2.2.1 ∧ T.1 0 31 = nI q.2.2.2.2.2.2
theorem nh_e (x y : Bool) : (if y = true then (1 : Int32) else 0) + 0 = nI y.toNat := by cases y <;> rfl
theorem x_nend {D : Dn} (hX : RX D S) (hW : WF D) {q : Nst} {b : Nat} (hb : b < 100) {z : Int64} {p : Nat → Nat} {st : Nat → Nat → Int32} {w e : Nat} {T : St} (hst : ∀ s k, s < 2 → k < b + 1 → stp (st s k)) (h : xP S T (z, p, st, q.2.2.2.1, q.2.2.2.2.1, w, e) (b + 1)) (hh : q.2.2.2.1 ≤ 2 * b) {Q : St → Prop} {N : Int32} {K : St → Int32 → Prop} (hK : ∀ T, xP S T (nEnd D q b z p st w e) (b + 1) → K T (nI (b + 1))) : wp_o_isHole T 0 (nI b) (fun r => ((r = 0 → wp_o_goesNight_b116 Q N K T (nI b) 0) ∧ (¬ r = 0 → wp_o_goesNight_b116 Q N K T (nI b) 1))) := by
  obtain ⟨k1, k2, k3, k4, k5, k6, k7, k8⟩ := h
  dsimp only at k2 k3 k4 k5 k6 k7 k8
  have hXT := k1.rx hX
  have hg := hW.1.1
  have hole : ∀ s, s < 2 → ∀ Q : Int32 → Prop, wp_o_isHole T (nI s) (nI b) Q = Q (b2i (hoB D st s b = true)) := fun s hs Q => x_isHole hXT hW hs (by omega) (k4 s b hs (by omega)) (fun _ => k4 (1 - s) _ (by omega) (by omega)) (hst s b hs (by omega)) (fun _ => hst (1 - s) _ (by omega) (by omega)) Q
  have h0 := hole 0 (by decide)
  have h1 := hole 1 (by decide)
  rw [show nI 0 = 0 from rfl] at h0
  rw [show nI 1 = 1 from rfl] at h1
  have b131 : ∀ s0 s1 : Int32, s1 + s0 = nI (nHo D st b) → wp_o_goesNight_b131 Q N K T (nI b) s0 s1 := by
    intro s0 s1 hs
    have h2 := nHo_le D st b
    unfold wp_o_goesNight_b131
    rw [hs, k6, k5, nI_add, nI_1 b, le0 (by omega), sI_1, if_neg (by decide), k5, nI_add]
    have plain : ¬ (q.2.2.2.2.1 = -1 ∧ 0 < nHo D st b) → K (sI T 0 28 (nI (q.2.2.2.1 + nHo D st b))) (nI (b + 1)) := fun c => hK _ ⟨k1.wI _ (by unfold kX; omega), k2, fun s hs => by rw [sI_1, if_neg (by omega)]; exact k3 s hs, fun s k hs hk => by rw [sI_1, if_neg (by omega)]; exact k4 s k hs hk, by rw [sI_1, if_pos ⟨rfl, rfl⟩]; rfl, by rw [sI_1, if_neg (by decide)]; unfold nEnd; dsimp only; rw [if_neg c]; exact k6, by rw [sI_1, if_neg (by decide)]; exact k7, by rw [sI_1, if_neg (by decide)]; exact k8⟩
    refine ⟨fun c => plain (fun q => c q.1), fun c => ⟨fun c2 => plain (fun q => by omega), fun c2 => hK _ ⟨(k1.wI _ (by unfold kX; omega)).wI _ (by unfold kX; omega), k2, fun s hs => by rw [sI_1, if_neg (by omega), sI_1, if_neg (by omega)]; exact k3 s hs, fun s k hs hk => by rw [sI_1, if_neg (by omega), sI_1, if_neg (by omega)]; exact k4 s k hs hk, by rw [sI_1, if_pos ⟨rfl, rfl⟩]; rfl, by rw [sI_1, if_neg (by decide), sI_1, if_pos ⟨rfl, rfl⟩]; unfold nEnd; dsimp only; rw [if_pos ⟨c, by omega⟩], by rw [sI_1, if_neg (by decide), sI_1, if_neg (by decide)]; exact k7, by rw [sI_1, if_neg (by decide), sI_1, if_neg (by decide)]; exact k8⟩⟩⟩
  rw [h0, if_q]
  have b116 : ∀ s0 : Int32, s0 = nI (hoB D st 0 b).toNat → wp_o_goesNight_b116 Q N K T (nI b) s0 := by
    intro s0 hs
    unfold wp_o_goesNight_b116
    rw [h1, if_q, hs]
    exact ⟨fun c => b131 _ _ (by unfold nHo; rw [Bool.eq_false_iff.mpr c]; exact Int32.add_zero _), fun c => b131 _ _ (by unfold nHo; rw [c]; exact nI_1 _)⟩
  exact ⟨fun c => b116 0 (by rw [Bool.eq_false_iff.mpr c]; rfl), fun c => b116 1 (by rw [c]; rfl)⟩
theorem x_night {D : Dn} (hX : RX D S) (hW : WF D) {z : Int64} {N : Nat} (hN : N ≤ 100) {Q : St → Prop} (hq : ∀ T, KX S T → T.1 0 28 = nI (nRun D z N).2.2.2.1 → T.1 0 29 = (nRun D z N).2.2.2.2.1 → T.1 0 30 = nI (nRun D z N).2.2.2.2.2.1 → T.1 0 31 = nI (nRun D z N).2.2.2.2.2.2 → Q T) : wp_o_goesNight S z (nI N) Q := by
  have key : ∀ m b T, b + m = N → xP S T (nRun D z b) b → wp_o_goesNight_b45 Q (nI N) (m + 1) T (nI b) := by
    intro m
    induction m with
    | zero =>
      intro b T hb h
      rw [wp_o_goesNight_b45]
      obtain rfl : b = N := by omega
      exact ⟨fun _ => hq T h.1 h.2.2.2.2.1 h.2.2.2.2.2.1 h.2.2.2.2.2.2.1 h.2.2.2.2.2.2.2, fun c => absurd (nI_le (Nat.le_refl _) (by omega)) c⟩
    | succ m ih =>
      intro b T hb h
      have ok := nRun_ok hW z b
      have i1 := fun T => ih (b + 1) T (by omega)
      rw [nRun] at i1
      generalize nRun D z b = q at *
      have ok9 := ok
      obtain ⟨o1, o2, o3, o4, o5⟩ := ok
      obtain ⟨k1, k2, k3, k4, k5, k6, k7, k8⟩ := h
      have hXT := k1.rx hX
      unfold nStep at i1
      rw [wp_o_goesNight_b45]
      dsimp only
      rw [hXT.g (k := 2) (by decide)]
      refine ⟨fun c => absurd c (nI_ge (by omega) (by omega)), fun _ => x_draws (fun c => ?_) (fun c => ?_)⟩
      · -- a dry beat
        rw [k2] at c
        rw [if_neg c] at i1
        refine ⟨fun _ => ?_, fun z => absurd rfl z⟩
        unfold wp_o_goesNight_b79
        rw [k2]
        have r1 : ∀ c k, (sI (sL T 0 26 (nz q.1)) 0 30 ((sL T 0 26 (nz q.1)).1 0 30 + 0)).1 c k = T.1 c k := fun c k => by
          rw [sI_1]
          by_cases e : c = 0 ∧ k = 30
          · rw [if_pos e, e.1, e.2]; exact Int32.add_zero _
          · rw [if_neg e]; rfl
        have r2 : (sI (sL T 0 26 (nz q.1)) 0 30 ((sL T 0 26 (nz q.1)).1 0 30 + 0)).2 0 26 = nz q.1 := by rw [sI_2, sL_2, if_pos ⟨rfl, rfl⟩]
        generalize sI (sL T 0 26 (nz q.1)) 0 30 ((sL T 0 26 (nz q.1)).1 0 30 + 0) = T1 at r1 r2 ⊢
        have hXT1 : RX D T1 := fun c k z => by rw [r1]; exact hXT c k z
        refine x_dances (s := 0) hXT1 hW (by decide) (by omega) ((r1 14 0).trans (k3 0 (by decide))) (o1 0 (by decide)) ((r1 0 31).trans k8) (fun T2 a1 a2 a3 a4 a5 => ?_)
        rw [r2] at a2 a3 a4 a5
        have hXT2 : RX D T2 := fun c k z => by rw [a1 c k (by unfold inD at z; omega) (by unfold inD at z; omega) (by unfold inD at z; omega)]; exact hXT1 c k z
        refine x_dances (s := 1) hXT2 hW (by decide) (by omega) ((a1 14 1 (by omega) (by omega) (by omega)).trans ((r1 14 1).trans (k3 1 (by decide)))) (o1 1 (by decide)) a4 (fun T3 b1 b2 b3 b4 b5 => ?_)
        rw [a5] at b2 b3 b4 b5
        have hdry : nOk D (nStep D q b) (b + 1) := nStep_ok hW ok9
        unfold nStep at hdry
        rw [if_neg c] at hdry
        generalize nS D 0 (nz q.1) (q.2.1 0) q.2.2.2.2.2.2 = a at hdry i1 a2 a3 a4 a5 b2 b3 b4 b5
        generalize nS D 1 a.1 (q.2.1 1) a.2.2.1 = d at hdry i1 b2 b3 b4 b5
        have hst : ∀ s k, s < 2 → k < b + 1 → stp (nPut q b (fun s => if s = 0 then a.2.2.2 else d.2.2.2) s k) := hdry.2.1
        refine x_nend (T := T3) (z := d.1) (p := fun s => if s = 0 then a.2.1 else d.2.1) (st := nPut q b fun s => if s = 0 then a.2.2.2 else d.2.2.2) (w := q.2.2.2.2.2.1) (e := d.2.2.1) hX hW (by omega) hst ⟨fun c k z => ?_, b5, fun s hs => ?_, fun s k hs hk => ?_, ?_, ?_, ?_, b4⟩ o3 (fun T' hT' => i1 T' hT')
        · have n3 : ¬ c = 3 := fun e => by subst e; unfold kX at z; omega
          have n14 : ¬ c = 14 := fun e => by subst e; unfold kX at z; omega
          have n0 : ¬ (c = 0 ∧ k = 31) := fun e => by unfold kX at z; omega
          rw [b1 c k (fun e => n3 e.1) (fun e => n14 e.1) n0, a1 c k (fun e => n3 e.1) (fun e => n14 e.1) n0, r1]
          exact k1 c k z
        · rcases (show s = 0 ∨ s = 1 by omega) with rfl | rfl
          · rw [b1 14 0 (by omega) (by omega) (by omega)]; exact a3
          · exact b3
        · dsimp only
          unfold nPut
          by_cases e : k = b
          · subst e
            rw [if_pos rfl]
            rcases (show s = 0 ∨ s = 1 by omega) with rfl | rfl
            · rw [b1 3 _ (by omega) (by omega) (by omega)]; exact a2
            · exact b2
          · rw [if_neg e, b1 3 _ (by omega) (by omega) (by omega), a1 3 _ (by omega) (by omega) (by omega), r1]
            exact k4 s k hs (by omega)
        · exact (b1 0 28 (by omega) (by omega) (by omega)).trans ((a1 0 28 (by omega) (by omega) (by omega)).trans ((r1 0 28).trans k5))
        · exact (b1 0 29 (by omega) (by omega) (by omega)).trans ((a1 0 29 (by omega) (by omega) (by omega)).trans ((r1 0 29).trans k6))
        · exact (b1 0 30 (by omega) (by omega) (by omega)).trans ((a1 0 30 (by omega) (by omega) (by omega)).trans ((r1 0 30).trans k7))
      · -- a wet beat
        rw [k2] at c
        rw [if_pos c] at i1
        refine ⟨fun z => absurd z (by decide), fun _ => ?_⟩
        unfold wp_o_goesNight_b79
        rw [k2]
        have r1 : ∀ c k, ¬ (c = 0 ∧ k = 30) → (sI (sL T 0 26 (nz q.1)) 0 30 ((sL T 0 26 (nz q.1)).1 0 30 + 1)).1 c k = T.1 c k := fun c k e => by
          rw [sI_1, if_neg e]; rfl
        have r3 : (sI (sL T 0 26 (nz q.1)) 0 30 ((sL T 0 26 (nz q.1)).1 0 30 + 1)).1 0 30 = nI (q.2.2.2.2.2.1 + 1) := by
          rw [sI_1, if_pos ⟨rfl, rfl⟩, sL_1, k7, nI_1]
        have r2 : (sI (sL T 0 26 (nz q.1)) 0 30 ((sL T 0 26 (nz q.1)).1 0 30 + 1)).2 0 26 = nz q.1 := by rw [sI_2, sL_2, if_pos ⟨rfl, rfl⟩]
        generalize sI (sL T 0 26 (nz q.1)) 0 30 ((sL T 0 26 (nz q.1)).1 0 30 + 1) = T1 at r1 r2 r3 ⊢
        refine x_dancesW (s := 0) (by decide) (by omega) (x_dancesW (s := 1) (by decide) (by omega) ?_)
        have hw : nOk D (nStep D q b) (b + 1) := nStep_ok hW ok9
        unfold nStep at hw
        rw [if_pos c] at hw
        refine x_nend (T := sI (sI T1 3 (200 * 0 + b) (-1)) 3 (200 * 1 + b) (-1)) (z := nz q.1) (p := q.2.1) (st := nPut q b fun _ => -1) (w := q.2.2.2.2.2.1 + 1) (e := q.2.2.2.2.2.2) hX hW (by omega) hw.2.1 ⟨fun c k z => ?_, r2, fun s hs => ?_, fun s k hs hk => ?_, ?_, ?_, ?_, ?_⟩ o3 (fun T' hT' => i1 T' hT')
        · have n3 : ¬ c = 3 := fun e => by subst e; unfold kX at z; omega
          rw [sI_1, if_neg (fun e => n3 e.1), sI_1, if_neg (fun e => n3 e.1), r1 c k (fun e => by unfold kX at z; omega)]
          exact k1 c k z
        · rw [sI_1, if_neg (by omega), sI_1, if_neg (by omega), r1 _ _ (by omega)]; exact k3 s hs
        · dsimp only
          unfold nPut
          by_cases e : k = b
          · subst e
            rw [if_pos rfl]
            rcases (show s = 0 ∨ s = 1 by omega) with rfl | rfl
            · rw [sI_1, if_neg (by omega), sI_1, if_pos (by omega)]
            · rw [sI_1, if_pos (by omega)]
          · rw [if_neg e, sI_1, if_neg (by omega), sI_1, if_neg (by omega), r1 _ _ (by omega)]
            exact k4 s k hs (by omega)
        · rw [sI_1, if_neg (by omega), sI_1, if_neg (by omega), r1 _ _ (by omega)]; exact k5
        · rw [sI_1, if_neg (by omega), sI_1, if_neg (by omega), r1 _ _ (by omega)]; exact k6
        · rw [sI_1, if_neg (by omega), sI_1, if_neg (by omega)]; exact r3
        · rw [sI_1, if_neg (by omega), sI_1, if_neg (by omega), r1 _ _ (by omega)]; exact k8
  unfold wp_o_goesNight
  have sCe : ∀ (T : St) (f : Nat → Int32) (c k : Nat), (sC T 14 f).1 c k = if c = 14 then f k else T.1 c k := fun T f c k => by
    show (if c = 14 then f else T.1 c) k = _
    by_cases e : c = 14
    · rw [if_pos e, if_pos e]
    · rw [if_neg e, if_neg e]
  refine ⟨_, key N 0 _ (by omega) ⟨fun c k q => ?_, ?_, fun s hs => ?_, fun s k hs hk => absurd hk (Nat.not_lt_zero k), ?_, ?_, ?_, ?_⟩⟩
  · rw [sCe, if_neg (by unfold kX at q; omega), sI_1, if_neg (by unfold kX at q; omega), sI_1, if_neg (by unfold kX at q; omega), sI_1, if_neg (by unfold kX at q; omega), sI_1, if_neg (by unfold kX at q; omega)]
    rfl
  · show (sL S 0 26 z).2 0 26 = z
    rw [sL_2, if_pos ⟨rfl, rfl⟩]
  · rw [sCe, if_pos rfl, pk_cpy_in (Nat.zero_le _) (by omega), sI_1, if_neg (by omega), sI_1, if_neg (by omega), sI_1, if_neg (by omega), sI_1, if_neg (by omega), Nat.sub_zero, Nat.zero_add]
    exact hX.beg hs
  · rw [sCe, if_neg (by decide)]; rfl
  · rw [sCe, if_neg (by decide)]; rfl
  · rw [sCe, if_neg (by decide)]; rfl
  · rw [sCe, if_neg (by decide)]; rfl
-- ---- the reference's nights
theorem m_slips {D : Dn} (hM : RM D 0 S) {t e : Nat} (ht : t < 6) (h43 : S.1 0 43 = nI e) {Q : Int32 → St → Prop} (hq : ∀ T, (∀ c k, ¬ (c = 0 ∧ k = 43) → T.1 c k = S.1 c k) → T.1 0 43 = nI (e + (blw (S.2 0 44) (D 15 1)).toNat) → T.2 0 44 = nz (S.2 0 44) → (∀ k, T.2 3 k = S.2 3 k) → Q (nI (if blw (S.2 0 44) (D 15 1) = true then (t + 1) % 6 else t)) T) : wp_m_slips S (nI t) Q := by
  have e1 : S.1 7 1 = nI (D 15 1) := hM.h (j := 1) (by decide)
  unfold wp_m_slips
  rw [e1, nI_1 t, p_lit 6, rem_nI (by omega) (by decide) (by decide)]
  have l3 : ∀ k, (sL S 0 44 (nz (S.2 0 44))).2 3 k = S.2 3 k := fun k => by rw [sL_2, if_neg (by omega)]
  have l44 : (sL S 0 44 (nz (S.2 0 44))).2 0 44 = nz (S.2 0 44) := by rw [sL_2, if_pos ⟨rfl, rfl⟩]
  refine m_isBelow (fun c => ⟨fun z => absurd rfl z, fun _ => ?_⟩) (fun c => ⟨fun _ => ?_, fun z => absurd z (by decide)⟩)
  · rw [if_neg c, Bool.eq_false_iff.mpr c] at hq
    exact hq _ (fun c k _ => rfl) h43 l44 l3
  · rw [if_pos c, c] at hq
    refine hq _ (fun c k n => by rw [sI_1, if_neg n, sL_1]) ?_ l44 l3
    rw [sI_1, if_pos ⟨rfl, rfl⟩, sL_1, h43, nI_1]; rfl
def mP (S0 T : St) (q : Nst) (b : Nat) : Prop := KN S0 T ∧ T.2 0 44 = q.1 ∧ (∀ s k, s < 2 → k < b → T.1 18 (200 * s + k) = q.2.2.1 s k) ∧ T.1 0 40 = nI q.2.2.2.1 ∧ T.1 0 41 = q.2.2.2.2.1 ∧ T.1 0 42 = nI q.2.2.2.2.2.1 ∧ T.1 0 43 = nI q.2.2.2.2.2.2
theorem mP.mk' {S0 T : St} {z : Int64} {p : Nat → Nat} {st : Nat → Nat → Int32} {h w e b : Nat} {f : Int32} (h1 : KN S0 T) (h2 : T.2 0 44 = z) (h3 : ∀ s k, s < 2 → k < b → T.1 18 (200 * s + k) = st s k) (h4 : T.1 0 40 = nI h) (h5 : T.1 0 41 = f) (h6 : T.1 0 42 = nI w) (h7 : T.1 0 43 = nI e) : mP S0 T (z, p, st, h, f, w, e) b := ⟨h1, h2, h3, h4, h5, h6, h7⟩
theorem m_nend {D : Dn} (hM : RM D 0 S) (hW : WF D) {q : Nst} {b : Nat} (hb : b < 100) {z : Int64} {p : Nat → Nat} {st : Nat → Nat → Int32} {w e : Nat} {T : St} (hst : ∀ s k, s < 2 → k < b + 1 → stp (st s k)) (h : mP S T (z, p, st, q.2.2.2.1, q.2.2.2.2.1, w, e) (b + 1)) (hh : q.2.2.2.1 ≤ 2 * b) {Q : St → Prop} {N x4 x5 : Int32} {K : St → Int32 → Int32 → Int32 → Prop} (hK : ∀ T, mP S T (nEnd D q b z p st w e) (b + 1) → K T x4 x5 (nI (b + 1))) : wp_m_draws_b180 Q N K T x4 x5 (nI b) := by
  obtain ⟨k1, k2, k4, k5, k6, k7, k8⟩ := h
  dsimp only at k2 k4 k5 k6 k7 k8
  have hMT := k1.rm hM
  have hg := hW.1.1
  have hole : ∀ s, s < 2 → ∀ Q : Int32 → Prop, wp_m_isHole T (nI s) (nI b) Q = Q (b2i (hoB D st s b = true)) := fun s hs Q => m_isHole_eq hMT hW hs (by omega) (k4 s b hs (by omega)) (fun _ => k4 (1 - s) _ (by omega) (by omega)) (hst s b hs (by omega)) (fun _ => hst (1 - s) _ (by omega) (by omega)) Q
  have h0 := hole 0 (by decide)
  have h1 := hole 1 (by decide)
  rw [show nI 0 = 0 from rfl] at h0
  rw [show nI 1 = 1 from rfl] at h1
  have b210 : ∀ s0 s1 : Int32, s1 + s0 = nI (nHo D st b) → wp_m_draws_b210 Q N K T x4 x5 (nI b) s0 s1 := by
    intro s0 s1 hs
    have h2 := nHo_le D st b
    unfold wp_m_draws_b210
    rw [hs, k5, nI_add, nI_1 b, le0 (by omega), sI_1, if_neg (by decide), k6]
    have plain : ¬ (q.2.2.2.2.1 = -1 ∧ 0 < nHo D st b) → K (sI T 0 40 (nI (q.2.2.2.1 + nHo D st b))) x4 x5 (nI (b + 1)) := fun c => hK _ ⟨k1.wI _ (by unfold kM; omega), k2, fun s k hs hk => by rw [sI_1, if_neg (by omega)]; exact k4 s k hs hk, by rw [sI_1, if_pos ⟨rfl, rfl⟩]; rfl, by rw [sI_1, if_neg (by decide)]; unfold nEnd; dsimp only; rw [if_neg c]; exact k6, by rw [sI_1, if_neg (by decide)]; exact k7, by rw [sI_1, if_neg (by decide)]; exact k8⟩
    exact ⟨fun c => plain (fun q => by omega), fun c => ⟨fun c2 => plain (fun q => c2 q.1), fun c2 => hK _ ⟨(k1.wI _ (by unfold kM; omega)).wI _ (by unfold kM; omega), k2, fun s k hs hk => by rw [sI_1, if_neg (by omega), sI_1, if_neg (by omega)]; exact k4 s k hs hk, by rw [sI_1, if_neg (by decide), sI_1, if_pos ⟨rfl, rfl⟩]; rfl, by rw [sI_1, if_pos ⟨rfl, rfl⟩]; unfold nEnd; dsimp only; rw [if_pos ⟨c2, by omega⟩], by rw [sI_1, if_neg (by decide), sI_1, if_neg (by decide)]; exact k7, by rw [sI_1, if_neg (by decide), sI_1, if_neg (by decide)]; exact k8⟩⟩⟩
  have b195 : ∀ s0 : Int32, s0 = nI (hoB D st 0 b).toNat → wp_m_draws_b195 Q N K T x4 x5 (nI b) s0 := by
    intro s0 hs
    unfold wp_m_draws_b195
    rw [h1, if_q, hs]
    exact ⟨fun c => b210 _ _ (by unfold nHo; rw [Bool.eq_false_iff.mpr c]; exact Int32.add_zero _), fun c => b210 _ _ (by unfold nHo; rw [c]; exact nI_1 _)⟩
  unfold wp_m_draws_b180
  rw [h0, if_q]
  exact ⟨fun c => b195 0 (by rw [Bool.eq_false_iff.mpr c]; rfl), fun c => b195 1 (by rw [c]; rfl)⟩
theorem m_wet {D : Dn} (hM : RM D 0 S) (hW : WF D) {q : Nst} {b : Nat} (hb : b < 100) (ok : nOk D q b) {T : St} (h : mP S T q b) (c : blw q.1 (D 15 2) = true) {Q : St → Prop} {N : Int32} {K : St → Int32 → Int32 → Int32 → Prop} (i1 : ∀ T, mP S T (nStep D q b) (b + 1) → K T (nI ((nStep D q b).2.1 0)) (nI ((nStep D q b).2.1 1)) (nI (b + 1))) {T2 : St} (s1 : ∀ c k, ¬ (c = 18 ∧ (k = b ∨ k = 200 + b)) → ¬ (c = 0 ∧ k = 42) → T2.1 c k = T.1 c k) (s0 : ∀ s, s < 2 → T2.1 18 (200 * s + b) = -1) (s2 : T2.1 0 42 = T.1 0 42 + 1) (s3 : T2.2 0 44 = nz q.1) (s4 : ∀ k, T2.2 3 k = T.2 3 k) : wp_m_draws_b180 Q N K T2 (nI (q.2.1 0)) (nI (q.2.1 1)) (nI b) := by
  have en : nStep D q b = nEnd D q b (nz q.1) q.2.1 (nPut q b fun _ => -1) (q.2.2.2.2.2.1 + 1) q.2.2.2.2.2.2 := by
    unfold nStep; rw [if_pos c]
  rw [en] at i1
  rw [nEnd_p] at i1
  obtain ⟨k1, k2, k4, k5, k6, k7, k8⟩ := h
  have kn2 : KN S T2 := ⟨fun c k z => by rw [s1 c k (fun n => by unfold kM at z; omega) (fun n => by unfold kM at z; omega)]; exact k1.1 c k z, fun k => by rw [s4]; exact k1.2 k⟩
  have t3 : ∀ s k, s < 2 → k < b + 1 → T2.1 18 (200 * s + k) = nPut q b (fun _ => -1) s k := fun s k hs hk => by
    unfold nPut
    by_cases e : k = b
    · rw [if_pos e, e]; exact s0 s hs
    · rw [if_neg e, s1 _ _ (by omega) (by omega)]; exact k4 s k hs (by omega)
  have t4 : T2.1 0 40 = nI q.2.2.2.1 := (s1 0 40 (by omega) (by omega)).trans k5
  have t5 : T2.1 0 41 = q.2.2.2.2.1 := (s1 0 41 (by omega) (by omega)).trans k6
  have t6 : T2.1 0 42 = nI (q.2.2.2.2.2.1 + 1) := by rw [s2, k7, nI_1]
  have t7 : T2.1 0 43 = nI q.2.2.2.2.2.2 := (s1 0 43 (by omega) (by omega)).trans k8
  exact m_nend (q := q) hM hW hb (nPut_ok ok fun _ _ => Or.inl rfl) (mP.mk' kn2 s3 t3 t4 t5 t6 t7) ok.2.2.1 i1
theorem m_end9 {D : Dn} (hM : RM D 0 S) (hW : WF D) {q : Nst} {b : Nat} (hb : b < 100) (ok : nOk D q b) {a d : Int64 × Nat × Nat × Int32} (ha : stp a.2.2.2) (hd : stp d.2.2.2) {V : St} (kn : KN S V) (v44 : V.2 0 44 = d.1) (v18 : ∀ s k, s < 2 → k < b → V.1 18 (200 * s + k) = q.2.2.1 s k) (v0 : V.1 18 b = a.2.2.2) (v1 : V.1 18 (200 + b) = d.2.2.2) (v40 : V.1 0 40 = nI q.2.2.2.1) (v41 : V.1 0 41 = q.2.2.2.2.1) (v42 : V.1 0 42 = nI q.2.2.2.2.2.1) (v43 : V.1 0 43 = nI d.2.2.1) {Q : St → Prop} {N : Int32} {K : St → Int32 → Int32 → Int32 → Prop} (i1 : ∀ T, mP S T (nDry D q b a d) (b + 1) → K T (nI a.2.1) (nI d.2.1) (nI (b + 1))) : wp_m_draws_b180 Q N K V (nI a.2.1) (nI d.2.1) (nI b) := by
  unfold nDry at i1
  have hst : ∀ s, s < 2 → stp ((fun s => if s = 0 then a.2.2.2 else d.2.2.2 : Nat → Int32) s) := fun s hs => by
    rcases (show s = 0 ∨ s = 1 by omega) with rfl | rfl
    · exact ha
    · exact hd
  have t3 : ∀ s k, s < 2 → k < b + 1 → V.1 18 (200 * s + k) = nPut q b (fun s => if s = 0 then a.2.2.2 else d.2.2.2) s k := fun s k hs hk => by
    unfold nPut
    by_cases e : k = b
    · rw [if_pos e, e]
      rcases (show s = 0 ∨ s = 1 by omega) with rfl | rfl
      · show V.1 18 (200 * 0 + b) = a.2.2.2
        rw [Nat.mul_zero, Nat.zero_add]; exact v0
      · show V.1 18 (200 * 1 + b) = d.2.2.2
        rw [Nat.mul_one]; exact v1
    · rw [if_neg e]; exact v18 s k hs (by omega)
  exact m_nend (q := q) hM hW hb (nPut_ok ok hst) (mP.mk' kn v44 t3 v40 v41 v42 v43) ok.2.2.1 i1
theorem m_b135 {D : Dn} (hM : RM D 0 S) (hW : WF D) {q : Nst} {b : Nat} (hb : b < 100) (ok : nOk D q b) {a d : Int64 × Nat × Nat × Int32} (ha : stp a.2.2.2) (hdd : d = nS D 1 a.1 (q.2.1 1) a.2.2.1) {V : St} (kn : KN S V) (v44 : V.2 0 44 = a.1) (v18 : ∀ s k, s < 2 → k < b → V.1 18 (200 * s + k) = q.2.2.1 s k) (v0 : V.1 18 b = a.2.2.2) (v1 : V.1 18 (200 + b) = -1) (v40 : V.1 0 40 = nI q.2.2.2.1) (v41 : V.1 0 41 = q.2.2.2.2.1) (v42 : V.1 0 42 = nI q.2.2.2.2.2.1) (v43 : V.1 0 43 = nI a.2.2.1) {Q : St → Prop} {N : Int32} {K : St → Int32 → Int32 → Int32 → Prop} (i1 : ∀ T, mP S T (nDry D q b a d) (b + 1) → K T (nI a.2.1) (nI d.2.1) (nI (b + 1))) : wp_m_draws_b135 Q N K V (nI a.2.1) (nI (q.2.1 1)) (nI b) := by
  have w := hW.2.1 1 (by decide)
  have hMV := kn.rm hM
  have hd : stp d.2.2.2 := by rw [hdd]; exact (nS_ok hW (by decide) _ _ (ok.1 1 (by decide))).2.1
  have l1 := fun (U : St) (hU : RM D 0 U) Q => m_lengthOf_eq hU (s := 1) (by decide) Q
  rw [show nI 1 = 1 from rfl] at l1
  unfold wp_m_draws_b135
  rw [l1 V hMV, le0 (by omega)]
  refine ⟨fun c => ?_, fun c => ?_⟩
  · unfold nS at hdd
    rw [if_pos c] at hdd
    have e1 : d.2.1 = q.2.1 1 := by rw [hdd]
    have := m_end9 (Q := Q) (N := N) hM hW hb ok ha hd kn (by rw [hdd]; exact v44) v18 v0 (by rw [hdd]; exact v1) v40 v41 v42 (by rw [hdd]; exact v43) i1
    rwa [e1] at this
  · have hp := ok.1 1 (by decide) (by omega)
    have h6 := w.2.2.2 _ hp
    unfold nS at hdd
    rw [if_neg c] at hdd
    have e1 : d.2.1 = (q.2.1 1 + 1) % D 16 1 := by rw [hdd]
    have f1 : d.1 = nz a.1 := by rw [hdd]
    have f2 : d.2.2.1 = a.2.2.1 + (blw a.1 (D 15 1)).toNat := by rw [hdd]
    have f3 : d.2.2.2 = nI (if blw a.1 (D 15 1) = true then (D 18 (12 * 1 + q.2.1 1) + 1) % 6 else D 18 (12 * 1 + q.2.1 1)) := by rw [hdd]
    rw [p_lit 12, nI_add, nI_clamp (show 12 + q.2.1 1 < 2 ^ 31 by omega), show V.1 8 (12 + q.2.1 1) = nI (D 18 (12 * 1 + q.2.1 1)) from hMV.rnd (s := 1) (by decide) hp]
    refine ⟨(in_nI (by omega) (by omega)).mpr (by omega), m_slips hMV h6 v43 (fun U g1 g2 g3 g4 => ?_)⟩
    rw [v44] at g2 g3 ⊢
    rw [← f2] at g2
    rw [← f1] at g3
    rw [← f3]
    rw [p_lit 200, nI_add, nI_clamp (show 200 + b < 2 ^ 31 by omega), nI_1 (q.2.1 1)]
    have knU : KN S U := ⟨fun c k z => by rw [g1 c k (fun n => by unfold kM at z; omega)]; exact kn.1 c k z, fun k => by rw [g4]; exact kn.2 k⟩
    have knW : KN S (sI U 18 (200 + b) d.2.2.2) := knU.wI _ (by unfold kM; omega)
    rw [l1 _ (knW.rm hM), rem_nI (by omega) (by omega) (by omega), ← e1]
    refine ⟨(in_nI (by omega) (by omega)).mpr (by omega), nI_ne0 (by omega) (by omega), ?_⟩
    refine m_end9 hM hW hb ok ha hd knW g3 (fun s k hs hk => ?_) ?_ ?_ ?_ ?_ ?_ ?_ i1
    · rw [sI_1, if_neg (by omega), g1 _ _ (by omega)]; exact v18 s k hs hk
    · rw [sI_1, if_neg (by omega), g1 _ _ (by omega)]; exact v0
    · rw [sI_1, if_pos ⟨rfl, rfl⟩]
    · rw [sI_1, if_neg (by omega), g1 _ _ (by omega)]; exact v40
    · rw [sI_1, if_neg (by omega), g1 _ _ (by omega)]; exact v41
    · rw [sI_1, if_neg (by omega), g1 _ _ (by omega)]; exact v42
    · rw [sI_1, if_neg (by omega)]; exact g2
theorem m_dry {D : Dn} (hM : RM D 0 S) (hW : WF D) {q : Nst} {b : Nat} (hb : b < 100) (ok : nOk D q b) (c : ¬ blw q.1 (D 15 2) = true) {V : St} (kn : KN S V) (v44 : V.2 0 44 = nz q.1) (v18 : ∀ s k, s < 2 → k < b → V.1 18 (200 * s + k) = q.2.2.1 s k) (v0 : ∀ s, s < 2 → V.1 18 (200 * s + b) = -1) (v40 : V.1 0 40 = nI q.2.2.2.1) (v41 : V.1 0 41 = q.2.2.2.2.1) (v42 : V.1 0 42 = nI q.2.2.2.2.2.1) (v43 : V.1 0 43 = nI q.2.2.2.2.2.2) {Q : St → Prop} {N : Int32} {K : St → Int32 → Int32 → Int32 → Prop} (i1 : ∀ T, mP S T (nStep D q b) (b + 1) → K T (nI ((nStep D q b).2.1 0)) (nI ((nStep D q b).2.1 1)) (nI (b + 1))) : wp_m_lengthOf V 0 (fun r_11 => ((r_11 ≤ 0 → wp_m_draws_b135 Q N K V (nI (q.2.1 0)) (nI (q.2.1 1)) (nI b)) ∧ (¬ r_11 ≤ 0 → (vp_in (nI (q.2.1 0)) 120 ∧ wp_m_slips V (V.1 8 (nI (q.2.1 0)).toNatClampNeg) (fun r_17 S_19 => (vp_in (nI b) 400 ∧ wp_m_lengthOf (sI S_19 18 b r_17) 0 (fun r_20 => (¬ r_20 = 0 ∧ wp_m_draws_b135 Q N K (sI S_19 18 b r_17) (irm (nI (q.2.1 0) + 1) r_20) (nI (q.2.1 1)) (nI b))))))))) := by
  have w := hW.2.1 0 (by decide)
  have hMV := kn.rm hM
  have en : nStep D q b = nDry D q b (nS D 0 (nz q.1) (q.2.1 0) q.2.2.2.2.2.2) (nS D 1 (nS D 0 (nz q.1) (q.2.1 0) q.2.2.2.2.2.2).1 (q.2.1 1) (nS D 0 (nz q.1) (q.2.1 0) q.2.2.2.2.2.2).2.2.1) := by
    unfold nStep; rw [if_neg c]
  rw [en] at i1
  have haS := (nS_ok hW (s := 0) (by decide) (nz q.1) q.2.2.2.2.2.2 (ok.1 0 (by decide))).2.1
  have hpq : ∀ a d : Int64 × Nat × Nat × Int32, (nDry D q b a d).2.1 0 = a.2.1 ∧ (nDry D q b a d).2.1 1 = d.2.1 := fun _ _ => ⟨rfl, rfl⟩
  rw [(hpq _ _).1, (hpq _ _).2] at i1
  have l0 := fun (U : St) (hU : RM D 0 U) Q => m_lengthOf_eq hU (s := 0) (by decide) Q
  rw [show nI 0 = 0 from rfl] at l0
  have z0 : V.1 18 b = -1 := by have := v0 0 (by decide); rwa [Nat.mul_zero, Nat.zero_add] at this
  have z1 : V.1 18 (200 + b) = -1 := by have := v0 1 (by decide); rwa [Nat.mul_one] at this
  generalize haa : nS D 0 (nz q.1) (q.2.1 0) q.2.2.2.2.2.2 = a at i1 haS
  generalize hdd : nS D 1 a.1 (q.2.1 1) a.2.2.1 = d at i1
  rw [l0 V hMV, le0 (by omega)]
  refine ⟨fun h0 => ?_, fun h0 => ?_⟩
  · unfold nS at haa
    rw [if_pos h0] at haa
    have e1 : a.2.1 = q.2.1 0 := by rw [← haa]
    have := m_b135 (Q := Q) (N := N) hM hW hb ok haS hdd.symm kn (by rw [← haa]; exact v44) v18 (by rw [← haa]; exact z0) z1 v40 v41 v42 (by rw [← haa]; exact v43) i1
    rwa [e1] at this
  · have hp := ok.1 0 (by decide) (by omega)
    have h6 := w.2.2.2 _ hp
    unfold nS at haa
    rw [if_neg h0] at haa
    have e1 : a.2.1 = (q.2.1 0 + 1) % D 16 0 := by rw [← haa]
    have f1 : a.1 = nz (nz q.1) := by rw [← haa]
    have f2 : a.2.2.1 = q.2.2.2.2.2.2 + (blw (nz q.1) (D 15 1)).toNat := by rw [← haa]
    have f3 : a.2.2.2 = nI (if blw (nz q.1) (D 15 1) = true then (D 18 (12 * 0 + q.2.1 0) + 1) % 6 else D 18 (12 * 0 + q.2.1 0)) := by rw [← haa]
    have e8 : V.1 8 (q.2.1 0) = nI (D 18 (12 * 0 + q.2.1 0)) := by
      have := hMV.rnd (s := 0) (by decide) hp
      rwa [show 12 * 0 + q.2.1 0 = q.2.1 0 by omega] at this ⊢
    rw [nI_clamp (show q.2.1 0 < 2 ^ 31 by omega), e8]
    refine ⟨(in_nI (by omega) (by omega)).mpr (by omega), m_slips hMV h6 v43 (fun U g1 g2 g3 g4 => ?_)⟩
    rw [v44] at g2 g3 ⊢
    rw [← f2] at g2
    rw [← f1] at g3
    rw [← f3, nI_1 (q.2.1 0)]
    have knU : KN S U := ⟨fun c k z => by rw [g1 c k (fun n => by unfold kM at z; omega)]; exact kn.1 c k z, fun k => by rw [g4]; exact kn.2 k⟩
    have knW : KN S (sI U 18 b a.2.2.2) := knU.wI _ (by unfold kM; omega)
    rw [l0 _ (knW.rm hM), rem_nI (by omega) (by omega) (by omega), ← e1]
    refine ⟨(in_nI (by omega) (by omega)).mpr (by omega), nI_ne0 (by omega) (by omega), ?_⟩
    refine m_b135 hM hW hb ok haS hdd.symm knW g3 (fun s k hs hk => ?_) ?_ ?_ ?_ ?_ ?_ ?_ i1
    · rw [sI_1, if_neg (by omega), g1 _ _ (by omega)]; exact v18 s k hs hk
    · rw [sI_1, if_pos ⟨rfl, rfl⟩]
    · rw [sI_1, if_neg (by omega), g1 _ _ (by omega)]; exact z1
    · rw [sI_1, if_neg (by omega), g1 _ _ (by omega)]; exact v40
    · rw [sI_1, if_neg (by omega), g1 _ _ (by omega)]; exact v41
    · rw [sI_1, if_neg (by omega), g1 _ _ (by omega)]; exact v42
    · rw [sI_1, if_neg (by omega)]; exact g2
theorem m_beat {D : Dn} (hM : RM D 0 S) (hW : WF D) {q : Nst} {b : Nat} (hb9 : b < 100) (ok9 : nOk D q b) {T : St} (h9 : mP S T q b) {Q : St → Prop} {N : Int32} {K : St → Int32 → Int32 → Int32 → Prop} (i1 : ∀ T, mP S T (nStep D q b) (b + 1) → K T (nI ((nStep D q b).2.1 0)) (nI ((nStep D q b).2.1 1)) (nI (b + 1))) {V : St} (r1 : ∀ c k, ¬ (c = 18 ∧ (k = b ∨ k = 200 + b)) → V.1 c k = T.1 c k) (r0 : ∀ s, s < 2 → V.1 18 (200 * s + b) = -1) (r2 : V.2 = T.2) : wp_m_isBelow V (nI (D 15 2)) (fun r_6 S_8 => ((r_6 = 0 → wp_m_lengthOf S_8 (0) (fun r_11 => ((r_11 ≤ 0 → wp_m_draws_b135 Q N K S_8 (nI (q.2.1 0)) (nI (q.2.1 1)) (nI b)) ∧ (¬ r_11 ≤ 0 → (vp_in (nI (q.2.1 0)) 120 ∧ wp_m_slips S_8 ((S_8.1 8 (nI (q.2.1 0)).toNatClampNeg)) (fun r_17 S_19 => (vp_in (nI b) 400 ∧ wp_m_lengthOf (sI S_19 18 (nI b).toNatClampNeg r_17) (0) (fun r_20 => (¬ r_20 = 0 ∧ wp_m_draws_b135 Q N K (sI S_19 18 (nI b).toNatClampNeg r_17) ((irm (nI (q.2.1 0) + 1) r_20)) (nI (q.2.1 1)) (nI b)))))))))) ∧ (¬ r_6 = 0 → wp_m_draws_b180 Q N K (sI S_8 0 42 ((S_8.1 0 42) + 1)) (nI (q.2.1 0)) (nI (q.2.1 1)) (nI b)))) := by
  obtain ⟨k1, k2, k4, k5, k6, k7, k8⟩ := id h9
  have kn1 : KN S V := ⟨fun c k z => by rw [r1 c k (fun n => by unfold kM at z; omega)]; exact k1.1 c k z, fun k => by rw [r2]; exact k1.2 k⟩
  have e44 : V.2 0 44 = q.1 := by rw [r2]; exact k2
  rw [nI_clamp (show b < 2 ^ 31 by omega)]
  refine m_isBelow (fun c => ?_) (fun c => ?_)
  · rw [e44] at c ⊢
    refine ⟨fun _ => ?_, fun z => absurd rfl z⟩
    have u1 : ∀ c k, (sL V 0 44 (nz q.1)).1 c k = V.1 c k := fun c k => by rw [sL_1]
    have u2 : (sL V 0 44 (nz q.1)).2 0 44 = nz q.1 := by rw [sL_2, if_pos ⟨rfl, rfl⟩]
    have u3 : ∀ k, (sL V 0 44 (nz q.1)).2 3 k = V.2 3 k := fun k => by rw [sL_2, if_neg (by omega)]
    generalize sL V 0 44 (nz q.1) = U at u1 u2 u3 ⊢
    have knU : KN S U := ⟨fun c k z => by rw [u1]; exact kn1.1 c k z, fun k => by rw [u3]; exact kn1.2 k⟩
    refine m_dry hM hW hb9 ok9 c knU u2 (fun s k hs hk => ?_) (fun s hs => ?_) ?_ ?_ ?_ ?_ i1
    · rw [u1, r1 _ _ (by omega)]; exact k4 s k hs hk
    · rw [u1]; exact r0 s hs
    · rw [u1, r1 _ _ (by omega)]; exact k5
    · rw [u1, r1 _ _ (by omega)]; exact k6
    · rw [u1, r1 _ _ (by omega)]; exact k7
    · rw [u1, r1 _ _ (by omega)]; exact k8
  · rw [e44] at c ⊢
    refine ⟨fun z => absurd z (by decide), fun _ => ?_⟩
    have u1 : ∀ c k, ¬ (c = 0 ∧ k = 42) → (sI (sL V 0 44 (nz q.1)) 0 42 ((sL V 0 44 (nz q.1)).1 0 42 + 1)).1 c k = V.1 c k := fun c k n => by rw [sI_1, if_neg n, sL_1]
    have u4 : (sI (sL V 0 44 (nz q.1)) 0 42 ((sL V 0 44 (nz q.1)).1 0 42 + 1)).1 0 42 = V.1 0 42 + 1 := by rw [sI_1, if_pos ⟨rfl, rfl⟩, sL_1]
    have u2 : (sI (sL V 0 44 (nz q.1)) 0 42 ((sL V 0 44 (nz q.1)).1 0 42 + 1)).2 0 44 = nz q.1 := by rw [sI_2, sL_2, if_pos ⟨rfl, rfl⟩]
    have u3 : ∀ k, (sI (sL V 0 44 (nz q.1)) 0 42 ((sL V 0 44 (nz q.1)).1 0 42 + 1)).2 3 k = V.2 3 k := fun k => by rw [sI_2, sL_2, if_neg (by omega)]
    generalize sI (sL V 0 44 (nz q.1)) 0 42 ((sL V 0 44 (nz q.1)).1 0 42 + 1) = U at u1 u2 u3 u4 ⊢
    refine m_wet hM hW hb9 ok9 h9 c i1 (fun c k n1 n2 => ?_) (fun s hs => ?_) ?_ u2 (fun k => ?_)
    · rw [u1 c k n2, r1 c k n1]
    · rw [u1 _ _ (by omega)]; exact r0 s hs
    · rw [u4, r1 0 42 (by omega)]
    · rw [u3, r2]
def bdN (Q : St → Prop) (x3 : Int32) (K : St → Int32 → Int32 → Int32 → Prop) (S : St) (x4 x5 x6 : Int32) : Prop :=
  ((x3 ≤ x6 → Q S) ∧ (¬ x3 ≤ x6 → (vp_in x6 400 ∧ (vp_in (200 + x6) 400 ∧ wp_m_isBelow (sI (sI S 18 (x6).toNatClampNeg (-1)) 18 ((200 + x6)).toNatClampNeg (-1)) (((sI (sI S 18 (x6).toNatClampNeg (-1)) 18 ((200 + x6)).toNatClampNeg (-1)).1 7 2)) (fun r_6 S_8 => ((r_6 = 0 → wp_m_lengthOf S_8 (0) (fun r_11 => ((r_11 ≤ 0 → wp_m_draws_b135 Q (x3) K S_8 (x4) (x5) (x6)) ∧ (¬ r_11 ≤ 0 → (vp_in x4 120 ∧ wp_m_slips S_8 ((S_8.1 8 (x4).toNatClampNeg)) (fun r_17 S_19 => (vp_in x6 400 ∧ wp_m_lengthOf (sI S_19 18 (x6).toNatClampNeg r_17) (0) (fun r_20 => (¬ r_20 = 0 ∧ wp_m_draws_b135 Q (x3) K (sI S_19 18 (x6).toNatClampNeg r_17) ((irm (x4 + 1) r_20)) (x5) (x6)))))))))) ∧ (¬ r_6 = 0 → wp_m_draws_b180 Q (x3) K (sI S_8 0 42 ((S_8.1 0 42) + 1)) (x4) (x5) (x6))))))))
theorem b45_s (Q : St → Prop) (x3 : Int32) (n : Nat) (S : St) (x4 x5 x6 : Int32) : wp_m_draws_b45 Q x3 (n + 1) S x4 x5 x6 = bdN Q x3 (fun Sy y4 y5 y6 => wp_m_draws_b45 Q x3 n Sy y4 y5 y6) S x4 x5 x6 := rfl
theorem m_bd {D : Dn} (hM : RM D 0 S) (hW : WF D) {q : Nst} {b : Nat} (hb9 : b < 100) (ok9 : nOk D q b) {T : St} (h9 : mP S T q b) {Q : St → Prop} {N : Nat} (hN : N < 2 ^ 31) (hbN : b < N) {K : St → Int32 → Int32 → Int32 → Prop} (i1 : ∀ T, mP S T (nStep D q b) (b + 1) → K T (nI ((nStep D q b).2.1 0)) (nI ((nStep D q b).2.1 1)) (nI (b + 1))) : bdN Q (nI N) K T (nI (q.2.1 0)) (nI (q.2.1 1)) (nI b) := by
  unfold bdN
  have hc := nI_clamp (show b < 2 ^ 31 by omega)
  have hc2 : ((200 : Int32) + nI b).toNatClampNeg = 200 + b := by rw [p_lit 200, nI_add]; exact nI_clamp (by omega)
  have v2 : vp_in ((200 : Int32) + nI b) 400 := by rw [p_lit 200, nI_add]; exact (in_nI (by omega) (by omega)).mpr (by omega)
  have r1 : ∀ c k, ¬ (c = 18 ∧ (k = b ∨ k = 200 + b)) → (sI (sI T 18 b (-1)) 18 (200 + b) (-1)).1 c k = T.1 c k := fun c k n => by rw [sI_1, if_neg (by omega), sI_1, if_neg (by omega)]
  have r0 : ∀ s, s < 2 → (sI (sI T 18 b (-1)) 18 (200 + b) (-1)).1 18 (200 * s + b) = -1 := fun s hs => by
    rcases (show s = 0 ∨ s = 1 by omega) with rfl | rfl
    · rw [sI_1, if_neg (by omega), sI_1, if_pos (by omega)]
    · rw [sI_1, if_pos (by omega)]
  have r2 : (sI (sI T 18 b (-1)) 18 (200 + b) (-1)).2 = T.2 := rfl
  rw [hc, hc2]
  generalize sI (sI T 18 b (-1)) 18 (200 + b) (-1) = V at r0 r1 r2 ⊢
  have e7 : V.1 7 2 = nI (D 15 2) := by
    rw [r1 _ _ (by omega)]
    exact (h9.1.rm hM).h (j := 2) (by decide)
  rw [e7]
  have hbt := m_beat (Q := Q) (N := nI N) hM hW hb9 ok9 (T := T) h9 i1 r1 r0 r2
  rw [hc] at hbt
  exact ⟨fun c => absurd c (nI_ge (by omega) (by omega)), fun _ => ⟨(in_nI (by omega) (by omega)).mpr (by omega), v2, hbt⟩⟩
end
