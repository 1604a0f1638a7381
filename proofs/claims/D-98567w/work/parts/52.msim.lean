/-! THE PLAIN LAW: rounds danced beat by beat, in the reference -/
set_option maxRecDepth 100000
/-- an inner part of the reference's walk: from the first step and no way back to those of f -/
def mIn (Q : St → Prop) (D : Dn) (s : Nat) (f : Nat → Option (Nat × Nat)) (x2 x3 x4 x5 : Int32) : Prop := ∀ (K20 : St → Int32 → Int32 → Int32 → Prop) (S : St) (b p : Nat), RM D 0 S → b < 200 → p < D 16 s → (∀ d l : Nat, d = (match f b with | none => D 18 (12 * s + p) | some q => q.1) → l = (match f b with | none => 0 | some q => q.2) → wp_m_dances_b210 Q (nI s) x2 x3 x4 x5 K20 S (nI (D 16 s)) (nI p) (nI b) (nI (200 * s + b)) (nI d) (nI l)) → ((¬ nI b = x3 → ∃ z, wp_m_dances_b122 Q (nI s) x2 x3 x4 x5 K20 z S (nI (D 16 s)) (nI p) (nI b) (nI (200 * s + b)) (nI (D 18 (12 * s + p))) 0 0) ∧ (nI b = x3 → ∃ z, wp_m_dances_b122 Q (nI s) x2 x3 x4 x5 K20 z S (nI (D 16 s)) (nI p) (nI b) (nI (200 * s + b)) x4 x5 0))
theorem m_goes {D : Dn} {S0 : St} {Q : St → Prop} (h0 : RM D 0 S0) (hW : WF D) {s : Nat} (hs : s < 2) {f : Nat → Option (Nat × Nat)} (hf : fOk f) {x2 x3 x4 x5 : Int32} (hst : mIn Q D s f x2 x3 x4 x5) (hQ : ∀ S, UPx 17 18 201 D s f 200 S0 S → Q S) : wp_m_dances S0 (nI s) x2 x3 x4 x5 Q := by
  have wr := hW.2.1 s hs
  have wm := hW.2.2.2.2.2.2.1
  have key : ∀ m b S x7, b + m = 200 → UPx 17 18 201 D s f b S0 S → (0 < D 16 s → x7 = nI (spP D s f b)) → wp_m_dances_b20 Q (nI s) x2 x3 x4 x5 (m + 1) S (nI (D 16 s)) x7 (nI b) := by
    intro m
    induction m with
    | zero =>
      intro b S x7 hb hU hx
      obtain rfl : b = 200 := by omega
      rw [wp_m_dances_b20]
      dsimp only
      rw [p_lit 200]
      exact ⟨fun _ => hQ S hU, fun c => absurd (nI_le (Nat.le_refl _) (by decide)) c⟩
    | succ m ih =>
      intro b S x7 hb hU hx
      have eS : ∀ c k, ¬ c = 17 → ¬ c = 18 → S.1 c k = S0.1 c k := fun c k n2 n3 => by rw [hU.1 c k, if_neg (fun z => n2 z.1), if_neg (fun z => n3 z.1)]
      have kS : KN S0 S := ⟨fun c k q => eS c k (by unfold kM at q; omega) (by unfold kM at q; omega), fun k => by rw [hU.2]⟩
      have hR : RM D 0 S := kS.rm h0
      have e200 : (200 : Int32) * nI s + nI b = nI (200 * s + b) := by rw [p_lit 200, pk_mul, nI_add]
      have e201 : (201 : Int32) * nI s + nI b = nI (201 * s + b) := by rw [p_lit 201, pk_mul, nI_add]
      rw [wp_m_dances_b20]
      dsimp only
      rw [e200, e201, p_lit 200]
      refine ⟨fun c => absurd c (nI_ge (by omega) (by omega)), fun _ => ⟨fun c => ?_, fun c => ?_⟩⟩
      · -- the side has a round
        have h0n : 0 < D 16 s := by
          rcases Nat.eq_zero_or_pos (D 16 s) with z | z
          · exact absurd (by rw [z]; rfl) c
          · exact z
        have hx := hx h0n
        have hp := spP_lt hW hs h0n f b
        subst hx
        unfold wp_m_dances_b61
        rw [nI_clamp (show 200 * s + b < 2 ^ 31 by omega), nI_clamp (show 201 * s + b < 2 ^ 31 by omega), nI_clamp (show b < 2 ^ 31 by omega), show (12 : Int32) * nI s + nI (spP D s f b) = nI (12 * s + spP D s f b) by rw [p_lit 12, pk_mul, nI_add], nI_clamp (show 12 * s + spP D s f b < 2 ^ 31 by omega)]
        generalize hS1 : sI (sI S 17 (201 * s + b) (nI (spP D s f b))) 18 (200 * s + b) (-1) = S1
        have e1 : ∀ c k, S1.1 c k = if c = 18 ∧ k = 200 * s + b then -1 else if c = 17 ∧ k = 201 * s + b then nI (spP D s f b) else S.1 c k := fun c k => by rw [← hS1, sI_1, sI_1]
        have hs2 : S1.2 = S.2 := by rw [← hS1]; rfl
        have kS1 : KN S S1 := ⟨fun c k q => by rw [e1, if_neg (by unfold kM at q; omega), if_neg (by unfold kM at q; omega)], fun k => by rw [hs2]⟩
        have hR1 : RM D 0 S1 := kS1.rm hR
        have hm2 := wm b (by omega)
        rw [hR1.mud (by omega), hR1.rnd hs hp, nI_1 b]
        refine ⟨vp_in_nI (by omega) (by omega), vp_in_nI (by omega) (by omega), fun c3 => absurd c3 (nI_ne0 h0n (by omega)), fun _ => ⟨vp_in_nI (by omega) (by omega), fun c4 => ?_, fun c4 => ?_⟩⟩
        · -- no mud
          have hmud : D 29 b = 0 := (eq0 (by omega)).mp c4
          refine ⟨vp_in_nI (by omega) (by omega), ?_⟩
          refine hst _ S1 b (spP D s f b) hR1 (by omega) hp (fun d l hd hl => ?_)
          have hl9 : l ≤ 9 := by
            cases e : f b with
            | none => rw [e] at hl; dsimp only at hl; omega
            | some q => rw [e] at hl; dsimp only at hl; have := (hf b q (by omega) e).2; omega
          unfold wp_m_dances_b210
          rw [nI_clamp (show 200 * s + b < 2 ^ 31 by omega), m_back (D 16 s) (by omega) h0n _ hp l (by omega), nI_1 b]
          refine ⟨vp_in_nI (by omega) (by omega), nI_ne0 h0n (by omega), nI_ne0 h0n (by omega), ih (b + 1) _ _ (by omega) ?_ (fun _ => ?_)⟩
          · refine hU.step (by decide) (fun c k => ?_) (by rw [← hS1]; rfl)
            rw [sI_1, e1]
            by_cases q3 : c = 18 ∧ k = 200 * s + b
            · rw [if_pos q3, if_neg (by omega), if_pos q3, hd]
              unfold stV stN
              rw [if_neg (by omega)]
              rfl
            · rw [if_neg q3, if_neg q3]
              by_cases q2 : c = 17 ∧ k = 201 * s + b
              · rw [if_pos q2, if_pos q2]
                unfold spV
                rw [if_neg (by omega)]
              · rw [if_neg q2, if_neg q2, if_neg q3]
          · rw [spP, if_pos hmud, hl]
            rfl
        · -- mud
          have hmud : ¬ D 29 b = 0 := fun z => c4 (by rw [z]; rfl)
          refine ih (b + 1) S1 _ (by omega) ?_ (fun _ => ?_)
          · refine hU.step (by decide) (fun c k => ?_) hs2
            rw [e1]
            by_cases q3 : c = 18 ∧ k = 200 * s + b
            · rw [if_pos q3, if_neg (by omega), if_pos q3]
              unfold stV
              rw [if_pos (Or.inr hmud)]
            · rw [if_neg q3]
              by_cases q2 : c = 17 ∧ k = 201 * s + b
              · rw [if_pos q2, if_pos q2]
                unfold spV
                rw [if_neg (by omega)]
              · rw [if_neg q2, if_neg q2, if_neg q3]
          · rw [spP, if_neg hmud]
      · -- no round
        have h0n : D 16 s = 0 := (eq0 (by omega)).mp c
        unfold wp_m_dances_b61
        rw [nI_clamp (show 200 * s + b < 2 ^ 31 by omega), nI_clamp (show 201 * s + b < 2 ^ 31 by omega), nI_1 b]
        refine ⟨vp_in_nI (by omega) (by omega), vp_in_nI (by omega) (by omega), fun _ => ?_, fun c3 => absurd c c3⟩
        refine ih (b + 1) _ _ (by omega) ?_ (fun z => absurd z (by omega))
        refine hU.step (by decide) (fun c k => ?_) rfl
        rw [sI_1, sI_1]
        by_cases q3 : c = 18 ∧ k = 200 * s + b
        · rw [if_pos q3, if_neg (by omega), if_pos q3]
          unfold stV
          rw [if_pos (Or.inl h0n)]
        · rw [if_neg q3]
          by_cases q2 : c = 17 ∧ k = 201 * s + b
          · rw [if_pos q2, if_pos q2]
            unfold spV
            rw [if_pos h0n]
          · rw [if_neg q2, if_neg q2, if_neg q3]
  unfold wp_m_dances wp_m_lengthOf
  rw [show (3 : Int32) + nI s = nI (3 + s) by rw [p_lit 3, nI_add], show (5 : Int32) + nI s = nI (5 + s) by rw [p_lit 5, nI_add], nI_clamp (show 3 + s < 2 ^ 31 by omega), nI_clamp (show 5 + s < 2 ^ 31 by omega), h0.len hs, h0.beg hs]
  exact ⟨vp_in_nI (by omega) (by omega), vp_in_nI (by omega) (by omega), _, key 200 0 S0 _ (by omega) (UPx.rf ..) (fun _ => rfl)⟩
/-- the stumbles looked through -/
theorem m_scan {Q : St → Prop} {D : Dn} (hW : WF D) {s b : Nat} (hs : s < 2) (hb : b < 200) {x2 x3 x4 x5 : Int32} (h99 : ¬ x2 = 99) {but : Nat} (hbut : ∀ i, i < 8 → (nI i = x2 ↔ i = but)) {K20 : St → Int32 → Int32 → Int32 → Prop} {S : St} (hR : RM D 0 S) {x6 x7 x9 : Int32} : ∀ (m j : Nat) (a1 a2 : Int32), j + m = D 15 4 → ((∀ k, j ≤ k → k < D 15 4 → ¬ (¬ k = but ∧ D 20 k = s ∧ D 21 k = b)) → wp_m_dances_b210 Q (nI s) x2 x3 x4 x5 K20 S x6 x7 (nI b) x9 a1 a2) → (∀ k, j ≤ k → k < D 15 4 → ¬ k = but → D 20 k = s → D 21 k = b → wp_m_dances_b210 Q (nI s) x2 x3 x4 x5 K20 S x6 x7 (nI b) x9 (nI (D 22 k)) (nI (D 23 k))) → wp_m_dances_b122 Q (nI s) x2 x3 x4 x5 K20 (m + 1) S x6 x7 (nI b) x9 a1 a2 (nI j) := by
  have w4 := hW.1.2.2.2.2.1
  have ws := hW.2.2.2.1
  have h7 : S.1 7 7 = nI (D 15 4) := hR.h (j := 7) (by decide)
  intro m
  induction m with
  | zero =>
    intro j a1 a2 hj h1 h2
    rw [wp_m_dances_b122]
    dsimp only
    rw [h7]
    exact ⟨fun _ => h1 (fun k q1 q2 => absurd q2 (by omega)), fun c => absurd (nI_le (by omega) (by omega)) c⟩
  | succ m ih =>
    intro j a1 a2 hj h1 h2
    obtain ⟨g1, g2, g3, g4⟩ := hR.st (k := j) (by omega)
    have hk := ws.1 j (by omega)
    rw [wp_m_dances_b122]
    dsimp only
    rw [h7, show (4 : Int32) * nI j = nI (4 * j) by rw [p_lit 4, pk_mul], nI_1 (4 * j), p_lit 2, p_lit 3, nI_add, nI_add, nI_clamp (show 4 * j < 2 ^ 31 by omega), nI_clamp (show 4 * j + 1 < 2 ^ 31 by omega), nI_clamp (show 4 * j + 2 < 2 ^ 31 by omega), nI_clamp (show 4 * j + 3 < 2 ^ 31 by omega), g1, g2, g3, g4, nI_1 j]
    have skip : ¬ (¬ j = but ∧ D 20 j = s ∧ D 21 j = b) → wp_m_dances_b122 Q (nI s) x2 x3 x4 x5 K20 (m + 1) S x6 x7 (nI b) x9 a1 a2 (nI (j + 1)) := by
      intro hno
      refine ih (j + 1) a1 a2 (by omega) (fun hn => h1 (fun k q1 q2 => ?_)) (fun k q1 q2 => h2 k (by omega) q2)
      rcases Nat.eq_or_lt_of_le q1 with rfl | q3
      · exact hno
      · exact hn k q3 q2
    have e1 : nI (D 20 j) = nI s ↔ D 20 j = s := nI_eq (by omega) (by omega)
    have e2 : nI (D 21 j) = nI b ↔ D 21 j = b := nI_eq (by omega) (by omega)
    refine ⟨fun c => absurd c (nI_ge (by omega) (by omega)), fun _ => ⟨fun c => absurd c h99, fun _ => ⟨fun c => skip (fun z => z.1 ((hbut j (by omega)).mp c)), fun c => ⟨vp_in_nI (by omega) (by omega), fun c2 => skip (fun z => c2 (e1.mpr z.2.1)), fun c2 => ⟨vp_in_nI (by omega) (by omega), fun c3 => ⟨vp_in_nI (by omega) (by omega), vp_in_nI (by omega) (by omega), ?_⟩, fun c3 => skip (fun z => c3 (e2.mpr z.2.2))⟩⟩⟩⟩⟩
    have c' : ¬ j = but := fun z => c ((hbut j (by omega)).mpr z)
    refine ih (j + 1) _ _ (by omega) (fun _ => h2 j (Nat.le_refl _) (by omega) c' (e1.mp c2) (e2.mp c3)) (fun k q1 q2 q3 q4 q5 => ?_)
    have := ws.2 k j q2 (by omega) (q4.trans (e1.mp c2).symm) (q5.trans (e2.mp c3).symm)
    omega
theorem m_inBut {Q : St → Prop} {D : Dn} (hW : WF D) {s : Nat} (hs : s < 2) {x2 x4 x5 : Int32} (h99 : ¬ x2 = 99) {but : Nat} (hbut : ∀ i, i < 8 → (nI i = x2 ↔ i = but)) : mIn Q D s (fBut D s but) x2 (-1) x4 x5 := by
  intro K20 S b p hR hb hp hfin
  have w4 := hW.1.2.2.2.2.1
  refine ⟨fun _ => ⟨D 15 4 + 1, ?_⟩, fun c => absurd c (m1_ne (by omega))⟩
  refine m_scan hW hs hb h99 hbut hR (D 15 4) 0 _ _ (by omega) (fun hn => ?_) (fun k _ q2 q3 q4 q5 => ?_)
  · refine hfin _ _ ?_ ?_
    all_goals
      unfold fBut
      cases e : stk D s b with
      | none => rfl
      | some k =>
        have h9 := (stk_iff hW (by have := (fndF_some e).2.1; omega)).mpr e
        have h8 : k = but := Classical.byContradiction fun z => hn k (Nat.zero_le _) (by have := (fndF_some e).2.1; omega) ⟨z, h9⟩
        simp only [if_pos h8]
  · have e := (stk_iff hW q2).mp ⟨q4, q5⟩
    refine hfin _ _ ?_ ?_
    all_goals
      unfold fBut
      rw [e]
      simp only [if_neg q3]
theorem m_inOne {Q : St → Prop} {D : Dn} (hW : WF D) {s n : Nat} (hn9 : n < 3602) {x3 x4 x5 : Int32} (h3 : x3 = if n = 0 then -1 else nI ((n - 1) / 60)) (h4 : 0 < n → x4 = nI ((n - 1) % 60 / 10)) (h5 : 0 < n → x5 = nI ((n - 1) % 10)) : mIn Q D s (fOne n) 99 x3 x4 x5 := by
  intro K20 S b p hR hb hp hfin
  have go : ∀ a1 a2, wp_m_dances_b210 Q (nI s) 99 x3 x4 x5 K20 S (nI (D 16 s)) (nI p) (nI b) (nI (200 * s + b)) a1 a2 → ∃ z, wp_m_dances_b122 Q (nI s) 99 x3 x4 x5 K20 z S (nI (D 16 s)) (nI p) (nI b) (nI (200 * s + b)) a1 a2 0 := by
    intro a1 a2 h
    refine ⟨1, ?_⟩
    rw [wp_m_dances_b122]
    exact ⟨fun _ => h, fun _ => ⟨fun _ => h, fun c => absurd rfl c⟩⟩
  have eb : 0 < n → (nI b = nI ((n - 1) / 60) ↔ b = (n - 1) / 60) := fun _ => nI_eq (by omega) (by omega)
  refine ⟨fun c => go _ _ (hfin _ _ ?_ ?_), fun c => ?_⟩
  · have hno : ¬ (0 < n ∧ (n - 1) / 60 = b) := fun z => c (by rw [h3, if_neg (by omega), (eb z.1).mpr z.2.symm])
    unfold fOne; rw [if_neg hno]
  · have hno : ¬ (0 < n ∧ (n - 1) / 60 = b) := fun z => c (by rw [h3, if_neg (by omega), (eb z.1).mpr z.2.symm])
    unfold fOne; rw [if_neg hno]
  · have h0n : 0 < n := by
      rcases Nat.eq_zero_or_pos n with z | z
      · rw [h3, if_pos z] at c; exact absurd c (m1_ne (by omega))
      · exact z
    rw [h3, if_neg (by omega)] at c
    have hb2 := (eb h0n).mp c
    have := go x4 x5 (by rw [h4 h0n, h5 h0n]; refine hfin _ _ ?_ ?_ <;> (unfold fOne; rw [if_pos ⟨h0n, hb2.symm⟩]))
    exact this
