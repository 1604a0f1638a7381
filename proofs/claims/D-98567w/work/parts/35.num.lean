/-! THE PLAIN LAW: numbers -/
set_option maxRecDepth 100000
def b2i (p : Prop) [Decidable p] : Int32 := if p then 1 else 0
theorem b2i_eq0 (p : Prop) [Decidable p] : (b2i p = 0) = ¬ p := by
  unfold b2i; by_cases h : p <;> simp [h]
theorem b2i_ne0 (p : Prop) [Decidable p] : (¬ b2i p = 0) = p := by
  rw [b2i_eq0]; simp
theorem b2i_nar (p : Prop) [Decidable p] : narrow .boolean (.int (b2i p)) = .int (b2i p) := by
  unfold b2i; by_cases h : p <;> simp only [h, if_true, if_false] <;> rfl
theorem b2i_t {p : Prop} [Decidable p] (h : p) : b2i p = 1 := by simp [b2i, h]
theorem b2i_f {p : Prop} [Decidable p] (h : ¬ p) : b2i p = 0 := by simp [b2i, h]
/-- a branch whose two ends are the same question -/
theorem br_q {α : Type} {c : Prop} [Decidable c] (Q : α → Prop) (a b : α) : ((c → Q a) ∧ (¬ c → Q b)) = Q (if c then a else b) := by
  by_cases h : c <;> simp [h]
theorem br_q' {α : Type} {c : Prop} [Decidable c] (Q : α → Prop) (a b : α) : ((¬ c → Q a) ∧ (c → Q b)) = Q (if c then b else a) := by
  by_cases h : c <;> simp [h]
theorem lgc_lt (x y : Int64) : (lg_cmp x y < 0) = (x.toInt < y.toInt) := by
  have h := lg_cmp_ge x y
  rw [Int64.le_iff_toInt_le] at h
  apply propext
  rw [Int32.lt_iff_toInt_lt]
  rw [Int32.le_iff_toInt_le] at h
  constructor
  · intro q
    refine Int.not_le.mp fun z => ?_
    have := h.mpr z
    simp at this q
    omega
  · intro q
    refine Int.not_le.mp fun z => ?_
    have := h.mp (by simpa using z)
    omega
theorem lgc_gt (x y : Int64) : (0 < lg_cmp x y) = (y.toInt < x.toInt) := by
  apply propext
  unfold lg_cmp
  by_cases h : x > y
  · rw [if_pos h]
    exact ⟨fun _ => Int64.lt_iff_toInt_lt.mp h, fun _ => by decide⟩
  · rw [if_neg h]
    have h9 : ¬ y.toInt < x.toInt := fun z => h (Int64.lt_iff_toInt_lt.mpr z)
    refine ⟨fun q => absurd q ?_, fun q => absurd q h9⟩
    by_cases h2 : x = y
    · rw [if_pos h2]; decide
    · rw [if_neg h2]; decide
theorem o_isIn_eq (x y z : Int64) (Q : Int32 → Prop) : wp_o_isIn x y z Q = Q (b2i (y.toInt ≤ x.toInt ∧ x.toInt ≤ z.toInt)) := by
  unfold wp_o_isIn
  rw [lgc_lt, lgc_gt, br_q, br_q, b2i]
  congr 1
  by_cases h : x.toInt < y.toInt
  · rw [if_pos h, if_neg (by omega)]
  · rw [if_neg h]
    by_cases h2 : z.toInt < x.toInt
    · rw [if_pos h2, if_neg (by omega)]
    · rw [if_neg h2, if_pos (by omega)]
theorem m_in_eq (x y z : Int64) (Q : Int32 → Prop) : wp_m_in x y z Q = Q (b2i (y.toInt ≤ x.toInt ∧ x.toInt ≤ z.toInt)) := o_isIn_eq x y z Q
