/-! the slots: by kinds (0 none, 1 byte, 2 short, 3 int, else long), lengths, values; the system's core with the slots behind it -/
set_option maxRecDepth 100000
abbrev Lx : Type := (Nat → Nat) × (Nat → Nat) × (Nat → Nat → Int64)
def lval (L : Lx) (s k : Nat) : Int64 := if L.1 s = 1 ∨ L.1 s = 2 ∨ L.1 s = 3 then (L.2.2 s k).toInt32.toInt64 else L.2.2 s k
def rowE (G : Gx) (L : Lx) (s : Nat) : va_E := if L.1 s = 1 then .inl (G.2.2.1 1, L.2.1 s, .inl (fun k => (L.2.2 s k).toInt32)) else if L.1 s = 2 then .inl (G.2.2.1 4, L.2.1 s, .inl (fun k => (L.2.2 s k).toInt32)) else if L.1 s = 3 then .inl (G.2.2.1 0, L.2.1 s, .inl (fun k => (L.2.2 s k).toInt32)) else .inl (G.2.2.1 3, L.2.1 s, .inr (.inl (L.2.2 s)))
def rowC (G : Gx) (A : Nat → Nat) (L : Lx) (s : Nat) : va_W := if L.1 s = 0 then [] else [(A (36 + s), rowE G L s)]
def rowV (A : Nat → Nat) (L : Lx) (s : Nat) : Value := if L.1 s = 0 then .null else .ref (A (36 + s))
def slW (G : Gx) (A : Nat → Nat) (L : Lx) : va_W := [(A 30, .inl (G.2.2.1 5, 4, .inr (.inr (.inr (.inr (fun k => some (A (32 + k)))))))), (A 32, .inr (6, [rowV A L 0])), (A 33, .inr (6, [rowV A L 1])), (A 34, .inr (6, [rowV A L 2])), (A 35, .inr (6, [rowV A L 3]))] ++ (rowC G A L 0 ++ (rowC G A L 1 ++ (rowC G A L 2 ++ rowC G A L 3)))
def wCS (L : Lx) (G : Gx) (A : Nat → Nat) (S : St) : va_W := [(A 0, .inr (0, fs_C0 A S)), (A 1, .inl (G.2.2.1 1, 1200, .inl (S.1 1))), (A 2, .inl (G.2.2.1 0, 400, .inl (S.1 2))), (A 3, .inl (G.2.2.1 0, 400, .inl (S.1 3))), (A 4, .inr (2, fs_C4 A S)), (A 5, .inr (3, fs_C5 A S)), (A 6, .inr (4, fs_C6 A S)), (A 7, .inr (5, fs_C7 A S)), (A 8, .inl (G.2.2.1 0, 560, .inl (S.1 8))), (A 9, .inl (G.2.2.1 0, 12, .inl (S.1 9))), (A 10, .inl (G.2.2.1 0, 12, .inl (S.1 10))), (A 11, .inl (G.2.2.1 0, 12, .inl (S.1 11))), (A 12, .inl (G.2.2.1 1, 4374, .inl (S.1 12))), (A 13, .inl (G.2.2.1 0, 6, .inl (S.1 13))), (A 14, .inl (G.2.2.1 0, 2, .inl (S.1 14))), (A 15, .inr (1, fs_C15 A S)), (A 16, .inl (G.2.2.1 0, 2, .inl (S.1 16))), (A 17, .inl (G.2.2.1 0, 2, .inl (S.1 17))), (A 18, .inl (G.2.2.1 0, 24, .inl (S.1 18))), (A 19, .inl (G.2.2.1 0, 6, .inl (S.1 19))), (A 20, .inl (G.2.2.1 0, 8, .inl (S.1 20))), (A 21, .inl (G.2.2.1 0, 8, .inl (S.1 21))), (A 22, .inl (G.2.2.1 0, 8, .inl (S.1 22))), (A 23, .inl (G.2.2.1 0, 8, .inl (S.1 23))), (A 24, .inl (G.2.2.1 0, 12, .inl (S.1 24))), (A 25, .inl (G.2.2.1 0, 12, .inl (S.1 25))), (A 26, .inl (G.2.2.1 0, 5, .inl (S.1 26))), (A 27, .inl (G.2.2.1 0, 5, .inl (S.1 27))), (A 28, .inl (G.2.2.1 0, 40, .inl (S.1 28))), (A 29, .inl (G.2.2.1 2, 200, .inl (S.1 29)))] ++ slW G A L
theorem wCS_0 (L : Lx) (G : Gx) (A : Nat → Nat) (S : St) : (wCS L G A S)[0]? = some (A 0, .inr (0, fs_C0 A S)) := rfl
theorem wCS_p0_2 (L : Lx) (G : Gx) (A : Nat → Nat) (S : St) (v : Int32) : (wCS L G A S).set 0 (A 0, .inr (0, (fs_C0 A S).set 2 (.int v))) = wCS L G A (sI S 0 2 v) := rfl
theorem wCS_p0_3 (L : Lx) (G : Gx) (A : Nat → Nat) (S : St) (v : Int32) : (wCS L G A S).set 0 (A 0, .inr (0, (fs_C0 A S).set 3 (.int v))) = wCS L G A (sI S 0 3 v) := rfl
theorem wCS_p0_4 (L : Lx) (G : Gx) (A : Nat → Nat) (S : St) (v : Int32) : (wCS L G A S).set 0 (A 0, .inr (0, (fs_C0 A S).set 4 (.int v))) = wCS L G A (sI S 0 4 v) := rfl
theorem wCS_p0_11 (L : Lx) (G : Gx) (A : Nat → Nat) (S : St) (v : Int32) : (wCS L G A S).set 0 (A 0, .inr (0, (fs_C0 A S).set 11 (.int v))) = wCS L G A (sI S 0 11 v) := rfl
theorem wCS_p0_12 (L : Lx) (G : Gx) (A : Nat → Nat) (S : St) (v : Int32) : (wCS L G A S).set 0 (A 0, .inr (0, (fs_C0 A S).set 12 (.int v))) = wCS L G A (sI S 0 12 v) := rfl
theorem wCS_p0_13 (L : Lx) (G : Gx) (A : Nat → Nat) (S : St) (v : Int32) : (wCS L G A S).set 0 (A 0, .inr (0, (fs_C0 A S).set 13 (.int v))) = wCS L G A (sI S 0 13 v) := rfl
theorem wCS_p0_14 (L : Lx) (G : Gx) (A : Nat → Nat) (S : St) (v : Int32) : (wCS L G A S).set 0 (A 0, .inr (0, (fs_C0 A S).set 14 (.int v))) = wCS L G A (sI S 0 14 v) := rfl
theorem wCS_p0_15 (L : Lx) (G : Gx) (A : Nat → Nat) (S : St) (v : Int64) : (wCS L G A S).set 0 (A 0, .inr (0, (fs_C0 A S).set 15 (.long v))) = wCS L G A (sL S 0 15 v) := rfl
theorem wCS_p0_17 (L : Lx) (G : Gx) (A : Nat → Nat) (S : St) (v : Int32) : (wCS L G A S).set 0 (A 0, .inr (0, (fs_C0 A S).set 17 (.int v))) = wCS L G A (sI S 0 17 v) := rfl
theorem wCS_p0_20 (L : Lx) (G : Gx) (A : Nat → Nat) (S : St) (v : Int32) : (wCS L G A S).set 0 (A 0, .inr (0, (fs_C0 A S).set 20 (.int v))) = wCS L G A (sI S 0 20 v) := rfl
theorem wCS_p0_22 (L : Lx) (G : Gx) (A : Nat → Nat) (S : St) (v : Int64) : (wCS L G A S).set 0 (A 0, .inr (0, (fs_C0 A S).set 22 (.long v))) = wCS L G A (sL S 0 22 v) := rfl
theorem wCS_p0_23 (L : Lx) (G : Gx) (A : Nat → Nat) (S : St) (v : Int64) : (wCS L G A S).set 0 (A 0, .inr (0, (fs_C0 A S).set 23 (.long v))) = wCS L G A (sL S 0 23 v) := rfl
theorem wCS_p0_26 (L : Lx) (G : Gx) (A : Nat → Nat) (S : St) (v : Int64) : (wCS L G A S).set 0 (A 0, .inr (0, (fs_C0 A S).set 26 (.long v))) = wCS L G A (sL S 0 26 v) := rfl
theorem wCS_p0_28 (L : Lx) (G : Gx) (A : Nat → Nat) (S : St) (v : Int32) : (wCS L G A S).set 0 (A 0, .inr (0, (fs_C0 A S).set 28 (.int v))) = wCS L G A (sI S 0 28 v) := rfl
theorem wCS_p0_29 (L : Lx) (G : Gx) (A : Nat → Nat) (S : St) (v : Int32) : (wCS L G A S).set 0 (A 0, .inr (0, (fs_C0 A S).set 29 (.int v))) = wCS L G A (sI S 0 29 v) := rfl
theorem wCS_p0_30 (L : Lx) (G : Gx) (A : Nat → Nat) (S : St) (v : Int32) : (wCS L G A S).set 0 (A 0, .inr (0, (fs_C0 A S).set 30 (.int v))) = wCS L G A (sI S 0 30 v) := rfl
theorem wCS_p0_31 (L : Lx) (G : Gx) (A : Nat → Nat) (S : St) (v : Int32) : (wCS L G A S).set 0 (A 0, .inr (0, (fs_C0 A S).set 31 (.int v))) = wCS L G A (sI S 0 31 v) := rfl
theorem wCS_1 (L : Lx) (G : Gx) (A : Nat → Nat) (S : St) : (wCS L G A S)[1]? = some (A 1, .inl (G.2.2.1 1, 1200, .inl (S.1 1))) := rfl
theorem wCS_s1 (L : Lx) (G : Gx) (A : Nat → Nat) (S : St) (k : Nat) (v : Int32) : (wCS L G A S).set 1 (A 1, .inl (G.2.2.1 1, 1200, .inl (upd (S.1 1) k v))) = wCS L G A (sI S 1 k v) := rfl
theorem wCS_2 (L : Lx) (G : Gx) (A : Nat → Nat) (S : St) : (wCS L G A S)[2]? = some (A 2, .inl (G.2.2.1 0, 400, .inl (S.1 2))) := rfl
theorem wCS_c2 (L : Lx) (G : Gx) (A : Nat → Nat) (S : St) (f : Nat → Int32) : (wCS L G A S).set 2 (A 2, .inl (G.2.2.1 0, 400, .inl f)) = wCS L G A (sC S 2 f) := rfl
theorem wCS_s2 (L : Lx) (G : Gx) (A : Nat → Nat) (S : St) (k : Nat) (v : Int32) : (wCS L G A S).set 2 (A 2, .inl (G.2.2.1 0, 400, .inl (upd (S.1 2) k v))) = wCS L G A (sI S 2 k v) := rfl
theorem wCS_3 (L : Lx) (G : Gx) (A : Nat → Nat) (S : St) : (wCS L G A S)[3]? = some (A 3, .inl (G.2.2.1 0, 400, .inl (S.1 3))) := rfl
theorem wCS_c3 (L : Lx) (G : Gx) (A : Nat → Nat) (S : St) (f : Nat → Int32) : (wCS L G A S).set 3 (A 3, .inl (G.2.2.1 0, 400, .inl f)) = wCS L G A (sC S 3 f) := rfl
theorem wCS_s3 (L : Lx) (G : Gx) (A : Nat → Nat) (S : St) (k : Nat) (v : Int32) : (wCS L G A S).set 3 (A 3, .inl (G.2.2.1 0, 400, .inl (upd (S.1 3) k v))) = wCS L G A (sI S 3 k v) := rfl
theorem wCS_4 (L : Lx) (G : Gx) (A : Nat → Nat) (S : St) : (wCS L G A S)[4]? = some (A 4, .inr (2, fs_C4 A S)) := rfl
theorem wCS_5 (L : Lx) (G : Gx) (A : Nat → Nat) (S : St) : (wCS L G A S)[5]? = some (A 5, .inr (3, fs_C5 A S)) := rfl
theorem wCS_6 (L : Lx) (G : Gx) (A : Nat → Nat) (S : St) : (wCS L G A S)[6]? = some (A 6, .inr (4, fs_C6 A S)) := rfl
theorem wCS_p6_3 (L : Lx) (G : Gx) (A : Nat → Nat) (S : St) (v : Int32) : (wCS L G A S).set 6 (A 6, .inr (4, (fs_C6 A S).set 3 (.int v))) = wCS L G A (sI S 6 3 v) := rfl
theorem wCS_7 (L : Lx) (G : Gx) (A : Nat → Nat) (S : St) : (wCS L G A S)[7]? = some (A 7, .inr (5, fs_C7 A S)) := rfl
theorem wCS_p7_2 (L : Lx) (G : Gx) (A : Nat → Nat) (S : St) (v : Int32) : (wCS L G A S).set 7 (A 7, .inr (5, (fs_C7 A S).set 2 (.int v))) = wCS L G A (sI S 7 2 v) := rfl
theorem wCS_8 (L : Lx) (G : Gx) (A : Nat → Nat) (S : St) : (wCS L G A S)[8]? = some (A 8, .inl (G.2.2.1 0, 560, .inl (S.1 8))) := rfl
theorem wCS_c8 (L : Lx) (G : Gx) (A : Nat → Nat) (S : St) (f : Nat → Int32) : (wCS L G A S).set 8 (A 8, .inl (G.2.2.1 0, 560, .inl f)) = wCS L G A (sC S 8 f) := rfl
theorem wCS_s8 (L : Lx) (G : Gx) (A : Nat → Nat) (S : St) (k : Nat) (v : Int32) : (wCS L G A S).set 8 (A 8, .inl (G.2.2.1 0, 560, .inl (upd (S.1 8) k v))) = wCS L G A (sI S 8 k v) := rfl
theorem wCS_9 (L : Lx) (G : Gx) (A : Nat → Nat) (S : St) : (wCS L G A S)[9]? = some (A 9, .inl (G.2.2.1 0, 12, .inl (S.1 9))) := rfl
theorem wCS_c9 (L : Lx) (G : Gx) (A : Nat → Nat) (S : St) (f : Nat → Int32) : (wCS L G A S).set 9 (A 9, .inl (G.2.2.1 0, 12, .inl f)) = wCS L G A (sC S 9 f) := rfl
theorem wCS_s9 (L : Lx) (G : Gx) (A : Nat → Nat) (S : St) (k : Nat) (v : Int32) : (wCS L G A S).set 9 (A 9, .inl (G.2.2.1 0, 12, .inl (upd (S.1 9) k v))) = wCS L G A (sI S 9 k v) := rfl
theorem wCS_10 (L : Lx) (G : Gx) (A : Nat → Nat) (S : St) : (wCS L G A S)[10]? = some (A 10, .inl (G.2.2.1 0, 12, .inl (S.1 10))) := rfl
theorem wCS_c10 (L : Lx) (G : Gx) (A : Nat → Nat) (S : St) (f : Nat → Int32) : (wCS L G A S).set 10 (A 10, .inl (G.2.2.1 0, 12, .inl f)) = wCS L G A (sC S 10 f) := rfl
theorem wCS_s10 (L : Lx) (G : Gx) (A : Nat → Nat) (S : St) (k : Nat) (v : Int32) : (wCS L G A S).set 10 (A 10, .inl (G.2.2.1 0, 12, .inl (upd (S.1 10) k v))) = wCS L G A (sI S 10 k v) := rfl
theorem wCS_11 (L : Lx) (G : Gx) (A : Nat → Nat) (S : St) : (wCS L G A S)[11]? = some (A 11, .inl (G.2.2.1 0, 12, .inl (S.1 11))) := rfl
theorem wCS_c11 (L : Lx) (G : Gx) (A : Nat → Nat) (S : St) (f : Nat → Int32) : (wCS L G A S).set 11 (A 11, .inl (G.2.2.1 0, 12, .inl f)) = wCS L G A (sC S 11 f) := rfl
theorem wCS_s11 (L : Lx) (G : Gx) (A : Nat → Nat) (S : St) (k : Nat) (v : Int32) : (wCS L G A S).set 11 (A 11, .inl (G.2.2.1 0, 12, .inl (upd (S.1 11) k v))) = wCS L G A (sI S 11 k v) := rfl
theorem wCS_12 (L : Lx) (G : Gx) (A : Nat → Nat) (S : St) : (wCS L G A S)[12]? = some (A 12, .inl (G.2.2.1 1, 4374, .inl (S.1 12))) := rfl
theorem wCS_s12 (L : Lx) (G : Gx) (A : Nat → Nat) (S : St) (k : Nat) (v : Int32) : (wCS L G A S).set 12 (A 12, .inl (G.2.2.1 1, 4374, .inl (upd (S.1 12) k v))) = wCS L G A (sI S 12 k v) := rfl
theorem wCS_13 (L : Lx) (G : Gx) (A : Nat → Nat) (S : St) : (wCS L G A S)[13]? = some (A 13, .inl (G.2.2.1 0, 6, .inl (S.1 13))) := rfl
theorem wCS_c13 (L : Lx) (G : Gx) (A : Nat → Nat) (S : St) (f : Nat → Int32) : (wCS L G A S).set 13 (A 13, .inl (G.2.2.1 0, 6, .inl f)) = wCS L G A (sC S 13 f) := rfl
theorem wCS_s13 (L : Lx) (G : Gx) (A : Nat → Nat) (S : St) (k : Nat) (v : Int32) : (wCS L G A S).set 13 (A 13, .inl (G.2.2.1 0, 6, .inl (upd (S.1 13) k v))) = wCS L G A (sI S 13 k v) := rfl
theorem wCS_14 (L : Lx) (G : Gx) (A : Nat → Nat) (S : St) : (wCS L G A S)[14]? = some (A 14, .inl (G.2.2.1 0, 2, .inl (S.1 14))) := rfl
theorem wCS_c14 (L : Lx) (G : Gx) (A : Nat → Nat) (S : St) (f : Nat → Int32) : (wCS L G A S).set 14 (A 14, .inl (G.2.2.1 0, 2, .inl f)) = wCS L G A (sC S 14 f) := rfl
theorem wCS_s14 (L : Lx) (G : Gx) (A : Nat → Nat) (S : St) (k : Nat) (v : Int32) : (wCS L G A S).set 14 (A 14, .inl (G.2.2.1 0, 2, .inl (upd (S.1 14) k v))) = wCS L G A (sI S 14 k v) := rfl
theorem wCS_15 (L : Lx) (G : Gx) (A : Nat → Nat) (S : St) : (wCS L G A S)[15]? = some (A 15, .inr (1, fs_C15 A S)) := rfl
theorem wCS_p15_0 (L : Lx) (G : Gx) (A : Nat → Nat) (S : St) (v : Int32) : (wCS L G A S).set 15 (A 15, .inr (1, (fs_C15 A S).set 0 (.int v))) = wCS L G A (sI S 15 0 v) := rfl
theorem wCS_p15_1 (L : Lx) (G : Gx) (A : Nat → Nat) (S : St) (v : Int32) : (wCS L G A S).set 15 (A 15, .inr (1, (fs_C15 A S).set 1 (.int v))) = wCS L G A (sI S 15 1 v) := rfl
theorem wCS_p15_2 (L : Lx) (G : Gx) (A : Nat → Nat) (S : St) (v : Int32) : (wCS L G A S).set 15 (A 15, .inr (1, (fs_C15 A S).set 2 (.int v))) = wCS L G A (sI S 15 2 v) := rfl
theorem wCS_p15_3 (L : Lx) (G : Gx) (A : Nat → Nat) (S : St) (v : Int32) : (wCS L G A S).set 15 (A 15, .inr (1, (fs_C15 A S).set 3 (.int v))) = wCS L G A (sI S 15 3 v) := rfl
theorem wCS_p15_4 (L : Lx) (G : Gx) (A : Nat → Nat) (S : St) (v : Int32) : (wCS L G A S).set 15 (A 15, .inr (1, (fs_C15 A S).set 4 (.int v))) = wCS L G A (sI S 15 4 v) := rfl
theorem wCS_p15_5 (L : Lx) (G : Gx) (A : Nat → Nat) (S : St) (v : Int32) : (wCS L G A S).set 15 (A 15, .inr (1, (fs_C15 A S).set 5 (.int v))) = wCS L G A (sI S 15 5 v) := rfl
theorem wCS_p15_6 (L : Lx) (G : Gx) (A : Nat → Nat) (S : St) (v : Int32) : (wCS L G A S).set 15 (A 15, .inr (1, (fs_C15 A S).set 6 (.int v))) = wCS L G A (sI S 15 6 v) := rfl
theorem wCS_p15_7 (L : Lx) (G : Gx) (A : Nat → Nat) (S : St) (v : Int32) : (wCS L G A S).set 15 (A 15, .inr (1, (fs_C15 A S).set 7 (.int v))) = wCS L G A (sI S 15 7 v) := rfl
theorem wCS_16 (L : Lx) (G : Gx) (A : Nat → Nat) (S : St) : (wCS L G A S)[16]? = some (A 16, .inl (G.2.2.1 0, 2, .inl (S.1 16))) := rfl
theorem wCS_c16 (L : Lx) (G : Gx) (A : Nat → Nat) (S : St) (f : Nat → Int32) : (wCS L G A S).set 16 (A 16, .inl (G.2.2.1 0, 2, .inl f)) = wCS L G A (sC S 16 f) := rfl
theorem wCS_s16 (L : Lx) (G : Gx) (A : Nat → Nat) (S : St) (k : Nat) (v : Int32) : (wCS L G A S).set 16 (A 16, .inl (G.2.2.1 0, 2, .inl (upd (S.1 16) k v))) = wCS L G A (sI S 16 k v) := rfl
theorem wCS_17 (L : Lx) (G : Gx) (A : Nat → Nat) (S : St) : (wCS L G A S)[17]? = some (A 17, .inl (G.2.2.1 0, 2, .inl (S.1 17))) := rfl
theorem wCS_c17 (L : Lx) (G : Gx) (A : Nat → Nat) (S : St) (f : Nat → Int32) : (wCS L G A S).set 17 (A 17, .inl (G.2.2.1 0, 2, .inl f)) = wCS L G A (sC S 17 f) := rfl
theorem wCS_s17 (L : Lx) (G : Gx) (A : Nat → Nat) (S : St) (k : Nat) (v : Int32) : (wCS L G A S).set 17 (A 17, .inl (G.2.2.1 0, 2, .inl (upd (S.1 17) k v))) = wCS L G A (sI S 17 k v) := rfl
theorem wCS_18 (L : Lx) (G : Gx) (A : Nat → Nat) (S : St) : (wCS L G A S)[18]? = some (A 18, .inl (G.2.2.1 0, 24, .inl (S.1 18))) := rfl
theorem wCS_c18 (L : Lx) (G : Gx) (A : Nat → Nat) (S : St) (f : Nat → Int32) : (wCS L G A S).set 18 (A 18, .inl (G.2.2.1 0, 24, .inl f)) = wCS L G A (sC S 18 f) := rfl
theorem wCS_s18 (L : Lx) (G : Gx) (A : Nat → Nat) (S : St) (k : Nat) (v : Int32) : (wCS L G A S).set 18 (A 18, .inl (G.2.2.1 0, 24, .inl (upd (S.1 18) k v))) = wCS L G A (sI S 18 k v) := rfl
theorem wCS_19 (L : Lx) (G : Gx) (A : Nat → Nat) (S : St) : (wCS L G A S)[19]? = some (A 19, .inl (G.2.2.1 0, 6, .inl (S.1 19))) := rfl
theorem wCS_c19 (L : Lx) (G : Gx) (A : Nat → Nat) (S : St) (f : Nat → Int32) : (wCS L G A S).set 19 (A 19, .inl (G.2.2.1 0, 6, .inl f)) = wCS L G A (sC S 19 f) := rfl
theorem wCS_s19 (L : Lx) (G : Gx) (A : Nat → Nat) (S : St) (k : Nat) (v : Int32) : (wCS L G A S).set 19 (A 19, .inl (G.2.2.1 0, 6, .inl (upd (S.1 19) k v))) = wCS L G A (sI S 19 k v) := rfl
theorem wCS_20 (L : Lx) (G : Gx) (A : Nat → Nat) (S : St) : (wCS L G A S)[20]? = some (A 20, .inl (G.2.2.1 0, 8, .inl (S.1 20))) := rfl
theorem wCS_c20 (L : Lx) (G : Gx) (A : Nat → Nat) (S : St) (f : Nat → Int32) : (wCS L G A S).set 20 (A 20, .inl (G.2.2.1 0, 8, .inl f)) = wCS L G A (sC S 20 f) := rfl
theorem wCS_s20 (L : Lx) (G : Gx) (A : Nat → Nat) (S : St) (k : Nat) (v : Int32) : (wCS L G A S).set 20 (A 20, .inl (G.2.2.1 0, 8, .inl (upd (S.1 20) k v))) = wCS L G A (sI S 20 k v) := rfl
theorem wCS_21 (L : Lx) (G : Gx) (A : Nat → Nat) (S : St) : (wCS L G A S)[21]? = some (A 21, .inl (G.2.2.1 0, 8, .inl (S.1 21))) := rfl
theorem wCS_c21 (L : Lx) (G : Gx) (A : Nat → Nat) (S : St) (f : Nat → Int32) : (wCS L G A S).set 21 (A 21, .inl (G.2.2.1 0, 8, .inl f)) = wCS L G A (sC S 21 f) := rfl
theorem wCS_s21 (L : Lx) (G : Gx) (A : Nat → Nat) (S : St) (k : Nat) (v : Int32) : (wCS L G A S).set 21 (A 21, .inl (G.2.2.1 0, 8, .inl (upd (S.1 21) k v))) = wCS L G A (sI S 21 k v) := rfl
theorem wCS_22 (L : Lx) (G : Gx) (A : Nat → Nat) (S : St) : (wCS L G A S)[22]? = some (A 22, .inl (G.2.2.1 0, 8, .inl (S.1 22))) := rfl
theorem wCS_c22 (L : Lx) (G : Gx) (A : Nat → Nat) (S : St) (f : Nat → Int32) : (wCS L G A S).set 22 (A 22, .inl (G.2.2.1 0, 8, .inl f)) = wCS L G A (sC S 22 f) := rfl
theorem wCS_s22 (L : Lx) (G : Gx) (A : Nat → Nat) (S : St) (k : Nat) (v : Int32) : (wCS L G A S).set 22 (A 22, .inl (G.2.2.1 0, 8, .inl (upd (S.1 22) k v))) = wCS L G A (sI S 22 k v) := rfl
theorem wCS_23 (L : Lx) (G : Gx) (A : Nat → Nat) (S : St) : (wCS L G A S)[23]? = some (A 23, .inl (G.2.2.1 0, 8, .inl (S.1 23))) := rfl
theorem wCS_c23 (L : Lx) (G : Gx) (A : Nat → Nat) (S : St) (f : Nat → Int32) : (wCS L G A S).set 23 (A 23, .inl (G.2.2.1 0, 8, .inl f)) = wCS L G A (sC S 23 f) := rfl
theorem wCS_s23 (L : Lx) (G : Gx) (A : Nat → Nat) (S : St) (k : Nat) (v : Int32) : (wCS L G A S).set 23 (A 23, .inl (G.2.2.1 0, 8, .inl (upd (S.1 23) k v))) = wCS L G A (sI S 23 k v) := rfl
theorem wCS_24 (L : Lx) (G : Gx) (A : Nat → Nat) (S : St) : (wCS L G A S)[24]? = some (A 24, .inl (G.2.2.1 0, 12, .inl (S.1 24))) := rfl
theorem wCS_c24 (L : Lx) (G : Gx) (A : Nat → Nat) (S : St) (f : Nat → Int32) : (wCS L G A S).set 24 (A 24, .inl (G.2.2.1 0, 12, .inl f)) = wCS L G A (sC S 24 f) := rfl
theorem wCS_s24 (L : Lx) (G : Gx) (A : Nat → Nat) (S : St) (k : Nat) (v : Int32) : (wCS L G A S).set 24 (A 24, .inl (G.2.2.1 0, 12, .inl (upd (S.1 24) k v))) = wCS L G A (sI S 24 k v) := rfl
theorem wCS_25 (L : Lx) (G : Gx) (A : Nat → Nat) (S : St) : (wCS L G A S)[25]? = some (A 25, .inl (G.2.2.1 0, 12, .inl (S.1 25))) := rfl
theorem wCS_c25 (L : Lx) (G : Gx) (A : Nat → Nat) (S : St) (f : Nat → Int32) : (wCS L G A S).set 25 (A 25, .inl (G.2.2.1 0, 12, .inl f)) = wCS L G A (sC S 25 f) := rfl
theorem wCS_s25 (L : Lx) (G : Gx) (A : Nat → Nat) (S : St) (k : Nat) (v : Int32) : (wCS L G A S).set 25 (A 25, .inl (G.2.2.1 0, 12, .inl (upd (S.1 25) k v))) = wCS L G A (sI S 25 k v) := rfl
theorem wCS_26 (L : Lx) (G : Gx) (A : Nat → Nat) (S : St) : (wCS L G A S)[26]? = some (A 26, .inl (G.2.2.1 0, 5, .inl (S.1 26))) := rfl
theorem wCS_c26 (L : Lx) (G : Gx) (A : Nat → Nat) (S : St) (f : Nat → Int32) : (wCS L G A S).set 26 (A 26, .inl (G.2.2.1 0, 5, .inl f)) = wCS L G A (sC S 26 f) := rfl
theorem wCS_s26 (L : Lx) (G : Gx) (A : Nat → Nat) (S : St) (k : Nat) (v : Int32) : (wCS L G A S).set 26 (A 26, .inl (G.2.2.1 0, 5, .inl (upd (S.1 26) k v))) = wCS L G A (sI S 26 k v) := rfl
theorem wCS_27 (L : Lx) (G : Gx) (A : Nat → Nat) (S : St) : (wCS L G A S)[27]? = some (A 27, .inl (G.2.2.1 0, 5, .inl (S.1 27))) := rfl
theorem wCS_c27 (L : Lx) (G : Gx) (A : Nat → Nat) (S : St) (f : Nat → Int32) : (wCS L G A S).set 27 (A 27, .inl (G.2.2.1 0, 5, .inl f)) = wCS L G A (sC S 27 f) := rfl
theorem wCS_s27 (L : Lx) (G : Gx) (A : Nat → Nat) (S : St) (k : Nat) (v : Int32) : (wCS L G A S).set 27 (A 27, .inl (G.2.2.1 0, 5, .inl (upd (S.1 27) k v))) = wCS L G A (sI S 27 k v) := rfl
theorem wCS_28 (L : Lx) (G : Gx) (A : Nat → Nat) (S : St) : (wCS L G A S)[28]? = some (A 28, .inl (G.2.2.1 0, 40, .inl (S.1 28))) := rfl
theorem wCS_c28 (L : Lx) (G : Gx) (A : Nat → Nat) (S : St) (f : Nat → Int32) : (wCS L G A S).set 28 (A 28, .inl (G.2.2.1 0, 40, .inl f)) = wCS L G A (sC S 28 f) := rfl
theorem wCS_s28 (L : Lx) (G : Gx) (A : Nat → Nat) (S : St) (k : Nat) (v : Int32) : (wCS L G A S).set 28 (A 28, .inl (G.2.2.1 0, 40, .inl (upd (S.1 28) k v))) = wCS L G A (sI S 28 k v) := rfl
theorem wCS_29 (L : Lx) (G : Gx) (A : Nat → Nat) (S : St) : (wCS L G A S)[29]? = some (A 29, .inl (G.2.2.1 2, 200, .inl (S.1 29))) := rfl
theorem wCS_s29 (L : Lx) (G : Gx) (A : Nat → Nat) (S : St) (k : Nat) (v : Int32) : (wCS L G A S).set 29 (A 29, .inl (G.2.2.1 2, 200, .inl (upd (S.1 29) k v))) = wCS L G A (sI S 29 k v) := rfl
theorem wCS_C {L : Lx} {G : Gx} {A : Nat → Nat} {S : St} {H : Heap} (h : PW G (wCS L G A S) H) : PW G (wC G A S) H := P_pre (w2 := slW G A L) h
theorem wCS_sl (L : Lx) (G : Gx) (A : Nat → Nat) (S : St) : (wCS L G A S)[30]? = some (A 30, .inl (G.2.2.1 5, 4, .inr (.inr (.inr (.inr (fun k => some (A (32 + k)))))))) := rfl
theorem wCS_slot (L : Lx) (G : Gx) (A : Nat → Nat) (S : St) {j : Nat} (hj : j < 4) : (wCS L G A S)[31 + j]? = some (A (32 + j), .inr (6, [rowV A L j])) := by
  match j, hj with
  | 0, _ => rfl
  | 1, _ => rfl
  | 2, _ => rfl
  | 3, _ => rfl
theorem wCS_rowm (L : Lx) (G : Gx) (A : Nat → Nat) (S : St) {j : Nat} (hj : j < 4) (hk : ¬ L.1 j = 0) : (A (36 + j), rowE G L j) ∈ wCS L G A S := by
  have h1 : (A (36 + j), rowE G L j) ∈ rowC G A L j := by simp [rowC, hk]
  have h2 : (A (36 + j), rowE G L j) ∈ rowC G A L 0 ++ (rowC G A L 1 ++ (rowC G A L 2 ++ rowC G A L 3)) := by
    match j, hj with
    | 0, _ => exact List.mem_append_left _ h1
    | 1, _ => exact List.mem_append_right _ (List.mem_append_left _ h1)
    | 2, _ => exact List.mem_append_right _ (List.mem_append_right _ (List.mem_append_left _ h1))
    | 3, _ => exact List.mem_append_right _ (List.mem_append_right _ (List.mem_append_right _ h1))
  exact List.mem_append_right _ (List.mem_append_right _ h2)
/-- a slot that has a row, with its row -/
def w2 (L : Lx) (s : Nat) (G : Gx) (A : Nat → Nat) : va_W := [(A (32 + s), .inr (6, [.ref (A (36 + s))])), (A (36 + s), rowE G L s)]
theorem wCS_w2 {L : Lx} {G : Gx} {A : Nat → Nat} {S : St} {H : Heap} {j : Nat} (hj : j < 4) (hk : ¬ L.1 j = 0) (h : PW G (wCS L G A S) H) : PW G (w2 L j G A) H := by
  intro k q hq
  match k, hq with
  | 0, hq =>
    have e : q = (A (32 + j), .inr (6, [.ref (A (36 + j))])) := (Option.some.inj hq).symm
    subst e
    exact h (31 + j) _ (by rw [wCS_slot L G A S hj]; simp [rowV, hk])
  | 1, hq =>
    have e : q = (A (36 + j), rowE G L j) := (Option.some.inj hq).symm
    subst e
    obtain ⟨i, hi⟩ := List.getElem?_of_mem (wCS_rowm L G A S hj hk)
    exact h i _ hi
  | k + 2, hq => simp [w2] at hq
def A2 (A : Nat → Nat) (s : Nat) : Nat → Nat := fun i => if i = 0 then A (32 + s) else A (36 + s)
def S2 (L : Lx) (s : Nat) : St := (fun _ k => (L.2.2 s k).toInt32, fun _ => L.2.2 s)
theorem w2_b {L : Lx} {s : Nat} (G : Gx) (A : Nat → Nat) (h : L.1 s = 1) : w2 L s G A = wSb (L.2.1 s) G (A2 A s) (S2 L s) := by
  simp only [w2, rowE, h]; rfl
theorem w2_s {L : Lx} {s : Nat} (G : Gx) (A : Nat → Nat) (h : L.1 s = 2) : w2 L s G A = wSs (L.2.1 s) G (A2 A s) (S2 L s) := by
  simp only [w2, rowE, h]; rfl
theorem w2_i {L : Lx} {s : Nat} (G : Gx) (A : Nat → Nat) (h : L.1 s = 3) : w2 L s G A = wSi (L.2.1 s) G (A2 A s) (S2 L s) := by
  simp only [w2, rowE, h]; rfl
theorem w2_l {L : Lx} {s : Nat} (G : Gx) (A : Nat → Nat) (h1 : ¬ L.1 s = 1) (h2 : ¬ L.1 s = 2) (h3 : ¬ L.1 s = 3) : w2 L s G A = wSl (L.2.1 s) G (A2 A s) (S2 L s) := by
  simp only [w2, rowE, if_neg h1, if_neg h2, if_neg h3]; rfl
abbrev rm_slot : Room := { frames := 3, cells := 0, slots := 0, locals := 60 }
theorem met_s_size (G : Gx) (A : Nat → Nat) (L : Lx) (s : Nat) (Q : Int32 → Prop) (h : Q (nI (L.2.1 s))) : Ri G yX7_size (ws_ yX7_size cX7_size 1 (some .int)) rm_s_size_b (w2 L s G A) [.ref (A (32 + s))] Q := by
  by_cases h1 : L.1 s = 1
  · rw [w2_b G A h1]; exact met_s_size_b G (A2 A s) (L.2.1 s) (S2 L s) Q h
  by_cases h2 : L.1 s = 2
  · rw [w2_s G A h2]; exact met_s_size_s G (A2 A s) (L.2.1 s) (S2 L s) Q h
  by_cases h3 : L.1 s = 3
  · rw [w2_i G A h3]; exact met_s_size_i G (A2 A s) (L.2.1 s) (S2 L s) Q h
  rw [w2_l G A h1 h2 h3]; exact met_s_size_l G (A2 A s) (L.2.1 s) (S2 L s) Q h
theorem met_s_at (G : Gx) (A : Nat → Nat) (L : Lx) (s : Nat) (i : Int32) (Q : Int64 → Prop) (hi : vp_in i (L.2.1 s)) (h : Q (lval L s i.toNatClampNeg)) : Rl G yX7_at (ws_ yX7_at cX7_at 2 (some .long)) rm_s_size_b (w2 L s G A) [.ref (A (32 + s)), .int i] Q := by
  by_cases h1 : L.1 s = 1
  · rw [w2_b G A h1]; rw [lval, if_pos (Or.inl h1)] at h; exact met_s_at_b G (A2 A s) (L.2.1 s) (S2 L s) i Q ⟨hi, h⟩
  by_cases h2 : L.1 s = 2
  · rw [w2_s G A h2]; rw [lval, if_pos (Or.inr (Or.inl h2))] at h; exact met_s_at_s G (A2 A s) (L.2.1 s) (S2 L s) i Q ⟨hi, h⟩
  by_cases h3 : L.1 s = 3
  · rw [w2_i G A h3]; rw [lval, if_pos (Or.inr (Or.inr h3))] at h; exact met_s_at_i G (A2 A s) (L.2.1 s) (S2 L s) i Q ⟨hi, h⟩
  rw [w2_l G A h1 h2 h3]; rw [lval, if_neg (by simp [h1, h2, h3])] at h; exact met_s_at_l G (A2 A s) (L.2.1 s) (S2 L s) i Q ⟨hi, h⟩
theorem vin4 {i : Int32} (h : vp_in i 4) : i.toNatClampNeg < 4 := Nat.not_le.mp fun q => h (Or.inr q)
theorem y_aaldS {G : Gx} {K : Kx} {own : String} {cc : ByteArray} {rm : Room} {nL : Nat} {ret : Option FieldType} {k n pc : Nat} {L : Lx} {A : Nat → Nat} {S : St} {lv : List (Nat × Value)} {st : List Value} (C : KOk G K own cc rm nL ret) {i : Int32} (hin : vp_in i 4) (hdg : decode cc pc = .ok (.aaload, 1)) (kk : Y G K k n (wCS L G A S) (pc + 1) lv (.ref (A (32 + i.toNatClampNeg)) :: st)) : Y G K k n (wCS L G A S) pc lv (.int i :: .ref (A 30) :: st) := by
  obtain ⟨R, nL0, p, e, s, m, args, below, meth, c, Q, I⟩ := K
  obtain ⟨rfl, rfl, hx, hb, hr, hlk, hml, hown, hts, hKW⟩ := C
  intro H locs ls hP hI hl
  exact va_aldq (C := "OverHill$Slot") hx hb hKW.1 hP 30 5 (wCS_sl L G A S) rfl hin hdg (kk H locs ls hP hI hl)
theorem y_slotSize {G : Gx} {K : Kx} {own : String} {cc : ByteArray} {rm : Room} {nL : Nat} {ret : Option FieldType} {k n pc index : Nat} {L : Lx} {A : Nat → Nat} {S : St} {lv : List (Nat × Value)} {st : List Value} (C : KOk G K own cc rm nL ret) {i : Int32} (hin : vp_in i 4) (hk : ¬ L.1 i.toNatClampNeg = 0) (cs : CsV own index yX7_size cX7_size 1 (some .int) 0) (hrm : rm_s_size_b.cells = 0 ∧ rm_s_size_b.slots = 0 ∧ rm_s_size_b.frames + 1 ≤ rm.frames ∧ 8 + (1 + 11) + rm_s_size_b.locals ≤ rm.locals) (hcat : (st.map fun v => v.category).sum ≤ 8) (hdg : decode cc pc = .ok (.invokevirtual index, 3)) (hkn : k ≤ rm.cells ∧ n ≤ rm.slots) (kk : Y G K k n (wCS L G A S) (pc + 3) lv (.int (nI (L.2.1 i.toNatClampNeg)) :: st)) : Y G K k n (wCS L G A S) pc lv (.ref (A (32 + i.toNatClampNeg)) :: st) :=
  y_callRiV (As := []) (rest := st) C cs (met_s_size G A L i.toNatClampNeg (fun r => r = nI (L.2.1 i.toNatClampNeg)) rfl) (fun H h => wCS_w2 (vin4 hin) hk h) (wCS_slot L G A S (vin4 hin)) rfl rfl hrm rfl rfl hcat hdg hkn (fun r hr => by rw [hr]; exact kk)
theorem y_slotAt {G : Gx} {K : Kx} {own : String} {cc : ByteArray} {rm : Room} {nL : Nat} {ret : Option FieldType} {k n pc index : Nat} {L : Lx} {A : Nat → Nat} {S : St} {lv : List (Nat × Value)} {st : List Value} (C : KOk G K own cc rm nL ret) {i j : Int32} (hin : vp_in i 4) (hk : ¬ L.1 i.toNatClampNeg = 0) (hj : vp_in j (L.2.1 i.toNatClampNeg)) (cs : CsV own index yX7_at cX7_at 2 (some .long) 1) (hrm : rm_s_size_b.cells = 0 ∧ rm_s_size_b.slots = 0 ∧ rm_s_size_b.frames + 1 ≤ rm.frames ∧ 8 + (2 + 11) + rm_s_size_b.locals ≤ rm.locals) (hcat : (st.map fun v => v.category).sum ≤ 8) (hdg : decode cc pc = .ok (.invokevirtual index, 3)) (hkn : k ≤ rm.cells ∧ n ≤ rm.slots) (kk : Y G K k n (wCS L G A S) (pc + 3) lv (.long (lval L i.toNatClampNeg j.toNatClampNeg) :: st)) : Y G K k n (wCS L G A S) pc lv (.int j :: .ref (A (32 + i.toNatClampNeg)) :: st) :=
  y_callRlV (As := [.int j]) (rest := st) C cs (met_s_at G A L i.toNatClampNeg j (fun r => r = lval L i.toNatClampNeg j.toNatClampNeg) hj rfl) (fun H h => wCS_w2 (vin4 hin) hk h) (wCS_slot L G A S (vin4 hin)) rfl rfl hrm rfl rfl hcat hdg hkn (fun r hr => by rw [hr]; exact kk)
