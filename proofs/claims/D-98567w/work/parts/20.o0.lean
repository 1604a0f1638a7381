/-! printed by tools/gen.py -/
set_option maxRecDepth 100000
def fs_C0 (A : Nat → Nat) (S : St) : List Value := [.ref (A 15), .ref (A 1), .int (S.1 0 2), .int (S.1 0 3), .int (S.1 0 4), .ref (A 2), .ref (A 3), .ref (A 4), .ref (A 5), .ref (A 6), .ref (A 7), .int (S.1 0 11), .int (S.1 0 12), .int (S.1 0 13), .int (S.1 0 14), .long (S.2 0 15), .ref (A 8), .int (S.1 0 17), .ref (A 9), .ref (A 10), .int (S.1 0 20), .ref (A 11), .long (S.2 0 22), .long (S.2 0 23), .ref (A 12), .ref (A 13), .long (S.2 0 26), .ref (A 14), .int (S.1 0 28), .int (S.1 0 29), .int (S.1 0 30), .int (S.1 0 31), .ref (A 30), .ref (A 31)]
theorem fs_C0_f0 (A : Nat → Nat) (S : St) : (fs_C0 A S)[0]? = some (.ref (A 15)) := rfl
theorem fs_C0_f1 (A : Nat → Nat) (S : St) : (fs_C0 A S)[1]? = some (.ref (A 1)) := rfl
theorem fs_C0_f2 (A : Nat → Nat) (S : St) : (fs_C0 A S)[2]? = some (.int (S.1 0 2)) := rfl
theorem fs_C0_f3 (A : Nat → Nat) (S : St) : (fs_C0 A S)[3]? = some (.int (S.1 0 3)) := rfl
theorem fs_C0_f4 (A : Nat → Nat) (S : St) : (fs_C0 A S)[4]? = some (.int (S.1 0 4)) := rfl
theorem fs_C0_f5 (A : Nat → Nat) (S : St) : (fs_C0 A S)[5]? = some (.ref (A 2)) := rfl
theorem fs_C0_f6 (A : Nat → Nat) (S : St) : (fs_C0 A S)[6]? = some (.ref (A 3)) := rfl
theorem fs_C0_f7 (A : Nat → Nat) (S : St) : (fs_C0 A S)[7]? = some (.ref (A 4)) := rfl
theorem fs_C0_f8 (A : Nat → Nat) (S : St) : (fs_C0 A S)[8]? = some (.ref (A 5)) := rfl
theorem fs_C0_f9 (A : Nat → Nat) (S : St) : (fs_C0 A S)[9]? = some (.ref (A 6)) := rfl
theorem fs_C0_f10 (A : Nat → Nat) (S : St) : (fs_C0 A S)[10]? = some (.ref (A 7)) := rfl
theorem fs_C0_f11 (A : Nat → Nat) (S : St) : (fs_C0 A S)[11]? = some (.int (S.1 0 11)) := rfl
theorem fs_C0_f12 (A : Nat → Nat) (S : St) : (fs_C0 A S)[12]? = some (.int (S.1 0 12)) := rfl
theorem fs_C0_f13 (A : Nat → Nat) (S : St) : (fs_C0 A S)[13]? = some (.int (S.1 0 13)) := rfl
theorem fs_C0_f14 (A : Nat → Nat) (S : St) : (fs_C0 A S)[14]? = some (.int (S.1 0 14)) := rfl
theorem fs_C0_f15 (A : Nat → Nat) (S : St) : (fs_C0 A S)[15]? = some (.long (S.2 0 15)) := rfl
theorem fs_C0_f16 (A : Nat → Nat) (S : St) : (fs_C0 A S)[16]? = some (.ref (A 8)) := rfl
theorem fs_C0_f17 (A : Nat → Nat) (S : St) : (fs_C0 A S)[17]? = some (.int (S.1 0 17)) := rfl
theorem fs_C0_f18 (A : Nat → Nat) (S : St) : (fs_C0 A S)[18]? = some (.ref (A 9)) := rfl
theorem fs_C0_f19 (A : Nat → Nat) (S : St) : (fs_C0 A S)[19]? = some (.ref (A 10)) := rfl
theorem fs_C0_f20 (A : Nat → Nat) (S : St) : (fs_C0 A S)[20]? = some (.int (S.1 0 20)) := rfl
theorem fs_C0_f21 (A : Nat → Nat) (S : St) : (fs_C0 A S)[21]? = some (.ref (A 11)) := rfl
theorem fs_C0_f22 (A : Nat → Nat) (S : St) : (fs_C0 A S)[22]? = some (.long (S.2 0 22)) := rfl
theorem fs_C0_f23 (A : Nat → Nat) (S : St) : (fs_C0 A S)[23]? = some (.long (S.2 0 23)) := rfl
theorem fs_C0_f24 (A : Nat → Nat) (S : St) : (fs_C0 A S)[24]? = some (.ref (A 12)) := rfl
theorem fs_C0_f25 (A : Nat → Nat) (S : St) : (fs_C0 A S)[25]? = some (.ref (A 13)) := rfl
theorem fs_C0_f26 (A : Nat → Nat) (S : St) : (fs_C0 A S)[26]? = some (.long (S.2 0 26)) := rfl
theorem fs_C0_f27 (A : Nat → Nat) (S : St) : (fs_C0 A S)[27]? = some (.ref (A 14)) := rfl
theorem fs_C0_f28 (A : Nat → Nat) (S : St) : (fs_C0 A S)[28]? = some (.int (S.1 0 28)) := rfl
theorem fs_C0_f29 (A : Nat → Nat) (S : St) : (fs_C0 A S)[29]? = some (.int (S.1 0 29)) := rfl
theorem fs_C0_f30 (A : Nat → Nat) (S : St) : (fs_C0 A S)[30]? = some (.int (S.1 0 30)) := rfl
theorem fs_C0_f31 (A : Nat → Nat) (S : St) : (fs_C0 A S)[31]? = some (.int (S.1 0 31)) := rfl
theorem fs_C0_f32 (A : Nat → Nat) (S : St) : (fs_C0 A S)[32]? = some (.ref (A 30)) := rfl
theorem fs_C0_f33 (A : Nat → Nat) (S : St) : (fs_C0 A S)[33]? = some (.ref (A 31)) := rfl
def fs_C4 (A : Nat → Nat) (S : St) : List Value := [.ref (A 0)]
theorem fs_C4_f0 (A : Nat → Nat) (S : St) : (fs_C4 A S)[0]? = some (.ref (A 0)) := rfl
def fs_C5 (A : Nat → Nat) (S : St) : List Value := [.ref (A 0), .ref (A 0), .ref (A 0)]
theorem fs_C5_f0 (A : Nat → Nat) (S : St) : (fs_C5 A S)[0]? = some (.ref (A 0)) := rfl
theorem fs_C5_f1 (A : Nat → Nat) (S : St) : (fs_C5 A S)[1]? = some (.ref (A 0)) := rfl
theorem fs_C5_f2 (A : Nat → Nat) (S : St) : (fs_C5 A S)[2]? = some (.ref (A 0)) := rfl
def fs_C6 (A : Nat → Nat) (S : St) : List Value := [.ref (A 0), .ref (A 0), .ref (A 0), .int (S.1 6 3), .ref (A 0)]
theorem fs_C6_f0 (A : Nat → Nat) (S : St) : (fs_C6 A S)[0]? = some (.ref (A 0)) := rfl
theorem fs_C6_f1 (A : Nat → Nat) (S : St) : (fs_C6 A S)[1]? = some (.ref (A 0)) := rfl
theorem fs_C6_f2 (A : Nat → Nat) (S : St) : (fs_C6 A S)[2]? = some (.ref (A 0)) := rfl
theorem fs_C6_f3 (A : Nat → Nat) (S : St) : (fs_C6 A S)[3]? = some (.int (S.1 6 3)) := rfl
theorem fs_C6_f4 (A : Nat → Nat) (S : St) : (fs_C6 A S)[4]? = some (.ref (A 0)) := rfl
def fs_C7 (A : Nat → Nat) (S : St) : List Value := [.ref (A 0), .ref (A 0), .int (S.1 7 2), .ref (A 0)]
theorem fs_C7_f0 (A : Nat → Nat) (S : St) : (fs_C7 A S)[0]? = some (.ref (A 0)) := rfl
theorem fs_C7_f1 (A : Nat → Nat) (S : St) : (fs_C7 A S)[1]? = some (.ref (A 0)) := rfl
theorem fs_C7_f2 (A : Nat → Nat) (S : St) : (fs_C7 A S)[2]? = some (.int (S.1 7 2)) := rfl
theorem fs_C7_f3 (A : Nat → Nat) (S : St) : (fs_C7 A S)[3]? = some (.ref (A 0)) := rfl
def fs_C15 (A : Nat → Nat) (S : St) : List Value := [.int (S.1 15 0), .int (S.1 15 1), .int (S.1 15 2), .int (S.1 15 3), .int (S.1 15 4), .int (S.1 15 5), .int (S.1 15 6), .int (S.1 15 7), .ref (A 16), .ref (A 17), .ref (A 18), .ref (A 19), .ref (A 20), .ref (A 21), .ref (A 22), .ref (A 23), .ref (A 24), .ref (A 25), .ref (A 26), .ref (A 27), .ref (A 28), .ref (A 29)]
theorem fs_C15_f0 (A : Nat → Nat) (S : St) : (fs_C15 A S)[0]? = some (.int (S.1 15 0)) := rfl
theorem fs_C15_f1 (A : Nat → Nat) (S : St) : (fs_C15 A S)[1]? = some (.int (S.1 15 1)) := rfl
theorem fs_C15_f2 (A : Nat → Nat) (S : St) : (fs_C15 A S)[2]? = some (.int (S.1 15 2)) := rfl
theorem fs_C15_f3 (A : Nat → Nat) (S : St) : (fs_C15 A S)[3]? = some (.int (S.1 15 3)) := rfl
theorem fs_C15_f4 (A : Nat → Nat) (S : St) : (fs_C15 A S)[4]? = some (.int (S.1 15 4)) := rfl
theorem fs_C15_f5 (A : Nat → Nat) (S : St) : (fs_C15 A S)[5]? = some (.int (S.1 15 5)) := rfl
theorem fs_C15_f6 (A : Nat → Nat) (S : St) : (fs_C15 A S)[6]? = some (.int (S.1 15 6)) := rfl
theorem fs_C15_f7 (A : Nat → Nat) (S : St) : (fs_C15 A S)[7]? = some (.int (S.1 15 7)) := rfl
theorem fs_C15_f8 (A : Nat → Nat) (S : St) : (fs_C15 A S)[8]? = some (.ref (A 16)) := rfl
theorem fs_C15_f9 (A : Nat → Nat) (S : St) : (fs_C15 A S)[9]? = some (.ref (A 17)) := rfl
theorem fs_C15_f10 (A : Nat → Nat) (S : St) : (fs_C15 A S)[10]? = some (.ref (A 18)) := rfl
theorem fs_C15_f11 (A : Nat → Nat) (S : St) : (fs_C15 A S)[11]? = some (.ref (A 19)) := rfl
theorem fs_C15_f12 (A : Nat → Nat) (S : St) : (fs_C15 A S)[12]? = some (.ref (A 20)) := rfl
theorem fs_C15_f13 (A : Nat → Nat) (S : St) : (fs_C15 A S)[13]? = some (.ref (A 21)) := rfl
theorem fs_C15_f14 (A : Nat → Nat) (S : St) : (fs_C15 A S)[14]? = some (.ref (A 22)) := rfl
theorem fs_C15_f15 (A : Nat → Nat) (S : St) : (fs_C15 A S)[15]? = some (.ref (A 23)) := rfl
theorem fs_C15_f16 (A : Nat → Nat) (S : St) : (fs_C15 A S)[16]? = some (.ref (A 24)) := rfl
theorem fs_C15_f17 (A : Nat → Nat) (S : St) : (fs_C15 A S)[17]? = some (.ref (A 25)) := rfl
theorem fs_C15_f18 (A : Nat → Nat) (S : St) : (fs_C15 A S)[18]? = some (.ref (A 26)) := rfl
theorem fs_C15_f19 (A : Nat → Nat) (S : St) : (fs_C15 A S)[19]? = some (.ref (A 27)) := rfl
theorem fs_C15_f20 (A : Nat → Nat) (S : St) : (fs_C15 A S)[20]? = some (.ref (A 28)) := rfl
theorem fs_C15_f21 (A : Nat → Nat) (S : St) : (fs_C15 A S)[21]? = some (.ref (A 29)) := rfl
def wC (G : Gx) (A : Nat → Nat) (S : St) : va_W := [(A 0, .inr (0, fs_C0 A S)), (A 1, .inl (G.2.2.1 1, 1200, .inl (S.1 1))), (A 2, .inl (G.2.2.1 0, 400, .inl (S.1 2))), (A 3, .inl (G.2.2.1 0, 400, .inl (S.1 3))), (A 4, .inr (2, fs_C4 A S)), (A 5, .inr (3, fs_C5 A S)), (A 6, .inr (4, fs_C6 A S)), (A 7, .inr (5, fs_C7 A S)), (A 8, .inl (G.2.2.1 0, 560, .inl (S.1 8))), (A 9, .inl (G.2.2.1 0, 12, .inl (S.1 9))), (A 10, .inl (G.2.2.1 0, 12, .inl (S.1 10))), (A 11, .inl (G.2.2.1 0, 12, .inl (S.1 11))), (A 12, .inl (G.2.2.1 1, 4374, .inl (S.1 12))), (A 13, .inl (G.2.2.1 0, 6, .inl (S.1 13))), (A 14, .inl (G.2.2.1 0, 2, .inl (S.1 14))), (A 15, .inr (1, fs_C15 A S)), (A 16, .inl (G.2.2.1 0, 2, .inl (S.1 16))), (A 17, .inl (G.2.2.1 0, 2, .inl (S.1 17))), (A 18, .inl (G.2.2.1 0, 24, .inl (S.1 18))), (A 19, .inl (G.2.2.1 0, 6, .inl (S.1 19))), (A 20, .inl (G.2.2.1 0, 8, .inl (S.1 20))), (A 21, .inl (G.2.2.1 0, 8, .inl (S.1 21))), (A 22, .inl (G.2.2.1 0, 8, .inl (S.1 22))), (A 23, .inl (G.2.2.1 0, 8, .inl (S.1 23))), (A 24, .inl (G.2.2.1 0, 12, .inl (S.1 24))), (A 25, .inl (G.2.2.1 0, 12, .inl (S.1 25))), (A 26, .inl (G.2.2.1 0, 5, .inl (S.1 26))), (A 27, .inl (G.2.2.1 0, 5, .inl (S.1 27))), (A 28, .inl (G.2.2.1 0, 40, .inl (S.1 28))), (A 29, .inl (G.2.2.1 2, 200, .inl (S.1 29)))]
theorem wC_0  (G : Gx) (A : Nat → Nat) (S : St) : (wC G A S)[0]? = some (A 0, .inr (0, fs_C0 A S)) := rfl
theorem wC_p0_2  (G : Gx) (A : Nat → Nat) (S : St) (v : Int32) : (wC G A S).set 0 (A 0, .inr (0, (fs_C0 A S).set 2 (.int v))) = wC G A (sI S 0 2 v) := rfl
theorem wC_p0_3  (G : Gx) (A : Nat → Nat) (S : St) (v : Int32) : (wC G A S).set 0 (A 0, .inr (0, (fs_C0 A S).set 3 (.int v))) = wC G A (sI S 0 3 v) := rfl
theorem wC_p0_4  (G : Gx) (A : Nat → Nat) (S : St) (v : Int32) : (wC G A S).set 0 (A 0, .inr (0, (fs_C0 A S).set 4 (.int v))) = wC G A (sI S 0 4 v) := rfl
theorem wC_p0_11  (G : Gx) (A : Nat → Nat) (S : St) (v : Int32) : (wC G A S).set 0 (A 0, .inr (0, (fs_C0 A S).set 11 (.int v))) = wC G A (sI S 0 11 v) := rfl
theorem wC_p0_12  (G : Gx) (A : Nat → Nat) (S : St) (v : Int32) : (wC G A S).set 0 (A 0, .inr (0, (fs_C0 A S).set 12 (.int v))) = wC G A (sI S 0 12 v) := rfl
theorem wC_p0_13  (G : Gx) (A : Nat → Nat) (S : St) (v : Int32) : (wC G A S).set 0 (A 0, .inr (0, (fs_C0 A S).set 13 (.int v))) = wC G A (sI S 0 13 v) := rfl
theorem wC_p0_14  (G : Gx) (A : Nat → Nat) (S : St) (v : Int32) : (wC G A S).set 0 (A 0, .inr (0, (fs_C0 A S).set 14 (.int v))) = wC G A (sI S 0 14 v) := rfl
theorem wC_p0_15  (G : Gx) (A : Nat → Nat) (S : St) (v : Int64) : (wC G A S).set 0 (A 0, .inr (0, (fs_C0 A S).set 15 (.long v))) = wC G A (sL S 0 15 v) := rfl
theorem wC_p0_17  (G : Gx) (A : Nat → Nat) (S : St) (v : Int32) : (wC G A S).set 0 (A 0, .inr (0, (fs_C0 A S).set 17 (.int v))) = wC G A (sI S 0 17 v) := rfl
theorem wC_p0_20  (G : Gx) (A : Nat → Nat) (S : St) (v : Int32) : (wC G A S).set 0 (A 0, .inr (0, (fs_C0 A S).set 20 (.int v))) = wC G A (sI S 0 20 v) := rfl
theorem wC_p0_22  (G : Gx) (A : Nat → Nat) (S : St) (v : Int64) : (wC G A S).set 0 (A 0, .inr (0, (fs_C0 A S).set 22 (.long v))) = wC G A (sL S 0 22 v) := rfl
theorem wC_p0_23  (G : Gx) (A : Nat → Nat) (S : St) (v : Int64) : (wC G A S).set 0 (A 0, .inr (0, (fs_C0 A S).set 23 (.long v))) = wC G A (sL S 0 23 v) := rfl
theorem wC_p0_26  (G : Gx) (A : Nat → Nat) (S : St) (v : Int64) : (wC G A S).set 0 (A 0, .inr (0, (fs_C0 A S).set 26 (.long v))) = wC G A (sL S 0 26 v) := rfl
theorem wC_p0_28  (G : Gx) (A : Nat → Nat) (S : St) (v : Int32) : (wC G A S).set 0 (A 0, .inr (0, (fs_C0 A S).set 28 (.int v))) = wC G A (sI S 0 28 v) := rfl
theorem wC_p0_29  (G : Gx) (A : Nat → Nat) (S : St) (v : Int32) : (wC G A S).set 0 (A 0, .inr (0, (fs_C0 A S).set 29 (.int v))) = wC G A (sI S 0 29 v) := rfl
theorem wC_p0_30  (G : Gx) (A : Nat → Nat) (S : St) (v : Int32) : (wC G A S).set 0 (A 0, .inr (0, (fs_C0 A S).set 30 (.int v))) = wC G A (sI S 0 30 v) := rfl
theorem wC_p0_31  (G : Gx) (A : Nat → Nat) (S : St) (v : Int32) : (wC G A S).set 0 (A 0, .inr (0, (fs_C0 A S).set 31 (.int v))) = wC G A (sI S 0 31 v) := rfl
theorem wC_1  (G : Gx) (A : Nat → Nat) (S : St) : (wC G A S)[1]? = some (A 1, .inl (G.2.2.1 1, 1200, .inl (S.1 1))) := rfl
theorem wC_s1  (G : Gx) (A : Nat → Nat) (S : St) (k : Nat) (v : Int32) : (wC G A S).set 1 (A 1, .inl (G.2.2.1 1, 1200, .inl (upd (S.1 1) k v))) = wC G A (sI S 1 k v) := rfl
theorem wC_2  (G : Gx) (A : Nat → Nat) (S : St) : (wC G A S)[2]? = some (A 2, .inl (G.2.2.1 0, 400, .inl (S.1 2))) := rfl
theorem wC_c2  (G : Gx) (A : Nat → Nat) (S : St) (f : Nat → Int32) : (wC G A S).set 2 (A 2, .inl (G.2.2.1 0, 400, .inl f)) = wC G A (sC S 2 f) := rfl
theorem wC_s2  (G : Gx) (A : Nat → Nat) (S : St) (k : Nat) (v : Int32) : (wC G A S).set 2 (A 2, .inl (G.2.2.1 0, 400, .inl (upd (S.1 2) k v))) = wC G A (sI S 2 k v) := rfl
theorem wC_3  (G : Gx) (A : Nat → Nat) (S : St) : (wC G A S)[3]? = some (A 3, .inl (G.2.2.1 0, 400, .inl (S.1 3))) := rfl
theorem wC_c3  (G : Gx) (A : Nat → Nat) (S : St) (f : Nat → Int32) : (wC G A S).set 3 (A 3, .inl (G.2.2.1 0, 400, .inl f)) = wC G A (sC S 3 f) := rfl
theorem wC_s3  (G : Gx) (A : Nat → Nat) (S : St) (k : Nat) (v : Int32) : (wC G A S).set 3 (A 3, .inl (G.2.2.1 0, 400, .inl (upd (S.1 3) k v))) = wC G A (sI S 3 k v) := rfl
theorem wC_4  (G : Gx) (A : Nat → Nat) (S : St) : (wC G A S)[4]? = some (A 4, .inr (2, fs_C4 A S)) := rfl
theorem wC_5  (G : Gx) (A : Nat → Nat) (S : St) : (wC G A S)[5]? = some (A 5, .inr (3, fs_C5 A S)) := rfl
theorem wC_6  (G : Gx) (A : Nat → Nat) (S : St) : (wC G A S)[6]? = some (A 6, .inr (4, fs_C6 A S)) := rfl
theorem wC_p6_3  (G : Gx) (A : Nat → Nat) (S : St) (v : Int32) : (wC G A S).set 6 (A 6, .inr (4, (fs_C6 A S).set 3 (.int v))) = wC G A (sI S 6 3 v) := rfl
theorem wC_7  (G : Gx) (A : Nat → Nat) (S : St) : (wC G A S)[7]? = some (A 7, .inr (5, fs_C7 A S)) := rfl
theorem wC_p7_2  (G : Gx) (A : Nat → Nat) (S : St) (v : Int32) : (wC G A S).set 7 (A 7, .inr (5, (fs_C7 A S).set 2 (.int v))) = wC G A (sI S 7 2 v) := rfl
theorem wC_8  (G : Gx) (A : Nat → Nat) (S : St) : (wC G A S)[8]? = some (A 8, .inl (G.2.2.1 0, 560, .inl (S.1 8))) := rfl
theorem wC_c8  (G : Gx) (A : Nat → Nat) (S : St) (f : Nat → Int32) : (wC G A S).set 8 (A 8, .inl (G.2.2.1 0, 560, .inl f)) = wC G A (sC S 8 f) := rfl
theorem wC_s8  (G : Gx) (A : Nat → Nat) (S : St) (k : Nat) (v : Int32) : (wC G A S).set 8 (A 8, .inl (G.2.2.1 0, 560, .inl (upd (S.1 8) k v))) = wC G A (sI S 8 k v) := rfl
theorem wC_9  (G : Gx) (A : Nat → Nat) (S : St) : (wC G A S)[9]? = some (A 9, .inl (G.2.2.1 0, 12, .inl (S.1 9))) := rfl
theorem wC_c9  (G : Gx) (A : Nat → Nat) (S : St) (f : Nat → Int32) : (wC G A S).set 9 (A 9, .inl (G.2.2.1 0, 12, .inl f)) = wC G A (sC S 9 f) := rfl
theorem wC_s9  (G : Gx) (A : Nat → Nat) (S : St) (k : Nat) (v : Int32) : (wC G A S).set 9 (A 9, .inl (G.2.2.1 0, 12, .inl (upd (S.1 9) k v))) = wC G A (sI S 9 k v) := rfl
theorem wC_10  (G : Gx) (A : Nat → Nat) (S : St) : (wC G A S)[10]? = some (A 10, .inl (G.2.2.1 0, 12, .inl (S.1 10))) := rfl
theorem wC_c10  (G : Gx) (A : Nat → Nat) (S : St) (f : Nat → Int32) : (wC G A S).set 10 (A 10, .inl (G.2.2.1 0, 12, .inl f)) = wC G A (sC S 10 f) := rfl
theorem wC_s10  (G : Gx) (A : Nat → Nat) (S : St) (k : Nat) (v : Int32) : (wC G A S).set 10 (A 10, .inl (G.2.2.1 0, 12, .inl (upd (S.1 10) k v))) = wC G A (sI S 10 k v) := rfl
theorem wC_11  (G : Gx) (A : Nat → Nat) (S : St) : (wC G A S)[11]? = some (A 11, .inl (G.2.2.1 0, 12, .inl (S.1 11))) := rfl
theorem wC_c11  (G : Gx) (A : Nat → Nat) (S : St) (f : Nat → Int32) : (wC G A S).set 11 (A 11, .inl (G.2.2.1 0, 12, .inl f)) = wC G A (sC S 11 f) := rfl
theorem wC_s11  (G : Gx) (A : Nat → Nat) (S : St) (k : Nat) (v : Int32) : (wC G A S).set 11 (A 11, .inl (G.2.2.1 0, 12, .inl (upd (S.1 11) k v))) = wC G A (sI S 11 k v) := rfl
theorem wC_12  (G : Gx) (A : Nat → Nat) (S : St) : (wC G A S)[12]? = some (A 12, .inl (G.2.2.1 1, 4374, .inl (S.1 12))) := rfl
theorem wC_s12  (G : Gx) (A : Nat → Nat) (S : St) (k : Nat) (v : Int32) : (wC G A S).set 12 (A 12, .inl (G.2.2.1 1, 4374, .inl (upd (S.1 12) k v))) = wC G A (sI S 12 k v) := rfl
theorem wC_13  (G : Gx) (A : Nat → Nat) (S : St) : (wC G A S)[13]? = some (A 13, .inl (G.2.2.1 0, 6, .inl (S.1 13))) := rfl
theorem wC_c13  (G : Gx) (A : Nat → Nat) (S : St) (f : Nat → Int32) : (wC G A S).set 13 (A 13, .inl (G.2.2.1 0, 6, .inl f)) = wC G A (sC S 13 f) := rfl
theorem wC_s13  (G : Gx) (A : Nat → Nat) (S : St) (k : Nat) (v : Int32) : (wC G A S).set 13 (A 13, .inl (G.2.2.1 0, 6, .inl (upd (S.1 13) k v))) = wC G A (sI S 13 k v) := rfl
theorem wC_14  (G : Gx) (A : Nat → Nat) (S : St) : (wC G A S)[14]? = some (A 14, .inl (G.2.2.1 0, 2, .inl (S.1 14))) := rfl
theorem wC_c14  (G : Gx) (A : Nat → Nat) (S : St) (f : Nat → Int32) : (wC G A S).set 14 (A 14, .inl (G.2.2.1 0, 2, .inl f)) = wC G A (sC S 14 f) := rfl
theorem wC_s14  (G : Gx) (A : Nat → Nat) (S : St) (k : Nat) (v : Int32) : (wC G A S).set 14 (A 14, .inl (G.2.2.1 0, 2, .inl (upd (S.1 14) k v))) = wC G A (sI S 14 k v) := rfl
theorem wC_15  (G : Gx) (A : Nat → Nat) (S : St) : (wC G A S)[15]? = some (A 15, .inr (1, fs_C15 A S)) := rfl
theorem wC_p15_0  (G : Gx) (A : Nat → Nat) (S : St) (v : Int32) : (wC G A S).set 15 (A 15, .inr (1, (fs_C15 A S).set 0 (.int v))) = wC G A (sI S 15 0 v) := rfl
theorem wC_p15_1  (G : Gx) (A : Nat → Nat) (S : St) (v : Int32) : (wC G A S).set 15 (A 15, .inr (1, (fs_C15 A S).set 1 (.int v))) = wC G A (sI S 15 1 v) := rfl
theorem wC_p15_2  (G : Gx) (A : Nat → Nat) (S : St) (v : Int32) : (wC G A S).set 15 (A 15, .inr (1, (fs_C15 A S).set 2 (.int v))) = wC G A (sI S 15 2 v) := rfl
theorem wC_p15_3  (G : Gx) (A : Nat → Nat) (S : St) (v : Int32) : (wC G A S).set 15 (A 15, .inr (1, (fs_C15 A S).set 3 (.int v))) = wC G A (sI S 15 3 v) := rfl
theorem wC_p15_4  (G : Gx) (A : Nat → Nat) (S : St) (v : Int32) : (wC G A S).set 15 (A 15, .inr (1, (fs_C15 A S).set 4 (.int v))) = wC G A (sI S 15 4 v) := rfl
theorem wC_p15_5  (G : Gx) (A : Nat → Nat) (S : St) (v : Int32) : (wC G A S).set 15 (A 15, .inr (1, (fs_C15 A S).set 5 (.int v))) = wC G A (sI S 15 5 v) := rfl
theorem wC_p15_6  (G : Gx) (A : Nat → Nat) (S : St) (v : Int32) : (wC G A S).set 15 (A 15, .inr (1, (fs_C15 A S).set 6 (.int v))) = wC G A (sI S 15 6 v) := rfl
theorem wC_p15_7  (G : Gx) (A : Nat → Nat) (S : St) (v : Int32) : (wC G A S).set 15 (A 15, .inr (1, (fs_C15 A S).set 7 (.int v))) = wC G A (sI S 15 7 v) := rfl
theorem wC_16  (G : Gx) (A : Nat → Nat) (S : St) : (wC G A S)[16]? = some (A 16, .inl (G.2.2.1 0, 2, .inl (S.1 16))) := rfl
theorem wC_c16  (G : Gx) (A : Nat → Nat) (S : St) (f : Nat → Int32) : (wC G A S).set 16 (A 16, .inl (G.2.2.1 0, 2, .inl f)) = wC G A (sC S 16 f) := rfl
theorem wC_s16  (G : Gx) (A : Nat → Nat) (S : St) (k : Nat) (v : Int32) : (wC G A S).set 16 (A 16, .inl (G.2.2.1 0, 2, .inl (upd (S.1 16) k v))) = wC G A (sI S 16 k v) := rfl
theorem wC_17  (G : Gx) (A : Nat → Nat) (S : St) : (wC G A S)[17]? = some (A 17, .inl (G.2.2.1 0, 2, .inl (S.1 17))) := rfl
theorem wC_c17  (G : Gx) (A : Nat → Nat) (S : St) (f : Nat → Int32) : (wC G A S).set 17 (A 17, .inl (G.2.2.1 0, 2, .inl f)) = wC G A (sC S 17 f) := rfl
theorem wC_s17  (G : Gx) (A : Nat → Nat) (S : St) (k : Nat) (v : Int32) : (wC G A S).set 17 (A 17, .inl (G.2.2.1 0, 2, .inl (upd (S.1 17) k v))) = wC G A (sI S 17 k v) := rfl
theorem wC_18  (G : Gx) (A : Nat → Nat) (S : St) : (wC G A S)[18]? = some (A 18, .inl (G.2.2.1 0, 24, .inl (S.1 18))) := rfl
theorem wC_c18  (G : Gx) (A : Nat → Nat) (S : St) (f : Nat → Int32) : (wC G A S).set 18 (A 18, .inl (G.2.2.1 0, 24, .inl f)) = wC G A (sC S 18 f) := rfl
theorem wC_s18  (G : Gx) (A : Nat → Nat) (S : St) (k : Nat) (v : Int32) : (wC G A S).set 18 (A 18, .inl (G.2.2.1 0, 24, .inl (upd (S.1 18) k v))) = wC G A (sI S 18 k v) := rfl
theorem wC_19  (G : Gx) (A : Nat → Nat) (S : St) : (wC G A S)[19]? = some (A 19, .inl (G.2.2.1 0, 6, .inl (S.1 19))) := rfl
theorem wC_c19  (G : Gx) (A : Nat → Nat) (S : St) (f : Nat → Int32) : (wC G A S).set 19 (A 19, .inl (G.2.2.1 0, 6, .inl f)) = wC G A (sC S 19 f) := rfl
theorem wC_s19  (G : Gx) (A : Nat → Nat) (S : St) (k : Nat) (v : Int32) : (wC G A S).set 19 (A 19, .inl (G.2.2.1 0, 6, .inl (upd (S.1 19) k v))) = wC G A (sI S 19 k v) := rfl
theorem wC_20  (G : Gx) (A : Nat → Nat) (S : St) : (wC G A S)[20]? = some (A 20, .inl (G.2.2.1 0, 8, .inl (S.1 20))) := rfl
theorem wC_c20  (G : Gx) (A : Nat → Nat) (S : St) (f : Nat → Int32) : (wC G A S).set 20 (A 20, .inl (G.2.2.1 0, 8, .inl f)) = wC G A (sC S 20 f) := rfl
theorem wC_s20  (G : Gx) (A : Nat → Nat) (S : St) (k : Nat) (v : Int32) : (wC G A S).set 20 (A 20, .inl (G.2.2.1 0, 8, .inl (upd (S.1 20) k v))) = wC G A (sI S 20 k v) := rfl
theorem wC_21  (G : Gx) (A : Nat → Nat) (S : St) : (wC G A S)[21]? = some (A 21, .inl (G.2.2.1 0, 8, .inl (S.1 21))) := rfl
theorem wC_c21  (G : Gx) (A : Nat → Nat) (S : St) (f : Nat → Int32) : (wC G A S).set 21 (A 21, .inl (G.2.2.1 0, 8, .inl f)) = wC G A (sC S 21 f) := rfl
theorem wC_s21  (G : Gx) (A : Nat → Nat) (S : St) (k : Nat) (v : Int32) : (wC G A S).set 21 (A 21, .inl (G.2.2.1 0, 8, .inl (upd (S.1 21) k v))) = wC G A (sI S 21 k v) := rfl
theorem wC_22  (G : Gx) (A : Nat → Nat) (S : St) : (wC G A S)[22]? = some (A 22, .inl (G.2.2.1 0, 8, .inl (S.1 22))) := rfl
theorem wC_c22  (G : Gx) (A : Nat → Nat) (S : St) (f : Nat → Int32) : (wC G A S).set 22 (A 22, .inl (G.2.2.1 0, 8, .inl f)) = wC G A (sC S 22 f) := rfl
theorem wC_s22  (G : Gx) (A : Nat → Nat) (S : St) (k : Nat) (v : Int32) : (wC G A S).set 22 (A 22, .inl (G.2.2.1 0, 8, .inl (upd (S.1 22) k v))) = wC G A (sI S 22 k v) := rfl
theorem wC_23  (G : Gx) (A : Nat → Nat) (S : St) : (wC G A S)[23]? = some (A 23, .inl (G.2.2.1 0, 8, .inl (S.1 23))) := rfl
theorem wC_c23  (G : Gx) (A : Nat → Nat) (S : St) (f : Nat → Int32) : (wC G A S).set 23 (A 23, .inl (G.2.2.1 0, 8, .inl f)) = wC G A (sC S 23 f) := rfl
theorem wC_s23  (G : Gx) (A : Nat → Nat) (S : St) (k : Nat) (v : Int32) : (wC G A S).set 23 (A 23, .inl (G.2.2.1 0, 8, .inl (upd (S.1 23) k v))) = wC G A (sI S 23 k v) := rfl
theorem wC_24  (G : Gx) (A : Nat → Nat) (S : St) : (wC G A S)[24]? = some (A 24, .inl (G.2.2.1 0, 12, .inl (S.1 24))) := rfl
theorem wC_c24  (G : Gx) (A : Nat → Nat) (S : St) (f : Nat → Int32) : (wC G A S).set 24 (A 24, .inl (G.2.2.1 0, 12, .inl f)) = wC G A (sC S 24 f) := rfl
theorem wC_s24  (G : Gx) (A : Nat → Nat) (S : St) (k : Nat) (v : Int32) : (wC G A S).set 24 (A 24, .inl (G.2.2.1 0, 12, .inl (upd (S.1 24) k v))) = wC G A (sI S 24 k v) := rfl
theorem wC_25  (G : Gx) (A : Nat → Nat) (S : St) : (wC G A S)[25]? = some (A 25, .inl (G.2.2.1 0, 12, .inl (S.1 25))) := rfl
theorem wC_c25  (G : Gx) (A : Nat → Nat) (S : St) (f : Nat → Int32) : (wC G A S).set 25 (A 25, .inl (G.2.2.1 0, 12, .inl f)) = wC G A (sC S 25 f) := rfl
theorem wC_s25  (G : Gx) (A : Nat → Nat) (S : St) (k : Nat) (v : Int32) : (wC G A S).set 25 (A 25, .inl (G.2.2.1 0, 12, .inl (upd (S.1 25) k v))) = wC G A (sI S 25 k v) := rfl
theorem wC_26  (G : Gx) (A : Nat → Nat) (S : St) : (wC G A S)[26]? = some (A 26, .inl (G.2.2.1 0, 5, .inl (S.1 26))) := rfl
theorem wC_c26  (G : Gx) (A : Nat → Nat) (S : St) (f : Nat → Int32) : (wC G A S).set 26 (A 26, .inl (G.2.2.1 0, 5, .inl f)) = wC G A (sC S 26 f) := rfl
theorem wC_s26  (G : Gx) (A : Nat → Nat) (S : St) (k : Nat) (v : Int32) : (wC G A S).set 26 (A 26, .inl (G.2.2.1 0, 5, .inl (upd (S.1 26) k v))) = wC G A (sI S 26 k v) := rfl
theorem wC_27  (G : Gx) (A : Nat → Nat) (S : St) : (wC G A S)[27]? = some (A 27, .inl (G.2.2.1 0, 5, .inl (S.1 27))) := rfl
theorem wC_c27  (G : Gx) (A : Nat → Nat) (S : St) (f : Nat → Int32) : (wC G A S).set 27 (A 27, .inl (G.2.2.1 0, 5, .inl f)) = wC G A (sC S 27 f) := rfl
theorem wC_s27  (G : Gx) (A : Nat → Nat) (S : St) (k : Nat) (v : Int32) : (wC G A S).set 27 (A 27, .inl (G.2.2.1 0, 5, .inl (upd (S.1 27) k v))) = wC G A (sI S 27 k v) := rfl
theorem wC_28  (G : Gx) (A : Nat → Nat) (S : St) : (wC G A S)[28]? = some (A 28, .inl (G.2.2.1 0, 40, .inl (S.1 28))) := rfl
theorem wC_c28  (G : Gx) (A : Nat → Nat) (S : St) (f : Nat → Int32) : (wC G A S).set 28 (A 28, .inl (G.2.2.1 0, 40, .inl f)) = wC G A (sC S 28 f) := rfl
theorem wC_s28  (G : Gx) (A : Nat → Nat) (S : St) (k : Nat) (v : Int32) : (wC G A S).set 28 (A 28, .inl (G.2.2.1 0, 40, .inl (upd (S.1 28) k v))) = wC G A (sI S 28 k v) := rfl
theorem wC_29  (G : Gx) (A : Nat → Nat) (S : St) : (wC G A S)[29]? = some (A 29, .inl (G.2.2.1 2, 200, .inl (S.1 29))) := rfl
theorem wC_s29  (G : Gx) (A : Nat → Nat) (S : St) (k : Nat) (v : Int32) : (wC G A S).set 29 (A 29, .inl (G.2.2.1 2, 200, .inl (upd (S.1 29) k v))) = wC G A (sI S 29 k v) := rfl
def fs_D15 (A : Nat → Nat) (S : St) : List Value := [.int (S.1 15 0), .int (S.1 15 1), .int (S.1 15 2), .int (S.1 15 3), .int (S.1 15 4), .int (S.1 15 5), .int (S.1 15 6), .int (S.1 15 7), .ref (A 16), .ref (A 17), .ref (A 18), .ref (A 19), .ref (A 20), .ref (A 21), .ref (A 22), .ref (A 23), .ref (A 24), .ref (A 25), .ref (A 26), .ref (A 27), .ref (A 28), .ref (A 29)]
theorem fs_D15_f0 (A : Nat → Nat) (S : St) : (fs_D15 A S)[0]? = some (.int (S.1 15 0)) := rfl
theorem fs_D15_f1 (A : Nat → Nat) (S : St) : (fs_D15 A S)[1]? = some (.int (S.1 15 1)) := rfl
theorem fs_D15_f2 (A : Nat → Nat) (S : St) : (fs_D15 A S)[2]? = some (.int (S.1 15 2)) := rfl
theorem fs_D15_f3 (A : Nat → Nat) (S : St) : (fs_D15 A S)[3]? = some (.int (S.1 15 3)) := rfl
theorem fs_D15_f4 (A : Nat → Nat) (S : St) : (fs_D15 A S)[4]? = some (.int (S.1 15 4)) := rfl
theorem fs_D15_f5 (A : Nat → Nat) (S : St) : (fs_D15 A S)[5]? = some (.int (S.1 15 5)) := rfl
theorem fs_D15_f6 (A : Nat → Nat) (S : St) : (fs_D15 A S)[6]? = some (.int (S.1 15 6)) := rfl
theorem fs_D15_f7 (A : Nat → Nat) (S : St) : (fs_D15 A S)[7]? = some (.int (S.1 15 7)) := rfl
theorem fs_D15_f8 (A : Nat → Nat) (S : St) : (fs_D15 A S)[8]? = some (.ref (A 16)) := rfl
theorem fs_D15_f9 (A : Nat → Nat) (S : St) : (fs_D15 A S)[9]? = some (.ref (A 17)) := rfl
theorem fs_D15_f10 (A : Nat → Nat) (S : St) : (fs_D15 A S)[10]? = some (.ref (A 18)) := rfl
theorem fs_D15_f11 (A : Nat → Nat) (S : St) : (fs_D15 A S)[11]? = some (.ref (A 19)) := rfl
theorem fs_D15_f12 (A : Nat → Nat) (S : St) : (fs_D15 A S)[12]? = some (.ref (A 20)) := rfl
theorem fs_D15_f13 (A : Nat → Nat) (S : St) : (fs_D15 A S)[13]? = some (.ref (A 21)) := rfl
theorem fs_D15_f14 (A : Nat → Nat) (S : St) : (fs_D15 A S)[14]? = some (.ref (A 22)) := rfl
theorem fs_D15_f15 (A : Nat → Nat) (S : St) : (fs_D15 A S)[15]? = some (.ref (A 23)) := rfl
theorem fs_D15_f16 (A : Nat → Nat) (S : St) : (fs_D15 A S)[16]? = some (.ref (A 24)) := rfl
theorem fs_D15_f17 (A : Nat → Nat) (S : St) : (fs_D15 A S)[17]? = some (.ref (A 25)) := rfl
theorem fs_D15_f18 (A : Nat → Nat) (S : St) : (fs_D15 A S)[18]? = some (.ref (A 26)) := rfl
theorem fs_D15_f19 (A : Nat → Nat) (S : St) : (fs_D15 A S)[19]? = some (.ref (A 27)) := rfl
theorem fs_D15_f20 (A : Nat → Nat) (S : St) : (fs_D15 A S)[20]? = some (.ref (A 28)) := rfl
theorem fs_D15_f21 (A : Nat → Nat) (S : St) : (fs_D15 A S)[21]? = some (.ref (A 29)) := rfl
def wD (G : Gx) (A : Nat → Nat) (S : St) : va_W := [(A 15, .inr (1, fs_D15 A S)), (A 16, .inl (G.2.2.1 0, 2, .inl (S.1 16))), (A 17, .inl (G.2.2.1 0, 2, .inl (S.1 17))), (A 18, .inl (G.2.2.1 0, 24, .inl (S.1 18))), (A 19, .inl (G.2.2.1 0, 6, .inl (S.1 19))), (A 20, .inl (G.2.2.1 0, 8, .inl (S.1 20))), (A 21, .inl (G.2.2.1 0, 8, .inl (S.1 21))), (A 22, .inl (G.2.2.1 0, 8, .inl (S.1 22))), (A 23, .inl (G.2.2.1 0, 8, .inl (S.1 23))), (A 24, .inl (G.2.2.1 0, 12, .inl (S.1 24))), (A 25, .inl (G.2.2.1 0, 12, .inl (S.1 25))), (A 26, .inl (G.2.2.1 0, 5, .inl (S.1 26))), (A 27, .inl (G.2.2.1 0, 5, .inl (S.1 27))), (A 28, .inl (G.2.2.1 0, 40, .inl (S.1 28))), (A 29, .inl (G.2.2.1 2, 200, .inl (S.1 29)))]
theorem wD_15  (G : Gx) (A : Nat → Nat) (S : St) : (wD G A S)[0]? = some (A 15, .inr (1, fs_D15 A S)) := rfl
theorem wD_p15_0  (G : Gx) (A : Nat → Nat) (S : St) (v : Int32) : (wD G A S).set 0 (A 15, .inr (1, (fs_D15 A S).set 0 (.int v))) = wD G A (sI S 15 0 v) := rfl
theorem wD_p15_1  (G : Gx) (A : Nat → Nat) (S : St) (v : Int32) : (wD G A S).set 0 (A 15, .inr (1, (fs_D15 A S).set 1 (.int v))) = wD G A (sI S 15 1 v) := rfl
theorem wD_p15_2  (G : Gx) (A : Nat → Nat) (S : St) (v : Int32) : (wD G A S).set 0 (A 15, .inr (1, (fs_D15 A S).set 2 (.int v))) = wD G A (sI S 15 2 v) := rfl
theorem wD_p15_3  (G : Gx) (A : Nat → Nat) (S : St) (v : Int32) : (wD G A S).set 0 (A 15, .inr (1, (fs_D15 A S).set 3 (.int v))) = wD G A (sI S 15 3 v) := rfl
theorem wD_p15_4  (G : Gx) (A : Nat → Nat) (S : St) (v : Int32) : (wD G A S).set 0 (A 15, .inr (1, (fs_D15 A S).set 4 (.int v))) = wD G A (sI S 15 4 v) := rfl
theorem wD_p15_5  (G : Gx) (A : Nat → Nat) (S : St) (v : Int32) : (wD G A S).set 0 (A 15, .inr (1, (fs_D15 A S).set 5 (.int v))) = wD G A (sI S 15 5 v) := rfl
theorem wD_p15_6  (G : Gx) (A : Nat → Nat) (S : St) (v : Int32) : (wD G A S).set 0 (A 15, .inr (1, (fs_D15 A S).set 6 (.int v))) = wD G A (sI S 15 6 v) := rfl
theorem wD_p15_7  (G : Gx) (A : Nat → Nat) (S : St) (v : Int32) : (wD G A S).set 0 (A 15, .inr (1, (fs_D15 A S).set 7 (.int v))) = wD G A (sI S 15 7 v) := rfl
theorem wD_16  (G : Gx) (A : Nat → Nat) (S : St) : (wD G A S)[1]? = some (A 16, .inl (G.2.2.1 0, 2, .inl (S.1 16))) := rfl
theorem wD_c16  (G : Gx) (A : Nat → Nat) (S : St) (f : Nat → Int32) : (wD G A S).set 1 (A 16, .inl (G.2.2.1 0, 2, .inl f)) = wD G A (sC S 16 f) := rfl
theorem wD_s16  (G : Gx) (A : Nat → Nat) (S : St) (k : Nat) (v : Int32) : (wD G A S).set 1 (A 16, .inl (G.2.2.1 0, 2, .inl (upd (S.1 16) k v))) = wD G A (sI S 16 k v) := rfl
theorem wD_17  (G : Gx) (A : Nat → Nat) (S : St) : (wD G A S)[2]? = some (A 17, .inl (G.2.2.1 0, 2, .inl (S.1 17))) := rfl
theorem wD_c17  (G : Gx) (A : Nat → Nat) (S : St) (f : Nat → Int32) : (wD G A S).set 2 (A 17, .inl (G.2.2.1 0, 2, .inl f)) = wD G A (sC S 17 f) := rfl
theorem wD_s17  (G : Gx) (A : Nat → Nat) (S : St) (k : Nat) (v : Int32) : (wD G A S).set 2 (A 17, .inl (G.2.2.1 0, 2, .inl (upd (S.1 17) k v))) = wD G A (sI S 17 k v) := rfl
theorem wD_18  (G : Gx) (A : Nat → Nat) (S : St) : (wD G A S)[3]? = some (A 18, .inl (G.2.2.1 0, 24, .inl (S.1 18))) := rfl
theorem wD_c18  (G : Gx) (A : Nat → Nat) (S : St) (f : Nat → Int32) : (wD G A S).set 3 (A 18, .inl (G.2.2.1 0, 24, .inl f)) = wD G A (sC S 18 f) := rfl
theorem wD_s18  (G : Gx) (A : Nat → Nat) (S : St) (k : Nat) (v : Int32) : (wD G A S).set 3 (A 18, .inl (G.2.2.1 0, 24, .inl (upd (S.1 18) k v))) = wD G A (sI S 18 k v) := rfl
theorem wD_19  (G : Gx) (A : Nat → Nat) (S : St) : (wD G A S)[4]? = some (A 19, .inl (G.2.2.1 0, 6, .inl (S.1 19))) := rfl
theorem wD_c19  (G : Gx) (A : Nat → Nat) (S : St) (f : Nat → Int32) : (wD G A S).set 4 (A 19, .inl (G.2.2.1 0, 6, .inl f)) = wD G A (sC S 19 f) := rfl
theorem wD_s19  (G : Gx) (A : Nat → Nat) (S : St) (k : Nat) (v : Int32) : (wD G A S).set 4 (A 19, .inl (G.2.2.1 0, 6, .inl (upd (S.1 19) k v))) = wD G A (sI S 19 k v) := rfl
theorem wD_20  (G : Gx) (A : Nat → Nat) (S : St) : (wD G A S)[5]? = some (A 20, .inl (G.2.2.1 0, 8, .inl (S.1 20))) := rfl
theorem wD_c20  (G : Gx) (A : Nat → Nat) (S : St) (f : Nat → Int32) : (wD G A S).set 5 (A 20, .inl (G.2.2.1 0, 8, .inl f)) = wD G A (sC S 20 f) := rfl
theorem wD_s20  (G : Gx) (A : Nat → Nat) (S : St) (k : Nat) (v : Int32) : (wD G A S).set 5 (A 20, .inl (G.2.2.1 0, 8, .inl (upd (S.1 20) k v))) = wD G A (sI S 20 k v) := rfl
theorem wD_21  (G : Gx) (A : Nat → Nat) (S : St) : (wD G A S)[6]? = some (A 21, .inl (G.2.2.1 0, 8, .inl (S.1 21))) := rfl
theorem wD_c21  (G : Gx) (A : Nat → Nat) (S : St) (f : Nat → Int32) : (wD G A S).set 6 (A 21, .inl (G.2.2.1 0, 8, .inl f)) = wD G A (sC S 21 f) := rfl
theorem wD_s21  (G : Gx) (A : Nat → Nat) (S : St) (k : Nat) (v : Int32) : (wD G A S).set 6 (A 21, .inl (G.2.2.1 0, 8, .inl (upd (S.1 21) k v))) = wD G A (sI S 21 k v) := rfl
theorem wD_22  (G : Gx) (A : Nat → Nat) (S : St) : (wD G A S)[7]? = some (A 22, .inl (G.2.2.1 0, 8, .inl (S.1 22))) := rfl
theorem wD_c22  (G : Gx) (A : Nat → Nat) (S : St) (f : Nat → Int32) : (wD G A S).set 7 (A 22, .inl (G.2.2.1 0, 8, .inl f)) = wD G A (sC S 22 f) := rfl
theorem wD_s22  (G : Gx) (A : Nat → Nat) (S : St) (k : Nat) (v : Int32) : (wD G A S).set 7 (A 22, .inl (G.2.2.1 0, 8, .inl (upd (S.1 22) k v))) = wD G A (sI S 22 k v) := rfl
theorem wD_23  (G : Gx) (A : Nat → Nat) (S : St) : (wD G A S)[8]? = some (A 23, .inl (G.2.2.1 0, 8, .inl (S.1 23))) := rfl
theorem wD_c23  (G : Gx) (A : Nat → Nat) (S : St) (f : Nat → Int32) : (wD G A S).set 8 (A 23, .inl (G.2.2.1 0, 8, .inl f)) = wD G A (sC S 23 f) := rfl
theorem wD_s23  (G : Gx) (A : Nat → Nat) (S : St) (k : Nat) (v : Int32) : (wD G A S).set 8 (A 23, .inl (G.2.2.1 0, 8, .inl (upd (S.1 23) k v))) = wD G A (sI S 23 k v) := rfl
theorem wD_24  (G : Gx) (A : Nat → Nat) (S : St) : (wD G A S)[9]? = some (A 24, .inl (G.2.2.1 0, 12, .inl (S.1 24))) := rfl
theorem wD_c24  (G : Gx) (A : Nat → Nat) (S : St) (f : Nat → Int32) : (wD G A S).set 9 (A 24, .inl (G.2.2.1 0, 12, .inl f)) = wD G A (sC S 24 f) := rfl
theorem wD_s24  (G : Gx) (A : Nat → Nat) (S : St) (k : Nat) (v : Int32) : (wD G A S).set 9 (A 24, .inl (G.2.2.1 0, 12, .inl (upd (S.1 24) k v))) = wD G A (sI S 24 k v) := rfl
theorem wD_25  (G : Gx) (A : Nat → Nat) (S : St) : (wD G A S)[10]? = some (A 25, .inl (G.2.2.1 0, 12, .inl (S.1 25))) := rfl
theorem wD_c25  (G : Gx) (A : Nat → Nat) (S : St) (f : Nat → Int32) : (wD G A S).set 10 (A 25, .inl (G.2.2.1 0, 12, .inl f)) = wD G A (sC S 25 f) := rfl
theorem wD_s25  (G : Gx) (A : Nat → Nat) (S : St) (k : Nat) (v : Int32) : (wD G A S).set 10 (A 25, .inl (G.2.2.1 0, 12, .inl (upd (S.1 25) k v))) = wD G A (sI S 25 k v) := rfl
theorem wD_26  (G : Gx) (A : Nat → Nat) (S : St) : (wD G A S)[11]? = some (A 26, .inl (G.2.2.1 0, 5, .inl (S.1 26))) := rfl
theorem wD_c26  (G : Gx) (A : Nat → Nat) (S : St) (f : Nat → Int32) : (wD G A S).set 11 (A 26, .inl (G.2.2.1 0, 5, .inl f)) = wD G A (sC S 26 f) := rfl
theorem wD_s26  (G : Gx) (A : Nat → Nat) (S : St) (k : Nat) (v : Int32) : (wD G A S).set 11 (A 26, .inl (G.2.2.1 0, 5, .inl (upd (S.1 26) k v))) = wD G A (sI S 26 k v) := rfl
theorem wD_27  (G : Gx) (A : Nat → Nat) (S : St) : (wD G A S)[12]? = some (A 27, .inl (G.2.2.1 0, 5, .inl (S.1 27))) := rfl
theorem wD_c27  (G : Gx) (A : Nat → Nat) (S : St) (f : Nat → Int32) : (wD G A S).set 12 (A 27, .inl (G.2.2.1 0, 5, .inl f)) = wD G A (sC S 27 f) := rfl
theorem wD_s27  (G : Gx) (A : Nat → Nat) (S : St) (k : Nat) (v : Int32) : (wD G A S).set 12 (A 27, .inl (G.2.2.1 0, 5, .inl (upd (S.1 27) k v))) = wD G A (sI S 27 k v) := rfl
theorem wD_28  (G : Gx) (A : Nat → Nat) (S : St) : (wD G A S)[13]? = some (A 28, .inl (G.2.2.1 0, 40, .inl (S.1 28))) := rfl
theorem wD_c28  (G : Gx) (A : Nat → Nat) (S : St) (f : Nat → Int32) : (wD G A S).set 13 (A 28, .inl (G.2.2.1 0, 40, .inl f)) = wD G A (sC S 28 f) := rfl
theorem wD_s28  (G : Gx) (A : Nat → Nat) (S : St) (k : Nat) (v : Int32) : (wD G A S).set 13 (A 28, .inl (G.2.2.1 0, 40, .inl (upd (S.1 28) k v))) = wD G A (sI S 28 k v) := rfl
theorem wD_29  (G : Gx) (A : Nat → Nat) (S : St) : (wD G A S)[14]? = some (A 29, .inl (G.2.2.1 2, 200, .inl (S.1 29))) := rfl
theorem wD_s29  (G : Gx) (A : Nat → Nat) (S : St) (k : Nat) (v : Int32) : (wD G A S).set 14 (A 29, .inl (G.2.2.1 2, 200, .inl (upd (S.1 29) k v))) = wD G A (sI S 29 k v) := rfl
theorem wC_D {G : Gx} {A : Nat → Nat} {S : St} {H : Heap} (h : PW G (wC G A S) H) : PW G (wD G A S) H := va_P.sub h [15, 16, 17, 18, 19, 20, 21, 22, 23, 24, 25, 26, 27, 28, 29] rfl
theorem bp_16 : (Int8.ofInt (16)).toInt32 = (16 : Int32) := by decide
theorem nz_I_3 : ¬ (3 : Int32) = 0 := by decide
theorem yg_X1_18_wD15 {G : Gx} {K : Kx} {cc : ByteArray} {rm : Room} {nL : Nat} {ret : Option FieldType} {k n pc : Nat} {A : Nat → Nat} {S : St} {lv : List (Nat × Value)} {st : List Value} (C : KOk G K RX1 cc rm nL ret) (hdg : decode cc pc = .ok (.getfield 18, 3)) (kk : Y G K k n (wD G A S) (pc + 3) lv (.ref (A 18) :: st)) : Y G K k n (wD G A S) pc lv (.ref (A 15) :: st) := y_get C (ref := "OverHill$Dance") (Cn := RX1) (T := TX1) (N := 22) in_X1 (wD_15 ..) rfl 10 (by decide) q218 (fun _ _ h => h) (fs_D15_f10 A S) hdg kk
theorem yg_X1_55_wD15 {G : Gx} {K : Kx} {cc : ByteArray} {rm : Room} {nL : Nat} {ret : Option FieldType} {k n pc : Nat} {A : Nat → Nat} {S : St} {lv : List (Nat × Value)} {st : List Value} (C : KOk G K RX1 cc rm nL ret) (hdg : decode cc pc = .ok (.getfield 55, 3)) (kk : Y G K k n (wD G A S) (pc + 3) lv (.int (S.1 15 4) :: st)) : Y G K k n (wD G A S) pc lv (.ref (A 15) :: st) := y_get C (ref := "OverHill$Dance") (Cn := RX1) (T := TX1) (N := 22) in_X1 (wD_15 ..) rfl 4 (by decide) q199 (fun _ _ h => h) (fs_D15_f4 A S) hdg kk
theorem yg_X1_24_wD15 {G : Gx} {K : Kx} {cc : ByteArray} {rm : Room} {nL : Nat} {ret : Option FieldType} {k n pc : Nat} {A : Nat → Nat} {S : St} {lv : List (Nat × Value)} {st : List Value} (C : KOk G K RX1 cc rm nL ret) (hdg : decode cc pc = .ok (.getfield 24, 3)) (kk : Y G K k n (wD G A S) (pc + 3) lv (.ref (A 20) :: st)) : Y G K k n (wD G A S) pc lv (.ref (A 15) :: st) := y_get C (ref := "OverHill$Dance") (Cn := RX1) (T := TX1) (N := 22) in_X1 (wD_15 ..) rfl 12 (by decide) q224 (fun _ _ h => h) (fs_D15_f12 A S) hdg kk
theorem yg_X1_27_wD15 {G : Gx} {K : Kx} {cc : ByteArray} {rm : Room} {nL : Nat} {ret : Option FieldType} {k n pc : Nat} {A : Nat → Nat} {S : St} {lv : List (Nat × Value)} {st : List Value} (C : KOk G K RX1 cc rm nL ret) (hdg : decode cc pc = .ok (.getfield 27, 3)) (kk : Y G K k n (wD G A S) (pc + 3) lv (.ref (A 21) :: st)) : Y G K k n (wD G A S) pc lv (.ref (A 15) :: st) := y_get C (ref := "OverHill$Dance") (Cn := RX1) (T := TX1) (N := 22) in_X1 (wD_15 ..) rfl 13 (by decide) q227 (fun _ _ h => h) (fs_D15_f13 A S) hdg kk
theorem yg_X3_1_wC5 {G : Gx} {K : Kx} {cc : ByteArray} {rm : Room} {nL : Nat} {ret : Option FieldType} {k n pc : Nat} {A : Nat → Nat} {S : St} {lv : List (Nat × Value)} {st : List Value} (C : KOk G K RX3 cc rm nL ret) (hdg : decode cc pc = .ok (.getfield 1, 3)) (kk : Y G K k n (wC G A S) (pc + 3) lv (.ref (A 0) :: st)) : Y G K k n (wC G A S) pc lv (.ref (A 5) :: st) := y_get C (ref := "OverHill$Muddy") (Cn := RX4) (T := TX4) (N := 3) in_X4 (wC_5 ..) rfl 0 (by decide) q324 (fun _ _ h => h) (fs_C5_f0 A S) hdg kk
theorem yg_X3_13_wC0 {G : Gx} {K : Kx} {cc : ByteArray} {rm : Room} {nL : Nat} {ret : Option FieldType} {k n pc : Nat} {A : Nat → Nat} {S : St} {lv : List (Nat × Value)} {st : List Value} (C : KOk G K RX3 cc rm nL ret) (hdg : decode cc pc = .ok (.getfield 13, 3)) (kk : Y G K k n (wC G A S) (pc + 3) lv (.ref (A 15) :: st)) : Y G K k n (wC G A S) pc lv (.ref (A 0) :: st) := y_getN C (ref := "OverHill") (Cn := RX0) (T := TX0) (N := 34) in_X0 (wC_0 ..) rfl 0 (by decide) q402 (fun _ _ h => h) (fs_C0_f0 A S) hdg kk
theorem yg_X3_19_wC15 {G : Gx} {K : Kx} {cc : ByteArray} {rm : Room} {nL : Nat} {ret : Option FieldType} {k n pc : Nat} {A : Nat → Nat} {S : St} {lv : List (Nat × Value)} {st : List Value} (C : KOk G K RX3 cc rm nL ret) (hdg : decode cc pc = .ok (.getfield 19, 3)) (kk : Y G K k n (wC G A S) (pc + 3) lv (.ref (A 29) :: st)) : Y G K k n (wC G A S) pc lv (.ref (A 15) :: st) := y_getN C (ref := "OverHill$Dance") (Cn := RX1) (T := TX1) (N := 22) in_X1 (wC_15 ..) rfl 21 (by decide) q253 (fun _ _ h => h) (fs_C15_f21 A S) hdg kk
theorem yg_X3_1_wC6 {G : Gx} {K : Kx} {cc : ByteArray} {rm : Room} {nL : Nat} {ret : Option FieldType} {k n pc : Nat} {A : Nat → Nat} {S : St} {lv : List (Nat × Value)} {st : List Value} (C : KOk G K RX3 cc rm nL ret) (hdg : decode cc pc = .ok (.getfield 1, 3)) (kk : Y G K k n (wC G A S) (pc + 3) lv (.ref (A 0) :: st)) : Y G K k n (wC G A S) pc lv (.ref (A 6) :: st) := y_get C (ref := "OverHill$Muddy") (Cn := RX5) (T := TX5) (N := 5) in_X5 (wC_6 ..) rfl 0 (by decide) q324 (fun _ _ h => h) (fs_C6_f0 A S) hdg kk
theorem yg_X3_1_wC7 {G : Gx} {K : Kx} {cc : ByteArray} {rm : Room} {nL : Nat} {ret : Option FieldType} {k n pc : Nat} {A : Nat → Nat} {S : St} {lv : List (Nat × Value)} {st : List Value} (C : KOk G K RX3 cc rm nL ret) (hdg : decode cc pc = .ok (.getfield 1, 3)) (kk : Y G K k n (wC G A S) (pc + 3) lv (.ref (A 0) :: st)) : Y G K k n (wC G A S) pc lv (.ref (A 7) :: st) := y_get C (ref := "OverHill$Muddy") (Cn := RX6) (T := TX6) (N := 4) in_X6 (wC_7 ..) rfl 0 (by decide) q324 (fun _ _ h => h) (fs_C7_f0 A S) hdg kk
theorem yg_X4_1_wC5 {G : Gx} {K : Kx} {cc : ByteArray} {rm : Room} {nL : Nat} {ret : Option FieldType} {k n pc : Nat} {A : Nat → Nat} {S : St} {lv : List (Nat × Value)} {st : List Value} (C : KOk G K RX4 cc rm nL ret) (hdg : decode cc pc = .ok (.getfield 1, 3)) (kk : Y G K k n (wC G A S) (pc + 3) lv (.ref (A 0) :: st)) : Y G K k n (wC G A S) pc lv (.ref (A 5) :: st) := y_get C (ref := "OverHill$Told") (Cn := RX4) (T := TX4) (N := 3) in_X4 (wC_5 ..) rfl 2 (by decide) q323 (fun _ _ h => h) (fs_C5_f2 A S) hdg kk
theorem yg_X4_13_wC0 {G : Gx} {K : Kx} {cc : ByteArray} {rm : Room} {nL : Nat} {ret : Option FieldType} {k n pc : Nat} {A : Nat → Nat} {S : St} {lv : List (Nat × Value)} {st : List Value} (C : KOk G K RX4 cc rm nL ret) (hdg : decode cc pc = .ok (.getfield 13, 3)) (kk : Y G K k n (wC G A S) (pc + 3) lv (.ref (A 15) :: st)) : Y G K k n (wC G A S) pc lv (.ref (A 0) :: st) := y_getN C (ref := "OverHill") (Cn := RX0) (T := TX0) (N := 34) in_X0 (wC_0 ..) rfl 0 (by decide) q403 (fun _ _ h => h) (fs_C0_f0 A S) hdg kk
theorem yg_X4_1_wC6 {G : Gx} {K : Kx} {cc : ByteArray} {rm : Room} {nL : Nat} {ret : Option FieldType} {k n pc : Nat} {A : Nat → Nat} {S : St} {lv : List (Nat × Value)} {st : List Value} (C : KOk G K RX4 cc rm nL ret) (hdg : decode cc pc = .ok (.getfield 1, 3)) (kk : Y G K k n (wC G A S) (pc + 3) lv (.ref (A 0) :: st)) : Y G K k n (wC G A S) pc lv (.ref (A 6) :: st) := y_get C (ref := "OverHill$Told") (Cn := RX5) (T := TX5) (N := 5) in_X5 (wC_6 ..) rfl 1 (by decide) q323 (fun _ _ h => h) (fs_C6_f1 A S) hdg kk
theorem yg_X6_15_wC7 {G : Gx} {K : Kx} {cc : ByteArray} {rm : Room} {nL : Nat} {ret : Option FieldType} {k n pc : Nat} {A : Nat → Nat} {S : St} {lv : List (Nat × Value)} {st : List Value} (C : KOk G K RX6 cc rm nL ret) (hdg : decode cc pc = .ok (.getfield 15, 3)) (kk : Y G K k n (wC G A S) (pc + 3) lv (.int (S.1 7 2) :: st)) : Y G K k n (wC G A S) pc lv (.ref (A 7) :: st) := y_get C (ref := "OverHill$Thought") (Cn := RX6) (T := TX6) (N := 4) in_X6 (wC_7 ..) rfl 2 (by decide) q354 (fun _ _ h => h) (fs_C7_f2 A S) hdg kk
theorem yg_X5_19_wC6 {G : Gx} {K : Kx} {cc : ByteArray} {rm : Room} {nL : Nat} {ret : Option FieldType} {k n pc : Nat} {A : Nat → Nat} {S : St} {lv : List (Nat × Value)} {st : List Value} (C : KOk G K RX5 cc rm nL ret) (hdg : decode cc pc = .ok (.getfield 19, 3)) (kk : Y G K k n (wC G A S) (pc + 3) lv (.int (S.1 6 3) :: st)) : Y G K k n (wC G A S) pc lv (.ref (A 6) :: st) := y_get C (ref := "OverHill$Without") (Cn := RX5) (T := TX5) (N := 5) in_X5 (wC_6 ..) rfl 3 (by decide) q337 (fun _ _ h => h) (fs_C6_f3 A S) hdg kk
theorem yg_X4_25_wC15 {G : Gx} {K : Kx} {cc : ByteArray} {rm : Room} {nL : Nat} {ret : Option FieldType} {k n pc : Nat} {A : Nat → Nat} {S : St} {lv : List (Nat × Value)} {st : List Value} (C : KOk G K RX4 cc rm nL ret) (hdg : decode cc pc = .ok (.getfield 25, 3)) (kk : Y G K k n (wC G A S) (pc + 3) lv (.ref (A 22) :: st)) : Y G K k n (wC G A S) pc lv (.ref (A 15) :: st) := y_getN C (ref := "OverHill$Dance") (Cn := RX1) (T := TX1) (N := 22) in_X1 (wC_15 ..) rfl 14 (by decide) q231 (fun _ _ h => h) (fs_C15_f14 A S) hdg kk
theorem yg_X4_29_wC15 {G : Gx} {K : Kx} {cc : ByteArray} {rm : Room} {nL : Nat} {ret : Option FieldType} {k n pc : Nat} {A : Nat → Nat} {S : St} {lv : List (Nat × Value)} {st : List Value} (C : KOk G K RX4 cc rm nL ret) (hdg : decode cc pc = .ok (.getfield 29, 3)) (kk : Y G K k n (wC G A S) (pc + 3) lv (.ref (A 23) :: st)) : Y G K k n (wC G A S) pc lv (.ref (A 15) :: st) := y_getN C (ref := "OverHill$Dance") (Cn := RX1) (T := TX1) (N := 22) in_X1 (wC_15 ..) rfl 15 (by decide) q235 (fun _ _ h => h) (fs_C15_f15 A S) hdg kk
theorem yg_X2_3_wC5 {G : Gx} {K : Kx} {cc : ByteArray} {rm : Room} {nL : Nat} {ret : Option FieldType} {k n pc : Nat} {A : Nat → Nat} {S : St} {lv : List (Nat × Value)} {st : List Value} (C : KOk G K RX2 cc rm nL ret) (hdg : decode cc pc = .ok (.getfield 3, 3)) (kk : Y G K k n (wC G A S) (pc + 3) lv (.ref (A 0) :: st)) : Y G K k n (wC G A S) pc lv (.ref (A 5) :: st) := y_get C (ref := "OverHill$Plain") (Cn := RX4) (T := TX4) (N := 3) in_X4 (wC_5 ..) rfl 1 (by decide) q309 (fun _ _ h => h) (fs_C5_f1 A S) hdg kk
theorem yg_X2_15_wC0 {G : Gx} {K : Kx} {cc : ByteArray} {rm : Room} {nL : Nat} {ret : Option FieldType} {k n pc : Nat} {A : Nat → Nat} {S : St} {lv : List (Nat × Value)} {st : List Value} (C : KOk G K RX2 cc rm nL ret) (hdg : decode cc pc = .ok (.getfield 15, 3)) (kk : Y G K k n (wC G A S) (pc + 3) lv (.ref (A 15) :: st)) : Y G K k n (wC G A S) pc lv (.ref (A 0) :: st) := y_getN C (ref := "OverHill") (Cn := RX0) (T := TX0) (N := 34) in_X0 (wC_0 ..) rfl 0 (by decide) q405 (fun _ _ h => h) (fs_C0_f0 A S) hdg kk
theorem yg_X2_19_wC15 {G : Gx} {K : Kx} {cc : ByteArray} {rm : Room} {nL : Nat} {ret : Option FieldType} {k n pc : Nat} {A : Nat → Nat} {S : St} {lv : List (Nat × Value)} {st : List Value} (C : KOk G K RX2 cc rm nL ret) (hdg : decode cc pc = .ok (.getfield 19, 3)) (kk : Y G K k n (wC G A S) (pc + 3) lv (.ref (A 17) :: st)) : Y G K k n (wC G A S) pc lv (.ref (A 15) :: st) := y_getN C (ref := "OverHill$Dance") (Cn := RX1) (T := TX1) (N := 22) in_X1 (wC_15 ..) rfl 9 (by decide) q215 (fun _ _ h => h) (fs_C15_f9 A S) hdg kk
theorem yg_X2_25_wC0 {G : Gx} {K : Kx} {cc : ByteArray} {rm : Room} {nL : Nat} {ret : Option FieldType} {k n pc : Nat} {A : Nat → Nat} {S : St} {lv : List (Nat × Value)} {st : List Value} (C : KOk G K RX2 cc rm nL ret) (hdg : decode cc pc = .ok (.getfield 25, 3)) (kk : Y G K k n (wC G A S) (pc + 3) lv (.ref (A 2) :: st)) : Y G K k n (wC G A S) pc lv (.ref (A 0) :: st) := y_getN C (ref := "OverHill") (Cn := RX0) (T := TX0) (N := 34) in_X0 (wC_0 ..) rfl 5 (by decide) q413 (fun _ _ h => h) (fs_C0_f5 A S) hdg kk
theorem yg_X2_28_wC15 {G : Gx} {K : Kx} {cc : ByteArray} {rm : Room} {nL : Nat} {ret : Option FieldType} {k n pc : Nat} {A : Nat → Nat} {S : St} {lv : List (Nat × Value)} {st : List Value} (C : KOk G K RX2 cc rm nL ret) (hdg : decode cc pc = .ok (.getfield 28, 3)) (kk : Y G K k n (wC G A S) (pc + 3) lv (.ref (A 16) :: st)) : Y G K k n (wC G A S) pc lv (.ref (A 15) :: st) := y_getN C (ref := "OverHill$Dance") (Cn := RX1) (T := TX1) (N := 22) in_X1 (wC_15 ..) rfl 8 (by decide) q211 (fun _ _ h => h) (fs_C15_f8 A S) hdg kk
theorem yg_X2_31_wC0 {G : Gx} {K : Kx} {cc : ByteArray} {rm : Room} {nL : Nat} {ret : Option FieldType} {k n pc : Nat} {A : Nat → Nat} {S : St} {lv : List (Nat × Value)} {st : List Value} (C : KOk G K RX2 cc rm nL ret) (hdg : decode cc pc = .ok (.getfield 31, 3)) (kk : Y G K k n (wC G A S) (pc + 3) lv (.ref (A 3) :: st)) : Y G K k n (wC G A S) pc lv (.ref (A 0) :: st) := y_getN C (ref := "OverHill") (Cn := RX0) (T := TX0) (N := 34) in_X0 (wC_0 ..) rfl 6 (by decide) q415 (fun _ _ h => h) (fs_C0_f6 A S) hdg kk
theorem yg_X2_3_wC6 {G : Gx} {K : Kx} {cc : ByteArray} {rm : Room} {nL : Nat} {ret : Option FieldType} {k n pc : Nat} {A : Nat → Nat} {S : St} {lv : List (Nat × Value)} {st : List Value} (C : KOk G K RX2 cc rm nL ret) (hdg : decode cc pc = .ok (.getfield 3, 3)) (kk : Y G K k n (wC G A S) (pc + 3) lv (.ref (A 0) :: st)) : Y G K k n (wC G A S) pc lv (.ref (A 6) :: st) := y_get C (ref := "OverHill$Plain") (Cn := RX5) (T := TX5) (N := 5) in_X5 (wC_6 ..) rfl 2 (by decide) q309 (fun _ _ h => h) (fs_C6_f2 A S) hdg kk
theorem yg_X2_3_wC7 {G : Gx} {K : Kx} {cc : ByteArray} {rm : Room} {nL : Nat} {ret : Option FieldType} {k n pc : Nat} {A : Nat → Nat} {S : St} {lv : List (Nat × Value)} {st : List Value} (C : KOk G K RX2 cc rm nL ret) (hdg : decode cc pc = .ok (.getfield 3, 3)) (kk : Y G K k n (wC G A S) (pc + 3) lv (.ref (A 0) :: st)) : Y G K k n (wC G A S) pc lv (.ref (A 7) :: st) := y_get C (ref := "OverHill$Plain") (Cn := RX6) (T := TX6) (N := 4) in_X6 (wC_7 ..) rfl 1 (by decide) q309 (fun _ _ h => h) (fs_C7_f1 A S) hdg kk
theorem yg_X0_12_wC0 {G : Gx} {K : Kx} {cc : ByteArray} {rm : Room} {nL : Nat} {ret : Option FieldType} {k n pc : Nat} {A : Nat → Nat} {S : St} {lv : List (Nat × Value)} {st : List Value} (C : KOk G K RX0 cc rm nL ret) (hdg : decode cc pc = .ok (.getfield 12, 3)) (kk : Y G K k n (wC G A S) (pc + 3) lv (.ref (A 15) :: st)) : Y G K k n (wC G A S) pc lv (.ref (A 0) :: st) := y_get C (ref := "OverHill") (Cn := RX0) (T := TX0) (N := 34) in_X0 (wC_0 ..) rfl 0 (by decide) q404 (fun _ _ h => h) (fs_C0_f0 A S) hdg kk
theorem yg_X0_163_wC15 {G : Gx} {K : Kx} {cc : ByteArray} {rm : Room} {nL : Nat} {ret : Option FieldType} {k n pc : Nat} {A : Nat → Nat} {S : St} {lv : List (Nat × Value)} {st : List Value} (C : KOk G K RX0 cc rm nL ret) (hdg : decode cc pc = .ok (.getfield 163, 3)) (kk : Y G K k n (wC G A S) (pc + 3) lv (.ref (A 19) :: st)) : Y G K k n (wC G A S) pc lv (.ref (A 15) :: st) := y_getN C (ref := "OverHill$Dance") (Cn := RX1) (T := TX1) (N := 22) in_X1 (wC_15 ..) rfl 11 (by decide) q223 (fun _ _ h => h) (fs_C15_f11 A S) hdg kk
theorem yg_X0_76_wC0 {G : Gx} {K : Kx} {cc : ByteArray} {rm : Room} {nL : Nat} {ret : Option FieldType} {k n pc : Nat} {A : Nat → Nat} {S : St} {lv : List (Nat × Value)} {st : List Value} (C : KOk G K RX0 cc rm nL ret) (hdg : decode cc pc = .ok (.getfield 76, 3)) (kk : Y G K k n (wC G A S) (pc + 3) lv (.ref (A 13) :: st)) : Y G K k n (wC G A S) pc lv (.ref (A 0) :: st) := y_get C (ref := "OverHill") (Cn := RX0) (T := TX0) (N := 34) in_X0 (wC_0 ..) rfl 25 (by decide) q434 (fun _ _ h => h) (fs_C0_f25 A S) hdg kk
theorem yg_X0_73_wC0 {G : Gx} {K : Kx} {cc : ByteArray} {rm : Room} {nL : Nat} {ret : Option FieldType} {k n pc : Nat} {A : Nat → Nat} {S : St} {lv : List (Nat × Value)} {st : List Value} (C : KOk G K RX0 cc rm nL ret) (hdg : decode cc pc = .ok (.getfield 73, 3)) (kk : Y G K k n (wC G A S) (pc + 3) lv (.ref (A 12) :: st)) : Y G K k n (wC G A S) pc lv (.ref (A 0) :: st) := y_get C (ref := "OverHill") (Cn := RX0) (T := TX0) (N := 34) in_X0 (wC_0 ..) rfl 24 (by decide) q433 (fun _ _ h => h) (fs_C0_f24 A S) hdg kk
theorem yg_X0_16_wC0 {G : Gx} {K : Kx} {cc : ByteArray} {rm : Room} {nL : Nat} {ret : Option FieldType} {k n pc : Nat} {A : Nat → Nat} {S : St} {lv : List (Nat × Value)} {st : List Value} (C : KOk G K RX0 cc rm nL ret) (hdg : decode cc pc = .ok (.getfield 16, 3)) (kk : Y G K k n (wC G A S) (pc + 3) lv (.ref (A 1) :: st)) : Y G K k n (wC G A S) pc lv (.ref (A 0) :: st) := y_get C (ref := "OverHill") (Cn := RX0) (T := TX0) (N := 34) in_X0 (wC_0 ..) rfl 1 (by decide) q407 (fun _ _ h => h) (fs_C0_f1 A S) hdg kk
theorem yg_X0_96_wC0 {G : Gx} {K : Kx} {cc : ByteArray} {rm : Room} {nL : Nat} {ret : Option FieldType} {k n pc : Nat} {A : Nat → Nat} {S : St} {lv : List (Nat × Value)} {st : List Value} (C : KOk G K RX0 cc rm nL ret) (hdg : decode cc pc = .ok (.getfield 96, 3)) (kk : Y G K k n (wC G A S) (pc + 3) lv (.int (S.1 0 2) :: st)) : Y G K k n (wC G A S) pc lv (.ref (A 0) :: st) := y_get C (ref := "OverHill") (Cn := RX0) (T := TX0) (N := 34) in_X0 (wC_0 ..) rfl 2 (by decide) q409 (fun _ _ h => h) (fs_C0_f2 A S) hdg kk
theorem yp_X0_96_wC0 {G : Gx} {K : Kx} {cc : ByteArray} {rm : Room} {nL : Nat} {ret : Option FieldType} {k n pc : Nat} {B : Nat → Prop} {A : Nat → Nat} {S : St} {lv : List (Nat × Value)} {st : List Value} {v : Int32} (C : KOk G K RX0 cc rm nL ret) (M : KM G K B) (hdg : decode cc pc = .ok (.putfield 96, 3)) (kk : Y G K k n (wC G A (sI S 0 2 v)) (pc + 3) lv st) : Y G K k n (wC G A S) pc lv (.int v :: .ref (A 0) :: st) := y_put C M (ref := "OverHill") (Cn := RX0) (T := TX0) (N := 34) in_X0 (wC_0 ..) rfl 2 (by decide) tyX0 tyX0_ok (by decide +kernel) q409 (fun _ _ h => h) rfl (ty := .int) (by decide +kernel) rfl rfl (Nat.le_of_ble_eq_true rfl) (wC_p0_2 ..) hdg kk
theorem yg_X0_20_wC0 {G : Gx} {K : Kx} {cc : ByteArray} {rm : Room} {nL : Nat} {ret : Option FieldType} {k n pc : Nat} {A : Nat → Nat} {S : St} {lv : List (Nat × Value)} {st : List Value} (C : KOk G K RX0 cc rm nL ret) (hdg : decode cc pc = .ok (.getfield 20, 3)) (kk : Y G K k n (wC G A S) (pc + 3) lv (.int (S.1 0 4) :: st)) : Y G K k n (wC G A S) pc lv (.ref (A 0) :: st) := y_get C (ref := "OverHill") (Cn := RX0) (T := TX0) (N := 34) in_X0 (wC_0 ..) rfl 4 (by decide) q411 (fun _ _ h => h) (fs_C0_f4 A S) hdg kk
theorem yg_X0_114_wC0 {G : Gx} {K : Kx} {cc : ByteArray} {rm : Room} {nL : Nat} {ret : Option FieldType} {k n pc : Nat} {A : Nat → Nat} {S : St} {lv : List (Nat × Value)} {st : List Value} (C : KOk G K RX0 cc rm nL ret) (hdg : decode cc pc = .ok (.getfield 114, 3)) (kk : Y G K k n (wC G A S) (pc + 3) lv (.int (S.1 0 3) :: st)) : Y G K k n (wC G A S) pc lv (.ref (A 0) :: st) := y_get C (ref := "OverHill") (Cn := RX0) (T := TX0) (N := 34) in_X0 (wC_0 ..) rfl 3 (by decide) q410 (fun _ _ h => h) (fs_C0_f3 A S) hdg kk
theorem yg_X0_117_wC15 {G : Gx} {K : Kx} {cc : ByteArray} {rm : Room} {nL : Nat} {ret : Option FieldType} {k n pc : Nat} {A : Nat → Nat} {S : St} {lv : List (Nat × Value)} {st : List Value} (C : KOk G K RX0 cc rm nL ret) (hdg : decode cc pc = .ok (.getfield 117, 3)) (kk : Y G K k n (wC G A S) (pc + 3) lv (.int (S.1 15 3) :: st)) : Y G K k n (wC G A S) pc lv (.ref (A 15) :: st) := y_getN C (ref := "OverHill$Dance") (Cn := RX1) (T := TX1) (N := 22) in_X1 (wC_15 ..) rfl 3 (by decide) q197 (fun _ _ h => h) (fs_C15_f3 A S) hdg kk
theorem yg_X0_144_wC15 {G : Gx} {K : Kx} {cc : ByteArray} {rm : Room} {nL : Nat} {ret : Option FieldType} {k n pc : Nat} {A : Nat → Nat} {S : St} {lv : List (Nat × Value)} {st : List Value} (C : KOk G K RX0 cc rm nL ret) (hdg : decode cc pc = .ok (.getfield 144, 3)) (kk : Y G K k n (wC G A S) (pc + 3) lv (.ref (A 16) :: st)) : Y G K k n (wC G A S) pc lv (.ref (A 15) :: st) := y_getN C (ref := "OverHill$Dance") (Cn := RX1) (T := TX1) (N := 22) in_X1 (wC_15 ..) rfl 8 (by decide) q213 (fun _ _ h => h) (fs_C15_f8 A S) hdg kk
theorem yg_X0_147_wC15 {G : Gx} {K : Kx} {cc : ByteArray} {rm : Room} {nL : Nat} {ret : Option FieldType} {k n pc : Nat} {A : Nat → Nat} {S : St} {lv : List (Nat × Value)} {st : List Value} (C : KOk G K RX0 cc rm nL ret) (hdg : decode cc pc = .ok (.getfield 147, 3)) (kk : Y G K k n (wC G A S) (pc + 3) lv (.int (S.1 15 4) :: st)) : Y G K k n (wC G A S) pc lv (.ref (A 15) :: st) := y_getN C (ref := "OverHill$Dance") (Cn := RX1) (T := TX1) (N := 22) in_X1 (wC_15 ..) rfl 4 (by decide) q201 (fun _ _ h => h) (fs_C15_f4 A S) hdg kk
theorem yg_X0_178_wC15 {G : Gx} {K : Kx} {cc : ByteArray} {rm : Room} {nL : Nat} {ret : Option FieldType} {k n pc : Nat} {A : Nat → Nat} {S : St} {lv : List (Nat × Value)} {st : List Value} (C : KOk G K RX0 cc rm nL ret) (hdg : decode cc pc = .ok (.getfield 178, 3)) (kk : Y G K k n (wC G A S) (pc + 3) lv (.ref (A 23) :: st)) : Y G K k n (wC G A S) pc lv (.ref (A 15) :: st) := y_getN C (ref := "OverHill$Dance") (Cn := RX1) (T := TX1) (N := 22) in_X1 (wC_15 ..) rfl 15 (by decide) q237 (fun _ _ h => h) (fs_C15_f15 A S) hdg kk
theorem yg_X0_175_wC15 {G : Gx} {K : Kx} {cc : ByteArray} {rm : Room} {nL : Nat} {ret : Option FieldType} {k n pc : Nat} {A : Nat → Nat} {S : St} {lv : List (Nat × Value)} {st : List Value} (C : KOk G K RX0 cc rm nL ret) (hdg : decode cc pc = .ok (.getfield 175, 3)) (kk : Y G K k n (wC G A S) (pc + 3) lv (.ref (A 22) :: st)) : Y G K k n (wC G A S) pc lv (.ref (A 15) :: st) := y_getN C (ref := "OverHill$Dance") (Cn := RX1) (T := TX1) (N := 22) in_X1 (wC_15 ..) rfl 14 (by decide) q233 (fun _ _ h => h) (fs_C15_f14 A S) hdg kk
theorem yg_X0_172_wC15 {G : Gx} {K : Kx} {cc : ByteArray} {rm : Room} {nL : Nat} {ret : Option FieldType} {k n pc : Nat} {A : Nat → Nat} {S : St} {lv : List (Nat × Value)} {st : List Value} (C : KOk G K RX0 cc rm nL ret) (hdg : decode cc pc = .ok (.getfield 172, 3)) (kk : Y G K k n (wC G A S) (pc + 3) lv (.ref (A 21) :: st)) : Y G K k n (wC G A S) pc lv (.ref (A 15) :: st) := y_getN C (ref := "OverHill$Dance") (Cn := RX1) (T := TX1) (N := 22) in_X1 (wC_15 ..) rfl 13 (by decide) q229 (fun _ _ h => h) (fs_C15_f13 A S) hdg kk
theorem yg_X0_169_wC15 {G : Gx} {K : Kx} {cc : ByteArray} {rm : Room} {nL : Nat} {ret : Option FieldType} {k n pc : Nat} {A : Nat → Nat} {S : St} {lv : List (Nat × Value)} {st : List Value} (C : KOk G K RX0 cc rm nL ret) (hdg : decode cc pc = .ok (.getfield 169, 3)) (kk : Y G K k n (wC G A S) (pc + 3) lv (.ref (A 20) :: st)) : Y G K k n (wC G A S) pc lv (.ref (A 15) :: st) := y_getN C (ref := "OverHill$Dance") (Cn := RX1) (T := TX1) (N := 22) in_X1 (wC_15 ..) rfl 12 (by decide) q226 (fun _ _ h => h) (fs_C15_f12 A S) hdg kk
theorem yg_X0_184_wC15 {G : Gx} {K : Kx} {cc : ByteArray} {rm : Room} {nL : Nat} {ret : Option FieldType} {k n pc : Nat} {A : Nat → Nat} {S : St} {lv : List (Nat × Value)} {st : List Value} (C : KOk G K RX0 cc rm nL ret) (hdg : decode cc pc = .ok (.getfield 184, 3)) (kk : Y G K k n (wC G A S) (pc + 3) lv (.ref (A 29) :: st)) : Y G K k n (wC G A S) pc lv (.ref (A 15) :: st) := y_getN C (ref := "OverHill$Dance") (Cn := RX1) (T := TX1) (N := 22) in_X1 (wC_15 ..) rfl 21 (by decide) q255 (fun _ _ h => h) (fs_C15_f21 A S) hdg kk
theorem yg_X0_43_wC0 {G : Gx} {K : Kx} {cc : ByteArray} {rm : Room} {nL : Nat} {ret : Option FieldType} {k n pc : Nat} {A : Nat → Nat} {S : St} {lv : List (Nat × Value)} {st : List Value} (C : KOk G K RX0 cc rm nL ret) (hdg : decode cc pc = .ok (.getfield 43, 3)) (kk : Y G K k n (wC G A S) (pc + 3) lv (.ref (A 5) :: st)) : Y G K k n (wC G A S) pc lv (.ref (A 0) :: st) := y_get C (ref := "OverHill") (Cn := RX0) (T := TX0) (N := 34) in_X0 (wC_0 ..) rfl 8 (by decide) q417 (fun _ _ h => h) (fs_C0_f8 A S) hdg kk
theorem yg_X0_24_wC0 {G : Gx} {K : Kx} {cc : ByteArray} {rm : Room} {nL : Nat} {ret : Option FieldType} {k n pc : Nat} {A : Nat → Nat} {S : St} {lv : List (Nat × Value)} {st : List Value} (C : KOk G K RX0 cc rm nL ret) (hdg : decode cc pc = .ok (.getfield 24, 3)) (kk : Y G K k n (wC G A S) (pc + 3) lv (.ref (A 2) :: st)) : Y G K k n (wC G A S) pc lv (.ref (A 0) :: st) := y_get C (ref := "OverHill") (Cn := RX0) (T := TX0) (N := 34) in_X0 (wC_0 ..) rfl 5 (by decide) q412 (fun _ _ h => h) (fs_C0_f5 A S) hdg kk
theorem yg_X0_28_wC0 {G : Gx} {K : Kx} {cc : ByteArray} {rm : Room} {nL : Nat} {ret : Option FieldType} {k n pc : Nat} {A : Nat → Nat} {S : St} {lv : List (Nat × Value)} {st : List Value} (C : KOk G K RX0 cc rm nL ret) (hdg : decode cc pc = .ok (.getfield 28, 3)) (kk : Y G K k n (wC G A S) (pc + 3) lv (.ref (A 3) :: st)) : Y G K k n (wC G A S) pc lv (.ref (A 0) :: st) := y_get C (ref := "OverHill") (Cn := RX0) (T := TX0) (N := 34) in_X0 (wC_0 ..) rfl 6 (by decide) q414 (fun _ _ h => h) (fs_C0_f6 A S) hdg kk
theorem yg_X0_188_wC15 {G : Gx} {K : Kx} {cc : ByteArray} {rm : Room} {nL : Nat} {ret : Option FieldType} {k n pc : Nat} {A : Nat → Nat} {S : St} {lv : List (Nat × Value)} {st : List Value} (C : KOk G K RX0 cc rm nL ret) (hdg : decode cc pc = .ok (.getfield 188, 3)) (kk : Y G K k n (wC G A S) (pc + 3) lv (.int (S.1 15 0) :: st)) : Y G K k n (wC G A S) pc lv (.ref (A 15) :: st) := y_getN C (ref := "OverHill$Dance") (Cn := RX1) (T := TX1) (N := 22) in_X1 (wC_15 ..) rfl 0 (by decide) q189 (fun _ _ h => h) (fs_C15_f0 A S) hdg kk
theorem yg_X0_209_wC15 {G : Gx} {K : Kx} {cc : ByteArray} {rm : Room} {nL : Nat} {ret : Option FieldType} {k n pc : Nat} {A : Nat → Nat} {S : St} {lv : List (Nat × Value)} {st : List Value} (C : KOk G K RX0 cc rm nL ret) (hdg : decode cc pc = .ok (.getfield 209, 3)) (kk : Y G K k n (wC G A S) (pc + 3) lv (.ref (A 17) :: st)) : Y G K k n (wC G A S) pc lv (.ref (A 15) :: st) := y_getN C (ref := "OverHill$Dance") (Cn := RX1) (T := TX1) (N := 22) in_X1 (wC_15 ..) rfl 9 (by decide) q217 (fun _ _ h => h) (fs_C15_f9 A S) hdg kk
theorem cs_X4_19 : CsV RX4 19 yX1_stumbleAt cX1_stumbleAt 4 (some .int) 2 := ⟨lw_V q901 q784 q785 q140 q786, by decide +kernel⟩
theorem cu_X5_15 : CsU RX5 15 yX4_stumble cX4_stumble 3 (some .int) 2 := ⟨lw_U q905 q2293 q347 q899 q143 q900, by decide +kernel⟩
theorem co_X2_34_X4 : CsO RX2 34 RX4 "OverHill$Plain" ⟨"OverHill$Plain", "isMud", "(I)Z"⟩ yX3_isMud cX3_isMud 2 (some .boolean) 1 := ⟨lw_O q881 q884 q882 q888 q886 q142 q887, ⟨_, _, _, q890⟩, by decide +kernel⟩
theorem co_X2_38_X4 : CsO RX2 38 RX4 "OverHill$Plain" ⟨"OverHill$Plain", "stumble", "(II)I"⟩ yX4_stumble cX4_stumble 3 (some .int) 2 := ⟨lw_O q891 q894 q892 q898 q899 q143 q900, ⟨_, _, _, q906⟩, by decide +kernel⟩
theorem co_X2_45_X4 : CsO RX2 45 RX4 "OverHill$Plain" ⟨"OverHill$Plain", "does", "(I)I"⟩ yX4_does cX4_does 2 (some .int) 1 := ⟨lw_O q908 q911 q909 q915 q916 q143 q917, ⟨_, _, _, q919⟩, by decide +kernel⟩
theorem cs_X2_42 : CsV RX2 42 yX1_step cX1_step 3 (some .int) 2 := ⟨lw_V q907 q829 q830 q140 q831, by decide +kernel⟩
theorem co_X2_49_X4 : CsO RX2 49 RX4 "OverHill$Plain" ⟨"OverHill$Plain", "lag", "(I)I"⟩ yX4_lag cX4_lag 2 (some .int) 1 := ⟨lw_O q920 q923 q921 q927 q928 q143 q929, ⟨_, _, _, q931⟩, by decide +kernel⟩
theorem cs_X2_52 : CsS RX2 52 yJ3_floorMod cJ3_floorMod 3 (some .int) 2 := ⟨lw_S q932 q933 q154 q934, by decide +kernel⟩
theorem co_X2_34_X5 : CsO RX2 34 RX5 "OverHill$Plain" ⟨"OverHill$Plain", "isMud", "(I)Z"⟩ yX3_isMud cX3_isMud 2 (some .boolean) 1 := ⟨lw_O q881 q884 q882 q889 q886 q142 q887, ⟨_, _, _, q890⟩, by decide +kernel⟩
theorem co_X2_38_X5 : CsO RX2 38 RX5 "OverHill$Plain" ⟨"OverHill$Plain", "stumble", "(II)I"⟩ yX5_stumble cX5_stumble 4 (some .int) 2 := ⟨lw_O q891 q894 q892 q902 q903 q144 q904, ⟨_, _, _, q906⟩, by decide +kernel⟩
theorem co_X2_45_X5 : CsO RX2 45 RX5 "OverHill$Plain" ⟨"OverHill$Plain", "does", "(I)I"⟩ yX4_does cX4_does 2 (some .int) 1 := ⟨lw_O q908 q911 q909 q918 q916 q143 q917, ⟨_, _, _, q919⟩, by decide +kernel⟩
theorem co_X2_49_X5 : CsO RX2 49 RX5 "OverHill$Plain" ⟨"OverHill$Plain", "lag", "(I)I"⟩ yX4_lag cX4_lag 2 (some .int) 1 := ⟨lw_O q920 q923 q921 q930 q928 q143 q929, ⟨_, _, _, q931⟩, by decide +kernel⟩
theorem co_X2_34_X6 : CsO RX2 34 RX6 "OverHill$Plain" ⟨"OverHill$Plain", "isMud", "(I)Z"⟩ yX3_isMud cX3_isMud 2 (some .boolean) 1 := ⟨lw_O q881 q884 q882 q885 q886 q142 q887, ⟨_, _, _, q890⟩, by decide +kernel⟩
theorem co_X2_38_X6 : CsO RX2 38 RX6 "OverHill$Plain" ⟨"OverHill$Plain", "stumble", "(II)I"⟩ yX6_stumble cX6_stumble 3 (some .int) 2 := ⟨lw_O q891 q894 q892 q895 q896 q145 q897, ⟨_, _, _, q906⟩, by decide +kernel⟩
theorem co_X2_45_X6 : CsO RX2 45 RX6 "OverHill$Plain" ⟨"OverHill$Plain", "does", "(I)I"⟩ yX6_does cX6_does 2 (some .int) 1 := ⟨lw_O q908 q911 q909 q912 q913 q145 q914, ⟨_, _, _, q919⟩, by decide +kernel⟩
theorem co_X2_49_X6 : CsO RX2 49 RX6 "OverHill$Plain" ⟨"OverHill$Plain", "lag", "(I)I"⟩ yX6_lag cX6_lag 2 (some .int) 1 := ⟨lw_O q920 q923 q921 q924 q925 q145 q926, ⟨_, _, _, q931⟩, by decide +kernel⟩
theorem co_X2_57_X4 : CsO RX2 57 RX4 "OverHill$Plain" ⟨"OverHill$Plain", "goes", "(I)V"⟩ yX2_goes cX2_goes 5 none 1 := ⟨lw_O q873 q876 q874 q878 q874 q141 q880, ⟨_, _, _, q880⟩, by decide +kernel⟩
theorem co_X2_57_X5 : CsO RX2 57 RX5 "OverHill$Plain" ⟨"OverHill$Plain", "goes", "(I)V"⟩ yX2_goes cX2_goes 5 none 1 := ⟨lw_O q873 q876 q874 q879 q874 q141 q880, ⟨_, _, _, q880⟩, by decide +kernel⟩
theorem cs_X0_197 : CsS RX0 197 yX0_has cX0_has 2 (some .boolean) 2 := ⟨lw_S q964 q965 q139 q966, by decide +kernel⟩
theorem cs_X0_390 : CsV RX0 390 yX0_isWon cX0_isWon 4 (some .boolean) 2 := ⟨lw_V q1287 q1289 qs61 q139 q1290, by decide +kernel⟩
theorem cs_X0_387 : CsV RX0 387 yX0_winner cX0_winner 4 (some .int) 2 := ⟨lw_V q1283 q1285 qs60 q139 q1286, by decide +kernel⟩
theorem cs_X0_99 : CsV RX0 99 yX0_puts cX0_puts 3 none 1 := ⟨lw_V q516 q518 qs0 q139 q519, by decide +kernel⟩
theorem cs_X0_103 : CsS RX0 103 yX0_isIn cX0_isIn 6 (some .boolean) 3 := ⟨lw_S q524 q525 q139 q526, by decide +kernel⟩
theorem cs_X0_128 : CsV RX0 128 yX0_isDance cX0_isDance 1 (some .boolean) 0 := ⟨lw_V q817 q819 qs22 q139 q820, by decide +kernel⟩
theorem cs_X0_132 : CsS RX0 132 yX0_isOneOf cX0_isOneOf 2 (some .boolean) 2 := ⟨lw_S q821 q822 q139 q823, by decide +kernel⟩
theorem cs_X0_140 : CsV RX0 140 yX0_isSide cX0_isSide 2 (some .boolean) 1 := ⟨lw_V q813 q815 qs21 q139 q816, by decide +kernel⟩
theorem cs_X0_152 : CsV RX0 152 yX0_isPlace cX0_isPlace 3 (some .boolean) 2 := ⟨lw_V q824 q826 qs23 q139 q827, by decide +kernel⟩
theorem cs_X0_155 : CsV RX0 155 yX1_step cX1_step 3 (some .int) 2 := ⟨lw_V q828 q829 q830 q140 q831, by decide +kernel⟩
theorem cs_X0_159 : CsV RX0 159 yX0_isStep cX0_isStep 3 (some .boolean) 1 := ⟨lw_V q836 q838 qs24 q139 q839, by decide +kernel⟩
theorem cs_X0_166 : CsV RX0 166 yX0_isStumble cX0_isStumble 2 (some .boolean) 1 := ⟨lw_V q845 q847 qs25 q139 q848, by decide +kernel⟩
theorem cs_X0_181 : CsV RX0 181 yX0_isBeat cX0_isBeat 3 (some .boolean) 1 := ⟨lw_V q853 q855 qs26 q139 q856, by decide +kernel⟩
theorem cs_X0_203 : CsV RX0 203 yX0_isAsked cX0_isAsked 3 (some .boolean) 2 := ⟨lw_V q862 q864 qs27 q139 q865, by decide +kernel⟩
theorem co_X0_206_X4 : CsO RX0 206 RX4 "OverHill$Plain" ⟨"OverHill$Told", "goesBoth", "()V"⟩ yX2_goesBoth cX2_goesBoth 1 none 0 := ⟨lw_O q866 q867 q871 q869 q871 q141 q872, ⟨_, _, _, q872⟩, by decide +kernel⟩
theorem cs_X0_191 : CsV RX0 191 yX0_stepIn cX0_stepIn 3 (some .int) 2 := ⟨lw_V q939 q941 qs28 q139 q942, by decide +kernel⟩
theorem cs_X0_194 : CsV RX0 194 yX0_heardIn cX0_heardIn 3 (some .int) 2 := ⟨lw_V q947 q949 qs29 q139 q950, by decide +kernel⟩
theorem cs_X0_212 : CsS RX0 212 yJ3_floorMod cJ3_floorMod 3 (some .int) 2 := ⟨lw_S q955 q933 q154 q934, by decide +kernel⟩
/-! java/lang/Math min(II)I: jm_min -/
abbrev rm_jm_min : Room := { frames := 1, cells := 0, slots := 0, locals := 40 }
def wp_jm_min (x0 : Int32) (x1 : Int32) (Q : Int32 → Prop) : Prop :=
  ((x1 < x0 → Q x1) ∧ (¬ x1 < x0 → Q x0))
set_option maxRecDepth 100000 in
theorem met_jm_min (G : Gx) (x0 : Int32) (x1 : Int32) (Q : Int32 → Prop) (h : wp_jm_min x0 x1 Q) : Ri G yJ3_min (ws_ yJ3_min cJ3_min 2 (some .int)) rm_jm_min [] [.int (x0), .int (x1)] Q := by
  refine ent_Ri (by decide +kernel) rfl (Nat.le_of_ble_eq_true rfl) [(0, .int (x0)), (1, .int (x1))] rfl (fun K C N => ?_)
  refine y_iload_n C dJ3_min_0 0 rfl rfl ?_
  refine y_iload_n C dJ3_min_1 1 rfl rfl ?_
  refine y_icmp_gt C (tgt := 9) dJ3_min_2 rfl (fun c_1 => ?_) (fun c_1 => ?_)
  · have h_2 := (h).1 c_1
    refine y_iload_n C dJ3_min_9 1 rfl rfl ?_
    exact y_iretR C N rfl (h_2) dJ3_min_10
  · have h_3 := (h).2 c_1
    refine y_iload_n C dJ3_min_5 0 rfl rfl ?_
    refine y_goto C (tgt := 10) dJ3_min_6 rfl ?_
    exact y_iretR C N rfl (h_3) dJ3_min_10
/-! java/lang/Math max(II)I: jm_max -/
abbrev rm_jm_max : Room := { frames := 1, cells := 0, slots := 0, locals := 40 }
def wp_jm_max (x0 : Int32) (x1 : Int32) (Q : Int32 → Prop) : Prop :=
  ((x0 < x1 → Q x1) ∧ (¬ x0 < x1 → Q x0))
set_option maxRecDepth 100000 in
theorem met_jm_max (G : Gx) (x0 : Int32) (x1 : Int32) (Q : Int32 → Prop) (h : wp_jm_max x0 x1 Q) : Ri G yJ3_max (ws_ yJ3_max cJ3_max 2 (some .int)) rm_jm_max [] [.int (x0), .int (x1)] Q := by
  refine ent_Ri (by decide +kernel) rfl (Nat.le_of_ble_eq_true rfl) [(0, .int (x0)), (1, .int (x1))] rfl (fun K C N => ?_)
  refine y_iload_n C dJ3_max_0 0 rfl rfl ?_
  refine y_iload_n C dJ3_max_1 1 rfl rfl ?_
  refine y_icmp_lt C (tgt := 9) dJ3_max_2 rfl (fun c_1 => ?_) (fun c_1 => ?_)
  · have h_2 := (h).1 c_1
    refine y_iload_n C dJ3_max_9 1 rfl rfl ?_
    exact y_iretR C N rfl (h_2) dJ3_max_10
  · have h_3 := (h).2 c_1
    refine y_iload_n C dJ3_max_5 0 rfl rfl ?_
    refine y_goto C (tgt := 10) dJ3_max_6 rfl ?_
    exact y_iretR C N rfl (h_3) dJ3_max_10
/-! java/lang/Math floorMod(II)I: jm_floorMod -/
abbrev rm_jm_floorMod : Room := { frames := 1, cells := 0, slots := 0, locals := 40 }
def wp_jm_floorMod (x0 : Int32) (x1 : Int32) (Q : Int32 → Prop) : Prop :=
  (¬ x1 = 0 ∧ ((0 ≤ (x0 ^^^ x1) → Q (irm x0 x1)) ∧ (¬ 0 ≤ (x0 ^^^ x1) → (((irm x0 x1) = 0 → Q (irm x0 x1)) ∧ (¬ (irm x0 x1) = 0 → Q ((irm x0 x1) + x1))))))
set_option maxRecDepth 100000 in
theorem met_jm_floorMod (G : Gx) (x0 : Int32) (x1 : Int32) (Q : Int32 → Prop) (h : wp_jm_floorMod x0 x1 Q) : Ri G yJ3_floorMod (ws_ yJ3_floorMod cJ3_floorMod 3 (some .int)) rm_jm_floorMod [] [.int (x0), .int (x1)] Q := by
  refine ent_Ri (by decide +kernel) rfl (Nat.le_of_ble_eq_true rfl) [(0, .int (x0)), (1, .int (x1))] rfl (fun K C N => ?_)
  refine y_iload_n C dJ3_floorMod_0 0 rfl rfl ?_
  refine y_iload_n C dJ3_floorMod_1 1 rfl rfl ?_
  refine y_irem C dJ3_floorMod_2 (h).1 ?_
  refine y_istore_n C dJ3_floorMod_3 rfl (Nat.le_of_ble_eq_true rfl) [(2, .int ((irm x0 x1))), (0, .int (x0)), (1, .int (x1))] rfl ?_
  refine y_iload_n C dJ3_floorMod_4 1 rfl rfl ?_
  refine y_iload_n C dJ3_floorMod_5 2 rfl rfl ?_
  refine y_ixor C dJ3_floorMod_6 ?_
  refine y_if_ge C (tgt := 18) dJ3_floorMod_7 rfl (fun c_1 => ?_) (fun c_1 => ?_)
  · have h_2 := ((h).2).1 c_1
    refine y_iload_n C dJ3_floorMod_18 0 rfl rfl ?_
    exact y_iretR C N rfl (h_2) dJ3_floorMod_19
  · have h_3 := ((h).2).2 c_1
    refine y_iload_n C dJ3_floorMod_10 0 rfl rfl ?_
    refine y_if_eq C (tgt := 18) dJ3_floorMod_11 rfl (fun c_4 => ?_) (fun c_4 => ?_)
    · have h_5 := (h_3).1 c_4
      refine y_iload_n C dJ3_floorMod_18 0 rfl rfl ?_
      exact y_iretR C N rfl (h_5) dJ3_floorMod_19
    · have h_6 := (h_3).2 c_4
      refine y_iload_n C dJ3_floorMod_14 0 rfl rfl ?_
      refine y_iload_n C dJ3_floorMod_15 2 rfl rfl ?_
      refine y_iadd C dJ3_floorMod_16 ?_
      exact y_iretR C N rfl (h_6) dJ3_floorMod_17
/-! java/lang/Integer bitCount(I)I: ji_bitCount -/
abbrev rm_ji_bitCount : Room := { frames := 1, cells := 0, slots := 0, locals := 40 }
def wp_ji_bitCount (x0 : Int32) (Q : Int32 → Prop) : Prop :=
  Q ((((((((x0 - (((x0 : Int32).toUInt32 >>> ((1 : Int32).toUInt32 &&& Int32.toUInt32 31)).toInt32 &&& 1431655765)) &&& 858993459) + ((((x0 - (((x0 : Int32).toUInt32 >>> ((1 : Int32).toUInt32 &&& Int32.toUInt32 31)).toInt32 &&& 1431655765)) : Int32).toUInt32 >>> ((2 : Int32).toUInt32 &&& Int32.toUInt32 31)).toInt32 &&& 858993459)) + (((((x0 - (((x0 : Int32).toUInt32 >>> ((1 : Int32).toUInt32 &&& Int32.toUInt32 31)).toInt32 &&& 1431655765)) &&& 858993459) + ((((x0 - (((x0 : Int32).toUInt32 >>> ((1 : Int32).toUInt32 &&& Int32.toUInt32 31)).toInt32 &&& 1431655765)) : Int32).toUInt32 >>> ((2 : Int32).toUInt32 &&& Int32.toUInt32 31)).toInt32 &&& 858993459)) : Int32).toUInt32 >>> ((4 : Int32).toUInt32 &&& Int32.toUInt32 31)).toInt32) &&& 252645135) + (((((((x0 - (((x0 : Int32).toUInt32 >>> ((1 : Int32).toUInt32 &&& Int32.toUInt32 31)).toInt32 &&& 1431655765)) &&& 858993459) + ((((x0 - (((x0 : Int32).toUInt32 >>> ((1 : Int32).toUInt32 &&& Int32.toUInt32 31)).toInt32 &&& 1431655765)) : Int32).toUInt32 >>> ((2 : Int32).toUInt32 &&& Int32.toUInt32 31)).toInt32 &&& 858993459)) + (((((x0 - (((x0 : Int32).toUInt32 >>> ((1 : Int32).toUInt32 &&& Int32.toUInt32 31)).toInt32 &&& 1431655765)) &&& 858993459) + ((((x0 - (((x0 : Int32).toUInt32 >>> ((1 : Int32).toUInt32 &&& Int32.toUInt32 31)).toInt32 &&& 1431655765)) : Int32).toUInt32 >>> ((2 : Int32).toUInt32 &&& Int32.toUInt32 31)).toInt32 &&& 858993459)) : Int32).toUInt32 >>> ((4 : Int32).toUInt32 &&& Int32.toUInt32 31)).toInt32) &&& 252645135) : Int32).toUInt32 >>> ((8 : Int32).toUInt32 &&& Int32.toUInt32 31)).toInt32) + ((((((((x0 - (((x0 : Int32).toUInt32 >>> ((1 : Int32).toUInt32 &&& Int32.toUInt32 31)).toInt32 &&& 1431655765)) &&& 858993459) + ((((x0 - (((x0 : Int32).toUInt32 >>> ((1 : Int32).toUInt32 &&& Int32.toUInt32 31)).toInt32 &&& 1431655765)) : Int32).toUInt32 >>> ((2 : Int32).toUInt32 &&& Int32.toUInt32 31)).toInt32 &&& 858993459)) + (((((x0 - (((x0 : Int32).toUInt32 >>> ((1 : Int32).toUInt32 &&& Int32.toUInt32 31)).toInt32 &&& 1431655765)) &&& 858993459) + ((((x0 - (((x0 : Int32).toUInt32 >>> ((1 : Int32).toUInt32 &&& Int32.toUInt32 31)).toInt32 &&& 1431655765)) : Int32).toUInt32 >>> ((2 : Int32).toUInt32 &&& Int32.toUInt32 31)).toInt32 &&& 858993459)) : Int32).toUInt32 >>> ((4 : Int32).toUInt32 &&& Int32.toUInt32 31)).toInt32) &&& 252645135) + (((((((x0 - (((x0 : Int32).toUInt32 >>> ((1 : Int32).toUInt32 &&& Int32.toUInt32 31)).toInt32 &&& 1431655765)) &&& 858993459) + ((((x0 - (((x0 : Int32).toUInt32 >>> ((1 : Int32).toUInt32 &&& Int32.toUInt32 31)).toInt32 &&& 1431655765)) : Int32).toUInt32 >>> ((2 : Int32).toUInt32 &&& Int32.toUInt32 31)).toInt32 &&& 858993459)) + (((((x0 - (((x0 : Int32).toUInt32 >>> ((1 : Int32).toUInt32 &&& Int32.toUInt32 31)).toInt32 &&& 1431655765)) &&& 858993459) + ((((x0 - (((x0 : Int32).toUInt32 >>> ((1 : Int32).toUInt32 &&& Int32.toUInt32 31)).toInt32 &&& 1431655765)) : Int32).toUInt32 >>> ((2 : Int32).toUInt32 &&& Int32.toUInt32 31)).toInt32 &&& 858993459)) : Int32).toUInt32 >>> ((4 : Int32).toUInt32 &&& Int32.toUInt32 31)).toInt32) &&& 252645135) : Int32).toUInt32 >>> ((8 : Int32).toUInt32 &&& Int32.toUInt32 31)).toInt32) : Int32).toUInt32 >>> ((16 : Int32).toUInt32 &&& Int32.toUInt32 31)).toInt32) &&& 63)
set_option maxRecDepth 100000 in
theorem met_ji_bitCount (G : Gx) (x0 : Int32) (Q : Int32 → Prop) (h : wp_ji_bitCount x0 Q) : Ri G yJ12_bitCount (ws_ yJ12_bitCount cJ12_bitCount 1 (some .int)) rm_ji_bitCount [] [.int (x0)] Q := by
  refine ent_Ri (by decide +kernel) rfl (Nat.le_of_ble_eq_true rfl) [(0, .int (x0))] rfl (fun K C N => ?_)
  refine y_iload_n C dJ12_bitCount_0 0 rfl rfl ?_
  refine y_iload_n C dJ12_bitCount_1 0 rfl rfl ?_
  refine y_iconst C dJ12_bitCount_2 ic_1 ?_
  refine y_iushr C dJ12_bitCount_3 ?_
  refine y_ldcw C dJ12_bitCount_4 q1260 ?_
  refine y_iand C dJ12_bitCount_7 ?_
  refine y_isub C dJ12_bitCount_8 ?_
  refine y_istore_n C dJ12_bitCount_9 rfl (Nat.le_of_ble_eq_true rfl) [(0, .int ((x0 - (((x0 : Int32).toUInt32 >>> ((1 : Int32).toUInt32 &&& Int32.toUInt32 31)).toInt32 &&& 1431655765))))] rfl ?_
  refine y_iload_n C dJ12_bitCount_10 0 rfl rfl ?_
  refine y_ldcw C dJ12_bitCount_11 q1261 ?_
  refine y_iand C dJ12_bitCount_14 ?_
  refine y_iload_n C dJ12_bitCount_15 0 rfl rfl ?_
  refine y_iconst C dJ12_bitCount_16 ic_2 ?_
  refine y_iushr C dJ12_bitCount_17 ?_
  refine y_ldcw C dJ12_bitCount_18 q1261 ?_
  refine y_iand C dJ12_bitCount_21 ?_
  refine y_iadd C dJ12_bitCount_22 ?_
  refine y_istore_n C dJ12_bitCount_23 rfl (Nat.le_of_ble_eq_true rfl) [(0, .int ((((x0 - (((x0 : Int32).toUInt32 >>> ((1 : Int32).toUInt32 &&& Int32.toUInt32 31)).toInt32 &&& 1431655765)) &&& 858993459) + ((((x0 - (((x0 : Int32).toUInt32 >>> ((1 : Int32).toUInt32 &&& Int32.toUInt32 31)).toInt32 &&& 1431655765)) : Int32).toUInt32 >>> ((2 : Int32).toUInt32 &&& Int32.toUInt32 31)).toInt32 &&& 858993459))))] rfl ?_
  refine y_iload_n C dJ12_bitCount_24 0 rfl rfl ?_
  refine y_iload_n C dJ12_bitCount_25 0 rfl rfl ?_
  refine y_iconst C dJ12_bitCount_26 ic_4 ?_
  refine y_iushr C dJ12_bitCount_27 ?_
  refine y_iadd C dJ12_bitCount_28 ?_
  refine y_ldcw C dJ12_bitCount_29 q1262 ?_
  refine y_iand C dJ12_bitCount_32 ?_
  refine y_istore_n C dJ12_bitCount_33 rfl (Nat.le_of_ble_eq_true rfl) [(0, .int ((((((x0 - (((x0 : Int32).toUInt32 >>> ((1 : Int32).toUInt32 &&& Int32.toUInt32 31)).toInt32 &&& 1431655765)) &&& 858993459) + ((((x0 - (((x0 : Int32).toUInt32 >>> ((1 : Int32).toUInt32 &&& Int32.toUInt32 31)).toInt32 &&& 1431655765)) : Int32).toUInt32 >>> ((2 : Int32).toUInt32 &&& Int32.toUInt32 31)).toInt32 &&& 858993459)) + (((((x0 - (((x0 : Int32).toUInt32 >>> ((1 : Int32).toUInt32 &&& Int32.toUInt32 31)).toInt32 &&& 1431655765)) &&& 858993459) + ((((x0 - (((x0 : Int32).toUInt32 >>> ((1 : Int32).toUInt32 &&& Int32.toUInt32 31)).toInt32 &&& 1431655765)) : Int32).toUInt32 >>> ((2 : Int32).toUInt32 &&& Int32.toUInt32 31)).toInt32 &&& 858993459)) : Int32).toUInt32 >>> ((4 : Int32).toUInt32 &&& Int32.toUInt32 31)).toInt32) &&& 252645135)))] rfl ?_
  refine y_iload_n C dJ12_bitCount_34 0 rfl rfl ?_
  refine y_iload_n C dJ12_bitCount_35 0 rfl rfl ?_
  refine y_bipush C dJ12_bitCount_36 bp_8 ?_
  refine y_iushr C dJ12_bitCount_38 ?_
  refine y_iadd C dJ12_bitCount_39 ?_
  refine y_istore_n C dJ12_bitCount_40 rfl (Nat.le_of_ble_eq_true rfl) [(0, .int (((((((x0 - (((x0 : Int32).toUInt32 >>> ((1 : Int32).toUInt32 &&& Int32.toUInt32 31)).toInt32 &&& 1431655765)) &&& 858993459) + ((((x0 - (((x0 : Int32).toUInt32 >>> ((1 : Int32).toUInt32 &&& Int32.toUInt32 31)).toInt32 &&& 1431655765)) : Int32).toUInt32 >>> ((2 : Int32).toUInt32 &&& Int32.toUInt32 31)).toInt32 &&& 858993459)) + (((((x0 - (((x0 : Int32).toUInt32 >>> ((1 : Int32).toUInt32 &&& Int32.toUInt32 31)).toInt32 &&& 1431655765)) &&& 858993459) + ((((x0 - (((x0 : Int32).toUInt32 >>> ((1 : Int32).toUInt32 &&& Int32.toUInt32 31)).toInt32 &&& 1431655765)) : Int32).toUInt32 >>> ((2 : Int32).toUInt32 &&& Int32.toUInt32 31)).toInt32 &&& 858993459)) : Int32).toUInt32 >>> ((4 : Int32).toUInt32 &&& Int32.toUInt32 31)).toInt32) &&& 252645135) + (((((((x0 - (((x0 : Int32).toUInt32 >>> ((1 : Int32).toUInt32 &&& Int32.toUInt32 31)).toInt32 &&& 1431655765)) &&& 858993459) + ((((x0 - (((x0 : Int32).toUInt32 >>> ((1 : Int32).toUInt32 &&& Int32.toUInt32 31)).toInt32 &&& 1431655765)) : Int32).toUInt32 >>> ((2 : Int32).toUInt32 &&& Int32.toUInt32 31)).toInt32 &&& 858993459)) + (((((x0 - (((x0 : Int32).toUInt32 >>> ((1 : Int32).toUInt32 &&& Int32.toUInt32 31)).toInt32 &&& 1431655765)) &&& 858993459) + ((((x0 - (((x0 : Int32).toUInt32 >>> ((1 : Int32).toUInt32 &&& Int32.toUInt32 31)).toInt32 &&& 1431655765)) : Int32).toUInt32 >>> ((2 : Int32).toUInt32 &&& Int32.toUInt32 31)).toInt32 &&& 858993459)) : Int32).toUInt32 >>> ((4 : Int32).toUInt32 &&& Int32.toUInt32 31)).toInt32) &&& 252645135) : Int32).toUInt32 >>> ((8 : Int32).toUInt32 &&& Int32.toUInt32 31)).toInt32)))] rfl ?_
  refine y_iload_n C dJ12_bitCount_41 0 rfl rfl ?_
  refine y_iload_n C dJ12_bitCount_42 0 rfl rfl ?_
  refine y_bipush C dJ12_bitCount_43 bp_16 ?_
  refine y_iushr C dJ12_bitCount_45 ?_
  refine y_iadd C dJ12_bitCount_46 ?_
  refine y_istore_n C dJ12_bitCount_47 rfl (Nat.le_of_ble_eq_true rfl) [(0, .int ((((((((x0 - (((x0 : Int32).toUInt32 >>> ((1 : Int32).toUInt32 &&& Int32.toUInt32 31)).toInt32 &&& 1431655765)) &&& 858993459) + ((((x0 - (((x0 : Int32).toUInt32 >>> ((1 : Int32).toUInt32 &&& Int32.toUInt32 31)).toInt32 &&& 1431655765)) : Int32).toUInt32 >>> ((2 : Int32).toUInt32 &&& Int32.toUInt32 31)).toInt32 &&& 858993459)) + (((((x0 - (((x0 : Int32).toUInt32 >>> ((1 : Int32).toUInt32 &&& Int32.toUInt32 31)).toInt32 &&& 1431655765)) &&& 858993459) + ((((x0 - (((x0 : Int32).toUInt32 >>> ((1 : Int32).toUInt32 &&& Int32.toUInt32 31)).toInt32 &&& 1431655765)) : Int32).toUInt32 >>> ((2 : Int32).toUInt32 &&& Int32.toUInt32 31)).toInt32 &&& 858993459)) : Int32).toUInt32 >>> ((4 : Int32).toUInt32 &&& Int32.toUInt32 31)).toInt32) &&& 252645135) + (((((((x0 - (((x0 : Int32).toUInt32 >>> ((1 : Int32).toUInt32 &&& Int32.toUInt32 31)).toInt32 &&& 1431655765)) &&& 858993459) + ((((x0 - (((x0 : Int32).toUInt32 >>> ((1 : Int32).toUInt32 &&& Int32.toUInt32 31)).toInt32 &&& 1431655765)) : Int32).toUInt32 >>> ((2 : Int32).toUInt32 &&& Int32.toUInt32 31)).toInt32 &&& 858993459)) + (((((x0 - (((x0 : Int32).toUInt32 >>> ((1 : Int32).toUInt32 &&& Int32.toUInt32 31)).toInt32 &&& 1431655765)) &&& 858993459) + ((((x0 - (((x0 : Int32).toUInt32 >>> ((1 : Int32).toUInt32 &&& Int32.toUInt32 31)).toInt32 &&& 1431655765)) : Int32).toUInt32 >>> ((2 : Int32).toUInt32 &&& Int32.toUInt32 31)).toInt32 &&& 858993459)) : Int32).toUInt32 >>> ((4 : Int32).toUInt32 &&& Int32.toUInt32 31)).toInt32) &&& 252645135) : Int32).toUInt32 >>> ((8 : Int32).toUInt32 &&& Int32.toUInt32 31)).toInt32) + ((((((((x0 - (((x0 : Int32).toUInt32 >>> ((1 : Int32).toUInt32 &&& Int32.toUInt32 31)).toInt32 &&& 1431655765)) &&& 858993459) + ((((x0 - (((x0 : Int32).toUInt32 >>> ((1 : Int32).toUInt32 &&& Int32.toUInt32 31)).toInt32 &&& 1431655765)) : Int32).toUInt32 >>> ((2 : Int32).toUInt32 &&& Int32.toUInt32 31)).toInt32 &&& 858993459)) + (((((x0 - (((x0 : Int32).toUInt32 >>> ((1 : Int32).toUInt32 &&& Int32.toUInt32 31)).toInt32 &&& 1431655765)) &&& 858993459) + ((((x0 - (((x0 : Int32).toUInt32 >>> ((1 : Int32).toUInt32 &&& Int32.toUInt32 31)).toInt32 &&& 1431655765)) : Int32).toUInt32 >>> ((2 : Int32).toUInt32 &&& Int32.toUInt32 31)).toInt32 &&& 858993459)) : Int32).toUInt32 >>> ((4 : Int32).toUInt32 &&& Int32.toUInt32 31)).toInt32) &&& 252645135) + (((((((x0 - (((x0 : Int32).toUInt32 >>> ((1 : Int32).toUInt32 &&& Int32.toUInt32 31)).toInt32 &&& 1431655765)) &&& 858993459) + ((((x0 - (((x0 : Int32).toUInt32 >>> ((1 : Int32).toUInt32 &&& Int32.toUInt32 31)).toInt32 &&& 1431655765)) : Int32).toUInt32 >>> ((2 : Int32).toUInt32 &&& Int32.toUInt32 31)).toInt32 &&& 858993459)) + (((((x0 - (((x0 : Int32).toUInt32 >>> ((1 : Int32).toUInt32 &&& Int32.toUInt32 31)).toInt32 &&& 1431655765)) &&& 858993459) + ((((x0 - (((x0 : Int32).toUInt32 >>> ((1 : Int32).toUInt32 &&& Int32.toUInt32 31)).toInt32 &&& 1431655765)) : Int32).toUInt32 >>> ((2 : Int32).toUInt32 &&& Int32.toUInt32 31)).toInt32 &&& 858993459)) : Int32).toUInt32 >>> ((4 : Int32).toUInt32 &&& Int32.toUInt32 31)).toInt32) &&& 252645135) : Int32).toUInt32 >>> ((8 : Int32).toUInt32 &&& Int32.toUInt32 31)).toInt32) : Int32).toUInt32 >>> ((16 : Int32).toUInt32 &&& Int32.toUInt32 31)).toInt32)))] rfl ?_
  refine y_iload_n C dJ12_bitCount_48 0 rfl rfl ?_
  refine y_bipush C dJ12_bitCount_49 bp_63 ?_
  refine y_iand C dJ12_bitCount_51 ?_
  exact y_iretR C N rfl (h) dJ12_bitCount_52
/-! OverHill$Dance step(II)I: d_step -/
abbrev rm_d_step : Room := { frames := 1, cells := 0, slots := 0, locals := 40 }
def wp_d_step (S : St) (x1 : Int32) (x2 : Int32) (Q : Int32 → Prop) : Prop :=
  (vp_in ((12 * x1) + x2) 24 ∧ Q (S.1 18 (((12 * x1) + x2)).toNatClampNeg))
set_option maxRecDepth 100000 in
theorem met_d_step (G : Gx) (A : Nat → Nat) (S : St) (x1 : Int32) (x2 : Int32) (Q : Int32 → Prop) (h : wp_d_step S x1 x2 Q) : Ri G yX1_step (ws_ yX1_step cX1_step 3 (some .int)) rm_d_step (wD G A S) [.ref (A 15), .int (x1), .int (x2)] Q := by
  refine ent_Ri (by decide +kernel) rfl (Nat.le_of_ble_eq_true rfl) [(0, .ref (A 15)), (1, .int (x1)), (2, .int (x2))] rfl (fun K C N => ?_)
  refine y_aload_n C dX1_step_0 0 rfl rfl ?_
  refine yg_X1_18_wD15 C dX1_step_1 ?_
  refine y_bipush C dX1_step_4 bp_12 ?_
  refine y_iload_n C dX1_step_6 1 rfl rfl ?_
  refine y_imul C dX1_step_7 ?_
  refine y_iload_n C dX1_step_8 2 rfl rfl ?_
  refine y_iadd C dX1_step_9 ?_
  refine y_iald C (wD_18 ..) rfl (h).1 dX1_step_10 ?_
  exact y_iretR C N rfl ((h).2) dX1_step_11
/-! OverHill$Dance stumbleAt(II)I: d_stumbleAt -/
abbrev rm_d_stumbleAt : Room := { frames := 1, cells := 0, slots := 0, locals := 40 }
def wp_d_stumbleAt_b2 (S : St) (Q : Int32 → Prop) (x1 : Int32) (x2 : Int32) : Nat → Int32 → Prop
  | 0 => fun _ => False
  | n + 1 => fun x3 => (((S.1 15 4) ≤ x3 → Q (-1)) ∧ (¬ (S.1 15 4) ≤ x3 → (vp_in x3 8 ∧ ((¬ (S.1 20 (x3).toNatClampNeg) = x1 → wp_d_stumbleAt_b2 S Q x1 x2 n ((x3 + 1))) ∧ ((S.1 20 (x3).toNatClampNeg) = x1 → (vp_in x3 8 ∧ ((¬ (S.1 21 (x3).toNatClampNeg) = x2 → wp_d_stumbleAt_b2 S Q x1 x2 n ((x3 + 1))) ∧ ((S.1 21 (x3).toNatClampNeg) = x2 → Q x3))))))))
def wp_d_stumbleAt (S : St) (x1 : Int32) (x2 : Int32) (Q : Int32 → Prop) : Prop :=
  (∃ z, wp_d_stumbleAt_b2 S Q (x1) (x2) z (0))
set_option maxRecDepth 100000 in
theorem wk_d_stumbleAt_b2 {G : Gx} {K : Kx} {A : Nat → Nat} (C : KOk G K RX1 cX1_stumbleAt rm_d_stumbleAt 4 (some .int)) {S : St} {Q : Int32 → Prop} (N : KRi K Q) (x1 : Int32) (x2 : Int32) : ∀ (n : Nat), ∀ (x3 : Int32), wp_d_stumbleAt_b2 S Q x1 x2 n x3 → Y G K 0 0 (wD G A S) 2 [(0, .ref (A 15)), (1, .int (x1)), (2, .int (x2)), (3, .int (x3))] [] := by
  intro n
  induction n with
  | zero => intro x3 h; exact h.elim
  | succ n ih =>
    intro x3 h
    dsimp only [wp_d_stumbleAt_b2] at h
    refine y_iload_n C dX1_stumbleAt_2 3 rfl rfl ?_
    refine y_aload_n C dX1_stumbleAt_3 0 rfl rfl ?_
    refine yg_X1_55_wD15 C dX1_stumbleAt_4 ?_
    refine y_icmp_ge C (tgt := 38) dX1_stumbleAt_7 rfl (fun c_3 => ?_) (fun c_3 => ?_)
    · have h_4 := (h).1 c_3
      refine y_iconst C dX1_stumbleAt_38 icm1 ?_
      exact y_iretR C N rfl (h_4) dX1_stumbleAt_39
    · have h_5 := (h).2 c_3
      refine y_aload_n C dX1_stumbleAt_10 0 rfl rfl ?_
      refine yg_X1_24_wD15 C dX1_stumbleAt_11 ?_
      refine y_iload_n C dX1_stumbleAt_14 3 rfl rfl ?_
      refine y_iald C (wD_20 ..) rfl (h_5).1 dX1_stumbleAt_15 ?_
      refine y_iload_n C dX1_stumbleAt_16 1 rfl rfl ?_
      refine y_icmp_ne C (tgt := 32) dX1_stumbleAt_17 rfl (fun c_6 => ?_) (fun c_6 => ?_)
      · have h_7 := ((h_5).2).1 c_6
        refine y_iinc C dX1_stumbleAt_32 3 rfl (Nat.le_of_ble_eq_true rfl) (ii_1 _) [(3, .int ((x3 + 1))), (0, .ref (A 15)), (1, .int (x1)), (2, .int (x2))] rfl ?_
        refine y_goto C (tgt := 2) dX1_stumbleAt_35 rfl ?_
        exact Y.sub (ih ((x3 + 1)) (h_7)) [1, 2, 3, 0] rfl
      · have h_8 := ((h_5).2).2 c_6
        refine y_aload_n C dX1_stumbleAt_20 0 rfl rfl ?_
        refine yg_X1_27_wD15 C dX1_stumbleAt_21 ?_
        refine y_iload_n C dX1_stumbleAt_24 3 rfl rfl ?_
        refine y_iald C (wD_21 ..) rfl (h_8).1 dX1_stumbleAt_25 ?_
        refine y_iload_n C dX1_stumbleAt_26 2 rfl rfl ?_
        refine y_icmp_ne C (tgt := 32) dX1_stumbleAt_27 rfl (fun c_9 => ?_) (fun c_9 => ?_)
        · have h_10 := ((h_8).2).1 c_9
          refine y_iinc C dX1_stumbleAt_32 3 rfl (Nat.le_of_ble_eq_true rfl) (ii_1 _) [(3, .int ((x3 + 1))), (0, .ref (A 15)), (1, .int (x1)), (2, .int (x2))] rfl ?_
          refine y_goto C (tgt := 2) dX1_stumbleAt_35 rfl ?_
          exact Y.sub (ih ((x3 + 1)) (h_10)) [1, 2, 3, 0] rfl
        · have h_11 := ((h_8).2).2 c_9
          refine y_iload_n C dX1_stumbleAt_30 3 rfl rfl ?_
          exact y_iretR C N rfl (h_11) dX1_stumbleAt_31
set_option maxRecDepth 100000 in
theorem met_d_stumbleAt (G : Gx) (A : Nat → Nat) (S : St) (x1 : Int32) (x2 : Int32) (Q : Int32 → Prop) (h : wp_d_stumbleAt S x1 x2 Q) : Ri G yX1_stumbleAt (ws_ yX1_stumbleAt cX1_stumbleAt 4 (some .int)) rm_d_stumbleAt (wD G A S) [.ref (A 15), .int (x1), .int (x2)] Q := by
  refine ent_Ri (by decide +kernel) rfl (Nat.le_of_ble_eq_true rfl) [(0, .ref (A 15)), (1, .int (x1)), (2, .int (x2))] rfl (fun K C N => ?_)
  refine y_iconst C dX1_stumbleAt_0 ic_0 ?_
  refine y_istore_n C dX1_stumbleAt_1 rfl (Nat.le_of_ble_eq_true rfl) [(3, .int (0)), (0, .ref (A 15)), (1, .int (x1)), (2, .int (x2))] rfl ?_
  obtain ⟨n_1, h_2⟩ := h
  exact Y.sub (wk_d_stumbleAt_b2 C N (x1) (x2) n_1 (0) h_2) [1, 2, 3, 0] rfl
/-! OverHill$Muddy isMud(I)Z: u_isMud_5 -/
abbrev rm_u_isMud_5 : Room := { frames := 1, cells := 0, slots := 0, locals := 40 }
def wp_u_isMud_5 (S : St) (x1 : Int32) (Q : Int32 → Prop) : Prop :=
  (vp_in x1 200 ∧ (narrow .boolean (.int (S.1 29 (x1).toNatClampNeg)) = .int (S.1 29 (x1).toNatClampNeg) ∧ Q (S.1 29 (x1).toNatClampNeg)))
set_option maxRecDepth 100000 in
theorem met_u_isMud_5 (G : Gx) (A : Nat → Nat) (S : St) (x1 : Int32) (Q : Int32 → Prop) (h : wp_u_isMud_5 S x1 Q) : Ri G yX3_isMud (ws_ yX3_isMud cX3_isMud 2 (some .boolean)) rm_u_isMud_5 (wC G A S) [.ref (A 5), .int (x1)] Q := by
  refine ent_Ri (by decide +kernel) rfl (Nat.le_of_ble_eq_true rfl) [(0, .ref (A 5)), (1, .int (x1))] rfl (fun K C N => ?_)
  refine y_aload_n C dX3_isMud_0 0 rfl rfl ?_
  refine yg_X3_1_wC5 C dX3_isMud_1 ?_
  refine yg_X3_13_wC0 C dX3_isMud_4 ?_
  refine yg_X3_19_wC15 C dX3_isMud_7 ?_
  refine y_iload_n C dX3_isMud_10 1 rfl rfl ?_
  refine y_zald C (wC_29 ..) rfl (h).1 dX3_isMud_11 ?_
  exact y_zretR C N rfl ((h).2).1 (((h).2).2) dX3_isMud_12
/-! OverHill$Muddy isMud(I)Z: u_isMud_6 -/
abbrev rm_u_isMud_6 : Room := { frames := 1, cells := 0, slots := 0, locals := 40 }
def wp_u_isMud_6 (S : St) (x1 : Int32) (Q : Int32 → Prop) : Prop :=
  (vp_in x1 200 ∧ (narrow .boolean (.int (S.1 29 (x1).toNatClampNeg)) = .int (S.1 29 (x1).toNatClampNeg) ∧ Q (S.1 29 (x1).toNatClampNeg)))
set_option maxRecDepth 100000 in
theorem met_u_isMud_6 (G : Gx) (A : Nat → Nat) (S : St) (x1 : Int32) (Q : Int32 → Prop) (h : wp_u_isMud_6 S x1 Q) : Ri G yX3_isMud (ws_ yX3_isMud cX3_isMud 2 (some .boolean)) rm_u_isMud_6 (wC G A S) [.ref (A 6), .int (x1)] Q := by
  refine ent_Ri (by decide +kernel) rfl (Nat.le_of_ble_eq_true rfl) [(0, .ref (A 6)), (1, .int (x1))] rfl (fun K C N => ?_)
  refine y_aload_n C dX3_isMud_0 0 rfl rfl ?_
  refine yg_X3_1_wC6 C dX3_isMud_1 ?_
  refine yg_X3_13_wC0 C dX3_isMud_4 ?_
  refine yg_X3_19_wC15 C dX3_isMud_7 ?_
  refine y_iload_n C dX3_isMud_10 1 rfl rfl ?_
  refine y_zald C (wC_29 ..) rfl (h).1 dX3_isMud_11 ?_
  exact y_zretR C N rfl ((h).2).1 (((h).2).2) dX3_isMud_12
/-! OverHill$Muddy isMud(I)Z: u_isMud_7 -/
abbrev rm_u_isMud_7 : Room := { frames := 1, cells := 0, slots := 0, locals := 40 }
def wp_u_isMud_7 (S : St) (x1 : Int32) (Q : Int32 → Prop) : Prop :=
  (vp_in x1 200 ∧ (narrow .boolean (.int (S.1 29 (x1).toNatClampNeg)) = .int (S.1 29 (x1).toNatClampNeg) ∧ Q (S.1 29 (x1).toNatClampNeg)))
set_option maxRecDepth 100000 in
theorem met_u_isMud_7 (G : Gx) (A : Nat → Nat) (S : St) (x1 : Int32) (Q : Int32 → Prop) (h : wp_u_isMud_7 S x1 Q) : Ri G yX3_isMud (ws_ yX3_isMud cX3_isMud 2 (some .boolean)) rm_u_isMud_7 (wC G A S) [.ref (A 7), .int (x1)] Q := by
  refine ent_Ri (by decide +kernel) rfl (Nat.le_of_ble_eq_true rfl) [(0, .ref (A 7)), (1, .int (x1))] rfl (fun K C N => ?_)
  refine y_aload_n C dX3_isMud_0 0 rfl rfl ?_
  refine yg_X3_1_wC7 C dX3_isMud_1 ?_
  refine yg_X3_13_wC0 C dX3_isMud_4 ?_
  refine yg_X3_19_wC15 C dX3_isMud_7 ?_
  refine y_iload_n C dX3_isMud_10 1 rfl rfl ?_
  refine y_zald C (wC_29 ..) rfl (h).1 dX3_isMud_11 ?_
  exact y_zretR C N rfl ((h).2).1 (((h).2).2) dX3_isMud_12
/-! OverHill$Told stumble(II)I: t_stumble_5 -/
abbrev rm_t_stumble_5 : Room := { frames := 2, cells := 0, slots := 0, locals := 63 }
def wp_t_stumble_5 (S : St) (x1 : Int32) (x2 : Int32) (Q : Int32 → Prop) : Prop :=
  wp_d_stumbleAt S (x1) (x2) (fun r_1 => Q r_1)
set_option maxRecDepth 100000 in
theorem met_t_stumble_5 (G : Gx) (A : Nat → Nat) (S : St) (x1 : Int32) (x2 : Int32) (Q : Int32 → Prop) (h : wp_t_stumble_5 S x1 x2 Q) : Ri G yX4_stumble (ws_ yX4_stumble cX4_stumble 3 (some .int)) rm_t_stumble_5 (wC G A S) [.ref (A 5), .int (x1), .int (x2)] Q := by
  refine ent_Ri (by decide +kernel) rfl (Nat.le_of_ble_eq_true rfl) [(0, .ref (A 5)), (1, .int (x1)), (2, .int (x2))] rfl (fun K C N => ?_)
  refine y_aload_n C dX4_stumble_0 0 rfl rfl ?_
  refine yg_X4_1_wC5 C dX4_stumble_1 ?_
  refine yg_X4_13_wC0 C dX4_stumble_4 ?_
  refine y_iload_n C dX4_stumble_7 1 rfl rfl ?_
  refine y_iload_n C dX4_stumble_8 2 rfl rfl ?_
  refine y_callRiV (As := [.int (x1), .int (x2)]) (rest := []) C cs_X4_19 (met_d_stumbleAt G A S (x1) (x2) _ (h)) (fun _ h => wC_D h) (wC_15 ..) rfl rfl ⟨rfl, rfl, Nat.le_of_ble_eq_true rfl, Nat.le_of_ble_eq_true rfl⟩ rfl rfl (Nat.le_of_ble_eq_true rfl) dX4_stumble_9 ⟨Nat.zero_le _, Nat.zero_le _⟩ (fun r_1 h_2 => ?_)
  exact y_iretR C N rfl (h_2) dX4_stumble_12
/-! OverHill$Told stumble(II)I: t_stumble_6 -/
abbrev rm_t_stumble_6 : Room := { frames := 2, cells := 0, slots := 0, locals := 63 }
def wp_t_stumble_6 (S : St) (x1 : Int32) (x2 : Int32) (Q : Int32 → Prop) : Prop :=
  wp_d_stumbleAt S (x1) (x2) (fun r_1 => Q r_1)
set_option maxRecDepth 100000 in
theorem met_t_stumble_6 (G : Gx) (A : Nat → Nat) (S : St) (x1 : Int32) (x2 : Int32) (Q : Int32 → Prop) (h : wp_t_stumble_6 S x1 x2 Q) : Ri G yX4_stumble (ws_ yX4_stumble cX4_stumble 3 (some .int)) rm_t_stumble_6 (wC G A S) [.ref (A 6), .int (x1), .int (x2)] Q := by
  refine ent_Ri (by decide +kernel) rfl (Nat.le_of_ble_eq_true rfl) [(0, .ref (A 6)), (1, .int (x1)), (2, .int (x2))] rfl (fun K C N => ?_)
  refine y_aload_n C dX4_stumble_0 0 rfl rfl ?_
  refine yg_X4_1_wC6 C dX4_stumble_1 ?_
  refine yg_X4_13_wC0 C dX4_stumble_4 ?_
  refine y_iload_n C dX4_stumble_7 1 rfl rfl ?_
  refine y_iload_n C dX4_stumble_8 2 rfl rfl ?_
  refine y_callRiV (As := [.int (x1), .int (x2)]) (rest := []) C cs_X4_19 (met_d_stumbleAt G A S (x1) (x2) _ (h)) (fun _ h => wC_D h) (wC_15 ..) rfl rfl ⟨rfl, rfl, Nat.le_of_ble_eq_true rfl, Nat.le_of_ble_eq_true rfl⟩ rfl rfl (Nat.le_of_ble_eq_true rfl) dX4_stumble_9 ⟨Nat.zero_le _, Nat.zero_le _⟩ (fun r_1 h_2 => ?_)
  exact y_iretR C N rfl (h_2) dX4_stumble_12
/-! OverHill$Thought stumble(II)I: h_stumble_7 -/
abbrev rm_h_stumble_7 : Room := { frames := 1, cells := 0, slots := 0, locals := 40 }
def wp_h_stumble_7 (S : St) (x1 : Int32) (x2 : Int32) (Q : Int32 → Prop) : Prop :=
  (((S.1 7 2) ≤ 0 → Q (-1)) ∧ (¬ (S.1 7 2) ≤ 0 → ((¬ (((S.1 7 2) - 1) / 60) = x2 → Q (-1)) ∧ ((((S.1 7 2) - 1) / 60) = x2 → Q (S.1 7 2)))))
set_option maxRecDepth 100000 in
theorem met_h_stumble_7 (G : Gx) (A : Nat → Nat) (S : St) (x1 : Int32) (x2 : Int32) (Q : Int32 → Prop) (h : wp_h_stumble_7 S x1 x2 Q) : Ri G yX6_stumble (ws_ yX6_stumble cX6_stumble 3 (some .int)) rm_h_stumble_7 (wC G A S) [.ref (A 7), .int (x1), .int (x2)] Q := by
  refine ent_Ri (by decide +kernel) rfl (Nat.le_of_ble_eq_true rfl) [(0, .ref (A 7)), (1, .int (x1)), (2, .int (x2))] rfl (fun K C N => ?_)
  refine y_aload_n C dX6_stumble_0 0 rfl rfl ?_
  refine yg_X6_15_wC7 C dX6_stumble_1 ?_
  refine y_if_le C (tgt := 27) dX6_stumble_4 rfl (fun c_1 => ?_) (fun c_1 => ?_)
  · have h_2 := (h).1 c_1
    refine y_iconst C dX6_stumble_27 icm1 ?_
    exact y_iretR C N rfl (h_2) dX6_stumble_28
  · have h_3 := (h).2 c_1
    refine y_aload_n C dX6_stumble_7 0 rfl rfl ?_
    refine yg_X6_15_wC7 C dX6_stumble_8 ?_
    refine y_iconst C dX6_stumble_11 ic_1 ?_
    refine y_isub C dX6_stumble_12 ?_
    refine y_bipush C dX6_stumble_13 bp_60 ?_
    refine y_idiv C dX6_stumble_15 nz_I_60 ?_
    refine y_iload_n C dX6_stumble_16 2 rfl rfl ?_
    refine y_icmp_ne C (tgt := 27) dX6_stumble_17 rfl (fun c_4 => ?_) (fun c_4 => ?_)
    · have h_5 := (h_3).1 c_4
      refine y_iconst C dX6_stumble_27 icm1 ?_
      exact y_iretR C N rfl (h_5) dX6_stumble_28
    · have h_6 := (h_3).2 c_4
      refine y_aload_n C dX6_stumble_20 0 rfl rfl ?_
      refine yg_X6_15_wC7 C dX6_stumble_21 ?_
      refine y_goto C (tgt := 28) dX6_stumble_24 rfl ?_
      exact y_iretR C N rfl (h_6) dX6_stumble_28
/-! OverHill$Without stumble(II)I: w_stumble_6 -/
abbrev rm_w_stumble_6 : Room := { frames := 3, cells := 0, slots := 0, locals := 85 }
def wp_w_stumble_6 (S : St) (x1 : Int32) (x2 : Int32) (Q : Int32 → Prop) : Prop :=
  wp_t_stumble_6 S (x1) (x2) (fun r_1 => ((¬ r_1 = (S.1 6 3) → Q r_1) ∧ (r_1 = (S.1 6 3) → Q (-1))))
set_option maxRecDepth 100000 in
theorem met_w_stumble_6 (G : Gx) (A : Nat → Nat) (S : St) (x1 : Int32) (x2 : Int32) (Q : Int32 → Prop) (h : wp_w_stumble_6 S x1 x2 Q) : Ri G yX5_stumble (ws_ yX5_stumble cX5_stumble 4 (some .int)) rm_w_stumble_6 (wC G A S) [.ref (A 6), .int (x1), .int (x2)] Q := by
  refine ent_Ri (by decide +kernel) rfl (Nat.le_of_ble_eq_true rfl) [(0, .ref (A 6)), (1, .int (x1)), (2, .int (x2))] rfl (fun K C N => ?_)
  refine y_aload_n C dX5_stumble_0 0 rfl rfl ?_
  refine y_iload_n C dX5_stumble_1 1 rfl rfl ?_
  refine y_iload_n C dX5_stumble_2 2 rfl rfl ?_
  refine y_callRiU (As := [.int (x1), .int (x2)]) (rest := []) C cu_X5_15 (met_t_stumble_6 G A S (x1) (x2) _ (h)) (fun _ h => h) (wC_6 ..) rfl ⟨rfl, rfl, Nat.le_of_ble_eq_true rfl, Nat.le_of_ble_eq_true rfl⟩ rfl rfl (Nat.le_of_ble_eq_true rfl) dX5_stumble_3 ⟨Nat.zero_le _, Nat.zero_le _⟩ (fun r_1 h_2 => ?_)
  refine y_istore_n C dX5_stumble_6 rfl (Nat.le_of_ble_eq_true rfl) [(3, .int (r_1)), (0, .ref (A 6)), (1, .int (x1)), (2, .int (x2))] rfl ?_
  refine y_iload_n C dX5_stumble_7 0 rfl rfl ?_
  refine y_aload_n C dX5_stumble_8 1 rfl rfl ?_
  refine yg_X5_19_wC6 C dX5_stumble_9 ?_
  refine y_icmp_ne C (tgt := 19) dX5_stumble_12 rfl (fun c_4 => ?_) (fun c_4 => ?_)
  · have h_5 := (h_2).1 c_4
    refine y_iload_n C dX5_stumble_19 0 rfl rfl ?_
    exact y_iretR C N rfl (h_5) dX5_stumble_20
  · have h_6 := (h_2).2 c_4
    refine y_iconst C dX5_stumble_15 icm1 ?_
    refine y_goto C (tgt := 20) dX5_stumble_16 rfl ?_
    exact y_iretR C N rfl (h_6) dX5_stumble_20
/-! OverHill$Told does(I)I: t_does_5 -/
abbrev rm_t_does_5 : Room := { frames := 1, cells := 0, slots := 0, locals := 40 }
def wp_t_does_5 (S : St) (x1 : Int32) (Q : Int32 → Prop) : Prop :=
  (vp_in x1 8 ∧ Q (S.1 22 (x1).toNatClampNeg))
set_option maxRecDepth 100000 in
theorem met_t_does_5 (G : Gx) (A : Nat → Nat) (S : St) (x1 : Int32) (Q : Int32 → Prop) (h : wp_t_does_5 S x1 Q) : Ri G yX4_does (ws_ yX4_does cX4_does 2 (some .int)) rm_t_does_5 (wC G A S) [.ref (A 5), .int (x1)] Q := by
  refine ent_Ri (by decide +kernel) rfl (Nat.le_of_ble_eq_true rfl) [(0, .ref (A 5)), (1, .int (x1))] rfl (fun K C N => ?_)
  refine y_aload_n C dX4_does_0 0 rfl rfl ?_
  refine yg_X4_1_wC5 C dX4_does_1 ?_
  refine yg_X4_13_wC0 C dX4_does_4 ?_
  refine yg_X4_25_wC15 C dX4_does_7 ?_
  refine y_iload_n C dX4_does_10 1 rfl rfl ?_
  refine y_iald C (wC_22 ..) rfl (h).1 dX4_does_11 ?_
  exact y_iretR C N rfl ((h).2) dX4_does_12
/-! OverHill$Told does(I)I: t_does_6 -/
abbrev rm_t_does_6 : Room := { frames := 1, cells := 0, slots := 0, locals := 40 }
def wp_t_does_6 (S : St) (x1 : Int32) (Q : Int32 → Prop) : Prop :=
  (vp_in x1 8 ∧ Q (S.1 22 (x1).toNatClampNeg))
set_option maxRecDepth 100000 in
theorem met_t_does_6 (G : Gx) (A : Nat → Nat) (S : St) (x1 : Int32) (Q : Int32 → Prop) (h : wp_t_does_6 S x1 Q) : Ri G yX4_does (ws_ yX4_does cX4_does 2 (some .int)) rm_t_does_6 (wC G A S) [.ref (A 6), .int (x1)] Q := by
  refine ent_Ri (by decide +kernel) rfl (Nat.le_of_ble_eq_true rfl) [(0, .ref (A 6)), (1, .int (x1))] rfl (fun K C N => ?_)
  refine y_aload_n C dX4_does_0 0 rfl rfl ?_
  refine yg_X4_1_wC6 C dX4_does_1 ?_
  refine yg_X4_13_wC0 C dX4_does_4 ?_
  refine yg_X4_25_wC15 C dX4_does_7 ?_
  refine y_iload_n C dX4_does_10 1 rfl rfl ?_
  refine y_iald C (wC_22 ..) rfl (h).1 dX4_does_11 ?_
  exact y_iretR C N rfl ((h).2) dX4_does_12
/-! OverHill$Thought does(I)I: h_does_7 -/
abbrev rm_h_does_7 : Room := { frames := 1, cells := 0, slots := 0, locals := 40 }
def wp_h_does_7 (S : St) (x1 : Int32) (Q : Int32 → Prop) : Prop :=
  Q ((irm (x1 - 1) 60) / 10)
set_option maxRecDepth 100000 in
theorem met_h_does_7 (G : Gx) (A : Nat → Nat) (S : St) (x1 : Int32) (Q : Int32 → Prop) (h : wp_h_does_7 S x1 Q) : Ri G yX6_does (ws_ yX6_does cX6_does 2 (some .int)) rm_h_does_7 (wC G A S) [.ref (A 7), .int (x1)] Q := by
  refine ent_Ri (by decide +kernel) rfl (Nat.le_of_ble_eq_true rfl) [(0, .ref (A 7)), (1, .int (x1))] rfl (fun K C N => ?_)
  refine y_iload_n C dX6_does_0 1 rfl rfl ?_
  refine y_iconst C dX6_does_1 ic_1 ?_
  refine y_isub C dX6_does_2 ?_
  refine y_bipush C dX6_does_3 bp_60 ?_
  refine y_irem C dX6_does_5 nz_I_60 ?_
  refine y_bipush C dX6_does_6 bp_10 ?_
  refine y_idiv C dX6_does_8 nz_I_10 ?_
  exact y_iretR C N rfl (h) dX6_does_9
/-! OverHill$Told lag(I)I: t_lag_5 -/
abbrev rm_t_lag_5 : Room := { frames := 1, cells := 0, slots := 0, locals := 40 }
def wp_t_lag_5 (S : St) (x1 : Int32) (Q : Int32 → Prop) : Prop :=
  (vp_in x1 8 ∧ Q (S.1 23 (x1).toNatClampNeg))
set_option maxRecDepth 100000 in
theorem met_t_lag_5 (G : Gx) (A : Nat → Nat) (S : St) (x1 : Int32) (Q : Int32 → Prop) (h : wp_t_lag_5 S x1 Q) : Ri G yX4_lag (ws_ yX4_lag cX4_lag 2 (some .int)) rm_t_lag_5 (wC G A S) [.ref (A 5), .int (x1)] Q := by
  refine ent_Ri (by decide +kernel) rfl (Nat.le_of_ble_eq_true rfl) [(0, .ref (A 5)), (1, .int (x1))] rfl (fun K C N => ?_)
  refine y_aload_n C dX4_lag_0 0 rfl rfl ?_
  refine yg_X4_1_wC5 C dX4_lag_1 ?_
  refine yg_X4_13_wC0 C dX4_lag_4 ?_
  refine yg_X4_29_wC15 C dX4_lag_7 ?_
  refine y_iload_n C dX4_lag_10 1 rfl rfl ?_
  refine y_iald C (wC_23 ..) rfl (h).1 dX4_lag_11 ?_
  exact y_iretR C N rfl ((h).2) dX4_lag_12
/-! OverHill$Told lag(I)I: t_lag_6 -/
abbrev rm_t_lag_6 : Room := { frames := 1, cells := 0, slots := 0, locals := 40 }
def wp_t_lag_6 (S : St) (x1 : Int32) (Q : Int32 → Prop) : Prop :=
  (vp_in x1 8 ∧ Q (S.1 23 (x1).toNatClampNeg))
set_option maxRecDepth 100000 in
theorem met_t_lag_6 (G : Gx) (A : Nat → Nat) (S : St) (x1 : Int32) (Q : Int32 → Prop) (h : wp_t_lag_6 S x1 Q) : Ri G yX4_lag (ws_ yX4_lag cX4_lag 2 (some .int)) rm_t_lag_6 (wC G A S) [.ref (A 6), .int (x1)] Q := by
  refine ent_Ri (by decide +kernel) rfl (Nat.le_of_ble_eq_true rfl) [(0, .ref (A 6)), (1, .int (x1))] rfl (fun K C N => ?_)
  refine y_aload_n C dX4_lag_0 0 rfl rfl ?_
  refine yg_X4_1_wC6 C dX4_lag_1 ?_
  refine yg_X4_13_wC0 C dX4_lag_4 ?_
  refine yg_X4_29_wC15 C dX4_lag_7 ?_
  refine y_iload_n C dX4_lag_10 1 rfl rfl ?_
  refine y_iald C (wC_23 ..) rfl (h).1 dX4_lag_11 ?_
  exact y_iretR C N rfl ((h).2) dX4_lag_12
/-! OverHill$Thought lag(I)I: h_lag_7 -/
abbrev rm_h_lag_7 : Room := { frames := 1, cells := 0, slots := 0, locals := 40 }
def wp_h_lag_7 (S : St) (x1 : Int32) (Q : Int32 → Prop) : Prop :=
  Q (irm (x1 - 1) 10)
set_option maxRecDepth 100000 in
theorem met_h_lag_7 (G : Gx) (A : Nat → Nat) (S : St) (x1 : Int32) (Q : Int32 → Prop) (h : wp_h_lag_7 S x1 Q) : Ri G yX6_lag (ws_ yX6_lag cX6_lag 2 (some .int)) rm_h_lag_7 (wC G A S) [.ref (A 7), .int (x1)] Q := by
  refine ent_Ri (by decide +kernel) rfl (Nat.le_of_ble_eq_true rfl) [(0, .ref (A 7)), (1, .int (x1))] rfl (fun K C N => ?_)
  refine y_iload_n C dX6_lag_0 1 rfl rfl ?_
  refine y_iconst C dX6_lag_1 ic_1 ?_
  refine y_isub C dX6_lag_2 ?_
  refine y_bipush C dX6_lag_3 bp_10 ?_
  refine y_irem C dX6_lag_5 nz_I_10 ?_
  exact y_iretR C N rfl (h) dX6_lag_6
/-! OverHill$Plain goes(I)V: p_goes_5 -/
abbrev rm_p_goes_5 : Room := { frames := 4, cells := 0, slots := 0, locals := 108 }
def wp_p_goes_5_b148 (Q : St → Prop) (x1 : Int32) (K15 : St → Int32 → Int32 → Prop) (S : St) (x2 : Int32) (x3 : Int32) (x4 : Int32) (s0 : Int32) (s1 : Int32) : Prop :=
  (vp_in s1 400 ∧ (vp_in x1 2 ∧ (¬ ((sI S 3 (s1).toNatClampNeg s0).1 16 (x1).toNatClampNeg) = 0 ∧ ((x4 = (-1) → K15 (sI S 3 (s1).toNatClampNeg s0) ((irm (x2 + 1) ((sI S 3 (s1).toNatClampNeg s0).1 16 (x1).toNatClampNeg))) ((x3 + 1))) ∧ (¬ x4 = (-1) → wp_t_lag_5 (sI S 3 (s1).toNatClampNeg s0) (x4) (fun r_33 => (vp_in x1 2 ∧ wp_jm_floorMod (((irm (x2 + 1) ((sI S 3 (s1).toNatClampNeg s0).1 16 (x1).toNatClampNeg)) - r_33)) (((sI S 3 (s1).toNatClampNeg s0).1 16 (x1).toNatClampNeg)) (fun r_36 => K15 (sI S 3 (s1).toNatClampNeg s0) (r_36) ((x3 + 1))))))))))
def wp_p_goes_5_b56 (Q : St → Prop) (x1 : Int32) (K15 : St → Int32 → Int32 → Prop) (S : St) (x2 : Int32) (x3 : Int32) (s0 : Int32) (s1 : Int32) : Prop :=
  (vp_in s1 400 ∧ (vp_in ((200 * x1) + x3) 400 ∧ (vp_in x1 2 ∧ ((((sI (sI S 2 (s1).toNatClampNeg s0) 3 (((200 * x1) + x3)).toNatClampNeg (-1)).1 16 (x1).toNatClampNeg) = 0 → K15 (sI (sI S 2 (s1).toNatClampNeg s0) 3 (((200 * x1) + x3)).toNatClampNeg (-1)) (x2) ((x3 + 1))) ∧ (¬ ((sI (sI S 2 (s1).toNatClampNeg s0) 3 (((200 * x1) + x3)).toNatClampNeg (-1)).1 16 (x1).toNatClampNeg) = 0 → wp_u_isMud_5 (sI (sI S 2 (s1).toNatClampNeg s0) 3 (((200 * x1) + x3)).toNatClampNeg (-1)) (x3) (fun r_12 => ((r_12 = 0 → wp_t_stumble_5 (sI (sI S 2 (s1).toNatClampNeg s0) 3 (((200 * x1) + x3)).toNatClampNeg (-1)) (x1) (x3) (fun r_17 => ((¬ r_17 = (-1) → wp_t_does_5 (sI (sI S 2 (s1).toNatClampNeg s0) 3 (((200 * x1) + x3)).toNatClampNeg (-1)) (r_17) (fun r_22 => wp_p_goes_5_b148 Q (x1) K15 (sI (sI S 2 (s1).toNatClampNeg s0) 3 (((200 * x1) + x3)).toNatClampNeg (-1)) (x2) (x3) (r_17) (r_22) (((200 * x1) + x3)))) ∧ (r_17 = (-1) → wp_d_step (sI (sI S 2 (s1).toNatClampNeg s0) 3 (((200 * x1) + x3)).toNatClampNeg (-1)) (x1) (x2) (fun r_26 => wp_p_goes_5_b148 Q (x1) K15 (sI (sI S 2 (s1).toNatClampNeg s0) 3 (((200 * x1) + x3)).toNatClampNeg (-1)) (x2) (x3) (r_17) (r_26) (((200 * x1) + x3))))))) ∧ (¬ r_12 = 0 → K15 (sI (sI S 2 (s1).toNatClampNeg s0) 3 (((200 * x1) + x3)).toNatClampNeg (-1)) (x2) ((x3 + 1))))))))))
def wp_p_goes_5_b15 (Q : St → Prop) (x1 : Int32) : Nat → St → Int32 → Int32 → Prop
  | 0 => fun _ _ _ => False
  | n + 1 => fun S x2 x3 => ((200 ≤ x3 → Q S) ∧ (¬ 200 ≤ x3 → (vp_in x1 2 ∧ ((¬ (S.1 16 (x1).toNatClampNeg) = 0 → wp_p_goes_5_b56 Q (x1) (fun Sy y2 y3 => wp_p_goes_5_b15 Q x1 n Sy y2 y3) S (x2) (x3) (x2) (((200 * x1) + x3))) ∧ ((S.1 16 (x1).toNatClampNeg) = 0 → wp_p_goes_5_b56 Q (x1) (fun Sy y2 y3 => wp_p_goes_5_b15 Q x1 n Sy y2 y3) S (x2) (x3) ((-1)) (((200 * x1) + x3)))))))
def wp_p_goes_5 (S : St) (x1 : Int32) (Q : St → Prop) : Prop :=
  (vp_in x1 2 ∧ (∃ z, wp_p_goes_5_b15 Q (x1) z S ((S.1 17 (x1).toNatClampNeg)) (0)))
set_option maxRecDepth 100000 in
theorem wk_p_goes_5_b148 {G : Gx} {K : Kx} {A : Nat → Nat} (C : KOk G K RX2 cX2_goes rm_p_goes_5 5 none) {B : Nat → Prop} (M : KM G K B) {Q : St → Prop} (N : KQv G K B (wC G A) Q) (x1 : Int32) (K15 : St → Int32 → Int32 → Prop) (hK15 : ∀ (S : St) (x2 : Int32) (x3 : Int32), K15 S x2 x3 → Y G K 0 0 (wC G A S) 15 [(0, .ref (A 5)), (1, .int (x1)), (2, .int (x2)), (3, .int (x3))] []) (S : St) (x2 : Int32) (x3 : Int32) (x4 : Int32) (s0 : Int32) (s1 : Int32) (h : wp_p_goes_5_b148 Q x1 K15 S x2 x3 x4 s0 s1) : Y G K 0 0 (wC G A S) 148 [(0, .ref (A 5)), (1, .int (x1)), (2, .int (x2)), (3, .int (x3)), (4, .int (x4))] [.int (s0), .int (s1), .ref (A 3)] := by
  refine y_iast C M (wC_3 ..) rfl (wC_s3 ..) (h).1 dX2_goes_148 ?_
  refine y_iload_n C dX2_goes_149 2 rfl rfl ?_
  refine y_iconst C dX2_goes_150 ic_1 ?_
  refine y_iadd C dX2_goes_151 ?_
  refine y_aload_n C dX2_goes_152 0 rfl rfl ?_
  refine yg_X2_3_wC5 C dX2_goes_153 ?_
  refine yg_X2_15_wC0 C dX2_goes_156 ?_
  refine yg_X2_28_wC15 C dX2_goes_159 ?_
  refine y_iload_n C dX2_goes_162 1 rfl rfl ?_
  refine y_iald C (wC_16 ..) rfl ((h).2).1 dX2_goes_163 ?_
  refine y_irem C dX2_goes_164 (((h).2).2).1 ?_
  refine y_istore_n C dX2_goes_165 rfl (Nat.le_of_ble_eq_true rfl) [(2, .int ((irm (x2 + 1) ((sI S 3 (s1).toNatClampNeg s0).1 16 (x1).toNatClampNeg)))), (0, .ref (A 5)), (1, .int (x1)), (3, .int (x3)), (4, .int (x4))] rfl ?_
  refine y_iload C dX2_goes_166 4 rfl ?_
  refine y_iconst C dX2_goes_168 icm1 ?_
  refine y_icmp_eq C (tgt := 196) dX2_goes_169 rfl (fun c_30 => ?_) (fun c_30 => ?_)
  · have h_31 := ((((h).2).2).2).1 c_30
    refine y_iinc C dX2_goes_196 3 rfl (Nat.le_of_ble_eq_true rfl) (ii_1 _) [(3, .int ((x3 + 1))), (2, .int ((irm (x2 + 1) ((sI S 3 (s1).toNatClampNeg s0).1 16 (x1).toNatClampNeg)))), (0, .ref (A 5)), (1, .int (x1)), (4, .int (x4))] rfl ?_
    refine y_goto C (tgt := 15) dX2_goes_199 rfl ?_
    exact Y.sub (hK15 (sI S 3 (s1).toNatClampNeg s0) ((irm (x2 + 1) ((sI S 3 (s1).toNatClampNeg s0).1 16 (x1).toNatClampNeg))) ((x3 + 1)) (h_31)) [2, 3, 1, 0] rfl
  · have h_32 := ((((h).2).2).2).2 c_30
    refine y_iload_n C dX2_goes_172 0 rfl rfl ?_
    refine y_aload_n C dX2_goes_173 1 rfl rfl ?_
    refine y_iload C dX2_goes_174 4 rfl ?_
    refine y_callRiO (As := [.int (x4)]) (rest := [.int ((irm (x2 + 1) ((sI S 3 (s1).toNatClampNeg s0).1 16 (x1).toNatClampNeg)))]) C co_X2_49_X4 (met_t_lag_5 G A (sI S 3 (s1).toNatClampNeg s0) (x4) _ (h_32)) (fun _ h => h) (wC_5 ..) rfl rfl ⟨rfl, rfl, Nat.le_of_ble_eq_true rfl, Nat.le_of_ble_eq_true rfl⟩ rfl rfl (Nat.le_of_ble_eq_true rfl) dX2_goes_176 ⟨Nat.zero_le _, Nat.zero_le _⟩ (fun r_33 h_34 => ?_)
    refine y_isub C dX2_goes_179 ?_
    refine y_aload_n C dX2_goes_180 1 rfl rfl ?_
    refine yg_X2_3_wC5 C dX2_goes_181 ?_
    refine yg_X2_15_wC0 C dX2_goes_184 ?_
    refine yg_X2_28_wC15 C dX2_goes_187 ?_
    refine y_iload_n C dX2_goes_190 2 rfl rfl ?_
    refine y_iald C (wC_16 ..) rfl (h_34).1 dX2_goes_191 ?_
    refine y_callRiS (As := [.int (((irm (x2 + 1) ((sI S 3 (s1).toNatClampNeg s0).1 16 (x1).toNatClampNeg)) - r_33)), .int (((sI S 3 (s1).toNatClampNeg s0).1 16 (x1).toNatClampNeg))]) (rest := []) C cs_X2_52 (met_jm_floorMod G (((irm (x2 + 1) ((sI S 3 (s1).toNatClampNeg s0).1 16 (x1).toNatClampNeg)) - r_33)) (((sI S 3 (s1).toNatClampNeg s0).1 16 (x1).toNatClampNeg)) _ ((h_34).2)) (fun _ _ => pw_nil) ⟨rfl, rfl, Nat.le_of_ble_eq_true rfl, Nat.le_of_ble_eq_true rfl⟩ rfl rfl (Nat.le_of_ble_eq_true rfl) dX2_goes_192 ⟨Nat.zero_le _, Nat.zero_le _⟩ (fun r_36 h_37 => ?_)
    refine y_istore_n C dX2_goes_195 rfl (Nat.le_of_ble_eq_true rfl) [(2, .int (r_36)), (0, .ref (A 5)), (1, .int (x1)), (3, .int (x3)), (4, .int (x4))] rfl ?_
    refine y_iinc C dX2_goes_196 3 rfl (Nat.le_of_ble_eq_true rfl) (ii_1 _) [(3, .int ((x3 + 1))), (2, .int (r_36)), (0, .ref (A 5)), (1, .int (x1)), (4, .int (x4))] rfl ?_
    refine y_goto C (tgt := 15) dX2_goes_199 rfl ?_
    exact Y.sub (hK15 (sI S 3 (s1).toNatClampNeg s0) (r_36) ((x3 + 1)) (h_37)) [2, 3, 1, 0] rfl
set_option maxRecDepth 100000 in
theorem wk_p_goes_5_b56 {G : Gx} {K : Kx} {A : Nat → Nat} (C : KOk G K RX2 cX2_goes rm_p_goes_5 5 none) {B : Nat → Prop} (M : KM G K B) {Q : St → Prop} (N : KQv G K B (wC G A) Q) (x1 : Int32) (K15 : St → Int32 → Int32 → Prop) (hK15 : ∀ (S : St) (x2 : Int32) (x3 : Int32), K15 S x2 x3 → Y G K 0 0 (wC G A S) 15 [(0, .ref (A 5)), (1, .int (x1)), (2, .int (x2)), (3, .int (x3))] []) (S : St) (x2 : Int32) (x3 : Int32) (s0 : Int32) (s1 : Int32) (h : wp_p_goes_5_b56 Q x1 K15 S x2 x3 s0 s1) : Y G K 0 0 (wC G A S) 56 [(0, .ref (A 5)), (1, .int (x1)), (2, .int (x2)), (3, .int (x3))] [.int (s0), .int (s1), .ref (A 2)] := by
  refine y_iast C M (wC_2 ..) rfl (wC_s2 ..) (h).1 dX2_goes_56 ?_
  refine y_aload_n C dX2_goes_57 0 rfl rfl ?_
  refine yg_X2_3_wC5 C dX2_goes_58 ?_
  refine yg_X2_31_wC0 C dX2_goes_61 ?_
  refine y_sipush C dX2_goes_64 sp_200 ?_
  refine y_iload_n C dX2_goes_67 1 rfl rfl ?_
  refine y_imul C dX2_goes_68 ?_
  refine y_iload_n C dX2_goes_69 3 rfl rfl ?_
  refine y_iadd C dX2_goes_70 ?_
  refine y_iconst C dX2_goes_71 icm1 ?_
  refine y_iast C M (wC_3 ..) rfl (wC_s3 ..) ((h).2).1 dX2_goes_72 ?_
  refine y_aload_n C dX2_goes_73 0 rfl rfl ?_
  refine yg_X2_3_wC5 C dX2_goes_74 ?_
  refine yg_X2_15_wC0 C dX2_goes_77 ?_
  refine yg_X2_28_wC15 C dX2_goes_80 ?_
  refine y_iload_n C dX2_goes_83 1 rfl rfl ?_
  refine y_iald C (wC_16 ..) rfl (((h).2).2).1 dX2_goes_84 ?_
  refine y_if_eq C (tgt := 196) dX2_goes_85 rfl (fun c_9 => ?_) (fun c_9 => ?_)
  · have h_10 := ((((h).2).2).2).1 c_9
    refine y_iinc C dX2_goes_196 3 rfl (Nat.le_of_ble_eq_true rfl) (ii_1 _) [(3, .int ((x3 + 1))), (0, .ref (A 5)), (1, .int (x1)), (2, .int (x2))] rfl ?_
    refine y_goto C (tgt := 15) dX2_goes_199 rfl ?_
    exact Y.sub (hK15 (sI (sI S 2 (s1).toNatClampNeg s0) 3 (((200 * x1) + x3)).toNatClampNeg (-1)) (x2) ((x3 + 1)) (h_10)) [1, 2, 3, 0] rfl
  · have h_11 := ((((h).2).2).2).2 c_9
    refine y_aload_n C dX2_goes_88 0 rfl rfl ?_
    refine y_iload_n C dX2_goes_89 3 rfl rfl ?_
    refine y_callRiO (As := [.int (x3)]) (rest := []) C co_X2_34_X4 (met_u_isMud_5 G A (sI (sI S 2 (s1).toNatClampNeg s0) 3 (((200 * x1) + x3)).toNatClampNeg (-1)) (x3) _ (h_11)) (fun _ h => h) (wC_5 ..) rfl rfl ⟨rfl, rfl, Nat.le_of_ble_eq_true rfl, Nat.le_of_ble_eq_true rfl⟩ rfl rfl (Nat.le_of_ble_eq_true rfl) dX2_goes_90 ⟨Nat.zero_le _, Nat.zero_le _⟩ (fun r_12 h_13 => ?_)
    refine y_if_eq C (tgt := 99) dX2_goes_93 rfl (fun c_15 => ?_) (fun c_15 => ?_)
    · have h_16 := (h_13).1 c_15
      refine y_aload_n C dX2_goes_99 0 rfl rfl ?_
      refine y_iload_n C dX2_goes_100 1 rfl rfl ?_
      refine y_iload_n C dX2_goes_101 3 rfl rfl ?_
      refine y_callRiO (As := [.int (x1), .int (x3)]) (rest := []) C co_X2_38_X4 (met_t_stumble_5 G A (sI (sI S 2 (s1).toNatClampNeg s0) 3 (((200 * x1) + x3)).toNatClampNeg (-1)) (x1) (x3) _ (h_16)) (fun _ h => h) (wC_5 ..) rfl rfl ⟨rfl, rfl, Nat.le_of_ble_eq_true rfl, Nat.le_of_ble_eq_true rfl⟩ rfl rfl (Nat.le_of_ble_eq_true rfl) dX2_goes_102 ⟨Nat.zero_le _, Nat.zero_le _⟩ (fun r_17 h_18 => ?_)
      refine y_istore C dX2_goes_105 (Nat.le_of_ble_eq_true rfl) [(4, .int (r_17)), (0, .ref (A 5)), (1, .int (x1)), (2, .int (x2)), (3, .int (x3))] rfl ?_
      refine y_aload_n C dX2_goes_107 1 rfl rfl ?_
      refine yg_X2_3_wC5 C dX2_goes_108 ?_
      refine yg_X2_31_wC0 C dX2_goes_111 ?_
      refine y_sipush C dX2_goes_114 sp_200 ?_
      refine y_iload_n C dX2_goes_117 2 rfl rfl ?_
      refine y_imul C dX2_goes_118 ?_
      refine y_iload_n C dX2_goes_119 4 rfl rfl ?_
      refine y_iadd C dX2_goes_120 ?_
      refine y_iload C dX2_goes_121 0 rfl ?_
      refine y_iconst C dX2_goes_123 icm1 ?_
      refine y_icmp_ne C (tgt := 142) dX2_goes_124 rfl (fun c_20 => ?_) (fun c_20 => ?_)
      · have h_21 := (h_18).1 c_20
        refine y_aload_n C dX2_goes_142 1 rfl rfl ?_
        refine y_iload C dX2_goes_143 0 rfl ?_
        refine y_callRiO (As := [.int (r_17)]) (rest := [.int (((200 * x1) + x3)), .ref (A 3)]) C co_X2_45_X4 (met_t_does_5 G A (sI (sI S 2 (s1).toNatClampNeg s0) 3 (((200 * x1) + x3)).toNatClampNeg (-1)) (r_17) _ (h_21)) (fun _ h => h) (wC_5 ..) rfl rfl ⟨rfl, rfl, Nat.le_of_ble_eq_true rfl, Nat.le_of_ble_eq_true rfl⟩ rfl rfl (Nat.le_of_ble_eq_true rfl) dX2_goes_145 ⟨Nat.zero_le _, Nat.zero_le _⟩ (fun r_22 h_23 => ?_)
        exact Y.sub (wk_p_goes_5_b148 C M N (x1) K15 hK15 (sI (sI S 2 (s1).toNatClampNeg s0) 3 (((200 * x1) + x3)).toNatClampNeg (-1)) (x2) (x3) (r_17) (r_22) (((200 * x1) + x3)) (h_23)) [1, 2, 3, 4, 0] rfl
      · have h_25 := (h_18).2 c_20
        refine y_aload_n C dX2_goes_127 1 rfl rfl ?_
        refine yg_X2_3_wC5 C dX2_goes_128 ?_
        refine yg_X2_15_wC0 C dX2_goes_131 ?_
        refine y_iload_n C dX2_goes_134 2 rfl rfl ?_
        refine y_iload_n C dX2_goes_135 3 rfl rfl ?_
        refine y_callRiV (As := [.int (x1), .int (x2)]) (rest := [.int (((200 * x1) + x3)), .ref (A 3)]) C cs_X2_42 (met_d_step G A (sI (sI S 2 (s1).toNatClampNeg s0) 3 (((200 * x1) + x3)).toNatClampNeg (-1)) (x1) (x2) _ (h_25)) (fun _ h => wC_D h) (wC_15 ..) rfl rfl ⟨rfl, rfl, Nat.le_of_ble_eq_true rfl, Nat.le_of_ble_eq_true rfl⟩ rfl rfl (Nat.le_of_ble_eq_true rfl) dX2_goes_136 ⟨Nat.zero_le _, Nat.zero_le _⟩ (fun r_26 h_27 => ?_)
        refine y_goto C (tgt := 148) dX2_goes_139 rfl ?_
        exact Y.sub (wk_p_goes_5_b148 C M N (x1) K15 hK15 (sI (sI S 2 (s1).toNatClampNeg s0) 3 (((200 * x1) + x3)).toNatClampNeg (-1)) (x2) (x3) (r_17) (r_26) (((200 * x1) + x3)) (h_27)) [1, 2, 3, 4, 0] rfl
    · have h_29 := (h_13).2 c_15
      refine y_goto C (tgt := 196) dX2_goes_96 rfl ?_
      refine y_iinc C dX2_goes_196 3 rfl (Nat.le_of_ble_eq_true rfl) (ii_1 _) [(3, .int ((x3 + 1))), (0, .ref (A 5)), (1, .int (x1)), (2, .int (x2))] rfl ?_
      refine y_goto C (tgt := 15) dX2_goes_199 rfl ?_
      exact Y.sub (hK15 (sI (sI S 2 (s1).toNatClampNeg s0) 3 (((200 * x1) + x3)).toNatClampNeg (-1)) (x2) ((x3 + 1)) (h_29)) [1, 2, 3, 0] rfl
set_option maxRecDepth 100000 in
theorem wk_p_goes_5_b15 {G : Gx} {K : Kx} {A : Nat → Nat} (C : KOk G K RX2 cX2_goes rm_p_goes_5 5 none) {B : Nat → Prop} (M : KM G K B) {Q : St → Prop} (N : KQv G K B (wC G A) Q) (x1 : Int32) : ∀ (n : Nat), ∀ (S : St) (x2 : Int32) (x3 : Int32), wp_p_goes_5_b15 Q x1 n S x2 x3 → Y G K 0 0 (wC G A S) 15 [(0, .ref (A 5)), (1, .int (x1)), (2, .int (x2)), (3, .int (x3))] [] := by
  intro n
  induction n with
  | zero => intro S x2 x3 h; exact h.elim
  | succ n ih =>
    intro S x2 x3 h
    dsimp only [wp_p_goes_5_b15] at h
    refine y_iload_n C dX2_goes_15 3 rfl rfl ?_
    refine y_sipush C dX2_goes_16 sp_200 ?_
    refine y_icmp_ge C (tgt := 202) dX2_goes_19 rfl (fun c_3 => ?_) (fun c_3 => ?_)
    · have h_4 := (h).1 c_3
      exact y_vretM C M N rfl (S := S) rfl (h_4) dX2_goes_202
    · have h_5 := (h).2 c_3
      refine y_aload_n C dX2_goes_22 0 rfl rfl ?_
      refine yg_X2_3_wC5 C dX2_goes_23 ?_
      refine yg_X2_25_wC0 C dX2_goes_26 ?_
      refine y_sipush C dX2_goes_29 sp_200 ?_
      refine y_iload_n C dX2_goes_32 1 rfl rfl ?_
      refine y_imul C dX2_goes_33 ?_
      refine y_iload_n C dX2_goes_34 3 rfl rfl ?_
      refine y_iadd C dX2_goes_35 ?_
      refine y_aload_n C dX2_goes_36 0 rfl rfl ?_
      refine yg_X2_3_wC5 C dX2_goes_37 ?_
      refine yg_X2_15_wC0 C dX2_goes_40 ?_
      refine yg_X2_28_wC15 C dX2_goes_43 ?_
      refine y_iload_n C dX2_goes_46 1 rfl rfl ?_
      refine y_iald C (wC_16 ..) rfl (h_5).1 dX2_goes_47 ?_
      refine y_if_ne C (tgt := 55) dX2_goes_48 rfl (fun c_6 => ?_) (fun c_6 => ?_)
      · have h_7 := ((h_5).2).1 c_6
        refine y_iload_n C dX2_goes_55 2 rfl rfl ?_
        exact Y.sub (wk_p_goes_5_b56 C M N (x1) (fun Sy y2 y3 => wp_p_goes_5_b15 Q x1 n Sy y2 y3) ih S (x2) (x3) (x2) (((200 * x1) + x3)) (h_7)) [0, 1, 2, 3] rfl
      · have h_8 := ((h_5).2).2 c_6
        refine y_iconst C dX2_goes_51 icm1 ?_
        refine y_goto C (tgt := 56) dX2_goes_52 rfl ?_
        exact Y.sub (wk_p_goes_5_b56 C M N (x1) (fun Sy y2 y3 => wp_p_goes_5_b15 Q x1 n Sy y2 y3) ih S (x2) (x3) ((-1)) (((200 * x1) + x3)) (h_8)) [0, 1, 2, 3] rfl
set_option maxRecDepth 100000 in
theorem met_p_goes_5 (G : Gx) (A : Nat → Nat) (S : St) (x1 : Int32) (Q : St → Prop) (h : wp_p_goes_5 S x1 Q) : Mv G yX2_goes (ws_ yX2_goes cX2_goes 5 none) rm_p_goes_5 (wC G A S) [.ref (A 5), .int (x1)] (wC G A) Q := by
  refine ent_Mv (by decide +kernel) rfl (Nat.le_of_ble_eq_true rfl) [(0, .ref (A 5)), (1, .int (x1))] rfl (fun K B C M N => ?_)
  refine y_aload_n C dX2_goes_0 0 rfl rfl ?_
  refine yg_X2_3_wC5 C dX2_goes_1 ?_
  refine yg_X2_15_wC0 C dX2_goes_4 ?_
  refine yg_X2_19_wC15 C dX2_goes_7 ?_
  refine y_iload_n C dX2_goes_10 1 rfl rfl ?_
  refine y_iald C (wC_17 ..) rfl (h).1 dX2_goes_11 ?_
  refine y_istore_n C dX2_goes_12 rfl (Nat.le_of_ble_eq_true rfl) [(2, .int ((S.1 17 (x1).toNatClampNeg))), (0, .ref (A 5)), (1, .int (x1))] rfl ?_
  refine y_iconst C dX2_goes_13 ic_0 ?_
  refine y_istore_n C dX2_goes_14 rfl (Nat.le_of_ble_eq_true rfl) [(3, .int (0)), (2, .int ((S.1 17 (x1).toNatClampNeg))), (0, .ref (A 5)), (1, .int (x1))] rfl ?_
  obtain ⟨n_1, h_2⟩ := (h).2
  exact Y.sub (wk_p_goes_5_b15 C M N (x1) n_1 S ((S.1 17 (x1).toNatClampNeg)) (0) h_2) [2, 3, 1, 0] rfl
/-! OverHill$Plain goes(I)V: p_goes_6 -/
abbrev rm_p_goes_6 : Room := { frames := 4, cells := 0, slots := 0, locals := 108 }
def wp_p_goes_6_b148 (Q : St → Prop) (x1 : Int32) (K15 : St → Int32 → Int32 → Prop) (S : St) (x2 : Int32) (x3 : Int32) (x4 : Int32) (s0 : Int32) (s1 : Int32) : Prop :=
  (vp_in s1 400 ∧ (vp_in x1 2 ∧ (¬ ((sI S 3 (s1).toNatClampNeg s0).1 16 (x1).toNatClampNeg) = 0 ∧ ((x4 = (-1) → K15 (sI S 3 (s1).toNatClampNeg s0) ((irm (x2 + 1) ((sI S 3 (s1).toNatClampNeg s0).1 16 (x1).toNatClampNeg))) ((x3 + 1))) ∧ (¬ x4 = (-1) → wp_t_lag_6 (sI S 3 (s1).toNatClampNeg s0) (x4) (fun r_33 => (vp_in x1 2 ∧ wp_jm_floorMod (((irm (x2 + 1) ((sI S 3 (s1).toNatClampNeg s0).1 16 (x1).toNatClampNeg)) - r_33)) (((sI S 3 (s1).toNatClampNeg s0).1 16 (x1).toNatClampNeg)) (fun r_36 => K15 (sI S 3 (s1).toNatClampNeg s0) (r_36) ((x3 + 1))))))))))
def wp_p_goes_6_b56 (Q : St → Prop) (x1 : Int32) (K15 : St → Int32 → Int32 → Prop) (S : St) (x2 : Int32) (x3 : Int32) (s0 : Int32) (s1 : Int32) : Prop :=
  (vp_in s1 400 ∧ (vp_in ((200 * x1) + x3) 400 ∧ (vp_in x1 2 ∧ ((((sI (sI S 2 (s1).toNatClampNeg s0) 3 (((200 * x1) + x3)).toNatClampNeg (-1)).1 16 (x1).toNatClampNeg) = 0 → K15 (sI (sI S 2 (s1).toNatClampNeg s0) 3 (((200 * x1) + x3)).toNatClampNeg (-1)) (x2) ((x3 + 1))) ∧ (¬ ((sI (sI S 2 (s1).toNatClampNeg s0) 3 (((200 * x1) + x3)).toNatClampNeg (-1)).1 16 (x1).toNatClampNeg) = 0 → wp_u_isMud_6 (sI (sI S 2 (s1).toNatClampNeg s0) 3 (((200 * x1) + x3)).toNatClampNeg (-1)) (x3) (fun r_12 => ((r_12 = 0 → wp_w_stumble_6 (sI (sI S 2 (s1).toNatClampNeg s0) 3 (((200 * x1) + x3)).toNatClampNeg (-1)) (x1) (x3) (fun r_17 => ((¬ r_17 = (-1) → wp_t_does_6 (sI (sI S 2 (s1).toNatClampNeg s0) 3 (((200 * x1) + x3)).toNatClampNeg (-1)) (r_17) (fun r_22 => wp_p_goes_6_b148 Q (x1) K15 (sI (sI S 2 (s1).toNatClampNeg s0) 3 (((200 * x1) + x3)).toNatClampNeg (-1)) (x2) (x3) (r_17) (r_22) (((200 * x1) + x3)))) ∧ (r_17 = (-1) → wp_d_step (sI (sI S 2 (s1).toNatClampNeg s0) 3 (((200 * x1) + x3)).toNatClampNeg (-1)) (x1) (x2) (fun r_26 => wp_p_goes_6_b148 Q (x1) K15 (sI (sI S 2 (s1).toNatClampNeg s0) 3 (((200 * x1) + x3)).toNatClampNeg (-1)) (x2) (x3) (r_17) (r_26) (((200 * x1) + x3))))))) ∧ (¬ r_12 = 0 → K15 (sI (sI S 2 (s1).toNatClampNeg s0) 3 (((200 * x1) + x3)).toNatClampNeg (-1)) (x2) ((x3 + 1))))))))))
def wp_p_goes_6_b15 (Q : St → Prop) (x1 : Int32) : Nat → St → Int32 → Int32 → Prop
  | 0 => fun _ _ _ => False
  | n + 1 => fun S x2 x3 => ((200 ≤ x3 → Q S) ∧ (¬ 200 ≤ x3 → (vp_in x1 2 ∧ ((¬ (S.1 16 (x1).toNatClampNeg) = 0 → wp_p_goes_6_b56 Q (x1) (fun Sy y2 y3 => wp_p_goes_6_b15 Q x1 n Sy y2 y3) S (x2) (x3) (x2) (((200 * x1) + x3))) ∧ ((S.1 16 (x1).toNatClampNeg) = 0 → wp_p_goes_6_b56 Q (x1) (fun Sy y2 y3 => wp_p_goes_6_b15 Q x1 n Sy y2 y3) S (x2) (x3) ((-1)) (((200 * x1) + x3)))))))
def wp_p_goes_6 (S : St) (x1 : Int32) (Q : St → Prop) : Prop :=
  (vp_in x1 2 ∧ (∃ z, wp_p_goes_6_b15 Q (x1) z S ((S.1 17 (x1).toNatClampNeg)) (0)))
set_option maxRecDepth 100000 in
theorem wk_p_goes_6_b148 {G : Gx} {K : Kx} {A : Nat → Nat} (C : KOk G K RX2 cX2_goes rm_p_goes_6 5 none) {B : Nat → Prop} (M : KM G K B) {Q : St → Prop} (N : KQv G K B (wC G A) Q) (x1 : Int32) (K15 : St → Int32 → Int32 → Prop) (hK15 : ∀ (S : St) (x2 : Int32) (x3 : Int32), K15 S x2 x3 → Y G K 0 0 (wC G A S) 15 [(0, .ref (A 6)), (1, .int (x1)), (2, .int (x2)), (3, .int (x3))] []) (S : St) (x2 : Int32) (x3 : Int32) (x4 : Int32) (s0 : Int32) (s1 : Int32) (h : wp_p_goes_6_b148 Q x1 K15 S x2 x3 x4 s0 s1) : Y G K 0 0 (wC G A S) 148 [(0, .ref (A 6)), (1, .int (x1)), (2, .int (x2)), (3, .int (x3)), (4, .int (x4))] [.int (s0), .int (s1), .ref (A 3)] := by
  refine y_iast C M (wC_3 ..) rfl (wC_s3 ..) (h).1 dX2_goes_148 ?_
  refine y_iload_n C dX2_goes_149 2 rfl rfl ?_
  refine y_iconst C dX2_goes_150 ic_1 ?_
  refine y_iadd C dX2_goes_151 ?_
  refine y_aload_n C dX2_goes_152 0 rfl rfl ?_
  refine yg_X2_3_wC6 C dX2_goes_153 ?_
  refine yg_X2_15_wC0 C dX2_goes_156 ?_
  refine yg_X2_28_wC15 C dX2_goes_159 ?_
  refine y_iload_n C dX2_goes_162 1 rfl rfl ?_
  refine y_iald C (wC_16 ..) rfl ((h).2).1 dX2_goes_163 ?_
  refine y_irem C dX2_goes_164 (((h).2).2).1 ?_
  refine y_istore_n C dX2_goes_165 rfl (Nat.le_of_ble_eq_true rfl) [(2, .int ((irm (x2 + 1) ((sI S 3 (s1).toNatClampNeg s0).1 16 (x1).toNatClampNeg)))), (0, .ref (A 6)), (1, .int (x1)), (3, .int (x3)), (4, .int (x4))] rfl ?_
  refine y_iload C dX2_goes_166 4 rfl ?_
  refine y_iconst C dX2_goes_168 icm1 ?_
  refine y_icmp_eq C (tgt := 196) dX2_goes_169 rfl (fun c_30 => ?_) (fun c_30 => ?_)
  · have h_31 := ((((h).2).2).2).1 c_30
    refine y_iinc C dX2_goes_196 3 rfl (Nat.le_of_ble_eq_true rfl) (ii_1 _) [(3, .int ((x3 + 1))), (2, .int ((irm (x2 + 1) ((sI S 3 (s1).toNatClampNeg s0).1 16 (x1).toNatClampNeg)))), (0, .ref (A 6)), (1, .int (x1)), (4, .int (x4))] rfl ?_
    refine y_goto C (tgt := 15) dX2_goes_199 rfl ?_
    exact Y.sub (hK15 (sI S 3 (s1).toNatClampNeg s0) ((irm (x2 + 1) ((sI S 3 (s1).toNatClampNeg s0).1 16 (x1).toNatClampNeg))) ((x3 + 1)) (h_31)) [2, 3, 1, 0] rfl
  · have h_32 := ((((h).2).2).2).2 c_30
    refine y_iload_n C dX2_goes_172 0 rfl rfl ?_
    refine y_aload_n C dX2_goes_173 1 rfl rfl ?_
    refine y_iload C dX2_goes_174 4 rfl ?_
    refine y_callRiO (As := [.int (x4)]) (rest := [.int ((irm (x2 + 1) ((sI S 3 (s1).toNatClampNeg s0).1 16 (x1).toNatClampNeg)))]) C co_X2_49_X5 (met_t_lag_6 G A (sI S 3 (s1).toNatClampNeg s0) (x4) _ (h_32)) (fun _ h => h) (wC_6 ..) rfl rfl ⟨rfl, rfl, Nat.le_of_ble_eq_true rfl, Nat.le_of_ble_eq_true rfl⟩ rfl rfl (Nat.le_of_ble_eq_true rfl) dX2_goes_176 ⟨Nat.zero_le _, Nat.zero_le _⟩ (fun r_33 h_34 => ?_)
    refine y_isub C dX2_goes_179 ?_
    refine y_aload_n C dX2_goes_180 1 rfl rfl ?_
    refine yg_X2_3_wC6 C dX2_goes_181 ?_
    refine yg_X2_15_wC0 C dX2_goes_184 ?_
    refine yg_X2_28_wC15 C dX2_goes_187 ?_
    refine y_iload_n C dX2_goes_190 2 rfl rfl ?_
    refine y_iald C (wC_16 ..) rfl (h_34).1 dX2_goes_191 ?_
    refine y_callRiS (As := [.int (((irm (x2 + 1) ((sI S 3 (s1).toNatClampNeg s0).1 16 (x1).toNatClampNeg)) - r_33)), .int (((sI S 3 (s1).toNatClampNeg s0).1 16 (x1).toNatClampNeg))]) (rest := []) C cs_X2_52 (met_jm_floorMod G (((irm (x2 + 1) ((sI S 3 (s1).toNatClampNeg s0).1 16 (x1).toNatClampNeg)) - r_33)) (((sI S 3 (s1).toNatClampNeg s0).1 16 (x1).toNatClampNeg)) _ ((h_34).2)) (fun _ _ => pw_nil) ⟨rfl, rfl, Nat.le_of_ble_eq_true rfl, Nat.le_of_ble_eq_true rfl⟩ rfl rfl (Nat.le_of_ble_eq_true rfl) dX2_goes_192 ⟨Nat.zero_le _, Nat.zero_le _⟩ (fun r_36 h_37 => ?_)
    refine y_istore_n C dX2_goes_195 rfl (Nat.le_of_ble_eq_true rfl) [(2, .int (r_36)), (0, .ref (A 6)), (1, .int (x1)), (3, .int (x3)), (4, .int (x4))] rfl ?_
    refine y_iinc C dX2_goes_196 3 rfl (Nat.le_of_ble_eq_true rfl) (ii_1 _) [(3, .int ((x3 + 1))), (2, .int (r_36)), (0, .ref (A 6)), (1, .int (x1)), (4, .int (x4))] rfl ?_
    refine y_goto C (tgt := 15) dX2_goes_199 rfl ?_
    exact Y.sub (hK15 (sI S 3 (s1).toNatClampNeg s0) (r_36) ((x3 + 1)) (h_37)) [2, 3, 1, 0] rfl
set_option maxRecDepth 100000 in
theorem wk_p_goes_6_b56 {G : Gx} {K : Kx} {A : Nat → Nat} (C : KOk G K RX2 cX2_goes rm_p_goes_6 5 none) {B : Nat → Prop} (M : KM G K B) {Q : St → Prop} (N : KQv G K B (wC G A) Q) (x1 : Int32) (K15 : St → Int32 → Int32 → Prop) (hK15 : ∀ (S : St) (x2 : Int32) (x3 : Int32), K15 S x2 x3 → Y G K 0 0 (wC G A S) 15 [(0, .ref (A 6)), (1, .int (x1)), (2, .int (x2)), (3, .int (x3))] []) (S : St) (x2 : Int32) (x3 : Int32) (s0 : Int32) (s1 : Int32) (h : wp_p_goes_6_b56 Q x1 K15 S x2 x3 s0 s1) : Y G K 0 0 (wC G A S) 56 [(0, .ref (A 6)), (1, .int (x1)), (2, .int (x2)), (3, .int (x3))] [.int (s0), .int (s1), .ref (A 2)] := by
  refine y_iast C M (wC_2 ..) rfl (wC_s2 ..) (h).1 dX2_goes_56 ?_
  refine y_aload_n C dX2_goes_57 0 rfl rfl ?_
  refine yg_X2_3_wC6 C dX2_goes_58 ?_
  refine yg_X2_31_wC0 C dX2_goes_61 ?_
  refine y_sipush C dX2_goes_64 sp_200 ?_
  refine y_iload_n C dX2_goes_67 1 rfl rfl ?_
  refine y_imul C dX2_goes_68 ?_
  refine y_iload_n C dX2_goes_69 3 rfl rfl ?_
  refine y_iadd C dX2_goes_70 ?_
  refine y_iconst C dX2_goes_71 icm1 ?_
  refine y_iast C M (wC_3 ..) rfl (wC_s3 ..) ((h).2).1 dX2_goes_72 ?_
  refine y_aload_n C dX2_goes_73 0 rfl rfl ?_
  refine yg_X2_3_wC6 C dX2_goes_74 ?_
  refine yg_X2_15_wC0 C dX2_goes_77 ?_
  refine yg_X2_28_wC15 C dX2_goes_80 ?_
  refine y_iload_n C dX2_goes_83 1 rfl rfl ?_
  refine y_iald C (wC_16 ..) rfl (((h).2).2).1 dX2_goes_84 ?_
  refine y_if_eq C (tgt := 196) dX2_goes_85 rfl (fun c_9 => ?_) (fun c_9 => ?_)
  · have h_10 := ((((h).2).2).2).1 c_9
    refine y_iinc C dX2_goes_196 3 rfl (Nat.le_of_ble_eq_true rfl) (ii_1 _) [(3, .int ((x3 + 1))), (0, .ref (A 6)), (1, .int (x1)), (2, .int (x2))] rfl ?_
    refine y_goto C (tgt := 15) dX2_goes_199 rfl ?_
    exact Y.sub (hK15 (sI (sI S 2 (s1).toNatClampNeg s0) 3 (((200 * x1) + x3)).toNatClampNeg (-1)) (x2) ((x3 + 1)) (h_10)) [1, 2, 3, 0] rfl
  · have h_11 := ((((h).2).2).2).2 c_9
    refine y_aload_n C dX2_goes_88 0 rfl rfl ?_
    refine y_iload_n C dX2_goes_89 3 rfl rfl ?_
    refine y_callRiO (As := [.int (x3)]) (rest := []) C co_X2_34_X5 (met_u_isMud_6 G A (sI (sI S 2 (s1).toNatClampNeg s0) 3 (((200 * x1) + x3)).toNatClampNeg (-1)) (x3) _ (h_11)) (fun _ h => h) (wC_6 ..) rfl rfl ⟨rfl, rfl, Nat.le_of_ble_eq_true rfl, Nat.le_of_ble_eq_true rfl⟩ rfl rfl (Nat.le_of_ble_eq_true rfl) dX2_goes_90 ⟨Nat.zero_le _, Nat.zero_le _⟩ (fun r_12 h_13 => ?_)
    refine y_if_eq C (tgt := 99) dX2_goes_93 rfl (fun c_15 => ?_) (fun c_15 => ?_)
    · have h_16 := (h_13).1 c_15
      refine y_aload_n C dX2_goes_99 0 rfl rfl ?_
      refine y_iload_n C dX2_goes_100 1 rfl rfl ?_
      refine y_iload_n C dX2_goes_101 3 rfl rfl ?_
      refine y_callRiO (As := [.int (x1), .int (x3)]) (rest := []) C co_X2_38_X5 (met_w_stumble_6 G A (sI (sI S 2 (s1).toNatClampNeg s0) 3 (((200 * x1) + x3)).toNatClampNeg (-1)) (x1) (x3) _ (h_16)) (fun _ h => h) (wC_6 ..) rfl rfl ⟨rfl, rfl, Nat.le_of_ble_eq_true rfl, Nat.le_of_ble_eq_true rfl⟩ rfl rfl (Nat.le_of_ble_eq_true rfl) dX2_goes_102 ⟨Nat.zero_le _, Nat.zero_le _⟩ (fun r_17 h_18 => ?_)
      refine y_istore C dX2_goes_105 (Nat.le_of_ble_eq_true rfl) [(4, .int (r_17)), (0, .ref (A 6)), (1, .int (x1)), (2, .int (x2)), (3, .int (x3))] rfl ?_
      refine y_aload_n C dX2_goes_107 1 rfl rfl ?_
      refine yg_X2_3_wC6 C dX2_goes_108 ?_
      refine yg_X2_31_wC0 C dX2_goes_111 ?_
      refine y_sipush C dX2_goes_114 sp_200 ?_
      refine y_iload_n C dX2_goes_117 2 rfl rfl ?_
      refine y_imul C dX2_goes_118 ?_
      refine y_iload_n C dX2_goes_119 4 rfl rfl ?_
      refine y_iadd C dX2_goes_120 ?_
      refine y_iload C dX2_goes_121 0 rfl ?_
      refine y_iconst C dX2_goes_123 icm1 ?_
      refine y_icmp_ne C (tgt := 142) dX2_goes_124 rfl (fun c_20 => ?_) (fun c_20 => ?_)
      · have h_21 := (h_18).1 c_20
        refine y_aload_n C dX2_goes_142 1 rfl rfl ?_
        refine y_iload C dX2_goes_143 0 rfl ?_
        refine y_callRiO (As := [.int (r_17)]) (rest := [.int (((200 * x1) + x3)), .ref (A 3)]) C co_X2_45_X5 (met_t_does_6 G A (sI (sI S 2 (s1).toNatClampNeg s0) 3 (((200 * x1) + x3)).toNatClampNeg (-1)) (r_17) _ (h_21)) (fun _ h => h) (wC_6 ..) rfl rfl ⟨rfl, rfl, Nat.le_of_ble_eq_true rfl, Nat.le_of_ble_eq_true rfl⟩ rfl rfl (Nat.le_of_ble_eq_true rfl) dX2_goes_145 ⟨Nat.zero_le _, Nat.zero_le _⟩ (fun r_22 h_23 => ?_)
        exact Y.sub (wk_p_goes_6_b148 C M N (x1) K15 hK15 (sI (sI S 2 (s1).toNatClampNeg s0) 3 (((200 * x1) + x3)).toNatClampNeg (-1)) (x2) (x3) (r_17) (r_22) (((200 * x1) + x3)) (h_23)) [1, 2, 3, 4, 0] rfl
      · have h_25 := (h_18).2 c_20
        refine y_aload_n C dX2_goes_127 1 rfl rfl ?_
        refine yg_X2_3_wC6 C dX2_goes_128 ?_
        refine yg_X2_15_wC0 C dX2_goes_131 ?_
        refine y_iload_n C dX2_goes_134 2 rfl rfl ?_
        refine y_iload_n C dX2_goes_135 3 rfl rfl ?_
        refine y_callRiV (As := [.int (x1), .int (x2)]) (rest := [.int (((200 * x1) + x3)), .ref (A 3)]) C cs_X2_42 (met_d_step G A (sI (sI S 2 (s1).toNatClampNeg s0) 3 (((200 * x1) + x3)).toNatClampNeg (-1)) (x1) (x2) _ (h_25)) (fun _ h => wC_D h) (wC_15 ..) rfl rfl ⟨rfl, rfl, Nat.le_of_ble_eq_true rfl, Nat.le_of_ble_eq_true rfl⟩ rfl rfl (Nat.le_of_ble_eq_true rfl) dX2_goes_136 ⟨Nat.zero_le _, Nat.zero_le _⟩ (fun r_26 h_27 => ?_)
        refine y_goto C (tgt := 148) dX2_goes_139 rfl ?_
        exact Y.sub (wk_p_goes_6_b148 C M N (x1) K15 hK15 (sI (sI S 2 (s1).toNatClampNeg s0) 3 (((200 * x1) + x3)).toNatClampNeg (-1)) (x2) (x3) (r_17) (r_26) (((200 * x1) + x3)) (h_27)) [1, 2, 3, 4, 0] rfl
    · have h_29 := (h_13).2 c_15
      refine y_goto C (tgt := 196) dX2_goes_96 rfl ?_
      refine y_iinc C dX2_goes_196 3 rfl (Nat.le_of_ble_eq_true rfl) (ii_1 _) [(3, .int ((x3 + 1))), (0, .ref (A 6)), (1, .int (x1)), (2, .int (x2))] rfl ?_
      refine y_goto C (tgt := 15) dX2_goes_199 rfl ?_
      exact Y.sub (hK15 (sI (sI S 2 (s1).toNatClampNeg s0) 3 (((200 * x1) + x3)).toNatClampNeg (-1)) (x2) ((x3 + 1)) (h_29)) [1, 2, 3, 0] rfl
set_option maxRecDepth 100000 in
theorem wk_p_goes_6_b15 {G : Gx} {K : Kx} {A : Nat → Nat} (C : KOk G K RX2 cX2_goes rm_p_goes_6 5 none) {B : Nat → Prop} (M : KM G K B) {Q : St → Prop} (N : KQv G K B (wC G A) Q) (x1 : Int32) : ∀ (n : Nat), ∀ (S : St) (x2 : Int32) (x3 : Int32), wp_p_goes_6_b15 Q x1 n S x2 x3 → Y G K 0 0 (wC G A S) 15 [(0, .ref (A 6)), (1, .int (x1)), (2, .int (x2)), (3, .int (x3))] [] := by
  intro n
  induction n with
  | zero => intro S x2 x3 h; exact h.elim
  | succ n ih =>
    intro S x2 x3 h
    dsimp only [wp_p_goes_6_b15] at h
    refine y_iload_n C dX2_goes_15 3 rfl rfl ?_
    refine y_sipush C dX2_goes_16 sp_200 ?_
    refine y_icmp_ge C (tgt := 202) dX2_goes_19 rfl (fun c_3 => ?_) (fun c_3 => ?_)
    · have h_4 := (h).1 c_3
      exact y_vretM C M N rfl (S := S) rfl (h_4) dX2_goes_202
    · have h_5 := (h).2 c_3
      refine y_aload_n C dX2_goes_22 0 rfl rfl ?_
      refine yg_X2_3_wC6 C dX2_goes_23 ?_
      refine yg_X2_25_wC0 C dX2_goes_26 ?_
      refine y_sipush C dX2_goes_29 sp_200 ?_
      refine y_iload_n C dX2_goes_32 1 rfl rfl ?_
      refine y_imul C dX2_goes_33 ?_
      refine y_iload_n C dX2_goes_34 3 rfl rfl ?_
      refine y_iadd C dX2_goes_35 ?_
      refine y_aload_n C dX2_goes_36 0 rfl rfl ?_
      refine yg_X2_3_wC6 C dX2_goes_37 ?_
      refine yg_X2_15_wC0 C dX2_goes_40 ?_
      refine yg_X2_28_wC15 C dX2_goes_43 ?_
      refine y_iload_n C dX2_goes_46 1 rfl rfl ?_
      refine y_iald C (wC_16 ..) rfl (h_5).1 dX2_goes_47 ?_
      refine y_if_ne C (tgt := 55) dX2_goes_48 rfl (fun c_6 => ?_) (fun c_6 => ?_)
      · have h_7 := ((h_5).2).1 c_6
        refine y_iload_n C dX2_goes_55 2 rfl rfl ?_
        exact Y.sub (wk_p_goes_6_b56 C M N (x1) (fun Sy y2 y3 => wp_p_goes_6_b15 Q x1 n Sy y2 y3) ih S (x2) (x3) (x2) (((200 * x1) + x3)) (h_7)) [0, 1, 2, 3] rfl
      · have h_8 := ((h_5).2).2 c_6
        refine y_iconst C dX2_goes_51 icm1 ?_
        refine y_goto C (tgt := 56) dX2_goes_52 rfl ?_
        exact Y.sub (wk_p_goes_6_b56 C M N (x1) (fun Sy y2 y3 => wp_p_goes_6_b15 Q x1 n Sy y2 y3) ih S (x2) (x3) ((-1)) (((200 * x1) + x3)) (h_8)) [0, 1, 2, 3] rfl
set_option maxRecDepth 100000 in
theorem met_p_goes_6 (G : Gx) (A : Nat → Nat) (S : St) (x1 : Int32) (Q : St → Prop) (h : wp_p_goes_6 S x1 Q) : Mv G yX2_goes (ws_ yX2_goes cX2_goes 5 none) rm_p_goes_6 (wC G A S) [.ref (A 6), .int (x1)] (wC G A) Q := by
  refine ent_Mv (by decide +kernel) rfl (Nat.le_of_ble_eq_true rfl) [(0, .ref (A 6)), (1, .int (x1))] rfl (fun K B C M N => ?_)
  refine y_aload_n C dX2_goes_0 0 rfl rfl ?_
  refine yg_X2_3_wC6 C dX2_goes_1 ?_
  refine yg_X2_15_wC0 C dX2_goes_4 ?_
  refine yg_X2_19_wC15 C dX2_goes_7 ?_
  refine y_iload_n C dX2_goes_10 1 rfl rfl ?_
  refine y_iald C (wC_17 ..) rfl (h).1 dX2_goes_11 ?_
  refine y_istore_n C dX2_goes_12 rfl (Nat.le_of_ble_eq_true rfl) [(2, .int ((S.1 17 (x1).toNatClampNeg))), (0, .ref (A 6)), (1, .int (x1))] rfl ?_
  refine y_iconst C dX2_goes_13 ic_0 ?_
  refine y_istore_n C dX2_goes_14 rfl (Nat.le_of_ble_eq_true rfl) [(3, .int (0)), (2, .int ((S.1 17 (x1).toNatClampNeg))), (0, .ref (A 6)), (1, .int (x1))] rfl ?_
  obtain ⟨n_1, h_2⟩ := (h).2
  exact Y.sub (wk_p_goes_6_b15 C M N (x1) n_1 S ((S.1 17 (x1).toNatClampNeg)) (0) h_2) [2, 3, 1, 0] rfl
/-! OverHill$Plain goes(I)V: p_goes_7 -/
abbrev rm_p_goes_7 : Room := { frames := 4, cells := 0, slots := 0, locals := 108 }
def wp_p_goes_7_b148 (Q : St → Prop) (x1 : Int32) (K15 : St → Int32 → Int32 → Prop) (S : St) (x2 : Int32) (x3 : Int32) (x4 : Int32) (s0 : Int32) (s1 : Int32) : Prop :=
  (vp_in s1 400 ∧ (vp_in x1 2 ∧ (¬ ((sI S 3 (s1).toNatClampNeg s0).1 16 (x1).toNatClampNeg) = 0 ∧ ((x4 = (-1) → K15 (sI S 3 (s1).toNatClampNeg s0) ((irm (x2 + 1) ((sI S 3 (s1).toNatClampNeg s0).1 16 (x1).toNatClampNeg))) ((x3 + 1))) ∧ (¬ x4 = (-1) → wp_h_lag_7 (sI S 3 (s1).toNatClampNeg s0) (x4) (fun r_33 => (vp_in x1 2 ∧ wp_jm_floorMod (((irm (x2 + 1) ((sI S 3 (s1).toNatClampNeg s0).1 16 (x1).toNatClampNeg)) - r_33)) (((sI S 3 (s1).toNatClampNeg s0).1 16 (x1).toNatClampNeg)) (fun r_36 => K15 (sI S 3 (s1).toNatClampNeg s0) (r_36) ((x3 + 1))))))))))
def wp_p_goes_7_b56 (Q : St → Prop) (x1 : Int32) (K15 : St → Int32 → Int32 → Prop) (S : St) (x2 : Int32) (x3 : Int32) (s0 : Int32) (s1 : Int32) : Prop :=
  (vp_in s1 400 ∧ (vp_in ((200 * x1) + x3) 400 ∧ (vp_in x1 2 ∧ ((((sI (sI S 2 (s1).toNatClampNeg s0) 3 (((200 * x1) + x3)).toNatClampNeg (-1)).1 16 (x1).toNatClampNeg) = 0 → K15 (sI (sI S 2 (s1).toNatClampNeg s0) 3 (((200 * x1) + x3)).toNatClampNeg (-1)) (x2) ((x3 + 1))) ∧ (¬ ((sI (sI S 2 (s1).toNatClampNeg s0) 3 (((200 * x1) + x3)).toNatClampNeg (-1)).1 16 (x1).toNatClampNeg) = 0 → wp_u_isMud_7 (sI (sI S 2 (s1).toNatClampNeg s0) 3 (((200 * x1) + x3)).toNatClampNeg (-1)) (x3) (fun r_12 => ((r_12 = 0 → wp_h_stumble_7 (sI (sI S 2 (s1).toNatClampNeg s0) 3 (((200 * x1) + x3)).toNatClampNeg (-1)) (x1) (x3) (fun r_17 => ((¬ r_17 = (-1) → wp_h_does_7 (sI (sI S 2 (s1).toNatClampNeg s0) 3 (((200 * x1) + x3)).toNatClampNeg (-1)) (r_17) (fun r_22 => wp_p_goes_7_b148 Q (x1) K15 (sI (sI S 2 (s1).toNatClampNeg s0) 3 (((200 * x1) + x3)).toNatClampNeg (-1)) (x2) (x3) (r_17) (r_22) (((200 * x1) + x3)))) ∧ (r_17 = (-1) → wp_d_step (sI (sI S 2 (s1).toNatClampNeg s0) 3 (((200 * x1) + x3)).toNatClampNeg (-1)) (x1) (x2) (fun r_26 => wp_p_goes_7_b148 Q (x1) K15 (sI (sI S 2 (s1).toNatClampNeg s0) 3 (((200 * x1) + x3)).toNatClampNeg (-1)) (x2) (x3) (r_17) (r_26) (((200 * x1) + x3))))))) ∧ (¬ r_12 = 0 → K15 (sI (sI S 2 (s1).toNatClampNeg s0) 3 (((200 * x1) + x3)).toNatClampNeg (-1)) (x2) ((x3 + 1))))))))))
def wp_p_goes_7_b15 (Q : St → Prop) (x1 : Int32) : Nat → St → Int32 → Int32 → Prop
  | 0 => fun _ _ _ => False
  | n + 1 => fun S x2 x3 => ((200 ≤ x3 → Q S) ∧ (¬ 200 ≤ x3 → (vp_in x1 2 ∧ ((¬ (S.1 16 (x1).toNatClampNeg) = 0 → wp_p_goes_7_b56 Q (x1) (fun Sy y2 y3 => wp_p_goes_7_b15 Q x1 n Sy y2 y3) S (x2) (x3) (x2) (((200 * x1) + x3))) ∧ ((S.1 16 (x1).toNatClampNeg) = 0 → wp_p_goes_7_b56 Q (x1) (fun Sy y2 y3 => wp_p_goes_7_b15 Q x1 n Sy y2 y3) S (x2) (x3) ((-1)) (((200 * x1) + x3)))))))
def wp_p_goes_7 (S : St) (x1 : Int32) (Q : St → Prop) : Prop :=
  (vp_in x1 2 ∧ (∃ z, wp_p_goes_7_b15 Q (x1) z S ((S.1 17 (x1).toNatClampNeg)) (0)))
set_option maxRecDepth 100000 in
theorem wk_p_goes_7_b148 {G : Gx} {K : Kx} {A : Nat → Nat} (C : KOk G K RX2 cX2_goes rm_p_goes_7 5 none) {B : Nat → Prop} (M : KM G K B) {Q : St → Prop} (N : KQv G K B (wC G A) Q) (x1 : Int32) (K15 : St → Int32 → Int32 → Prop) (hK15 : ∀ (S : St) (x2 : Int32) (x3 : Int32), K15 S x2 x3 → Y G K 0 0 (wC G A S) 15 [(0, .ref (A 7)), (1, .int (x1)), (2, .int (x2)), (3, .int (x3))] []) (S : St) (x2 : Int32) (x3 : Int32) (x4 : Int32) (s0 : Int32) (s1 : Int32) (h : wp_p_goes_7_b148 Q x1 K15 S x2 x3 x4 s0 s1) : Y G K 0 0 (wC G A S) 148 [(0, .ref (A 7)), (1, .int (x1)), (2, .int (x2)), (3, .int (x3)), (4, .int (x4))] [.int (s0), .int (s1), .ref (A 3)] := by
  refine y_iast C M (wC_3 ..) rfl (wC_s3 ..) (h).1 dX2_goes_148 ?_
  refine y_iload_n C dX2_goes_149 2 rfl rfl ?_
  refine y_iconst C dX2_goes_150 ic_1 ?_
  refine y_iadd C dX2_goes_151 ?_
  refine y_aload_n C dX2_goes_152 0 rfl rfl ?_
  refine yg_X2_3_wC7 C dX2_goes_153 ?_
  refine yg_X2_15_wC0 C dX2_goes_156 ?_
  refine yg_X2_28_wC15 C dX2_goes_159 ?_
  refine y_iload_n C dX2_goes_162 1 rfl rfl ?_
  refine y_iald C (wC_16 ..) rfl ((h).2).1 dX2_goes_163 ?_
  refine y_irem C dX2_goes_164 (((h).2).2).1 ?_
  refine y_istore_n C dX2_goes_165 rfl (Nat.le_of_ble_eq_true rfl) [(2, .int ((irm (x2 + 1) ((sI S 3 (s1).toNatClampNeg s0).1 16 (x1).toNatClampNeg)))), (0, .ref (A 7)), (1, .int (x1)), (3, .int (x3)), (4, .int (x4))] rfl ?_
  refine y_iload C dX2_goes_166 4 rfl ?_
  refine y_iconst C dX2_goes_168 icm1 ?_
  refine y_icmp_eq C (tgt := 196) dX2_goes_169 rfl (fun c_30 => ?_) (fun c_30 => ?_)
  · have h_31 := ((((h).2).2).2).1 c_30
    refine y_iinc C dX2_goes_196 3 rfl (Nat.le_of_ble_eq_true rfl) (ii_1 _) [(3, .int ((x3 + 1))), (2, .int ((irm (x2 + 1) ((sI S 3 (s1).toNatClampNeg s0).1 16 (x1).toNatClampNeg)))), (0, .ref (A 7)), (1, .int (x1)), (4, .int (x4))] rfl ?_
    refine y_goto C (tgt := 15) dX2_goes_199 rfl ?_
    exact Y.sub (hK15 (sI S 3 (s1).toNatClampNeg s0) ((irm (x2 + 1) ((sI S 3 (s1).toNatClampNeg s0).1 16 (x1).toNatClampNeg))) ((x3 + 1)) (h_31)) [2, 3, 1, 0] rfl
  · have h_32 := ((((h).2).2).2).2 c_30
    refine y_iload_n C dX2_goes_172 0 rfl rfl ?_
    refine y_aload_n C dX2_goes_173 1 rfl rfl ?_
    refine y_iload C dX2_goes_174 4 rfl ?_
    refine y_callRiO (As := [.int (x4)]) (rest := [.int ((irm (x2 + 1) ((sI S 3 (s1).toNatClampNeg s0).1 16 (x1).toNatClampNeg)))]) C co_X2_49_X6 (met_h_lag_7 G A (sI S 3 (s1).toNatClampNeg s0) (x4) _ (h_32)) (fun _ h => h) (wC_7 ..) rfl rfl ⟨rfl, rfl, Nat.le_of_ble_eq_true rfl, Nat.le_of_ble_eq_true rfl⟩ rfl rfl (Nat.le_of_ble_eq_true rfl) dX2_goes_176 ⟨Nat.zero_le _, Nat.zero_le _⟩ (fun r_33 h_34 => ?_)
    refine y_isub C dX2_goes_179 ?_
    refine y_aload_n C dX2_goes_180 1 rfl rfl ?_
    refine yg_X2_3_wC7 C dX2_goes_181 ?_
    refine yg_X2_15_wC0 C dX2_goes_184 ?_
    refine yg_X2_28_wC15 C dX2_goes_187 ?_
    refine y_iload_n C dX2_goes_190 2 rfl rfl ?_
    refine y_iald C (wC_16 ..) rfl (h_34).1 dX2_goes_191 ?_
    refine y_callRiS (As := [.int (((irm (x2 + 1) ((sI S 3 (s1).toNatClampNeg s0).1 16 (x1).toNatClampNeg)) - r_33)), .int (((sI S 3 (s1).toNatClampNeg s0).1 16 (x1).toNatClampNeg))]) (rest := []) C cs_X2_52 (met_jm_floorMod G (((irm (x2 + 1) ((sI S 3 (s1).toNatClampNeg s0).1 16 (x1).toNatClampNeg)) - r_33)) (((sI S 3 (s1).toNatClampNeg s0).1 16 (x1).toNatClampNeg)) _ ((h_34).2)) (fun _ _ => pw_nil) ⟨rfl, rfl, Nat.le_of_ble_eq_true rfl, Nat.le_of_ble_eq_true rfl⟩ rfl rfl (Nat.le_of_ble_eq_true rfl) dX2_goes_192 ⟨Nat.zero_le _, Nat.zero_le _⟩ (fun r_36 h_37 => ?_)
    refine y_istore_n C dX2_goes_195 rfl (Nat.le_of_ble_eq_true rfl) [(2, .int (r_36)), (0, .ref (A 7)), (1, .int (x1)), (3, .int (x3)), (4, .int (x4))] rfl ?_
    refine y_iinc C dX2_goes_196 3 rfl (Nat.le_of_ble_eq_true rfl) (ii_1 _) [(3, .int ((x3 + 1))), (2, .int (r_36)), (0, .ref (A 7)), (1, .int (x1)), (4, .int (x4))] rfl ?_
    refine y_goto C (tgt := 15) dX2_goes_199 rfl ?_
    exact Y.sub (hK15 (sI S 3 (s1).toNatClampNeg s0) (r_36) ((x3 + 1)) (h_37)) [2, 3, 1, 0] rfl
set_option maxRecDepth 100000 in
theorem wk_p_goes_7_b56 {G : Gx} {K : Kx} {A : Nat → Nat} (C : KOk G K RX2 cX2_goes rm_p_goes_7 5 none) {B : Nat → Prop} (M : KM G K B) {Q : St → Prop} (N : KQv G K B (wC G A) Q) (x1 : Int32) (K15 : St → Int32 → Int32 → Prop) (hK15 : ∀ (S : St) (x2 : Int32) (x3 : Int32), K15 S x2 x3 → Y G K 0 0 (wC G A S) 15 [(0, .ref (A 7)), (1, .int (x1)), (2, .int (x2)), (3, .int (x3))] []) (S : St) (x2 : Int32) (x3 : Int32) (s0 : Int32) (s1 : Int32) (h : wp_p_goes_7_b56 Q x1 K15 S x2 x3 s0 s1) : Y G K 0 0 (wC G A S) 56 [(0, .ref (A 7)), (1, .int (x1)), (2, .int (x2)), (3, .int (x3))] [.int (s0), .int (s1), .ref (A 2)] := by
  refine y_iast C M (wC_2 ..) rfl (wC_s2 ..) (h).1 dX2_goes_56 ?_
  refine y_aload_n C dX2_goes_57 0 rfl rfl ?_
  refine yg_X2_3_wC7 C dX2_goes_58 ?_
  refine yg_X2_31_wC0 C dX2_goes_61 ?_
  refine y_sipush C dX2_goes_64 sp_200 ?_
  refine y_iload_n C dX2_goes_67 1 rfl rfl ?_
  refine y_imul C dX2_goes_68 ?_
  refine y_iload_n C dX2_goes_69 3 rfl rfl ?_
  refine y_iadd C dX2_goes_70 ?_
  refine y_iconst C dX2_goes_71 icm1 ?_
  refine y_iast C M (wC_3 ..) rfl (wC_s3 ..) ((h).2).1 dX2_goes_72 ?_
  refine y_aload_n C dX2_goes_73 0 rfl rfl ?_
  refine yg_X2_3_wC7 C dX2_goes_74 ?_
  refine yg_X2_15_wC0 C dX2_goes_77 ?_
  refine yg_X2_28_wC15 C dX2_goes_80 ?_
  refine y_iload_n C dX2_goes_83 1 rfl rfl ?_
  refine y_iald C (wC_16 ..) rfl (((h).2).2).1 dX2_goes_84 ?_
  refine y_if_eq C (tgt := 196) dX2_goes_85 rfl (fun c_9 => ?_) (fun c_9 => ?_)
  · have h_10 := ((((h).2).2).2).1 c_9
    refine y_iinc C dX2_goes_196 3 rfl (Nat.le_of_ble_eq_true rfl) (ii_1 _) [(3, .int ((x3 + 1))), (0, .ref (A 7)), (1, .int (x1)), (2, .int (x2))] rfl ?_
    refine y_goto C (tgt := 15) dX2_goes_199 rfl ?_
    exact Y.sub (hK15 (sI (sI S 2 (s1).toNatClampNeg s0) 3 (((200 * x1) + x3)).toNatClampNeg (-1)) (x2) ((x3 + 1)) (h_10)) [1, 2, 3, 0] rfl
  · have h_11 := ((((h).2).2).2).2 c_9
    refine y_aload_n C dX2_goes_88 0 rfl rfl ?_
    refine y_iload_n C dX2_goes_89 3 rfl rfl ?_
    refine y_callRiO (As := [.int (x3)]) (rest := []) C co_X2_34_X6 (met_u_isMud_7 G A (sI (sI S 2 (s1).toNatClampNeg s0) 3 (((200 * x1) + x3)).toNatClampNeg (-1)) (x3) _ (h_11)) (fun _ h => h) (wC_7 ..) rfl rfl ⟨rfl, rfl, Nat.le_of_ble_eq_true rfl, Nat.le_of_ble_eq_true rfl⟩ rfl rfl (Nat.le_of_ble_eq_true rfl) dX2_goes_90 ⟨Nat.zero_le _, Nat.zero_le _⟩ (fun r_12 h_13 => ?_)
    refine y_if_eq C (tgt := 99) dX2_goes_93 rfl (fun c_15 => ?_) (fun c_15 => ?_)
    · have h_16 := (h_13).1 c_15
      refine y_aload_n C dX2_goes_99 0 rfl rfl ?_
      refine y_iload_n C dX2_goes_100 1 rfl rfl ?_
      refine y_iload_n C dX2_goes_101 3 rfl rfl ?_
      refine y_callRiO (As := [.int (x1), .int (x3)]) (rest := []) C co_X2_38_X6 (met_h_stumble_7 G A (sI (sI S 2 (s1).toNatClampNeg s0) 3 (((200 * x1) + x3)).toNatClampNeg (-1)) (x1) (x3) _ (h_16)) (fun _ h => h) (wC_7 ..) rfl rfl ⟨rfl, rfl, Nat.le_of_ble_eq_true rfl, Nat.le_of_ble_eq_true rfl⟩ rfl rfl (Nat.le_of_ble_eq_true rfl) dX2_goes_102 ⟨Nat.zero_le _, Nat.zero_le _⟩ (fun r_17 h_18 => ?_)
      refine y_istore C dX2_goes_105 (Nat.le_of_ble_eq_true rfl) [(4, .int (r_17)), (0, .ref (A 7)), (1, .int (x1)), (2, .int (x2)), (3, .int (x3))] rfl ?_
      refine y_aload_n C dX2_goes_107 1 rfl rfl ?_
      refine yg_X2_3_wC7 C dX2_goes_108 ?_
      refine yg_X2_31_wC0 C dX2_goes_111 ?_
      refine y_sipush C dX2_goes_114 sp_200 ?_
      refine y_iload_n C dX2_goes_117 2 rfl rfl ?_
      refine y_imul C dX2_goes_118 ?_
      refine y_iload_n C dX2_goes_119 4 rfl rfl ?_
      refine y_iadd C dX2_goes_120 ?_
      refine y_iload C dX2_goes_121 0 rfl ?_
      refine y_iconst C dX2_goes_123 icm1 ?_
      refine y_icmp_ne C (tgt := 142) dX2_goes_124 rfl (fun c_20 => ?_) (fun c_20 => ?_)
      · have h_21 := (h_18).1 c_20
        refine y_aload_n C dX2_goes_142 1 rfl rfl ?_
        refine y_iload C dX2_goes_143 0 rfl ?_
        refine y_callRiO (As := [.int (r_17)]) (rest := [.int (((200 * x1) + x3)), .ref (A 3)]) C co_X2_45_X6 (met_h_does_7 G A (sI (sI S 2 (s1).toNatClampNeg s0) 3 (((200 * x1) + x3)).toNatClampNeg (-1)) (r_17) _ (h_21)) (fun _ h => h) (wC_7 ..) rfl rfl ⟨rfl, rfl, Nat.le_of_ble_eq_true rfl, Nat.le_of_ble_eq_true rfl⟩ rfl rfl (Nat.le_of_ble_eq_true rfl) dX2_goes_145 ⟨Nat.zero_le _, Nat.zero_le _⟩ (fun r_22 h_23 => ?_)
        exact Y.sub (wk_p_goes_7_b148 C M N (x1) K15 hK15 (sI (sI S 2 (s1).toNatClampNeg s0) 3 (((200 * x1) + x3)).toNatClampNeg (-1)) (x2) (x3) (r_17) (r_22) (((200 * x1) + x3)) (h_23)) [1, 2, 3, 4, 0] rfl
      · have h_25 := (h_18).2 c_20
        refine y_aload_n C dX2_goes_127 1 rfl rfl ?_
        refine yg_X2_3_wC7 C dX2_goes_128 ?_
        refine yg_X2_15_wC0 C dX2_goes_131 ?_
        refine y_iload_n C dX2_goes_134 2 rfl rfl ?_
        refine y_iload_n C dX2_goes_135 3 rfl rfl ?_
        refine y_callRiV (As := [.int (x1), .int (x2)]) (rest := [.int (((200 * x1) + x3)), .ref (A 3)]) C cs_X2_42 (met_d_step G A (sI (sI S 2 (s1).toNatClampNeg s0) 3 (((200 * x1) + x3)).toNatClampNeg (-1)) (x1) (x2) _ (h_25)) (fun _ h => wC_D h) (wC_15 ..) rfl rfl ⟨rfl, rfl, Nat.le_of_ble_eq_true rfl, Nat.le_of_ble_eq_true rfl⟩ rfl rfl (Nat.le_of_ble_eq_true rfl) dX2_goes_136 ⟨Nat.zero_le _, Nat.zero_le _⟩ (fun r_26 h_27 => ?_)
        refine y_goto C (tgt := 148) dX2_goes_139 rfl ?_
        exact Y.sub (wk_p_goes_7_b148 C M N (x1) K15 hK15 (sI (sI S 2 (s1).toNatClampNeg s0) 3 (((200 * x1) + x3)).toNatClampNeg (-1)) (x2) (x3) (r_17) (r_26) (((200 * x1) + x3)) (h_27)) [1, 2, 3, 4, 0] rfl
    · have h_29 := (h_13).2 c_15
      refine y_goto C (tgt := 196) dX2_goes_96 rfl ?_
      refine y_iinc C dX2_goes_196 3 rfl (Nat.le_of_ble_eq_true rfl) (ii_1 _) [(3, .int ((x3 + 1))), (0, .ref (A 7)), (1, .int (x1)), (2, .int (x2))] rfl ?_
      refine y_goto C (tgt := 15) dX2_goes_199 rfl ?_
      exact Y.sub (hK15 (sI (sI S 2 (s1).toNatClampNeg s0) 3 (((200 * x1) + x3)).toNatClampNeg (-1)) (x2) ((x3 + 1)) (h_29)) [1, 2, 3, 0] rfl
set_option maxRecDepth 100000 in
theorem wk_p_goes_7_b15 {G : Gx} {K : Kx} {A : Nat → Nat} (C : KOk G K RX2 cX2_goes rm_p_goes_7 5 none) {B : Nat → Prop} (M : KM G K B) {Q : St → Prop} (N : KQv G K B (wC G A) Q) (x1 : Int32) : ∀ (n : Nat), ∀ (S : St) (x2 : Int32) (x3 : Int32), wp_p_goes_7_b15 Q x1 n S x2 x3 → Y G K 0 0 (wC G A S) 15 [(0, .ref (A 7)), (1, .int (x1)), (2, .int (x2)), (3, .int (x3))] [] := by
  intro n
  induction n with
  | zero => intro S x2 x3 h; exact h.elim
  | succ n ih =>
    intro S x2 x3 h
    dsimp only [wp_p_goes_7_b15] at h
    refine y_iload_n C dX2_goes_15 3 rfl rfl ?_
    refine y_sipush C dX2_goes_16 sp_200 ?_
    refine y_icmp_ge C (tgt := 202) dX2_goes_19 rfl (fun c_3 => ?_) (fun c_3 => ?_)
    · have h_4 := (h).1 c_3
      exact y_vretM C M N rfl (S := S) rfl (h_4) dX2_goes_202
    · have h_5 := (h).2 c_3
      refine y_aload_n C dX2_goes_22 0 rfl rfl ?_
      refine yg_X2_3_wC7 C dX2_goes_23 ?_
      refine yg_X2_25_wC0 C dX2_goes_26 ?_
      refine y_sipush C dX2_goes_29 sp_200 ?_
      refine y_iload_n C dX2_goes_32 1 rfl rfl ?_
      refine y_imul C dX2_goes_33 ?_
      refine y_iload_n C dX2_goes_34 3 rfl rfl ?_
      refine y_iadd C dX2_goes_35 ?_
      refine y_aload_n C dX2_goes_36 0 rfl rfl ?_
      refine yg_X2_3_wC7 C dX2_goes_37 ?_
      refine yg_X2_15_wC0 C dX2_goes_40 ?_
      refine yg_X2_28_wC15 C dX2_goes_43 ?_
      refine y_iload_n C dX2_goes_46 1 rfl rfl ?_
      refine y_iald C (wC_16 ..) rfl (h_5).1 dX2_goes_47 ?_
      refine y_if_ne C (tgt := 55) dX2_goes_48 rfl (fun c_6 => ?_) (fun c_6 => ?_)
      · have h_7 := ((h_5).2).1 c_6
        refine y_iload_n C dX2_goes_55 2 rfl rfl ?_
        exact Y.sub (wk_p_goes_7_b56 C M N (x1) (fun Sy y2 y3 => wp_p_goes_7_b15 Q x1 n Sy y2 y3) ih S (x2) (x3) (x2) (((200 * x1) + x3)) (h_7)) [0, 1, 2, 3] rfl
      · have h_8 := ((h_5).2).2 c_6
        refine y_iconst C dX2_goes_51 icm1 ?_
        refine y_goto C (tgt := 56) dX2_goes_52 rfl ?_
        exact Y.sub (wk_p_goes_7_b56 C M N (x1) (fun Sy y2 y3 => wp_p_goes_7_b15 Q x1 n Sy y2 y3) ih S (x2) (x3) ((-1)) (((200 * x1) + x3)) (h_8)) [0, 1, 2, 3] rfl
set_option maxRecDepth 100000 in
theorem met_p_goes_7 (G : Gx) (A : Nat → Nat) (S : St) (x1 : Int32) (Q : St → Prop) (h : wp_p_goes_7 S x1 Q) : Mv G yX2_goes (ws_ yX2_goes cX2_goes 5 none) rm_p_goes_7 (wC G A S) [.ref (A 7), .int (x1)] (wC G A) Q := by
  refine ent_Mv (by decide +kernel) rfl (Nat.le_of_ble_eq_true rfl) [(0, .ref (A 7)), (1, .int (x1))] rfl (fun K B C M N => ?_)
  refine y_aload_n C dX2_goes_0 0 rfl rfl ?_
  refine yg_X2_3_wC7 C dX2_goes_1 ?_
  refine yg_X2_15_wC0 C dX2_goes_4 ?_
  refine yg_X2_19_wC15 C dX2_goes_7 ?_
  refine y_iload_n C dX2_goes_10 1 rfl rfl ?_
  refine y_iald C (wC_17 ..) rfl (h).1 dX2_goes_11 ?_
  refine y_istore_n C dX2_goes_12 rfl (Nat.le_of_ble_eq_true rfl) [(2, .int ((S.1 17 (x1).toNatClampNeg))), (0, .ref (A 7)), (1, .int (x1))] rfl ?_
  refine y_iconst C dX2_goes_13 ic_0 ?_
  refine y_istore_n C dX2_goes_14 rfl (Nat.le_of_ble_eq_true rfl) [(3, .int (0)), (2, .int ((S.1 17 (x1).toNatClampNeg))), (0, .ref (A 7)), (1, .int (x1))] rfl ?_
  obtain ⟨n_1, h_2⟩ := (h).2
  exact Y.sub (wk_p_goes_7_b15 C M N (x1) n_1 S ((S.1 17 (x1).toNatClampNeg)) (0) h_2) [2, 3, 1, 0] rfl
/-! OverHill$Plain goesBoth()V: p_goesBoth_5 -/
abbrev rm_p_goesBoth_5 : Room := { frames := 5, cells := 0, slots := 0, locals := 132 }
def wp_p_goesBoth_5 (S : St) (Q : St → Prop) : Prop :=
  wp_p_goes_5 S (0) (fun S_3 => wp_p_goes_5 S_3 (1) (fun S_6 => Q S_6))
set_option maxRecDepth 100000 in
theorem met_p_goesBoth_5 (G : Gx) (A : Nat → Nat) (S : St) (Q : St → Prop) (h : wp_p_goesBoth_5 S Q) : Mv G yX2_goesBoth (ws_ yX2_goesBoth cX2_goesBoth 1 none) rm_p_goesBoth_5 (wC G A S) [.ref (A 5)] (wC G A) Q := by
  refine ent_Mv (by decide +kernel) rfl (Nat.le_of_ble_eq_true rfl) [(0, .ref (A 5))] rfl (fun K B C M N => ?_)
  refine y_aload_n C dX2_goesBoth_0 0 rfl rfl ?_
  refine y_iconst C dX2_goesBoth_1 ic_0 ?_
  refine y_callMvO (k' := 0) (n' := 0) (As := [.int (0)]) (rest := []) C M co_X2_57_X4 (met_p_goes_5 G A S (0) _ (h)) (wC_5 ..) rfl rfl ⟨rfl, rfl, Nat.le_of_ble_eq_true rfl, Nat.le_of_ble_eq_true rfl⟩ rfl rfl (Nat.le_of_ble_eq_true rfl) dX2_goesBoth_2 ⟨Nat.zero_le _, Nat.zero_le _⟩ rfl rfl (fun S_3 h_2 => ?_)
  refine y_aload_n C dX2_goesBoth_5 0 rfl rfl ?_
  refine y_iconst C dX2_goesBoth_6 ic_1 ?_
  refine y_callMvO (k' := 0) (n' := 0) (As := [.int (1)]) (rest := []) C M co_X2_57_X4 (met_p_goes_5 G A S_3 (1) _ (h_2)) (wC_5 ..) rfl rfl ⟨rfl, rfl, Nat.le_of_ble_eq_true rfl, Nat.le_of_ble_eq_true rfl⟩ rfl rfl (Nat.le_of_ble_eq_true rfl) dX2_goesBoth_7 ⟨Nat.zero_le _, Nat.zero_le _⟩ rfl rfl (fun S_6 h_5 => ?_)
  exact y_vretM C M N rfl (S := S_6) rfl (h_5) dX2_goesBoth_10
/-! OverHill$Plain goesBoth()V: p_goesBoth_6 -/
abbrev rm_p_goesBoth_6 : Room := { frames := 5, cells := 0, slots := 0, locals := 132 }
def wp_p_goesBoth_6 (S : St) (Q : St → Prop) : Prop :=
  wp_p_goes_6 S (0) (fun S_3 => wp_p_goes_6 S_3 (1) (fun S_6 => Q S_6))
set_option maxRecDepth 100000 in
theorem met_p_goesBoth_6 (G : Gx) (A : Nat → Nat) (S : St) (Q : St → Prop) (h : wp_p_goesBoth_6 S Q) : Mv G yX2_goesBoth (ws_ yX2_goesBoth cX2_goesBoth 1 none) rm_p_goesBoth_6 (wC G A S) [.ref (A 6)] (wC G A) Q := by
  refine ent_Mv (by decide +kernel) rfl (Nat.le_of_ble_eq_true rfl) [(0, .ref (A 6))] rfl (fun K B C M N => ?_)
  refine y_aload_n C dX2_goesBoth_0 0 rfl rfl ?_
  refine y_iconst C dX2_goesBoth_1 ic_0 ?_
  refine y_callMvO (k' := 0) (n' := 0) (As := [.int (0)]) (rest := []) C M co_X2_57_X5 (met_p_goes_6 G A S (0) _ (h)) (wC_6 ..) rfl rfl ⟨rfl, rfl, Nat.le_of_ble_eq_true rfl, Nat.le_of_ble_eq_true rfl⟩ rfl rfl (Nat.le_of_ble_eq_true rfl) dX2_goesBoth_2 ⟨Nat.zero_le _, Nat.zero_le _⟩ rfl rfl (fun S_3 h_2 => ?_)
  refine y_aload_n C dX2_goesBoth_5 0 rfl rfl ?_
  refine y_iconst C dX2_goesBoth_6 ic_1 ?_
  refine y_callMvO (k' := 0) (n' := 0) (As := [.int (1)]) (rest := []) C M co_X2_57_X5 (met_p_goes_6 G A S_3 (1) _ (h_2)) (wC_6 ..) rfl rfl ⟨rfl, rfl, Nat.le_of_ble_eq_true rfl, Nat.le_of_ble_eq_true rfl⟩ rfl rfl (Nat.le_of_ble_eq_true rfl) dX2_goesBoth_7 ⟨Nat.zero_le _, Nat.zero_le _⟩ rfl rfl (fun S_6 h_5 => ?_)
  exact y_vretM C M N rfl (S := S_6) rfl (h_5) dX2_goesBoth_10
/-! OverHill has(II)Z: o_has -/
abbrev rm_o_has : Room := { frames := 1, cells := 0, slots := 0, locals := 40 }
def wp_o_has (x0 : Int32) (x1 : Int32) (Q : Int32 → Prop) : Prop :=
  ((¬ ((x0 >>> (x1 &&& 31)) &&& 1) = 1 → Q 0) ∧ (((x0 >>> (x1 &&& 31)) &&& 1) = 1 → Q 1))
set_option maxRecDepth 100000 in
theorem met_o_has (G : Gx) (x0 : Int32) (x1 : Int32) (Q : Int32 → Prop) (h : wp_o_has x0 x1 Q) : Ri G yX0_has (ws_ yX0_has cX0_has 2 (some .boolean)) rm_o_has [] [.int (x0), .int (x1)] Q := by
  refine ent_Ri (by decide +kernel) rfl (Nat.le_of_ble_eq_true rfl) [(0, .int (x0)), (1, .int (x1))] rfl (fun K C N => ?_)
  refine y_iload_n C dX0_has_0 0 rfl rfl ?_
  refine y_iload_n C dX0_has_1 1 rfl rfl ?_
  refine y_ishr C dX0_has_2 ?_
  refine y_iconst C dX0_has_3 ic_1 ?_
  refine y_iand C dX0_has_4 ?_
  refine y_iconst C dX0_has_5 ic_1 ?_
  refine y_icmp_ne C (tgt := 13) dX0_has_6 rfl (fun c_1 => ?_) (fun c_1 => ?_)
  · have h_2 := (h).1 c_1
    refine y_iconst C dX0_has_13 ic_0 ?_
    exact y_zretR C N rfl rfl (h_2) dX0_has_14
  · have h_3 := (h).2 c_1
    refine y_iconst C dX0_has_9 ic_1 ?_
    refine y_goto C (tgt := 14) dX0_has_10 rfl ?_
    exact y_zretR C N rfl rfl (h_3) dX0_has_14
/-! OverHill isWon(II)Z: o_isWon -/
abbrev rm_o_isWon (d : Nat) : Room := { frames := 10 + 2 * d, cells := 0, slots := 0, locals := 200 + 100 * d }
/-! OverHill winner(II)I: o_winner -/
abbrev rm_o_winner (d : Nat) : Room := { frames := 11 + 2 * d, cells := 0, slots := 0, locals := 240 + 100 * d }
def wp_o_winner_b2 (Rec : St → Int32 → Int32 → (Int32 → St → Prop) → Prop) (Q : Int32 → St → Prop) (x1 : Int32) (x2 : Int32) : Nat → St → Int32 → Prop
  | 0 => fun _ _ => False
  | n + 1 => fun S x3 => ((6 ≤ x3 → Q (-1) S) ∧ (¬ 6 ≤ x3 → (vp_in x2 6 ∧ wp_o_has ((S.1 19 (x2).toNatClampNeg)) (x3) (fun r_6 => ((r_6 = 0 → wp_o_winner_b2 Rec Q x1 x2 n S ((x3 + 1))) ∧ (¬ r_6 = 0 → (vp_in x3 6 ∧ (¬ (S.1 13 (x3).toNatClampNeg) = 0 ∧ ((2 ≤ (irm (x1 / (S.1 13 (x3).toNatClampNeg)) 3) → wp_o_winner_b2 Rec Q x1 x2 n S ((x3 + 1))) ∧ (¬ 2 ≤ (irm (x1 / (S.1 13 (x3).toNatClampNeg)) 3) → (vp_in x3 6 ∧ Rec S ((x1 + (S.1 13 (x3).toNatClampNeg))) (x3) (fun r_15 S_17 => ((¬ r_15 = 0 → wp_o_winner_b2 Rec Q x1 x2 n S_17 ((x3 + 1))) ∧ (r_15 = 0 → Q x3 S_17))))))))))))))
def wp_o_winner (Rec : St → Int32 → Int32 → (Int32 → St → Prop) → Prop) (S : St) (x1 : Int32) (x2 : Int32) (Q : Int32 → St → Prop) : Prop :=
  (∃ z, wp_o_winner_b2 Rec Q (x1) (x2) z S (0))
set_option maxRecDepth 100000 in
theorem wk_o_winner_b2 {G : Gx} {K : Kx} {A : Nat → Nat} {d : Nat} (C : KOk G K RX0 cX0_winner (rm_o_winner d) 4 (some .int)) {B : Nat → Prop} (M : KM G K B) {Rec : St → Int32 → Int32 → (Int32 → St → Prop) → Prop} (hRec : ∀ (S : St) (x1 : Int32) (x2 : Int32) (Q : Int32 → St → Prop), Rec S x1 x2 Q → Mi G yX0_isWon (ws_ yX0_isWon cX0_isWon 4 (some .boolean)) (rm_o_isWon d) (wC G A S) [.ref (A 0), .int (x1), .int (x2)] (wC G A) Q) {Q : Int32 → St → Prop} (N : KQi G K B (wC G A) Q) (x1 : Int32) (x2 : Int32) : ∀ (n : Nat), ∀ (S : St) (x3 : Int32), wp_o_winner_b2 Rec Q x1 x2 n S x3 → Y G K 0 0 (wC G A S) 2 [(0, .ref (A 0)), (1, .int (x1)), (2, .int (x2)), (3, .int (x3))] [] := by
  intro n
  induction n with
  | zero => intro S x3 h; exact h.elim
  | succ n ih =>
    intro S x3 h
    dsimp only [wp_o_winner_b2] at h
    refine y_iload_n C dX0_winner_2 3 rfl rfl ?_
    refine y_bipush C dX0_winner_3 bp_6 ?_
    refine y_icmp_ge C (tgt := 62) dX0_winner_5 rfl (fun c_3 => ?_) (fun c_3 => ?_)
    · have h_4 := (h).1 c_3
      refine y_iconst C dX0_winner_62 icm1 ?_
      exact y_iretM C M N rfl (S := S) rfl (h_4) dX0_winner_63
    · have h_5 := (h).2 c_3
      refine y_aload_n C dX0_winner_8 0 rfl rfl ?_
      refine yg_X0_12_wC0 C dX0_winner_9 ?_
      refine yg_X0_163_wC15 C dX0_winner_12 ?_
      refine y_iload_n C dX0_winner_15 2 rfl rfl ?_
      refine y_iald C (wC_19 ..) rfl (h_5).1 dX0_winner_16 ?_
      refine y_iload_n C dX0_winner_17 3 rfl rfl ?_
      refine y_callRiS (As := [.int ((S.1 19 (x2).toNatClampNeg)), .int (x3)]) (rest := []) C cs_X0_197 (met_o_has G ((S.1 19 (x2).toNatClampNeg)) (x3) _ ((h_5).2)) (fun _ _ => pw_nil) ⟨rfl, rfl, by simp only [rm_o_winner, rm_o_has]; omega, by simp only [rm_o_winner, rm_o_has]; omega⟩ rfl rfl (Nat.le_of_ble_eq_true rfl) dX0_winner_18 ⟨Nat.zero_le _, Nat.zero_le _⟩ (fun r_6 h_7 => ?_)
      refine y_if_eq C (tgt := 56) dX0_winner_21 rfl (fun c_9 => ?_) (fun c_9 => ?_)
      · have h_10 := (h_7).1 c_9
        refine y_iinc C dX0_winner_56 3 rfl (Nat.le_of_ble_eq_true rfl) (ii_1 _) [(3, .int ((x3 + 1))), (0, .ref (A 0)), (1, .int (x1)), (2, .int (x2))] rfl ?_
        refine y_goto C (tgt := 2) dX0_winner_59 rfl ?_
        exact Y.sub (ih S ((x3 + 1)) (h_10)) [1, 2, 3, 0] rfl
      · have h_11 := (h_7).2 c_9
        refine y_iload_n C dX0_winner_24 1 rfl rfl ?_
        refine y_aload_n C dX0_winner_25 0 rfl rfl ?_
        refine yg_X0_76_wC0 C dX0_winner_26 ?_
        refine y_iload_n C dX0_winner_29 3 rfl rfl ?_
        refine y_iald C (wC_13 ..) rfl (h_11).1 dX0_winner_30 ?_
        refine y_idiv C dX0_winner_31 ((h_11).2).1 ?_
        refine y_iconst C dX0_winner_32 ic_3 ?_
        refine y_irem C dX0_winner_33 nz_I_3 ?_
        refine y_iconst C dX0_winner_34 ic_2 ?_
        refine y_icmp_ge C (tgt := 56) dX0_winner_35 rfl (fun c_12 => ?_) (fun c_12 => ?_)
        · have h_13 := (((h_11).2).2).1 c_12
          refine y_iinc C dX0_winner_56 3 rfl (Nat.le_of_ble_eq_true rfl) (ii_1 _) [(3, .int ((x3 + 1))), (0, .ref (A 0)), (1, .int (x1)), (2, .int (x2))] rfl ?_
          refine y_goto C (tgt := 2) dX0_winner_59 rfl ?_
          exact Y.sub (ih S ((x3 + 1)) (h_13)) [1, 2, 3, 0] rfl
        · have h_14 := (((h_11).2).2).2 c_12
          refine y_aload_n C dX0_winner_38 0 rfl rfl ?_
          refine y_iload_n C dX0_winner_39 1 rfl rfl ?_
          refine y_aload_n C dX0_winner_40 0 rfl rfl ?_
          refine yg_X0_76_wC0 C dX0_winner_41 ?_
          refine y_iload_n C dX0_winner_44 3 rfl rfl ?_
          refine y_iald C (wC_13 ..) rfl (h_14).1 dX0_winner_45 ?_
          refine y_iadd C dX0_winner_46 ?_
          refine y_iload_n C dX0_winner_47 3 rfl rfl ?_
          refine y_callMiV (k' := 0) (n' := 0) (As := [.int ((x1 + (S.1 13 (x3).toNatClampNeg))), .int (x3)]) (rest := []) C M cs_X0_390 (hRec S ((x1 + (S.1 13 (x3).toNatClampNeg))) (x3) _ ((h_14).2)) (wC_0 ..) rfl rfl ⟨rfl, rfl, by simp only [rm_o_winner, rm_o_isWon]; omega, by simp only [rm_o_winner, rm_o_isWon]; omega⟩ rfl rfl (Nat.le_of_ble_eq_true rfl) dX0_winner_48 ⟨Nat.zero_le _, Nat.zero_le _⟩ rfl rfl (fun r_15 S_17 h_16 => ?_)
          refine y_if_ne C (tgt := 56) dX0_winner_51 rfl (fun c_18 => ?_) (fun c_18 => ?_)
          · have h_19 := (h_16).1 c_18
            refine y_iinc C dX0_winner_56 3 rfl (Nat.le_of_ble_eq_true rfl) (ii_1 _) [(3, .int ((x3 + 1))), (0, .ref (A 0)), (1, .int (x1)), (2, .int (x2))] rfl ?_
            refine y_goto C (tgt := 2) dX0_winner_59 rfl ?_
            exact Y.sub (ih S_17 ((x3 + 1)) (h_19)) [1, 2, 3, 0] rfl
          · have h_20 := (h_16).2 c_18
            refine y_iload_n C dX0_winner_54 3 rfl rfl ?_
            exact y_iretM C M N rfl (S := S_17) rfl (h_20) dX0_winner_55
set_option maxRecDepth 100000 in
theorem met_o_winner (G : Gx) (A : Nat → Nat) {d : Nat} {Rec : St → Int32 → Int32 → (Int32 → St → Prop) → Prop} (hRec : ∀ (S : St) (x1 : Int32) (x2 : Int32) (Q : Int32 → St → Prop), Rec S x1 x2 Q → Mi G yX0_isWon (ws_ yX0_isWon cX0_isWon 4 (some .boolean)) (rm_o_isWon d) (wC G A S) [.ref (A 0), .int (x1), .int (x2)] (wC G A) Q) (S : St) (x1 : Int32) (x2 : Int32) (Q : Int32 → St → Prop) (h : wp_o_winner Rec S x1 x2 Q) : Mi G yX0_winner (ws_ yX0_winner cX0_winner 4 (some .int)) (rm_o_winner d) (wC G A S) [.ref (A 0), .int (x1), .int (x2)] (wC G A) Q := by
  refine ent_Mi (by decide +kernel) rfl (Nat.le_of_ble_eq_true rfl) [(0, .ref (A 0)), (1, .int (x1)), (2, .int (x2))] rfl (fun K B C M N => ?_)
  refine y_iconst C dX0_winner_0 ic_0 ?_
  refine y_istore_n C dX0_winner_1 rfl (Nat.le_of_ble_eq_true rfl) [(3, .int (0)), (0, .ref (A 0)), (1, .int (x1)), (2, .int (x2))] rfl ?_
  obtain ⟨n_1, h_2⟩ := h
  exact Y.sub (wk_o_winner_b2 C M hRec N (x1) (x2) n_1 S (0) h_2) [1, 2, 3, 0] rfl
def wp_o_isWon_b38 (Rec : St → Int32 → Int32 → (Int32 → St → Prop) → Prop) (Q : Int32 → St → Prop) (S : St) (x3 : Int32) : Prop :=
  (vp_in x3 4374 ∧ ((¬ (S.1 12 (x3).toNatClampNeg) = 1 → Q 0 S) ∧ ((S.1 12 (x3).toNatClampNeg) = 1 → Q 1 S)))
def wp_o_isWon_b36 (Rec : St → Int32 → Int32 → (Int32 → St → Prop) → Prop) (Q : Int32 → St → Prop) (S : St) (x3 : Int32) (s0 : Int32) (s1 : Int32) : Prop :=
  (vp_in s1 4374 ∧ wp_o_isWon_b38 Rec Q (sI S 12 (s1).toNatClampNeg (vp_nar .byte (s0).toInt8.toInt32)) (x3))
def wp_o_isWon_e (Rec : St → Int32 → Int32 → (Int32 → St → Prop) → Prop) (S : St) (x1 : Int32) (x2 : Int32) (Q : Int32 → St → Prop) : Prop :=
  (vp_in ((6 * x1) + x2) 4374 ∧ ((¬ (S.1 12 (((6 * x1) + x2)).toNatClampNeg) = 0 → wp_o_isWon_b38 Rec Q S (((6 * x1) + x2))) ∧ ((S.1 12 (((6 * x1) + x2)).toNatClampNeg) = 0 → wp_o_winner Rec S (x1) (x2) (fun r_4 S_6 => ((¬ r_4 = (-1) → wp_o_isWon_b36 Rec Q S_6 (((6 * x1) + x2)) (1) (((6 * x1) + x2))) ∧ (r_4 = (-1) → wp_o_isWon_b36 Rec Q S_6 (((6 * x1) + x2)) (2) (((6 * x1) + x2))))))))
def wp_o_isWon : Nat → St → Int32 → Int32 → (Int32 → St → Prop) → Prop
  | 0 => fun _ _ _ _ => False
  | d + 1 => wp_o_isWon_e (wp_o_isWon d)
theorem rmr_o_isWon (d : Nat) : (rm_o_isWon d).cells = 0 ∧ (rm_o_isWon d).slots = 0 ∧ (rm_o_isWon d).frames + 1 ≤ (rm_o_isWon (d + 1)).frames ∧ 8 + (4 + 11) + (rm_o_isWon d).locals ≤ (rm_o_isWon (d + 1)).locals := ⟨rfl, rfl, by simp only [rm_o_isWon]; omega, by simp only [rm_o_isWon]; omega⟩
set_option maxRecDepth 100000 in
theorem wk_o_isWon_b38 {G : Gx} {K : Kx} {A : Nat → Nat} {d : Nat} (C : KOk G K RX0 cX0_isWon (rm_o_isWon (d + 1)) 4 (some .boolean)) {B : Nat → Prop} (M : KM G K B) {Rec : St → Int32 → Int32 → (Int32 → St → Prop) → Prop} (hRec : ∀ (S : St) (x1 : Int32) (x2 : Int32) (Q : Int32 → St → Prop), Rec S x1 x2 Q → Mi G yX0_isWon (ws_ yX0_isWon cX0_isWon 4 (some .boolean)) (rm_o_isWon d) (wC G A S) [.ref (A 0), .int (x1), .int (x2)] (wC G A) Q) {Q : Int32 → St → Prop} (N : KQi G K B (wC G A) Q) (S : St) (x3 : Int32) (h : wp_o_isWon_b38 Rec Q S x3) : Y G K 0 0 (wC G A S) 38 [(0, .ref (A 0)), (3, .int (x3))] [] := by
  refine y_aload_n C dX0_isWon_38 0 rfl rfl ?_
  refine yg_X0_73_wC0 C dX0_isWon_39 ?_
  refine y_iload_n C dX0_isWon_42 1 rfl rfl ?_
  refine y_bald C (wC_12 ..) rfl (h).1 dX0_isWon_43 ?_
  refine y_iconst C dX0_isWon_44 ic_1 ?_
  refine y_icmp_ne C (tgt := 52) dX0_isWon_45 rfl (fun c_10 => ?_) (fun c_10 => ?_)
  · have h_11 := ((h).2).1 c_10
    refine y_iconst C dX0_isWon_52 ic_0 ?_
    exact y_zretM C M N rfl rfl (S := S) rfl (h_11) dX0_isWon_53
  · have h_12 := ((h).2).2 c_10
    refine y_iconst C dX0_isWon_48 ic_1 ?_
    refine y_goto C (tgt := 53) dX0_isWon_49 rfl ?_
    exact y_zretM C M N rfl rfl (S := S) rfl (h_12) dX0_isWon_53
set_option maxRecDepth 100000 in
theorem wk_o_isWon_b36 {G : Gx} {K : Kx} {A : Nat → Nat} {d : Nat} (C : KOk G K RX0 cX0_isWon (rm_o_isWon (d + 1)) 4 (some .boolean)) {B : Nat → Prop} (M : KM G K B) {Rec : St → Int32 → Int32 → (Int32 → St → Prop) → Prop} (hRec : ∀ (S : St) (x1 : Int32) (x2 : Int32) (Q : Int32 → St → Prop), Rec S x1 x2 Q → Mi G yX0_isWon (ws_ yX0_isWon cX0_isWon 4 (some .boolean)) (rm_o_isWon d) (wC G A S) [.ref (A 0), .int (x1), .int (x2)] (wC G A) Q) {Q : Int32 → St → Prop} (N : KQi G K B (wC G A) Q) (S : St) (x3 : Int32) (s0 : Int32) (s1 : Int32) (h : wp_o_isWon_b36 Rec Q S x3 s0 s1) : Y G K 0 0 (wC G A S) 36 [(0, .ref (A 0)), (3, .int (x3))] [.int (s0), .int (s1), .ref (A 12)] := by
  refine y_i2b C dX0_isWon_36 ?_
  refine y_bast C M (wC_12 ..) rfl (wC_s12 ..) (h).1 dX0_isWon_37 ?_
  exact Y.sub (wk_o_isWon_b38 C M hRec N (sI S 12 (s1).toNatClampNeg (vp_nar .byte (s0).toInt8.toInt32)) (x3) ((h).2)) [0, 1] rfl
set_option maxRecDepth 100000 in
theorem mez_o_isWon (G : Gx) (A : Nat → Nat) {d : Nat} {Rec : St → Int32 → Int32 → (Int32 → St → Prop) → Prop} (hRec : ∀ (S : St) (x1 : Int32) (x2 : Int32) (Q : Int32 → St → Prop), Rec S x1 x2 Q → Mi G yX0_isWon (ws_ yX0_isWon cX0_isWon 4 (some .boolean)) (rm_o_isWon d) (wC G A S) [.ref (A 0), .int (x1), .int (x2)] (wC G A) Q) (S : St) (x1 : Int32) (x2 : Int32) (Q : Int32 → St → Prop) (h : wp_o_isWon_e Rec S x1 x2 Q) : Mi G yX0_isWon (ws_ yX0_isWon cX0_isWon 4 (some .boolean)) (rm_o_isWon (d + 1)) (wC G A S) [.ref (A 0), .int (x1), .int (x2)] (wC G A) Q := by
  refine ent_Mi (by decide +kernel) rfl (Nat.le_of_ble_eq_true rfl) [(0, .ref (A 0)), (1, .int (x1)), (2, .int (x2))] rfl (fun K B C M N => ?_)
  refine y_bipush C dX0_isWon_0 bp_6 ?_
  refine y_iload_n C dX0_isWon_2 1 rfl rfl ?_
  refine y_imul C dX0_isWon_3 ?_
  refine y_iload_n C dX0_isWon_4 2 rfl rfl ?_
  refine y_iadd C dX0_isWon_5 ?_
  refine y_istore_n C dX0_isWon_6 rfl (Nat.le_of_ble_eq_true rfl) [(3, .int (((6 * x1) + x2))), (0, .ref (A 0)), (1, .int (x1)), (2, .int (x2))] rfl ?_
  refine y_aload_n C dX0_isWon_7 1 rfl rfl ?_
  refine yg_X0_73_wC0 C dX0_isWon_8 ?_
  refine y_iload_n C dX0_isWon_11 0 rfl rfl ?_
  refine y_bald C (wC_12 ..) rfl (h).1 dX0_isWon_12 ?_
  refine y_if_ne C (tgt := 38) dX0_isWon_13 rfl (fun c_1 => ?_) (fun c_1 => ?_)
  · have h_2 := ((h).2).1 c_1
    exact Y.sub (wk_o_isWon_b38 C M hRec N S (((6 * x1) + x2)) (h_2)) [1, 0] rfl
  · have h_3 := ((h).2).2 c_1
    refine y_aload_n C dX0_isWon_16 1 rfl rfl ?_
    refine yg_X0_73_wC0 C dX0_isWon_17 ?_
    refine y_iload_n C dX0_isWon_20 0 rfl rfl ?_
    refine y_aload_n C dX0_isWon_21 1 rfl rfl ?_
    refine y_iload_n C dX0_isWon_22 2 rfl rfl ?_
    refine y_iload_n C dX0_isWon_23 3 rfl rfl ?_
    refine y_callMiV (k' := 0) (n' := 0) (As := [.int (x1), .int (x2)]) (rest := [.int (((6 * x1) + x2)), .ref (A 12)]) C M cs_X0_387 (met_o_winner G A (d := d) hRec S (x1) (x2) _ (h_3)) (wC_0 ..) rfl rfl ⟨rfl, rfl, by simp only [rm_o_isWon, rm_o_winner]; omega, by simp only [rm_o_isWon, rm_o_winner]; omega⟩ rfl rfl (Nat.le_of_ble_eq_true rfl) dX0_isWon_24 ⟨Nat.zero_le _, Nat.zero_le _⟩ rfl rfl (fun r_4 S_6 h_5 => ?_)
    refine y_iconst C dX0_isWon_27 icm1 ?_
    refine y_icmp_ne C (tgt := 35) dX0_isWon_28 rfl (fun c_7 => ?_) (fun c_7 => ?_)
    · have h_8 := (h_5).1 c_7
      refine y_iconst C dX0_isWon_35 ic_1 ?_
      exact Y.sub (wk_o_isWon_b36 C M hRec N S_6 (((6 * x1) + x2)) (1) (((6 * x1) + x2)) (h_8)) [1, 0] rfl
    · have h_9 := (h_5).2 c_7
      refine y_iconst C dX0_isWon_31 ic_2 ?_
      refine y_goto C (tgt := 36) dX0_isWon_32 rfl ?_
      exact Y.sub (wk_o_isWon_b36 C M hRec N S_6 (((6 * x1) + x2)) (2) (((6 * x1) + x2)) (h_9)) [1, 0] rfl
set_option maxRecDepth 100000 in
theorem met_o_isWon (G : Gx) (d : Nat) (A : Nat → Nat) : ∀ (S : St) (x1 : Int32) (x2 : Int32) (Q : Int32 → St → Prop), wp_o_isWon d S x1 x2 Q → Mi G yX0_isWon (ws_ yX0_isWon cX0_isWon 4 (some .boolean)) (rm_o_isWon d) (wC G A S) [.ref (A 0), .int (x1), .int (x2)] (wC G A) Q := by
  induction d with
  | zero => intro S x1 x2 Q h; exact h.elim
  | succ d ih => intro S x1 x2 Q h; exact mez_o_isWon G A (d := d) ih S x1 x2 Q h
/-! OverHill puts(I)V: o_puts -/
abbrev rm_o_puts : Room := { frames := 1, cells := 0, slots := 0, locals := 40 }
def wp_o_puts_b3 (Q : St → Prop) (x1 : Int32) : Nat → St → Int32 → Prop
  | 0 => fun _ _ => False
  | n + 1 => fun S x2 => ((x2 < 0 → Q S) ∧ (¬ x2 < 0 → (vp_in (S.1 0 2) 1200 ∧ wp_o_puts_b3 Q x1 n (sI (sI S 1 ((S.1 0 2)).toNatClampNeg (vp_nar .byte ((x1 >>> (x2 &&& 31))).toInt8.toInt32)) 0 2 (((sI S 1 ((S.1 0 2)).toNatClampNeg (vp_nar .byte ((x1 >>> (x2 &&& 31))).toInt8.toInt32)).1 0 2) + 1)) ((x2 + (-8))))))
def wp_o_puts (S : St) (x1 : Int32) (Q : St → Prop) : Prop :=
  (∃ z, wp_o_puts_b3 Q (x1) z S (24))
set_option maxRecDepth 100000 in
theorem wk_o_puts_b3 {G : Gx} {K : Kx} {A : Nat → Nat} (C : KOk G K RX0 cX0_puts rm_o_puts 3 none) {B : Nat → Prop} (M : KM G K B) {Q : St → Prop} (N : KQv G K B (wC G A) Q) (x1 : Int32) : ∀ (n : Nat), ∀ (S : St) (x2 : Int32), wp_o_puts_b3 Q x1 n S x2 → Y G K 0 0 (wC G A S) 3 [(0, .ref (A 0)), (1, .int (x1)), (2, .int (x2))] [] := by
  intro n
  induction n with
  | zero => intro S x2 h; exact h.elim
  | succ n ih =>
    intro S x2 h
    dsimp only [wp_o_puts_b3] at h
    refine y_iload_n C dX0_puts_3 2 rfl rfl ?_
    refine y_if_lt C (tgt := 36) dX0_puts_4 rfl (fun c_3 => ?_) (fun c_3 => ?_)
    · have h_4 := (h).1 c_3
      exact y_vretM C M N rfl (S := S) rfl (h_4) dX0_puts_36
    · have h_5 := (h).2 c_3
      refine y_aload_n C dX0_puts_7 0 rfl rfl ?_
      refine yg_X0_16_wC0 C dX0_puts_8 ?_
      refine y_aload_n C dX0_puts_11 0 rfl rfl ?_
      refine yg_X0_96_wC0 C dX0_puts_12 ?_
      refine y_iload_n C dX0_puts_15 1 rfl rfl ?_
      refine y_iload_n C dX0_puts_16 2 rfl rfl ?_
      refine y_ishr C dX0_puts_17 ?_
      refine y_i2b C dX0_puts_18 ?_
      refine y_bast C M (wC_1 ..) rfl (wC_s1 ..) (h_5).1 dX0_puts_19 ?_
      refine y_aload_n C dX0_puts_20 0 rfl rfl ?_
      refine y_dup C dX0_puts_21 rfl ?_
      refine yg_X0_96_wC0 C dX0_puts_22 ?_
      refine y_iconst C dX0_puts_25 ic_1 ?_
      refine y_iadd C dX0_puts_26 ?_
      refine yp_X0_96_wC0 C M dX0_puts_27 ?_
      refine y_iinc C dX0_puts_30 2 rfl (Nat.le_of_ble_eq_true rfl) (iim8 _) [(2, .int ((x2 + (-8)))), (0, .ref (A 0)), (1, .int (x1))] rfl ?_
      refine y_goto C (tgt := 3) dX0_puts_33 rfl ?_
      exact Y.sub (ih (sI (sI S 1 ((S.1 0 2)).toNatClampNeg (vp_nar .byte ((x1 >>> (x2 &&& 31))).toInt8.toInt32)) 0 2 (((sI S 1 ((S.1 0 2)).toNatClampNeg (vp_nar .byte ((x1 >>> (x2 &&& 31))).toInt8.toInt32)).1 0 2) + 1)) ((x2 + (-8))) ((h_5).2)) [1, 2, 0] rfl
set_option maxRecDepth 100000 in
theorem met_o_puts (G : Gx) (A : Nat → Nat) (S : St) (x1 : Int32) (Q : St → Prop) (h : wp_o_puts S x1 Q) : Mv G yX0_puts (ws_ yX0_puts cX0_puts 3 none) rm_o_puts (wC G A S) [.ref (A 0), .int (x1)] (wC G A) Q := by
  refine ent_Mv (by decide +kernel) rfl (Nat.le_of_ble_eq_true rfl) [(0, .ref (A 0)), (1, .int (x1))] rfl (fun K B C M N => ?_)
  refine y_bipush C dX0_puts_0 bp_24 ?_
  refine y_istore_n C dX0_puts_2 rfl (Nat.le_of_ble_eq_true rfl) [(2, .int (24)), (0, .ref (A 0)), (1, .int (x1))] rfl ?_
  obtain ⟨n_1, h_2⟩ := h
  exact Y.sub (wk_o_puts_b3 C M N (x1) n_1 S (24) h_2) [1, 2, 0] rfl
/-! OverHill feed(IIIII)I: o_feed -/
abbrev rm_o_feed : Room := { frames := 2, cells := 0, slots := 0, locals := 62 }
def wp_o_feed (S : St) (x1 : Int32) (x2 : Int32) (x3 : Int32) (x4 : Int32) (x5 : Int32) (Q : Int32 → St → Prop) : Prop :=
  ((((S.1 0 2) + 20) ≤ 1200 → wp_o_puts S (x1) (fun S_5 => wp_o_puts S_5 (x2) (fun S_8 => wp_o_puts S_8 (x3) (fun S_11 => wp_o_puts S_11 (x4) (fun S_14 => wp_o_puts S_14 (x5) (fun S_17 => Q (S_17.1 0 2) S_17)))))) ∧ (¬ ((S.1 0 2) + 20) ≤ 1200 → Q (-1) S))
set_option maxRecDepth 100000 in
theorem met_o_feed (G : Gx) (A : Nat → Nat) (S : St) (x1 : Int32) (x2 : Int32) (x3 : Int32) (x4 : Int32) (x5 : Int32) (Q : Int32 → St → Prop) (h : wp_o_feed S x1 x2 x3 x4 x5 Q) : Mi G yX0_feed (ws_ yX0_feed cX0_feed 6 (some .int)) rm_o_feed (wC G A S) [.ref (A 0), .int (x1), .int (x2), .int (x3), .int (x4), .int (x5)] (wC G A) Q := by
  refine ent_Mi (by decide +kernel) rfl (Nat.le_of_ble_eq_true rfl) [(0, .ref (A 0)), (1, .int (x1)), (2, .int (x2)), (3, .int (x3)), (4, .int (x4)), (5, .int (x5))] rfl (fun K B C M N => ?_)
  refine y_aload_n C dX0_feed_0 0 rfl rfl ?_
  refine yg_X0_96_wC0 C dX0_feed_1 ?_
  refine y_bipush C dX0_feed_4 bp_20 ?_
  refine y_iadd C dX0_feed_6 ?_
  refine y_sipush C dX0_feed_7 sp_1200 ?_
  refine y_icmp_le C (tgt := 15) dX0_feed_10 rfl (fun c_1 => ?_) (fun c_1 => ?_)
  · have h_2 := (h).1 c_1
    refine y_aload_n C dX0_feed_15 0 rfl rfl ?_
    refine y_iload_n C dX0_feed_16 1 rfl rfl ?_
    refine y_callMvV (k' := 0) (n' := 0) (As := [.int (x1)]) (rest := []) C M cs_X0_99 (met_o_puts G A S (x1) _ (h_2)) (wC_0 ..) rfl rfl ⟨rfl, rfl, Nat.le_of_ble_eq_true rfl, Nat.le_of_ble_eq_true rfl⟩ rfl rfl (Nat.le_of_ble_eq_true rfl) dX0_feed_17 ⟨Nat.zero_le _, Nat.zero_le _⟩ rfl rfl (fun S_5 h_4 => ?_)
    refine y_aload_n C dX0_feed_20 0 rfl rfl ?_
    refine y_iload_n C dX0_feed_21 2 rfl rfl ?_
    refine y_callMvV (k' := 0) (n' := 0) (As := [.int (x2)]) (rest := []) C M cs_X0_99 (met_o_puts G A S_5 (x2) _ (h_4)) (wC_0 ..) rfl rfl ⟨rfl, rfl, Nat.le_of_ble_eq_true rfl, Nat.le_of_ble_eq_true rfl⟩ rfl rfl (Nat.le_of_ble_eq_true rfl) dX0_feed_22 ⟨Nat.zero_le _, Nat.zero_le _⟩ rfl rfl (fun S_8 h_7 => ?_)
    refine y_aload_n C dX0_feed_25 0 rfl rfl ?_
    refine y_iload_n C dX0_feed_26 3 rfl rfl ?_
    refine y_callMvV (k' := 0) (n' := 0) (As := [.int (x3)]) (rest := []) C M cs_X0_99 (met_o_puts G A S_8 (x3) _ (h_7)) (wC_0 ..) rfl rfl ⟨rfl, rfl, Nat.le_of_ble_eq_true rfl, Nat.le_of_ble_eq_true rfl⟩ rfl rfl (Nat.le_of_ble_eq_true rfl) dX0_feed_27 ⟨Nat.zero_le _, Nat.zero_le _⟩ rfl rfl (fun S_11 h_10 => ?_)
    refine y_aload_n C dX0_feed_30 0 rfl rfl ?_
    refine y_iload C dX0_feed_31 4 rfl ?_
    refine y_callMvV (k' := 0) (n' := 0) (As := [.int (x4)]) (rest := []) C M cs_X0_99 (met_o_puts G A S_11 (x4) _ (h_10)) (wC_0 ..) rfl rfl ⟨rfl, rfl, Nat.le_of_ble_eq_true rfl, Nat.le_of_ble_eq_true rfl⟩ rfl rfl (Nat.le_of_ble_eq_true rfl) dX0_feed_33 ⟨Nat.zero_le _, Nat.zero_le _⟩ rfl rfl (fun S_14 h_13 => ?_)
    refine y_aload_n C dX0_feed_36 0 rfl rfl ?_
    refine y_iload C dX0_feed_37 5 rfl ?_
    refine y_callMvV (k' := 0) (n' := 0) (As := [.int (x5)]) (rest := []) C M cs_X0_99 (met_o_puts G A S_14 (x5) _ (h_13)) (wC_0 ..) rfl rfl ⟨rfl, rfl, Nat.le_of_ble_eq_true rfl, Nat.le_of_ble_eq_true rfl⟩ rfl rfl (Nat.le_of_ble_eq_true rfl) dX0_feed_39 ⟨Nat.zero_le _, Nat.zero_le _⟩ rfl rfl (fun S_17 h_16 => ?_)
    refine y_aload_n C dX0_feed_42 0 rfl rfl ?_
    refine yg_X0_96_wC0 C dX0_feed_43 ?_
    exact y_iretM C M N rfl (S := S_17) rfl (h_16) dX0_feed_46
  · have h_18 := (h).2 c_1
    refine y_iconst C dX0_feed_13 icm1 ?_
    exact y_iretM C M N rfl (S := S) rfl (h_18) dX0_feed_14
/-! OverHill isIn(JJJ)Z: o_isIn -/
abbrev rm_o_isIn : Room := { frames := 1, cells := 0, slots := 0, locals := 40 }
def wp_o_isIn (x0 : Int64) (x2 : Int64) (x4 : Int64) (Q : Int32 → Prop) : Prop :=
  (((lg_cmp x0 x2) < 0 → Q 0) ∧ (¬ (lg_cmp x0 x2) < 0 → ((0 < (lg_cmp x0 x4) → Q 0) ∧ (¬ 0 < (lg_cmp x0 x4) → Q 1))))
set_option maxRecDepth 100000 in
theorem met_o_isIn (G : Gx) (x0 : Int64) (x2 : Int64) (x4 : Int64) (Q : Int32 → Prop) (h : wp_o_isIn x0 x2 x4 Q) : Ri G yX0_isIn (ws_ yX0_isIn cX0_isIn 6 (some .boolean)) rm_o_isIn [] [.long (x0), .long (x2), .long (x4)] Q := by
  refine ent_Ri (by decide +kernel) rfl (Nat.le_of_ble_eq_true rfl) [(0, .long (x0)), (2, .long (x2)), (4, .long (x4))] rfl (fun K C N => ?_)
  refine y_lload_n C dX0_isIn_0 0 rfl rfl ?_
  refine y_lload_n C dX0_isIn_1 1 rfl rfl ?_
  refine y_lcmp C dX0_isIn_2 ?_
  refine y_if_lt C (tgt := 17) dX0_isIn_3 rfl (fun c_1 => ?_) (fun c_1 => ?_)
  · have h_2 := (h).1 c_1
    refine y_iconst C dX0_isIn_17 ic_0 ?_
    exact y_zretR C N rfl rfl (h_2) dX0_isIn_18
  · have h_3 := (h).2 c_1
    refine y_lload_n C dX0_isIn_6 0 rfl rfl ?_
    refine y_lload C dX0_isIn_7 2 rfl ?_
    refine y_lcmp C dX0_isIn_9 ?_
    refine y_if_gt C (tgt := 17) dX0_isIn_10 rfl (fun c_4 => ?_) (fun c_4 => ?_)
    · have h_5 := (h_3).1 c_4
      refine y_iconst C dX0_isIn_17 ic_0 ?_
      exact y_zretR C N rfl rfl (h_5) dX0_isIn_18
    · have h_6 := (h_3).2 c_4
      refine y_iconst C dX0_isIn_13 ic_1 ?_
      refine y_goto C (tgt := 18) dX0_isIn_14 rfl ?_
      exact y_zretR C N rfl rfl (h_6) dX0_isIn_18
/-! OverHill end(I)I: o_end -/
abbrev rm_o_end : Room := { frames := 2, cells := 0, slots := 0, locals := 65 }
def wp_o_end (S : St) (x1 : Int32) (Q : Int32 → St → Prop) : Prop :=
  wp_o_isIn ((x1).toInt64) (0) (((S.1 0 2)).toInt64) (fun r_1 => ((¬ r_1 = 0 → Q x1 (sI S 0 2 x1)) ∧ (r_1 = 0 → Q (-1) S)))
set_option maxRecDepth 100000 in
theorem met_o_end (G : Gx) (A : Nat → Nat) (S : St) (x1 : Int32) (Q : Int32 → St → Prop) (h : wp_o_end S x1 Q) : Mi G yX0_end (ws_ yX0_end cX0_end 2 (some .int)) rm_o_end (wC G A S) [.ref (A 0), .int (x1)] (wC G A) Q := by
  refine ent_Mi (by decide +kernel) rfl (Nat.le_of_ble_eq_true rfl) [(0, .ref (A 0)), (1, .int (x1))] rfl (fun K B C M N => ?_)
  refine y_iload_n C dX0_end_0 1 rfl rfl ?_
  refine y_i2l C dX0_end_1 rfl ?_
  refine y_lconst C dX0_end_2 lc_0 ?_
  refine y_aload_n C dX0_end_3 0 rfl rfl ?_
  refine yg_X0_96_wC0 C dX0_end_4 ?_
  refine y_i2l C dX0_end_7 rfl ?_
  refine y_callRiS (As := [.long ((x1).toInt64), .long (0), .long (((S.1 0 2)).toInt64)]) (rest := []) C cs_X0_103 (met_o_isIn G ((x1).toInt64) (0) (((S.1 0 2)).toInt64) _ (h)) (fun _ _ => pw_nil) ⟨rfl, rfl, Nat.le_of_ble_eq_true rfl, Nat.le_of_ble_eq_true rfl⟩ rfl rfl (Nat.le_of_ble_eq_true rfl) dX0_end_8 ⟨Nat.zero_le _, Nat.zero_le _⟩ (fun r_1 h_2 => ?_)
  refine y_if_ne C (tgt := 16) dX0_end_11 rfl (fun c_4 => ?_) (fun c_4 => ?_)
  · have h_5 := (h_2).1 c_4
    refine y_aload_n C dX0_end_16 0 rfl rfl ?_
    refine y_iload_n C dX0_end_17 1 rfl rfl ?_
    refine yp_X0_96_wC0 C M dX0_end_18 ?_
    refine y_iload_n C dX0_end_21 1 rfl rfl ?_
    exact y_iretM C M N rfl (S := (sI S 0 2 x1)) rfl (h_5) dX0_end_22
  · have h_6 := (h_2).2 c_4
    refine y_iconst C dX0_end_14 icm1 ?_
    exact y_iretM C M N rfl (S := S) rfl (h_6) dX0_end_15
/-! OverHill fault(I)I: o_fault -/
abbrev rm_o_fault : Room := { frames := 1, cells := 0, slots := 0, locals := 40 }
def wp_o_fault (S : St) (x1 : Int32) (Q : Int32 → Prop) : Prop :=
  ((¬ x1 = 0 → ((¬ x1 = 1 → Q (-1)) ∧ (x1 = 1 → Q (S.1 0 4)))) ∧ (x1 = 0 → Q (S.1 0 3)))
set_option maxRecDepth 100000 in
theorem met_o_fault (G : Gx) (A : Nat → Nat) (S : St) (x1 : Int32) (Q : Int32 → Prop) (h : wp_o_fault S x1 Q) : Ri G yX0_fault (ws_ yX0_fault cX0_fault 2 (some .int)) rm_o_fault (wC G A S) [.ref (A 0), .int (x1)] Q := by
  refine ent_Ri (by decide +kernel) rfl (Nat.le_of_ble_eq_true rfl) [(0, .ref (A 0)), (1, .int (x1))] rfl (fun K C N => ?_)
  refine y_iload_n C dX0_fault_0 1 rfl rfl ?_
  refine y_if_ne C (tgt := 11) dX0_fault_1 rfl (fun c_1 => ?_) (fun c_1 => ?_)
  · have h_2 := (h).1 c_1
    refine y_iload_n C dX0_fault_11 1 rfl rfl ?_
    refine y_iconst C dX0_fault_12 ic_1 ?_
    refine y_icmp_ne C (tgt := 23) dX0_fault_13 rfl (fun c_3 => ?_) (fun c_3 => ?_)
    · have h_4 := (h_2).1 c_3
      refine y_iconst C dX0_fault_23 icm1 ?_
      exact y_iretR C N rfl (h_4) dX0_fault_24
    · have h_5 := (h_2).2 c_3
      refine y_aload_n C dX0_fault_16 0 rfl rfl ?_
      refine yg_X0_20_wC0 C dX0_fault_17 ?_
      refine y_goto C (tgt := 24) dX0_fault_20 rfl ?_
      exact y_iretR C N rfl (h_5) dX0_fault_24
  · have h_6 := (h).2 c_1
    refine y_aload_n C dX0_fault_4 0 rfl rfl ?_
    refine yg_X0_114_wC0 C dX0_fault_5 ?_
    refine y_goto C (tgt := 24) dX0_fault_8 rfl ?_
    exact y_iretR C N rfl (h_6) dX0_fault_24
/-! OverHill isDance()Z: o_isDance -/
abbrev rm_o_isDance : Room := { frames := 1, cells := 0, slots := 0, locals := 40 }
def wp_o_isDance (S : St) (Q : Int32 → Prop) : Prop :=
  (((S.1 15 3) ≤ 0 → Q 0) ∧ (¬ (S.1 15 3) ≤ 0 → Q 1))
set_option maxRecDepth 100000 in
theorem met_o_isDance (G : Gx) (A : Nat → Nat) (S : St) (Q : Int32 → Prop) (h : wp_o_isDance S Q) : Ri G yX0_isDance (ws_ yX0_isDance cX0_isDance 1 (some .boolean)) rm_o_isDance (wC G A S) [.ref (A 0)] Q := by
  refine ent_Ri (by decide +kernel) rfl (Nat.le_of_ble_eq_true rfl) [(0, .ref (A 0))] rfl (fun K C N => ?_)
  refine y_aload_n C dX0_isDance_0 0 rfl rfl ?_
  refine yg_X0_12_wC0 C dX0_isDance_1 ?_
  refine yg_X0_117_wC15 C dX0_isDance_4 ?_
  refine y_if_le C (tgt := 14) dX0_isDance_7 rfl (fun c_1 => ?_) (fun c_1 => ?_)
  · have h_2 := (h).1 c_1
    refine y_iconst C dX0_isDance_14 ic_0 ?_
    exact y_zretR C N rfl rfl (h_2) dX0_isDance_15
  · have h_3 := (h).2 c_1
    refine y_iconst C dX0_isDance_10 ic_1 ?_
    refine y_goto C (tgt := 15) dX0_isDance_11 rfl ?_
    exact y_zretR C N rfl rfl (h_3) dX0_isDance_15
/-! OverHill isOneOf(II)Z: o_isOneOf -/
abbrev rm_o_isOneOf : Room := { frames := 2, cells := 0, slots := 0, locals := 65 }
def wp_o_isOneOf (x0 : Int32) (x1 : Int32) (Q : Int32 → Prop) : Prop :=
  wp_o_isIn ((x0).toInt64) (0) (((x1 - 1)).toInt64) (fun r_1 => (narrow .boolean (.int r_1) = .int r_1 ∧ Q r_1))
set_option maxRecDepth 100000 in
theorem met_o_isOneOf (G : Gx) (x0 : Int32) (x1 : Int32) (Q : Int32 → Prop) (h : wp_o_isOneOf x0 x1 Q) : Ri G yX0_isOneOf (ws_ yX0_isOneOf cX0_isOneOf 2 (some .boolean)) rm_o_isOneOf [] [.int (x0), .int (x1)] Q := by
  refine ent_Ri (by decide +kernel) rfl (Nat.le_of_ble_eq_true rfl) [(0, .int (x0)), (1, .int (x1))] rfl (fun K C N => ?_)
  refine y_iload_n C dX0_isOneOf_0 0 rfl rfl ?_
  refine y_i2l C dX0_isOneOf_1 rfl ?_
  refine y_lconst C dX0_isOneOf_2 lc_0 ?_
  refine y_iload_n C dX0_isOneOf_3 1 rfl rfl ?_
  refine y_iconst C dX0_isOneOf_4 ic_1 ?_
  refine y_isub C dX0_isOneOf_5 ?_
  refine y_i2l C dX0_isOneOf_6 rfl ?_
  refine y_callRiS (As := [.long ((x0).toInt64), .long (0), .long (((x1 - 1)).toInt64)]) (rest := []) C cs_X0_103 (met_o_isIn G ((x0).toInt64) (0) (((x1 - 1)).toInt64) _ (h)) (fun _ h => h) ⟨rfl, rfl, Nat.le_of_ble_eq_true rfl, Nat.le_of_ble_eq_true rfl⟩ rfl rfl (Nat.le_of_ble_eq_true rfl) dX0_isOneOf_7 ⟨Nat.zero_le _, Nat.zero_le _⟩ (fun r_1 h_2 => ?_)
  exact y_zretR C N rfl (h_2).1 ((h_2).2) dX0_isOneOf_10
/-! OverHill isSide(I)Z: o_isSide -/
abbrev rm_o_isSide : Room := { frames := 3, cells := 0, slots := 0, locals := 86 }
def wp_o_isSide (S : St) (x1 : Int32) (Q : Int32 → Prop) : Prop :=
  wp_o_isDance S (fun r_1 => ((r_1 = 0 → Q 0) ∧ (¬ r_1 = 0 → wp_o_isOneOf (x1) (2) (fun r_7 => ((r_7 = 0 → Q 0) ∧ (¬ r_7 = 0 → Q 1))))))
set_option maxRecDepth 100000 in
theorem met_o_isSide (G : Gx) (A : Nat → Nat) (S : St) (x1 : Int32) (Q : Int32 → Prop) (h : wp_o_isSide S x1 Q) : Ri G yX0_isSide (ws_ yX0_isSide cX0_isSide 2 (some .boolean)) rm_o_isSide (wC G A S) [.ref (A 0), .int (x1)] Q := by
  refine ent_Ri (by decide +kernel) rfl (Nat.le_of_ble_eq_true rfl) [(0, .ref (A 0)), (1, .int (x1))] rfl (fun K C N => ?_)
  refine y_aload_n C dX0_isSide_0 0 rfl rfl ?_
  refine y_callRiV (As := []) (rest := []) C cs_X0_128 (met_o_isDance G A S _ (h)) (fun _ h => h) (wC_0 ..) rfl rfl ⟨rfl, rfl, Nat.le_of_ble_eq_true rfl, Nat.le_of_ble_eq_true rfl⟩ rfl rfl (Nat.le_of_ble_eq_true rfl) dX0_isSide_1 ⟨Nat.zero_le _, Nat.zero_le _⟩ (fun r_1 h_2 => ?_)
  refine y_if_eq C (tgt := 19) dX0_isSide_4 rfl (fun c_4 => ?_) (fun c_4 => ?_)
  · have h_5 := (h_2).1 c_4
    refine y_iconst C dX0_isSide_19 ic_0 ?_
    exact y_zretR C N rfl rfl (h_5) dX0_isSide_20
  · have h_6 := (h_2).2 c_4
    refine y_iload_n C dX0_isSide_7 1 rfl rfl ?_
    refine y_iconst C dX0_isSide_8 ic_2 ?_
    refine y_callRiS (As := [.int (x1), .int (2)]) (rest := []) C cs_X0_132 (met_o_isOneOf G (x1) (2) _ (h_6)) (fun _ _ => pw_nil) ⟨rfl, rfl, Nat.le_of_ble_eq_true rfl, Nat.le_of_ble_eq_true rfl⟩ rfl rfl (Nat.le_of_ble_eq_true rfl) dX0_isSide_9 ⟨Nat.zero_le _, Nat.zero_le _⟩ (fun r_7 h_8 => ?_)
    refine y_if_eq C (tgt := 19) dX0_isSide_12 rfl (fun c_10 => ?_) (fun c_10 => ?_)
    · have h_11 := (h_8).1 c_10
      refine y_iconst C dX0_isSide_19 ic_0 ?_
      exact y_zretR C N rfl rfl (h_11) dX0_isSide_20
    · have h_12 := (h_8).2 c_10
      refine y_iconst C dX0_isSide_15 ic_1 ?_
      refine y_goto C (tgt := 20) dX0_isSide_16 rfl ?_
      exact y_zretR C N rfl rfl (h_12) dX0_isSide_20
/-! OverHill isPlace(II)Z: o_isPlace -/
abbrev rm_o_isPlace : Room := { frames := 4, cells := 0, slots := 0, locals := 107 }
def wp_o_isPlace (S : St) (x1 : Int32) (x2 : Int32) (Q : Int32 → Prop) : Prop :=
  wp_o_isSide S (x1) (fun r_1 => ((r_1 = 0 → Q 0) ∧ (¬ r_1 = 0 → (vp_in x1 2 ∧ wp_o_isIn ((x2).toInt64) (0) ((((S.1 16 (x1).toNatClampNeg) - 1)).toInt64) (fun r_7 => ((r_7 = 0 → Q 0) ∧ (¬ r_7 = 0 → Q 1)))))))
set_option maxRecDepth 100000 in
theorem met_o_isPlace (G : Gx) (A : Nat → Nat) (S : St) (x1 : Int32) (x2 : Int32) (Q : Int32 → Prop) (h : wp_o_isPlace S x1 x2 Q) : Ri G yX0_isPlace (ws_ yX0_isPlace cX0_isPlace 3 (some .boolean)) rm_o_isPlace (wC G A S) [.ref (A 0), .int (x1), .int (x2)] Q := by
  refine ent_Ri (by decide +kernel) rfl (Nat.le_of_ble_eq_true rfl) [(0, .ref (A 0)), (1, .int (x1)), (2, .int (x2))] rfl (fun K C N => ?_)
  refine y_aload_n C dX0_isPlace_0 0 rfl rfl ?_
  refine y_iload_n C dX0_isPlace_1 1 rfl rfl ?_
  refine y_callRiV (As := [.int (x1)]) (rest := []) C cs_X0_140 (met_o_isSide G A S (x1) _ (h)) (fun _ h => h) (wC_0 ..) rfl rfl ⟨rfl, rfl, Nat.le_of_ble_eq_true rfl, Nat.le_of_ble_eq_true rfl⟩ rfl rfl (Nat.le_of_ble_eq_true rfl) dX0_isPlace_2 ⟨Nat.zero_le _, Nat.zero_le _⟩ (fun r_1 h_2 => ?_)
  refine y_if_eq C (tgt := 33) dX0_isPlace_5 rfl (fun c_4 => ?_) (fun c_4 => ?_)
  · have h_5 := (h_2).1 c_4
    refine y_iconst C dX0_isPlace_33 ic_0 ?_
    exact y_zretR C N rfl rfl (h_5) dX0_isPlace_34
  · have h_6 := (h_2).2 c_4
    refine y_iload_n C dX0_isPlace_8 2 rfl rfl ?_
    refine y_i2l C dX0_isPlace_9 rfl ?_
    refine y_lconst C dX0_isPlace_10 lc_0 ?_
    refine y_aload_n C dX0_isPlace_11 0 rfl rfl ?_
    refine yg_X0_12_wC0 C dX0_isPlace_12 ?_
    refine yg_X0_144_wC15 C dX0_isPlace_15 ?_
    refine y_iload_n C dX0_isPlace_18 1 rfl rfl ?_
    refine y_iald C (wC_16 ..) rfl (h_6).1 dX0_isPlace_19 ?_
    refine y_iconst C dX0_isPlace_20 ic_1 ?_
    refine y_isub C dX0_isPlace_21 ?_
    refine y_i2l C dX0_isPlace_22 rfl ?_
    refine y_callRiS (As := [.long ((x2).toInt64), .long (0), .long ((((S.1 16 (x1).toNatClampNeg) - 1)).toInt64)]) (rest := []) C cs_X0_103 (met_o_isIn G ((x2).toInt64) (0) ((((S.1 16 (x1).toNatClampNeg) - 1)).toInt64) _ ((h_6).2)) (fun _ _ => pw_nil) ⟨rfl, rfl, Nat.le_of_ble_eq_true rfl, Nat.le_of_ble_eq_true rfl⟩ rfl rfl (Nat.le_of_ble_eq_true rfl) dX0_isPlace_23 ⟨Nat.zero_le _, Nat.zero_le _⟩ (fun r_7 h_8 => ?_)
    refine y_if_eq C (tgt := 33) dX0_isPlace_26 rfl (fun c_10 => ?_) (fun c_10 => ?_)
    · have h_11 := (h_8).1 c_10
      refine y_iconst C dX0_isPlace_33 ic_0 ?_
      exact y_zretR C N rfl rfl (h_11) dX0_isPlace_34
    · have h_12 := (h_8).2 c_10
      refine y_iconst C dX0_isPlace_29 ic_1 ?_
      refine y_goto C (tgt := 34) dX0_isPlace_30 rfl ?_
      exact y_zretR C N rfl rfl (h_12) dX0_isPlace_34
/-! OverHill step(II)I: o_step -/
abbrev rm_o_step : Room := { frames := 5, cells := 0, slots := 0, locals := 129 }
def wp_o_step (S : St) (x1 : Int32) (x2 : Int32) (Q : Int32 → Prop) : Prop :=
  wp_o_isSide S (x1) (fun r_1 => ((¬ r_1 = 0 → wp_o_isPlace S (x1) (x2) (fun r_6 => ((r_6 = 0 → Q (-1)) ∧ (¬ r_6 = 0 → wp_d_step S (x1) (x2) (fun r_12 => Q r_12))))) ∧ (r_1 = 0 → Q (-2))))
set_option maxRecDepth 100000 in
theorem met_o_step (G : Gx) (A : Nat → Nat) (S : St) (x1 : Int32) (x2 : Int32) (Q : Int32 → Prop) (h : wp_o_step S x1 x2 Q) : Ri G yX0_step (ws_ yX0_step cX0_step 3 (some .int)) rm_o_step (wC G A S) [.ref (A 0), .int (x1), .int (x2)] Q := by
  refine ent_Ri (by decide +kernel) rfl (Nat.le_of_ble_eq_true rfl) [(0, .ref (A 0)), (1, .int (x1)), (2, .int (x2))] rfl (fun K C N => ?_)
  refine y_aload_n C dX0_step_0 0 rfl rfl ?_
  refine y_iload_n C dX0_step_1 1 rfl rfl ?_
  refine y_callRiV (As := [.int (x1)]) (rest := []) C cs_X0_140 (met_o_isSide G A S (x1) _ (h)) (fun _ h => h) (wC_0 ..) rfl rfl ⟨rfl, rfl, Nat.le_of_ble_eq_true rfl, Nat.le_of_ble_eq_true rfl⟩ rfl rfl (Nat.le_of_ble_eq_true rfl) dX0_step_2 ⟨Nat.zero_le _, Nat.zero_le _⟩ (fun r_1 h_2 => ?_)
  refine y_if_ne C (tgt := 13) dX0_step_5 rfl (fun c_4 => ?_) (fun c_4 => ?_)
  · have h_5 := (h_2).1 c_4
    refine y_aload_n C dX0_step_13 0 rfl rfl ?_
    refine y_iload_n C dX0_step_14 1 rfl rfl ?_
    refine y_iload_n C dX0_step_15 2 rfl rfl ?_
    refine y_callRiV (As := [.int (x1), .int (x2)]) (rest := []) C cs_X0_152 (met_o_isPlace G A S (x1) (x2) _ (h_5)) (fun _ h => h) (wC_0 ..) rfl rfl ⟨rfl, rfl, Nat.le_of_ble_eq_true rfl, Nat.le_of_ble_eq_true rfl⟩ rfl rfl (Nat.le_of_ble_eq_true rfl) dX0_step_16 ⟨Nat.zero_le _, Nat.zero_le _⟩ (fun r_6 h_7 => ?_)
    refine y_if_eq C (tgt := 34) dX0_step_19 rfl (fun c_9 => ?_) (fun c_9 => ?_)
    · have h_10 := (h_7).1 c_9
      refine y_iconst C dX0_step_34 icm1 ?_
      exact y_iretR C N rfl (h_10) dX0_step_35
    · have h_11 := (h_7).2 c_9
      refine y_aload_n C dX0_step_22 0 rfl rfl ?_
      refine yg_X0_12_wC0 C dX0_step_23 ?_
      refine y_iload_n C dX0_step_26 1 rfl rfl ?_
      refine y_iload_n C dX0_step_27 2 rfl rfl ?_
      refine y_callRiV (As := [.int (x1), .int (x2)]) (rest := []) C cs_X0_155 (met_d_step G A S (x1) (x2) _ (h_11)) (fun _ h => wC_D h) (wC_15 ..) rfl rfl ⟨rfl, rfl, Nat.le_of_ble_eq_true rfl, Nat.le_of_ble_eq_true rfl⟩ rfl rfl (Nat.le_of_ble_eq_true rfl) dX0_step_28 ⟨Nat.zero_le _, Nat.zero_le _⟩ (fun r_12 h_13 => ?_)
      refine y_goto C (tgt := 35) dX0_step_31 rfl ?_
      exact y_iretR C N rfl (h_13) dX0_step_35
  · have h_15 := (h_2).2 c_4
    refine y_bipush C dX0_step_8 bpm2 ?_
    refine y_goto C (tgt := 35) dX0_step_10 rfl ?_
    exact y_iretR C N rfl (h_15) dX0_step_35
/-! OverHill isStep(J)Z: o_isStep -/
abbrev rm_o_isStep : Room := { frames := 2, cells := 0, slots := 0, locals := 65 }
def wp_o_isStep (S : St) (x1 : Int64) (Q : Int32 → Prop) : Prop :=
  wp_o_isDance S (fun r_1 => ((r_1 = 0 → Q 0) ∧ (¬ r_1 = 0 → wp_o_isIn (x1) (0) (5) (fun r_7 => ((r_7 = 0 → Q 0) ∧ (¬ r_7 = 0 → Q 1))))))
set_option maxRecDepth 100000 in
theorem met_o_isStep (G : Gx) (A : Nat → Nat) (S : St) (x1 : Int64) (Q : Int32 → Prop) (h : wp_o_isStep S x1 Q) : Ri G yX0_isStep (ws_ yX0_isStep cX0_isStep 3 (some .boolean)) rm_o_isStep (wC G A S) [.ref (A 0), .long (x1)] Q := by
  refine ent_Ri (by decide +kernel) rfl (Nat.le_of_ble_eq_true rfl) [(0, .ref (A 0)), (1, .long (x1))] rfl (fun K C N => ?_)
  refine y_aload_n C dX0_isStep_0 0 rfl rfl ?_
  refine y_callRiV (As := []) (rest := []) C cs_X0_128 (met_o_isDance G A S _ (h)) (fun _ h => h) (wC_0 ..) rfl rfl ⟨rfl, rfl, Nat.le_of_ble_eq_true rfl, Nat.le_of_ble_eq_true rfl⟩ rfl rfl (Nat.le_of_ble_eq_true rfl) dX0_isStep_1 ⟨Nat.zero_le _, Nat.zero_le _⟩ (fun r_1 h_2 => ?_)
  refine y_if_eq C (tgt := 22) dX0_isStep_4 rfl (fun c_4 => ?_) (fun c_4 => ?_)
  · have h_5 := (h_2).1 c_4
    refine y_iconst C dX0_isStep_22 ic_0 ?_
    exact y_zretR C N rfl rfl (h_5) dX0_isStep_23
  · have h_6 := (h_2).2 c_4
    refine y_lload_n C dX0_isStep_7 1 rfl rfl ?_
    refine y_lconst C dX0_isStep_8 lc_0 ?_
    refine y_ldc2 C dX0_isStep_9 q840 ?_
    refine y_callRiS (As := [.long (x1), .long (0), .long (5)]) (rest := []) C cs_X0_103 (met_o_isIn G (x1) (0) (5) _ (h_6)) (fun _ _ => pw_nil) ⟨rfl, rfl, Nat.le_of_ble_eq_true rfl, Nat.le_of_ble_eq_true rfl⟩ rfl rfl (Nat.le_of_ble_eq_true rfl) dX0_isStep_12 ⟨Nat.zero_le _, Nat.zero_le _⟩ (fun r_7 h_8 => ?_)
    refine y_if_eq C (tgt := 22) dX0_isStep_15 rfl (fun c_10 => ?_) (fun c_10 => ?_)
    · have h_11 := (h_8).1 c_10
      refine y_iconst C dX0_isStep_22 ic_0 ?_
      exact y_zretR C N rfl rfl (h_11) dX0_isStep_23
    · have h_12 := (h_8).2 c_10
      refine y_iconst C dX0_isStep_18 ic_1 ?_
      refine y_goto C (tgt := 23) dX0_isStep_19 rfl ?_
      exact y_zretR C N rfl rfl (h_12) dX0_isStep_23
/-! OverHill answers(I)I: o_answers -/
abbrev rm_o_answers : Room := { frames := 3, cells := 0, slots := 0, locals := 87 }
def wp_o_answers (S : St) (x1 : Int32) (Q : Int32 → Prop) : Prop :=
  wp_o_isStep S ((x1).toInt64) (fun r_1 => ((r_1 = 0 → Q (-2)) ∧ (¬ r_1 = 0 → (vp_in x1 6 ∧ Q (S.1 19 (x1).toNatClampNeg)))))
set_option maxRecDepth 100000 in
theorem met_o_answers (G : Gx) (A : Nat → Nat) (S : St) (x1 : Int32) (Q : Int32 → Prop) (h : wp_o_answers S x1 Q) : Ri G yX0_answers (ws_ yX0_answers cX0_answers 2 (some .int)) rm_o_answers (wC G A S) [.ref (A 0), .int (x1)] Q := by
  refine ent_Ri (by decide +kernel) rfl (Nat.le_of_ble_eq_true rfl) [(0, .ref (A 0)), (1, .int (x1))] rfl (fun K C N => ?_)
  refine y_aload_n C dX0_answers_0 0 rfl rfl ?_
  refine y_iload_n C dX0_answers_1 1 rfl rfl ?_
  refine y_i2l C dX0_answers_2 rfl ?_
  refine y_callRiV (As := [.long ((x1).toInt64)]) (rest := []) C cs_X0_159 (met_o_isStep G A S ((x1).toInt64) _ (h)) (fun _ h => h) (wC_0 ..) rfl rfl ⟨rfl, rfl, Nat.le_of_ble_eq_true rfl, Nat.le_of_ble_eq_true rfl⟩ rfl rfl (Nat.le_of_ble_eq_true rfl) dX0_answers_3 ⟨Nat.zero_le _, Nat.zero_le _⟩ (fun r_1 h_2 => ?_)
  refine y_if_eq C (tgt := 21) dX0_answers_6 rfl (fun c_4 => ?_) (fun c_4 => ?_)
  · have h_5 := (h_2).1 c_4
    refine y_bipush C dX0_answers_21 bpm2 ?_
    exact y_iretR C N rfl (h_5) dX0_answers_23
  · have h_6 := (h_2).2 c_4
    refine y_aload_n C dX0_answers_9 0 rfl rfl ?_
    refine yg_X0_12_wC0 C dX0_answers_10 ?_
    refine yg_X0_163_wC15 C dX0_answers_13 ?_
    refine y_iload_n C dX0_answers_16 1 rfl rfl ?_
    refine y_iald C (wC_19 ..) rfl (h_6).1 dX0_answers_17 ?_
    refine y_goto C (tgt := 23) dX0_answers_18 rfl ?_
    exact y_iretR C N rfl ((h_6).2) dX0_answers_23
/-! OverHill isStumble(I)Z: o_isStumble -/
abbrev rm_o_isStumble : Room := { frames := 2, cells := 0, slots := 0, locals := 65 }
def wp_o_isStumble (S : St) (x1 : Int32) (Q : Int32 → Prop) : Prop :=
  wp_o_isIn ((x1).toInt64) (0) ((((S.1 15 4) - 1)).toInt64) (fun r_1 => (narrow .boolean (.int r_1) = .int r_1 ∧ Q r_1))
set_option maxRecDepth 100000 in
theorem met_o_isStumble (G : Gx) (A : Nat → Nat) (S : St) (x1 : Int32) (Q : Int32 → Prop) (h : wp_o_isStumble S x1 Q) : Ri G yX0_isStumble (ws_ yX0_isStumble cX0_isStumble 2 (some .boolean)) rm_o_isStumble (wC G A S) [.ref (A 0), .int (x1)] Q := by
  refine ent_Ri (by decide +kernel) rfl (Nat.le_of_ble_eq_true rfl) [(0, .ref (A 0)), (1, .int (x1))] rfl (fun K C N => ?_)
  refine y_iload_n C dX0_isStumble_0 1 rfl rfl ?_
  refine y_i2l C dX0_isStumble_1 rfl ?_
  refine y_lconst C dX0_isStumble_2 lc_0 ?_
  refine y_aload_n C dX0_isStumble_3 0 rfl rfl ?_
  refine yg_X0_12_wC0 C dX0_isStumble_4 ?_
  refine yg_X0_147_wC15 C dX0_isStumble_7 ?_
  refine y_iconst C dX0_isStumble_10 ic_1 ?_
  refine y_isub C dX0_isStumble_11 ?_
  refine y_i2l C dX0_isStumble_12 rfl ?_
  refine y_callRiS (As := [.long ((x1).toInt64), .long (0), .long ((((S.1 15 4) - 1)).toInt64)]) (rest := []) C cs_X0_103 (met_o_isIn G ((x1).toInt64) (0) ((((S.1 15 4) - 1)).toInt64) _ (h)) (fun _ _ => pw_nil) ⟨rfl, rfl, Nat.le_of_ble_eq_true rfl, Nat.le_of_ble_eq_true rfl⟩ rfl rfl (Nat.le_of_ble_eq_true rfl) dX0_isStumble_13 ⟨Nat.zero_le _, Nat.zero_le _⟩ (fun r_1 h_2 => ?_)
  exact y_zretR C N rfl (h_2).1 ((h_2).2) dX0_isStumble_16
/-! OverHill stumbled(II)I: o_stumbled -/
abbrev rm_o_stumbled : Room := { frames := 3, cells := 0, slots := 0, locals := 86 }
def wp_o_stumbled (S : St) (x1 : Int32) (x2 : Int32) (Q : Int32 → Prop) : Prop :=
  wp_o_isStumble S (x1) (fun r_1 => ((r_1 = 0 → Q (-2)) ∧ (¬ r_1 = 0 → wp_o_isOneOf (x2) (4) (fun r_7 => ((¬ r_7 = 0 → ((¬ x2 = 0 → ((¬ x2 = 1 → ((¬ x2 = 2 → (vp_in x1 8 ∧ Q (S.1 23 (x1).toNatClampNeg))) ∧ (x2 = 2 → (vp_in x1 8 ∧ Q (S.1 22 (x1).toNatClampNeg))))) ∧ (x2 = 1 → (vp_in x1 8 ∧ Q (S.1 21 (x1).toNatClampNeg))))) ∧ (x2 = 0 → (vp_in x1 8 ∧ Q (S.1 20 (x1).toNatClampNeg))))) ∧ (r_7 = 0 → Q (-2)))))))
set_option maxRecDepth 100000 in
theorem met_o_stumbled (G : Gx) (A : Nat → Nat) (S : St) (x1 : Int32) (x2 : Int32) (Q : Int32 → Prop) (h : wp_o_stumbled S x1 x2 Q) : Ri G yX0_stumbled (ws_ yX0_stumbled cX0_stumbled 3 (some .int)) rm_o_stumbled (wC G A S) [.ref (A 0), .int (x1), .int (x2)] Q := by
  refine ent_Ri (by decide +kernel) rfl (Nat.le_of_ble_eq_true rfl) [(0, .ref (A 0)), (1, .int (x1)), (2, .int (x2))] rfl (fun K C N => ?_)
  refine y_aload_n C dX0_stumbled_0 0 rfl rfl ?_
  refine y_iload_n C dX0_stumbled_1 1 rfl rfl ?_
  refine y_callRiV (As := [.int (x1)]) (rest := []) C cs_X0_166 (met_o_isStumble G A S (x1) _ (h)) (fun _ h => h) (wC_0 ..) rfl rfl ⟨rfl, rfl, Nat.le_of_ble_eq_true rfl, Nat.le_of_ble_eq_true rfl⟩ rfl rfl (Nat.le_of_ble_eq_true rfl) dX0_stumbled_2 ⟨Nat.zero_le _, Nat.zero_le _⟩ (fun r_1 h_2 => ?_)
  refine y_if_eq C (tgt := 16) dX0_stumbled_5 rfl (fun c_4 => ?_) (fun c_4 => ?_)
  · have h_5 := (h_2).1 c_4
    refine y_bipush C dX0_stumbled_16 bpm2 ?_
    exact y_iretR C N rfl (h_5) dX0_stumbled_18
  · have h_6 := (h_2).2 c_4
    refine y_iload_n C dX0_stumbled_8 2 rfl rfl ?_
    refine y_iconst C dX0_stumbled_9 ic_4 ?_
    refine y_callRiS (As := [.int (x2), .int (4)]) (rest := []) C cs_X0_132 (met_o_isOneOf G (x2) (4) _ (h_6)) (fun _ _ => pw_nil) ⟨rfl, rfl, Nat.le_of_ble_eq_true rfl, Nat.le_of_ble_eq_true rfl⟩ rfl rfl (Nat.le_of_ble_eq_true rfl) dX0_stumbled_10 ⟨Nat.zero_le _, Nat.zero_le _⟩ (fun r_7 h_8 => ?_)
    refine y_if_ne C (tgt := 19) dX0_stumbled_13 rfl (fun c_10 => ?_) (fun c_10 => ?_)
    · have h_11 := (h_8).1 c_10
      refine y_iload_n C dX0_stumbled_19 2 rfl rfl ?_
      refine y_if_ne C (tgt := 35) dX0_stumbled_20 rfl (fun c_12 => ?_) (fun c_12 => ?_)
      · have h_13 := (h_11).1 c_12
        refine y_iload_n C dX0_stumbled_35 2 rfl rfl ?_
        refine y_iconst C dX0_stumbled_36 ic_1 ?_
        refine y_icmp_ne C (tgt := 52) dX0_stumbled_37 rfl (fun c_14 => ?_) (fun c_14 => ?_)
        · have h_15 := (h_13).1 c_14
          refine y_iload_n C dX0_stumbled_52 2 rfl rfl ?_
          refine y_iconst C dX0_stumbled_53 ic_2 ?_
          refine y_icmp_ne C (tgt := 69) dX0_stumbled_54 rfl (fun c_16 => ?_) (fun c_16 => ?_)
          · have h_17 := (h_15).1 c_16
            refine y_aload_n C dX0_stumbled_69 0 rfl rfl ?_
            refine yg_X0_12_wC0 C dX0_stumbled_70 ?_
            refine yg_X0_178_wC15 C dX0_stumbled_73 ?_
            refine y_iload_n C dX0_stumbled_76 1 rfl rfl ?_
            refine y_iald C (wC_23 ..) rfl (h_17).1 dX0_stumbled_77 ?_
            exact y_iretR C N rfl ((h_17).2) dX0_stumbled_78
          · have h_18 := (h_15).2 c_16
            refine y_aload_n C dX0_stumbled_57 0 rfl rfl ?_
            refine yg_X0_12_wC0 C dX0_stumbled_58 ?_
            refine yg_X0_175_wC15 C dX0_stumbled_61 ?_
            refine y_iload_n C dX0_stumbled_64 1 rfl rfl ?_
            refine y_iald C (wC_22 ..) rfl (h_18).1 dX0_stumbled_65 ?_
            refine y_goto C (tgt := 78) dX0_stumbled_66 rfl ?_
            exact y_iretR C N rfl ((h_18).2) dX0_stumbled_78
        · have h_19 := (h_13).2 c_14
          refine y_aload_n C dX0_stumbled_40 0 rfl rfl ?_
          refine yg_X0_12_wC0 C dX0_stumbled_41 ?_
          refine yg_X0_172_wC15 C dX0_stumbled_44 ?_
          refine y_iload_n C dX0_stumbled_47 1 rfl rfl ?_
          refine y_iald C (wC_21 ..) rfl (h_19).1 dX0_stumbled_48 ?_
          refine y_goto C (tgt := 78) dX0_stumbled_49 rfl ?_
          exact y_iretR C N rfl ((h_19).2) dX0_stumbled_78
      · have h_20 := (h_11).2 c_12
        refine y_aload_n C dX0_stumbled_23 0 rfl rfl ?_
        refine yg_X0_12_wC0 C dX0_stumbled_24 ?_
        refine yg_X0_169_wC15 C dX0_stumbled_27 ?_
        refine y_iload_n C dX0_stumbled_30 1 rfl rfl ?_
        refine y_iald C (wC_20 ..) rfl (h_20).1 dX0_stumbled_31 ?_
        refine y_goto C (tgt := 78) dX0_stumbled_32 rfl ?_
        exact y_iretR C N rfl ((h_20).2) dX0_stumbled_78
    · have h_21 := (h_8).2 c_10
      refine y_bipush C dX0_stumbled_16 bpm2 ?_
      exact y_iretR C N rfl (h_21) dX0_stumbled_18
/-! OverHill isBeat(J)Z: o_isBeat -/
abbrev rm_o_isBeat : Room := { frames := 2, cells := 0, slots := 0, locals := 65 }
def wp_o_isBeat (S : St) (x1 : Int64) (Q : Int32 → Prop) : Prop :=
  wp_o_isDance S (fun r_1 => ((r_1 = 0 → Q 0) ∧ (¬ r_1 = 0 → wp_o_isIn (x1) (0) (199) (fun r_7 => ((r_7 = 0 → Q 0) ∧ (¬ r_7 = 0 → Q 1))))))
set_option maxRecDepth 100000 in
theorem met_o_isBeat (G : Gx) (A : Nat → Nat) (S : St) (x1 : Int64) (Q : Int32 → Prop) (h : wp_o_isBeat S x1 Q) : Ri G yX0_isBeat (ws_ yX0_isBeat cX0_isBeat 3 (some .boolean)) rm_o_isBeat (wC G A S) [.ref (A 0), .long (x1)] Q := by
  refine ent_Ri (by decide +kernel) rfl (Nat.le_of_ble_eq_true rfl) [(0, .ref (A 0)), (1, .long (x1))] rfl (fun K C N => ?_)
  refine y_aload_n C dX0_isBeat_0 0 rfl rfl ?_
  refine y_callRiV (As := []) (rest := []) C cs_X0_128 (met_o_isDance G A S _ (h)) (fun _ h => h) (wC_0 ..) rfl rfl ⟨rfl, rfl, Nat.le_of_ble_eq_true rfl, Nat.le_of_ble_eq_true rfl⟩ rfl rfl (Nat.le_of_ble_eq_true rfl) dX0_isBeat_1 ⟨Nat.zero_le _, Nat.zero_le _⟩ (fun r_1 h_2 => ?_)
  refine y_if_eq C (tgt := 22) dX0_isBeat_4 rfl (fun c_4 => ?_) (fun c_4 => ?_)
  · have h_5 := (h_2).1 c_4
    refine y_iconst C dX0_isBeat_22 ic_0 ?_
    exact y_zretR C N rfl rfl (h_5) dX0_isBeat_23
  · have h_6 := (h_2).2 c_4
    refine y_lload_n C dX0_isBeat_7 1 rfl rfl ?_
    refine y_lconst C dX0_isBeat_8 lc_0 ?_
    refine y_ldc2 C dX0_isBeat_9 q857 ?_
    refine y_callRiS (As := [.long (x1), .long (0), .long (199)]) (rest := []) C cs_X0_103 (met_o_isIn G (x1) (0) (199) _ (h_6)) (fun _ _ => pw_nil) ⟨rfl, rfl, Nat.le_of_ble_eq_true rfl, Nat.le_of_ble_eq_true rfl⟩ rfl rfl (Nat.le_of_ble_eq_true rfl) dX0_isBeat_12 ⟨Nat.zero_le _, Nat.zero_le _⟩ (fun r_7 h_8 => ?_)
    refine y_if_eq C (tgt := 22) dX0_isBeat_15 rfl (fun c_10 => ?_) (fun c_10 => ?_)
    · have h_11 := (h_8).1 c_10
      refine y_iconst C dX0_isBeat_22 ic_0 ?_
      exact y_zretR C N rfl rfl (h_11) dX0_isBeat_23
    · have h_12 := (h_8).2 c_10
      refine y_iconst C dX0_isBeat_18 ic_1 ?_
      refine y_goto C (tgt := 23) dX0_isBeat_19 rfl ?_
      exact y_zretR C N rfl rfl (h_12) dX0_isBeat_23
/-! OverHill muddy(I)I: o_muddy -/
abbrev rm_o_muddy : Room := { frames := 3, cells := 0, slots := 0, locals := 87 }
def wp_o_muddy (S : St) (x1 : Int32) (Q : Int32 → Prop) : Prop :=
  wp_o_isBeat S ((x1).toInt64) (fun r_1 => ((r_1 = 0 → Q (-2)) ∧ (¬ r_1 = 0 → (vp_in x1 200 ∧ (((S.1 29 (x1).toNatClampNeg) = 0 → Q 0) ∧ (¬ (S.1 29 (x1).toNatClampNeg) = 0 → Q 1))))))
set_option maxRecDepth 100000 in
theorem met_o_muddy (G : Gx) (A : Nat → Nat) (S : St) (x1 : Int32) (Q : Int32 → Prop) (h : wp_o_muddy S x1 Q) : Ri G yX0_muddy (ws_ yX0_muddy cX0_muddy 2 (some .int)) rm_o_muddy (wC G A S) [.ref (A 0), .int (x1)] Q := by
  refine ent_Ri (by decide +kernel) rfl (Nat.le_of_ble_eq_true rfl) [(0, .ref (A 0)), (1, .int (x1))] rfl (fun K C N => ?_)
  refine y_aload_n C dX0_muddy_0 0 rfl rfl ?_
  refine y_iload_n C dX0_muddy_1 1 rfl rfl ?_
  refine y_i2l C dX0_muddy_2 rfl ?_
  refine y_callRiV (As := [.long ((x1).toInt64)]) (rest := []) C cs_X0_181 (met_o_isBeat G A S ((x1).toInt64) _ (h)) (fun _ h => h) (wC_0 ..) rfl rfl ⟨rfl, rfl, Nat.le_of_ble_eq_true rfl, Nat.le_of_ble_eq_true rfl⟩ rfl rfl (Nat.le_of_ble_eq_true rfl) dX0_muddy_3 ⟨Nat.zero_le _, Nat.zero_le _⟩ (fun r_1 h_2 => ?_)
  refine y_if_eq C (tgt := 29) dX0_muddy_6 rfl (fun c_4 => ?_) (fun c_4 => ?_)
  · have h_5 := (h_2).1 c_4
    refine y_bipush C dX0_muddy_29 bpm2 ?_
    exact y_iretR C N rfl (h_5) dX0_muddy_31
  · have h_6 := (h_2).2 c_4
    refine y_aload_n C dX0_muddy_9 0 rfl rfl ?_
    refine yg_X0_12_wC0 C dX0_muddy_10 ?_
    refine yg_X0_184_wC15 C dX0_muddy_13 ?_
    refine y_iload_n C dX0_muddy_16 1 rfl rfl ?_
    refine y_zald C (wC_29 ..) rfl (h_6).1 dX0_muddy_17 ?_
    refine y_if_eq C (tgt := 25) dX0_muddy_18 rfl (fun c_7 => ?_) (fun c_7 => ?_)
    · have h_8 := ((h_6).2).1 c_7
      refine y_iconst C dX0_muddy_25 ic_0 ?_
      refine y_goto C (tgt := 31) dX0_muddy_26 rfl ?_
      exact y_iretR C N rfl (h_8) dX0_muddy_31
    · have h_9 := ((h_6).2).2 c_7
      refine y_iconst C dX0_muddy_21 ic_1 ?_
      refine y_goto C (tgt := 31) dX0_muddy_22 rfl ?_
      exact y_iretR C N rfl (h_9) dX0_muddy_31
/-! OverHill isAsked(II)Z: o_isAsked -/
abbrev rm_o_isAsked : Room := { frames := 4, cells := 0, slots := 0, locals := 107 }
def wp_o_isAsked (S : St) (x1 : Int32) (x2 : Int32) (Q : Int32 → Prop) : Prop :=
  wp_o_isSide S (x1) (fun r_1 => ((r_1 = 0 → Q 0) ∧ (¬ r_1 = 0 → wp_o_isBeat S ((x2).toInt64) (fun r_7 => ((r_7 = 0 → Q 0) ∧ (¬ r_7 = 0 → Q 1))))))
set_option maxRecDepth 100000 in
theorem met_o_isAsked (G : Gx) (A : Nat → Nat) (S : St) (x1 : Int32) (x2 : Int32) (Q : Int32 → Prop) (h : wp_o_isAsked S x1 x2 Q) : Ri G yX0_isAsked (ws_ yX0_isAsked cX0_isAsked 3 (some .boolean)) rm_o_isAsked (wC G A S) [.ref (A 0), .int (x1), .int (x2)] Q := by
  refine ent_Ri (by decide +kernel) rfl (Nat.le_of_ble_eq_true rfl) [(0, .ref (A 0)), (1, .int (x1)), (2, .int (x2))] rfl (fun K C N => ?_)
  refine y_aload_n C dX0_isAsked_0 0 rfl rfl ?_
  refine y_iload_n C dX0_isAsked_1 1 rfl rfl ?_
  refine y_callRiV (As := [.int (x1)]) (rest := []) C cs_X0_140 (met_o_isSide G A S (x1) _ (h)) (fun _ h => h) (wC_0 ..) rfl rfl ⟨rfl, rfl, Nat.le_of_ble_eq_true rfl, Nat.le_of_ble_eq_true rfl⟩ rfl rfl (Nat.le_of_ble_eq_true rfl) dX0_isAsked_2 ⟨Nat.zero_le _, Nat.zero_le _⟩ (fun r_1 h_2 => ?_)
  refine y_if_eq C (tgt := 21) dX0_isAsked_5 rfl (fun c_4 => ?_) (fun c_4 => ?_)
  · have h_5 := (h_2).1 c_4
    refine y_iconst C dX0_isAsked_21 ic_0 ?_
    exact y_zretR C N rfl rfl (h_5) dX0_isAsked_22
  · have h_6 := (h_2).2 c_4
    refine y_aload_n C dX0_isAsked_8 0 rfl rfl ?_
    refine y_iload_n C dX0_isAsked_9 2 rfl rfl ?_
    refine y_i2l C dX0_isAsked_10 rfl ?_
    refine y_callRiV (As := [.long ((x2).toInt64)]) (rest := []) C cs_X0_181 (met_o_isBeat G A S ((x2).toInt64) _ (h_6)) (fun _ h => h) (wC_0 ..) rfl rfl ⟨rfl, rfl, Nat.le_of_ble_eq_true rfl, Nat.le_of_ble_eq_true rfl⟩ rfl rfl (Nat.le_of_ble_eq_true rfl) dX0_isAsked_11 ⟨Nat.zero_le _, Nat.zero_le _⟩ (fun r_7 h_8 => ?_)
    refine y_if_eq C (tgt := 21) dX0_isAsked_14 rfl (fun c_10 => ?_) (fun c_10 => ?_)
    · have h_11 := (h_8).1 c_10
      refine y_iconst C dX0_isAsked_21 ic_0 ?_
      exact y_zretR C N rfl rfl (h_11) dX0_isAsked_22
    · have h_12 := (h_8).2 c_10
      refine y_iconst C dX0_isAsked_17 ic_1 ?_
      refine y_goto C (tgt := 22) dX0_isAsked_18 rfl ?_
      exact y_zretR C N rfl rfl (h_12) dX0_isAsked_22
/-! OverHill place(II)I: o_place -/
abbrev rm_o_place : Room := { frames := 6, cells := 0, slots := 0, locals := 152 }
def wp_o_place (S : St) (x1 : Int32) (x2 : Int32) (Q : Int32 → St → Prop) : Prop :=
  wp_o_isAsked S (x1) (x2) (fun r_1 => ((¬ r_1 = 0 → wp_p_goesBoth_5 S (fun S_8 => (vp_in ((200 * x1) + x2) 400 ∧ Q (S_8.1 2 (((200 * x1) + x2)).toNatClampNeg) S_8))) ∧ (r_1 = 0 → Q (-2) S)))
set_option maxRecDepth 100000 in
theorem met_o_place (G : Gx) (A : Nat → Nat) (S : St) (x1 : Int32) (x2 : Int32) (Q : Int32 → St → Prop) (h : wp_o_place S x1 x2 Q) : Mi G yX0_place (ws_ yX0_place cX0_place 3 (some .int)) rm_o_place (wC G A S) [.ref (A 0), .int (x1), .int (x2)] (wC G A) Q := by
  refine ent_Mi (by decide +kernel) rfl (Nat.le_of_ble_eq_true rfl) [(0, .ref (A 0)), (1, .int (x1)), (2, .int (x2))] rfl (fun K B C M N => ?_)
  refine y_aload_n C dX0_place_0 0 rfl rfl ?_
  refine y_iload_n C dX0_place_1 1 rfl rfl ?_
  refine y_iload_n C dX0_place_2 2 rfl rfl ?_
  refine y_callRiV (As := [.int (x1), .int (x2)]) (rest := []) C cs_X0_203 (met_o_isAsked G A S (x1) (x2) _ (h)) (fun _ h => h) (wC_0 ..) rfl rfl ⟨rfl, rfl, Nat.le_of_ble_eq_true rfl, Nat.le_of_ble_eq_true rfl⟩ rfl rfl (Nat.le_of_ble_eq_true rfl) dX0_place_3 ⟨Nat.zero_le _, Nat.zero_le _⟩ (fun r_1 h_2 => ?_)
  refine y_if_ne C (tgt := 12) dX0_place_6 rfl (fun c_4 => ?_) (fun c_4 => ?_)
  · have h_5 := (h_2).1 c_4
    refine y_aload_n C dX0_place_12 0 rfl rfl ?_
    refine yg_X0_43_wC0 C dX0_place_13 ?_
    refine y_callMvO (k' := 0) (n' := 0) (As := []) (rest := []) C M co_X0_206_X4 (met_p_goesBoth_5 G A S _ (h_5)) (wC_5 ..) rfl rfl ⟨rfl, rfl, Nat.le_of_ble_eq_true rfl, Nat.le_of_ble_eq_true rfl⟩ rfl rfl (Nat.le_of_ble_eq_true rfl) dX0_place_16 ⟨Nat.zero_le _, Nat.zero_le _⟩ rfl rfl (fun S_8 h_7 => ?_)
    refine y_aload_n C dX0_place_19 0 rfl rfl ?_
    refine yg_X0_24_wC0 C dX0_place_20 ?_
    refine y_sipush C dX0_place_23 sp_200 ?_
    refine y_iload_n C dX0_place_26 1 rfl rfl ?_
    refine y_imul C dX0_place_27 ?_
    refine y_iload_n C dX0_place_28 2 rfl rfl ?_
    refine y_iadd C dX0_place_29 ?_
    refine y_iald C (wC_2 ..) rfl (h_7).1 dX0_place_30 ?_
    exact y_iretM C M N rfl (S := S_8) rfl ((h_7).2) dX0_place_31
  · have h_9 := (h_2).2 c_4
    refine y_bipush C dX0_place_9 bpm2 ?_
    exact y_iretM C M N rfl (S := S) rfl (h_9) dX0_place_11
/-! OverHill stepIn(II)I: o_stepIn -/
abbrev rm_o_stepIn : Room := { frames := 1, cells := 0, slots := 0, locals := 40 }
def wp_o_stepIn (S : St) (x1 : Int32) (x2 : Int32) (Q : Int32 → Prop) : Prop :=
  (vp_in ((200 * x1) + x2) 400 ∧ Q (S.1 3 (((200 * x1) + x2)).toNatClampNeg))
set_option maxRecDepth 100000 in
theorem met_o_stepIn (G : Gx) (A : Nat → Nat) (S : St) (x1 : Int32) (x2 : Int32) (Q : Int32 → Prop) (h : wp_o_stepIn S x1 x2 Q) : Ri G yX0_stepIn (ws_ yX0_stepIn cX0_stepIn 3 (some .int)) rm_o_stepIn (wC G A S) [.ref (A 0), .int (x1), .int (x2)] Q := by
  refine ent_Ri (by decide +kernel) rfl (Nat.le_of_ble_eq_true rfl) [(0, .ref (A 0)), (1, .int (x1)), (2, .int (x2))] rfl (fun K C N => ?_)
  refine y_aload_n C dX0_stepIn_0 0 rfl rfl ?_
  refine yg_X0_28_wC0 C dX0_stepIn_1 ?_
  refine y_sipush C dX0_stepIn_4 sp_200 ?_
  refine y_iload_n C dX0_stepIn_7 1 rfl rfl ?_
  refine y_imul C dX0_stepIn_8 ?_
  refine y_iload_n C dX0_stepIn_9 2 rfl rfl ?_
  refine y_iadd C dX0_stepIn_10 ?_
  refine y_iald C (wC_3 ..) rfl (h).1 dX0_stepIn_11 ?_
  exact y_iretR C N rfl ((h).2) dX0_stepIn_12
/-! OverHill danced(II)I: o_danced -/
abbrev rm_o_danced : Room := { frames := 6, cells := 0, slots := 0, locals := 152 }
def wp_o_danced (S : St) (x1 : Int32) (x2 : Int32) (Q : Int32 → St → Prop) : Prop :=
  wp_o_isAsked S (x1) (x2) (fun r_1 => ((¬ r_1 = 0 → wp_p_goesBoth_5 S (fun S_8 => wp_o_stepIn S_8 (x1) (x2) (fun r_9 => Q r_9 S_8))) ∧ (r_1 = 0 → Q (-2) S)))
set_option maxRecDepth 100000 in
theorem met_o_danced (G : Gx) (A : Nat → Nat) (S : St) (x1 : Int32) (x2 : Int32) (Q : Int32 → St → Prop) (h : wp_o_danced S x1 x2 Q) : Mi G yX0_danced (ws_ yX0_danced cX0_danced 3 (some .int)) rm_o_danced (wC G A S) [.ref (A 0), .int (x1), .int (x2)] (wC G A) Q := by
  refine ent_Mi (by decide +kernel) rfl (Nat.le_of_ble_eq_true rfl) [(0, .ref (A 0)), (1, .int (x1)), (2, .int (x2))] rfl (fun K B C M N => ?_)
  refine y_aload_n C dX0_danced_0 0 rfl rfl ?_
  refine y_iload_n C dX0_danced_1 1 rfl rfl ?_
  refine y_iload_n C dX0_danced_2 2 rfl rfl ?_
  refine y_callRiV (As := [.int (x1), .int (x2)]) (rest := []) C cs_X0_203 (met_o_isAsked G A S (x1) (x2) _ (h)) (fun _ h => h) (wC_0 ..) rfl rfl ⟨rfl, rfl, Nat.le_of_ble_eq_true rfl, Nat.le_of_ble_eq_true rfl⟩ rfl rfl (Nat.le_of_ble_eq_true rfl) dX0_danced_3 ⟨Nat.zero_le _, Nat.zero_le _⟩ (fun r_1 h_2 => ?_)
  refine y_if_ne C (tgt := 12) dX0_danced_6 rfl (fun c_4 => ?_) (fun c_4 => ?_)
  · have h_5 := (h_2).1 c_4
    refine y_aload_n C dX0_danced_12 0 rfl rfl ?_
    refine yg_X0_43_wC0 C dX0_danced_13 ?_
    refine y_callMvO (k' := 0) (n' := 0) (As := []) (rest := []) C M co_X0_206_X4 (met_p_goesBoth_5 G A S _ (h_5)) (wC_5 ..) rfl rfl ⟨rfl, rfl, Nat.le_of_ble_eq_true rfl, Nat.le_of_ble_eq_true rfl⟩ rfl rfl (Nat.le_of_ble_eq_true rfl) dX0_danced_16 ⟨Nat.zero_le _, Nat.zero_le _⟩ rfl rfl (fun S_8 h_7 => ?_)
    refine y_aload_n C dX0_danced_19 0 rfl rfl ?_
    refine y_iload_n C dX0_danced_20 1 rfl rfl ?_
    refine y_iload_n C dX0_danced_21 2 rfl rfl ?_
    refine y_callRiV (As := [.int (x1), .int (x2)]) (rest := []) C cs_X0_191 (met_o_stepIn G A S_8 (x1) (x2) _ (h_7)) (fun _ h => h) (wC_0 ..) rfl rfl ⟨rfl, rfl, Nat.le_of_ble_eq_true rfl, Nat.le_of_ble_eq_true rfl⟩ rfl rfl (Nat.le_of_ble_eq_true rfl) dX0_danced_22 ⟨Nat.zero_le _, Nat.zero_le _⟩ (fun r_9 h_10 => ?_)
    exact y_iretM C M N rfl (S := S_8) rfl (h_10) dX0_danced_25
  · have h_12 := (h_2).2 c_4
    refine y_bipush C dX0_danced_9 bpm2 ?_
    exact y_iretM C M N rfl (S := S) rfl (h_12) dX0_danced_11
/-! OverHill heardIn(II)I: o_heardIn -/
abbrev rm_o_heardIn : Room := { frames := 2, cells := 0, slots := 0, locals := 62 }
def wp_o_heardIn (S : St) (x1 : Int32) (x2 : Int32) (Q : Int32 → Prop) : Prop :=
  (((S.1 15 0) ≤ x2 → wp_o_stepIn S ((1 - x1)) ((x2 - (S.1 15 0))) (fun r_3 => Q r_3)) ∧ (¬ (S.1 15 0) ≤ x2 → Q (-1)))
set_option maxRecDepth 100000 in
theorem met_o_heardIn (G : Gx) (A : Nat → Nat) (S : St) (x1 : Int32) (x2 : Int32) (Q : Int32 → Prop) (h : wp_o_heardIn S x1 x2 Q) : Ri G yX0_heardIn (ws_ yX0_heardIn cX0_heardIn 3 (some .int)) rm_o_heardIn (wC G A S) [.ref (A 0), .int (x1), .int (x2)] Q := by
  refine ent_Ri (by decide +kernel) rfl (Nat.le_of_ble_eq_true rfl) [(0, .ref (A 0)), (1, .int (x1)), (2, .int (x2))] rfl (fun K C N => ?_)
  refine y_iload_n C dX0_heardIn_0 2 rfl rfl ?_
  refine y_aload_n C dX0_heardIn_1 0 rfl rfl ?_
  refine yg_X0_12_wC0 C dX0_heardIn_2 ?_
  refine yg_X0_188_wC15 C dX0_heardIn_5 ?_
  refine y_icmp_ge C (tgt := 15) dX0_heardIn_8 rfl (fun c_1 => ?_) (fun c_1 => ?_)
  · have h_2 := (h).1 c_1
    refine y_aload_n C dX0_heardIn_15 0 rfl rfl ?_
    refine y_iconst C dX0_heardIn_16 ic_1 ?_
    refine y_iload_n C dX0_heardIn_17 1 rfl rfl ?_
    refine y_isub C dX0_heardIn_18 ?_
    refine y_iload_n C dX0_heardIn_19 2 rfl rfl ?_
    refine y_aload_n C dX0_heardIn_20 0 rfl rfl ?_
    refine yg_X0_12_wC0 C dX0_heardIn_21 ?_
    refine yg_X0_188_wC15 C dX0_heardIn_24 ?_
    refine y_isub C dX0_heardIn_27 ?_
    refine y_callRiV (As := [.int ((1 - x1)), .int ((x2 - (S.1 15 0)))]) (rest := []) C cs_X0_191 (met_o_stepIn G A S ((1 - x1)) ((x2 - (S.1 15 0))) _ (h_2)) (fun _ h => h) (wC_0 ..) rfl rfl ⟨rfl, rfl, Nat.le_of_ble_eq_true rfl, Nat.le_of_ble_eq_true rfl⟩ rfl rfl (Nat.le_of_ble_eq_true rfl) dX0_heardIn_28 ⟨Nat.zero_le _, Nat.zero_le _⟩ (fun r_3 h_4 => ?_)
    exact y_iretR C N rfl (h_4) dX0_heardIn_31
  · have h_6 := (h).2 c_1
    refine y_iconst C dX0_heardIn_11 icm1 ?_
    refine y_goto C (tgt := 31) dX0_heardIn_12 rfl ?_
    exact y_iretR C N rfl (h_6) dX0_heardIn_31
/-! OverHill hears(II)I: o_hears -/
abbrev rm_o_hears : Room := { frames := 6, cells := 0, slots := 0, locals := 152 }
def wp_o_hears (S : St) (x1 : Int32) (x2 : Int32) (Q : Int32 → St → Prop) : Prop :=
  wp_o_isAsked S (x1) (x2) (fun r_1 => ((¬ r_1 = 0 → wp_p_goesBoth_5 S (fun S_8 => wp_o_heardIn S_8 (x1) (x2) (fun r_9 => Q r_9 S_8))) ∧ (r_1 = 0 → Q (-2) S)))
set_option maxRecDepth 100000 in
theorem met_o_hears (G : Gx) (A : Nat → Nat) (S : St) (x1 : Int32) (x2 : Int32) (Q : Int32 → St → Prop) (h : wp_o_hears S x1 x2 Q) : Mi G yX0_hears (ws_ yX0_hears cX0_hears 3 (some .int)) rm_o_hears (wC G A S) [.ref (A 0), .int (x1), .int (x2)] (wC G A) Q := by
  refine ent_Mi (by decide +kernel) rfl (Nat.le_of_ble_eq_true rfl) [(0, .ref (A 0)), (1, .int (x1)), (2, .int (x2))] rfl (fun K B C M N => ?_)
  refine y_aload_n C dX0_hears_0 0 rfl rfl ?_
  refine y_iload_n C dX0_hears_1 1 rfl rfl ?_
  refine y_iload_n C dX0_hears_2 2 rfl rfl ?_
  refine y_callRiV (As := [.int (x1), .int (x2)]) (rest := []) C cs_X0_203 (met_o_isAsked G A S (x1) (x2) _ (h)) (fun _ h => h) (wC_0 ..) rfl rfl ⟨rfl, rfl, Nat.le_of_ble_eq_true rfl, Nat.le_of_ble_eq_true rfl⟩ rfl rfl (Nat.le_of_ble_eq_true rfl) dX0_hears_3 ⟨Nat.zero_le _, Nat.zero_le _⟩ (fun r_1 h_2 => ?_)
  refine y_if_ne C (tgt := 12) dX0_hears_6 rfl (fun c_4 => ?_) (fun c_4 => ?_)
  · have h_5 := (h_2).1 c_4
    refine y_aload_n C dX0_hears_12 0 rfl rfl ?_
    refine yg_X0_43_wC0 C dX0_hears_13 ?_
    refine y_callMvO (k' := 0) (n' := 0) (As := []) (rest := []) C M co_X0_206_X4 (met_p_goesBoth_5 G A S _ (h_5)) (wC_5 ..) rfl rfl ⟨rfl, rfl, Nat.le_of_ble_eq_true rfl, Nat.le_of_ble_eq_true rfl⟩ rfl rfl (Nat.le_of_ble_eq_true rfl) dX0_hears_16 ⟨Nat.zero_le _, Nat.zero_le _⟩ rfl rfl (fun S_8 h_7 => ?_)
    refine y_aload_n C dX0_hears_19 0 rfl rfl ?_
    refine y_iload_n C dX0_hears_20 1 rfl rfl ?_
    refine y_iload_n C dX0_hears_21 2 rfl rfl ?_
    refine y_callRiV (As := [.int (x1), .int (x2)]) (rest := []) C cs_X0_194 (met_o_heardIn G A S_8 (x1) (x2) _ (h_7)) (fun _ h => h) (wC_0 ..) rfl rfl ⟨rfl, rfl, Nat.le_of_ble_eq_true rfl, Nat.le_of_ble_eq_true rfl⟩ rfl rfl (Nat.le_of_ble_eq_true rfl) dX0_hears_22 ⟨Nat.zero_le _, Nat.zero_le _⟩ (fun r_9 h_10 => ?_)
    exact y_iretM C M N rfl (S := S_8) rfl (h_10) dX0_hears_25
  · have h_12 := (h_2).2 c_4
    refine y_bipush C dX0_hears_9 bpm2 ?_
    exact y_iretM C M N rfl (S := S) rfl (h_12) dX0_hears_11
/-! OverHill late(II)I: o_late -/
abbrev rm_o_late : Room := { frames := 6, cells := 0, slots := 0, locals := 152 }
def wp_o_late (S : St) (x1 : Int32) (x2 : Int32) (Q : Int32 → St → Prop) : Prop :=
  wp_o_isAsked S (x1) (x2) (fun r_1 => ((¬ r_1 = 0 → wp_p_goesBoth_5 S (fun S_8 => (vp_in ((200 * x1) + x2) 400 ∧ ((¬ (S_8.1 2 (((200 * x1) + x2)).toNatClampNeg) = (-1) → (vp_in x1 2 ∧ (vp_in x1 2 ∧ wp_jm_floorMod ((((S_8.1 17 (x1).toNatClampNeg) + x2) - (S_8.1 2 (((200 * x1) + x2)).toNatClampNeg))) ((S_8.1 16 (x1).toNatClampNeg)) (fun r_11 => Q r_11 S_8)))) ∧ ((S_8.1 2 (((200 * x1) + x2)).toNatClampNeg) = (-1) → Q (-1) S_8))))) ∧ (r_1 = 0 → Q (-2) S)))
set_option maxRecDepth 100000 in
theorem met_o_late (G : Gx) (A : Nat → Nat) (S : St) (x1 : Int32) (x2 : Int32) (Q : Int32 → St → Prop) (h : wp_o_late S x1 x2 Q) : Mi G yX0_late (ws_ yX0_late cX0_late 4 (some .int)) rm_o_late (wC G A S) [.ref (A 0), .int (x1), .int (x2)] (wC G A) Q := by
  refine ent_Mi (by decide +kernel) rfl (Nat.le_of_ble_eq_true rfl) [(0, .ref (A 0)), (1, .int (x1)), (2, .int (x2))] rfl (fun K B C M N => ?_)
  refine y_aload_n C dX0_late_0 0 rfl rfl ?_
  refine y_iload_n C dX0_late_1 1 rfl rfl ?_
  refine y_iload_n C dX0_late_2 2 rfl rfl ?_
  refine y_callRiV (As := [.int (x1), .int (x2)]) (rest := []) C cs_X0_203 (met_o_isAsked G A S (x1) (x2) _ (h)) (fun _ h => h) (wC_0 ..) rfl rfl ⟨rfl, rfl, Nat.le_of_ble_eq_true rfl, Nat.le_of_ble_eq_true rfl⟩ rfl rfl (Nat.le_of_ble_eq_true rfl) dX0_late_3 ⟨Nat.zero_le _, Nat.zero_le _⟩ (fun r_1 h_2 => ?_)
  refine y_if_ne C (tgt := 12) dX0_late_6 rfl (fun c_4 => ?_) (fun c_4 => ?_)
  · have h_5 := (h_2).1 c_4
    refine y_aload_n C dX0_late_12 0 rfl rfl ?_
    refine yg_X0_43_wC0 C dX0_late_13 ?_
    refine y_callMvO (k' := 0) (n' := 0) (As := []) (rest := []) C M co_X0_206_X4 (met_p_goesBoth_5 G A S _ (h_5)) (wC_5 ..) rfl rfl ⟨rfl, rfl, Nat.le_of_ble_eq_true rfl, Nat.le_of_ble_eq_true rfl⟩ rfl rfl (Nat.le_of_ble_eq_true rfl) dX0_late_16 ⟨Nat.zero_le _, Nat.zero_le _⟩ rfl rfl (fun S_8 h_7 => ?_)
    refine y_aload_n C dX0_late_19 0 rfl rfl ?_
    refine yg_X0_24_wC0 C dX0_late_20 ?_
    refine y_sipush C dX0_late_23 sp_200 ?_
    refine y_iload_n C dX0_late_26 1 rfl rfl ?_
    refine y_imul C dX0_late_27 ?_
    refine y_iload_n C dX0_late_28 2 rfl rfl ?_
    refine y_iadd C dX0_late_29 ?_
    refine y_iald C (wC_2 ..) rfl (h_7).1 dX0_late_30 ?_
    refine y_istore_n C dX0_late_31 rfl (Nat.le_of_ble_eq_true rfl) [(3, .int ((S_8.1 2 (((200 * x1) + x2)).toNatClampNeg))), (0, .ref (A 0)), (1, .int (x1)), (2, .int (x2))] rfl ?_
    refine y_iload_n C dX0_late_32 0 rfl rfl ?_
    refine y_iconst C dX0_late_33 icm1 ?_
    refine y_icmp_ne C (tgt := 41) dX0_late_34 rfl (fun c_9 => ?_) (fun c_9 => ?_)
    · have h_10 := ((h_7).2).1 c_9
      refine y_aload_n C dX0_late_41 1 rfl rfl ?_
      refine yg_X0_12_wC0 C dX0_late_42 ?_
      refine yg_X0_209_wC15 C dX0_late_45 ?_
      refine y_iload_n C dX0_late_48 2 rfl rfl ?_
      refine y_iald C (wC_17 ..) rfl (h_10).1 dX0_late_49 ?_
      refine y_iload_n C dX0_late_50 3 rfl rfl ?_
      refine y_iadd C dX0_late_51 ?_
      refine y_iload_n C dX0_late_52 0 rfl rfl ?_
      refine y_isub C dX0_late_53 ?_
      refine y_aload_n C dX0_late_54 1 rfl rfl ?_
      refine yg_X0_12_wC0 C dX0_late_55 ?_
      refine yg_X0_144_wC15 C dX0_late_58 ?_
      refine y_iload_n C dX0_late_61 2 rfl rfl ?_
      refine y_iald C (wC_16 ..) rfl ((h_10).2).1 dX0_late_62 ?_
      refine y_callRiS (As := [.int ((((S_8.1 17 (x1).toNatClampNeg) + x2) - (S_8.1 2 (((200 * x1) + x2)).toNatClampNeg))), .int ((S_8.1 16 (x1).toNatClampNeg))]) (rest := []) C cs_X0_212 (met_jm_floorMod G ((((S_8.1 17 (x1).toNatClampNeg) + x2) - (S_8.1 2 (((200 * x1) + x2)).toNatClampNeg))) ((S_8.1 16 (x1).toNatClampNeg)) _ (((h_10).2).2)) (fun _ _ => pw_nil) ⟨rfl, rfl, Nat.le_of_ble_eq_true rfl, Nat.le_of_ble_eq_true rfl⟩ rfl rfl (Nat.le_of_ble_eq_true rfl) dX0_late_63 ⟨Nat.zero_le _, Nat.zero_le _⟩ (fun r_11 h_12 => ?_)
      exact y_iretM C M N rfl (S := S_8) rfl (h_12) dX0_late_66
    · have h_14 := ((h_7).2).2 c_9
      refine y_iconst C dX0_late_37 icm1 ?_
      refine y_goto C (tgt := 66) dX0_late_38 rfl ?_
      exact y_iretM C M N rfl (S := S_8) rfl (h_14) dX0_late_66
  · have h_15 := (h_2).2 c_4
    refine y_bipush C dX0_late_9 bpm2 ?_
    exact y_iretM C M N rfl (S := S) rfl (h_15) dX0_late_11
/-! OverHill isHole(II)Z: o_isHole -/
abbrev rm_o_isHole : Room := { frames := 3, cells := 0, slots := 0, locals := 84 }
def wp_o_isHole (S : St) (x1 : Int32) (x2 : Int32) (Q : Int32 → Prop) : Prop :=
  wp_o_stepIn S (x1) (x2) (fun r_1 => ((r_1 = (-1) → Q 0) ∧ (¬ r_1 = (-1) → wp_o_heardIn S (x1) (x2) (fun r_7 => ((r_7 = (-1) → Q 0) ∧ (¬ r_7 = (-1) → wp_o_stepIn S (x1) (x2) (fun r_13 => (vp_in r_13 6 ∧ wp_o_heardIn S (x1) (x2) (fun r_16 => wp_o_has ((S.1 19 (r_13).toNatClampNeg)) (r_16) (fun r_19 => ((¬ r_19 = 0 → Q 0) ∧ (r_19 = 0 → Q 1))))))))))))
set_option maxRecDepth 100000 in
theorem met_o_isHole (G : Gx) (A : Nat → Nat) (S : St) (x1 : Int32) (x2 : Int32) (Q : Int32 → Prop) (h : wp_o_isHole S x1 x2 Q) : Ri G yX0_isHole (ws_ yX0_isHole cX0_isHole 3 (some .boolean)) rm_o_isHole (wC G A S) [.ref (A 0), .int (x1), .int (x2)] Q := by
  refine ent_Ri (by decide +kernel) rfl (Nat.le_of_ble_eq_true rfl) [(0, .ref (A 0)), (1, .int (x1)), (2, .int (x2))] rfl (fun K C N => ?_)
  refine y_aload_n C dX0_isHole_0 0 rfl rfl ?_
  refine y_iload_n C dX0_isHole_1 1 rfl rfl ?_
  refine y_iload_n C dX0_isHole_2 2 rfl rfl ?_
  refine y_callRiV (As := [.int (x1), .int (x2)]) (rest := []) C cs_X0_191 (met_o_stepIn G A S (x1) (x2) _ (h)) (fun _ h => h) (wC_0 ..) rfl rfl ⟨rfl, rfl, Nat.le_of_ble_eq_true rfl, Nat.le_of_ble_eq_true rfl⟩ rfl rfl (Nat.le_of_ble_eq_true rfl) dX0_isHole_3 ⟨Nat.zero_le _, Nat.zero_le _⟩ (fun r_1 h_2 => ?_)
  refine y_iconst C dX0_isHole_6 icm1 ?_
  refine y_icmp_eq C (tgt := 50) dX0_isHole_7 rfl (fun c_4 => ?_) (fun c_4 => ?_)
  · have h_5 := (h_2).1 c_4
    refine y_iconst C dX0_isHole_50 ic_0 ?_
    exact y_zretR C N rfl rfl (h_5) dX0_isHole_51
  · have h_6 := (h_2).2 c_4
    refine y_aload_n C dX0_isHole_10 0 rfl rfl ?_
    refine y_iload_n C dX0_isHole_11 1 rfl rfl ?_
    refine y_iload_n C dX0_isHole_12 2 rfl rfl ?_
    refine y_callRiV (As := [.int (x1), .int (x2)]) (rest := []) C cs_X0_194 (met_o_heardIn G A S (x1) (x2) _ (h_6)) (fun _ h => h) (wC_0 ..) rfl rfl ⟨rfl, rfl, Nat.le_of_ble_eq_true rfl, Nat.le_of_ble_eq_true rfl⟩ rfl rfl (Nat.le_of_ble_eq_true rfl) dX0_isHole_13 ⟨Nat.zero_le _, Nat.zero_le _⟩ (fun r_7 h_8 => ?_)
    refine y_iconst C dX0_isHole_16 icm1 ?_
    refine y_icmp_eq C (tgt := 50) dX0_isHole_17 rfl (fun c_10 => ?_) (fun c_10 => ?_)
    · have h_11 := (h_8).1 c_10
      refine y_iconst C dX0_isHole_50 ic_0 ?_
      exact y_zretR C N rfl rfl (h_11) dX0_isHole_51
    · have h_12 := (h_8).2 c_10
      refine y_aload_n C dX0_isHole_20 0 rfl rfl ?_
      refine yg_X0_12_wC0 C dX0_isHole_21 ?_
      refine yg_X0_163_wC15 C dX0_isHole_24 ?_
      refine y_aload_n C dX0_isHole_27 0 rfl rfl ?_
      refine y_iload_n C dX0_isHole_28 1 rfl rfl ?_
      refine y_iload_n C dX0_isHole_29 2 rfl rfl ?_
      refine y_callRiV (As := [.int (x1), .int (x2)]) (rest := [.ref (A 19)]) C cs_X0_191 (met_o_stepIn G A S (x1) (x2) _ (h_12)) (fun _ h => h) (wC_0 ..) rfl rfl ⟨rfl, rfl, Nat.le_of_ble_eq_true rfl, Nat.le_of_ble_eq_true rfl⟩ rfl rfl (Nat.le_of_ble_eq_true rfl) dX0_isHole_30 ⟨Nat.zero_le _, Nat.zero_le _⟩ (fun r_13 h_14 => ?_)
      refine y_iald C (wC_19 ..) rfl (h_14).1 dX0_isHole_33 ?_
      refine y_aload_n C dX0_isHole_34 0 rfl rfl ?_
      refine y_iload_n C dX0_isHole_35 1 rfl rfl ?_
      refine y_iload_n C dX0_isHole_36 2 rfl rfl ?_
      refine y_callRiV (As := [.int (x1), .int (x2)]) (rest := [.int ((S.1 19 (r_13).toNatClampNeg))]) C cs_X0_194 (met_o_heardIn G A S (x1) (x2) _ ((h_14).2)) (fun _ h => h) (wC_0 ..) rfl rfl ⟨rfl, rfl, Nat.le_of_ble_eq_true rfl, Nat.le_of_ble_eq_true rfl⟩ rfl rfl (Nat.le_of_ble_eq_true rfl) dX0_isHole_37 ⟨Nat.zero_le _, Nat.zero_le _⟩ (fun r_16 h_17 => ?_)
      refine y_callRiS (As := [.int ((S.1 19 (r_13).toNatClampNeg)), .int (r_16)]) (rest := []) C cs_X0_197 (met_o_has G ((S.1 19 (r_13).toNatClampNeg)) (r_16) _ (h_17)) (fun _ _ => pw_nil) ⟨rfl, rfl, Nat.le_of_ble_eq_true rfl, Nat.le_of_ble_eq_true rfl⟩ rfl rfl (Nat.le_of_ble_eq_true rfl) dX0_isHole_40 ⟨Nat.zero_le _, Nat.zero_le _⟩ (fun r_19 h_20 => ?_)
      refine y_if_ne C (tgt := 50) dX0_isHole_43 rfl (fun c_22 => ?_) (fun c_22 => ?_)
      · have h_23 := (h_20).1 c_22
        refine y_iconst C dX0_isHole_50 ic_0 ?_
        exact y_zretR C N rfl rfl (h_23) dX0_isHole_51
      · have h_24 := (h_20).2 c_22
        refine y_iconst C dX0_isHole_46 ic_1 ?_
        refine y_goto C (tgt := 51) dX0_isHole_47 rfl ?_
        exact y_zretR C N rfl rfl (h_24) dX0_isHole_51
