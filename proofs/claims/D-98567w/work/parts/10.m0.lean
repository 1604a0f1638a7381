/-! printed by tools/gen.py -/
set_option maxRecDepth 100000
def fs_M0 (A : Nat → Nat) (S : St) : List Value := [.int (S.1 0 0), .ref (A 1), .ref (A 2), .ref (A 3), .ref (A 4), .ref (A 5), .int (S.1 0 6), .int (S.1 0 7), .int (S.1 0 8), .int (S.1 0 9), .int (S.1 0 10), .long (S.2 0 11), .int (S.1 0 12), .int (S.1 0 13), .int (S.1 0 14), .int (S.1 0 15), .ref (A 6), .ref (A 7), .ref (A 8), .ref (A 9), .ref (A 10), .ref (A 11), .ref (A 12), .ref (A 13), .ref (A 14), .ref (A 15), .ref (A 16), .ref (A 17), .ref (A 18), .int (S.1 0 29), .int (S.1 0 30), .ref (A 19), .int (S.1 0 32), .int (S.1 0 33), .long (S.2 0 34), .int (S.1 0 35), .ref (A 20), .int (S.1 0 37), .int (S.1 0 38), .ref (A 21), .int (S.1 0 40), .int (S.1 0 41), .int (S.1 0 42), .int (S.1 0 43), .long (S.2 0 44)]
theorem fs_M0_f0 (A : Nat → Nat) (S : St) : (fs_M0 A S)[0]? = some (.int (S.1 0 0)) := rfl
theorem fs_M0_f1 (A : Nat → Nat) (S : St) : (fs_M0 A S)[1]? = some (.ref (A 1)) := rfl
theorem fs_M0_f2 (A : Nat → Nat) (S : St) : (fs_M0 A S)[2]? = some (.ref (A 2)) := rfl
theorem fs_M0_f3 (A : Nat → Nat) (S : St) : (fs_M0 A S)[3]? = some (.ref (A 3)) := rfl
theorem fs_M0_f4 (A : Nat → Nat) (S : St) : (fs_M0 A S)[4]? = some (.ref (A 4)) := rfl
theorem fs_M0_f5 (A : Nat → Nat) (S : St) : (fs_M0 A S)[5]? = some (.ref (A 5)) := rfl
theorem fs_M0_f6 (A : Nat → Nat) (S : St) : (fs_M0 A S)[6]? = some (.int (S.1 0 6)) := rfl
theorem fs_M0_f7 (A : Nat → Nat) (S : St) : (fs_M0 A S)[7]? = some (.int (S.1 0 7)) := rfl
theorem fs_M0_f8 (A : Nat → Nat) (S : St) : (fs_M0 A S)[8]? = some (.int (S.1 0 8)) := rfl
theorem fs_M0_f9 (A : Nat → Nat) (S : St) : (fs_M0 A S)[9]? = some (.int (S.1 0 9)) := rfl
theorem fs_M0_f10 (A : Nat → Nat) (S : St) : (fs_M0 A S)[10]? = some (.int (S.1 0 10)) := rfl
theorem fs_M0_f11 (A : Nat → Nat) (S : St) : (fs_M0 A S)[11]? = some (.long (S.2 0 11)) := rfl
theorem fs_M0_f12 (A : Nat → Nat) (S : St) : (fs_M0 A S)[12]? = some (.int (S.1 0 12)) := rfl
theorem fs_M0_f13 (A : Nat → Nat) (S : St) : (fs_M0 A S)[13]? = some (.int (S.1 0 13)) := rfl
theorem fs_M0_f14 (A : Nat → Nat) (S : St) : (fs_M0 A S)[14]? = some (.int (S.1 0 14)) := rfl
theorem fs_M0_f15 (A : Nat → Nat) (S : St) : (fs_M0 A S)[15]? = some (.int (S.1 0 15)) := rfl
theorem fs_M0_f16 (A : Nat → Nat) (S : St) : (fs_M0 A S)[16]? = some (.ref (A 6)) := rfl
theorem fs_M0_f17 (A : Nat → Nat) (S : St) : (fs_M0 A S)[17]? = some (.ref (A 7)) := rfl
theorem fs_M0_f18 (A : Nat → Nat) (S : St) : (fs_M0 A S)[18]? = some (.ref (A 8)) := rfl
theorem fs_M0_f19 (A : Nat → Nat) (S : St) : (fs_M0 A S)[19]? = some (.ref (A 9)) := rfl
theorem fs_M0_f20 (A : Nat → Nat) (S : St) : (fs_M0 A S)[20]? = some (.ref (A 10)) := rfl
theorem fs_M0_f21 (A : Nat → Nat) (S : St) : (fs_M0 A S)[21]? = some (.ref (A 11)) := rfl
theorem fs_M0_f22 (A : Nat → Nat) (S : St) : (fs_M0 A S)[22]? = some (.ref (A 12)) := rfl
theorem fs_M0_f23 (A : Nat → Nat) (S : St) : (fs_M0 A S)[23]? = some (.ref (A 13)) := rfl
theorem fs_M0_f24 (A : Nat → Nat) (S : St) : (fs_M0 A S)[24]? = some (.ref (A 14)) := rfl
theorem fs_M0_f25 (A : Nat → Nat) (S : St) : (fs_M0 A S)[25]? = some (.ref (A 15)) := rfl
theorem fs_M0_f26 (A : Nat → Nat) (S : St) : (fs_M0 A S)[26]? = some (.ref (A 16)) := rfl
theorem fs_M0_f27 (A : Nat → Nat) (S : St) : (fs_M0 A S)[27]? = some (.ref (A 17)) := rfl
theorem fs_M0_f28 (A : Nat → Nat) (S : St) : (fs_M0 A S)[28]? = some (.ref (A 18)) := rfl
theorem fs_M0_f29 (A : Nat → Nat) (S : St) : (fs_M0 A S)[29]? = some (.int (S.1 0 29)) := rfl
theorem fs_M0_f30 (A : Nat → Nat) (S : St) : (fs_M0 A S)[30]? = some (.int (S.1 0 30)) := rfl
theorem fs_M0_f31 (A : Nat → Nat) (S : St) : (fs_M0 A S)[31]? = some (.ref (A 19)) := rfl
theorem fs_M0_f32 (A : Nat → Nat) (S : St) : (fs_M0 A S)[32]? = some (.int (S.1 0 32)) := rfl
theorem fs_M0_f33 (A : Nat → Nat) (S : St) : (fs_M0 A S)[33]? = some (.int (S.1 0 33)) := rfl
theorem fs_M0_f34 (A : Nat → Nat) (S : St) : (fs_M0 A S)[34]? = some (.long (S.2 0 34)) := rfl
theorem fs_M0_f35 (A : Nat → Nat) (S : St) : (fs_M0 A S)[35]? = some (.int (S.1 0 35)) := rfl
theorem fs_M0_f36 (A : Nat → Nat) (S : St) : (fs_M0 A S)[36]? = some (.ref (A 20)) := rfl
theorem fs_M0_f37 (A : Nat → Nat) (S : St) : (fs_M0 A S)[37]? = some (.int (S.1 0 37)) := rfl
theorem fs_M0_f38 (A : Nat → Nat) (S : St) : (fs_M0 A S)[38]? = some (.int (S.1 0 38)) := rfl
theorem fs_M0_f39 (A : Nat → Nat) (S : St) : (fs_M0 A S)[39]? = some (.ref (A 21)) := rfl
theorem fs_M0_f40 (A : Nat → Nat) (S : St) : (fs_M0 A S)[40]? = some (.int (S.1 0 40)) := rfl
theorem fs_M0_f41 (A : Nat → Nat) (S : St) : (fs_M0 A S)[41]? = some (.int (S.1 0 41)) := rfl
theorem fs_M0_f42 (A : Nat → Nat) (S : St) : (fs_M0 A S)[42]? = some (.int (S.1 0 42)) := rfl
theorem fs_M0_f43 (A : Nat → Nat) (S : St) : (fs_M0 A S)[43]? = some (.int (S.1 0 43)) := rfl
theorem fs_M0_f44 (A : Nat → Nat) (S : St) : (fs_M0 A S)[44]? = some (.long (S.2 0 44)) := rfl
def wM (G : Gx) (A : Nat → Nat) (S : St) : va_W := [(A 0, .inr (7, fs_M0 A S)), (A 1, .inl (G.2.2.1 0, 4, .inl (S.1 1))), (A 2, .inl (G.2.2.1 0, 4, .inl (S.1 2))), (A 3, .inl (G.2.2.1 3, 240, .inr (.inl (S.2 3)))), (A 4, .inl (G.2.2.1 3, 60, .inr (.inl (S.2 4)))), (A 5, .inl (G.2.2.1 1, 1200, .inl (S.1 5))), (A 6, .inl (G.2.2.1 0, 5, .inl (S.1 6))), (A 7, .inl (G.2.2.1 0, 55, .inl (S.1 7))), (A 8, .inl (G.2.2.1 0, 120, .inl (S.1 8))), (A 9, .inl (G.2.2.1 0, 30, .inl (S.1 9))), (A 10, .inl (G.2.2.1 0, 160, .inl (S.1 10))), (A 11, .inl (G.2.2.1 2, 1000, .inl (S.1 11))), (A 12, .inl (G.2.2.1 0, 120, .inl (S.1 12))), (A 13, .inl (G.2.2.1 0, 50, .inl (S.1 13))), (A 14, .inl (G.2.2.1 0, 800, .inl (S.1 14))), (A 15, .inl (G.2.2.1 2, 3, .inl (S.1 15))), (A 16, .inl (G.2.2.1 0, 13, .inl (S.1 16))), (A 17, .inl (G.2.2.1 0, 402, .inl (S.1 17))), (A 18, .inl (G.2.2.1 0, 400, .inl (S.1 18))), (A 19, .inl (G.2.2.1 0, 560, .inl (S.1 19))), (A 20, .inl (G.2.2.1 0, 24, .inl (S.1 20))), (A 21, .inl (G.2.2.1 0, 24576, .inl (S.1 21)))]
theorem wM_0  (G : Gx) (A : Nat → Nat) (S : St) : (wM G A S)[0]? = some (A 0, .inr (7, fs_M0 A S)) := rfl
theorem wM_p0_0  (G : Gx) (A : Nat → Nat) (S : St) (v : Int32) : (wM G A S).set 0 (A 0, .inr (7, (fs_M0 A S).set 0 (.int v))) = wM G A (sI S 0 0 v) := rfl
theorem wM_p0_6  (G : Gx) (A : Nat → Nat) (S : St) (v : Int32) : (wM G A S).set 0 (A 0, .inr (7, (fs_M0 A S).set 6 (.int v))) = wM G A (sI S 0 6 v) := rfl
theorem wM_p0_7  (G : Gx) (A : Nat → Nat) (S : St) (v : Int32) : (wM G A S).set 0 (A 0, .inr (7, (fs_M0 A S).set 7 (.int v))) = wM G A (sI S 0 7 v) := rfl
theorem wM_p0_8  (G : Gx) (A : Nat → Nat) (S : St) (v : Int32) : (wM G A S).set 0 (A 0, .inr (7, (fs_M0 A S).set 8 (.int v))) = wM G A (sI S 0 8 v) := rfl
theorem wM_p0_9  (G : Gx) (A : Nat → Nat) (S : St) (v : Int32) : (wM G A S).set 0 (A 0, .inr (7, (fs_M0 A S).set 9 (.int v))) = wM G A (sI S 0 9 v) := rfl
theorem wM_p0_10  (G : Gx) (A : Nat → Nat) (S : St) (v : Int32) : (wM G A S).set 0 (A 0, .inr (7, (fs_M0 A S).set 10 (.int v))) = wM G A (sI S 0 10 v) := rfl
theorem wM_p0_11  (G : Gx) (A : Nat → Nat) (S : St) (v : Int64) : (wM G A S).set 0 (A 0, .inr (7, (fs_M0 A S).set 11 (.long v))) = wM G A (sL S 0 11 v) := rfl
theorem wM_p0_12  (G : Gx) (A : Nat → Nat) (S : St) (v : Int32) : (wM G A S).set 0 (A 0, .inr (7, (fs_M0 A S).set 12 (.int v))) = wM G A (sI S 0 12 v) := rfl
theorem wM_p0_13  (G : Gx) (A : Nat → Nat) (S : St) (v : Int32) : (wM G A S).set 0 (A 0, .inr (7, (fs_M0 A S).set 13 (.int v))) = wM G A (sI S 0 13 v) := rfl
theorem wM_p0_14  (G : Gx) (A : Nat → Nat) (S : St) (v : Int32) : (wM G A S).set 0 (A 0, .inr (7, (fs_M0 A S).set 14 (.int v))) = wM G A (sI S 0 14 v) := rfl
theorem wM_p0_15  (G : Gx) (A : Nat → Nat) (S : St) (v : Int32) : (wM G A S).set 0 (A 0, .inr (7, (fs_M0 A S).set 15 (.int v))) = wM G A (sI S 0 15 v) := rfl
theorem wM_p0_29  (G : Gx) (A : Nat → Nat) (S : St) (v : Int32) : (wM G A S).set 0 (A 0, .inr (7, (fs_M0 A S).set 29 (.int v))) = wM G A (sI S 0 29 v) := rfl
theorem wM_p0_30  (G : Gx) (A : Nat → Nat) (S : St) (v : Int32) : (wM G A S).set 0 (A 0, .inr (7, (fs_M0 A S).set 30 (.int v))) = wM G A (sI S 0 30 v) := rfl
theorem wM_p0_32  (G : Gx) (A : Nat → Nat) (S : St) (v : Int32) : (wM G A S).set 0 (A 0, .inr (7, (fs_M0 A S).set 32 (.int v))) = wM G A (sI S 0 32 v) := rfl
theorem wM_p0_33  (G : Gx) (A : Nat → Nat) (S : St) (v : Int32) : (wM G A S).set 0 (A 0, .inr (7, (fs_M0 A S).set 33 (.int v))) = wM G A (sI S 0 33 v) := rfl
theorem wM_p0_34  (G : Gx) (A : Nat → Nat) (S : St) (v : Int64) : (wM G A S).set 0 (A 0, .inr (7, (fs_M0 A S).set 34 (.long v))) = wM G A (sL S 0 34 v) := rfl
theorem wM_p0_35  (G : Gx) (A : Nat → Nat) (S : St) (v : Int32) : (wM G A S).set 0 (A 0, .inr (7, (fs_M0 A S).set 35 (.int v))) = wM G A (sI S 0 35 v) := rfl
theorem wM_p0_37  (G : Gx) (A : Nat → Nat) (S : St) (v : Int32) : (wM G A S).set 0 (A 0, .inr (7, (fs_M0 A S).set 37 (.int v))) = wM G A (sI S 0 37 v) := rfl
theorem wM_p0_38  (G : Gx) (A : Nat → Nat) (S : St) (v : Int32) : (wM G A S).set 0 (A 0, .inr (7, (fs_M0 A S).set 38 (.int v))) = wM G A (sI S 0 38 v) := rfl
theorem wM_p0_40  (G : Gx) (A : Nat → Nat) (S : St) (v : Int32) : (wM G A S).set 0 (A 0, .inr (7, (fs_M0 A S).set 40 (.int v))) = wM G A (sI S 0 40 v) := rfl
theorem wM_p0_41  (G : Gx) (A : Nat → Nat) (S : St) (v : Int32) : (wM G A S).set 0 (A 0, .inr (7, (fs_M0 A S).set 41 (.int v))) = wM G A (sI S 0 41 v) := rfl
theorem wM_p0_42  (G : Gx) (A : Nat → Nat) (S : St) (v : Int32) : (wM G A S).set 0 (A 0, .inr (7, (fs_M0 A S).set 42 (.int v))) = wM G A (sI S 0 42 v) := rfl
theorem wM_p0_43  (G : Gx) (A : Nat → Nat) (S : St) (v : Int32) : (wM G A S).set 0 (A 0, .inr (7, (fs_M0 A S).set 43 (.int v))) = wM G A (sI S 0 43 v) := rfl
theorem wM_p0_44  (G : Gx) (A : Nat → Nat) (S : St) (v : Int64) : (wM G A S).set 0 (A 0, .inr (7, (fs_M0 A S).set 44 (.long v))) = wM G A (sL S 0 44 v) := rfl
theorem wM_1  (G : Gx) (A : Nat → Nat) (S : St) : (wM G A S)[1]? = some (A 1, .inl (G.2.2.1 0, 4, .inl (S.1 1))) := rfl
theorem wM_c1  (G : Gx) (A : Nat → Nat) (S : St) (f : Nat → Int32) : (wM G A S).set 1 (A 1, .inl (G.2.2.1 0, 4, .inl f)) = wM G A (sC S 1 f) := rfl
theorem wM_s1  (G : Gx) (A : Nat → Nat) (S : St) (k : Nat) (v : Int32) : (wM G A S).set 1 (A 1, .inl (G.2.2.1 0, 4, .inl (upd (S.1 1) k v))) = wM G A (sI S 1 k v) := rfl
theorem wM_2  (G : Gx) (A : Nat → Nat) (S : St) : (wM G A S)[2]? = some (A 2, .inl (G.2.2.1 0, 4, .inl (S.1 2))) := rfl
theorem wM_c2  (G : Gx) (A : Nat → Nat) (S : St) (f : Nat → Int32) : (wM G A S).set 2 (A 2, .inl (G.2.2.1 0, 4, .inl f)) = wM G A (sC S 2 f) := rfl
theorem wM_s2  (G : Gx) (A : Nat → Nat) (S : St) (k : Nat) (v : Int32) : (wM G A S).set 2 (A 2, .inl (G.2.2.1 0, 4, .inl (upd (S.1 2) k v))) = wM G A (sI S 2 k v) := rfl
theorem wM_3  (G : Gx) (A : Nat → Nat) (S : St) : (wM G A S)[3]? = some (A 3, .inl (G.2.2.1 3, 240, .inr (.inl (S.2 3)))) := rfl
theorem wM_s3  (G : Gx) (A : Nat → Nat) (S : St) (k : Nat) (v : Int64) : (wM G A S).set 3 (A 3, .inl (G.2.2.1 3, 240, .inr (.inl (vp_updL (S.2 3) k v)))) = wM G A (sL S 3 k v) := rfl
theorem wM_4  (G : Gx) (A : Nat → Nat) (S : St) : (wM G A S)[4]? = some (A 4, .inl (G.2.2.1 3, 60, .inr (.inl (S.2 4)))) := rfl
theorem wM_s4  (G : Gx) (A : Nat → Nat) (S : St) (k : Nat) (v : Int64) : (wM G A S).set 4 (A 4, .inl (G.2.2.1 3, 60, .inr (.inl (vp_updL (S.2 4) k v)))) = wM G A (sL S 4 k v) := rfl
theorem wM_5  (G : Gx) (A : Nat → Nat) (S : St) : (wM G A S)[5]? = some (A 5, .inl (G.2.2.1 1, 1200, .inl (S.1 5))) := rfl
theorem wM_s5  (G : Gx) (A : Nat → Nat) (S : St) (k : Nat) (v : Int32) : (wM G A S).set 5 (A 5, .inl (G.2.2.1 1, 1200, .inl (upd (S.1 5) k v))) = wM G A (sI S 5 k v) := rfl
theorem wM_6  (G : Gx) (A : Nat → Nat) (S : St) : (wM G A S)[6]? = some (A 6, .inl (G.2.2.1 0, 5, .inl (S.1 6))) := rfl
theorem wM_c6  (G : Gx) (A : Nat → Nat) (S : St) (f : Nat → Int32) : (wM G A S).set 6 (A 6, .inl (G.2.2.1 0, 5, .inl f)) = wM G A (sC S 6 f) := rfl
theorem wM_s6  (G : Gx) (A : Nat → Nat) (S : St) (k : Nat) (v : Int32) : (wM G A S).set 6 (A 6, .inl (G.2.2.1 0, 5, .inl (upd (S.1 6) k v))) = wM G A (sI S 6 k v) := rfl
theorem wM_7  (G : Gx) (A : Nat → Nat) (S : St) : (wM G A S)[7]? = some (A 7, .inl (G.2.2.1 0, 55, .inl (S.1 7))) := rfl
theorem wM_c7  (G : Gx) (A : Nat → Nat) (S : St) (f : Nat → Int32) : (wM G A S).set 7 (A 7, .inl (G.2.2.1 0, 55, .inl f)) = wM G A (sC S 7 f) := rfl
theorem wM_s7  (G : Gx) (A : Nat → Nat) (S : St) (k : Nat) (v : Int32) : (wM G A S).set 7 (A 7, .inl (G.2.2.1 0, 55, .inl (upd (S.1 7) k v))) = wM G A (sI S 7 k v) := rfl
theorem wM_8  (G : Gx) (A : Nat → Nat) (S : St) : (wM G A S)[8]? = some (A 8, .inl (G.2.2.1 0, 120, .inl (S.1 8))) := rfl
theorem wM_c8  (G : Gx) (A : Nat → Nat) (S : St) (f : Nat → Int32) : (wM G A S).set 8 (A 8, .inl (G.2.2.1 0, 120, .inl f)) = wM G A (sC S 8 f) := rfl
theorem wM_s8  (G : Gx) (A : Nat → Nat) (S : St) (k : Nat) (v : Int32) : (wM G A S).set 8 (A 8, .inl (G.2.2.1 0, 120, .inl (upd (S.1 8) k v))) = wM G A (sI S 8 k v) := rfl
theorem wM_9  (G : Gx) (A : Nat → Nat) (S : St) : (wM G A S)[9]? = some (A 9, .inl (G.2.2.1 0, 30, .inl (S.1 9))) := rfl
theorem wM_c9  (G : Gx) (A : Nat → Nat) (S : St) (f : Nat → Int32) : (wM G A S).set 9 (A 9, .inl (G.2.2.1 0, 30, .inl f)) = wM G A (sC S 9 f) := rfl
theorem wM_s9  (G : Gx) (A : Nat → Nat) (S : St) (k : Nat) (v : Int32) : (wM G A S).set 9 (A 9, .inl (G.2.2.1 0, 30, .inl (upd (S.1 9) k v))) = wM G A (sI S 9 k v) := rfl
theorem wM_10  (G : Gx) (A : Nat → Nat) (S : St) : (wM G A S)[10]? = some (A 10, .inl (G.2.2.1 0, 160, .inl (S.1 10))) := rfl
theorem wM_c10  (G : Gx) (A : Nat → Nat) (S : St) (f : Nat → Int32) : (wM G A S).set 10 (A 10, .inl (G.2.2.1 0, 160, .inl f)) = wM G A (sC S 10 f) := rfl
theorem wM_s10  (G : Gx) (A : Nat → Nat) (S : St) (k : Nat) (v : Int32) : (wM G A S).set 10 (A 10, .inl (G.2.2.1 0, 160, .inl (upd (S.1 10) k v))) = wM G A (sI S 10 k v) := rfl
theorem wM_11  (G : Gx) (A : Nat → Nat) (S : St) : (wM G A S)[11]? = some (A 11, .inl (G.2.2.1 2, 1000, .inl (S.1 11))) := rfl
theorem wM_s11  (G : Gx) (A : Nat → Nat) (S : St) (k : Nat) (v : Int32) : (wM G A S).set 11 (A 11, .inl (G.2.2.1 2, 1000, .inl (upd (S.1 11) k v))) = wM G A (sI S 11 k v) := rfl
theorem wM_12  (G : Gx) (A : Nat → Nat) (S : St) : (wM G A S)[12]? = some (A 12, .inl (G.2.2.1 0, 120, .inl (S.1 12))) := rfl
theorem wM_c12  (G : Gx) (A : Nat → Nat) (S : St) (f : Nat → Int32) : (wM G A S).set 12 (A 12, .inl (G.2.2.1 0, 120, .inl f)) = wM G A (sC S 12 f) := rfl
theorem wM_s12  (G : Gx) (A : Nat → Nat) (S : St) (k : Nat) (v : Int32) : (wM G A S).set 12 (A 12, .inl (G.2.2.1 0, 120, .inl (upd (S.1 12) k v))) = wM G A (sI S 12 k v) := rfl
theorem wM_13  (G : Gx) (A : Nat → Nat) (S : St) : (wM G A S)[13]? = some (A 13, .inl (G.2.2.1 0, 50, .inl (S.1 13))) := rfl
theorem wM_c13  (G : Gx) (A : Nat → Nat) (S : St) (f : Nat → Int32) : (wM G A S).set 13 (A 13, .inl (G.2.2.1 0, 50, .inl f)) = wM G A (sC S 13 f) := rfl
theorem wM_s13  (G : Gx) (A : Nat → Nat) (S : St) (k : Nat) (v : Int32) : (wM G A S).set 13 (A 13, .inl (G.2.2.1 0, 50, .inl (upd (S.1 13) k v))) = wM G A (sI S 13 k v) := rfl
theorem wM_14  (G : Gx) (A : Nat → Nat) (S : St) : (wM G A S)[14]? = some (A 14, .inl (G.2.2.1 0, 800, .inl (S.1 14))) := rfl
theorem wM_c14  (G : Gx) (A : Nat → Nat) (S : St) (f : Nat → Int32) : (wM G A S).set 14 (A 14, .inl (G.2.2.1 0, 800, .inl f)) = wM G A (sC S 14 f) := rfl
theorem wM_s14  (G : Gx) (A : Nat → Nat) (S : St) (k : Nat) (v : Int32) : (wM G A S).set 14 (A 14, .inl (G.2.2.1 0, 800, .inl (upd (S.1 14) k v))) = wM G A (sI S 14 k v) := rfl
theorem wM_15  (G : Gx) (A : Nat → Nat) (S : St) : (wM G A S)[15]? = some (A 15, .inl (G.2.2.1 2, 3, .inl (S.1 15))) := rfl
theorem wM_s15  (G : Gx) (A : Nat → Nat) (S : St) (k : Nat) (v : Int32) : (wM G A S).set 15 (A 15, .inl (G.2.2.1 2, 3, .inl (upd (S.1 15) k v))) = wM G A (sI S 15 k v) := rfl
theorem wM_16  (G : Gx) (A : Nat → Nat) (S : St) : (wM G A S)[16]? = some (A 16, .inl (G.2.2.1 0, 13, .inl (S.1 16))) := rfl
theorem wM_c16  (G : Gx) (A : Nat → Nat) (S : St) (f : Nat → Int32) : (wM G A S).set 16 (A 16, .inl (G.2.2.1 0, 13, .inl f)) = wM G A (sC S 16 f) := rfl
theorem wM_s16  (G : Gx) (A : Nat → Nat) (S : St) (k : Nat) (v : Int32) : (wM G A S).set 16 (A 16, .inl (G.2.2.1 0, 13, .inl (upd (S.1 16) k v))) = wM G A (sI S 16 k v) := rfl
theorem wM_17  (G : Gx) (A : Nat → Nat) (S : St) : (wM G A S)[17]? = some (A 17, .inl (G.2.2.1 0, 402, .inl (S.1 17))) := rfl
theorem wM_c17  (G : Gx) (A : Nat → Nat) (S : St) (f : Nat → Int32) : (wM G A S).set 17 (A 17, .inl (G.2.2.1 0, 402, .inl f)) = wM G A (sC S 17 f) := rfl
theorem wM_s17  (G : Gx) (A : Nat → Nat) (S : St) (k : Nat) (v : Int32) : (wM G A S).set 17 (A 17, .inl (G.2.2.1 0, 402, .inl (upd (S.1 17) k v))) = wM G A (sI S 17 k v) := rfl
theorem wM_18  (G : Gx) (A : Nat → Nat) (S : St) : (wM G A S)[18]? = some (A 18, .inl (G.2.2.1 0, 400, .inl (S.1 18))) := rfl
theorem wM_c18  (G : Gx) (A : Nat → Nat) (S : St) (f : Nat → Int32) : (wM G A S).set 18 (A 18, .inl (G.2.2.1 0, 400, .inl f)) = wM G A (sC S 18 f) := rfl
theorem wM_s18  (G : Gx) (A : Nat → Nat) (S : St) (k : Nat) (v : Int32) : (wM G A S).set 18 (A 18, .inl (G.2.2.1 0, 400, .inl (upd (S.1 18) k v))) = wM G A (sI S 18 k v) := rfl
theorem wM_19  (G : Gx) (A : Nat → Nat) (S : St) : (wM G A S)[19]? = some (A 19, .inl (G.2.2.1 0, 560, .inl (S.1 19))) := rfl
theorem wM_c19  (G : Gx) (A : Nat → Nat) (S : St) (f : Nat → Int32) : (wM G A S).set 19 (A 19, .inl (G.2.2.1 0, 560, .inl f)) = wM G A (sC S 19 f) := rfl
theorem wM_s19  (G : Gx) (A : Nat → Nat) (S : St) (k : Nat) (v : Int32) : (wM G A S).set 19 (A 19, .inl (G.2.2.1 0, 560, .inl (upd (S.1 19) k v))) = wM G A (sI S 19 k v) := rfl
theorem wM_20  (G : Gx) (A : Nat → Nat) (S : St) : (wM G A S)[20]? = some (A 20, .inl (G.2.2.1 0, 24, .inl (S.1 20))) := rfl
theorem wM_c20  (G : Gx) (A : Nat → Nat) (S : St) (f : Nat → Int32) : (wM G A S).set 20 (A 20, .inl (G.2.2.1 0, 24, .inl f)) = wM G A (sC S 20 f) := rfl
theorem wM_s20  (G : Gx) (A : Nat → Nat) (S : St) (k : Nat) (v : Int32) : (wM G A S).set 20 (A 20, .inl (G.2.2.1 0, 24, .inl (upd (S.1 20) k v))) = wM G A (sI S 20 k v) := rfl
theorem wM_21  (G : Gx) (A : Nat → Nat) (S : St) : (wM G A S)[21]? = some (A 21, .inl (G.2.2.1 0, 24576, .inl (S.1 21))) := rfl
theorem wM_c21  (G : Gx) (A : Nat → Nat) (S : St) (f : Nat → Int32) : (wM G A S).set 21 (A 21, .inl (G.2.2.1 0, 24576, .inl f)) = wM G A (sC S 21 f) := rfl
theorem wM_s21  (G : Gx) (A : Nat → Nat) (S : St) (k : Nat) (v : Int32) : (wM G A S).set 21 (A 21, .inl (G.2.2.1 0, 24576, .inl (upd (S.1 21) k v))) = wM G A (sI S 21 k v) := rfl
theorem ic_0 : Int32.ofInt (0) = (0 : Int32) := by decide
theorem ii_1 (x : Int32) : x + Int32.ofInt (1) = x + 1 := by rw [show Int32.ofInt (1) = 1 from by decide]
theorem ic_1 : Int32.ofInt (1) = (1 : Int32) := by decide
theorem bp_32 : (Int8.ofInt (32)).toInt32 = (32 : Int32) := by decide
theorem bp_10 : (Int8.ofInt (10)).toInt32 = (10 : Int32) := by decide
theorem lc_0 : Int64.ofNat ((0 : Fin 2) : Nat) = (0 : Int64) := by decide
theorem bp_97 : (Int8.ofInt (97)).toInt32 = (97 : Int32) := by decide
theorem bp_122 : (Int8.ofInt (122)).toInt32 = (122 : Int32) := by decide
theorem bp_48 : (Int8.ofInt (48)).toInt32 = (48 : Int32) := by decide
theorem bp_57 : (Int8.ofInt (57)).toInt32 = (57 : Int32) := by decide
theorem bp_59 : (Int8.ofInt (59)).toInt32 = (59 : Int32) := by decide
theorem ic_4 : Int32.ofInt (4) = (4 : Int32) := by decide
theorem ic_3 : Int32.ofInt (3) = (3 : Int32) := by decide
theorem ic_2 : Int32.ofInt (2) = (2 : Int32) := by decide
theorem bp_11 : (Int8.ofInt (11)).toInt32 = (11 : Int32) := by decide
theorem bpm2 : (Int8.ofInt (-2)).toInt32 = (-2 : Int32) := by decide
theorem bp_60 : (Int8.ofInt (60)).toInt32 = (60 : Int32) := by decide
theorem bpm3 : (Int8.ofInt (-3)).toInt32 = (-3 : Int32) := by decide
theorem icm1 : Int32.ofInt (-1) = (-1 : Int32) := by decide
theorem bpm7 : (Int8.ofInt (-7)).toInt32 = (-7 : Int32) := by decide
theorem bpm6 : (Int8.ofInt (-6)).toInt32 = (-6 : Int32) := by decide
theorem bpm8 : (Int8.ofInt (-8)).toInt32 = (-8 : Int32) := by decide
theorem bp_24 : (Int8.ofInt (24)).toInt32 = (24 : Int32) := by decide
theorem iim8 (x : Int32) : x + Int32.ofInt (-8) = x + (-8) := by rw [show Int32.ofInt (-8) = (-8) from by decide]
theorem bp_20 : (Int8.ofInt (20)).toInt32 = (20 : Int32) := by decide
theorem sp_1200 : (Int16.ofInt (1200)).toInt32 = (1200 : Int32) := by decide
theorem bp_44 : (Int8.ofInt (44)).toInt32 = (44 : Int32) := by decide
theorem vi_4_5 : vp_in 4 5 := by unfold vp_in; decide
theorem tn_4 : (4 : Int32).toNatClampNeg = 4 := by decide
theorem bp_6 : (Int8.ofInt (6)).toInt32 = (6 : Int32) := by decide
theorem bp_63 : (Int8.ofInt (63)).toInt32 = (63 : Int32) := by decide
theorem sp_200 : (Int16.ofInt (200)).toInt32 = (200 : Int32) := by decide
theorem sp_800 : (Int16.ofInt (800)).toInt32 = (800 : Int32) := by decide
theorem bp_7 : (Int8.ofInt (7)).toInt32 = (7 : Int32) := by decide
theorem bp_8 : (Int8.ofInt (8)).toInt32 = (8 : Int32) := by decide
theorem sp_199 : (Int16.ofInt (199)).toInt32 = (199 : Int32) := by decide
theorem ic_5 : Int32.ofInt (5) = (5 : Int32) := by decide
theorem bp_9 : (Int8.ofInt (9)).toInt32 = (9 : Int32) := by decide
theorem bp_12 : (Int8.ofInt (12)).toInt32 = (12 : Int32) := by decide
theorem bp_30 : (Int8.ofInt (30)).toInt32 = (30 : Int32) := by decide
theorem yg_X8_132_wM0 {G : Gx} {K : Kx} {cc : ByteArray} {rm : Room} {nL : Nat} {ret : Option FieldType} {k n pc : Nat} {A : Nat → Nat} {S : St} {lv : List (Nat × Value)} {st : List Value} (C : KOk G K RX8 cc rm nL ret) (hdg : decode cc pc = .ok (.getfield 132, 3)) (kk : Y G K k n (wM G A S) (pc + 3) lv (.int (S.1 0 12) :: st)) : Y G K k n (wM G A S) pc lv (.ref (A 0) :: st) := y_get C (ref := "OverHillModel") (Cn := RX8) (T := TX8) (N := 45) in_X8 (wM_0 ..) rfl 12 (by decide) q1578 (fun _ _ h => h) (fs_M0_f12 A S) hdg kk
theorem yp_X8_132_wM0 {G : Gx} {K : Kx} {cc : ByteArray} {rm : Room} {nL : Nat} {ret : Option FieldType} {k n pc : Nat} {B : Nat → Prop} {A : Nat → Nat} {S : St} {lv : List (Nat × Value)} {st : List Value} {v : Int32} (C : KOk G K RX8 cc rm nL ret) (M : KM G K B) (hdg : decode cc pc = .ok (.putfield 132, 3)) (kk : Y G K k n (wM G A (sI S 0 12 v)) (pc + 3) lv st) : Y G K k n (wM G A S) pc lv (.int v :: .ref (A 0) :: st) := y_put C M (ref := "OverHillModel") (Cn := RX8) (T := TX8) (N := 45) in_X8 (wM_0 ..) rfl 12 (by decide) tyX8 tyX8_ok (by decide +kernel) q1578 (fun _ _ h => h) rfl (ty := .int) (by decide +kernel) rfl rfl (Nat.le_of_ble_eq_true rfl) (wM_p0_12 ..) hdg kk
theorem yg_X8_111_wM0 {G : Gx} {K : Kx} {cc : ByteArray} {rm : Room} {nL : Nat} {ret : Option FieldType} {k n pc : Nat} {A : Nat → Nat} {S : St} {lv : List (Nat × Value)} {st : List Value} (C : KOk G K RX8 cc rm nL ret) (hdg : decode cc pc = .ok (.getfield 111, 3)) (kk : Y G K k n (wM G A S) (pc + 3) lv (.int (S.1 0 9) :: st)) : Y G K k n (wM G A S) pc lv (.ref (A 0) :: st) := y_get C (ref := "OverHillModel") (Cn := RX8) (T := TX8) (N := 45) in_X8 (wM_0 ..) rfl 9 (by decide) q1575 (fun _ _ h => h) (fs_M0_f9 A S) hdg kk
theorem yp_X8_135_wM0 {G : Gx} {K : Kx} {cc : ByteArray} {rm : Room} {nL : Nat} {ret : Option FieldType} {k n pc : Nat} {B : Nat → Prop} {A : Nat → Nat} {S : St} {lv : List (Nat × Value)} {st : List Value} {v : Int32} (C : KOk G K RX8 cc rm nL ret) (M : KM G K B) (hdg : decode cc pc = .ok (.putfield 135, 3)) (kk : Y G K k n (wM G A (sI S 0 13 v)) (pc + 3) lv st) : Y G K k n (wM G A S) pc lv (.int v :: .ref (A 0) :: st) := y_put C M (ref := "OverHillModel") (Cn := RX8) (T := TX8) (N := 45) in_X8 (wM_0 ..) rfl 13 (by decide) tyX8 tyX8_ok (by decide +kernel) q1579 (fun _ _ h => h) rfl (ty := .int) (by decide +kernel) rfl rfl (Nat.le_of_ble_eq_true rfl) (wM_p0_13 ..) hdg kk
theorem yg_X8_97_wM0 {G : Gx} {K : Kx} {cc : ByteArray} {rm : Room} {nL : Nat} {ret : Option FieldType} {k n pc : Nat} {A : Nat → Nat} {S : St} {lv : List (Nat × Value)} {st : List Value} (C : KOk G K RX8 cc rm nL ret) (hdg : decode cc pc = .ok (.getfield 97, 3)) (kk : Y G K k n (wM G A S) (pc + 3) lv (.int (S.1 0 6) :: st)) : Y G K k n (wM G A S) pc lv (.ref (A 0) :: st) := y_get C (ref := "OverHillModel") (Cn := RX8) (T := TX8) (N := 45) in_X8 (wM_0 ..) rfl 6 (by decide) q1572 (fun _ _ h => h) (fs_M0_f6 A S) hdg kk
theorem yg_X8_23_wM0 {G : Gx} {K : Kx} {cc : ByteArray} {rm : Room} {nL : Nat} {ret : Option FieldType} {k n pc : Nat} {A : Nat → Nat} {S : St} {lv : List (Nat × Value)} {st : List Value} (C : KOk G K RX8 cc rm nL ret) (hdg : decode cc pc = .ok (.getfield 23, 3)) (kk : Y G K k n (wM G A S) (pc + 3) lv (.ref (A 5) :: st)) : Y G K k n (wM G A S) pc lv (.ref (A 0) :: st) := y_get C (ref := "OverHillModel") (Cn := RX8) (T := TX8) (N := 45) in_X8 (wM_0 ..) rfl 5 (by decide) q1571 (fun _ _ h => h) (fs_M0_f5 A S) hdg kk
theorem yg_X8_104_wM0 {G : Gx} {K : Kx} {cc : ByteArray} {rm : Room} {nL : Nat} {ret : Option FieldType} {k n pc : Nat} {A : Nat → Nat} {S : St} {lv : List (Nat × Value)} {st : List Value} (C : KOk G K RX8 cc rm nL ret) (hdg : decode cc pc = .ok (.getfield 104, 3)) (kk : Y G K k n (wM G A S) (pc + 3) lv (.int (S.1 0 7) :: st)) : Y G K k n (wM G A S) pc lv (.ref (A 0) :: st) := y_get C (ref := "OverHillModel") (Cn := RX8) (T := TX8) (N := 45) in_X8 (wM_0 ..) rfl 7 (by decide) q1573 (fun _ _ h => h) (fs_M0_f7 A S) hdg kk
theorem yp_X8_104_wM0 {G : Gx} {K : Kx} {cc : ByteArray} {rm : Room} {nL : Nat} {ret : Option FieldType} {k n pc : Nat} {B : Nat → Prop} {A : Nat → Nat} {S : St} {lv : List (Nat × Value)} {st : List Value} {v : Int32} (C : KOk G K RX8 cc rm nL ret) (M : KM G K B) (hdg : decode cc pc = .ok (.putfield 104, 3)) (kk : Y G K k n (wM G A (sI S 0 7 v)) (pc + 3) lv st) : Y G K k n (wM G A S) pc lv (.int v :: .ref (A 0) :: st) := y_put C M (ref := "OverHillModel") (Cn := RX8) (T := TX8) (N := 45) in_X8 (wM_0 ..) rfl 7 (by decide) tyX8 tyX8_ok (by decide +kernel) q1573 (fun _ _ h => h) rfl (ty := .int) (by decide +kernel) rfl rfl (Nat.le_of_ble_eq_true rfl) (wM_p0_7 ..) hdg kk
theorem yp_X8_111_wM0 {G : Gx} {K : Kx} {cc : ByteArray} {rm : Room} {nL : Nat} {ret : Option FieldType} {k n pc : Nat} {B : Nat → Prop} {A : Nat → Nat} {S : St} {lv : List (Nat × Value)} {st : List Value} {v : Int32} (C : KOk G K RX8 cc rm nL ret) (M : KM G K B) (hdg : decode cc pc = .ok (.putfield 111, 3)) (kk : Y G K k n (wM G A (sI S 0 9 v)) (pc + 3) lv st) : Y G K k n (wM G A S) pc lv (.int v :: .ref (A 0) :: st) := y_put C M (ref := "OverHillModel") (Cn := RX8) (T := TX8) (N := 45) in_X8 (wM_0 ..) rfl 9 (by decide) tyX8 tyX8_ok (by decide +kernel) q1575 (fun _ _ h => h) rfl (ty := .int) (by decide +kernel) rfl rfl (Nat.le_of_ble_eq_true rfl) (wM_p0_9 ..) hdg kk
theorem yp_X8_114_wM0 {G : Gx} {K : Kx} {cc : ByteArray} {rm : Room} {nL : Nat} {ret : Option FieldType} {k n pc : Nat} {B : Nat → Prop} {A : Nat → Nat} {S : St} {lv : List (Nat × Value)} {st : List Value} {v : Int32} (C : KOk G K RX8 cc rm nL ret) (M : KM G K B) (hdg : decode cc pc = .ok (.putfield 114, 3)) (kk : Y G K k n (wM G A (sI S 0 10 v)) (pc + 3) lv st) : Y G K k n (wM G A S) pc lv (.int v :: .ref (A 0) :: st) := y_put C M (ref := "OverHillModel") (Cn := RX8) (T := TX8) (N := 45) in_X8 (wM_0 ..) rfl 10 (by decide) tyX8 tyX8_ok (by decide +kernel) q1576 (fun _ _ h => h) rfl (ty := .int) (by decide +kernel) rfl rfl (Nat.le_of_ble_eq_true rfl) (wM_p0_10 ..) hdg kk
theorem yp_X8_117_wM0 {G : Gx} {K : Kx} {cc : ByteArray} {rm : Room} {nL : Nat} {ret : Option FieldType} {k n pc : Nat} {B : Nat → Prop} {A : Nat → Nat} {S : St} {lv : List (Nat × Value)} {st : List Value} {v : Int64} (C : KOk G K RX8 cc rm nL ret) (M : KM G K B) (hdg : decode cc pc = .ok (.putfield 117, 3)) (kk : Y G K k n (wM G A (sL S 0 11 v)) (pc + 3) lv st) : Y G K k n (wM G A S) pc lv (.long v :: .ref (A 0) :: st) := y_put C M (ref := "OverHillModel") (Cn := RX8) (T := TX8) (N := 45) in_X8 (wM_0 ..) rfl 11 (by decide) tyX8 tyX8_ok (by decide +kernel) q1577 (fun _ _ h => h) rfl (ty := .long) (by decide +kernel) rfl rfl (Nat.le_of_ble_eq_true rfl) (wM_p0_11 ..) hdg kk
theorem yp_X8_121_wM0 {G : Gx} {K : Kx} {cc : ByteArray} {rm : Room} {nL : Nat} {ret : Option FieldType} {k n pc : Nat} {B : Nat → Prop} {A : Nat → Nat} {S : St} {lv : List (Nat × Value)} {st : List Value} {v : Int32} (C : KOk G K RX8 cc rm nL ret) (M : KM G K B) (hdg : decode cc pc = .ok (.putfield 121, 3)) (kk : Y G K k n (wM G A (sI S 0 8 v)) (pc + 3) lv st) : Y G K k n (wM G A S) pc lv (.int v :: .ref (A 0) :: st) := y_put C M (ref := "OverHillModel") (Cn := RX8) (T := TX8) (N := 45) in_X8 (wM_0 ..) rfl 8 (by decide) tyX8 tyX8_ok (by decide +kernel) q1574 (fun _ _ h => h) rfl (ty := .int) (by decide +kernel) rfl rfl (Nat.le_of_ble_eq_true rfl) (wM_p0_8 ..) hdg kk
theorem yg_X8_114_wM0 {G : Gx} {K : Kx} {cc : ByteArray} {rm : Room} {nL : Nat} {ret : Option FieldType} {k n pc : Nat} {A : Nat → Nat} {S : St} {lv : List (Nat × Value)} {st : List Value} (C : KOk G K RX8 cc rm nL ret) (hdg : decode cc pc = .ok (.getfield 114, 3)) (kk : Y G K k n (wM G A S) (pc + 3) lv (.int (S.1 0 10) :: st)) : Y G K k n (wM G A S) pc lv (.ref (A 0) :: st) := y_get C (ref := "OverHillModel") (Cn := RX8) (T := TX8) (N := 45) in_X8 (wM_0 ..) rfl 10 (by decide) q1576 (fun _ _ h => h) (fs_M0_f10 A S) hdg kk
theorem yg_X8_117_wM0 {G : Gx} {K : Kx} {cc : ByteArray} {rm : Room} {nL : Nat} {ret : Option FieldType} {k n pc : Nat} {A : Nat → Nat} {S : St} {lv : List (Nat × Value)} {st : List Value} (C : KOk G K RX8 cc rm nL ret) (hdg : decode cc pc = .ok (.getfield 117, 3)) (kk : Y G K k n (wM G A S) (pc + 3) lv (.long (S.2 0 11) :: st)) : Y G K k n (wM G A S) pc lv (.ref (A 0) :: st) := y_get C (ref := "OverHillModel") (Cn := RX8) (T := TX8) (N := 45) in_X8 (wM_0 ..) rfl 11 (by decide) q1577 (fun _ _ h => h) (fs_M0_f11 A S) hdg kk
theorem yg_X8_121_wM0 {G : Gx} {K : Kx} {cc : ByteArray} {rm : Room} {nL : Nat} {ret : Option FieldType} {k n pc : Nat} {A : Nat → Nat} {S : St} {lv : List (Nat × Value)} {st : List Value} (C : KOk G K RX8 cc rm nL ret) (hdg : decode cc pc = .ok (.getfield 121, 3)) (kk : Y G K k n (wM G A S) (pc + 3) lv (.int (S.1 0 8) :: st)) : Y G K k n (wM G A S) pc lv (.ref (A 0) :: st) := y_get C (ref := "OverHillModel") (Cn := RX8) (T := TX8) (N := 45) in_X8 (wM_0 ..) rfl 8 (by decide) q1574 (fun _ _ h => h) (fs_M0_f8 A S) hdg kk
theorem yp_X8_80_wM0 {G : Gx} {K : Kx} {cc : ByteArray} {rm : Room} {nL : Nat} {ret : Option FieldType} {k n pc : Nat} {B : Nat → Prop} {A : Nat → Nat} {S : St} {lv : List (Nat × Value)} {st : List Value} {v : Int32} (C : KOk G K RX8 cc rm nL ret) (M : KM G K B) (hdg : decode cc pc = .ok (.putfield 80, 3)) (kk : Y G K k n (wM G A (sI S 0 0 v)) (pc + 3) lv st) : Y G K k n (wM G A S) pc lv (.int v :: .ref (A 0) :: st) := y_put C M (ref := "OverHillModel") (Cn := RX8) (T := TX8) (N := 45) in_X8 (wM_0 ..) rfl 0 (by decide) tyX8 tyX8_ok (by decide +kernel) q1566 (fun _ _ h => h) rfl (ty := .int) (by decide +kernel) rfl rfl (Nat.le_of_ble_eq_true rfl) (wM_p0_0 ..) hdg kk
theorem yg_X8_7_wM0 {G : Gx} {K : Kx} {cc : ByteArray} {rm : Room} {nL : Nat} {ret : Option FieldType} {k n pc : Nat} {A : Nat → Nat} {S : St} {lv : List (Nat × Value)} {st : List Value} (C : KOk G K RX8 cc rm nL ret) (hdg : decode cc pc = .ok (.getfield 7, 3)) (kk : Y G K k n (wM G A S) (pc + 3) lv (.ref (A 1) :: st)) : Y G K k n (wM G A S) pc lv (.ref (A 0) :: st) := y_get C (ref := "OverHillModel") (Cn := RX8) (T := TX8) (N := 45) in_X8 (wM_0 ..) rfl 1 (by decide) q1567 (fun _ _ h => h) (fs_M0_f1 A S) hdg kk
theorem yg_X8_13_wM0 {G : Gx} {K : Kx} {cc : ByteArray} {rm : Room} {nL : Nat} {ret : Option FieldType} {k n pc : Nat} {A : Nat → Nat} {S : St} {lv : List (Nat × Value)} {st : List Value} (C : KOk G K RX8 cc rm nL ret) (hdg : decode cc pc = .ok (.getfield 13, 3)) (kk : Y G K k n (wM G A S) (pc + 3) lv (.ref (A 2) :: st)) : Y G K k n (wM G A S) pc lv (.ref (A 0) :: st) := y_get C (ref := "OverHillModel") (Cn := RX8) (T := TX8) (N := 45) in_X8 (wM_0 ..) rfl 2 (by decide) q1568 (fun _ _ h => h) (fs_M0_f2 A S) hdg kk
theorem yg_X8_16_wM0 {G : Gx} {K : Kx} {cc : ByteArray} {rm : Room} {nL : Nat} {ret : Option FieldType} {k n pc : Nat} {A : Nat → Nat} {S : St} {lv : List (Nat × Value)} {st : List Value} (C : KOk G K RX8 cc rm nL ret) (hdg : decode cc pc = .ok (.getfield 16, 3)) (kk : Y G K k n (wM G A S) (pc + 3) lv (.ref (A 3) :: st)) : Y G K k n (wM G A S) pc lv (.ref (A 0) :: st) := y_get C (ref := "OverHillModel") (Cn := RX8) (T := TX8) (N := 45) in_X8 (wM_0 ..) rfl 3 (by decide) q1569 (fun _ _ h => h) (fs_M0_f3 A S) hdg kk
theorem yg_X8_20_wM0 {G : Gx} {K : Kx} {cc : ByteArray} {rm : Room} {nL : Nat} {ret : Option FieldType} {k n pc : Nat} {A : Nat → Nat} {S : St} {lv : List (Nat × Value)} {st : List Value} (C : KOk G K RX8 cc rm nL ret) (hdg : decode cc pc = .ok (.getfield 20, 3)) (kk : Y G K k n (wM G A S) (pc + 3) lv (.ref (A 4) :: st)) : Y G K k n (wM G A S) pc lv (.ref (A 0) :: st) := y_get C (ref := "OverHillModel") (Cn := RX8) (T := TX8) (N := 45) in_X8 (wM_0 ..) rfl 4 (by decide) q1570 (fun _ _ h => h) (fs_M0_f4 A S) hdg kk
theorem yp_X8_97_wM0 {G : Gx} {K : Kx} {cc : ByteArray} {rm : Room} {nL : Nat} {ret : Option FieldType} {k n pc : Nat} {B : Nat → Prop} {A : Nat → Nat} {S : St} {lv : List (Nat × Value)} {st : List Value} {v : Int32} (C : KOk G K RX8 cc rm nL ret) (M : KM G K B) (hdg : decode cc pc = .ok (.putfield 97, 3)) (kk : Y G K k n (wM G A (sI S 0 6 v)) (pc + 3) lv st) : Y G K k n (wM G A S) pc lv (.int v :: .ref (A 0) :: st) := y_put C M (ref := "OverHillModel") (Cn := RX8) (T := TX8) (N := 45) in_X8 (wM_0 ..) rfl 6 (by decide) tyX8 tyX8_ok (by decide +kernel) q1572 (fun _ _ h => h) rfl (ty := .int) (by decide +kernel) rfl rfl (Nat.le_of_ble_eq_true rfl) (wM_p0_6 ..) hdg kk
theorem yg_X8_27_wM0 {G : Gx} {K : Kx} {cc : ByteArray} {rm : Room} {nL : Nat} {ret : Option FieldType} {k n pc : Nat} {A : Nat → Nat} {S : St} {lv : List (Nat × Value)} {st : List Value} (C : KOk G K RX8 cc rm nL ret) (hdg : decode cc pc = .ok (.getfield 27, 3)) (kk : Y G K k n (wM G A S) (pc + 3) lv (.int (S.1 0 15) :: st)) : Y G K k n (wM G A S) pc lv (.ref (A 0) :: st) := y_get C (ref := "OverHillModel") (Cn := RX8) (T := TX8) (N := 45) in_X8 (wM_0 ..) rfl 15 (by decide) q1581 (fun _ _ h => h) (fs_M0_f15 A S) hdg kk
theorem yg_X8_159_wM0 {G : Gx} {K : Kx} {cc : ByteArray} {rm : Room} {nL : Nat} {ret : Option FieldType} {k n pc : Nat} {A : Nat → Nat} {S : St} {lv : List (Nat × Value)} {st : List Value} (C : KOk G K RX8 cc rm nL ret) (hdg : decode cc pc = .ok (.getfield 159, 3)) (kk : Y G K k n (wM G A S) (pc + 3) lv (.int (S.1 0 14) :: st)) : Y G K k n (wM G A S) pc lv (.ref (A 0) :: st) := y_get C (ref := "OverHillModel") (Cn := RX8) (T := TX8) (N := 45) in_X8 (wM_0 ..) rfl 14 (by decide) q1580 (fun _ _ h => h) (fs_M0_f14 A S) hdg kk
theorem yg_X8_34_wM0 {G : Gx} {K : Kx} {cc : ByteArray} {rm : Room} {nL : Nat} {ret : Option FieldType} {k n pc : Nat} {A : Nat → Nat} {S : St} {lv : List (Nat × Value)} {st : List Value} (C : KOk G K RX8 cc rm nL ret) (hdg : decode cc pc = .ok (.getfield 34, 3)) (kk : Y G K k n (wM G A S) (pc + 3) lv (.ref (A 7) :: st)) : Y G K k n (wM G A S) pc lv (.ref (A 0) :: st) := y_get C (ref := "OverHillModel") (Cn := RX8) (T := TX8) (N := 45) in_X8 (wM_0 ..) rfl 17 (by decide) q1583 (fun _ _ h => h) (fs_M0_f17 A S) hdg kk
theorem yg_X8_31_wM0 {G : Gx} {K : Kx} {cc : ByteArray} {rm : Room} {nL : Nat} {ret : Option FieldType} {k n pc : Nat} {A : Nat → Nat} {S : St} {lv : List (Nat × Value)} {st : List Value} (C : KOk G K RX8 cc rm nL ret) (hdg : decode cc pc = .ok (.getfield 31, 3)) (kk : Y G K k n (wM G A S) (pc + 3) lv (.ref (A 6) :: st)) : Y G K k n (wM G A S) pc lv (.ref (A 0) :: st) := y_get C (ref := "OverHillModel") (Cn := RX8) (T := TX8) (N := 45) in_X8 (wM_0 ..) rfl 16 (by decide) q1582 (fun _ _ h => h) (fs_M0_f16 A S) hdg kk
theorem yg_X8_40_wM0 {G : Gx} {K : Kx} {cc : ByteArray} {rm : Room} {nL : Nat} {ret : Option FieldType} {k n pc : Nat} {A : Nat → Nat} {S : St} {lv : List (Nat × Value)} {st : List Value} (C : KOk G K RX8 cc rm nL ret) (hdg : decode cc pc = .ok (.getfield 40, 3)) (kk : Y G K k n (wM G A S) (pc + 3) lv (.ref (A 9) :: st)) : Y G K k n (wM G A S) pc lv (.ref (A 0) :: st) := y_get C (ref := "OverHillModel") (Cn := RX8) (T := TX8) (N := 45) in_X8 (wM_0 ..) rfl 19 (by decide) q1585 (fun _ _ h => h) (fs_M0_f19 A S) hdg kk
theorem yg_X8_46_wM0 {G : Gx} {K : Kx} {cc : ByteArray} {rm : Room} {nL : Nat} {ret : Option FieldType} {k n pc : Nat} {A : Nat → Nat} {S : St} {lv : List (Nat × Value)} {st : List Value} (C : KOk G K RX8 cc rm nL ret) (hdg : decode cc pc = .ok (.getfield 46, 3)) (kk : Y G K k n (wM G A S) (pc + 3) lv (.ref (A 11) :: st)) : Y G K k n (wM G A S) pc lv (.ref (A 0) :: st) := y_get C (ref := "OverHillModel") (Cn := RX8) (T := TX8) (N := 45) in_X8 (wM_0 ..) rfl 21 (by decide) q1587 (fun _ _ h => h) (fs_M0_f21 A S) hdg kk
theorem yg_X8_43_wM0 {G : Gx} {K : Kx} {cc : ByteArray} {rm : Room} {nL : Nat} {ret : Option FieldType} {k n pc : Nat} {A : Nat → Nat} {S : St} {lv : List (Nat × Value)} {st : List Value} (C : KOk G K RX8 cc rm nL ret) (hdg : decode cc pc = .ok (.getfield 43, 3)) (kk : Y G K k n (wM G A S) (pc + 3) lv (.ref (A 10) :: st)) : Y G K k n (wM G A S) pc lv (.ref (A 0) :: st) := y_get C (ref := "OverHillModel") (Cn := RX8) (T := TX8) (N := 45) in_X8 (wM_0 ..) rfl 20 (by decide) q1586 (fun _ _ h => h) (fs_M0_f20 A S) hdg kk
theorem yg_X8_62_wM0 {G : Gx} {K : Kx} {cc : ByteArray} {rm : Room} {nL : Nat} {ret : Option FieldType} {k n pc : Nat} {A : Nat → Nat} {S : St} {lv : List (Nat × Value)} {st : List Value} (C : KOk G K RX8 cc rm nL ret) (hdg : decode cc pc = .ok (.getfield 62, 3)) (kk : Y G K k n (wM G A S) (pc + 3) lv (.ref (A 16) :: st)) : Y G K k n (wM G A S) pc lv (.ref (A 0) :: st) := y_get C (ref := "OverHillModel") (Cn := RX8) (T := TX8) (N := 45) in_X8 (wM_0 ..) rfl 26 (by decide) q1592 (fun _ _ h => h) (fs_M0_f26 A S) hdg kk
theorem yg_X8_37_wM0 {G : Gx} {K : Kx} {cc : ByteArray} {rm : Room} {nL : Nat} {ret : Option FieldType} {k n pc : Nat} {A : Nat → Nat} {S : St} {lv : List (Nat × Value)} {st : List Value} (C : KOk G K RX8 cc rm nL ret) (hdg : decode cc pc = .ok (.getfield 37, 3)) (kk : Y G K k n (wM G A S) (pc + 3) lv (.ref (A 8) :: st)) : Y G K k n (wM G A S) pc lv (.ref (A 0) :: st) := y_get C (ref := "OverHillModel") (Cn := RX8) (T := TX8) (N := 45) in_X8 (wM_0 ..) rfl 18 (by decide) q1584 (fun _ _ h => h) (fs_M0_f18 A S) hdg kk
theorem yg_X8_53_wM0 {G : Gx} {K : Kx} {cc : ByteArray} {rm : Room} {nL : Nat} {ret : Option FieldType} {k n pc : Nat} {A : Nat → Nat} {S : St} {lv : List (Nat × Value)} {st : List Value} (C : KOk G K RX8 cc rm nL ret) (hdg : decode cc pc = .ok (.getfield 53, 3)) (kk : Y G K k n (wM G A S) (pc + 3) lv (.ref (A 13) :: st)) : Y G K k n (wM G A S) pc lv (.ref (A 0) :: st) := y_get C (ref := "OverHillModel") (Cn := RX8) (T := TX8) (N := 45) in_X8 (wM_0 ..) rfl 23 (by decide) q1589 (fun _ _ h => h) (fs_M0_f23 A S) hdg kk
theorem yg_X8_50_wM0 {G : Gx} {K : Kx} {cc : ByteArray} {rm : Room} {nL : Nat} {ret : Option FieldType} {k n pc : Nat} {A : Nat → Nat} {S : St} {lv : List (Nat × Value)} {st : List Value} (C : KOk G K RX8 cc rm nL ret) (hdg : decode cc pc = .ok (.getfield 50, 3)) (kk : Y G K k n (wM G A S) (pc + 3) lv (.ref (A 12) :: st)) : Y G K k n (wM G A S) pc lv (.ref (A 0) :: st) := y_get C (ref := "OverHillModel") (Cn := RX8) (T := TX8) (N := 45) in_X8 (wM_0 ..) rfl 22 (by decide) q1588 (fun _ _ h => h) (fs_M0_f22 A S) hdg kk
theorem cs_X8_107 : CsV RX8 107 yX8_isByte cX8_isByte 4 (some .boolean) 3 := ⟨lw_V q1760 q1762 qs76 q150 q1763, by decide +kernel⟩
theorem cs_X8_85 : CsS RX8 85 yX8_in cX8_in 6 (some .boolean) 3 := ⟨lw_S q1710 q1711 q150 q1712, by decide +kernel⟩
theorem cs_X8_142 : CsV RX8 142 yX8_next cX8_next 2 none 0 := ⟨lw_V q1756 q1758 qs75 q150 q1759, by decide +kernel⟩
theorem cs_X8_148 : CsV RX8 148 yX8_fails cX8_fails 2 none 1 := ⟨lw_V q1786 q1788 qs81 q150 q1789, by decide +kernel⟩
theorem cs_X8_138 : CsV RX8 138 yX8_is cX8_is 3 (some .boolean) 1 := ⟨lw_V q1782 q1784 qs80 q150 q1785, by decide +kernel⟩
theorem cs_X8_145 : CsV RX8 145 yX8_takes cX8_takes 3 (some .boolean) 1 := ⟨lw_V q1778 q1780 qs79 q150 q1781, by decide +kernel⟩
theorem cs_X8_151 : CsV RX8 151 yX8_asks cX8_asks 3 none 1 := ⟨lw_V q1774 q1776 qs78 q150 q1777, by decide +kernel⟩
theorem cs_X8_155 : CsV RX8 155 yX8_number_2 cX8_number_2 4 (some .int) 2 := ⟨lw_V q1795 q1797 qs83 q150 q1798, by decide +kernel⟩
theorem cs_X8_174 : CsV RX8 174 yX8_number cX8_number 5 (some .int) 3 := ⟨lw_V q1791 q1793 qs82 q150 q1794, by decide +kernel⟩
theorem cs_X8_89 : CsS RX8 89 yX8_isSlot cX8_isSlot 1 (some .boolean) 1 := ⟨lw_S q1706 q1707 q150 q1708, by decide +kernel⟩
theorem cs_X8_93 : CsS RX8 93 yX8_cut cX8_cut 3 (some .long) 2 := ⟨lw_S q1717 q1718 q150 q1719, by decide +kernel⟩
theorem cs_X8_100 : CsV RX8 100 yX8_four cX8_four 3 none 1 := ⟨lw_V q1728 q1730 qs71 q150 q1731, by decide +kernel⟩
theorem cs_X8_177 : CsV RX8 177 yX8_reads cX8_reads 3 none 2 := ⟨lw_V q1748 q1750 qs73 q150 q1751, by decide +kernel⟩
theorem cs_X8_181 : CsV RX8 181 yX8_hasRead cX8_hasRead 2 (some .int) 1 := ⟨lw_V q1808 q1810 qs85 q150 q1811, by decide +kernel⟩
theorem cs_X8_187 : CsV RX8 187 yX8_isStumbled cX8_isStumbled 5 (some .boolean) 3 := ⟨lw_V q1817 q1819 qs87 q150 q1820, by decide +kernel⟩
theorem cs_X8_190 : CsV RX8 190 yX8_beatHere cX8_beatHere 1 (some .int) 0 := ⟨lw_V q1821 q1823 qs88 q150 q1824, by decide +kernel⟩
theorem cs_X8_164 : CsV RX8 164 yX8_stepHere cX8_stepHere 1 (some .int) 0 := ⟨lw_V q1838 q1840 qs91 q150 q1841, by decide +kernel⟩
theorem cs_X8_168 : CsV RX8 168 yX8_isGood cX8_isGood 1 (some .boolean) 0 := ⟨lw_V q1769 q1771 qs77 q150 q1772, by decide +kernel⟩
theorem cs_X8_219 : CsV RX8 219 yX8_answersLine cX8_answersLine 3 none 0 := ⟨lw_V q1844 q1846 qs92 q150 q1847, by decide +kernel⟩
theorem cs_X8_214 : CsV RX8 214 yX8_roundLine cX8_roundLine 5 none 0 := ⟨lw_V q1833 q1835 qs90 q150 q1836, by decide +kernel⟩
theorem cs_X8_208 : CsV RX8 208 yX8_everyLine cX8_everyLine 4 none 3 := ⟨lw_V q1828 q1830 qs89 q150 q1831, by decide +kernel⟩
theorem cs_X8_203 : CsV RX8 203 yX8_stumbleLine cX8_stumbleLine 3 none 0 := ⟨lw_V q1812 q1814 qs86 q150 q1815, by decide +kernel⟩
/-! OverHillModel copyRow([IIII)V: m_copyRow_6 -/
abbrev rm_m_copyRow_6 : Room := { frames := 1, cells := 0, slots := 0, locals := 40 }
def wp_m_copyRow_6_b3 (Q : St → Prop) (x1 : Int32) (x2 : Int32) (x3 : Int32) : Nat → St → Int32 → Prop
  | 0 => fun _ _ => False
  | n + 1 => fun S x4 => ((x1 ≤ x4 → Q S) ∧ (¬ x1 ≤ x4 → (vp_in ((x1 * x2) + x4) 5 ∧ (vp_in ((x1 * x3) + x4) 5 ∧ wp_m_copyRow_6_b3 Q x1 x2 x3 n (sI S 6 (((x1 * x3) + x4)).toNatClampNeg (S.1 6 (((x1 * x2) + x4)).toNatClampNeg)) ((x4 + 1))))))
def wp_m_copyRow_6 (S : St) (x1 : Int32) (x2 : Int32) (x3 : Int32) (Q : St → Prop) : Prop :=
  (∃ z, wp_m_copyRow_6_b3 Q (x1) (x2) (x3) z S (0))
set_option maxRecDepth 100000 in
theorem wk_m_copyRow_6_b3 {G : Gx} {K : Kx} {A : Nat → Nat} (C : KOk G K RX8 cX8_copyRow rm_m_copyRow_6 5 none) {B : Nat → Prop} (M : KM G K B) {Q : St → Prop} (N : KQv G K B (wM G A) Q) (x1 : Int32) (x2 : Int32) (x3 : Int32) : ∀ (n : Nat), ∀ (S : St) (x4 : Int32), wp_m_copyRow_6_b3 Q x1 x2 x3 n S x4 → Y G K 0 0 (wM G A S) 3 [(0, .ref (A 6)), (1, .int (x1)), (2, .int (x2)), (3, .int (x3)), (4, .int (x4))] [] := by
  intro n
  induction n with
  | zero => intro S x4 h; exact h.elim
  | succ n ih =>
    intro S x4 h
    dsimp only [wp_m_copyRow_6_b3] at h
    refine y_iload C dX8_copyRow_3 4 rfl ?_
    refine y_iload_n C dX8_copyRow_5 1 rfl rfl ?_
    refine y_icmp_ge C (tgt := 31) dX8_copyRow_6 rfl (fun c_3 => ?_) (fun c_3 => ?_)
    · have h_4 := (h).1 c_3
      exact y_vretM C M N rfl (S := S) rfl (h_4) dX8_copyRow_31
    · have h_5 := (h).2 c_3
      refine y_aload_n C dX8_copyRow_9 0 rfl rfl ?_
      refine y_iload_n C dX8_copyRow_10 1 rfl rfl ?_
      refine y_iload_n C dX8_copyRow_11 3 rfl rfl ?_
      refine y_imul C dX8_copyRow_12 ?_
      refine y_iload C dX8_copyRow_13 4 rfl ?_
      refine y_iadd C dX8_copyRow_15 ?_
      refine y_aload_n C dX8_copyRow_16 0 rfl rfl ?_
      refine y_iload_n C dX8_copyRow_17 1 rfl rfl ?_
      refine y_iload_n C dX8_copyRow_18 2 rfl rfl ?_
      refine y_imul C dX8_copyRow_19 ?_
      refine y_iload C dX8_copyRow_20 4 rfl ?_
      refine y_iadd C dX8_copyRow_22 ?_
      refine y_iald C (wM_6 ..) rfl (h_5).1 dX8_copyRow_23 ?_
      refine y_iast C M (wM_6 ..) rfl (wM_s6 ..) ((h_5).2).1 dX8_copyRow_24 ?_
      refine y_iinc C dX8_copyRow_25 4 rfl (Nat.le_of_ble_eq_true rfl) (ii_1 _) [(4, .int ((x4 + 1))), (0, .ref (A 6)), (1, .int (x1)), (2, .int (x2)), (3, .int (x3))] rfl ?_
      refine y_goto C (tgt := 3) dX8_copyRow_28 rfl ?_
      exact Y.sub (ih (sI S 6 (((x1 * x3) + x4)).toNatClampNeg (S.1 6 (((x1 * x2) + x4)).toNatClampNeg)) ((x4 + 1)) (((h_5).2).2)) [1, 2, 3, 4, 0] rfl
set_option maxRecDepth 100000 in
theorem met_m_copyRow_6 (G : Gx) (A : Nat → Nat) (S : St) (x1 : Int32) (x2 : Int32) (x3 : Int32) (Q : St → Prop) (h : wp_m_copyRow_6 S x1 x2 x3 Q) : Mv G yX8_copyRow (ws_ yX8_copyRow cX8_copyRow 5 none) rm_m_copyRow_6 (wM G A S) [.ref (A 6), .int (x1), .int (x2), .int (x3)] (wM G A) Q := by
  refine ent_Mv (by decide +kernel) rfl (Nat.le_of_ble_eq_true rfl) [(0, .ref (A 6)), (1, .int (x1)), (2, .int (x2)), (3, .int (x3))] rfl (fun K B C M N => ?_)
  refine y_iconst C dX8_copyRow_0 ic_0 ?_
  refine y_istore C dX8_copyRow_1 (Nat.le_of_ble_eq_true rfl) [(4, .int (0)), (0, .ref (A 6)), (1, .int (x1)), (2, .int (x2)), (3, .int (x3))] rfl ?_
  obtain ⟨n_1, h_2⟩ := h
  exact Y.sub (wk_m_copyRow_6_b3 C M N (x1) (x2) (x3) n_1 S (0) h_2) [1, 2, 3, 4, 0] rfl
/-! OverHillModel copyRow([IIII)V: m_copyRow_7 -/
abbrev rm_m_copyRow_7 : Room := { frames := 1, cells := 0, slots := 0, locals := 40 }
def wp_m_copyRow_7_b3 (Q : St → Prop) (x1 : Int32) (x2 : Int32) (x3 : Int32) : Nat → St → Int32 → Prop
  | 0 => fun _ _ => False
  | n + 1 => fun S x4 => ((x1 ≤ x4 → Q S) ∧ (¬ x1 ≤ x4 → (vp_in ((x1 * x2) + x4) 55 ∧ (vp_in ((x1 * x3) + x4) 55 ∧ wp_m_copyRow_7_b3 Q x1 x2 x3 n (sI S 7 (((x1 * x3) + x4)).toNatClampNeg (S.1 7 (((x1 * x2) + x4)).toNatClampNeg)) ((x4 + 1))))))
def wp_m_copyRow_7 (S : St) (x1 : Int32) (x2 : Int32) (x3 : Int32) (Q : St → Prop) : Prop :=
  (∃ z, wp_m_copyRow_7_b3 Q (x1) (x2) (x3) z S (0))
set_option maxRecDepth 100000 in
theorem wk_m_copyRow_7_b3 {G : Gx} {K : Kx} {A : Nat → Nat} (C : KOk G K RX8 cX8_copyRow rm_m_copyRow_7 5 none) {B : Nat → Prop} (M : KM G K B) {Q : St → Prop} (N : KQv G K B (wM G A) Q) (x1 : Int32) (x2 : Int32) (x3 : Int32) : ∀ (n : Nat), ∀ (S : St) (x4 : Int32), wp_m_copyRow_7_b3 Q x1 x2 x3 n S x4 → Y G K 0 0 (wM G A S) 3 [(0, .ref (A 7)), (1, .int (x1)), (2, .int (x2)), (3, .int (x3)), (4, .int (x4))] [] := by
  intro n
  induction n with
  | zero => intro S x4 h; exact h.elim
  | succ n ih =>
    intro S x4 h
    dsimp only [wp_m_copyRow_7_b3] at h
    refine y_iload C dX8_copyRow_3 4 rfl ?_
    refine y_iload_n C dX8_copyRow_5 1 rfl rfl ?_
    refine y_icmp_ge C (tgt := 31) dX8_copyRow_6 rfl (fun c_3 => ?_) (fun c_3 => ?_)
    · have h_4 := (h).1 c_3
      exact y_vretM C M N rfl (S := S) rfl (h_4) dX8_copyRow_31
    · have h_5 := (h).2 c_3
      refine y_aload_n C dX8_copyRow_9 0 rfl rfl ?_
      refine y_iload_n C dX8_copyRow_10 1 rfl rfl ?_
      refine y_iload_n C dX8_copyRow_11 3 rfl rfl ?_
      refine y_imul C dX8_copyRow_12 ?_
      refine y_iload C dX8_copyRow_13 4 rfl ?_
      refine y_iadd C dX8_copyRow_15 ?_
      refine y_aload_n C dX8_copyRow_16 0 rfl rfl ?_
      refine y_iload_n C dX8_copyRow_17 1 rfl rfl ?_
      refine y_iload_n C dX8_copyRow_18 2 rfl rfl ?_
      refine y_imul C dX8_copyRow_19 ?_
      refine y_iload C dX8_copyRow_20 4 rfl ?_
      refine y_iadd C dX8_copyRow_22 ?_
      refine y_iald C (wM_7 ..) rfl (h_5).1 dX8_copyRow_23 ?_
      refine y_iast C M (wM_7 ..) rfl (wM_s7 ..) ((h_5).2).1 dX8_copyRow_24 ?_
      refine y_iinc C dX8_copyRow_25 4 rfl (Nat.le_of_ble_eq_true rfl) (ii_1 _) [(4, .int ((x4 + 1))), (0, .ref (A 7)), (1, .int (x1)), (2, .int (x2)), (3, .int (x3))] rfl ?_
      refine y_goto C (tgt := 3) dX8_copyRow_28 rfl ?_
      exact Y.sub (ih (sI S 7 (((x1 * x3) + x4)).toNatClampNeg (S.1 7 (((x1 * x2) + x4)).toNatClampNeg)) ((x4 + 1)) (((h_5).2).2)) [1, 2, 3, 4, 0] rfl
set_option maxRecDepth 100000 in
theorem met_m_copyRow_7 (G : Gx) (A : Nat → Nat) (S : St) (x1 : Int32) (x2 : Int32) (x3 : Int32) (Q : St → Prop) (h : wp_m_copyRow_7 S x1 x2 x3 Q) : Mv G yX8_copyRow (ws_ yX8_copyRow cX8_copyRow 5 none) rm_m_copyRow_7 (wM G A S) [.ref (A 7), .int (x1), .int (x2), .int (x3)] (wM G A) Q := by
  refine ent_Mv (by decide +kernel) rfl (Nat.le_of_ble_eq_true rfl) [(0, .ref (A 7)), (1, .int (x1)), (2, .int (x2)), (3, .int (x3))] rfl (fun K B C M N => ?_)
  refine y_iconst C dX8_copyRow_0 ic_0 ?_
  refine y_istore C dX8_copyRow_1 (Nat.le_of_ble_eq_true rfl) [(4, .int (0)), (0, .ref (A 7)), (1, .int (x1)), (2, .int (x2)), (3, .int (x3))] rfl ?_
  obtain ⟨n_1, h_2⟩ := h
  exact Y.sub (wk_m_copyRow_7_b3 C M N (x1) (x2) (x3) n_1 S (0) h_2) [1, 2, 3, 4, 0] rfl
/-! OverHillModel copyRow([IIII)V: m_copyRow_8 -/
abbrev rm_m_copyRow_8 : Room := { frames := 1, cells := 0, slots := 0, locals := 40 }
def wp_m_copyRow_8_b3 (Q : St → Prop) (x1 : Int32) (x2 : Int32) (x3 : Int32) : Nat → St → Int32 → Prop
  | 0 => fun _ _ => False
  | n + 1 => fun S x4 => ((x1 ≤ x4 → Q S) ∧ (¬ x1 ≤ x4 → (vp_in ((x1 * x2) + x4) 120 ∧ (vp_in ((x1 * x3) + x4) 120 ∧ wp_m_copyRow_8_b3 Q x1 x2 x3 n (sI S 8 (((x1 * x3) + x4)).toNatClampNeg (S.1 8 (((x1 * x2) + x4)).toNatClampNeg)) ((x4 + 1))))))
def wp_m_copyRow_8 (S : St) (x1 : Int32) (x2 : Int32) (x3 : Int32) (Q : St → Prop) : Prop :=
  (∃ z, wp_m_copyRow_8_b3 Q (x1) (x2) (x3) z S (0))
set_option maxRecDepth 100000 in
theorem wk_m_copyRow_8_b3 {G : Gx} {K : Kx} {A : Nat → Nat} (C : KOk G K RX8 cX8_copyRow rm_m_copyRow_8 5 none) {B : Nat → Prop} (M : KM G K B) {Q : St → Prop} (N : KQv G K B (wM G A) Q) (x1 : Int32) (x2 : Int32) (x3 : Int32) : ∀ (n : Nat), ∀ (S : St) (x4 : Int32), wp_m_copyRow_8_b3 Q x1 x2 x3 n S x4 → Y G K 0 0 (wM G A S) 3 [(0, .ref (A 8)), (1, .int (x1)), (2, .int (x2)), (3, .int (x3)), (4, .int (x4))] [] := by
  intro n
  induction n with
  | zero => intro S x4 h; exact h.elim
  | succ n ih =>
    intro S x4 h
    dsimp only [wp_m_copyRow_8_b3] at h
    refine y_iload C dX8_copyRow_3 4 rfl ?_
    refine y_iload_n C dX8_copyRow_5 1 rfl rfl ?_
    refine y_icmp_ge C (tgt := 31) dX8_copyRow_6 rfl (fun c_3 => ?_) (fun c_3 => ?_)
    · have h_4 := (h).1 c_3
      exact y_vretM C M N rfl (S := S) rfl (h_4) dX8_copyRow_31
    · have h_5 := (h).2 c_3
      refine y_aload_n C dX8_copyRow_9 0 rfl rfl ?_
      refine y_iload_n C dX8_copyRow_10 1 rfl rfl ?_
      refine y_iload_n C dX8_copyRow_11 3 rfl rfl ?_
      refine y_imul C dX8_copyRow_12 ?_
      refine y_iload C dX8_copyRow_13 4 rfl ?_
      refine y_iadd C dX8_copyRow_15 ?_
      refine y_aload_n C dX8_copyRow_16 0 rfl rfl ?_
      refine y_iload_n C dX8_copyRow_17 1 rfl rfl ?_
      refine y_iload_n C dX8_copyRow_18 2 rfl rfl ?_
      refine y_imul C dX8_copyRow_19 ?_
      refine y_iload C dX8_copyRow_20 4 rfl ?_
      refine y_iadd C dX8_copyRow_22 ?_
      refine y_iald C (wM_8 ..) rfl (h_5).1 dX8_copyRow_23 ?_
      refine y_iast C M (wM_8 ..) rfl (wM_s8 ..) ((h_5).2).1 dX8_copyRow_24 ?_
      refine y_iinc C dX8_copyRow_25 4 rfl (Nat.le_of_ble_eq_true rfl) (ii_1 _) [(4, .int ((x4 + 1))), (0, .ref (A 8)), (1, .int (x1)), (2, .int (x2)), (3, .int (x3))] rfl ?_
      refine y_goto C (tgt := 3) dX8_copyRow_28 rfl ?_
      exact Y.sub (ih (sI S 8 (((x1 * x3) + x4)).toNatClampNeg (S.1 8 (((x1 * x2) + x4)).toNatClampNeg)) ((x4 + 1)) (((h_5).2).2)) [1, 2, 3, 4, 0] rfl
set_option maxRecDepth 100000 in
theorem met_m_copyRow_8 (G : Gx) (A : Nat → Nat) (S : St) (x1 : Int32) (x2 : Int32) (x3 : Int32) (Q : St → Prop) (h : wp_m_copyRow_8 S x1 x2 x3 Q) : Mv G yX8_copyRow (ws_ yX8_copyRow cX8_copyRow 5 none) rm_m_copyRow_8 (wM G A S) [.ref (A 8), .int (x1), .int (x2), .int (x3)] (wM G A) Q := by
  refine ent_Mv (by decide +kernel) rfl (Nat.le_of_ble_eq_true rfl) [(0, .ref (A 8)), (1, .int (x1)), (2, .int (x2)), (3, .int (x3))] rfl (fun K B C M N => ?_)
  refine y_iconst C dX8_copyRow_0 ic_0 ?_
  refine y_istore C dX8_copyRow_1 (Nat.le_of_ble_eq_true rfl) [(4, .int (0)), (0, .ref (A 8)), (1, .int (x1)), (2, .int (x2)), (3, .int (x3))] rfl ?_
  obtain ⟨n_1, h_2⟩ := h
  exact Y.sub (wk_m_copyRow_8_b3 C M N (x1) (x2) (x3) n_1 S (0) h_2) [1, 2, 3, 4, 0] rfl
/-! OverHillModel copyRow([IIII)V: m_copyRow_9 -/
abbrev rm_m_copyRow_9 : Room := { frames := 1, cells := 0, slots := 0, locals := 40 }
def wp_m_copyRow_9_b3 (Q : St → Prop) (x1 : Int32) (x2 : Int32) (x3 : Int32) : Nat → St → Int32 → Prop
  | 0 => fun _ _ => False
  | n + 1 => fun S x4 => ((x1 ≤ x4 → Q S) ∧ (¬ x1 ≤ x4 → (vp_in ((x1 * x2) + x4) 30 ∧ (vp_in ((x1 * x3) + x4) 30 ∧ wp_m_copyRow_9_b3 Q x1 x2 x3 n (sI S 9 (((x1 * x3) + x4)).toNatClampNeg (S.1 9 (((x1 * x2) + x4)).toNatClampNeg)) ((x4 + 1))))))
def wp_m_copyRow_9 (S : St) (x1 : Int32) (x2 : Int32) (x3 : Int32) (Q : St → Prop) : Prop :=
  (∃ z, wp_m_copyRow_9_b3 Q (x1) (x2) (x3) z S (0))
set_option maxRecDepth 100000 in
theorem wk_m_copyRow_9_b3 {G : Gx} {K : Kx} {A : Nat → Nat} (C : KOk G K RX8 cX8_copyRow rm_m_copyRow_9 5 none) {B : Nat → Prop} (M : KM G K B) {Q : St → Prop} (N : KQv G K B (wM G A) Q) (x1 : Int32) (x2 : Int32) (x3 : Int32) : ∀ (n : Nat), ∀ (S : St) (x4 : Int32), wp_m_copyRow_9_b3 Q x1 x2 x3 n S x4 → Y G K 0 0 (wM G A S) 3 [(0, .ref (A 9)), (1, .int (x1)), (2, .int (x2)), (3, .int (x3)), (4, .int (x4))] [] := by
  intro n
  induction n with
  | zero => intro S x4 h; exact h.elim
  | succ n ih =>
    intro S x4 h
    dsimp only [wp_m_copyRow_9_b3] at h
    refine y_iload C dX8_copyRow_3 4 rfl ?_
    refine y_iload_n C dX8_copyRow_5 1 rfl rfl ?_
    refine y_icmp_ge C (tgt := 31) dX8_copyRow_6 rfl (fun c_3 => ?_) (fun c_3 => ?_)
    · have h_4 := (h).1 c_3
      exact y_vretM C M N rfl (S := S) rfl (h_4) dX8_copyRow_31
    · have h_5 := (h).2 c_3
      refine y_aload_n C dX8_copyRow_9 0 rfl rfl ?_
      refine y_iload_n C dX8_copyRow_10 1 rfl rfl ?_
      refine y_iload_n C dX8_copyRow_11 3 rfl rfl ?_
      refine y_imul C dX8_copyRow_12 ?_
      refine y_iload C dX8_copyRow_13 4 rfl ?_
      refine y_iadd C dX8_copyRow_15 ?_
      refine y_aload_n C dX8_copyRow_16 0 rfl rfl ?_
      refine y_iload_n C dX8_copyRow_17 1 rfl rfl ?_
      refine y_iload_n C dX8_copyRow_18 2 rfl rfl ?_
      refine y_imul C dX8_copyRow_19 ?_
      refine y_iload C dX8_copyRow_20 4 rfl ?_
      refine y_iadd C dX8_copyRow_22 ?_
      refine y_iald C (wM_9 ..) rfl (h_5).1 dX8_copyRow_23 ?_
      refine y_iast C M (wM_9 ..) rfl (wM_s9 ..) ((h_5).2).1 dX8_copyRow_24 ?_
      refine y_iinc C dX8_copyRow_25 4 rfl (Nat.le_of_ble_eq_true rfl) (ii_1 _) [(4, .int ((x4 + 1))), (0, .ref (A 9)), (1, .int (x1)), (2, .int (x2)), (3, .int (x3))] rfl ?_
      refine y_goto C (tgt := 3) dX8_copyRow_28 rfl ?_
      exact Y.sub (ih (sI S 9 (((x1 * x3) + x4)).toNatClampNeg (S.1 9 (((x1 * x2) + x4)).toNatClampNeg)) ((x4 + 1)) (((h_5).2).2)) [1, 2, 3, 4, 0] rfl
set_option maxRecDepth 100000 in
theorem met_m_copyRow_9 (G : Gx) (A : Nat → Nat) (S : St) (x1 : Int32) (x2 : Int32) (x3 : Int32) (Q : St → Prop) (h : wp_m_copyRow_9 S x1 x2 x3 Q) : Mv G yX8_copyRow (ws_ yX8_copyRow cX8_copyRow 5 none) rm_m_copyRow_9 (wM G A S) [.ref (A 9), .int (x1), .int (x2), .int (x3)] (wM G A) Q := by
  refine ent_Mv (by decide +kernel) rfl (Nat.le_of_ble_eq_true rfl) [(0, .ref (A 9)), (1, .int (x1)), (2, .int (x2)), (3, .int (x3))] rfl (fun K B C M N => ?_)
  refine y_iconst C dX8_copyRow_0 ic_0 ?_
  refine y_istore C dX8_copyRow_1 (Nat.le_of_ble_eq_true rfl) [(4, .int (0)), (0, .ref (A 9)), (1, .int (x1)), (2, .int (x2)), (3, .int (x3))] rfl ?_
  obtain ⟨n_1, h_2⟩ := h
  exact Y.sub (wk_m_copyRow_9_b3 C M N (x1) (x2) (x3) n_1 S (0) h_2) [1, 2, 3, 4, 0] rfl
/-! OverHillModel copyRow([IIII)V: m_copyRow_10 -/
abbrev rm_m_copyRow_10 : Room := { frames := 1, cells := 0, slots := 0, locals := 40 }
def wp_m_copyRow_10_b3 (Q : St → Prop) (x1 : Int32) (x2 : Int32) (x3 : Int32) : Nat → St → Int32 → Prop
  | 0 => fun _ _ => False
  | n + 1 => fun S x4 => ((x1 ≤ x4 → Q S) ∧ (¬ x1 ≤ x4 → (vp_in ((x1 * x2) + x4) 160 ∧ (vp_in ((x1 * x3) + x4) 160 ∧ wp_m_copyRow_10_b3 Q x1 x2 x3 n (sI S 10 (((x1 * x3) + x4)).toNatClampNeg (S.1 10 (((x1 * x2) + x4)).toNatClampNeg)) ((x4 + 1))))))
def wp_m_copyRow_10 (S : St) (x1 : Int32) (x2 : Int32) (x3 : Int32) (Q : St → Prop) : Prop :=
  (∃ z, wp_m_copyRow_10_b3 Q (x1) (x2) (x3) z S (0))
set_option maxRecDepth 100000 in
theorem wk_m_copyRow_10_b3 {G : Gx} {K : Kx} {A : Nat → Nat} (C : KOk G K RX8 cX8_copyRow rm_m_copyRow_10 5 none) {B : Nat → Prop} (M : KM G K B) {Q : St → Prop} (N : KQv G K B (wM G A) Q) (x1 : Int32) (x2 : Int32) (x3 : Int32) : ∀ (n : Nat), ∀ (S : St) (x4 : Int32), wp_m_copyRow_10_b3 Q x1 x2 x3 n S x4 → Y G K 0 0 (wM G A S) 3 [(0, .ref (A 10)), (1, .int (x1)), (2, .int (x2)), (3, .int (x3)), (4, .int (x4))] [] := by
  intro n
  induction n with
  | zero => intro S x4 h; exact h.elim
  | succ n ih =>
    intro S x4 h
    dsimp only [wp_m_copyRow_10_b3] at h
    refine y_iload C dX8_copyRow_3 4 rfl ?_
    refine y_iload_n C dX8_copyRow_5 1 rfl rfl ?_
    refine y_icmp_ge C (tgt := 31) dX8_copyRow_6 rfl (fun c_3 => ?_) (fun c_3 => ?_)
    · have h_4 := (h).1 c_3
      exact y_vretM C M N rfl (S := S) rfl (h_4) dX8_copyRow_31
    · have h_5 := (h).2 c_3
      refine y_aload_n C dX8_copyRow_9 0 rfl rfl ?_
      refine y_iload_n C dX8_copyRow_10 1 rfl rfl ?_
      refine y_iload_n C dX8_copyRow_11 3 rfl rfl ?_
      refine y_imul C dX8_copyRow_12 ?_
      refine y_iload C dX8_copyRow_13 4 rfl ?_
      refine y_iadd C dX8_copyRow_15 ?_
      refine y_aload_n C dX8_copyRow_16 0 rfl rfl ?_
      refine y_iload_n C dX8_copyRow_17 1 rfl rfl ?_
      refine y_iload_n C dX8_copyRow_18 2 rfl rfl ?_
      refine y_imul C dX8_copyRow_19 ?_
      refine y_iload C dX8_copyRow_20 4 rfl ?_
      refine y_iadd C dX8_copyRow_22 ?_
      refine y_iald C (wM_10 ..) rfl (h_5).1 dX8_copyRow_23 ?_
      refine y_iast C M (wM_10 ..) rfl (wM_s10 ..) ((h_5).2).1 dX8_copyRow_24 ?_
      refine y_iinc C dX8_copyRow_25 4 rfl (Nat.le_of_ble_eq_true rfl) (ii_1 _) [(4, .int ((x4 + 1))), (0, .ref (A 10)), (1, .int (x1)), (2, .int (x2)), (3, .int (x3))] rfl ?_
      refine y_goto C (tgt := 3) dX8_copyRow_28 rfl ?_
      exact Y.sub (ih (sI S 10 (((x1 * x3) + x4)).toNatClampNeg (S.1 10 (((x1 * x2) + x4)).toNatClampNeg)) ((x4 + 1)) (((h_5).2).2)) [1, 2, 3, 4, 0] rfl
set_option maxRecDepth 100000 in
theorem met_m_copyRow_10 (G : Gx) (A : Nat → Nat) (S : St) (x1 : Int32) (x2 : Int32) (x3 : Int32) (Q : St → Prop) (h : wp_m_copyRow_10 S x1 x2 x3 Q) : Mv G yX8_copyRow (ws_ yX8_copyRow cX8_copyRow 5 none) rm_m_copyRow_10 (wM G A S) [.ref (A 10), .int (x1), .int (x2), .int (x3)] (wM G A) Q := by
  refine ent_Mv (by decide +kernel) rfl (Nat.le_of_ble_eq_true rfl) [(0, .ref (A 10)), (1, .int (x1)), (2, .int (x2)), (3, .int (x3))] rfl (fun K B C M N => ?_)
  refine y_iconst C dX8_copyRow_0 ic_0 ?_
  refine y_istore C dX8_copyRow_1 (Nat.le_of_ble_eq_true rfl) [(4, .int (0)), (0, .ref (A 10)), (1, .int (x1)), (2, .int (x2)), (3, .int (x3))] rfl ?_
  obtain ⟨n_1, h_2⟩ := h
  exact Y.sub (wk_m_copyRow_10_b3 C M N (x1) (x2) (x3) n_1 S (0) h_2) [1, 2, 3, 4, 0] rfl
/-! OverHillModel copyRow([IIII)V: m_copyRow_12 -/
abbrev rm_m_copyRow_12 : Room := { frames := 1, cells := 0, slots := 0, locals := 40 }
def wp_m_copyRow_12_b3 (Q : St → Prop) (x1 : Int32) (x2 : Int32) (x3 : Int32) : Nat → St → Int32 → Prop
  | 0 => fun _ _ => False
  | n + 1 => fun S x4 => ((x1 ≤ x4 → Q S) ∧ (¬ x1 ≤ x4 → (vp_in ((x1 * x2) + x4) 120 ∧ (vp_in ((x1 * x3) + x4) 120 ∧ wp_m_copyRow_12_b3 Q x1 x2 x3 n (sI S 12 (((x1 * x3) + x4)).toNatClampNeg (S.1 12 (((x1 * x2) + x4)).toNatClampNeg)) ((x4 + 1))))))
def wp_m_copyRow_12 (S : St) (x1 : Int32) (x2 : Int32) (x3 : Int32) (Q : St → Prop) : Prop :=
  (∃ z, wp_m_copyRow_12_b3 Q (x1) (x2) (x3) z S (0))
set_option maxRecDepth 100000 in
theorem wk_m_copyRow_12_b3 {G : Gx} {K : Kx} {A : Nat → Nat} (C : KOk G K RX8 cX8_copyRow rm_m_copyRow_12 5 none) {B : Nat → Prop} (M : KM G K B) {Q : St → Prop} (N : KQv G K B (wM G A) Q) (x1 : Int32) (x2 : Int32) (x3 : Int32) : ∀ (n : Nat), ∀ (S : St) (x4 : Int32), wp_m_copyRow_12_b3 Q x1 x2 x3 n S x4 → Y G K 0 0 (wM G A S) 3 [(0, .ref (A 12)), (1, .int (x1)), (2, .int (x2)), (3, .int (x3)), (4, .int (x4))] [] := by
  intro n
  induction n with
  | zero => intro S x4 h; exact h.elim
  | succ n ih =>
    intro S x4 h
    dsimp only [wp_m_copyRow_12_b3] at h
    refine y_iload C dX8_copyRow_3 4 rfl ?_
    refine y_iload_n C dX8_copyRow_5 1 rfl rfl ?_
    refine y_icmp_ge C (tgt := 31) dX8_copyRow_6 rfl (fun c_3 => ?_) (fun c_3 => ?_)
    · have h_4 := (h).1 c_3
      exact y_vretM C M N rfl (S := S) rfl (h_4) dX8_copyRow_31
    · have h_5 := (h).2 c_3
      refine y_aload_n C dX8_copyRow_9 0 rfl rfl ?_
      refine y_iload_n C dX8_copyRow_10 1 rfl rfl ?_
      refine y_iload_n C dX8_copyRow_11 3 rfl rfl ?_
      refine y_imul C dX8_copyRow_12 ?_
      refine y_iload C dX8_copyRow_13 4 rfl ?_
      refine y_iadd C dX8_copyRow_15 ?_
      refine y_aload_n C dX8_copyRow_16 0 rfl rfl ?_
      refine y_iload_n C dX8_copyRow_17 1 rfl rfl ?_
      refine y_iload_n C dX8_copyRow_18 2 rfl rfl ?_
      refine y_imul C dX8_copyRow_19 ?_
      refine y_iload C dX8_copyRow_20 4 rfl ?_
      refine y_iadd C dX8_copyRow_22 ?_
      refine y_iald C (wM_12 ..) rfl (h_5).1 dX8_copyRow_23 ?_
      refine y_iast C M (wM_12 ..) rfl (wM_s12 ..) ((h_5).2).1 dX8_copyRow_24 ?_
      refine y_iinc C dX8_copyRow_25 4 rfl (Nat.le_of_ble_eq_true rfl) (ii_1 _) [(4, .int ((x4 + 1))), (0, .ref (A 12)), (1, .int (x1)), (2, .int (x2)), (3, .int (x3))] rfl ?_
      refine y_goto C (tgt := 3) dX8_copyRow_28 rfl ?_
      exact Y.sub (ih (sI S 12 (((x1 * x3) + x4)).toNatClampNeg (S.1 12 (((x1 * x2) + x4)).toNatClampNeg)) ((x4 + 1)) (((h_5).2).2)) [1, 2, 3, 4, 0] rfl
set_option maxRecDepth 100000 in
theorem met_m_copyRow_12 (G : Gx) (A : Nat → Nat) (S : St) (x1 : Int32) (x2 : Int32) (x3 : Int32) (Q : St → Prop) (h : wp_m_copyRow_12 S x1 x2 x3 Q) : Mv G yX8_copyRow (ws_ yX8_copyRow cX8_copyRow 5 none) rm_m_copyRow_12 (wM G A S) [.ref (A 12), .int (x1), .int (x2), .int (x3)] (wM G A) Q := by
  refine ent_Mv (by decide +kernel) rfl (Nat.le_of_ble_eq_true rfl) [(0, .ref (A 12)), (1, .int (x1)), (2, .int (x2)), (3, .int (x3))] rfl (fun K B C M N => ?_)
  refine y_iconst C dX8_copyRow_0 ic_0 ?_
  refine y_istore C dX8_copyRow_1 (Nat.le_of_ble_eq_true rfl) [(4, .int (0)), (0, .ref (A 12)), (1, .int (x1)), (2, .int (x2)), (3, .int (x3))] rfl ?_
  obtain ⟨n_1, h_2⟩ := h
  exact Y.sub (wk_m_copyRow_12_b3 C M N (x1) (x2) (x3) n_1 S (0) h_2) [1, 2, 3, 4, 0] rfl
/-! OverHillModel copyRow([IIII)V: m_copyRow_13 -/
abbrev rm_m_copyRow_13 : Room := { frames := 1, cells := 0, slots := 0, locals := 40 }
def wp_m_copyRow_13_b3 (Q : St → Prop) (x1 : Int32) (x2 : Int32) (x3 : Int32) : Nat → St → Int32 → Prop
  | 0 => fun _ _ => False
  | n + 1 => fun S x4 => ((x1 ≤ x4 → Q S) ∧ (¬ x1 ≤ x4 → (vp_in ((x1 * x2) + x4) 50 ∧ (vp_in ((x1 * x3) + x4) 50 ∧ wp_m_copyRow_13_b3 Q x1 x2 x3 n (sI S 13 (((x1 * x3) + x4)).toNatClampNeg (S.1 13 (((x1 * x2) + x4)).toNatClampNeg)) ((x4 + 1))))))
def wp_m_copyRow_13 (S : St) (x1 : Int32) (x2 : Int32) (x3 : Int32) (Q : St → Prop) : Prop :=
  (∃ z, wp_m_copyRow_13_b3 Q (x1) (x2) (x3) z S (0))
set_option maxRecDepth 100000 in
theorem wk_m_copyRow_13_b3 {G : Gx} {K : Kx} {A : Nat → Nat} (C : KOk G K RX8 cX8_copyRow rm_m_copyRow_13 5 none) {B : Nat → Prop} (M : KM G K B) {Q : St → Prop} (N : KQv G K B (wM G A) Q) (x1 : Int32) (x2 : Int32) (x3 : Int32) : ∀ (n : Nat), ∀ (S : St) (x4 : Int32), wp_m_copyRow_13_b3 Q x1 x2 x3 n S x4 → Y G K 0 0 (wM G A S) 3 [(0, .ref (A 13)), (1, .int (x1)), (2, .int (x2)), (3, .int (x3)), (4, .int (x4))] [] := by
  intro n
  induction n with
  | zero => intro S x4 h; exact h.elim
  | succ n ih =>
    intro S x4 h
    dsimp only [wp_m_copyRow_13_b3] at h
    refine y_iload C dX8_copyRow_3 4 rfl ?_
    refine y_iload_n C dX8_copyRow_5 1 rfl rfl ?_
    refine y_icmp_ge C (tgt := 31) dX8_copyRow_6 rfl (fun c_3 => ?_) (fun c_3 => ?_)
    · have h_4 := (h).1 c_3
      exact y_vretM C M N rfl (S := S) rfl (h_4) dX8_copyRow_31
    · have h_5 := (h).2 c_3
      refine y_aload_n C dX8_copyRow_9 0 rfl rfl ?_
      refine y_iload_n C dX8_copyRow_10 1 rfl rfl ?_
      refine y_iload_n C dX8_copyRow_11 3 rfl rfl ?_
      refine y_imul C dX8_copyRow_12 ?_
      refine y_iload C dX8_copyRow_13 4 rfl ?_
      refine y_iadd C dX8_copyRow_15 ?_
      refine y_aload_n C dX8_copyRow_16 0 rfl rfl ?_
      refine y_iload_n C dX8_copyRow_17 1 rfl rfl ?_
      refine y_iload_n C dX8_copyRow_18 2 rfl rfl ?_
      refine y_imul C dX8_copyRow_19 ?_
      refine y_iload C dX8_copyRow_20 4 rfl ?_
      refine y_iadd C dX8_copyRow_22 ?_
      refine y_iald C (wM_13 ..) rfl (h_5).1 dX8_copyRow_23 ?_
      refine y_iast C M (wM_13 ..) rfl (wM_s13 ..) ((h_5).2).1 dX8_copyRow_24 ?_
      refine y_iinc C dX8_copyRow_25 4 rfl (Nat.le_of_ble_eq_true rfl) (ii_1 _) [(4, .int ((x4 + 1))), (0, .ref (A 13)), (1, .int (x1)), (2, .int (x2)), (3, .int (x3))] rfl ?_
      refine y_goto C (tgt := 3) dX8_copyRow_28 rfl ?_
      exact Y.sub (ih (sI S 13 (((x1 * x3) + x4)).toNatClampNeg (S.1 13 (((x1 * x2) + x4)).toNatClampNeg)) ((x4 + 1)) (((h_5).2).2)) [1, 2, 3, 4, 0] rfl
set_option maxRecDepth 100000 in
theorem met_m_copyRow_13 (G : Gx) (A : Nat → Nat) (S : St) (x1 : Int32) (x2 : Int32) (x3 : Int32) (Q : St → Prop) (h : wp_m_copyRow_13 S x1 x2 x3 Q) : Mv G yX8_copyRow (ws_ yX8_copyRow cX8_copyRow 5 none) rm_m_copyRow_13 (wM G A S) [.ref (A 13), .int (x1), .int (x2), .int (x3)] (wM G A) Q := by
  refine ent_Mv (by decide +kernel) rfl (Nat.le_of_ble_eq_true rfl) [(0, .ref (A 13)), (1, .int (x1)), (2, .int (x2)), (3, .int (x3))] rfl (fun K B C M N => ?_)
  refine y_iconst C dX8_copyRow_0 ic_0 ?_
  refine y_istore C dX8_copyRow_1 (Nat.le_of_ble_eq_true rfl) [(4, .int (0)), (0, .ref (A 13)), (1, .int (x1)), (2, .int (x2)), (3, .int (x3))] rfl ?_
  obtain ⟨n_1, h_2⟩ := h
  exact Y.sub (wk_m_copyRow_13_b3 C M N (x1) (x2) (x3) n_1 S (0) h_2) [1, 2, 3, 4, 0] rfl
/-! OverHillModel copyRow([IIII)V: m_copyRow_14 -/
abbrev rm_m_copyRow_14 : Room := { frames := 1, cells := 0, slots := 0, locals := 40 }
def wp_m_copyRow_14_b3 (Q : St → Prop) (x1 : Int32) (x2 : Int32) (x3 : Int32) : Nat → St → Int32 → Prop
  | 0 => fun _ _ => False
  | n + 1 => fun S x4 => ((x1 ≤ x4 → Q S) ∧ (¬ x1 ≤ x4 → (vp_in ((x1 * x2) + x4) 800 ∧ (vp_in ((x1 * x3) + x4) 800 ∧ wp_m_copyRow_14_b3 Q x1 x2 x3 n (sI S 14 (((x1 * x3) + x4)).toNatClampNeg (S.1 14 (((x1 * x2) + x4)).toNatClampNeg)) ((x4 + 1))))))
def wp_m_copyRow_14 (S : St) (x1 : Int32) (x2 : Int32) (x3 : Int32) (Q : St → Prop) : Prop :=
  (∃ z, wp_m_copyRow_14_b3 Q (x1) (x2) (x3) z S (0))
set_option maxRecDepth 100000 in
theorem wk_m_copyRow_14_b3 {G : Gx} {K : Kx} {A : Nat → Nat} (C : KOk G K RX8 cX8_copyRow rm_m_copyRow_14 5 none) {B : Nat → Prop} (M : KM G K B) {Q : St → Prop} (N : KQv G K B (wM G A) Q) (x1 : Int32) (x2 : Int32) (x3 : Int32) : ∀ (n : Nat), ∀ (S : St) (x4 : Int32), wp_m_copyRow_14_b3 Q x1 x2 x3 n S x4 → Y G K 0 0 (wM G A S) 3 [(0, .ref (A 14)), (1, .int (x1)), (2, .int (x2)), (3, .int (x3)), (4, .int (x4))] [] := by
  intro n
  induction n with
  | zero => intro S x4 h; exact h.elim
  | succ n ih =>
    intro S x4 h
    dsimp only [wp_m_copyRow_14_b3] at h
    refine y_iload C dX8_copyRow_3 4 rfl ?_
    refine y_iload_n C dX8_copyRow_5 1 rfl rfl ?_
    refine y_icmp_ge C (tgt := 31) dX8_copyRow_6 rfl (fun c_3 => ?_) (fun c_3 => ?_)
    · have h_4 := (h).1 c_3
      exact y_vretM C M N rfl (S := S) rfl (h_4) dX8_copyRow_31
    · have h_5 := (h).2 c_3
      refine y_aload_n C dX8_copyRow_9 0 rfl rfl ?_
      refine y_iload_n C dX8_copyRow_10 1 rfl rfl ?_
      refine y_iload_n C dX8_copyRow_11 3 rfl rfl ?_
      refine y_imul C dX8_copyRow_12 ?_
      refine y_iload C dX8_copyRow_13 4 rfl ?_
      refine y_iadd C dX8_copyRow_15 ?_
      refine y_aload_n C dX8_copyRow_16 0 rfl rfl ?_
      refine y_iload_n C dX8_copyRow_17 1 rfl rfl ?_
      refine y_iload_n C dX8_copyRow_18 2 rfl rfl ?_
      refine y_imul C dX8_copyRow_19 ?_
      refine y_iload C dX8_copyRow_20 4 rfl ?_
      refine y_iadd C dX8_copyRow_22 ?_
      refine y_iald C (wM_14 ..) rfl (h_5).1 dX8_copyRow_23 ?_
      refine y_iast C M (wM_14 ..) rfl (wM_s14 ..) ((h_5).2).1 dX8_copyRow_24 ?_
      refine y_iinc C dX8_copyRow_25 4 rfl (Nat.le_of_ble_eq_true rfl) (ii_1 _) [(4, .int ((x4 + 1))), (0, .ref (A 14)), (1, .int (x1)), (2, .int (x2)), (3, .int (x3))] rfl ?_
      refine y_goto C (tgt := 3) dX8_copyRow_28 rfl ?_
      exact Y.sub (ih (sI S 14 (((x1 * x3) + x4)).toNatClampNeg (S.1 14 (((x1 * x2) + x4)).toNatClampNeg)) ((x4 + 1)) (((h_5).2).2)) [1, 2, 3, 4, 0] rfl
set_option maxRecDepth 100000 in
theorem met_m_copyRow_14 (G : Gx) (A : Nat → Nat) (S : St) (x1 : Int32) (x2 : Int32) (x3 : Int32) (Q : St → Prop) (h : wp_m_copyRow_14 S x1 x2 x3 Q) : Mv G yX8_copyRow (ws_ yX8_copyRow cX8_copyRow 5 none) rm_m_copyRow_14 (wM G A S) [.ref (A 14), .int (x1), .int (x2), .int (x3)] (wM G A) Q := by
  refine ent_Mv (by decide +kernel) rfl (Nat.le_of_ble_eq_true rfl) [(0, .ref (A 14)), (1, .int (x1)), (2, .int (x2)), (3, .int (x3))] rfl (fun K B C M N => ?_)
  refine y_iconst C dX8_copyRow_0 ic_0 ?_
  refine y_istore C dX8_copyRow_1 (Nat.le_of_ble_eq_true rfl) [(4, .int (0)), (0, .ref (A 14)), (1, .int (x1)), (2, .int (x2)), (3, .int (x3))] rfl ?_
  obtain ⟨n_1, h_2⟩ := h
  exact Y.sub (wk_m_copyRow_14_b3 C M N (x1) (x2) (x3) n_1 S (0) h_2) [1, 2, 3, 4, 0] rfl
/-! OverHillModel fails(I)V: m_fails -/
abbrev rm_m_fails : Room := { frames := 1, cells := 0, slots := 0, locals := 40 }
def wp_m_fails (S : St) (x1 : Int32) (Q : St → Prop) : Prop :=
  (((S.1 0 12) = 0 → Q (sI (sI S 0 12 x1) 0 13 ((sI S 0 12 x1).1 0 9))) ∧ (¬ (S.1 0 12) = 0 → Q S))
set_option maxRecDepth 100000 in
theorem met_m_fails (G : Gx) (A : Nat → Nat) (S : St) (x1 : Int32) (Q : St → Prop) (h : wp_m_fails S x1 Q) : Mv G yX8_fails (ws_ yX8_fails cX8_fails 2 none) rm_m_fails (wM G A S) [.ref (A 0), .int (x1)] (wM G A) Q := by
  refine ent_Mv (by decide +kernel) rfl (Nat.le_of_ble_eq_true rfl) [(0, .ref (A 0)), (1, .int (x1))] rfl (fun K B C M N => ?_)
  refine y_aload_n C dX8_fails_0 0 rfl rfl ?_
  refine yg_X8_132_wM0 C dX8_fails_1 ?_
  refine y_if_eq C (tgt := 8) dX8_fails_4 rfl (fun c_1 => ?_) (fun c_1 => ?_)
  · have h_2 := (h).1 c_1
    refine y_aload_n C dX8_fails_8 0 rfl rfl ?_
    refine y_iload_n C dX8_fails_9 1 rfl rfl ?_
    refine yp_X8_132_wM0 C M dX8_fails_10 ?_
    refine y_aload_n C dX8_fails_13 0 rfl rfl ?_
    refine y_aload_n C dX8_fails_14 0 rfl rfl ?_
    refine yg_X8_111_wM0 C dX8_fails_15 ?_
    refine yp_X8_135_wM0 C M dX8_fails_18 ?_
    exact y_vretM C M N rfl (S := (sI (sI S 0 12 x1) 0 13 ((sI S 0 12 x1).1 0 9))) rfl (h_2) dX8_fails_21
  · have h_3 := (h).2 c_1
    exact y_vretM C M N rfl (S := S) rfl (h_3) dX8_fails_7
/-! OverHillModel in(JJJ)Z: m_in -/
abbrev rm_m_in : Room := { frames := 1, cells := 0, slots := 0, locals := 40 }
def wp_m_in (x0 : Int64) (x2 : Int64) (x4 : Int64) (Q : Int32 → Prop) : Prop :=
  (((lg_cmp x0 x2) < 0 → Q 0) ∧ (¬ (lg_cmp x0 x2) < 0 → ((0 < (lg_cmp x0 x4) → Q 0) ∧ (¬ 0 < (lg_cmp x0 x4) → Q 1))))
set_option maxRecDepth 100000 in
theorem met_m_in (G : Gx) (x0 : Int64) (x2 : Int64) (x4 : Int64) (Q : Int32 → Prop) (h : wp_m_in x0 x2 x4 Q) : Ri G yX8_in (ws_ yX8_in cX8_in 6 (some .boolean)) rm_m_in [] [.long (x0), .long (x2), .long (x4)] Q := by
  refine ent_Ri (by decide +kernel) rfl (Nat.le_of_ble_eq_true rfl) [(0, .long (x0)), (2, .long (x2)), (4, .long (x4))] rfl (fun K C N => ?_)
  refine y_lload_n C dX8_in_0 0 rfl rfl ?_
  refine y_lload_n C dX8_in_1 1 rfl rfl ?_
  refine y_lcmp C dX8_in_2 ?_
  refine y_if_lt C (tgt := 17) dX8_in_3 rfl (fun c_1 => ?_) (fun c_1 => ?_)
  · have h_2 := (h).1 c_1
    refine y_iconst C dX8_in_17 ic_0 ?_
    exact y_zretR C N rfl rfl (h_2) dX8_in_18
  · have h_3 := (h).2 c_1
    refine y_lload_n C dX8_in_6 0 rfl rfl ?_
    refine y_lload C dX8_in_7 2 rfl ?_
    refine y_lcmp C dX8_in_9 ?_
    refine y_if_gt C (tgt := 17) dX8_in_10 rfl (fun c_4 => ?_) (fun c_4 => ?_)
    · have h_5 := (h_3).1 c_4
      refine y_iconst C dX8_in_17 ic_0 ?_
      exact y_zretR C N rfl rfl (h_5) dX8_in_18
    · have h_6 := (h_3).2 c_4
      refine y_iconst C dX8_in_13 ic_1 ?_
      refine y_goto C (tgt := 18) dX8_in_14 rfl ?_
      exact y_zretR C N rfl rfl (h_6) dX8_in_18
/-! OverHillModel isByte(III)Z: m_isByte -/
abbrev rm_m_isByte : Room := { frames := 1, cells := 0, slots := 0, locals := 40 }
def wp_m_isByte (S : St) (x1 : Int32) (x2 : Int32) (x3 : Int32) (Q : Int32 → Prop) : Prop :=
  (((S.1 0 6) ≤ x1 → Q 0) ∧ (¬ (S.1 0 6) ≤ x1 → (vp_in x1 1200 ∧ (((S.1 5 (x1).toNatClampNeg) < x2 → Q 0) ∧ (¬ (S.1 5 (x1).toNatClampNeg) < x2 → (vp_in x1 1200 ∧ ((x3 < (S.1 5 (x1).toNatClampNeg) → Q 0) ∧ (¬ x3 < (S.1 5 (x1).toNatClampNeg) → Q 1))))))))
set_option maxRecDepth 100000 in
theorem met_m_isByte (G : Gx) (A : Nat → Nat) (S : St) (x1 : Int32) (x2 : Int32) (x3 : Int32) (Q : Int32 → Prop) (h : wp_m_isByte S x1 x2 x3 Q) : Ri G yX8_isByte (ws_ yX8_isByte cX8_isByte 4 (some .boolean)) rm_m_isByte (wM G A S) [.ref (A 0), .int (x1), .int (x2), .int (x3)] Q := by
  refine ent_Ri (by decide +kernel) rfl (Nat.le_of_ble_eq_true rfl) [(0, .ref (A 0)), (1, .int (x1)), (2, .int (x2)), (3, .int (x3))] rfl (fun K C N => ?_)
  refine y_iload_n C dX8_isByte_0 1 rfl rfl ?_
  refine y_aload_n C dX8_isByte_1 0 rfl rfl ?_
  refine yg_X8_97_wM0 C dX8_isByte_2 ?_
  refine y_icmp_ge C (tgt := 32) dX8_isByte_5 rfl (fun c_1 => ?_) (fun c_1 => ?_)
  · have h_2 := (h).1 c_1
    refine y_iconst C dX8_isByte_32 ic_0 ?_
    exact y_zretR C N rfl rfl (h_2) dX8_isByte_33
  · have h_3 := (h).2 c_1
    refine y_aload_n C dX8_isByte_8 0 rfl rfl ?_
    refine yg_X8_23_wM0 C dX8_isByte_9 ?_
    refine y_iload_n C dX8_isByte_12 1 rfl rfl ?_
    refine y_bald C (wM_5 ..) rfl (h_3).1 dX8_isByte_13 ?_
    refine y_iload_n C dX8_isByte_14 2 rfl rfl ?_
    refine y_icmp_lt C (tgt := 32) dX8_isByte_15 rfl (fun c_4 => ?_) (fun c_4 => ?_)
    · have h_5 := ((h_3).2).1 c_4
      refine y_iconst C dX8_isByte_32 ic_0 ?_
      exact y_zretR C N rfl rfl (h_5) dX8_isByte_33
    · have h_6 := ((h_3).2).2 c_4
      refine y_aload_n C dX8_isByte_18 0 rfl rfl ?_
      refine yg_X8_23_wM0 C dX8_isByte_19 ?_
      refine y_iload_n C dX8_isByte_22 1 rfl rfl ?_
      refine y_bald C (wM_5 ..) rfl (h_6).1 dX8_isByte_23 ?_
      refine y_iload_n C dX8_isByte_24 3 rfl rfl ?_
      refine y_icmp_gt C (tgt := 32) dX8_isByte_25 rfl (fun c_7 => ?_) (fun c_7 => ?_)
      · have h_8 := ((h_6).2).1 c_7
        refine y_iconst C dX8_isByte_32 ic_0 ?_
        exact y_zretR C N rfl rfl (h_8) dX8_isByte_33
      · have h_9 := ((h_6).2).2 c_7
        refine y_iconst C dX8_isByte_28 ic_1 ?_
        refine y_goto C (tgt := 33) dX8_isByte_29 rfl ?_
        exact y_zretR C N rfl rfl (h_9) dX8_isByte_33
/-! OverHillModel next()V: m_next -/
abbrev rm_m_next : Room := { frames := 2, cells := 0, slots := 0, locals := 63 }
def wp_m_next_b208 (Q : St → Prop) : Nat → St → Prop
  | 0 => fun _ => False
  | n + 1 => fun S => wp_m_isByte S ((S.1 0 7)) (48) (57) (fun r_37 => ((r_37 = 0 → Q S) ∧ (¬ r_37 = 0 → (((S.1 0 10) ≤ 100000 → (vp_in (S.1 0 7) 1200 ∧ wp_m_next_b208 Q n (sI (sI S 0 10 (((10 * (S.1 0 10)) + (S.1 5 ((S.1 0 7)).toNatClampNeg)) - 48)) 0 7 (((sI S 0 10 (((10 * (S.1 0 10)) + (S.1 5 ((S.1 0 7)).toNatClampNeg)) - 48)).1 0 7) + 1)))) ∧ (¬ (S.1 0 10) ≤ 100000 → wp_m_next_b208 Q n (sI (sI S 0 10 1000000) 0 7 (((sI S 0 10 1000000).1 0 7) + 1)))))))
def wp_m_next_b153 (Q : St → Prop) (K102 : St → Int32 → Prop) (S : St) (x1 : Int32) (s0 : Int64) : Prop :=
  ((x1 ≤ 11 → K102 (sI (sL S 0 11 s0) 0 7 (((sL S 0 11 s0).1 0 7) + 1)) ((x1 + 1))) ∧ (¬ x1 ≤ 11 → K102 (sI (sL (sL S 0 11 s0) 0 11 (-1)) 0 7 (((sL (sL S 0 11 s0) 0 11 (-1)).1 0 7) + 1)) ((x1 + 1))))
def wp_m_next_b102 (Q : St → Prop) : Nat → St → Int32 → Prop
  | 0 => fun _ _ => False
  | n + 1 => fun S x1 => wp_m_isByte S ((S.1 0 7)) (97) (122) (fun r_46 => ((r_46 = 0 → Q S) ∧ (¬ r_46 = 0 → ((x1 ≤ 11 → (vp_in (S.1 0 7) 1200 ∧ wp_m_next_b153 Q (fun Sy y1 => wp_m_next_b102 Q n Sy y1) S (x1) ((((27 * (S.2 0 11)) + ((S.1 5 ((S.1 0 7)).toNatClampNeg)).toInt64) - 96)))) ∧ (¬ x1 ≤ 11 → wp_m_next_b153 Q (fun Sy y1 => wp_m_next_b102 Q n Sy y1) S (x1) ((-1)))))))
def wp_m_next_b0 (Q : St → Prop) : Nat → St → Prop
  | 0 => fun _ => False
  | n + 1 => fun S => wp_m_isByte S ((S.1 0 7)) (32) (32) (fun r_3 => ((¬ r_3 = 0 → wp_m_next_b0 Q n (sI S 0 7 ((S.1 0 7) + 1))) ∧ (r_3 = 0 → wp_m_isByte S ((S.1 0 7)) (10) (10) (fun r_9 => ((r_9 = 0 → ((¬ ((sL (sI (sI S 0 9 (S.1 0 7)) 0 10 0) 0 11 0).1 0 7) = ((sL (sI (sI S 0 9 (S.1 0 7)) 0 10 0) 0 11 0).1 0 6) → wp_m_isByte (sL (sI (sI S 0 9 (S.1 0 7)) 0 10 0) 0 11 0) (((sL (sI (sI S 0 9 (S.1 0 7)) 0 10 0) 0 11 0).1 0 7)) (97) (122) (fun r_16 => ((r_16 = 0 → wp_m_isByte (sL (sI (sI S 0 9 (S.1 0 7)) 0 10 0) 0 11 0) (((sL (sI (sI S 0 9 (S.1 0 7)) 0 10 0) 0 11 0).1 0 7)) (48) (57) (fun r_21 => ((r_21 = 0 → (vp_in ((sL (sI (sI S 0 9 (S.1 0 7)) 0 10 0) 0 11 0).1 0 7) 1200 ∧ ((¬ ((sL (sI (sI S 0 9 (S.1 0 7)) 0 10 0) 0 11 0).1 5 (((sL (sI (sI S 0 9 (S.1 0 7)) 0 10 0) 0 11 0).1 0 7)).toNatClampNeg) = 59 → Q (sI (sI (sL (sI (sI S 0 9 (S.1 0 7)) 0 10 0) 0 11 0) 0 8 4) 0 7 (((sI (sL (sI (sI S 0 9 (S.1 0 7)) 0 10 0) 0 11 0) 0 8 4).1 0 7) + 1))) ∧ (((sL (sI (sI S 0 9 (S.1 0 7)) 0 10 0) 0 11 0).1 5 (((sL (sI (sI S 0 9 (S.1 0 7)) 0 10 0) 0 11 0).1 0 7)).toNatClampNeg) = 59 → Q (sI (sI (sL (sI (sI S 0 9 (S.1 0 7)) 0 10 0) 0 11 0) 0 8 3) 0 7 (((sI (sL (sI (sI S 0 9 (S.1 0 7)) 0 10 0) 0 11 0) 0 8 3).1 0 7) + 1)))))) ∧ (¬ r_21 = 0 → (∃ z, wp_m_next_b208 Q z (sI (sL (sI (sI S 0 9 (S.1 0 7)) 0 10 0) 0 11 0) 0 8 2)))))) ∧ (¬ r_16 = 0 → (∃ z, wp_m_next_b102 Q z (sI (sL (sI (sI S 0 9 (S.1 0 7)) 0 10 0) 0 11 0) 0 8 1) (0)))))) ∧ (((sL (sI (sI S 0 9 (S.1 0 7)) 0 10 0) 0 11 0).1 0 7) = ((sL (sI (sI S 0 9 (S.1 0 7)) 0 10 0) 0 11 0).1 0 6) → Q (sI (sL (sI (sI S 0 9 (S.1 0 7)) 0 10 0) 0 11 0) 0 8 0)))) ∧ (¬ r_9 = 0 → wp_m_next_b0 Q n (sI S 0 7 ((S.1 0 7) + 1))))))))
def wp_m_next (S : St) (Q : St → Prop) : Prop :=
  (∃ z, wp_m_next_b0 Q z S)
set_option maxRecDepth 100000 in
theorem wk_m_next_b208 {G : Gx} {K : Kx} {A : Nat → Nat} (C : KOk G K RX8 cX8_next rm_m_next 2 none) {B : Nat → Prop} (M : KM G K B) {Q : St → Prop} (N : KQv G K B (wM G A) Q) : ∀ (n : Nat), ∀ (S : St), wp_m_next_b208 Q n S → Y G K 0 0 (wM G A S) 208 [(0, .ref (A 0))] [] := by
  intro n
  induction n with
  | zero => intro S h; exact h.elim
  | succ n ih =>
    intro S h
    dsimp only [wp_m_next_b208] at h
    refine y_aload_n C dX8_next_208 0 rfl rfl ?_
    refine y_aload_n C dX8_next_209 0 rfl rfl ?_
    refine yg_X8_104_wM0 C dX8_next_210 ?_
    refine y_bipush C dX8_next_213 bp_48 ?_
    refine y_bipush C dX8_next_215 bp_57 ?_
    refine y_callRiV (As := [.int ((S.1 0 7)), .int (48), .int (57)]) (rest := []) C cs_X8_107 (met_m_isByte G A S ((S.1 0 7)) (48) (57) _ (h)) (fun _ h => h) (wM_0 ..) rfl rfl ⟨rfl, rfl, Nat.le_of_ble_eq_true rfl, Nat.le_of_ble_eq_true rfl⟩ rfl rfl (Nat.le_of_ble_eq_true rfl) dX8_next_217 ⟨Nat.zero_le _, Nat.zero_le _⟩ (fun r_37 h_38 => ?_)
    refine y_if_eq C (tgt := 307) dX8_next_220 rfl (fun c_40 => ?_) (fun c_40 => ?_)
    · have h_41 := (h_38).1 c_40
      exact y_vretM C M N rfl (S := S) rfl (h_41) dX8_next_307
    · have h_42 := (h_38).2 c_40
      refine y_aload_n C dX8_next_223 0 rfl rfl ?_
      refine y_aload_n C dX8_next_224 0 rfl rfl ?_
      refine yg_X8_114_wM0 C dX8_next_225 ?_
      refine y_ldc C dX8_next_228 q1767 ?_
      refine y_icmp_le C (tgt := 238) dX8_next_230 rfl (fun c_43 => ?_) (fun c_43 => ?_)
      · have h_44 := (h_42).1 c_43
        refine y_bipush C dX8_next_238 bp_10 ?_
        refine y_aload_n C dX8_next_240 0 rfl rfl ?_
        refine yg_X8_114_wM0 C dX8_next_241 ?_
        refine y_imul C dX8_next_244 ?_
        refine y_aload_n C dX8_next_245 0 rfl rfl ?_
        refine yg_X8_23_wM0 C dX8_next_246 ?_
        refine y_aload_n C dX8_next_249 0 rfl rfl ?_
        refine yg_X8_104_wM0 C dX8_next_250 ?_
        refine y_bald C (wM_5 ..) rfl (h_44).1 dX8_next_253 ?_
        refine y_iadd C dX8_next_254 ?_
        refine y_bipush C dX8_next_255 bp_48 ?_
        refine y_isub C dX8_next_257 ?_
        refine yp_X8_114_wM0 C M dX8_next_258 ?_
        refine y_aload_n C dX8_next_261 0 rfl rfl ?_
        refine y_dup C dX8_next_262 rfl ?_
        refine yg_X8_104_wM0 C dX8_next_263 ?_
        refine y_iconst C dX8_next_266 ic_1 ?_
        refine y_iadd C dX8_next_267 ?_
        refine yp_X8_104_wM0 C M dX8_next_268 ?_
        refine y_goto C (tgt := 208) dX8_next_271 rfl ?_
        exact Y.sub (ih (sI (sI S 0 10 (((10 * (S.1 0 10)) + (S.1 5 ((S.1 0 7)).toNatClampNeg)) - 48)) 0 7 (((sI S 0 10 (((10 * (S.1 0 10)) + (S.1 5 ((S.1 0 7)).toNatClampNeg)) - 48)).1 0 7) + 1)) ((h_44).2)) [0] rfl
      · have h_45 := (h_42).2 c_43
        refine y_ldc C dX8_next_233 q1768 ?_
        refine y_goto C (tgt := 258) dX8_next_235 rfl ?_
        refine yp_X8_114_wM0 C M dX8_next_258 ?_
        refine y_aload_n C dX8_next_261 0 rfl rfl ?_
        refine y_dup C dX8_next_262 rfl ?_
        refine yg_X8_104_wM0 C dX8_next_263 ?_
        refine y_iconst C dX8_next_266 ic_1 ?_
        refine y_iadd C dX8_next_267 ?_
        refine yp_X8_104_wM0 C M dX8_next_268 ?_
        refine y_goto C (tgt := 208) dX8_next_271 rfl ?_
        exact Y.sub (ih (sI (sI S 0 10 1000000) 0 7 (((sI S 0 10 1000000).1 0 7) + 1)) (h_45)) [0] rfl
set_option maxRecDepth 100000 in
theorem wk_m_next_b153 {G : Gx} {K : Kx} {A : Nat → Nat} (C : KOk G K RX8 cX8_next rm_m_next 2 none) {B : Nat → Prop} (M : KM G K B) {Q : St → Prop} (N : KQv G K B (wM G A) Q) (K102 : St → Int32 → Prop) (hK102 : ∀ (S : St) (x1 : Int32), K102 S x1 → Y G K 0 0 (wM G A S) 102 [(0, .ref (A 0)), (1, .int (x1))] []) (S : St) (x1 : Int32) (s0 : Int64) (h : wp_m_next_b153 Q K102 S x1 s0) : Y G K 0 0 (wM G A S) 153 [(0, .ref (A 0)), (1, .int (x1))] [.long (s0), .ref (A 0)] := by
  refine yp_X8_117_wM0 C M dX8_next_153 ?_
  refine y_iload_n C dX8_next_156 1 rfl rfl ?_
  refine y_bipush C dX8_next_157 bp_11 ?_
  refine y_icmp_le C (tgt := 169) dX8_next_159 rfl (fun c_55 => ?_) (fun c_55 => ?_)
  · have h_56 := (h).1 c_55
    refine y_aload_n C dX8_next_169 0 rfl rfl ?_
    refine y_dup C dX8_next_170 rfl ?_
    refine yg_X8_104_wM0 C dX8_next_171 ?_
    refine y_iconst C dX8_next_174 ic_1 ?_
    refine y_iadd C dX8_next_175 ?_
    refine yp_X8_104_wM0 C M dX8_next_176 ?_
    refine y_iinc C dX8_next_179 1 rfl (Nat.le_of_ble_eq_true rfl) (ii_1 _) [(1, .int ((x1 + 1))), (0, .ref (A 0))] rfl ?_
    refine y_goto C (tgt := 102) dX8_next_182 rfl ?_
    exact Y.sub (hK102 (sI (sL S 0 11 s0) 0 7 (((sL S 0 11 s0).1 0 7) + 1)) ((x1 + 1)) (h_56)) [1, 0] rfl
  · have h_57 := (h).2 c_55
    refine y_aload_n C dX8_next_162 0 rfl rfl ?_
    refine y_ldc2 C dX8_next_163 q1764 ?_
    refine yp_X8_117_wM0 C M dX8_next_166 ?_
    refine y_aload_n C dX8_next_169 0 rfl rfl ?_
    refine y_dup C dX8_next_170 rfl ?_
    refine yg_X8_104_wM0 C dX8_next_171 ?_
    refine y_iconst C dX8_next_174 ic_1 ?_
    refine y_iadd C dX8_next_175 ?_
    refine yp_X8_104_wM0 C M dX8_next_176 ?_
    refine y_iinc C dX8_next_179 1 rfl (Nat.le_of_ble_eq_true rfl) (ii_1 _) [(1, .int ((x1 + 1))), (0, .ref (A 0))] rfl ?_
    refine y_goto C (tgt := 102) dX8_next_182 rfl ?_
    exact Y.sub (hK102 (sI (sL (sL S 0 11 s0) 0 11 (-1)) 0 7 (((sL (sL S 0 11 s0) 0 11 (-1)).1 0 7) + 1)) ((x1 + 1)) (h_57)) [1, 0] rfl
set_option maxRecDepth 100000 in
theorem wk_m_next_b102 {G : Gx} {K : Kx} {A : Nat → Nat} (C : KOk G K RX8 cX8_next rm_m_next 2 none) {B : Nat → Prop} (M : KM G K B) {Q : St → Prop} (N : KQv G K B (wM G A) Q) : ∀ (n : Nat), ∀ (S : St) (x1 : Int32), wp_m_next_b102 Q n S x1 → Y G K 0 0 (wM G A S) 102 [(0, .ref (A 0)), (1, .int (x1))] [] := by
  intro n
  induction n with
  | zero => intro S x1 h; exact h.elim
  | succ n ih =>
    intro S x1 h
    dsimp only [wp_m_next_b102] at h
    refine y_aload_n C dX8_next_102 0 rfl rfl ?_
    refine y_aload_n C dX8_next_103 0 rfl rfl ?_
    refine yg_X8_104_wM0 C dX8_next_104 ?_
    refine y_bipush C dX8_next_107 bp_97 ?_
    refine y_bipush C dX8_next_109 bp_122 ?_
    refine y_callRiV (As := [.int ((S.1 0 7)), .int (97), .int (122)]) (rest := []) C cs_X8_107 (met_m_isByte G A S ((S.1 0 7)) (97) (122) _ (h)) (fun _ h => h) (wM_0 ..) rfl rfl ⟨rfl, rfl, Nat.le_of_ble_eq_true rfl, Nat.le_of_ble_eq_true rfl⟩ rfl rfl (Nat.le_of_ble_eq_true rfl) dX8_next_111 ⟨Nat.zero_le _, Nat.zero_le _⟩ (fun r_46 h_47 => ?_)
    refine y_if_eq C (tgt := 185) dX8_next_114 rfl (fun c_49 => ?_) (fun c_49 => ?_)
    · have h_50 := (h_47).1 c_49
      refine y_goto C (tgt := 307) dX8_next_185 rfl ?_
      exact y_vretM C M N rfl (S := S) rfl (h_50) dX8_next_307
    · have h_51 := (h_47).2 c_49
      refine y_aload_n C dX8_next_117 0 rfl rfl ?_
      refine y_iload_n C dX8_next_118 1 rfl rfl ?_
      refine y_bipush C dX8_next_119 bp_11 ?_
      refine y_icmp_le C (tgt := 130) dX8_next_121 rfl (fun c_52 => ?_) (fun c_52 => ?_)
      · have h_53 := (h_51).1 c_52
        refine y_ldc2 C dX8_next_130 q1765 ?_
        refine y_aload_n C dX8_next_133 0 rfl rfl ?_
        refine yg_X8_117_wM0 C dX8_next_134 ?_
        refine y_lmul C dX8_next_137 ?_
        refine y_aload_n C dX8_next_138 0 rfl rfl ?_
        refine yg_X8_23_wM0 C dX8_next_139 ?_
        refine y_aload_n C dX8_next_142 0 rfl rfl ?_
        refine yg_X8_104_wM0 C dX8_next_143 ?_
        refine y_bald C (wM_5 ..) rfl (h_53).1 dX8_next_146 ?_
        refine y_i2l C dX8_next_147 rfl ?_
        refine y_ladd C dX8_next_148 ?_
        refine y_ldc2 C dX8_next_149 q1766 ?_
        refine y_lsub C dX8_next_152 ?_
        exact Y.sub (wk_m_next_b153 C M N (fun Sy y1 => wp_m_next_b102 Q n Sy y1) ih S (x1) ((((27 * (S.2 0 11)) + ((S.1 5 ((S.1 0 7)).toNatClampNeg)).toInt64) - 96)) ((h_53).2)) [0, 1] rfl
      · have h_54 := (h_51).2 c_52
        refine y_ldc2 C dX8_next_124 q1764 ?_
        refine y_goto C (tgt := 153) dX8_next_127 rfl ?_
        exact Y.sub (wk_m_next_b153 C M N (fun Sy y1 => wp_m_next_b102 Q n Sy y1) ih S (x1) ((-1)) (h_54)) [0, 1] rfl
set_option maxRecDepth 100000 in
theorem wk_m_next_b0 {G : Gx} {K : Kx} {A : Nat → Nat} (C : KOk G K RX8 cX8_next rm_m_next 2 none) {B : Nat → Prop} (M : KM G K B) {Q : St → Prop} (N : KQv G K B (wM G A) Q) : ∀ (n : Nat), ∀ (S : St), wp_m_next_b0 Q n S → Y G K 0 0 (wM G A S) 0 [(0, .ref (A 0))] [] := by
  intro n
  induction n with
  | zero => intro S h; exact h.elim
  | succ n ih =>
    intro S h
    dsimp only [wp_m_next_b0] at h
    refine y_aload_n C dX8_next_0 0 rfl rfl ?_
    refine y_aload_n C dX8_next_1 0 rfl rfl ?_
    refine yg_X8_104_wM0 C dX8_next_2 ?_
    refine y_bipush C dX8_next_5 bp_32 ?_
    refine y_bipush C dX8_next_7 bp_32 ?_
    refine y_callRiV (As := [.int ((S.1 0 7)), .int (32), .int (32)]) (rest := []) C cs_X8_107 (met_m_isByte G A S ((S.1 0 7)) (32) (32) _ (h)) (fun _ h => h) (wM_0 ..) rfl rfl ⟨rfl, rfl, Nat.le_of_ble_eq_true rfl, Nat.le_of_ble_eq_true rfl⟩ rfl rfl (Nat.le_of_ble_eq_true rfl) dX8_next_9 ⟨Nat.zero_le _, Nat.zero_le _⟩ (fun r_3 h_4 => ?_)
    refine y_if_ne C (tgt := 30) dX8_next_12 rfl (fun c_6 => ?_) (fun c_6 => ?_)
    · have h_7 := (h_4).1 c_6
      refine y_aload_n C dX8_next_30 0 rfl rfl ?_
      refine y_dup C dX8_next_31 rfl ?_
      refine yg_X8_104_wM0 C dX8_next_32 ?_
      refine y_iconst C dX8_next_35 ic_1 ?_
      refine y_iadd C dX8_next_36 ?_
      refine yp_X8_104_wM0 C M dX8_next_37 ?_
      refine y_goto C (tgt := 0) dX8_next_40 rfl ?_
      exact Y.sub (ih (sI S 0 7 ((S.1 0 7) + 1)) (h_7)) [0] rfl
    · have h_8 := (h_4).2 c_6
      refine y_aload_n C dX8_next_15 0 rfl rfl ?_
      refine y_aload_n C dX8_next_16 0 rfl rfl ?_
      refine yg_X8_104_wM0 C dX8_next_17 ?_
      refine y_bipush C dX8_next_20 bp_10 ?_
      refine y_bipush C dX8_next_22 bp_10 ?_
      refine y_callRiV (As := [.int ((S.1 0 7)), .int (10), .int (10)]) (rest := []) C cs_X8_107 (met_m_isByte G A S ((S.1 0 7)) (10) (10) _ (h_8)) (fun _ h => h) (wM_0 ..) rfl rfl ⟨rfl, rfl, Nat.le_of_ble_eq_true rfl, Nat.le_of_ble_eq_true rfl⟩ rfl rfl (Nat.le_of_ble_eq_true rfl) dX8_next_24 ⟨Nat.zero_le _, Nat.zero_le _⟩ (fun r_9 h_10 => ?_)
      refine y_if_eq C (tgt := 43) dX8_next_27 rfl (fun c_12 => ?_) (fun c_12 => ?_)
      · have h_13 := (h_10).1 c_12
        refine y_aload_n C dX8_next_43 0 rfl rfl ?_
        refine y_aload_n C dX8_next_44 0 rfl rfl ?_
        refine yg_X8_104_wM0 C dX8_next_45 ?_
        refine yp_X8_111_wM0 C M dX8_next_48 ?_
        refine y_aload_n C dX8_next_51 0 rfl rfl ?_
        refine y_iconst C dX8_next_52 ic_0 ?_
        refine yp_X8_114_wM0 C M dX8_next_53 ?_
        refine y_aload_n C dX8_next_56 0 rfl rfl ?_
        refine y_lconst C dX8_next_57 lc_0 ?_
        refine yp_X8_117_wM0 C M dX8_next_58 ?_
        refine y_aload_n C dX8_next_61 0 rfl rfl ?_
        refine yg_X8_104_wM0 C dX8_next_62 ?_
        refine y_aload_n C dX8_next_65 0 rfl rfl ?_
        refine yg_X8_97_wM0 C dX8_next_66 ?_
        refine y_icmp_ne C (tgt := 80) dX8_next_69 rfl (fun c_14 => ?_) (fun c_14 => ?_)
        · have h_15 := (h_13).1 c_14
          refine y_aload_n C dX8_next_80 0 rfl rfl ?_
          refine y_aload_n C dX8_next_81 0 rfl rfl ?_
          refine yg_X8_104_wM0 C dX8_next_82 ?_
          refine y_bipush C dX8_next_85 bp_97 ?_
          refine y_bipush C dX8_next_87 bp_122 ?_
          refine y_callRiV (As := [.int (((sL (sI (sI S 0 9 (S.1 0 7)) 0 10 0) 0 11 0).1 0 7)), .int (97), .int (122)]) (rest := []) C cs_X8_107 (met_m_isByte G A (sL (sI (sI S 0 9 (S.1 0 7)) 0 10 0) 0 11 0) (((sL (sI (sI S 0 9 (S.1 0 7)) 0 10 0) 0 11 0).1 0 7)) (97) (122) _ (h_15)) (fun _ h => h) (wM_0 ..) rfl rfl ⟨rfl, rfl, Nat.le_of_ble_eq_true rfl, Nat.le_of_ble_eq_true rfl⟩ rfl rfl (Nat.le_of_ble_eq_true rfl) dX8_next_89 ⟨Nat.zero_le _, Nat.zero_le _⟩ (fun r_16 h_17 => ?_)
          refine y_if_eq C (tgt := 188) dX8_next_92 rfl (fun c_19 => ?_) (fun c_19 => ?_)
          · have h_20 := (h_17).1 c_19
            refine y_aload_n C dX8_next_188 0 rfl rfl ?_
            refine y_aload_n C dX8_next_189 0 rfl rfl ?_
            refine yg_X8_104_wM0 C dX8_next_190 ?_
            refine y_bipush C dX8_next_193 bp_48 ?_
            refine y_bipush C dX8_next_195 bp_57 ?_
            refine y_callRiV (As := [.int (((sL (sI (sI S 0 9 (S.1 0 7)) 0 10 0) 0 11 0).1 0 7)), .int (48), .int (57)]) (rest := []) C cs_X8_107 (met_m_isByte G A (sL (sI (sI S 0 9 (S.1 0 7)) 0 10 0) 0 11 0) (((sL (sI (sI S 0 9 (S.1 0 7)) 0 10 0) 0 11 0).1 0 7)) (48) (57) _ (h_20)) (fun _ h => h) (wM_0 ..) rfl rfl ⟨rfl, rfl, Nat.le_of_ble_eq_true rfl, Nat.le_of_ble_eq_true rfl⟩ rfl rfl (Nat.le_of_ble_eq_true rfl) dX8_next_197 ⟨Nat.zero_le _, Nat.zero_le _⟩ (fun r_21 h_22 => ?_)
            refine y_if_eq C (tgt := 274) dX8_next_200 rfl (fun c_24 => ?_) (fun c_24 => ?_)
            · have h_25 := (h_22).1 c_24
              refine y_aload_n C dX8_next_274 0 rfl rfl ?_
              refine y_aload_n C dX8_next_275 0 rfl rfl ?_
              refine yg_X8_23_wM0 C dX8_next_276 ?_
              refine y_aload_n C dX8_next_279 0 rfl rfl ?_
              refine yg_X8_104_wM0 C dX8_next_280 ?_
              refine y_bald C (wM_5 ..) rfl (h_25).1 dX8_next_283 ?_
              refine y_bipush C dX8_next_284 bp_59 ?_
              refine y_icmp_ne C (tgt := 293) dX8_next_286 rfl (fun c_26 => ?_) (fun c_26 => ?_)
              · have h_27 := ((h_25).2).1 c_26
                refine y_iconst C dX8_next_293 ic_4 ?_
                refine yp_X8_121_wM0 C M dX8_next_294 ?_
                refine y_aload_n C dX8_next_297 0 rfl rfl ?_
                refine y_dup C dX8_next_298 rfl ?_
                refine yg_X8_104_wM0 C dX8_next_299 ?_
                refine y_iconst C dX8_next_302 ic_1 ?_
                refine y_iadd C dX8_next_303 ?_
                refine yp_X8_104_wM0 C M dX8_next_304 ?_
                exact y_vretM C M N rfl (S := (sI (sI (sL (sI (sI S 0 9 (S.1 0 7)) 0 10 0) 0 11 0) 0 8 4) 0 7 (((sI (sL (sI (sI S 0 9 (S.1 0 7)) 0 10 0) 0 11 0) 0 8 4).1 0 7) + 1))) rfl (h_27) dX8_next_307
              · have h_28 := ((h_25).2).2 c_26
                refine y_iconst C dX8_next_289 ic_3 ?_
                refine y_goto C (tgt := 294) dX8_next_290 rfl ?_
                refine yp_X8_121_wM0 C M dX8_next_294 ?_
                refine y_aload_n C dX8_next_297 0 rfl rfl ?_
                refine y_dup C dX8_next_298 rfl ?_
                refine yg_X8_104_wM0 C dX8_next_299 ?_
                refine y_iconst C dX8_next_302 ic_1 ?_
                refine y_iadd C dX8_next_303 ?_
                refine yp_X8_104_wM0 C M dX8_next_304 ?_
                exact y_vretM C M N rfl (S := (sI (sI (sL (sI (sI S 0 9 (S.1 0 7)) 0 10 0) 0 11 0) 0 8 3) 0 7 (((sI (sL (sI (sI S 0 9 (S.1 0 7)) 0 10 0) 0 11 0) 0 8 3).1 0 7) + 1))) rfl (h_28) dX8_next_307
            · have h_29 := (h_22).2 c_24
              refine y_aload_n C dX8_next_203 0 rfl rfl ?_
              refine y_iconst C dX8_next_204 ic_2 ?_
              refine yp_X8_121_wM0 C M dX8_next_205 ?_
              obtain ⟨n_30, h_31⟩ := h_29
              exact Y.sub (wk_m_next_b208 C M N n_30 (sI (sL (sI (sI S 0 9 (S.1 0 7)) 0 10 0) 0 11 0) 0 8 2) h_31) [0] rfl
          · have h_32 := (h_17).2 c_19
            refine y_aload_n C dX8_next_95 0 rfl rfl ?_
            refine y_iconst C dX8_next_96 ic_1 ?_
            refine yp_X8_121_wM0 C M dX8_next_97 ?_
            refine y_iconst C dX8_next_100 ic_0 ?_
            refine y_istore_n C dX8_next_101 rfl (Nat.le_of_ble_eq_true rfl) [(1, .int (0)), (0, .ref (A 0))] rfl ?_
            obtain ⟨n_33, h_34⟩ := h_32
            exact Y.sub (wk_m_next_b102 C M N n_33 (sI (sL (sI (sI S 0 9 (S.1 0 7)) 0 10 0) 0 11 0) 0 8 1) (0) h_34) [1, 0] rfl
        · have h_35 := (h_13).2 c_14
          refine y_aload_n C dX8_next_72 0 rfl rfl ?_
          refine y_iconst C dX8_next_73 ic_0 ?_
          refine yp_X8_121_wM0 C M dX8_next_74 ?_
          refine y_goto C (tgt := 307) dX8_next_77 rfl ?_
          exact y_vretM C M N rfl (S := (sI (sL (sI (sI S 0 9 (S.1 0 7)) 0 10 0) 0 11 0) 0 8 0)) rfl (h_35) dX8_next_307
      · have h_36 := (h_10).2 c_12
        refine y_aload_n C dX8_next_30 0 rfl rfl ?_
        refine y_dup C dX8_next_31 rfl ?_
        refine yg_X8_104_wM0 C dX8_next_32 ?_
        refine y_iconst C dX8_next_35 ic_1 ?_
        refine y_iadd C dX8_next_36 ?_
        refine yp_X8_104_wM0 C M dX8_next_37 ?_
        refine y_goto C (tgt := 0) dX8_next_40 rfl ?_
        exact Y.sub (ih (sI S 0 7 ((S.1 0 7) + 1)) (h_36)) [0] rfl
set_option maxRecDepth 100000 in
theorem met_m_next (G : Gx) (A : Nat → Nat) (S : St) (Q : St → Prop) (h : wp_m_next S Q) : Mv G yX8_next (ws_ yX8_next cX8_next 2 none) rm_m_next (wM G A S) [.ref (A 0)] (wM G A) Q := by
  refine ent_Mv (by decide +kernel) rfl (Nat.le_of_ble_eq_true rfl) [(0, .ref (A 0))] rfl (fun K B C M N => ?_)
  obtain ⟨n_1, h_2⟩ := h
  exact Y.sub (wk_m_next_b0 C M N n_1 S h_2) [0] rfl
/-! OverHillModel number(II)I: m_number_2 -/
abbrev rm_m_number_2 : Room := { frames := 3, cells := 0, slots := 0, locals := 84 }
def wp_m_number_2 (S : St) (x1 : Int32) (x2 : Int32) (Q : Int32 → St → Prop) : Prop :=
  (((S.1 0 12) = 0 → (((S.1 0 8) = 2 → wp_m_in (((S.1 0 10)).toInt64) ((x1).toInt64) ((x2).toInt64) (fun r_5 => ((¬ r_5 = 0 → wp_m_next S (fun S_12 => Q (S.1 0 10) S_12)) ∧ (r_5 = 0 → wp_m_fails S (2) (fun S_16 => Q x1 S_16))))) ∧ (¬ (S.1 0 8) = 2 → wp_m_fails S (1) (fun S_20 => Q x1 S_20)))) ∧ (¬ (S.1 0 12) = 0 → Q x1 S))
set_option maxRecDepth 100000 in
theorem met_m_number_2 (G : Gx) (A : Nat → Nat) (S : St) (x1 : Int32) (x2 : Int32) (Q : Int32 → St → Prop) (h : wp_m_number_2 S x1 x2 Q) : Mi G yX8_number_2 (ws_ yX8_number_2 cX8_number_2 4 (some .int)) rm_m_number_2 (wM G A S) [.ref (A 0), .int (x1), .int (x2)] (wM G A) Q := by
  refine ent_Mi (by decide +kernel) rfl (Nat.le_of_ble_eq_true rfl) [(0, .ref (A 0)), (1, .int (x1)), (2, .int (x2))] rfl (fun K B C M N => ?_)
  refine y_aload_n C dX8_number_2_0 0 rfl rfl ?_
  refine yg_X8_132_wM0 C dX8_number_2_1 ?_
  refine y_if_eq C (tgt := 9) dX8_number_2_4 rfl (fun c_1 => ?_) (fun c_1 => ?_)
  · have h_2 := (h).1 c_1
    refine y_aload_n C dX8_number_2_9 0 rfl rfl ?_
    refine yg_X8_121_wM0 C dX8_number_2_10 ?_
    refine y_iconst C dX8_number_2_13 ic_2 ?_
    refine y_icmp_eq C (tgt := 24) dX8_number_2_14 rfl (fun c_3 => ?_) (fun c_3 => ?_)
    · have h_4 := (h_2).1 c_3
      refine y_aload_n C dX8_number_2_24 0 rfl rfl ?_
      refine yg_X8_114_wM0 C dX8_number_2_25 ?_
      refine y_i2l C dX8_number_2_28 rfl ?_
      refine y_iload_n C dX8_number_2_29 1 rfl rfl ?_
      refine y_i2l C dX8_number_2_30 rfl ?_
      refine y_iload_n C dX8_number_2_31 2 rfl rfl ?_
      refine y_i2l C dX8_number_2_32 rfl ?_
      refine y_callRiS (As := [.long (((S.1 0 10)).toInt64), .long ((x1).toInt64), .long ((x2).toInt64)]) (rest := []) C cs_X8_85 (met_m_in G (((S.1 0 10)).toInt64) ((x1).toInt64) ((x2).toInt64) _ (h_4)) (fun _ _ => pw_nil) ⟨rfl, rfl, Nat.le_of_ble_eq_true rfl, Nat.le_of_ble_eq_true rfl⟩ rfl rfl (Nat.le_of_ble_eq_true rfl) dX8_number_2_33 ⟨Nat.zero_le _, Nat.zero_le _⟩ (fun r_5 h_6 => ?_)
      refine y_if_ne C (tgt := 46) dX8_number_2_36 rfl (fun c_8 => ?_) (fun c_8 => ?_)
      · have h_9 := (h_6).1 c_8
        refine y_aload_n C dX8_number_2_46 0 rfl rfl ?_
        refine yg_X8_114_wM0 C dX8_number_2_47 ?_
        refine y_istore_n C dX8_number_2_50 rfl (Nat.le_of_ble_eq_true rfl) [(3, .int ((S.1 0 10))), (0, .ref (A 0)), (1, .int (x1)), (2, .int (x2))] rfl ?_
        refine y_aload_n C dX8_number_2_51 1 rfl rfl ?_
        refine y_callMvV (k' := 0) (n' := 0) (As := []) (rest := []) C M cs_X8_142 (met_m_next G A S _ (h_9)) (wM_0 ..) rfl rfl ⟨rfl, rfl, Nat.le_of_ble_eq_true rfl, Nat.le_of_ble_eq_true rfl⟩ rfl rfl (Nat.le_of_ble_eq_true rfl) dX8_number_2_52 ⟨Nat.zero_le _, Nat.zero_le _⟩ rfl rfl (fun S_12 h_11 => ?_)
        refine y_iload_n C dX8_number_2_55 0 rfl rfl ?_
        exact y_iretM C M N rfl (S := S_12) rfl (h_11) dX8_number_2_56
      · have h_13 := (h_6).2 c_8
        refine y_aload_n C dX8_number_2_39 0 rfl rfl ?_
        refine y_iconst C dX8_number_2_40 ic_2 ?_
        refine y_callMvV (k' := 0) (n' := 0) (As := [.int (2)]) (rest := []) C M cs_X8_148 (met_m_fails G A S (2) _ (h_13)) (wM_0 ..) rfl rfl ⟨rfl, rfl, Nat.le_of_ble_eq_true rfl, Nat.le_of_ble_eq_true rfl⟩ rfl rfl (Nat.le_of_ble_eq_true rfl) dX8_number_2_41 ⟨Nat.zero_le _, Nat.zero_le _⟩ rfl rfl (fun S_16 h_15 => ?_)
        refine y_iload_n C dX8_number_2_44 1 rfl rfl ?_
        exact y_iretM C M N rfl (S := S_16) rfl (h_15) dX8_number_2_45
    · have h_17 := (h_2).2 c_3
      refine y_aload_n C dX8_number_2_17 0 rfl rfl ?_
      refine y_iconst C dX8_number_2_18 ic_1 ?_
      refine y_callMvV (k' := 0) (n' := 0) (As := [.int (1)]) (rest := []) C M cs_X8_148 (met_m_fails G A S (1) _ (h_17)) (wM_0 ..) rfl rfl ⟨rfl, rfl, Nat.le_of_ble_eq_true rfl, Nat.le_of_ble_eq_true rfl⟩ rfl rfl (Nat.le_of_ble_eq_true rfl) dX8_number_2_19 ⟨Nat.zero_le _, Nat.zero_le _⟩ rfl rfl (fun S_20 h_19 => ?_)
      refine y_iload_n C dX8_number_2_22 1 rfl rfl ?_
      exact y_iretM C M N rfl (S := S_20) rfl (h_19) dX8_number_2_23
  · have h_21 := (h).2 c_1
    refine y_iload_n C dX8_number_2_7 1 rfl rfl ?_
    exact y_iretM C M N rfl (S := S) rfl (h_21) dX8_number_2_8
/-! OverHillModel is(J)Z: m_is -/
abbrev rm_m_is : Room := { frames := 1, cells := 0, slots := 0, locals := 40 }
def wp_m_is (S : St) (x1 : Int64) (Q : Int32 → Prop) : Prop :=
  ((¬ (S.1 0 12) = 0 → Q 0) ∧ ((S.1 0 12) = 0 → ((¬ (S.1 0 8) = 1 → Q 0) ∧ ((S.1 0 8) = 1 → ((¬ (lg_cmp (S.2 0 11) x1) = 0 → Q 0) ∧ ((lg_cmp (S.2 0 11) x1) = 0 → Q 1))))))
set_option maxRecDepth 100000 in
theorem met_m_is (G : Gx) (A : Nat → Nat) (S : St) (x1 : Int64) (Q : Int32 → Prop) (h : wp_m_is S x1 Q) : Ri G yX8_is (ws_ yX8_is cX8_is 3 (some .boolean)) rm_m_is (wM G A S) [.ref (A 0), .long (x1)] Q := by
  refine ent_Ri (by decide +kernel) rfl (Nat.le_of_ble_eq_true rfl) [(0, .ref (A 0)), (1, .long (x1))] rfl (fun K C N => ?_)
  refine y_aload_n C dX8_is_0 0 rfl rfl ?_
  refine yg_X8_132_wM0 C dX8_is_1 ?_
  refine y_if_ne C (tgt := 28) dX8_is_4 rfl (fun c_1 => ?_) (fun c_1 => ?_)
  · have h_2 := (h).1 c_1
    refine y_iconst C dX8_is_28 ic_0 ?_
    exact y_zretR C N rfl rfl (h_2) dX8_is_29
  · have h_3 := (h).2 c_1
    refine y_aload_n C dX8_is_7 0 rfl rfl ?_
    refine yg_X8_121_wM0 C dX8_is_8 ?_
    refine y_iconst C dX8_is_11 ic_1 ?_
    refine y_icmp_ne C (tgt := 28) dX8_is_12 rfl (fun c_4 => ?_) (fun c_4 => ?_)
    · have h_5 := (h_3).1 c_4
      refine y_iconst C dX8_is_28 ic_0 ?_
      exact y_zretR C N rfl rfl (h_5) dX8_is_29
    · have h_6 := (h_3).2 c_4
      refine y_aload_n C dX8_is_15 0 rfl rfl ?_
      refine yg_X8_117_wM0 C dX8_is_16 ?_
      refine y_lload_n C dX8_is_19 1 rfl rfl ?_
      refine y_lcmp C dX8_is_20 ?_
      refine y_if_ne C (tgt := 28) dX8_is_21 rfl (fun c_7 => ?_) (fun c_7 => ?_)
      · have h_8 := (h_6).1 c_7
        refine y_iconst C dX8_is_28 ic_0 ?_
        exact y_zretR C N rfl rfl (h_8) dX8_is_29
      · have h_9 := (h_6).2 c_7
        refine y_iconst C dX8_is_24 ic_1 ?_
        refine y_goto C (tgt := 29) dX8_is_25 rfl ?_
        exact y_zretR C N rfl rfl (h_9) dX8_is_29
/-! OverHillModel takes(J)Z: m_takes -/
abbrev rm_m_takes : Room := { frames := 3, cells := 0, slots := 0, locals := 84 }
def wp_m_takes (S : St) (x1 : Int64) (Q : Int32 → St → Prop) : Prop :=
  wp_m_is S (x1) (fun r_1 => ((¬ r_1 = 0 → wp_m_next S (fun S_8 => Q 1 S_8)) ∧ (r_1 = 0 → Q 0 S)))
set_option maxRecDepth 100000 in
theorem met_m_takes (G : Gx) (A : Nat → Nat) (S : St) (x1 : Int64) (Q : Int32 → St → Prop) (h : wp_m_takes S x1 Q) : Mi G yX8_takes (ws_ yX8_takes cX8_takes 3 (some .boolean)) rm_m_takes (wM G A S) [.ref (A 0), .long (x1)] (wM G A) Q := by
  refine ent_Mi (by decide +kernel) rfl (Nat.le_of_ble_eq_true rfl) [(0, .ref (A 0)), (1, .long (x1))] rfl (fun K B C M N => ?_)
  refine y_aload_n C dX8_takes_0 0 rfl rfl ?_
  refine y_lload_n C dX8_takes_1 1 rfl rfl ?_
  refine y_callRiV (As := [.long (x1)]) (rest := []) C cs_X8_138 (met_m_is G A S (x1) _ (h)) (fun _ h => h) (wM_0 ..) rfl rfl ⟨rfl, rfl, Nat.le_of_ble_eq_true rfl, Nat.le_of_ble_eq_true rfl⟩ rfl rfl (Nat.le_of_ble_eq_true rfl) dX8_takes_2 ⟨Nat.zero_le _, Nat.zero_le _⟩ (fun r_1 h_2 => ?_)
  refine y_if_ne C (tgt := 10) dX8_takes_5 rfl (fun c_4 => ?_) (fun c_4 => ?_)
  · have h_5 := (h_2).1 c_4
    refine y_aload_n C dX8_takes_10 0 rfl rfl ?_
    refine y_callMvV (k' := 0) (n' := 0) (As := []) (rest := []) C M cs_X8_142 (met_m_next G A S _ (h_5)) (wM_0 ..) rfl rfl ⟨rfl, rfl, Nat.le_of_ble_eq_true rfl, Nat.le_of_ble_eq_true rfl⟩ rfl rfl (Nat.le_of_ble_eq_true rfl) dX8_takes_11 ⟨Nat.zero_le _, Nat.zero_le _⟩ rfl rfl (fun S_8 h_7 => ?_)
    refine y_iconst C dX8_takes_14 ic_1 ?_
    exact y_zretM C M N rfl rfl (S := S_8) rfl (h_7) dX8_takes_15
  · have h_9 := (h_2).2 c_4
    refine y_iconst C dX8_takes_8 ic_0 ?_
    exact y_zretM C M N rfl rfl (S := S) rfl (h_9) dX8_takes_9
/-! OverHillModel asks(J)V: m_asks -/
abbrev rm_m_asks : Room := { frames := 4, cells := 0, slots := 0, locals := 106 }
def wp_m_asks (S : St) (x1 : Int64) (Q : St → Prop) : Prop :=
  wp_m_takes S (x1) (fun r_1 S_3 => ((¬ r_1 = 0 → Q S_3) ∧ (r_1 = 0 → wp_m_fails S_3 (1) (fun S_9 => Q S_9))))
set_option maxRecDepth 100000 in
theorem met_m_asks (G : Gx) (A : Nat → Nat) (S : St) (x1 : Int64) (Q : St → Prop) (h : wp_m_asks S x1 Q) : Mv G yX8_asks (ws_ yX8_asks cX8_asks 3 none) rm_m_asks (wM G A S) [.ref (A 0), .long (x1)] (wM G A) Q := by
  refine ent_Mv (by decide +kernel) rfl (Nat.le_of_ble_eq_true rfl) [(0, .ref (A 0)), (1, .long (x1))] rfl (fun K B C M N => ?_)
  refine y_aload_n C dX8_asks_0 0 rfl rfl ?_
  refine y_lload_n C dX8_asks_1 1 rfl rfl ?_
  refine y_callMiV (k' := 0) (n' := 0) (As := [.long (x1)]) (rest := []) C M cs_X8_145 (met_m_takes G A S (x1) _ (h)) (wM_0 ..) rfl rfl ⟨rfl, rfl, Nat.le_of_ble_eq_true rfl, Nat.le_of_ble_eq_true rfl⟩ rfl rfl (Nat.le_of_ble_eq_true rfl) dX8_asks_2 ⟨Nat.zero_le _, Nat.zero_le _⟩ rfl rfl (fun r_1 S_3 h_2 => ?_)
  refine y_if_ne C (tgt := 13) dX8_asks_5 rfl (fun c_4 => ?_) (fun c_4 => ?_)
  · have h_5 := (h_2).1 c_4
    exact y_vretM C M N rfl (S := S_3) rfl (h_5) dX8_asks_13
  · have h_6 := (h_2).2 c_4
    refine y_aload_n C dX8_asks_8 0 rfl rfl ?_
    refine y_iconst C dX8_asks_9 ic_1 ?_
    refine y_callMvV (k' := 0) (n' := 0) (As := [.int (1)]) (rest := []) C M cs_X8_148 (met_m_fails G A S_3 (1) _ (h_6)) (wM_0 ..) rfl rfl ⟨rfl, rfl, Nat.le_of_ble_eq_true rfl, Nat.le_of_ble_eq_true rfl⟩ rfl rfl (Nat.le_of_ble_eq_true rfl) dX8_asks_10 ⟨Nat.zero_le _, Nat.zero_le _⟩ rfl rfl (fun S_9 h_8 => ?_)
    exact y_vretM C M N rfl (S := S_9) rfl (h_8) dX8_asks_13
/-! OverHillModel number(JII)I: m_number -/
abbrev rm_m_number : Room := { frames := 5, cells := 0, slots := 0, locals := 128 }
def wp_m_number (S : St) (x1 : Int64) (x3 : Int32) (x4 : Int32) (Q : Int32 → St → Prop) : Prop :=
  wp_m_asks S (x1) (fun S_3 => wp_m_number_2 S_3 (x3) (x4) (fun r_4 S_6 => Q r_4 S_6))
set_option maxRecDepth 100000 in
theorem met_m_number (G : Gx) (A : Nat → Nat) (S : St) (x1 : Int64) (x3 : Int32) (x4 : Int32) (Q : Int32 → St → Prop) (h : wp_m_number S x1 x3 x4 Q) : Mi G yX8_number (ws_ yX8_number cX8_number 5 (some .int)) rm_m_number (wM G A S) [.ref (A 0), .long (x1), .int (x3), .int (x4)] (wM G A) Q := by
  refine ent_Mi (by decide +kernel) rfl (Nat.le_of_ble_eq_true rfl) [(0, .ref (A 0)), (1, .long (x1)), (3, .int (x3)), (4, .int (x4))] rfl (fun K B C M N => ?_)
  refine y_aload_n C dX8_number_0 0 rfl rfl ?_
  refine y_lload_n C dX8_number_1 1 rfl rfl ?_
  refine y_callMvV (k' := 0) (n' := 0) (As := [.long (x1)]) (rest := []) C M cs_X8_151 (met_m_asks G A S (x1) _ (h)) (wM_0 ..) rfl rfl ⟨rfl, rfl, Nat.le_of_ble_eq_true rfl, Nat.le_of_ble_eq_true rfl⟩ rfl rfl (Nat.le_of_ble_eq_true rfl) dX8_number_2 ⟨Nat.zero_le _, Nat.zero_le _⟩ rfl rfl (fun S_3 h_2 => ?_)
  refine y_aload_n C dX8_number_5 0 rfl rfl ?_
  refine y_iload_n C dX8_number_6 2 rfl rfl ?_
  refine y_iload C dX8_number_7 3 rfl ?_
  refine y_callMiV (k' := 0) (n' := 0) (As := [.int (x3), .int (x4)]) (rest := []) C M cs_X8_155 (met_m_number_2 G A S_3 (x3) (x4) _ (h_2)) (wM_0 ..) rfl rfl ⟨rfl, rfl, Nat.le_of_ble_eq_true rfl, Nat.le_of_ble_eq_true rfl⟩ rfl rfl (Nat.le_of_ble_eq_true rfl) dX8_number_9 ⟨Nat.zero_le _, Nat.zero_le _⟩ rfl rfl (fun r_4 S_6 h_5 => ?_)
  exact y_iretM C M N rfl (S := S_6) rfl (h_5) dX8_number_12
/-! OverHillModel everyLine([III)V: m_everyLine_12 -/
abbrev rm_m_everyLine_12 : Room := { frames := 6, cells := 0, slots := 0, locals := 152 }
def wp_m_everyLine_12 (S : St) (x2 : Int32) (x3 : Int32) (Q : St → Prop) : Prop :=
  wp_m_number_2 S (1) (x3) (fun r_1 S_3 => (vp_in x2 120 ∧ (vp_in x2 120 ∧ wp_m_number (sI S_3 12 (x2).toNatClampNeg r_1) (47) (0) ((((sI S_3 12 (x2).toNatClampNeg r_1).1 12 (x2).toNatClampNeg) - 1)) (fun r_4 S_6 => (vp_in (x2 + 1) 120 ∧ Q (sI S_6 12 ((x2 + 1)).toNatClampNeg r_4))))))
set_option maxRecDepth 100000 in
theorem met_m_everyLine_12 (G : Gx) (A : Nat → Nat) (S : St) (x2 : Int32) (x3 : Int32) (Q : St → Prop) (h : wp_m_everyLine_12 S x2 x3 Q) : Mv G yX8_everyLine (ws_ yX8_everyLine cX8_everyLine 4 none) rm_m_everyLine_12 (wM G A S) [.ref (A 0), .ref (A 12), .int (x2), .int (x3)] (wM G A) Q := by
  refine ent_Mv (by decide +kernel) rfl (Nat.le_of_ble_eq_true rfl) [(0, .ref (A 0)), (1, .ref (A 12)), (2, .int (x2)), (3, .int (x3))] rfl (fun K B C M N => ?_)
  refine y_aload_n C dX8_everyLine_0 1 rfl rfl ?_
  refine y_iload_n C dX8_everyLine_1 2 rfl rfl ?_
  refine y_aload_n C dX8_everyLine_2 0 rfl rfl ?_
  refine y_iconst C dX8_everyLine_3 ic_1 ?_
  refine y_iload_n C dX8_everyLine_4 3 rfl rfl ?_
  refine y_callMiV (k' := 0) (n' := 0) (As := [.int (1), .int (x3)]) (rest := [.int (x2), .ref (A 12)]) C M cs_X8_155 (met_m_number_2 G A S (1) (x3) _ (h)) (wM_0 ..) rfl rfl ⟨rfl, rfl, Nat.le_of_ble_eq_true rfl, Nat.le_of_ble_eq_true rfl⟩ rfl rfl (Nat.le_of_ble_eq_true rfl) dX8_everyLine_5 ⟨Nat.zero_le _, Nat.zero_le _⟩ rfl rfl (fun r_1 S_3 h_2 => ?_)
  refine y_iast C M (wM_12 ..) rfl (wM_s12 ..) (h_2).1 dX8_everyLine_8 ?_
  refine y_aload_n C dX8_everyLine_9 1 rfl rfl ?_
  refine y_iload_n C dX8_everyLine_10 2 rfl rfl ?_
  refine y_iconst C dX8_everyLine_11 ic_1 ?_
  refine y_iadd C dX8_everyLine_12 ?_
  refine y_aload_n C dX8_everyLine_13 0 rfl rfl ?_
  refine y_ldc2 C dX8_everyLine_14 q1816 ?_
  refine y_iconst C dX8_everyLine_17 ic_0 ?_
  refine y_aload_n C dX8_everyLine_18 1 rfl rfl ?_
  refine y_iload_n C dX8_everyLine_19 2 rfl rfl ?_
  refine y_iald C (wM_12 ..) rfl ((h_2).2).1 dX8_everyLine_20 ?_
  refine y_iconst C dX8_everyLine_21 ic_1 ?_
  refine y_isub C dX8_everyLine_22 ?_
  refine y_callMiV (k' := 0) (n' := 0) (As := [.long (47), .int (0), .int ((((sI S_3 12 (x2).toNatClampNeg r_1).1 12 (x2).toNatClampNeg) - 1))]) (rest := [.int ((x2 + 1)), .ref (A 12)]) C M cs_X8_174 (met_m_number G A (sI S_3 12 (x2).toNatClampNeg r_1) (47) (0) ((((sI S_3 12 (x2).toNatClampNeg r_1).1 12 (x2).toNatClampNeg) - 1)) _ (((h_2).2).2)) (wM_0 ..) rfl rfl ⟨rfl, rfl, Nat.le_of_ble_eq_true rfl, Nat.le_of_ble_eq_true rfl⟩ rfl rfl (Nat.le_of_ble_eq_true rfl) dX8_everyLine_23 ⟨Nat.zero_le _, Nat.zero_le _⟩ rfl rfl (fun r_4 S_6 h_5 => ?_)
  refine y_iast C M (wM_12 ..) rfl (wM_s12 ..) (h_5).1 dX8_everyLine_26 ?_
  exact y_vretM C M N rfl (S := (sI S_6 12 ((x2 + 1)).toNatClampNeg r_4)) rfl ((h_5).2) dX8_everyLine_27
/-! OverHillModel everyLine([III)V: m_everyLine_13 -/
abbrev rm_m_everyLine_13 : Room := { frames := 6, cells := 0, slots := 0, locals := 152 }
def wp_m_everyLine_13 (S : St) (x2 : Int32) (x3 : Int32) (Q : St → Prop) : Prop :=
  wp_m_number_2 S (1) (x3) (fun r_1 S_3 => (vp_in x2 50 ∧ (vp_in x2 50 ∧ wp_m_number (sI S_3 13 (x2).toNatClampNeg r_1) (47) (0) ((((sI S_3 13 (x2).toNatClampNeg r_1).1 13 (x2).toNatClampNeg) - 1)) (fun r_4 S_6 => (vp_in (x2 + 1) 50 ∧ Q (sI S_6 13 ((x2 + 1)).toNatClampNeg r_4))))))
set_option maxRecDepth 100000 in
theorem met_m_everyLine_13 (G : Gx) (A : Nat → Nat) (S : St) (x2 : Int32) (x3 : Int32) (Q : St → Prop) (h : wp_m_everyLine_13 S x2 x3 Q) : Mv G yX8_everyLine (ws_ yX8_everyLine cX8_everyLine 4 none) rm_m_everyLine_13 (wM G A S) [.ref (A 0), .ref (A 13), .int (x2), .int (x3)] (wM G A) Q := by
  refine ent_Mv (by decide +kernel) rfl (Nat.le_of_ble_eq_true rfl) [(0, .ref (A 0)), (1, .ref (A 13)), (2, .int (x2)), (3, .int (x3))] rfl (fun K B C M N => ?_)
  refine y_aload_n C dX8_everyLine_0 1 rfl rfl ?_
  refine y_iload_n C dX8_everyLine_1 2 rfl rfl ?_
  refine y_aload_n C dX8_everyLine_2 0 rfl rfl ?_
  refine y_iconst C dX8_everyLine_3 ic_1 ?_
  refine y_iload_n C dX8_everyLine_4 3 rfl rfl ?_
  refine y_callMiV (k' := 0) (n' := 0) (As := [.int (1), .int (x3)]) (rest := [.int (x2), .ref (A 13)]) C M cs_X8_155 (met_m_number_2 G A S (1) (x3) _ (h)) (wM_0 ..) rfl rfl ⟨rfl, rfl, Nat.le_of_ble_eq_true rfl, Nat.le_of_ble_eq_true rfl⟩ rfl rfl (Nat.le_of_ble_eq_true rfl) dX8_everyLine_5 ⟨Nat.zero_le _, Nat.zero_le _⟩ rfl rfl (fun r_1 S_3 h_2 => ?_)
  refine y_iast C M (wM_13 ..) rfl (wM_s13 ..) (h_2).1 dX8_everyLine_8 ?_
  refine y_aload_n C dX8_everyLine_9 1 rfl rfl ?_
  refine y_iload_n C dX8_everyLine_10 2 rfl rfl ?_
  refine y_iconst C dX8_everyLine_11 ic_1 ?_
  refine y_iadd C dX8_everyLine_12 ?_
  refine y_aload_n C dX8_everyLine_13 0 rfl rfl ?_
  refine y_ldc2 C dX8_everyLine_14 q1816 ?_
  refine y_iconst C dX8_everyLine_17 ic_0 ?_
  refine y_aload_n C dX8_everyLine_18 1 rfl rfl ?_
  refine y_iload_n C dX8_everyLine_19 2 rfl rfl ?_
  refine y_iald C (wM_13 ..) rfl ((h_2).2).1 dX8_everyLine_20 ?_
  refine y_iconst C dX8_everyLine_21 ic_1 ?_
  refine y_isub C dX8_everyLine_22 ?_
  refine y_callMiV (k' := 0) (n' := 0) (As := [.long (47), .int (0), .int ((((sI S_3 13 (x2).toNatClampNeg r_1).1 13 (x2).toNatClampNeg) - 1))]) (rest := [.int ((x2 + 1)), .ref (A 13)]) C M cs_X8_174 (met_m_number G A (sI S_3 13 (x2).toNatClampNeg r_1) (47) (0) ((((sI S_3 13 (x2).toNatClampNeg r_1).1 13 (x2).toNatClampNeg) - 1)) _ (((h_2).2).2)) (wM_0 ..) rfl rfl ⟨rfl, rfl, Nat.le_of_ble_eq_true rfl, Nat.le_of_ble_eq_true rfl⟩ rfl rfl (Nat.le_of_ble_eq_true rfl) dX8_everyLine_23 ⟨Nat.zero_le _, Nat.zero_le _⟩ rfl rfl (fun r_4 S_6 h_5 => ?_)
  refine y_iast C M (wM_13 ..) rfl (wM_s13 ..) (h_5).1 dX8_everyLine_26 ?_
  exact y_vretM C M N rfl (S := (sI S_6 13 ((x2 + 1)).toNatClampNeg r_4)) rfl ((h_5).2) dX8_everyLine_27
/-! OverHillModel isSlot(I)Z: m_isSlot -/
abbrev rm_m_isSlot : Room := { frames := 2, cells := 0, slots := 0, locals := 65 }
def wp_m_isSlot (x0 : Int32) (Q : Int32 → Prop) : Prop :=
  wp_m_in ((x0).toInt64) (0) (3) (fun r_1 => (narrow .boolean (.int r_1) = .int r_1 ∧ Q r_1))
set_option maxRecDepth 100000 in
theorem met_m_isSlot (G : Gx) (x0 : Int32) (Q : Int32 → Prop) (h : wp_m_isSlot x0 Q) : Ri G yX8_isSlot (ws_ yX8_isSlot cX8_isSlot 1 (some .boolean)) rm_m_isSlot [] [.int (x0)] Q := by
  refine ent_Ri (by decide +kernel) rfl (Nat.le_of_ble_eq_true rfl) [(0, .int (x0))] rfl (fun K C N => ?_)
  refine y_iload_n C dX8_isSlot_0 0 rfl rfl ?_
  refine y_i2l C dX8_isSlot_1 rfl ?_
  refine y_lconst C dX8_isSlot_2 lc_0 ?_
  refine y_ldc2 C dX8_isSlot_3 q1709 ?_
  refine y_callRiS (As := [.long ((x0).toInt64), .long (0), .long (3)]) (rest := []) C cs_X8_85 (met_m_in G ((x0).toInt64) (0) (3) _ (h)) (fun _ h => h) ⟨rfl, rfl, Nat.le_of_ble_eq_true rfl, Nat.le_of_ble_eq_true rfl⟩ rfl rfl (Nat.le_of_ble_eq_true rfl) dX8_isSlot_6 ⟨Nat.zero_le _, Nat.zero_le _⟩ (fun r_1 h_2 => ?_)
  exact y_zretR C N rfl (h_2).1 ((h_2).2) dX8_isSlot_9
/-! OverHillModel row(III)I: m_row -/
abbrev rm_m_row : Room := { frames := 3, cells := 0, slots := 0, locals := 85 }
def wp_m_row_b57 (Q : Int32 → St → Prop) (x1 : Int32) (x3 : Int32) : Nat → St → Int32 → Prop
  | 0 => fun _ _ => False
  | n + 1 => fun S x4 => ((x3 ≤ x4 → Q 0 S) ∧ (¬ x3 ≤ x4 → (vp_in ((60 * x1) + x4) 240 ∧ wp_m_row_b57 Q x1 x3 n (sL S 3 (((60 * x1) + x4)).toNatClampNeg 0) ((x4 + 1)))))
def wp_m_row (S : St) (x1 : Int32) (x2 : Int32) (x3 : Int32) (Q : Int32 → St → Prop) : Prop :=
  wp_m_isSlot (x1) (fun r_1 => ((r_1 = 0 → Q (-2) (sI S 0 0 0)) ∧ (¬ r_1 = 0 → wp_m_in ((x2).toInt64) (0) (3) (fun r_7 => ((r_7 = 0 → Q (-2) (sI S 0 0 0)) ∧ (¬ r_7 = 0 → ((x3 ≤ 60 → ((0 ≤ x3 → (vp_in x1 4 ∧ (vp_in x1 4 ∧ (∃ z, wp_m_row_b57 Q (x1) (x3) z (sI (sI (sI S 0 0 0) 1 (x1).toNatClampNeg x2) 2 (x1).toNatClampNeg x3) (0))))) ∧ (¬ 0 ≤ x3 → Q (-3) (sI S 0 0 0)))) ∧ (¬ x3 ≤ 60 → Q (-2) (sI S 0 0 0)))))))))
set_option maxRecDepth 100000 in
theorem wk_m_row_b57 {G : Gx} {K : Kx} {A : Nat → Nat} (C : KOk G K RX8 cX8_row rm_m_row 5 (some .int)) {B : Nat → Prop} (M : KM G K B) {Q : Int32 → St → Prop} (N : KQi G K B (wM G A) Q) (x1 : Int32) (x3 : Int32) : ∀ (n : Nat), ∀ (S : St) (x4 : Int32), wp_m_row_b57 Q x1 x3 n S x4 → Y G K 0 0 (wM G A S) 57 [(0, .ref (A 0)), (1, .int (x1)), (3, .int (x3)), (4, .int (x4))] [] := by
  intro n
  induction n with
  | zero => intro S x4 h; exact h.elim
  | succ n ih =>
    intro S x4 h
    dsimp only [wp_m_row_b57] at h
    refine y_iload C dX8_row_57 3 rfl ?_
    refine y_iload_n C dX8_row_59 2 rfl rfl ?_
    refine y_icmp_ge C (tgt := 82) dX8_row_60 rfl (fun c_21 => ?_) (fun c_21 => ?_)
    · have h_22 := (h).1 c_21
      refine y_iconst C dX8_row_82 ic_0 ?_
      exact y_iretM C M N rfl (S := S) rfl (h_22) dX8_row_83
    · have h_23 := (h).2 c_21
      refine y_aload_n C dX8_row_63 0 rfl rfl ?_
      refine yg_X8_16_wM0 C dX8_row_64 ?_
      refine y_bipush C dX8_row_67 bp_60 ?_
      refine y_iload_n C dX8_row_69 1 rfl rfl ?_
      refine y_imul C dX8_row_70 ?_
      refine y_iload C dX8_row_71 3 rfl ?_
      refine y_iadd C dX8_row_73 ?_
      refine y_lconst C dX8_row_74 lc_0 ?_
      refine y_last C M (wM_3 ..) rfl (wM_s3 ..) (h_23).1 dX8_row_75 ?_
      refine y_iinc C dX8_row_76 3 rfl (Nat.le_of_ble_eq_true rfl) (ii_1 _) [(4, .int ((x4 + 1))), (0, .ref (A 0)), (1, .int (x1)), (3, .int (x3))] rfl ?_
      refine y_goto C (tgt := 57) dX8_row_79 rfl ?_
      exact Y.sub (ih (sL S 3 (((60 * x1) + x4)).toNatClampNeg 0) ((x4 + 1)) ((h_23).2)) [1, 2, 3, 0] rfl
set_option maxRecDepth 100000 in
theorem met_m_row (G : Gx) (A : Nat → Nat) (S : St) (x1 : Int32) (x2 : Int32) (x3 : Int32) (Q : Int32 → St → Prop) (h : wp_m_row S x1 x2 x3 Q) : Mi G yX8_row (ws_ yX8_row cX8_row 5 (some .int)) rm_m_row (wM G A S) [.ref (A 0), .int (x1), .int (x2), .int (x3)] (wM G A) Q := by
  refine ent_Mi (by decide +kernel) rfl (Nat.le_of_ble_eq_true rfl) [(0, .ref (A 0)), (1, .int (x1)), (2, .int (x2)), (3, .int (x3))] rfl (fun K B C M N => ?_)
  refine y_aload_n C dX8_row_0 0 rfl rfl ?_
  refine y_iconst C dX8_row_1 ic_0 ?_
  refine yp_X8_80_wM0 C M dX8_row_2 ?_
  refine y_iload_n C dX8_row_5 1 rfl rfl ?_
  refine y_callRiS (As := [.int (x1)]) (rest := []) C cs_X8_89 (met_m_isSlot G (x1) _ (h)) (fun _ _ => pw_nil) ⟨rfl, rfl, Nat.le_of_ble_eq_true rfl, Nat.le_of_ble_eq_true rfl⟩ rfl rfl (Nat.le_of_ble_eq_true rfl) dX8_row_6 ⟨Nat.zero_le _, Nat.zero_le _⟩ (fun r_1 h_2 => ?_)
  refine y_if_eq C (tgt := 30) dX8_row_9 rfl (fun c_4 => ?_) (fun c_4 => ?_)
  · have h_5 := (h_2).1 c_4
    refine y_bipush C dX8_row_30 bpm2 ?_
    exact y_iretM C M N rfl (S := (sI S 0 0 0)) rfl (h_5) dX8_row_32
  · have h_6 := (h_2).2 c_4
    refine y_iload_n C dX8_row_12 2 rfl rfl ?_
    refine y_i2l C dX8_row_13 rfl ?_
    refine y_lconst C dX8_row_14 lc_0 ?_
    refine y_ldc2 C dX8_row_15 q1709 ?_
    refine y_callRiS (As := [.long ((x2).toInt64), .long (0), .long (3)]) (rest := []) C cs_X8_85 (met_m_in G ((x2).toInt64) (0) (3) _ (h_6)) (fun _ _ => pw_nil) ⟨rfl, rfl, Nat.le_of_ble_eq_true rfl, Nat.le_of_ble_eq_true rfl⟩ rfl rfl (Nat.le_of_ble_eq_true rfl) dX8_row_18 ⟨Nat.zero_le _, Nat.zero_le _⟩ (fun r_7 h_8 => ?_)
    refine y_if_eq C (tgt := 30) dX8_row_21 rfl (fun c_10 => ?_) (fun c_10 => ?_)
    · have h_11 := (h_8).1 c_10
      refine y_bipush C dX8_row_30 bpm2 ?_
      exact y_iretM C M N rfl (S := (sI S 0 0 0)) rfl (h_11) dX8_row_32
    · have h_12 := (h_8).2 c_10
      refine y_iload_n C dX8_row_24 3 rfl rfl ?_
      refine y_bipush C dX8_row_25 bp_60 ?_
      refine y_icmp_le C (tgt := 33) dX8_row_27 rfl (fun c_13 => ?_) (fun c_13 => ?_)
      · have h_14 := (h_12).1 c_13
        refine y_iload_n C dX8_row_33 3 rfl rfl ?_
        refine y_if_ge C (tgt := 40) dX8_row_34 rfl (fun c_15 => ?_) (fun c_15 => ?_)
        · have h_16 := (h_14).1 c_15
          refine y_aload_n C dX8_row_40 0 rfl rfl ?_
          refine yg_X8_7_wM0 C dX8_row_41 ?_
          refine y_iload_n C dX8_row_44 1 rfl rfl ?_
          refine y_iload_n C dX8_row_45 2 rfl rfl ?_
          refine y_iast C M (wM_1 ..) rfl (wM_s1 ..) (h_16).1 dX8_row_46 ?_
          refine y_aload_n C dX8_row_47 0 rfl rfl ?_
          refine yg_X8_13_wM0 C dX8_row_48 ?_
          refine y_iload_n C dX8_row_51 1 rfl rfl ?_
          refine y_iload_n C dX8_row_52 3 rfl rfl ?_
          refine y_iast C M (wM_2 ..) rfl (wM_s2 ..) ((h_16).2).1 dX8_row_53 ?_
          refine y_iconst C dX8_row_54 ic_0 ?_
          refine y_istore C dX8_row_55 (Nat.le_of_ble_eq_true rfl) [(4, .int (0)), (0, .ref (A 0)), (1, .int (x1)), (2, .int (x2)), (3, .int (x3))] rfl ?_
          obtain ⟨n_17, h_18⟩ := ((h_16).2).2
          exact Y.sub (wk_m_row_b57 C M N (x1) (x3) n_17 (sI (sI (sI S 0 0 0) 1 (x1).toNatClampNeg x2) 2 (x1).toNatClampNeg x3) (0) h_18) [1, 2, 4, 0] rfl
        · have h_19 := (h_14).2 c_15
          refine y_bipush C dX8_row_37 bpm3 ?_
          exact y_iretM C M N rfl (S := (sI S 0 0 0)) rfl (h_19) dX8_row_39
      · have h_20 := (h_12).2 c_13
        refine y_bipush C dX8_row_30 bpm2 ?_
        exact y_iretM C M N rfl (S := (sI S 0 0 0)) rfl (h_20) dX8_row_32
/-! OverHillModel cut(JI)J: m_cut -/
abbrev rm_m_cut : Room := { frames := 1, cells := 0, slots := 0, locals := 40 }
def wp_m_cut (x0 : Int64) (x2 : Int32) (Q : Int64 → Prop) : Prop :=
  ((¬ x2 = 0 → ((¬ x2 = 1 → ((¬ x2 = 2 → Q x0) ∧ (x2 = 2 → Q ((x0).toInt32).toInt64))) ∧ (x2 = 1 → Q (((x0).toInt32).toInt16.toInt32).toInt64))) ∧ (x2 = 0 → Q (((x0).toInt32).toInt8.toInt32).toInt64))
set_option maxRecDepth 100000 in
theorem met_m_cut (G : Gx) (x0 : Int64) (x2 : Int32) (Q : Int64 → Prop) (h : wp_m_cut x0 x2 Q) : Rl G yX8_cut (ws_ yX8_cut cX8_cut 3 (some .long)) rm_m_cut [] [.long (x0), .int (x2)] Q := by
  refine ent_Rl (by decide +kernel) rfl (Nat.le_of_ble_eq_true rfl) [(0, .long (x0)), (2, .int (x2))] rfl (fun K C N => ?_)
  refine y_iload_n C dX8_cut_0 1 rfl rfl ?_
  refine y_if_ne C (tgt := 11) dX8_cut_1 rfl (fun c_1 => ?_) (fun c_1 => ?_)
  · have h_2 := (h).1 c_1
    refine y_iload_n C dX8_cut_11 1 rfl rfl ?_
    refine y_iconst C dX8_cut_12 ic_1 ?_
    refine y_icmp_ne C (tgt := 23) dX8_cut_13 rfl (fun c_3 => ?_) (fun c_3 => ?_)
    · have h_4 := (h_2).1 c_3
      refine y_iload_n C dX8_cut_23 1 rfl rfl ?_
      refine y_iconst C dX8_cut_24 ic_2 ?_
      refine y_icmp_ne C (tgt := 34) dX8_cut_25 rfl (fun c_5 => ?_) (fun c_5 => ?_)
      · have h_6 := (h_4).1 c_5
        refine y_lload_n C dX8_cut_34 0 rfl rfl ?_
        exact y_lretR C N rfl (h_6) dX8_cut_35
      · have h_7 := (h_4).2 c_5
        refine y_lload_n C dX8_cut_28 0 rfl rfl ?_
        refine y_l2i C dX8_cut_29 ?_
        refine y_i2l C dX8_cut_30 rfl ?_
        refine y_goto C (tgt := 35) dX8_cut_31 rfl ?_
        exact y_lretR C N rfl (h_7) dX8_cut_35
    · have h_8 := (h_2).2 c_3
      refine y_lload_n C dX8_cut_16 0 rfl rfl ?_
      refine y_l2i C dX8_cut_17 ?_
      refine y_i2s C dX8_cut_18 ?_
      refine y_i2l C dX8_cut_19 rfl ?_
      refine y_goto C (tgt := 35) dX8_cut_20 rfl ?_
      exact y_lretR C N rfl (h_8) dX8_cut_35
  · have h_9 := (h).2 c_1
    refine y_lload_n C dX8_cut_4 0 rfl rfl ?_
    refine y_l2i C dX8_cut_5 ?_
    refine y_i2b C dX8_cut_6 ?_
    refine y_i2l C dX8_cut_7 rfl ?_
    refine y_goto C (tgt := 35) dX8_cut_8 rfl ?_
    exact y_lretR C N rfl (h_9) dX8_cut_35
/-! OverHillModel write(IIJ)I: m_write -/
abbrev rm_m_write : Room := { frames := 3, cells := 0, slots := 0, locals := 85 }
def wp_m_write (S : St) (x1 : Int32) (x2 : Int32) (x3 : Int64) (Q : Int32 → St → Prop) : Prop :=
  wp_m_isSlot (x1) (fun r_1 => ((¬ r_1 = 0 → (vp_in x1 4 ∧ ((¬ ((sI S 0 0 0).1 1 (x1).toNatClampNeg) = (-1) → (vp_in x1 4 ∧ wp_m_in ((x2).toInt64) (0) (((((sI S 0 0 0).1 2 (x1).toNatClampNeg) - 1)).toInt64) (fun r_8 => ((¬ r_8 = 0 → (vp_in x1 4 ∧ wp_m_cut (x3) (((sI S 0 0 0).1 1 (x1).toNatClampNeg)) (fun r_13 => (vp_in ((60 * x1) + x2) 240 ∧ Q 0 (sL (sI S 0 0 0) 3 (((60 * x1) + x2)).toNatClampNeg r_13))))) ∧ (r_8 = 0 → Q (-7) (sI S 0 0 0)))))) ∧ (((sI S 0 0 0).1 1 (x1).toNatClampNeg) = (-1) → Q (-6) (sI S 0 0 0))))) ∧ (r_1 = 0 → Q (-2) (sI S 0 0 0))))
set_option maxRecDepth 100000 in
theorem met_m_write (G : Gx) (A : Nat → Nat) (S : St) (x1 : Int32) (x2 : Int32) (x3 : Int64) (Q : Int32 → St → Prop) (h : wp_m_write S x1 x2 x3 Q) : Mi G yX8_write (ws_ yX8_write cX8_write 5 (some .int)) rm_m_write (wM G A S) [.ref (A 0), .int (x1), .int (x2), .long (x3)] (wM G A) Q := by
  refine ent_Mi (by decide +kernel) rfl (Nat.le_of_ble_eq_true rfl) [(0, .ref (A 0)), (1, .int (x1)), (2, .int (x2)), (3, .long (x3))] rfl (fun K B C M N => ?_)
  refine y_aload_n C dX8_write_0 0 rfl rfl ?_
  refine y_iconst C dX8_write_1 ic_0 ?_
  refine yp_X8_80_wM0 C M dX8_write_2 ?_
  refine y_iload_n C dX8_write_5 1 rfl rfl ?_
  refine y_callRiS (As := [.int (x1)]) (rest := []) C cs_X8_89 (met_m_isSlot G (x1) _ (h)) (fun _ _ => pw_nil) ⟨rfl, rfl, Nat.le_of_ble_eq_true rfl, Nat.le_of_ble_eq_true rfl⟩ rfl rfl (Nat.le_of_ble_eq_true rfl) dX8_write_6 ⟨Nat.zero_le _, Nat.zero_le _⟩ (fun r_1 h_2 => ?_)
  refine y_if_ne C (tgt := 15) dX8_write_9 rfl (fun c_4 => ?_) (fun c_4 => ?_)
  · have h_5 := (h_2).1 c_4
    refine y_aload_n C dX8_write_15 0 rfl rfl ?_
    refine yg_X8_7_wM0 C dX8_write_16 ?_
    refine y_iload_n C dX8_write_19 1 rfl rfl ?_
    refine y_iald C (wM_1 ..) rfl (h_5).1 dX8_write_20 ?_
    refine y_iconst C dX8_write_21 icm1 ?_
    refine y_icmp_ne C (tgt := 28) dX8_write_22 rfl (fun c_6 => ?_) (fun c_6 => ?_)
    · have h_7 := ((h_5).2).1 c_6
      refine y_iload_n C dX8_write_28 2 rfl rfl ?_
      refine y_i2l C dX8_write_29 rfl ?_
      refine y_lconst C dX8_write_30 lc_0 ?_
      refine y_aload_n C dX8_write_31 0 rfl rfl ?_
      refine yg_X8_13_wM0 C dX8_write_32 ?_
      refine y_iload_n C dX8_write_35 1 rfl rfl ?_
      refine y_iald C (wM_2 ..) rfl (h_7).1 dX8_write_36 ?_
      refine y_iconst C dX8_write_37 ic_1 ?_
      refine y_isub C dX8_write_38 ?_
      refine y_i2l C dX8_write_39 rfl ?_
      refine y_callRiS (As := [.long ((x2).toInt64), .long (0), .long (((((sI S 0 0 0).1 2 (x1).toNatClampNeg) - 1)).toInt64)]) (rest := []) C cs_X8_85 (met_m_in G ((x2).toInt64) (0) (((((sI S 0 0 0).1 2 (x1).toNatClampNeg) - 1)).toInt64) _ ((h_7).2)) (fun _ _ => pw_nil) ⟨rfl, rfl, Nat.le_of_ble_eq_true rfl, Nat.le_of_ble_eq_true rfl⟩ rfl rfl (Nat.le_of_ble_eq_true rfl) dX8_write_40 ⟨Nat.zero_le _, Nat.zero_le _⟩ (fun r_8 h_9 => ?_)
      refine y_if_ne C (tgt := 49) dX8_write_43 rfl (fun c_11 => ?_) (fun c_11 => ?_)
      · have h_12 := (h_9).1 c_11
        refine y_aload_n C dX8_write_49 0 rfl rfl ?_
        refine yg_X8_16_wM0 C dX8_write_50 ?_
        refine y_bipush C dX8_write_53 bp_60 ?_
        refine y_iload_n C dX8_write_55 1 rfl rfl ?_
        refine y_imul C dX8_write_56 ?_
        refine y_iload_n C dX8_write_57 2 rfl rfl ?_
        refine y_iadd C dX8_write_58 ?_
        refine y_lload_n C dX8_write_59 3 rfl rfl ?_
        refine y_aload_n C dX8_write_60 0 rfl rfl ?_
        refine yg_X8_7_wM0 C dX8_write_61 ?_
        refine y_iload_n C dX8_write_64 1 rfl rfl ?_
        refine y_iald C (wM_1 ..) rfl (h_12).1 dX8_write_65 ?_
        refine y_callRlS (As := [.long (x3), .int (((sI S 0 0 0).1 1 (x1).toNatClampNeg))]) (rest := [.int (((60 * x1) + x2)), .ref (A 3)]) C cs_X8_93 (met_m_cut G (x3) (((sI S 0 0 0).1 1 (x1).toNatClampNeg)) _ ((h_12).2)) (fun _ _ => pw_nil) ⟨rfl, rfl, Nat.le_of_ble_eq_true rfl, Nat.le_of_ble_eq_true rfl⟩ rfl rfl (Nat.le_of_ble_eq_true rfl) dX8_write_66 ⟨Nat.zero_le _, Nat.zero_le _⟩ (fun r_13 h_14 => ?_)
        refine y_last C M (wM_3 ..) rfl (wM_s3 ..) (h_14).1 dX8_write_69 ?_
        refine y_iconst C dX8_write_70 ic_0 ?_
        exact y_iretM C M N rfl (S := (sL (sI S 0 0 0) 3 (((60 * x1) + x2)).toNatClampNeg r_13)) rfl ((h_14).2) dX8_write_71
      · have h_16 := (h_9).2 c_11
        refine y_bipush C dX8_write_46 bpm7 ?_
        exact y_iretM C M N rfl (S := (sI S 0 0 0)) rfl (h_16) dX8_write_48
    · have h_17 := ((h_5).2).2 c_6
      refine y_bipush C dX8_write_25 bpm6 ?_
      exact y_iretM C M N rfl (S := (sI S 0 0 0)) rfl (h_17) dX8_write_27
  · have h_18 := (h_2).2 c_4
    refine y_bipush C dX8_write_12 bpm2 ?_
    exact y_iretM C M N rfl (S := (sI S 0 0 0)) rfl (h_18) dX8_write_14
/-! OverHillModel paste(IIIII)I: m_paste -/
abbrev rm_m_paste : Room := { frames := 3, cells := 0, slots := 0, locals := 85 }
def wp_m_paste_b155 (Q : Int32 → St → Prop) (x3 : Int32) (x4 : Int32) (x5 : Int32) : Nat → St → Int32 → Prop
  | 0 => fun _ _ => False
  | n + 1 => fun S x6 => ((x5 ≤ x6 → Q 0 S) ∧ (¬ x5 ≤ x6 → (vp_in x6 60 ∧ (vp_in (((60 * x3) + x4) + x6) 240 ∧ wp_m_paste_b155 Q x3 x4 x5 n (sL S 3 ((((60 * x3) + x4) + x6)).toNatClampNeg (S.2 4 (x6).toNatClampNeg)) ((x6 + 1))))))
def wp_m_paste_b118 (Q : Int32 → St → Prop) (x1 : Int32) (x2 : Int32) (x3 : Int32) (x4 : Int32) (x5 : Int32) : Nat → St → Int32 → Prop
  | 0 => fun _ _ => False
  | n + 1 => fun S x6 => ((x5 ≤ x6 → (∃ z, wp_m_paste_b155 Q (x3) (x4) (x5) z S (0))) ∧ (¬ x5 ≤ x6 → (vp_in (((60 * x1) + x2) + x6) 240 ∧ (vp_in x6 60 ∧ wp_m_paste_b118 Q x1 x2 x3 x4 x5 n (sL S 4 (x6).toNatClampNeg (S.2 3 ((((60 * x1) + x2) + x6)).toNatClampNeg)) ((x6 + 1))))))
def wp_m_paste (S : St) (x1 : Int32) (x2 : Int32) (x3 : Int32) (x4 : Int32) (x5 : Int32) (Q : Int32 → St → Prop) : Prop :=
  wp_m_isSlot (x1) (fun r_1 => ((r_1 = 0 → Q (-2) (sI S 0 0 0)) ∧ (¬ r_1 = 0 → wp_m_isSlot (x3) (fun r_7 => ((¬ r_7 = 0 → (vp_in x1 4 ∧ ((((sI S 0 0 0).1 1 (x1).toNatClampNeg) = (-1) → Q (-6) (sI S 0 0 0)) ∧ (¬ ((sI S 0 0 0).1 1 (x1).toNatClampNeg) = (-1) → (vp_in x3 4 ∧ ((¬ ((sI S 0 0 0).1 1 (x3).toNatClampNeg) = (-1) → (vp_in x1 4 ∧ (vp_in x3 4 ∧ ((((sI S 0 0 0).1 1 (x1).toNatClampNeg) = ((sI S 0 0 0).1 1 (x3).toNatClampNeg) → ((x2 < 0 → Q (-7) (sI S 0 0 0)) ∧ (¬ x2 < 0 → ((x4 < 0 → Q (-7) (sI S 0 0 0)) ∧ (¬ x4 < 0 → ((x5 < 0 → Q (-7) (sI S 0 0 0)) ∧ (¬ x5 < 0 → (vp_in x1 4 ∧ ((0 < (lg_cmp ((x2).toInt64 + (x5).toInt64) (((sI S 0 0 0).1 2 (x1).toNatClampNeg)).toInt64) → Q (-7) (sI S 0 0 0)) ∧ (¬ 0 < (lg_cmp ((x2).toInt64 + (x5).toInt64) (((sI S 0 0 0).1 2 (x1).toNatClampNeg)).toInt64) → (vp_in x3 4 ∧ (((lg_cmp ((x4).toInt64 + (x5).toInt64) (((sI S 0 0 0).1 2 (x3).toNatClampNeg)).toInt64) ≤ 0 → (∃ z, wp_m_paste_b118 Q (x1) (x2) (x3) (x4) (x5) z (sI S 0 0 0) (0))) ∧ (¬ (lg_cmp ((x4).toInt64 + (x5).toInt64) (((sI S 0 0 0).1 2 (x3).toNatClampNeg)).toInt64) ≤ 0 → Q (-7) (sI S 0 0 0)))))))))))))) ∧ (¬ ((sI S 0 0 0).1 1 (x1).toNatClampNeg) = ((sI S 0 0 0).1 1 (x3).toNatClampNeg) → Q (-8) (sI S 0 0 0)))))) ∧ (((sI S 0 0 0).1 1 (x3).toNatClampNeg) = (-1) → Q (-6) (sI S 0 0 0)))))))) ∧ (r_7 = 0 → Q (-2) (sI S 0 0 0)))))))
set_option maxRecDepth 100000 in
theorem wk_m_paste_b155 {G : Gx} {K : Kx} {A : Nat → Nat} (C : KOk G K RX8 cX8_paste rm_m_paste 7 (some .int)) {B : Nat → Prop} (M : KM G K B) {Q : Int32 → St → Prop} (N : KQi G K B (wM G A) Q) (x3 : Int32) (x4 : Int32) (x5 : Int32) : ∀ (n : Nat), ∀ (S : St) (x6 : Int32), wp_m_paste_b155 Q x3 x4 x5 n S x6 → Y G K 0 0 (wM G A S) 155 [(0, .ref (A 0)), (3, .int (x3)), (4, .int (x4)), (5, .int (x5)), (6, .int (x6))] [] := by
  intro n
  induction n with
  | zero => intro S x6 h; exact h.elim
  | succ n ih =>
    intro S x6 h
    dsimp only [wp_m_paste_b155] at h
    refine y_iload C dX8_paste_155 4 rfl ?_
    refine y_iload C dX8_paste_157 3 rfl ?_
    refine y_icmp_ge C (tgt := 190) dX8_paste_159 rfl (fun c_44 => ?_) (fun c_44 => ?_)
    · have h_45 := (h).1 c_44
      refine y_iconst C dX8_paste_190 ic_0 ?_
      exact y_iretM C M N rfl (S := S) rfl (h_45) dX8_paste_191
    · have h_46 := (h).2 c_44
      refine y_aload_n C dX8_paste_162 0 rfl rfl ?_
      refine yg_X8_16_wM0 C dX8_paste_163 ?_
      refine y_bipush C dX8_paste_166 bp_60 ?_
      refine y_iload_n C dX8_paste_168 1 rfl rfl ?_
      refine y_imul C dX8_paste_169 ?_
      refine y_iload C dX8_paste_170 2 rfl ?_
      refine y_iadd C dX8_paste_172 ?_
      refine y_iload C dX8_paste_173 4 rfl ?_
      refine y_iadd C dX8_paste_175 ?_
      refine y_aload_n C dX8_paste_176 0 rfl rfl ?_
      refine yg_X8_20_wM0 C dX8_paste_177 ?_
      refine y_iload C dX8_paste_180 4 rfl ?_
      refine y_lald C (wM_4 ..) rfl (h_46).1 dX8_paste_182 ?_
      refine y_last C M (wM_3 ..) rfl (wM_s3 ..) ((h_46).2).1 dX8_paste_183 ?_
      refine y_iinc C dX8_paste_184 4 rfl (Nat.le_of_ble_eq_true rfl) (ii_1 _) [(6, .int ((x6 + 1))), (0, .ref (A 0)), (3, .int (x3)), (4, .int (x4)), (5, .int (x5))] rfl ?_
      refine y_goto C (tgt := 155) dX8_paste_187 rfl ?_
      exact Y.sub (ih (sL S 3 ((((60 * x3) + x4) + x6)).toNatClampNeg (S.2 4 (x6).toNatClampNeg)) ((x6 + 1)) (((h_46).2).2)) [1, 2, 3, 4, 0] rfl
set_option maxRecDepth 100000 in
theorem wk_m_paste_b118 {G : Gx} {K : Kx} {A : Nat → Nat} (C : KOk G K RX8 cX8_paste rm_m_paste 7 (some .int)) {B : Nat → Prop} (M : KM G K B) {Q : Int32 → St → Prop} (N : KQi G K B (wM G A) Q) (x1 : Int32) (x2 : Int32) (x3 : Int32) (x4 : Int32) (x5 : Int32) : ∀ (n : Nat), ∀ (S : St) (x6 : Int32), wp_m_paste_b118 Q x1 x2 x3 x4 x5 n S x6 → Y G K 0 0 (wM G A S) 118 [(0, .ref (A 0)), (1, .int (x1)), (2, .int (x2)), (3, .int (x3)), (4, .int (x4)), (5, .int (x5)), (6, .int (x6))] [] := by
  intro n
  induction n with
  | zero => intro S x6 h; exact h.elim
  | succ n ih =>
    intro S x6 h
    dsimp only [wp_m_paste_b118] at h
    refine y_iload C dX8_paste_118 6 rfl ?_
    refine y_iload C dX8_paste_120 5 rfl ?_
    refine y_icmp_ge C (tgt := 152) dX8_paste_122 rfl (fun c_39 => ?_) (fun c_39 => ?_)
    · have h_40 := (h).1 c_39
      refine y_iconst C dX8_paste_152 ic_0 ?_
      refine y_istore C dX8_paste_153 (Nat.le_of_ble_eq_true rfl) [(6, .int (0)), (0, .ref (A 0)), (1, .int (x1)), (2, .int (x2)), (3, .int (x3)), (4, .int (x4)), (5, .int (x5))] rfl ?_
      obtain ⟨n_41, h_42⟩ := h_40
      exact Y.sub (wk_m_paste_b155 C M N (x3) (x4) (x5) n_41 S (0) h_42) [1, 4, 5, 6, 0] rfl
    · have h_43 := (h).2 c_39
      refine y_aload_n C dX8_paste_125 0 rfl rfl ?_
      refine yg_X8_20_wM0 C dX8_paste_126 ?_
      refine y_iload C dX8_paste_129 6 rfl ?_
      refine y_aload_n C dX8_paste_131 0 rfl rfl ?_
      refine yg_X8_16_wM0 C dX8_paste_132 ?_
      refine y_bipush C dX8_paste_135 bp_60 ?_
      refine y_iload_n C dX8_paste_137 1 rfl rfl ?_
      refine y_imul C dX8_paste_138 ?_
      refine y_iload_n C dX8_paste_139 2 rfl rfl ?_
      refine y_iadd C dX8_paste_140 ?_
      refine y_iload C dX8_paste_141 6 rfl ?_
      refine y_iadd C dX8_paste_143 ?_
      refine y_lald C (wM_3 ..) rfl (h_43).1 dX8_paste_144 ?_
      refine y_last C M (wM_4 ..) rfl (wM_s4 ..) ((h_43).2).1 dX8_paste_145 ?_
      refine y_iinc C dX8_paste_146 6 rfl (Nat.le_of_ble_eq_true rfl) (ii_1 _) [(6, .int ((x6 + 1))), (0, .ref (A 0)), (1, .int (x1)), (2, .int (x2)), (3, .int (x3)), (4, .int (x4)), (5, .int (x5))] rfl ?_
      refine y_goto C (tgt := 118) dX8_paste_149 rfl ?_
      exact Y.sub (ih (sL S 4 (x6).toNatClampNeg (S.2 3 ((((60 * x1) + x2) + x6)).toNatClampNeg)) ((x6 + 1)) (((h_43).2).2)) [1, 2, 3, 4, 5, 6, 0] rfl
set_option maxRecDepth 100000 in
theorem met_m_paste (G : Gx) (A : Nat → Nat) (S : St) (x1 : Int32) (x2 : Int32) (x3 : Int32) (x4 : Int32) (x5 : Int32) (Q : Int32 → St → Prop) (h : wp_m_paste S x1 x2 x3 x4 x5 Q) : Mi G yX8_paste (ws_ yX8_paste cX8_paste 7 (some .int)) rm_m_paste (wM G A S) [.ref (A 0), .int (x1), .int (x2), .int (x3), .int (x4), .int (x5)] (wM G A) Q := by
  refine ent_Mi (by decide +kernel) rfl (Nat.le_of_ble_eq_true rfl) [(0, .ref (A 0)), (1, .int (x1)), (2, .int (x2)), (3, .int (x3)), (4, .int (x4)), (5, .int (x5))] rfl (fun K B C M N => ?_)
  refine y_aload_n C dX8_paste_0 0 rfl rfl ?_
  refine y_iconst C dX8_paste_1 ic_0 ?_
  refine yp_X8_80_wM0 C M dX8_paste_2 ?_
  refine y_iload_n C dX8_paste_5 1 rfl rfl ?_
  refine y_callRiS (As := [.int (x1)]) (rest := []) C cs_X8_89 (met_m_isSlot G (x1) _ (h)) (fun _ _ => pw_nil) ⟨rfl, rfl, Nat.le_of_ble_eq_true rfl, Nat.le_of_ble_eq_true rfl⟩ rfl rfl (Nat.le_of_ble_eq_true rfl) dX8_paste_6 ⟨Nat.zero_le _, Nat.zero_le _⟩ (fun r_1 h_2 => ?_)
  refine y_if_eq C (tgt := 19) dX8_paste_9 rfl (fun c_4 => ?_) (fun c_4 => ?_)
  · have h_5 := (h_2).1 c_4
    refine y_bipush C dX8_paste_19 bpm2 ?_
    exact y_iretM C M N rfl (S := (sI S 0 0 0)) rfl (h_5) dX8_paste_21
  · have h_6 := (h_2).2 c_4
    refine y_iload_n C dX8_paste_12 3 rfl rfl ?_
    refine y_callRiS (As := [.int (x3)]) (rest := []) C cs_X8_89 (met_m_isSlot G (x3) _ (h_6)) (fun _ _ => pw_nil) ⟨rfl, rfl, Nat.le_of_ble_eq_true rfl, Nat.le_of_ble_eq_true rfl⟩ rfl rfl (Nat.le_of_ble_eq_true rfl) dX8_paste_13 ⟨Nat.zero_le _, Nat.zero_le _⟩ (fun r_7 h_8 => ?_)
    refine y_if_ne C (tgt := 22) dX8_paste_16 rfl (fun c_10 => ?_) (fun c_10 => ?_)
    · have h_11 := (h_8).1 c_10
      refine y_aload_n C dX8_paste_22 0 rfl rfl ?_
      refine yg_X8_7_wM0 C dX8_paste_23 ?_
      refine y_iload_n C dX8_paste_26 1 rfl rfl ?_
      refine y_iald C (wM_1 ..) rfl (h_11).1 dX8_paste_27 ?_
      refine y_iconst C dX8_paste_28 icm1 ?_
      refine y_icmp_eq C (tgt := 42) dX8_paste_29 rfl (fun c_12 => ?_) (fun c_12 => ?_)
      · have h_13 := ((h_11).2).1 c_12
        refine y_bipush C dX8_paste_42 bpm6 ?_
        exact y_iretM C M N rfl (S := (sI S 0 0 0)) rfl (h_13) dX8_paste_44
      · have h_14 := ((h_11).2).2 c_12
        refine y_aload_n C dX8_paste_32 0 rfl rfl ?_
        refine yg_X8_7_wM0 C dX8_paste_33 ?_
        refine y_iload_n C dX8_paste_36 3 rfl rfl ?_
        refine y_iald C (wM_1 ..) rfl (h_14).1 dX8_paste_37 ?_
        refine y_iconst C dX8_paste_38 icm1 ?_
        refine y_icmp_ne C (tgt := 45) dX8_paste_39 rfl (fun c_15 => ?_) (fun c_15 => ?_)
        · have h_16 := ((h_14).2).1 c_15
          refine y_aload_n C dX8_paste_45 0 rfl rfl ?_
          refine yg_X8_7_wM0 C dX8_paste_46 ?_
          refine y_iload_n C dX8_paste_49 1 rfl rfl ?_
          refine y_iald C (wM_1 ..) rfl (h_16).1 dX8_paste_50 ?_
          refine y_aload_n C dX8_paste_51 0 rfl rfl ?_
          refine yg_X8_7_wM0 C dX8_paste_52 ?_
          refine y_iload_n C dX8_paste_55 3 rfl rfl ?_
          refine y_iald C (wM_1 ..) rfl ((h_16).2).1 dX8_paste_56 ?_
          refine y_icmp_eq C (tgt := 63) dX8_paste_57 rfl (fun c_17 => ?_) (fun c_17 => ?_)
          · have h_18 := (((h_16).2).2).1 c_17
            refine y_iload_n C dX8_paste_63 2 rfl rfl ?_
            refine y_if_lt C (tgt := 112) dX8_paste_64 rfl (fun c_19 => ?_) (fun c_19 => ?_)
            · have h_20 := (h_18).1 c_19
              refine y_bipush C dX8_paste_112 bpm7 ?_
              exact y_iretM C M N rfl (S := (sI S 0 0 0)) rfl (h_20) dX8_paste_114
            · have h_21 := (h_18).2 c_19
              refine y_iload C dX8_paste_67 4 rfl ?_
              refine y_if_lt C (tgt := 112) dX8_paste_69 rfl (fun c_22 => ?_) (fun c_22 => ?_)
              · have h_23 := (h_21).1 c_22
                refine y_bipush C dX8_paste_112 bpm7 ?_
                exact y_iretM C M N rfl (S := (sI S 0 0 0)) rfl (h_23) dX8_paste_114
              · have h_24 := (h_21).2 c_22
                refine y_iload C dX8_paste_72 5 rfl ?_
                refine y_if_lt C (tgt := 112) dX8_paste_74 rfl (fun c_25 => ?_) (fun c_25 => ?_)
                · have h_26 := (h_24).1 c_25
                  refine y_bipush C dX8_paste_112 bpm7 ?_
                  exact y_iretM C M N rfl (S := (sI S 0 0 0)) rfl (h_26) dX8_paste_114
                · have h_27 := (h_24).2 c_25
                  refine y_iload_n C dX8_paste_77 2 rfl rfl ?_
                  refine y_i2l C dX8_paste_78 rfl ?_
                  refine y_iload C dX8_paste_79 5 rfl ?_
                  refine y_i2l C dX8_paste_81 rfl ?_
                  refine y_ladd C dX8_paste_82 ?_
                  refine y_aload_n C dX8_paste_83 0 rfl rfl ?_
                  refine yg_X8_13_wM0 C dX8_paste_84 ?_
                  refine y_iload_n C dX8_paste_87 1 rfl rfl ?_
                  refine y_iald C (wM_2 ..) rfl (h_27).1 dX8_paste_88 ?_
                  refine y_i2l C dX8_paste_89 rfl ?_
                  refine y_lcmp C dX8_paste_90 ?_
                  refine y_if_gt C (tgt := 112) dX8_paste_91 rfl (fun c_28 => ?_) (fun c_28 => ?_)
                  · have h_29 := ((h_27).2).1 c_28
                    refine y_bipush C dX8_paste_112 bpm7 ?_
                    exact y_iretM C M N rfl (S := (sI S 0 0 0)) rfl (h_29) dX8_paste_114
                  · have h_30 := ((h_27).2).2 c_28
                    refine y_iload C dX8_paste_94 4 rfl ?_
                    refine y_i2l C dX8_paste_96 rfl ?_
                    refine y_iload C dX8_paste_97 5 rfl ?_
                    refine y_i2l C dX8_paste_99 rfl ?_
                    refine y_ladd C dX8_paste_100 ?_
                    refine y_aload_n C dX8_paste_101 0 rfl rfl ?_
                    refine yg_X8_13_wM0 C dX8_paste_102 ?_
                    refine y_iload_n C dX8_paste_105 3 rfl rfl ?_
                    refine y_iald C (wM_2 ..) rfl (h_30).1 dX8_paste_106 ?_
                    refine y_i2l C dX8_paste_107 rfl ?_
                    refine y_lcmp C dX8_paste_108 ?_
                    refine y_if_le C (tgt := 115) dX8_paste_109 rfl (fun c_31 => ?_) (fun c_31 => ?_)
                    · have h_32 := ((h_30).2).1 c_31
                      refine y_iconst C dX8_paste_115 ic_0 ?_
                      refine y_istore C dX8_paste_116 (Nat.le_of_ble_eq_true rfl) [(6, .int (0)), (0, .ref (A 0)), (1, .int (x1)), (2, .int (x2)), (3, .int (x3)), (4, .int (x4)), (5, .int (x5))] rfl ?_
                      obtain ⟨n_33, h_34⟩ := h_32
                      exact Y.sub (wk_m_paste_b118 C M N (x1) (x2) (x3) (x4) (x5) n_33 (sI S 0 0 0) (0) h_34) [1, 2, 3, 4, 5, 6, 0] rfl
                    · have h_35 := ((h_30).2).2 c_31
                      refine y_bipush C dX8_paste_112 bpm7 ?_
                      exact y_iretM C M N rfl (S := (sI S 0 0 0)) rfl (h_35) dX8_paste_114
          · have h_36 := (((h_16).2).2).2 c_17
            refine y_bipush C dX8_paste_60 bpm8 ?_
            exact y_iretM C M N rfl (S := (sI S 0 0 0)) rfl (h_36) dX8_paste_62
        · have h_37 := ((h_14).2).2 c_15
          refine y_bipush C dX8_paste_42 bpm6 ?_
          exact y_iretM C M N rfl (S := (sI S 0 0 0)) rfl (h_37) dX8_paste_44
    · have h_38 := (h_8).2 c_10
      refine y_bipush C dX8_paste_19 bpm2 ?_
      exact y_iretM C M N rfl (S := (sI S 0 0 0)) rfl (h_38) dX8_paste_21
/-! OverHillModel four(I)V: m_four -/
abbrev rm_m_four : Room := { frames := 1, cells := 0, slots := 0, locals := 40 }
def wp_m_four_b3 (Q : St → Prop) (x1 : Int32) : Nat → St → Int32 → Prop
  | 0 => fun _ _ => False
  | n + 1 => fun S x2 => ((x2 < 0 → Q S) ∧ (¬ x2 < 0 → (vp_in (S.1 0 6) 1200 ∧ wp_m_four_b3 Q x1 n (sI (sI S 5 ((S.1 0 6)).toNatClampNeg (vp_nar .byte ((x1 >>> (x2 &&& 31))).toInt8.toInt32)) 0 6 (((sI S 5 ((S.1 0 6)).toNatClampNeg (vp_nar .byte ((x1 >>> (x2 &&& 31))).toInt8.toInt32)).1 0 6) + 1)) ((x2 + (-8))))))
def wp_m_four (S : St) (x1 : Int32) (Q : St → Prop) : Prop :=
  (∃ z, wp_m_four_b3 Q (x1) z S (24))
set_option maxRecDepth 100000 in
theorem wk_m_four_b3 {G : Gx} {K : Kx} {A : Nat → Nat} (C : KOk G K RX8 cX8_four rm_m_four 3 none) {B : Nat → Prop} (M : KM G K B) {Q : St → Prop} (N : KQv G K B (wM G A) Q) (x1 : Int32) : ∀ (n : Nat), ∀ (S : St) (x2 : Int32), wp_m_four_b3 Q x1 n S x2 → Y G K 0 0 (wM G A S) 3 [(0, .ref (A 0)), (1, .int (x1)), (2, .int (x2))] [] := by
  intro n
  induction n with
  | zero => intro S x2 h; exact h.elim
  | succ n ih =>
    intro S x2 h
    dsimp only [wp_m_four_b3] at h
    refine y_iload_n C dX8_four_3 2 rfl rfl ?_
    refine y_if_lt C (tgt := 36) dX8_four_4 rfl (fun c_3 => ?_) (fun c_3 => ?_)
    · have h_4 := (h).1 c_3
      exact y_vretM C M N rfl (S := S) rfl (h_4) dX8_four_36
    · have h_5 := (h).2 c_3
      refine y_aload_n C dX8_four_7 0 rfl rfl ?_
      refine yg_X8_23_wM0 C dX8_four_8 ?_
      refine y_aload_n C dX8_four_11 0 rfl rfl ?_
      refine yg_X8_97_wM0 C dX8_four_12 ?_
      refine y_iload_n C dX8_four_15 1 rfl rfl ?_
      refine y_iload_n C dX8_four_16 2 rfl rfl ?_
      refine y_ishr C dX8_four_17 ?_
      refine y_i2b C dX8_four_18 ?_
      refine y_bast C M (wM_5 ..) rfl (wM_s5 ..) (h_5).1 dX8_four_19 ?_
      refine y_aload_n C dX8_four_20 0 rfl rfl ?_
      refine y_dup C dX8_four_21 rfl ?_
      refine yg_X8_97_wM0 C dX8_four_22 ?_
      refine y_iconst C dX8_four_25 ic_1 ?_
      refine y_iadd C dX8_four_26 ?_
      refine yp_X8_97_wM0 C M dX8_four_27 ?_
      refine y_iinc C dX8_four_30 2 rfl (Nat.le_of_ble_eq_true rfl) (iim8 _) [(2, .int ((x2 + (-8)))), (0, .ref (A 0)), (1, .int (x1))] rfl ?_
      refine y_goto C (tgt := 3) dX8_four_33 rfl ?_
      exact Y.sub (ih (sI (sI S 5 ((S.1 0 6)).toNatClampNeg (vp_nar .byte ((x1 >>> (x2 &&& 31))).toInt8.toInt32)) 0 6 (((sI S 5 ((S.1 0 6)).toNatClampNeg (vp_nar .byte ((x1 >>> (x2 &&& 31))).toInt8.toInt32)).1 0 6) + 1)) ((x2 + (-8))) ((h_5).2)) [1, 2, 0] rfl
set_option maxRecDepth 100000 in
theorem met_m_four (G : Gx) (A : Nat → Nat) (S : St) (x1 : Int32) (Q : St → Prop) (h : wp_m_four S x1 Q) : Mv G yX8_four (ws_ yX8_four cX8_four 3 none) rm_m_four (wM G A S) [.ref (A 0), .int (x1)] (wM G A) Q := by
  refine ent_Mv (by decide +kernel) rfl (Nat.le_of_ble_eq_true rfl) [(0, .ref (A 0)), (1, .int (x1))] rfl (fun K B C M N => ?_)
  refine y_bipush C dX8_four_0 bp_24 ?_
  refine y_istore_n C dX8_four_2 rfl (Nat.le_of_ble_eq_true rfl) [(2, .int (24)), (0, .ref (A 0)), (1, .int (x1))] rfl ?_
  obtain ⟨n_1, h_2⟩ := h
  exact Y.sub (wk_m_four_b3 C M N (x1) n_1 S (24) h_2) [1, 2, 0] rfl
/-! OverHillModel feed(IIIII)I: m_feed -/
abbrev rm_m_feed : Room := { frames := 2, cells := 0, slots := 0, locals := 62 }
def wp_m_feed (S : St) (x1 : Int32) (x2 : Int32) (x3 : Int32) (x4 : Int32) (x5 : Int32) (Q : Int32 → St → Prop) : Prop :=
  (((((sI S 0 0 0).1 0 6) + 20) ≤ 1200 → wp_m_four (sI S 0 0 0) (x1) (fun S_5 => wp_m_four S_5 (x2) (fun S_8 => wp_m_four S_8 (x3) (fun S_11 => wp_m_four S_11 (x4) (fun S_14 => wp_m_four S_14 (x5) (fun S_17 => Q (S_17.1 0 6) S_17)))))) ∧ (¬ (((sI S 0 0 0).1 0 6) + 20) ≤ 1200 → Q (-1) (sI S 0 0 0)))
set_option maxRecDepth 100000 in
theorem met_m_feed (G : Gx) (A : Nat → Nat) (S : St) (x1 : Int32) (x2 : Int32) (x3 : Int32) (x4 : Int32) (x5 : Int32) (Q : Int32 → St → Prop) (h : wp_m_feed S x1 x2 x3 x4 x5 Q) : Mi G yX8_feed (ws_ yX8_feed cX8_feed 6 (some .int)) rm_m_feed (wM G A S) [.ref (A 0), .int (x1), .int (x2), .int (x3), .int (x4), .int (x5)] (wM G A) Q := by
  refine ent_Mi (by decide +kernel) rfl (Nat.le_of_ble_eq_true rfl) [(0, .ref (A 0)), (1, .int (x1)), (2, .int (x2)), (3, .int (x3)), (4, .int (x4)), (5, .int (x5))] rfl (fun K B C M N => ?_)
  refine y_aload_n C dX8_feed_0 0 rfl rfl ?_
  refine y_iconst C dX8_feed_1 ic_0 ?_
  refine yp_X8_80_wM0 C M dX8_feed_2 ?_
  refine y_aload_n C dX8_feed_5 0 rfl rfl ?_
  refine yg_X8_97_wM0 C dX8_feed_6 ?_
  refine y_bipush C dX8_feed_9 bp_20 ?_
  refine y_iadd C dX8_feed_11 ?_
  refine y_sipush C dX8_feed_12 sp_1200 ?_
  refine y_icmp_le C (tgt := 20) dX8_feed_15 rfl (fun c_1 => ?_) (fun c_1 => ?_)
  · have h_2 := (h).1 c_1
    refine y_aload_n C dX8_feed_20 0 rfl rfl ?_
    refine y_iload_n C dX8_feed_21 1 rfl rfl ?_
    refine y_callMvV (k' := 0) (n' := 0) (As := [.int (x1)]) (rest := []) C M cs_X8_100 (met_m_four G A (sI S 0 0 0) (x1) _ (h_2)) (wM_0 ..) rfl rfl ⟨rfl, rfl, Nat.le_of_ble_eq_true rfl, Nat.le_of_ble_eq_true rfl⟩ rfl rfl (Nat.le_of_ble_eq_true rfl) dX8_feed_22 ⟨Nat.zero_le _, Nat.zero_le _⟩ rfl rfl (fun S_5 h_4 => ?_)
    refine y_aload_n C dX8_feed_25 0 rfl rfl ?_
    refine y_iload_n C dX8_feed_26 2 rfl rfl ?_
    refine y_callMvV (k' := 0) (n' := 0) (As := [.int (x2)]) (rest := []) C M cs_X8_100 (met_m_four G A S_5 (x2) _ (h_4)) (wM_0 ..) rfl rfl ⟨rfl, rfl, Nat.le_of_ble_eq_true rfl, Nat.le_of_ble_eq_true rfl⟩ rfl rfl (Nat.le_of_ble_eq_true rfl) dX8_feed_27 ⟨Nat.zero_le _, Nat.zero_le _⟩ rfl rfl (fun S_8 h_7 => ?_)
    refine y_aload_n C dX8_feed_30 0 rfl rfl ?_
    refine y_iload_n C dX8_feed_31 3 rfl rfl ?_
    refine y_callMvV (k' := 0) (n' := 0) (As := [.int (x3)]) (rest := []) C M cs_X8_100 (met_m_four G A S_8 (x3) _ (h_7)) (wM_0 ..) rfl rfl ⟨rfl, rfl, Nat.le_of_ble_eq_true rfl, Nat.le_of_ble_eq_true rfl⟩ rfl rfl (Nat.le_of_ble_eq_true rfl) dX8_feed_32 ⟨Nat.zero_le _, Nat.zero_le _⟩ rfl rfl (fun S_11 h_10 => ?_)
    refine y_aload_n C dX8_feed_35 0 rfl rfl ?_
    refine y_iload C dX8_feed_36 4 rfl ?_
    refine y_callMvV (k' := 0) (n' := 0) (As := [.int (x4)]) (rest := []) C M cs_X8_100 (met_m_four G A S_11 (x4) _ (h_10)) (wM_0 ..) rfl rfl ⟨rfl, rfl, Nat.le_of_ble_eq_true rfl, Nat.le_of_ble_eq_true rfl⟩ rfl rfl (Nat.le_of_ble_eq_true rfl) dX8_feed_38 ⟨Nat.zero_le _, Nat.zero_le _⟩ rfl rfl (fun S_14 h_13 => ?_)
    refine y_aload_n C dX8_feed_41 0 rfl rfl ?_
    refine y_iload C dX8_feed_42 5 rfl ?_
    refine y_callMvV (k' := 0) (n' := 0) (As := [.int (x5)]) (rest := []) C M cs_X8_100 (met_m_four G A S_14 (x5) _ (h_13)) (wM_0 ..) rfl rfl ⟨rfl, rfl, Nat.le_of_ble_eq_true rfl, Nat.le_of_ble_eq_true rfl⟩ rfl rfl (Nat.le_of_ble_eq_true rfl) dX8_feed_44 ⟨Nat.zero_le _, Nat.zero_le _⟩ rfl rfl (fun S_17 h_16 => ?_)
    refine y_aload_n C dX8_feed_47 0 rfl rfl ?_
    refine yg_X8_97_wM0 C dX8_feed_48 ?_
    exact y_iretM C M N rfl (S := S_17) rfl (h_16) dX8_feed_51
  · have h_18 := (h).2 c_1
    refine y_iconst C dX8_feed_18 icm1 ?_
    exact y_iretM C M N rfl (S := (sI S 0 0 0)) rfl (h_18) dX8_feed_19
/-! OverHillModel end(I)I: m_end -/
abbrev rm_m_end : Room := { frames := 2, cells := 0, slots := 0, locals := 65 }
def wp_m_end (S : St) (x1 : Int32) (Q : Int32 → St → Prop) : Prop :=
  wp_m_in ((x1).toInt64) (0) ((((sI S 0 0 0).1 0 6)).toInt64) (fun r_1 => ((¬ r_1 = 0 → Q x1 (sI (sI S 0 0 0) 0 6 x1)) ∧ (r_1 = 0 → Q (-1) (sI S 0 0 0))))
set_option maxRecDepth 100000 in
theorem met_m_end (G : Gx) (A : Nat → Nat) (S : St) (x1 : Int32) (Q : Int32 → St → Prop) (h : wp_m_end S x1 Q) : Mi G yX8_end (ws_ yX8_end cX8_end 2 (some .int)) rm_m_end (wM G A S) [.ref (A 0), .int (x1)] (wM G A) Q := by
  refine ent_Mi (by decide +kernel) rfl (Nat.le_of_ble_eq_true rfl) [(0, .ref (A 0)), (1, .int (x1))] rfl (fun K B C M N => ?_)
  refine y_aload_n C dX8_end_0 0 rfl rfl ?_
  refine y_iconst C dX8_end_1 ic_0 ?_
  refine yp_X8_80_wM0 C M dX8_end_2 ?_
  refine y_iload_n C dX8_end_5 1 rfl rfl ?_
  refine y_i2l C dX8_end_6 rfl ?_
  refine y_lconst C dX8_end_7 lc_0 ?_
  refine y_aload_n C dX8_end_8 0 rfl rfl ?_
  refine yg_X8_97_wM0 C dX8_end_9 ?_
  refine y_i2l C dX8_end_12 rfl ?_
  refine y_callRiS (As := [.long ((x1).toInt64), .long (0), .long ((((sI S 0 0 0).1 0 6)).toInt64)]) (rest := []) C cs_X8_85 (met_m_in G ((x1).toInt64) (0) ((((sI S 0 0 0).1 0 6)).toInt64) _ (h)) (fun _ _ => pw_nil) ⟨rfl, rfl, Nat.le_of_ble_eq_true rfl, Nat.le_of_ble_eq_true rfl⟩ rfl rfl (Nat.le_of_ble_eq_true rfl) dX8_end_13 ⟨Nat.zero_le _, Nat.zero_le _⟩ (fun r_1 h_2 => ?_)
  refine y_if_ne C (tgt := 21) dX8_end_16 rfl (fun c_4 => ?_) (fun c_4 => ?_)
  · have h_5 := (h_2).1 c_4
    refine y_aload_n C dX8_end_21 0 rfl rfl ?_
    refine y_iload_n C dX8_end_22 1 rfl rfl ?_
    refine yp_X8_97_wM0 C M dX8_end_23 ?_
    refine y_iload_n C dX8_end_26 1 rfl rfl ?_
    exact y_iretM C M N rfl (S := (sI (sI S 0 0 0) 0 6 x1)) rfl (h_5) dX8_end_27
  · have h_6 := (h_2).2 c_4
    refine y_iconst C dX8_end_19 icm1 ?_
    exact y_iretM C M N rfl (S := (sI S 0 0 0)) rfl (h_6) dX8_end_20
/-! OverHillModel fault(I)I: m_fault -/
abbrev rm_m_fault : Room := { frames := 1, cells := 0, slots := 0, locals := 40 }
def wp_m_fault (S : St) (x1 : Int32) (Q : Int32 → St → Prop) : Prop :=
  ((¬ x1 = 0 → ((¬ x1 = 1 → Q (-1) (sI S 0 0 0)) ∧ (x1 = 1 → Q ((sI S 0 0 0).1 0 15) (sI S 0 0 0)))) ∧ (x1 = 0 → Q ((sI S 0 0 0).1 0 14) (sI S 0 0 0)))
set_option maxRecDepth 100000 in
theorem met_m_fault (G : Gx) (A : Nat → Nat) (S : St) (x1 : Int32) (Q : Int32 → St → Prop) (h : wp_m_fault S x1 Q) : Mi G yX8_fault (ws_ yX8_fault cX8_fault 2 (some .int)) rm_m_fault (wM G A S) [.ref (A 0), .int (x1)] (wM G A) Q := by
  refine ent_Mi (by decide +kernel) rfl (Nat.le_of_ble_eq_true rfl) [(0, .ref (A 0)), (1, .int (x1))] rfl (fun K B C M N => ?_)
  refine y_aload_n C dX8_fault_0 0 rfl rfl ?_
  refine y_iconst C dX8_fault_1 ic_0 ?_
  refine yp_X8_80_wM0 C M dX8_fault_2 ?_
  refine y_iload_n C dX8_fault_5 1 rfl rfl ?_
  refine y_if_ne C (tgt := 16) dX8_fault_6 rfl (fun c_1 => ?_) (fun c_1 => ?_)
  · have h_2 := (h).1 c_1
    refine y_iload_n C dX8_fault_16 1 rfl rfl ?_
    refine y_iconst C dX8_fault_17 ic_1 ?_
    refine y_icmp_ne C (tgt := 28) dX8_fault_18 rfl (fun c_3 => ?_) (fun c_3 => ?_)
    · have h_4 := (h_2).1 c_3
      refine y_iconst C dX8_fault_28 icm1 ?_
      exact y_iretM C M N rfl (S := (sI S 0 0 0)) rfl (h_4) dX8_fault_29
    · have h_5 := (h_2).2 c_3
      refine y_aload_n C dX8_fault_21 0 rfl rfl ?_
      refine yg_X8_27_wM0 C dX8_fault_22 ?_
      refine y_goto C (tgt := 29) dX8_fault_25 rfl ?_
      exact y_iretM C M N rfl (S := (sI S 0 0 0)) rfl (h_5) dX8_fault_29
  · have h_6 := (h).2 c_1
    refine y_aload_n C dX8_fault_9 0 rfl rfl ?_
    refine yg_X8_159_wM0 C dX8_fault_10 ?_
    refine y_goto C (tgt := 29) dX8_fault_13 rfl ?_
    exact y_iretM C M N rfl (S := (sI S 0 0 0)) rfl (h_6) dX8_fault_29
/-! OverHillModel reads(II)V: m_reads -/
abbrev rm_m_reads : Room := { frames := 1, cells := 0, slots := 0, locals := 40 }
def wp_m_reads (S : St) (x1 : Int32) (x2 : Int32) (Q : St → Prop) : Prop :=
  (vp_in (44 + x1) 55 ∧ Q (sI S 7 ((44 + x1)).toNatClampNeg x2))
set_option maxRecDepth 100000 in
theorem met_m_reads (G : Gx) (A : Nat → Nat) (S : St) (x1 : Int32) (x2 : Int32) (Q : St → Prop) (h : wp_m_reads S x1 x2 Q) : Mv G yX8_reads (ws_ yX8_reads cX8_reads 3 none) rm_m_reads (wM G A S) [.ref (A 0), .int (x1), .int (x2)] (wM G A) Q := by
  refine ent_Mv (by decide +kernel) rfl (Nat.le_of_ble_eq_true rfl) [(0, .ref (A 0)), (1, .int (x1)), (2, .int (x2))] rfl (fun K B C M N => ?_)
  refine y_aload_n C dX8_reads_0 0 rfl rfl ?_
  refine yg_X8_34_wM0 C dX8_reads_1 ?_
  refine y_bipush C dX8_reads_4 bp_44 ?_
  refine y_iload_n C dX8_reads_6 1 rfl rfl ?_
  refine y_iadd C dX8_reads_7 ?_
  refine y_iload_n C dX8_reads_8 2 rfl rfl ?_
  refine y_iast C M (wM_7 ..) rfl (wM_s7 ..) (h).1 dX8_reads_9 ?_
  exact y_vretM C M N rfl (S := (sI S 7 ((44 + x1)).toNatClampNeg x2)) rfl ((h).2) dX8_reads_10
/-! OverHillModel clears()V: m_clears -/
abbrev rm_m_clears : Room := { frames := 2, cells := 0, slots := 0, locals := 62 }
def wp_m_clears_b54 (Q : St → Prop) : Nat → St → Int32 → Prop
  | 0 => fun _ _ => False
  | n + 1 => fun S x1 => ((200 ≤ x1 → Q S) ∧ (¬ 200 ≤ x1 → (vp_in (800 + x1) 1000 ∧ wp_m_clears_b54 Q n (sI S 11 ((800 + x1)).toNatClampNeg (vp_nar .boolean 0)) ((x1 + 1)))))
def wp_m_clears_b29 (Q : St → Prop) : Nat → St → Int32 → Prop
  | 0 => fun _ _ => False
  | n + 1 => fun S x1 => ((6 ≤ x1 → (∃ z, wp_m_clears_b54 Q z S (0))) ∧ (¬ 6 ≤ x1 → (vp_in (24 + x1) 30 ∧ wp_m_clears_b29 Q n (sI S 9 ((24 + x1)).toNatClampNeg 63) ((x1 + 1)))))
def wp_m_clears_b9 (Q : St → Prop) : Nat → St → Int32 → Prop
  | 0 => fun _ _ => False
  | n + 1 => fun S x1 => ((11 ≤ x1 → (∃ z, wp_m_clears_b29 Q z S (0))) ∧ (¬ 11 ≤ x1 → wp_m_reads S (x1) (0) (fun S_10 => wp_m_clears_b9 Q n S_10 ((x1 + 1)))))
def wp_m_clears (S : St) (Q : St → Prop) : Prop :=
  (∃ z, wp_m_clears_b9 Q z (sI S 6 4 0) (0))
set_option maxRecDepth 100000 in
theorem wk_m_clears_b54 {G : Gx} {K : Kx} {A : Nat → Nat} (C : KOk G K RX8 cX8_clears rm_m_clears 2 none) {B : Nat → Prop} (M : KM G K B) {Q : St → Prop} (N : KQv G K B (wM G A) Q) : ∀ (n : Nat), ∀ (S : St) (x1 : Int32), wp_m_clears_b54 Q n S x1 → Y G K 0 0 (wM G A S) 54 [(0, .ref (A 0)), (1, .int (x1))] [] := by
  intro n
  induction n with
  | zero => intro S x1 h; exact h.elim
  | succ n ih =>
    intro S x1 h
    dsimp only [wp_m_clears_b54] at h
    refine y_iload_n C dX8_clears_54 1 rfl rfl ?_
    refine y_sipush C dX8_clears_55 sp_200 ?_
    refine y_icmp_ge C (tgt := 78) dX8_clears_58 rfl (fun c_16 => ?_) (fun c_16 => ?_)
    · have h_17 := (h).1 c_16
      exact y_vretM C M N rfl (S := S) rfl (h_17) dX8_clears_78
    · have h_18 := (h).2 c_16
      refine y_aload_n C dX8_clears_61 0 rfl rfl ?_
      refine yg_X8_46_wM0 C dX8_clears_62 ?_
      refine y_sipush C dX8_clears_65 sp_800 ?_
      refine y_iload_n C dX8_clears_68 1 rfl rfl ?_
      refine y_iadd C dX8_clears_69 ?_
      refine y_iconst C dX8_clears_70 ic_0 ?_
      refine y_zast C M (wM_11 ..) rfl (wM_s11 ..) (h_18).1 dX8_clears_71 ?_
      refine y_iinc C dX8_clears_72 1 rfl (Nat.le_of_ble_eq_true rfl) (ii_1 _) [(1, .int ((x1 + 1))), (0, .ref (A 0))] rfl ?_
      refine y_goto C (tgt := 54) dX8_clears_75 rfl ?_
      exact Y.sub (ih (sI S 11 ((800 + x1)).toNatClampNeg (vp_nar .boolean 0)) ((x1 + 1)) ((h_18).2)) [1, 0] rfl
set_option maxRecDepth 100000 in
theorem wk_m_clears_b29 {G : Gx} {K : Kx} {A : Nat → Nat} (C : KOk G K RX8 cX8_clears rm_m_clears 2 none) {B : Nat → Prop} (M : KM G K B) {Q : St → Prop} (N : KQv G K B (wM G A) Q) : ∀ (n : Nat), ∀ (S : St) (x1 : Int32), wp_m_clears_b29 Q n S x1 → Y G K 0 0 (wM G A S) 29 [(0, .ref (A 0)), (1, .int (x1))] [] := by
  intro n
  induction n with
  | zero => intro S x1 h; exact h.elim
  | succ n ih =>
    intro S x1 h
    dsimp only [wp_m_clears_b29] at h
    refine y_iload_n C dX8_clears_29 1 rfl rfl ?_
    refine y_bipush C dX8_clears_30 bp_6 ?_
    refine y_icmp_ge C (tgt := 52) dX8_clears_32 rfl (fun c_11 => ?_) (fun c_11 => ?_)
    · have h_12 := (h).1 c_11
      refine y_iconst C dX8_clears_52 ic_0 ?_
      refine y_istore_n C dX8_clears_53 rfl (Nat.le_of_ble_eq_true rfl) [(1, .int (0)), (0, .ref (A 0))] rfl ?_
      obtain ⟨n_13, h_14⟩ := h_12
      exact Y.sub (wk_m_clears_b54 C M N n_13 S (0) h_14) [1, 0] rfl
    · have h_15 := (h).2 c_11
      refine y_aload_n C dX8_clears_35 0 rfl rfl ?_
      refine yg_X8_40_wM0 C dX8_clears_36 ?_
      refine y_bipush C dX8_clears_39 bp_24 ?_
      refine y_iload_n C dX8_clears_41 1 rfl rfl ?_
      refine y_iadd C dX8_clears_42 ?_
      refine y_bipush C dX8_clears_43 bp_63 ?_
      refine y_iast C M (wM_9 ..) rfl (wM_s9 ..) (h_15).1 dX8_clears_45 ?_
      refine y_iinc C dX8_clears_46 1 rfl (Nat.le_of_ble_eq_true rfl) (ii_1 _) [(1, .int ((x1 + 1))), (0, .ref (A 0))] rfl ?_
      refine y_goto C (tgt := 29) dX8_clears_49 rfl ?_
      exact Y.sub (ih (sI S 9 ((24 + x1)).toNatClampNeg 63) ((x1 + 1)) ((h_15).2)) [1, 0] rfl
set_option maxRecDepth 100000 in
theorem wk_m_clears_b9 {G : Gx} {K : Kx} {A : Nat → Nat} (C : KOk G K RX8 cX8_clears rm_m_clears 2 none) {B : Nat → Prop} (M : KM G K B) {Q : St → Prop} (N : KQv G K B (wM G A) Q) : ∀ (n : Nat), ∀ (S : St) (x1 : Int32), wp_m_clears_b9 Q n S x1 → Y G K 0 0 (wM G A S) 9 [(0, .ref (A 0)), (1, .int (x1))] [] := by
  intro n
  induction n with
  | zero => intro S x1 h; exact h.elim
  | succ n ih =>
    intro S x1 h
    dsimp only [wp_m_clears_b9] at h
    refine y_iload_n C dX8_clears_9 1 rfl rfl ?_
    refine y_bipush C dX8_clears_10 bp_11 ?_
    refine y_icmp_ge C (tgt := 27) dX8_clears_12 rfl (fun c_3 => ?_) (fun c_3 => ?_)
    · have h_4 := (h).1 c_3
      refine y_iconst C dX8_clears_27 ic_0 ?_
      refine y_istore_n C dX8_clears_28 rfl (Nat.le_of_ble_eq_true rfl) [(1, .int (0)), (0, .ref (A 0))] rfl ?_
      obtain ⟨n_5, h_6⟩ := h_4
      exact Y.sub (wk_m_clears_b29 C M N n_5 S (0) h_6) [1, 0] rfl
    · have h_7 := (h).2 c_3
      refine y_aload_n C dX8_clears_15 0 rfl rfl ?_
      refine y_iload_n C dX8_clears_16 1 rfl rfl ?_
      refine y_iconst C dX8_clears_17 ic_0 ?_
      refine y_callMvV (k' := 0) (n' := 0) (As := [.int (x1), .int (0)]) (rest := []) C M cs_X8_177 (met_m_reads G A S (x1) (0) _ (h_7)) (wM_0 ..) rfl rfl ⟨rfl, rfl, Nat.le_of_ble_eq_true rfl, Nat.le_of_ble_eq_true rfl⟩ rfl rfl (Nat.le_of_ble_eq_true rfl) dX8_clears_18 ⟨Nat.zero_le _, Nat.zero_le _⟩ rfl rfl (fun S_10 h_9 => ?_)
      refine y_iinc C dX8_clears_21 1 rfl (Nat.le_of_ble_eq_true rfl) (ii_1 _) [(1, .int ((x1 + 1))), (0, .ref (A 0))] rfl ?_
      refine y_goto C (tgt := 9) dX8_clears_24 rfl ?_
      exact Y.sub (ih S_10 ((x1 + 1)) (h_9)) [1, 0] rfl
set_option maxRecDepth 100000 in
theorem met_m_clears (G : Gx) (A : Nat → Nat) (S : St) (Q : St → Prop) (h : wp_m_clears S Q) : Mv G yX8_clears (ws_ yX8_clears cX8_clears 2 none) rm_m_clears (wM G A S) [.ref (A 0)] (wM G A) Q := by
  refine ent_Mv (by decide +kernel) rfl (Nat.le_of_ble_eq_true rfl) [(0, .ref (A 0))] rfl (fun K B C M N => ?_)
  refine y_aload_n C dX8_clears_0 0 rfl rfl ?_
  refine yg_X8_31_wM0 C dX8_clears_1 ?_
  refine y_iconst C dX8_clears_4 ic_4 ?_
  refine y_iconst C dX8_clears_5 ic_0 ?_
  refine y_iast C M (wM_6 ..) tn_4 (wM_s6 ..) vi_4_5 dX8_clears_6 ?_
  refine y_iconst C dX8_clears_7 ic_0 ?_
  refine y_istore_n C dX8_clears_8 rfl (Nat.le_of_ble_eq_true rfl) [(1, .int (0)), (0, .ref (A 0))] rfl ?_
  obtain ⟨n_1, h_2⟩ := h
  exact Y.sub (wk_m_clears_b9 C M N n_1 (sI S 6 4 0) (0) h_2) [1, 0] rfl
/-! OverHillModel begins()V: m_begins -/
abbrev rm_m_begins : Room := { frames := 3, cells := 0, slots := 0, locals := 84 }
def wp_m_begins (S : St) (Q : St → Prop) : Prop :=
  wp_m_next (sI (sI (sI S 0 12 0) 0 13 (-1)) 0 7 0) (fun S_3 => Q S_3)
set_option maxRecDepth 100000 in
theorem met_m_begins (G : Gx) (A : Nat → Nat) (S : St) (Q : St → Prop) (h : wp_m_begins S Q) : Mv G yX8_begins (ws_ yX8_begins cX8_begins 1 none) rm_m_begins (wM G A S) [.ref (A 0)] (wM G A) Q := by
  refine ent_Mv (by decide +kernel) rfl (Nat.le_of_ble_eq_true rfl) [(0, .ref (A 0))] rfl (fun K B C M N => ?_)
  refine y_aload_n C dX8_begins_0 0 rfl rfl ?_
  refine y_iconst C dX8_begins_1 ic_0 ?_
  refine yp_X8_132_wM0 C M dX8_begins_2 ?_
  refine y_aload_n C dX8_begins_5 0 rfl rfl ?_
  refine y_iconst C dX8_begins_6 icm1 ?_
  refine yp_X8_135_wM0 C M dX8_begins_7 ?_
  refine y_aload_n C dX8_begins_10 0 rfl rfl ?_
  refine y_iconst C dX8_begins_11 ic_0 ?_
  refine yp_X8_104_wM0 C M dX8_begins_12 ?_
  refine y_aload_n C dX8_begins_15 0 rfl rfl ?_
  refine y_callMvV (k' := 0) (n' := 0) (As := []) (rest := []) C M cs_X8_142 (met_m_next G A (sI (sI (sI S 0 12 0) 0 13 (-1)) 0 7 0) _ (h)) (wM_0 ..) rfl rfl ⟨rfl, rfl, Nat.le_of_ble_eq_true rfl, Nat.le_of_ble_eq_true rfl⟩ rfl rfl (Nat.le_of_ble_eq_true rfl) dX8_begins_16 ⟨Nat.zero_le _, Nat.zero_le _⟩ rfl rfl (fun S_3 h_2 => ?_)
  exact y_vretM C M N rfl (S := S_3) rfl (h_2) dX8_begins_19
/-! OverHillModel isGood()Z: m_isGood -/
abbrev rm_m_isGood : Room := { frames := 1, cells := 0, slots := 0, locals := 40 }
def wp_m_isGood (S : St) (Q : Int32 → Prop) : Prop :=
  ((¬ (S.1 0 12) = 0 → Q 0) ∧ ((S.1 0 12) = 0 → Q 1))
set_option maxRecDepth 100000 in
theorem met_m_isGood (G : Gx) (A : Nat → Nat) (S : St) (Q : Int32 → Prop) (h : wp_m_isGood S Q) : Ri G yX8_isGood (ws_ yX8_isGood cX8_isGood 1 (some .boolean)) rm_m_isGood (wM G A S) [.ref (A 0)] Q := by
  refine ent_Ri (by decide +kernel) rfl (Nat.le_of_ble_eq_true rfl) [(0, .ref (A 0))] rfl (fun K C N => ?_)
  refine y_aload_n C dX8_isGood_0 0 rfl rfl ?_
  refine yg_X8_132_wM0 C dX8_isGood_1 ?_
  refine y_if_ne C (tgt := 11) dX8_isGood_4 rfl (fun c_1 => ?_) (fun c_1 => ?_)
  · have h_2 := (h).1 c_1
    refine y_iconst C dX8_isGood_11 ic_0 ?_
    exact y_zretR C N rfl rfl (h_2) dX8_isGood_12
  · have h_3 := (h).2 c_1
    refine y_iconst C dX8_isGood_7 ic_1 ?_
    refine y_goto C (tgt := 12) dX8_isGood_8 rfl ?_
    exact y_zretR C N rfl rfl (h_3) dX8_isGood_12
/-! OverHillModel hasRead(I)I: m_hasRead -/
abbrev rm_m_hasRead : Room := { frames := 1, cells := 0, slots := 0, locals := 40 }
def wp_m_hasRead (S : St) (x1 : Int32) (Q : Int32 → Prop) : Prop :=
  (vp_in (44 + x1) 55 ∧ Q (S.1 7 ((44 + x1)).toNatClampNeg))
set_option maxRecDepth 100000 in
theorem met_m_hasRead (G : Gx) (A : Nat → Nat) (S : St) (x1 : Int32) (Q : Int32 → Prop) (h : wp_m_hasRead S x1 Q) : Ri G yX8_hasRead (ws_ yX8_hasRead cX8_hasRead 2 (some .int)) rm_m_hasRead (wM G A S) [.ref (A 0), .int (x1)] Q := by
  refine ent_Ri (by decide +kernel) rfl (Nat.le_of_ble_eq_true rfl) [(0, .ref (A 0)), (1, .int (x1))] rfl (fun K C N => ?_)
  refine y_aload_n C dX8_hasRead_0 0 rfl rfl ?_
  refine yg_X8_34_wM0 C dX8_hasRead_1 ?_
  refine y_bipush C dX8_hasRead_4 bp_44 ?_
  refine y_iload_n C dX8_hasRead_6 1 rfl rfl ?_
  refine y_iadd C dX8_hasRead_7 ?_
  refine y_iald C (wM_7 ..) rfl (h).1 dX8_hasRead_8 ?_
  exact y_iretR C N rfl ((h).2) dX8_hasRead_9
/-! OverHillModel isStumbled(III)Z: m_isStumbled -/
abbrev rm_m_isStumbled : Room := { frames := 1, cells := 0, slots := 0, locals := 40 }
def wp_m_isStumbled_b3 (S : St) (Q : Int32 → Prop) (x1 : Int32) (x2 : Int32) (x3 : Int32) : Nat → Int32 → Prop
  | 0 => fun _ => False
  | n + 1 => fun x4 => (vp_in ((11 * x1) + 7) 55 ∧ (((S.1 7 (((11 * x1) + 7)).toNatClampNeg) ≤ x4 → Q 0) ∧ (¬ (S.1 7 (((11 * x1) + 7)).toNatClampNeg) ≤ x4 → (vp_in (4 * ((8 * x1) + x4)) 160 ∧ ((¬ (S.1 10 ((4 * ((8 * x1) + x4))).toNatClampNeg) = x2 → wp_m_isStumbled_b3 S Q x1 x2 x3 n ((x4 + 1))) ∧ ((S.1 10 ((4 * ((8 * x1) + x4))).toNatClampNeg) = x2 → (vp_in ((4 * ((8 * x1) + x4)) + 1) 160 ∧ ((¬ (S.1 10 (((4 * ((8 * x1) + x4)) + 1)).toNatClampNeg) = x3 → wp_m_isStumbled_b3 S Q x1 x2 x3 n ((x4 + 1))) ∧ ((S.1 10 (((4 * ((8 * x1) + x4)) + 1)).toNatClampNeg) = x3 → Q 1)))))))))
def wp_m_isStumbled (S : St) (x1 : Int32) (x2 : Int32) (x3 : Int32) (Q : Int32 → Prop) : Prop :=
  (∃ z, wp_m_isStumbled_b3 S Q (x1) (x2) (x3) z (0))
set_option maxRecDepth 100000 in
theorem wk_m_isStumbled_b3 {G : Gx} {K : Kx} {A : Nat → Nat} (C : KOk G K RX8 cX8_isStumbled rm_m_isStumbled 5 (some .boolean)) {S : St} {Q : Int32 → Prop} (N : KRi K Q) (x1 : Int32) (x2 : Int32) (x3 : Int32) : ∀ (n : Nat), ∀ (x4 : Int32), wp_m_isStumbled_b3 S Q x1 x2 x3 n x4 → Y G K 0 0 (wM G A S) 3 [(0, .ref (A 0)), (1, .int (x1)), (2, .int (x2)), (3, .int (x3)), (4, .int (x4))] [] := by
  intro n
  induction n with
  | zero => intro x4 h; exact h.elim
  | succ n ih =>
    intro x4 h
    dsimp only [wp_m_isStumbled_b3] at h
    refine y_iload C dX8_isStumbled_3 4 rfl ?_
    refine y_aload_n C dX8_isStumbled_5 0 rfl rfl ?_
    refine yg_X8_34_wM0 C dX8_isStumbled_6 ?_
    refine y_bipush C dX8_isStumbled_9 bp_11 ?_
    refine y_iload_n C dX8_isStumbled_11 1 rfl rfl ?_
    refine y_imul C dX8_isStumbled_12 ?_
    refine y_bipush C dX8_isStumbled_13 bp_7 ?_
    refine y_iadd C dX8_isStumbled_15 ?_
    refine y_iald C (wM_7 ..) rfl (h).1 dX8_isStumbled_16 ?_
    refine y_icmp_ge C (tgt := 66) dX8_isStumbled_17 rfl (fun c_3 => ?_) (fun c_3 => ?_)
    · have h_4 := ((h).2).1 c_3
      refine y_iconst C dX8_isStumbled_66 ic_0 ?_
      exact y_zretR C N rfl rfl (h_4) dX8_isStumbled_67
    · have h_5 := ((h).2).2 c_3
      refine y_aload_n C dX8_isStumbled_20 0 rfl rfl ?_
      refine yg_X8_43_wM0 C dX8_isStumbled_21 ?_
      refine y_iconst C dX8_isStumbled_24 ic_4 ?_
      refine y_bipush C dX8_isStumbled_25 bp_8 ?_
      refine y_iload_n C dX8_isStumbled_27 1 rfl rfl ?_
      refine y_imul C dX8_isStumbled_28 ?_
      refine y_iload C dX8_isStumbled_29 4 rfl ?_
      refine y_iadd C dX8_isStumbled_31 ?_
      refine y_imul C dX8_isStumbled_32 ?_
      refine y_iald C (wM_10 ..) rfl (h_5).1 dX8_isStumbled_33 ?_
      refine y_iload_n C dX8_isStumbled_34 2 rfl rfl ?_
      refine y_icmp_ne C (tgt := 60) dX8_isStumbled_35 rfl (fun c_6 => ?_) (fun c_6 => ?_)
      · have h_7 := ((h_5).2).1 c_6
        refine y_iinc C dX8_isStumbled_60 4 rfl (Nat.le_of_ble_eq_true rfl) (ii_1 _) [(4, .int ((x4 + 1))), (0, .ref (A 0)), (1, .int (x1)), (2, .int (x2)), (3, .int (x3))] rfl ?_
        refine y_goto C (tgt := 3) dX8_isStumbled_63 rfl ?_
        exact Y.sub (ih ((x4 + 1)) (h_7)) [1, 2, 3, 4, 0] rfl
      · have h_8 := ((h_5).2).2 c_6
        refine y_aload_n C dX8_isStumbled_38 0 rfl rfl ?_
        refine yg_X8_43_wM0 C dX8_isStumbled_39 ?_
        refine y_iconst C dX8_isStumbled_42 ic_4 ?_
        refine y_bipush C dX8_isStumbled_43 bp_8 ?_
        refine y_iload_n C dX8_isStumbled_45 1 rfl rfl ?_
        refine y_imul C dX8_isStumbled_46 ?_
        refine y_iload C dX8_isStumbled_47 4 rfl ?_
        refine y_iadd C dX8_isStumbled_49 ?_
        refine y_imul C dX8_isStumbled_50 ?_
        refine y_iconst C dX8_isStumbled_51 ic_1 ?_
        refine y_iadd C dX8_isStumbled_52 ?_
        refine y_iald C (wM_10 ..) rfl (h_8).1 dX8_isStumbled_53 ?_
        refine y_iload_n C dX8_isStumbled_54 3 rfl rfl ?_
        refine y_icmp_ne C (tgt := 60) dX8_isStumbled_55 rfl (fun c_9 => ?_) (fun c_9 => ?_)
        · have h_10 := ((h_8).2).1 c_9
          refine y_iinc C dX8_isStumbled_60 4 rfl (Nat.le_of_ble_eq_true rfl) (ii_1 _) [(4, .int ((x4 + 1))), (0, .ref (A 0)), (1, .int (x1)), (2, .int (x2)), (3, .int (x3))] rfl ?_
          refine y_goto C (tgt := 3) dX8_isStumbled_63 rfl ?_
          exact Y.sub (ih ((x4 + 1)) (h_10)) [1, 2, 3, 4, 0] rfl
        · have h_11 := ((h_8).2).2 c_9
          refine y_iconst C dX8_isStumbled_58 ic_1 ?_
          exact y_zretR C N rfl rfl (h_11) dX8_isStumbled_59
set_option maxRecDepth 100000 in
theorem met_m_isStumbled (G : Gx) (A : Nat → Nat) (S : St) (x1 : Int32) (x2 : Int32) (x3 : Int32) (Q : Int32 → Prop) (h : wp_m_isStumbled S x1 x2 x3 Q) : Ri G yX8_isStumbled (ws_ yX8_isStumbled cX8_isStumbled 5 (some .boolean)) rm_m_isStumbled (wM G A S) [.ref (A 0), .int (x1), .int (x2), .int (x3)] Q := by
  refine ent_Ri (by decide +kernel) rfl (Nat.le_of_ble_eq_true rfl) [(0, .ref (A 0)), (1, .int (x1)), (2, .int (x2)), (3, .int (x3))] rfl (fun K C N => ?_)
  refine y_iconst C dX8_isStumbled_0 ic_0 ?_
  refine y_istore C dX8_isStumbled_1 (Nat.le_of_ble_eq_true rfl) [(4, .int (0)), (0, .ref (A 0)), (1, .int (x1)), (2, .int (x2)), (3, .int (x3))] rfl ?_
  obtain ⟨n_1, h_2⟩ := h
  exact Y.sub (wk_m_isStumbled_b3 C N (x1) (x2) (x3) n_1 (0) h_2) [1, 2, 3, 4, 0] rfl
/-! OverHillModel beatHere()I: m_beatHere -/
abbrev rm_m_beatHere : Room := { frames := 4, cells := 0, slots := 0, locals := 107 }
def wp_m_beatHere (S : St) (Q : Int32 → St → Prop) : Prop :=
  wp_m_number_2 S (0) (199) (fun r_1 S_3 => Q r_1 S_3)
set_option maxRecDepth 100000 in
theorem met_m_beatHere (G : Gx) (A : Nat → Nat) (S : St) (Q : Int32 → St → Prop) (h : wp_m_beatHere S Q) : Mi G yX8_beatHere (ws_ yX8_beatHere cX8_beatHere 1 (some .int)) rm_m_beatHere (wM G A S) [.ref (A 0)] (wM G A) Q := by
  refine ent_Mi (by decide +kernel) rfl (Nat.le_of_ble_eq_true rfl) [(0, .ref (A 0))] rfl (fun K B C M N => ?_)
  refine y_aload_n C dX8_beatHere_0 0 rfl rfl ?_
  refine y_iconst C dX8_beatHere_1 ic_0 ?_
  refine y_sipush C dX8_beatHere_2 sp_199 ?_
  refine y_callMiV (k' := 0) (n' := 0) (As := [.int (0), .int (199)]) (rest := []) C M cs_X8_155 (met_m_number_2 G A S (0) (199) _ (h)) (wM_0 ..) rfl rfl ⟨rfl, rfl, Nat.le_of_ble_eq_true rfl, Nat.le_of_ble_eq_true rfl⟩ rfl rfl (Nat.le_of_ble_eq_true rfl) dX8_beatHere_5 ⟨Nat.zero_le _, Nat.zero_le _⟩ rfl rfl (fun r_1 S_3 h_2 => ?_)
  exact y_iretM C M N rfl (S := S_3) rfl (h_2) dX8_beatHere_8
/-! OverHillModel stumbleLine()V: m_stumbleLine -/
abbrev rm_m_stumbleLine : Room := { frames := 6, cells := 0, slots := 0, locals := 152 }
def wp_m_stumbleLine_b59 (Q : St → Prop) (S : St) (x1 : Int32) (x2 : Int32) : Prop :=
  wp_m_beatHere S (fun r_25 S_27 => (vp_in (x1 + 1) 160 ∧ (vp_in x1 160 ∧ wp_m_number (sI (sI S_27 10 ((x1 + 1)).toNatClampNeg r_25) 10 (x1).toNatClampNeg x2) (89821) (0) (5) (fun r_28 S_30 => (vp_in (x1 + 2) 160 ∧ wp_m_number (sI S_30 10 ((x1 + 2)).toNatClampNeg r_28) (8782) (0) (9) (fun r_31 S_33 => (vp_in (x1 + 3) 160 ∧ wp_m_hasRead (sI S_33 10 ((x1 + 3)).toNatClampNeg r_31) (7) (fun r_34 => wp_m_reads (sI S_33 10 ((x1 + 3)).toNatClampNeg r_31) (7) ((r_34 + 1)) (fun S_39 => Q S_39)))))))))
def wp_m_stumbleLine (S : St) (Q : St → Prop) : Prop :=
  wp_m_hasRead S (7) (fun r_1 => wp_m_number_2 S (0) (1) (fun r_4 S_6 => wp_m_asks S_6 (47) (fun S_9 => ((¬ (S_9.1 0 12) = 0 → wp_m_stumbleLine_b59 Q S_9 ((4 * (32 + r_1))) (r_4)) ∧ ((S_9.1 0 12) = 0 → ((¬ (S_9.1 0 8) = 2 → wp_m_stumbleLine_b59 Q S_9 ((4 * (32 + r_1))) (r_4)) ∧ ((S_9.1 0 8) = 2 → wp_m_isStumbled S_9 (4) (r_4) ((S_9.1 0 10)) (fun r_16 => ((r_16 = 0 → wp_m_stumbleLine_b59 Q S_9 ((4 * (32 + r_1))) (r_4)) ∧ (¬ r_16 = 0 → wp_m_fails S_9 (2) (fun S_24 => wp_m_stumbleLine_b59 Q S_24 ((4 * (32 + r_1))) (r_4))))))))))))
set_option maxRecDepth 100000 in
theorem wk_m_stumbleLine_b59 {G : Gx} {K : Kx} {A : Nat → Nat} (C : KOk G K RX8 cX8_stumbleLine rm_m_stumbleLine 3 none) {B : Nat → Prop} (M : KM G K B) {Q : St → Prop} (N : KQv G K B (wM G A) Q) (S : St) (x1 : Int32) (x2 : Int32) (h : wp_m_stumbleLine_b59 Q S x1 x2) : Y G K 0 0 (wM G A S) 59 [(0, .ref (A 0)), (1, .int (x1)), (2, .int (x2))] [] := by
  refine y_aload_n C dX8_stumbleLine_59 0 rfl rfl ?_
  refine yg_X8_43_wM0 C dX8_stumbleLine_60 ?_
  refine y_iload_n C dX8_stumbleLine_63 1 rfl rfl ?_
  refine y_iconst C dX8_stumbleLine_64 ic_1 ?_
  refine y_iadd C dX8_stumbleLine_65 ?_
  refine y_aload_n C dX8_stumbleLine_66 0 rfl rfl ?_
  refine y_callMiV (k' := 0) (n' := 0) (As := []) (rest := [.int ((x1 + 1)), .ref (A 10)]) C M cs_X8_190 (met_m_beatHere G A S _ (h)) (wM_0 ..) rfl rfl ⟨rfl, rfl, Nat.le_of_ble_eq_true rfl, Nat.le_of_ble_eq_true rfl⟩ rfl rfl (Nat.le_of_ble_eq_true rfl) dX8_stumbleLine_67 ⟨Nat.zero_le _, Nat.zero_le _⟩ rfl rfl (fun r_25 S_27 h_26 => ?_)
  refine y_iast C M (wM_10 ..) rfl (wM_s10 ..) (h_26).1 dX8_stumbleLine_70 ?_
  refine y_aload_n C dX8_stumbleLine_71 0 rfl rfl ?_
  refine yg_X8_43_wM0 C dX8_stumbleLine_72 ?_
  refine y_iload_n C dX8_stumbleLine_75 1 rfl rfl ?_
  refine y_iload_n C dX8_stumbleLine_76 2 rfl rfl ?_
  refine y_iast C M (wM_10 ..) rfl (wM_s10 ..) ((h_26).2).1 dX8_stumbleLine_77 ?_
  refine y_aload_n C dX8_stumbleLine_78 0 rfl rfl ?_
  refine yg_X8_43_wM0 C dX8_stumbleLine_79 ?_
  refine y_iload_n C dX8_stumbleLine_82 1 rfl rfl ?_
  refine y_iconst C dX8_stumbleLine_83 ic_2 ?_
  refine y_iadd C dX8_stumbleLine_84 ?_
  refine y_aload_n C dX8_stumbleLine_85 0 rfl rfl ?_
  refine y_ldc2 C dX8_stumbleLine_86 q1825 ?_
  refine y_iconst C dX8_stumbleLine_89 ic_0 ?_
  refine y_iconst C dX8_stumbleLine_90 ic_5 ?_
  refine y_callMiV (k' := 0) (n' := 0) (As := [.long (89821), .int (0), .int (5)]) (rest := [.int ((x1 + 2)), .ref (A 10)]) C M cs_X8_174 (met_m_number G A (sI (sI S_27 10 ((x1 + 1)).toNatClampNeg r_25) 10 (x1).toNatClampNeg x2) (89821) (0) (5) _ (((h_26).2).2)) (wM_0 ..) rfl rfl ⟨rfl, rfl, Nat.le_of_ble_eq_true rfl, Nat.le_of_ble_eq_true rfl⟩ rfl rfl (Nat.le_of_ble_eq_true rfl) dX8_stumbleLine_91 ⟨Nat.zero_le _, Nat.zero_le _⟩ rfl rfl (fun r_28 S_30 h_29 => ?_)
  refine y_iast C M (wM_10 ..) rfl (wM_s10 ..) (h_29).1 dX8_stumbleLine_94 ?_
  refine y_aload_n C dX8_stumbleLine_95 0 rfl rfl ?_
  refine yg_X8_43_wM0 C dX8_stumbleLine_96 ?_
  refine y_iload_n C dX8_stumbleLine_99 1 rfl rfl ?_
  refine y_iconst C dX8_stumbleLine_100 ic_3 ?_
  refine y_iadd C dX8_stumbleLine_101 ?_
  refine y_aload_n C dX8_stumbleLine_102 0 rfl rfl ?_
  refine y_ldc2 C dX8_stumbleLine_103 q1826 ?_
  refine y_iconst C dX8_stumbleLine_106 ic_0 ?_
  refine y_bipush C dX8_stumbleLine_107 bp_9 ?_
  refine y_callMiV (k' := 0) (n' := 0) (As := [.long (8782), .int (0), .int (9)]) (rest := [.int ((x1 + 3)), .ref (A 10)]) C M cs_X8_174 (met_m_number G A (sI S_30 10 ((x1 + 2)).toNatClampNeg r_28) (8782) (0) (9) _ ((h_29).2)) (wM_0 ..) rfl rfl ⟨rfl, rfl, Nat.le_of_ble_eq_true rfl, Nat.le_of_ble_eq_true rfl⟩ rfl rfl (Nat.le_of_ble_eq_true rfl) dX8_stumbleLine_109 ⟨Nat.zero_le _, Nat.zero_le _⟩ rfl rfl (fun r_31 S_33 h_32 => ?_)
  refine y_iast C M (wM_10 ..) rfl (wM_s10 ..) (h_32).1 dX8_stumbleLine_112 ?_
  refine y_aload_n C dX8_stumbleLine_113 0 rfl rfl ?_
  refine y_bipush C dX8_stumbleLine_114 bp_7 ?_
  refine y_aload_n C dX8_stumbleLine_116 0 rfl rfl ?_
  refine y_bipush C dX8_stumbleLine_117 bp_7 ?_
  refine y_callRiV (As := [.int (7)]) (rest := [.int (7), .ref (A 0)]) C cs_X8_181 (met_m_hasRead G A (sI S_33 10 ((x1 + 3)).toNatClampNeg r_31) (7) _ ((h_32).2)) (fun _ h => h) (wM_0 ..) rfl rfl ⟨rfl, rfl, Nat.le_of_ble_eq_true rfl, Nat.le_of_ble_eq_true rfl⟩ rfl rfl (Nat.le_of_ble_eq_true rfl) dX8_stumbleLine_119 ⟨Nat.zero_le _, Nat.zero_le _⟩ (fun r_34 h_35 => ?_)
  refine y_iconst C dX8_stumbleLine_122 ic_1 ?_
  refine y_iadd C dX8_stumbleLine_123 ?_
  refine y_callMvV (k' := 0) (n' := 0) (As := [.int (7), .int ((r_34 + 1))]) (rest := []) C M cs_X8_177 (met_m_reads G A (sI S_33 10 ((x1 + 3)).toNatClampNeg r_31) (7) ((r_34 + 1)) _ (h_35)) (wM_0 ..) rfl rfl ⟨rfl, rfl, Nat.le_of_ble_eq_true rfl, Nat.le_of_ble_eq_true rfl⟩ rfl rfl (Nat.le_of_ble_eq_true rfl) dX8_stumbleLine_124 ⟨Nat.zero_le _, Nat.zero_le _⟩ rfl rfl (fun S_39 h_38 => ?_)
  exact y_vretM C M N rfl (S := S_39) rfl (h_38) dX8_stumbleLine_127
set_option maxRecDepth 100000 in
theorem met_m_stumbleLine (G : Gx) (A : Nat → Nat) (S : St) (Q : St → Prop) (h : wp_m_stumbleLine S Q) : Mv G yX8_stumbleLine (ws_ yX8_stumbleLine cX8_stumbleLine 3 none) rm_m_stumbleLine (wM G A S) [.ref (A 0)] (wM G A) Q := by
  refine ent_Mv (by decide +kernel) rfl (Nat.le_of_ble_eq_true rfl) [(0, .ref (A 0))] rfl (fun K B C M N => ?_)
  refine y_iconst C dX8_stumbleLine_0 ic_4 ?_
  refine y_bipush C dX8_stumbleLine_1 bp_32 ?_
  refine y_aload_n C dX8_stumbleLine_3 0 rfl rfl ?_
  refine y_bipush C dX8_stumbleLine_4 bp_7 ?_
  refine y_callRiV (As := [.int (7)]) (rest := [.int (32), .int (4)]) C cs_X8_181 (met_m_hasRead G A S (7) _ (h)) (fun _ h => h) (wM_0 ..) rfl rfl ⟨rfl, rfl, Nat.le_of_ble_eq_true rfl, Nat.le_of_ble_eq_true rfl⟩ rfl rfl (Nat.le_of_ble_eq_true rfl) dX8_stumbleLine_6 ⟨Nat.zero_le _, Nat.zero_le _⟩ (fun r_1 h_2 => ?_)
  refine y_iadd C dX8_stumbleLine_9 ?_
  refine y_imul C dX8_stumbleLine_10 ?_
  refine y_istore_n C dX8_stumbleLine_11 rfl (Nat.le_of_ble_eq_true rfl) [(1, .int ((4 * (32 + r_1)))), (0, .ref (A 0))] rfl ?_
  refine y_aload_n C dX8_stumbleLine_12 1 rfl rfl ?_
  refine y_iconst C dX8_stumbleLine_13 ic_0 ?_
  refine y_iconst C dX8_stumbleLine_14 ic_1 ?_
  refine y_callMiV (k' := 0) (n' := 0) (As := [.int (0), .int (1)]) (rest := []) C M cs_X8_155 (met_m_number_2 G A S (0) (1) _ (h_2)) (wM_0 ..) rfl rfl ⟨rfl, rfl, Nat.le_of_ble_eq_true rfl, Nat.le_of_ble_eq_true rfl⟩ rfl rfl (Nat.le_of_ble_eq_true rfl) dX8_stumbleLine_15 ⟨Nat.zero_le _, Nat.zero_le _⟩ rfl rfl (fun r_4 S_6 h_5 => ?_)
  refine y_istore_n C dX8_stumbleLine_18 rfl (Nat.le_of_ble_eq_true rfl) [(2, .int (r_4)), (1, .int ((4 * (32 + r_1)))), (0, .ref (A 0))] rfl ?_
  refine y_aload_n C dX8_stumbleLine_19 2 rfl rfl ?_
  refine y_ldc2 C dX8_stumbleLine_20 q1816 ?_
  refine y_callMvV (k' := 0) (n' := 0) (As := [.long (47)]) (rest := []) C M cs_X8_151 (met_m_asks G A S_6 (47) _ (h_5)) (wM_0 ..) rfl rfl ⟨rfl, rfl, Nat.le_of_ble_eq_true rfl, Nat.le_of_ble_eq_true rfl⟩ rfl rfl (Nat.le_of_ble_eq_true rfl) dX8_stumbleLine_23 ⟨Nat.zero_le _, Nat.zero_le _⟩ rfl rfl (fun S_9 h_8 => ?_)
  refine y_aload_n C dX8_stumbleLine_26 2 rfl rfl ?_
  refine yg_X8_132_wM0 C dX8_stumbleLine_27 ?_
  refine y_if_ne C (tgt := 59) dX8_stumbleLine_30 rfl (fun c_10 => ?_) (fun c_10 => ?_)
  · have h_11 := (h_8).1 c_10
    exact Y.sub (wk_m_stumbleLine_b59 C M N S_9 ((4 * (32 + r_1))) (r_4) (h_11)) [2, 1, 0] rfl
  · have h_12 := (h_8).2 c_10
    refine y_aload_n C dX8_stumbleLine_33 2 rfl rfl ?_
    refine yg_X8_121_wM0 C dX8_stumbleLine_34 ?_
    refine y_iconst C dX8_stumbleLine_37 ic_2 ?_
    refine y_icmp_ne C (tgt := 59) dX8_stumbleLine_38 rfl (fun c_13 => ?_) (fun c_13 => ?_)
    · have h_14 := (h_12).1 c_13
      exact Y.sub (wk_m_stumbleLine_b59 C M N S_9 ((4 * (32 + r_1))) (r_4) (h_14)) [2, 1, 0] rfl
    · have h_15 := (h_12).2 c_13
      refine y_aload_n C dX8_stumbleLine_41 2 rfl rfl ?_
      refine y_iconst C dX8_stumbleLine_42 ic_4 ?_
      refine y_iload_n C dX8_stumbleLine_43 0 rfl rfl ?_
      refine y_aload_n C dX8_stumbleLine_44 2 rfl rfl ?_
      refine yg_X8_114_wM0 C dX8_stumbleLine_45 ?_
      refine y_callRiV (As := [.int (4), .int (r_4), .int ((S_9.1 0 10))]) (rest := []) C cs_X8_187 (met_m_isStumbled G A S_9 (4) (r_4) ((S_9.1 0 10)) _ (h_15)) (fun _ h => h) (wM_0 ..) rfl rfl ⟨rfl, rfl, Nat.le_of_ble_eq_true rfl, Nat.le_of_ble_eq_true rfl⟩ rfl rfl (Nat.le_of_ble_eq_true rfl) dX8_stumbleLine_48 ⟨Nat.zero_le _, Nat.zero_le _⟩ (fun r_16 h_17 => ?_)
      refine y_if_eq C (tgt := 59) dX8_stumbleLine_51 rfl (fun c_19 => ?_) (fun c_19 => ?_)
      · have h_20 := (h_17).1 c_19
        exact Y.sub (wk_m_stumbleLine_b59 C M N S_9 ((4 * (32 + r_1))) (r_4) (h_20)) [2, 1, 0] rfl
      · have h_21 := (h_17).2 c_19
        refine y_aload_n C dX8_stumbleLine_54 2 rfl rfl ?_
        refine y_iconst C dX8_stumbleLine_55 ic_2 ?_
        refine y_callMvV (k' := 0) (n' := 0) (As := [.int (2)]) (rest := []) C M cs_X8_148 (met_m_fails G A S_9 (2) _ (h_21)) (wM_0 ..) rfl rfl ⟨rfl, rfl, Nat.le_of_ble_eq_true rfl, Nat.le_of_ble_eq_true rfl⟩ rfl rfl (Nat.le_of_ble_eq_true rfl) dX8_stumbleLine_56 ⟨Nat.zero_le _, Nat.zero_le _⟩ rfl rfl (fun S_24 h_23 => ?_)
        exact Y.sub (wk_m_stumbleLine_b59 C M N S_24 ((4 * (32 + r_1))) (r_4) (h_23)) [2, 1, 0] rfl
/-! OverHillModel stepHere()I: m_stepHere -/
abbrev rm_m_stepHere : Room := { frames := 4, cells := 0, slots := 0, locals := 107 }
def wp_m_stepHere (S : St) (Q : Int32 → St → Prop) : Prop :=
  wp_m_number_2 S (0) (5) (fun r_1 S_3 => Q r_1 S_3)
set_option maxRecDepth 100000 in
theorem met_m_stepHere (G : Gx) (A : Nat → Nat) (S : St) (Q : Int32 → St → Prop) (h : wp_m_stepHere S Q) : Mi G yX8_stepHere (ws_ yX8_stepHere cX8_stepHere 1 (some .int)) rm_m_stepHere (wM G A S) [.ref (A 0)] (wM G A) Q := by
  refine ent_Mi (by decide +kernel) rfl (Nat.le_of_ble_eq_true rfl) [(0, .ref (A 0))] rfl (fun K B C M N => ?_)
  refine y_aload_n C dX8_stepHere_0 0 rfl rfl ?_
  refine y_iconst C dX8_stepHere_1 ic_0 ?_
  refine y_iconst C dX8_stepHere_2 ic_5 ?_
  refine y_callMiV (k' := 0) (n' := 0) (As := [.int (0), .int (5)]) (rest := []) C M cs_X8_155 (met_m_number_2 G A S (0) (5) _ (h)) (wM_0 ..) rfl rfl ⟨rfl, rfl, Nat.le_of_ble_eq_true rfl, Nat.le_of_ble_eq_true rfl⟩ rfl rfl (Nat.le_of_ble_eq_true rfl) dX8_stepHere_3 ⟨Nat.zero_le _, Nat.zero_le _⟩ rfl rfl (fun r_1 S_3 h_2 => ?_)
  exact y_iretM C M N rfl (S := S_3) rfl (h_2) dX8_stepHere_6
/-! OverHillModel roundLine()V: m_roundLine -/
abbrev rm_m_roundLine : Room := { frames := 6, cells := 0, slots := 0, locals := 152 }
def wp_m_roundLine_b104 (Q : St → Prop) : Nat → St → Int32 → Int32 → Int32 → Int32 → Prop
  | 0 => fun _ _ _ _ _ => False
  | n + 1 => fun S x1 x2 x3 x4 => ((x2 ≤ x4 → wp_m_reads S ((3 + x1)) (x2) (fun S_51 => wp_m_reads S_51 ((5 + x1)) (x3) (fun S_54 => Q S_54))) ∧ (¬ x2 ≤ x4 → (vp_in x4 13 ∧ (vp_in ((12 * (8 + x1)) + x4) 120 ∧ wp_m_roundLine_b104 Q n (sI S 8 (((12 * (8 + x1)) + x4)).toNatClampNeg (S.1 16 (x4).toNatClampNeg)) (x1) (x2) (x3) ((x4 + 1))))))
def wp_m_roundLine_b81 (Q : St → Prop) (S : St) (x1 : Int32) (x2 : Int32) : Prop :=
  wp_m_number S (31499758) (0) ((x2 - 1)) (fun r_39 S_41 => (((S_41.1 0 12) = 0 → (∃ z, wp_m_roundLine_b104 Q z S_41 (x1) (x2) (r_39) (0))) ∧ (¬ (S_41.1 0 12) = 0 → Q S_41)))
def wp_m_roundLine_b63 (Q : St → Prop) (K16 : St → Int32 → Int32 → Prop) (S : St) (x1 : Int32) (x2 : Int32) : Prop :=
  wp_m_isGood S (fun r_30 => ((r_30 = 0 → wp_m_roundLine_b81 Q S (x1) ((x2 + 1))) ∧ (¬ r_30 = 0 → (((S.1 0 8) = 2 → K16 S (x1) ((x2 + 1))) ∧ (¬ (S.1 0 8) = 2 → wp_m_roundLine_b81 Q S (x1) ((x2 + 1)))))))
def wp_m_roundLine_b44 (Q : St → Prop) (K16 : St → Int32 → Int32 → Prop) (S : St) (x1 : Int32) (x2 : Int32) : Prop :=
  wp_m_stepHere S (fun r_18 S_20 => wp_m_isGood S_20 (fun r_21 => ((r_21 = 0 → wp_m_roundLine_b63 Q K16 S_20 (x1) (x2)) ∧ (¬ r_21 = 0 → (vp_in x2 13 ∧ wp_m_roundLine_b63 Q K16 (sI S_20 16 (x2).toNatClampNeg r_18) (x1) (x2))))))
def wp_m_roundLine_b39 (Q : St → Prop) (K16 : St → Int32 → Int32 → Prop) (S : St) (x1 : Int32) (x2 : Int32) : Prop :=
  wp_m_fails S (3) (fun S_29 => wp_m_roundLine_b44 Q K16 S_29 (x1) (x2))
def wp_m_roundLine_b16 (Q : St → Prop) : Nat → St → Int32 → Int32 → Prop
  | 0 => fun _ _ _ => False
  | n + 1 => fun S x1 x2 => ((¬ x2 = 12 → wp_m_roundLine_b44 Q (fun Sy y1 y2 => wp_m_roundLine_b16 Q n Sy y1 y2) S (x1) (x2)) ∧ (x2 = 12 → ((¬ (S.1 0 8) = 2 → wp_m_roundLine_b39 Q (fun Sy y1 y2 => wp_m_roundLine_b16 Q n Sy y1 y2) S (x1) (x2)) ∧ ((S.1 0 8) = 2 → ((6 ≤ (S.1 0 10) → wp_m_roundLine_b44 Q (fun Sy y1 y2 => wp_m_roundLine_b16 Q n Sy y1 y2) S (x1) (x2)) ∧ (¬ 6 ≤ (S.1 0 10) → wp_m_roundLine_b39 Q (fun Sy y1 y2 => wp_m_roundLine_b16 Q n Sy y1 y2) S (x1) (x2)))))))
def wp_m_roundLine (S : St) (Q : St → Prop) : Prop :=
  wp_m_number_2 S (0) (1) (fun r_1 S_3 => wp_m_asks S_3 (411) (fun S_6 => (∃ z, wp_m_roundLine_b16 Q z S_6 (r_1) (0))))
set_option maxRecDepth 100000 in
theorem wk_m_roundLine_b104 {G : Gx} {K : Kx} {A : Nat → Nat} (C : KOk G K RX8 cX8_roundLine rm_m_roundLine 5 none) {B : Nat → Prop} (M : KM G K B) {Q : St → Prop} (N : KQv G K B (wM G A) Q) : ∀ (n : Nat), ∀ (S : St) (x1 : Int32) (x2 : Int32) (x3 : Int32) (x4 : Int32), wp_m_roundLine_b104 Q n S x1 x2 x3 x4 → Y G K 0 0 (wM G A S) 104 [(0, .ref (A 0)), (1, .int (x1)), (2, .int (x2)), (3, .int (x3)), (4, .int (x4))] [] := by
  intro n
  induction n with
  | zero => intro S x1 x2 x3 x4 h; exact h.elim
  | succ n ih =>
    intro S x1 x2 x3 x4 h
    dsimp only [wp_m_roundLine_b104] at h
    refine y_iload C dX8_roundLine_104 4 rfl ?_
    refine y_iload_n C dX8_roundLine_106 2 rfl rfl ?_
    refine y_icmp_ge C (tgt := 138) dX8_roundLine_107 rfl (fun c_47 => ?_) (fun c_47 => ?_)
    · have h_48 := (h).1 c_47
      refine y_aload_n C dX8_roundLine_138 0 rfl rfl ?_
      refine y_iconst C dX8_roundLine_139 ic_3 ?_
      refine y_iload_n C dX8_roundLine_140 1 rfl rfl ?_
      refine y_iadd C dX8_roundLine_141 ?_
      refine y_iload_n C dX8_roundLine_142 2 rfl rfl ?_
      refine y_callMvV (k' := 0) (n' := 0) (As := [.int ((3 + x1)), .int (x2)]) (rest := []) C M cs_X8_177 (met_m_reads G A S ((3 + x1)) (x2) _ (h_48)) (wM_0 ..) rfl rfl ⟨rfl, rfl, Nat.le_of_ble_eq_true rfl, Nat.le_of_ble_eq_true rfl⟩ rfl rfl (Nat.le_of_ble_eq_true rfl) dX8_roundLine_143 ⟨Nat.zero_le _, Nat.zero_le _⟩ rfl rfl (fun S_51 h_50 => ?_)
      refine y_aload_n C dX8_roundLine_146 0 rfl rfl ?_
      refine y_iconst C dX8_roundLine_147 ic_5 ?_
      refine y_iload_n C dX8_roundLine_148 1 rfl rfl ?_
      refine y_iadd C dX8_roundLine_149 ?_
      refine y_iload_n C dX8_roundLine_150 3 rfl rfl ?_
      refine y_callMvV (k' := 0) (n' := 0) (As := [.int ((5 + x1)), .int (x3)]) (rest := []) C M cs_X8_177 (met_m_reads G A S_51 ((5 + x1)) (x3) _ (h_50)) (wM_0 ..) rfl rfl ⟨rfl, rfl, Nat.le_of_ble_eq_true rfl, Nat.le_of_ble_eq_true rfl⟩ rfl rfl (Nat.le_of_ble_eq_true rfl) dX8_roundLine_151 ⟨Nat.zero_le _, Nat.zero_le _⟩ rfl rfl (fun S_54 h_53 => ?_)
      exact y_vretM C M N rfl (S := S_54) rfl (h_53) dX8_roundLine_154
    · have h_55 := (h).2 c_47
      refine y_aload_n C dX8_roundLine_110 0 rfl rfl ?_
      refine yg_X8_37_wM0 C dX8_roundLine_111 ?_
      refine y_bipush C dX8_roundLine_114 bp_12 ?_
      refine y_bipush C dX8_roundLine_116 bp_8 ?_
      refine y_iload_n C dX8_roundLine_118 1 rfl rfl ?_
      refine y_iadd C dX8_roundLine_119 ?_
      refine y_imul C dX8_roundLine_120 ?_
      refine y_iload C dX8_roundLine_121 4 rfl ?_
      refine y_iadd C dX8_roundLine_123 ?_
      refine y_aload_n C dX8_roundLine_124 0 rfl rfl ?_
      refine yg_X8_62_wM0 C dX8_roundLine_125 ?_
      refine y_iload C dX8_roundLine_128 4 rfl ?_
      refine y_iald C (wM_16 ..) rfl (h_55).1 dX8_roundLine_130 ?_
      refine y_iast C M (wM_8 ..) rfl (wM_s8 ..) ((h_55).2).1 dX8_roundLine_131 ?_
      refine y_iinc C dX8_roundLine_132 4 rfl (Nat.le_of_ble_eq_true rfl) (ii_1 _) [(4, .int ((x4 + 1))), (0, .ref (A 0)), (1, .int (x1)), (2, .int (x2)), (3, .int (x3))] rfl ?_
      refine y_goto C (tgt := 104) dX8_roundLine_135 rfl ?_
      exact Y.sub (ih (sI S 8 (((12 * (8 + x1)) + x4)).toNatClampNeg (S.1 16 (x4).toNatClampNeg)) (x1) (x2) (x3) ((x4 + 1)) (((h_55).2).2)) [1, 2, 3, 4, 0] rfl
set_option maxRecDepth 100000 in
theorem wk_m_roundLine_b81 {G : Gx} {K : Kx} {A : Nat → Nat} (C : KOk G K RX8 cX8_roundLine rm_m_roundLine 5 none) {B : Nat → Prop} (M : KM G K B) {Q : St → Prop} (N : KQv G K B (wM G A) Q) (S : St) (x1 : Int32) (x2 : Int32) (h : wp_m_roundLine_b81 Q S x1 x2) : Y G K 0 0 (wM G A S) 81 [(0, .ref (A 0)), (1, .int (x1)), (2, .int (x2))] [] := by
  refine y_aload_n C dX8_roundLine_81 0 rfl rfl ?_
  refine y_ldc2 C dX8_roundLine_82 q1842 ?_
  refine y_iconst C dX8_roundLine_85 ic_0 ?_
  refine y_iload_n C dX8_roundLine_86 2 rfl rfl ?_
  refine y_iconst C dX8_roundLine_87 ic_1 ?_
  refine y_isub C dX8_roundLine_88 ?_
  refine y_callMiV (k' := 0) (n' := 0) (As := [.long (31499758), .int (0), .int ((x2 - 1))]) (rest := []) C M cs_X8_174 (met_m_number G A S (31499758) (0) ((x2 - 1)) _ (h)) (wM_0 ..) rfl rfl ⟨rfl, rfl, Nat.le_of_ble_eq_true rfl, Nat.le_of_ble_eq_true rfl⟩ rfl rfl (Nat.le_of_ble_eq_true rfl) dX8_roundLine_89 ⟨Nat.zero_le _, Nat.zero_le _⟩ rfl rfl (fun r_39 S_41 h_40 => ?_)
  refine y_istore_n C dX8_roundLine_92 rfl (Nat.le_of_ble_eq_true rfl) [(3, .int (r_39)), (0, .ref (A 0)), (1, .int (x1)), (2, .int (x2))] rfl ?_
  refine y_aload_n C dX8_roundLine_93 1 rfl rfl ?_
  refine yg_X8_132_wM0 C dX8_roundLine_94 ?_
  refine y_if_eq C (tgt := 101) dX8_roundLine_97 rfl (fun c_42 => ?_) (fun c_42 => ?_)
  · have h_43 := (h_40).1 c_42
    refine y_iconst C dX8_roundLine_101 ic_0 ?_
    refine y_istore C dX8_roundLine_102 (Nat.le_of_ble_eq_true rfl) [(4, .int (0)), (3, .int (r_39)), (0, .ref (A 0)), (1, .int (x1)), (2, .int (x2))] rfl ?_
    obtain ⟨n_44, h_45⟩ := h_43
    exact Y.sub (wk_m_roundLine_b104 C M N n_44 S_41 (x1) (x2) (r_39) (0) h_45) [2, 3, 4, 1, 0] rfl
  · have h_46 := (h_40).2 c_42
    exact y_vretM C M N rfl (S := S_41) rfl (h_46) dX8_roundLine_100
set_option maxRecDepth 100000 in
theorem wk_m_roundLine_b63 {G : Gx} {K : Kx} {A : Nat → Nat} (C : KOk G K RX8 cX8_roundLine rm_m_roundLine 5 none) {B : Nat → Prop} (M : KM G K B) {Q : St → Prop} (N : KQv G K B (wM G A) Q) (K16 : St → Int32 → Int32 → Prop) (hK16 : ∀ (S : St) (x1 : Int32) (x2 : Int32), K16 S x1 x2 → Y G K 0 0 (wM G A S) 16 [(0, .ref (A 0)), (1, .int (x1)), (2, .int (x2))] []) (S : St) (x1 : Int32) (x2 : Int32) (h : wp_m_roundLine_b63 Q K16 S x1 x2) : Y G K 0 0 (wM G A S) 63 [(0, .ref (A 0)), (1, .int (x1)), (2, .int (x2))] [] := by
  refine y_iinc C dX8_roundLine_63 2 rfl (Nat.le_of_ble_eq_true rfl) (ii_1 _) [(2, .int ((x2 + 1))), (0, .ref (A 0)), (1, .int (x1))] rfl ?_
  refine y_aload_n C dX8_roundLine_66 1 rfl rfl ?_
  refine y_callRiV (As := []) (rest := []) C cs_X8_168 (met_m_isGood G A S _ (h)) (fun _ h => h) (wM_0 ..) rfl rfl ⟨rfl, rfl, Nat.le_of_ble_eq_true rfl, Nat.le_of_ble_eq_true rfl⟩ rfl rfl (Nat.le_of_ble_eq_true rfl) dX8_roundLine_67 ⟨Nat.zero_le _, Nat.zero_le _⟩ (fun r_30 h_31 => ?_)
  refine y_if_eq C (tgt := 81) dX8_roundLine_70 rfl (fun c_33 => ?_) (fun c_33 => ?_)
  · have h_34 := (h_31).1 c_33
    exact Y.sub (wk_m_roundLine_b81 C M N S (x1) ((x2 + 1)) (h_34)) [1, 2, 0] rfl
  · have h_35 := (h_31).2 c_33
    refine y_aload_n C dX8_roundLine_73 1 rfl rfl ?_
    refine yg_X8_121_wM0 C dX8_roundLine_74 ?_
    refine y_iconst C dX8_roundLine_77 ic_2 ?_
    refine y_icmp_eq C (tgt := 16) dX8_roundLine_78 rfl (fun c_36 => ?_) (fun c_36 => ?_)
    · have h_37 := (h_35).1 c_36
      exact Y.sub (hK16 S (x1) ((x2 + 1)) (h_37)) [1, 2, 0] rfl
    · have h_38 := (h_35).2 c_36
      exact Y.sub (wk_m_roundLine_b81 C M N S (x1) ((x2 + 1)) (h_38)) [1, 2, 0] rfl
set_option maxRecDepth 100000 in
theorem wk_m_roundLine_b44 {G : Gx} {K : Kx} {A : Nat → Nat} (C : KOk G K RX8 cX8_roundLine rm_m_roundLine 5 none) {B : Nat → Prop} (M : KM G K B) {Q : St → Prop} (N : KQv G K B (wM G A) Q) (K16 : St → Int32 → Int32 → Prop) (hK16 : ∀ (S : St) (x1 : Int32) (x2 : Int32), K16 S x1 x2 → Y G K 0 0 (wM G A S) 16 [(0, .ref (A 0)), (1, .int (x1)), (2, .int (x2))] []) (S : St) (x1 : Int32) (x2 : Int32) (h : wp_m_roundLine_b44 Q K16 S x1 x2) : Y G K 0 0 (wM G A S) 44 [(0, .ref (A 0)), (1, .int (x1)), (2, .int (x2))] [] := by
  refine y_aload_n C dX8_roundLine_44 0 rfl rfl ?_
  refine y_callMiV (k' := 0) (n' := 0) (As := []) (rest := []) C M cs_X8_164 (met_m_stepHere G A S _ (h)) (wM_0 ..) rfl rfl ⟨rfl, rfl, Nat.le_of_ble_eq_true rfl, Nat.le_of_ble_eq_true rfl⟩ rfl rfl (Nat.le_of_ble_eq_true rfl) dX8_roundLine_45 ⟨Nat.zero_le _, Nat.zero_le _⟩ rfl rfl (fun r_18 S_20 h_19 => ?_)
  refine y_istore_n C dX8_roundLine_48 rfl (Nat.le_of_ble_eq_true rfl) [(3, .int (r_18)), (0, .ref (A 0)), (1, .int (x1)), (2, .int (x2))] rfl ?_
  refine y_aload_n C dX8_roundLine_49 1 rfl rfl ?_
  refine y_callRiV (As := []) (rest := []) C cs_X8_168 (met_m_isGood G A S_20 _ (h_19)) (fun _ h => h) (wM_0 ..) rfl rfl ⟨rfl, rfl, Nat.le_of_ble_eq_true rfl, Nat.le_of_ble_eq_true rfl⟩ rfl rfl (Nat.le_of_ble_eq_true rfl) dX8_roundLine_50 ⟨Nat.zero_le _, Nat.zero_le _⟩ (fun r_21 h_22 => ?_)
  refine y_if_eq C (tgt := 63) dX8_roundLine_53 rfl (fun c_24 => ?_) (fun c_24 => ?_)
  · have h_25 := (h_22).1 c_24
    exact Y.sub (wk_m_roundLine_b63 C M N K16 hK16 S_20 (x1) (x2) (h_25)) [1, 2, 3] rfl
  · have h_26 := (h_22).2 c_24
    refine y_aload_n C dX8_roundLine_56 1 rfl rfl ?_
    refine yg_X8_62_wM0 C dX8_roundLine_57 ?_
    refine y_iload_n C dX8_roundLine_60 3 rfl rfl ?_
    refine y_iload_n C dX8_roundLine_61 0 rfl rfl ?_
    refine y_iast C M (wM_16 ..) rfl (wM_s16 ..) (h_26).1 dX8_roundLine_62 ?_
    exact Y.sub (wk_m_roundLine_b63 C M N K16 hK16 (sI S_20 16 (x2).toNatClampNeg r_18) (x1) (x2) ((h_26).2)) [1, 2, 3] rfl
set_option maxRecDepth 100000 in
theorem wk_m_roundLine_b39 {G : Gx} {K : Kx} {A : Nat → Nat} (C : KOk G K RX8 cX8_roundLine rm_m_roundLine 5 none) {B : Nat → Prop} (M : KM G K B) {Q : St → Prop} (N : KQv G K B (wM G A) Q) (K16 : St → Int32 → Int32 → Prop) (hK16 : ∀ (S : St) (x1 : Int32) (x2 : Int32), K16 S x1 x2 → Y G K 0 0 (wM G A S) 16 [(0, .ref (A 0)), (1, .int (x1)), (2, .int (x2))] []) (S : St) (x1 : Int32) (x2 : Int32) (h : wp_m_roundLine_b39 Q K16 S x1 x2) : Y G K 0 0 (wM G A S) 39 [(0, .ref (A 0)), (1, .int (x1)), (2, .int (x2))] [] := by
  refine y_aload_n C dX8_roundLine_39 0 rfl rfl ?_
  refine y_iconst C dX8_roundLine_40 ic_3 ?_
  refine y_callMvV (k' := 0) (n' := 0) (As := [.int (3)]) (rest := []) C M cs_X8_148 (met_m_fails G A S (3) _ (h)) (wM_0 ..) rfl rfl ⟨rfl, rfl, Nat.le_of_ble_eq_true rfl, Nat.le_of_ble_eq_true rfl⟩ rfl rfl (Nat.le_of_ble_eq_true rfl) dX8_roundLine_41 ⟨Nat.zero_le _, Nat.zero_le _⟩ rfl rfl (fun S_29 h_28 => ?_)
  exact Y.sub (wk_m_roundLine_b44 C M N K16 hK16 S_29 (x1) (x2) (h_28)) [0, 1, 2] rfl
set_option maxRecDepth 100000 in
theorem wk_m_roundLine_b16 {G : Gx} {K : Kx} {A : Nat → Nat} (C : KOk G K RX8 cX8_roundLine rm_m_roundLine 5 none) {B : Nat → Prop} (M : KM G K B) {Q : St → Prop} (N : KQv G K B (wM G A) Q) : ∀ (n : Nat), ∀ (S : St) (x1 : Int32) (x2 : Int32), wp_m_roundLine_b16 Q n S x1 x2 → Y G K 0 0 (wM G A S) 16 [(0, .ref (A 0)), (1, .int (x1)), (2, .int (x2))] [] := by
  intro n
  induction n with
  | zero => intro S x1 x2 h; exact h.elim
  | succ n ih =>
    intro S x1 x2 h
    dsimp only [wp_m_roundLine_b16] at h
    refine y_iload_n C dX8_roundLine_16 2 rfl rfl ?_
    refine y_bipush C dX8_roundLine_17 bp_12 ?_
    refine y_icmp_ne C (tgt := 44) dX8_roundLine_19 rfl (fun c_9 => ?_) (fun c_9 => ?_)
    · have h_10 := (h).1 c_9
      exact Y.sub (wk_m_roundLine_b44 C M N (fun Sy y1 y2 => wp_m_roundLine_b16 Q n Sy y1 y2) ih S (x1) (x2) (h_10)) [0, 1, 2] rfl
    · have h_11 := (h).2 c_9
      refine y_aload_n C dX8_roundLine_22 0 rfl rfl ?_
      refine yg_X8_121_wM0 C dX8_roundLine_23 ?_
      refine y_iconst C dX8_roundLine_26 ic_2 ?_
      refine y_icmp_ne C (tgt := 39) dX8_roundLine_27 rfl (fun c_12 => ?_) (fun c_12 => ?_)
      · have h_13 := (h_11).1 c_12
        exact Y.sub (wk_m_roundLine_b39 C M N (fun Sy y1 y2 => wp_m_roundLine_b16 Q n Sy y1 y2) ih S (x1) (x2) (h_13)) [0, 1, 2] rfl
      · have h_14 := (h_11).2 c_12
        refine y_aload_n C dX8_roundLine_30 0 rfl rfl ?_
        refine yg_X8_114_wM0 C dX8_roundLine_31 ?_
        refine y_bipush C dX8_roundLine_34 bp_6 ?_
        refine y_icmp_ge C (tgt := 44) dX8_roundLine_36 rfl (fun c_15 => ?_) (fun c_15 => ?_)
        · have h_16 := (h_14).1 c_15
          exact Y.sub (wk_m_roundLine_b44 C M N (fun Sy y1 y2 => wp_m_roundLine_b16 Q n Sy y1 y2) ih S (x1) (x2) (h_16)) [0, 1, 2] rfl
        · have h_17 := (h_14).2 c_15
          exact Y.sub (wk_m_roundLine_b39 C M N (fun Sy y1 y2 => wp_m_roundLine_b16 Q n Sy y1 y2) ih S (x1) (x2) (h_17)) [0, 1, 2] rfl
set_option maxRecDepth 100000 in
theorem met_m_roundLine (G : Gx) (A : Nat → Nat) (S : St) (Q : St → Prop) (h : wp_m_roundLine S Q) : Mv G yX8_roundLine (ws_ yX8_roundLine cX8_roundLine 5 none) rm_m_roundLine (wM G A S) [.ref (A 0)] (wM G A) Q := by
  refine ent_Mv (by decide +kernel) rfl (Nat.le_of_ble_eq_true rfl) [(0, .ref (A 0))] rfl (fun K B C M N => ?_)
  refine y_aload_n C dX8_roundLine_0 0 rfl rfl ?_
  refine y_iconst C dX8_roundLine_1 ic_0 ?_
  refine y_iconst C dX8_roundLine_2 ic_1 ?_
  refine y_callMiV (k' := 0) (n' := 0) (As := [.int (0), .int (1)]) (rest := []) C M cs_X8_155 (met_m_number_2 G A S (0) (1) _ (h)) (wM_0 ..) rfl rfl ⟨rfl, rfl, Nat.le_of_ble_eq_true rfl, Nat.le_of_ble_eq_true rfl⟩ rfl rfl (Nat.le_of_ble_eq_true rfl) dX8_roundLine_3 ⟨Nat.zero_le _, Nat.zero_le _⟩ rfl rfl (fun r_1 S_3 h_2 => ?_)
  refine y_istore_n C dX8_roundLine_6 rfl (Nat.le_of_ble_eq_true rfl) [(1, .int (r_1)), (0, .ref (A 0))] rfl ?_
  refine y_aload_n C dX8_roundLine_7 1 rfl rfl ?_
  refine y_ldc2 C dX8_roundLine_8 q1837 ?_
  refine y_callMvV (k' := 0) (n' := 0) (As := [.long (411)]) (rest := []) C M cs_X8_151 (met_m_asks G A S_3 (411) _ (h_2)) (wM_0 ..) rfl rfl ⟨rfl, rfl, Nat.le_of_ble_eq_true rfl, Nat.le_of_ble_eq_true rfl⟩ rfl rfl (Nat.le_of_ble_eq_true rfl) dX8_roundLine_11 ⟨Nat.zero_le _, Nat.zero_le _⟩ rfl rfl (fun S_6 h_5 => ?_)
  refine y_iconst C dX8_roundLine_14 ic_0 ?_
  refine y_istore_n C dX8_roundLine_15 rfl (Nat.le_of_ble_eq_true rfl) [(2, .int (0)), (1, .int (r_1)), (0, .ref (A 0))] rfl ?_
  obtain ⟨n_7, h_8⟩ := h_5
  exact Y.sub (wk_m_roundLine_b16 C M N n_7 S_6 (r_1) (0) h_8) [2, 1, 0] rfl
/-! OverHillModel answersLine()V: m_answersLine -/
abbrev rm_m_answersLine : Room := { frames := 5, cells := 0, slots := 0, locals := 127 }
def wp_m_answersLine_b34 (Q : St → Prop) (S : St) (x1 : Int32) (x2 : Int32) : Prop :=
  wp_m_isGood S (fun r_18 => ((r_18 = 0 → Q S) ∧ (¬ r_18 = 0 → (vp_in (24 + x1) 30 ∧ Q (sI S 9 ((24 + x1)).toNatClampNeg x2)))))
def wp_m_answersLine_b7 (Q : St → Prop) : Nat → St → Int32 → Int32 → Prop
  | 0 => fun _ _ _ => False
  | n + 1 => fun S x1 x2 => wp_m_isGood S (fun r_6 => ((r_6 = 0 → wp_m_answersLine_b34 Q S (x1) (x2)) ∧ (¬ r_6 = 0 → ((¬ (S.1 0 8) = 2 → wp_m_answersLine_b34 Q S (x1) (x2)) ∧ ((S.1 0 8) = 2 → wp_m_stepHere S (fun r_15 S_17 => wp_m_answersLine_b7 Q n S_17 (x1) ((x2 ||| (1 <<< (r_15 &&& 31))))))))))
def wp_m_answersLine (S : St) (Q : St → Prop) : Prop :=
  wp_m_stepHere S (fun r_1 S_3 => (∃ z, wp_m_answersLine_b7 Q z S_3 (r_1) (0)))
set_option maxRecDepth 100000 in
theorem wk_m_answersLine_b34 {G : Gx} {K : Kx} {A : Nat → Nat} (C : KOk G K RX8 cX8_answersLine rm_m_answersLine 3 none) {B : Nat → Prop} (M : KM G K B) {Q : St → Prop} (N : KQv G K B (wM G A) Q) (S : St) (x1 : Int32) (x2 : Int32) (h : wp_m_answersLine_b34 Q S x1 x2) : Y G K 0 0 (wM G A S) 34 [(0, .ref (A 0)), (1, .int (x1)), (2, .int (x2))] [] := by
  refine y_aload_n C dX8_answersLine_34 0 rfl rfl ?_
  refine y_callRiV (As := []) (rest := []) C cs_X8_168 (met_m_isGood G A S _ (h)) (fun _ h => h) (wM_0 ..) rfl rfl ⟨rfl, rfl, Nat.le_of_ble_eq_true rfl, Nat.le_of_ble_eq_true rfl⟩ rfl rfl (Nat.le_of_ble_eq_true rfl) dX8_answersLine_35 ⟨Nat.zero_le _, Nat.zero_le _⟩ (fun r_18 h_19 => ?_)
  refine y_if_eq C (tgt := 51) dX8_answersLine_38 rfl (fun c_21 => ?_) (fun c_21 => ?_)
  · have h_22 := (h_19).1 c_21
    exact y_vretM C M N rfl (S := S) rfl (h_22) dX8_answersLine_51
  · have h_23 := (h_19).2 c_21
    refine y_aload_n C dX8_answersLine_41 0 rfl rfl ?_
    refine yg_X8_40_wM0 C dX8_answersLine_42 ?_
    refine y_bipush C dX8_answersLine_45 bp_24 ?_
    refine y_iload_n C dX8_answersLine_47 1 rfl rfl ?_
    refine y_iadd C dX8_answersLine_48 ?_
    refine y_iload_n C dX8_answersLine_49 2 rfl rfl ?_
    refine y_iast C M (wM_9 ..) rfl (wM_s9 ..) (h_23).1 dX8_answersLine_50 ?_
    exact y_vretM C M N rfl (S := (sI S 9 ((24 + x1)).toNatClampNeg x2)) rfl ((h_23).2) dX8_answersLine_51
set_option maxRecDepth 100000 in
theorem wk_m_answersLine_b7 {G : Gx} {K : Kx} {A : Nat → Nat} (C : KOk G K RX8 cX8_answersLine rm_m_answersLine 3 none) {B : Nat → Prop} (M : KM G K B) {Q : St → Prop} (N : KQv G K B (wM G A) Q) : ∀ (n : Nat), ∀ (S : St) (x1 : Int32) (x2 : Int32), wp_m_answersLine_b7 Q n S x1 x2 → Y G K 0 0 (wM G A S) 7 [(0, .ref (A 0)), (1, .int (x1)), (2, .int (x2))] [] := by
  intro n
  induction n with
  | zero => intro S x1 x2 h; exact h.elim
  | succ n ih =>
    intro S x1 x2 h
    dsimp only [wp_m_answersLine_b7] at h
    refine y_aload_n C dX8_answersLine_7 0 rfl rfl ?_
    refine y_callRiV (As := []) (rest := []) C cs_X8_168 (met_m_isGood G A S _ (h)) (fun _ h => h) (wM_0 ..) rfl rfl ⟨rfl, rfl, Nat.le_of_ble_eq_true rfl, Nat.le_of_ble_eq_true rfl⟩ rfl rfl (Nat.le_of_ble_eq_true rfl) dX8_answersLine_8 ⟨Nat.zero_le _, Nat.zero_le _⟩ (fun r_6 h_7 => ?_)
    refine y_if_eq C (tgt := 34) dX8_answersLine_11 rfl (fun c_9 => ?_) (fun c_9 => ?_)
    · have h_10 := (h_7).1 c_9
      exact Y.sub (wk_m_answersLine_b34 C M N S (x1) (x2) (h_10)) [0, 1, 2] rfl
    · have h_11 := (h_7).2 c_9
      refine y_aload_n C dX8_answersLine_14 0 rfl rfl ?_
      refine yg_X8_121_wM0 C dX8_answersLine_15 ?_
      refine y_iconst C dX8_answersLine_18 ic_2 ?_
      refine y_icmp_ne C (tgt := 34) dX8_answersLine_19 rfl (fun c_12 => ?_) (fun c_12 => ?_)
      · have h_13 := (h_11).1 c_12
        exact Y.sub (wk_m_answersLine_b34 C M N S (x1) (x2) (h_13)) [0, 1, 2] rfl
      · have h_14 := (h_11).2 c_12
        refine y_iload_n C dX8_answersLine_22 2 rfl rfl ?_
        refine y_iconst C dX8_answersLine_23 ic_1 ?_
        refine y_aload_n C dX8_answersLine_24 0 rfl rfl ?_
        refine y_callMiV (k' := 0) (n' := 0) (As := []) (rest := [.int (1), .int (x2)]) C M cs_X8_164 (met_m_stepHere G A S _ (h_14)) (wM_0 ..) rfl rfl ⟨rfl, rfl, Nat.le_of_ble_eq_true rfl, Nat.le_of_ble_eq_true rfl⟩ rfl rfl (Nat.le_of_ble_eq_true rfl) dX8_answersLine_25 ⟨Nat.zero_le _, Nat.zero_le _⟩ rfl rfl (fun r_15 S_17 h_16 => ?_)
        refine y_ishl C dX8_answersLine_28 ?_
        refine y_ior C dX8_answersLine_29 ?_
        refine y_istore_n C dX8_answersLine_30 rfl (Nat.le_of_ble_eq_true rfl) [(2, .int ((x2 ||| (1 <<< (r_15 &&& 31))))), (0, .ref (A 0)), (1, .int (x1))] rfl ?_
        refine y_goto C (tgt := 7) dX8_answersLine_31 rfl ?_
        exact Y.sub (ih S_17 (x1) ((x2 ||| (1 <<< (r_15 &&& 31)))) (h_16)) [1, 2, 0] rfl
set_option maxRecDepth 100000 in
theorem met_m_answersLine (G : Gx) (A : Nat → Nat) (S : St) (Q : St → Prop) (h : wp_m_answersLine S Q) : Mv G yX8_answersLine (ws_ yX8_answersLine cX8_answersLine 3 none) rm_m_answersLine (wM G A S) [.ref (A 0)] (wM G A) Q := by
  refine ent_Mv (by decide +kernel) rfl (Nat.le_of_ble_eq_true rfl) [(0, .ref (A 0))] rfl (fun K B C M N => ?_)
  refine y_aload_n C dX8_answersLine_0 0 rfl rfl ?_
  refine y_callMiV (k' := 0) (n' := 0) (As := []) (rest := []) C M cs_X8_164 (met_m_stepHere G A S _ (h)) (wM_0 ..) rfl rfl ⟨rfl, rfl, Nat.le_of_ble_eq_true rfl, Nat.le_of_ble_eq_true rfl⟩ rfl rfl (Nat.le_of_ble_eq_true rfl) dX8_answersLine_1 ⟨Nat.zero_le _, Nat.zero_le _⟩ rfl rfl (fun r_1 S_3 h_2 => ?_)
  refine y_istore_n C dX8_answersLine_4 rfl (Nat.le_of_ble_eq_true rfl) [(1, .int (r_1)), (0, .ref (A 0))] rfl ?_
  refine y_iconst C dX8_answersLine_5 ic_0 ?_
  refine y_istore_n C dX8_answersLine_6 rfl (Nat.le_of_ble_eq_true rfl) [(2, .int (0)), (1, .int (r_1)), (0, .ref (A 0))] rfl ?_
  obtain ⟨n_4, h_5⟩ := h_2
  exact Y.sub (wk_m_answersLine_b7 C M N n_4 S_3 (r_1) (0) h_5) [2, 1, 0] rfl
/-! OverHillModel line()V: m_line -/
abbrev rm_m_line : Room := { frames := 7, cells := 0, slots := 0, locals := 176 }
def wp_m_line_b282 (Q : St → Prop) (S : St) : Prop :=
  wp_m_beatHere S (fun r_127 S_129 => wp_m_isGood S_129 (fun r_130 => ((r_130 = 0 → Q S_129) ∧ (¬ r_130 = 0 → (vp_in (800 + r_127) 1000 ∧ Q (sI S_129 11 ((800 + r_127)).toNatClampNeg (vp_nar .boolean 1)))))))
def wp_m_line_b73 (Q : St → Prop) (S : St) (x1 : Int32) (x2 : Int32) (x3 : Int32) : Prop :=
  (((S.1 0 12) = 0 → ((x1 = 0 → ((x2 = 0 → ((x3 = 0 → wp_m_takes S (9876874) (fun r_48 S_50 => ((r_48 = 0 → wp_m_takes S_50 (598859425) (fun r_53 S_55 => ((r_53 = 0 → wp_m_asks S_55 (10048) (fun S_60 => ((¬ (S_60.1 0 12) = 0 → wp_m_line_b282 Q S_60) ∧ ((S_60.1 0 12) = 0 → ((¬ (S_60.1 0 8) = 2 → wp_m_line_b282 Q S_60) ∧ ((S_60.1 0 8) = 2 → ((200 ≤ (S_60.1 0 10) → wp_m_line_b282 Q S_60) ∧ (¬ 200 ≤ (S_60.1 0 10) → (vp_in (800 + (S_60.1 0 10)) 1000 ∧ (((S_60.1 11 ((800 + (S_60.1 0 10))).toNatClampNeg) = 0 → wp_m_line_b282 Q S_60) ∧ (¬ (S_60.1 11 ((800 + (S_60.1 0 10))).toNatClampNeg) = 0 → wp_m_fails S_60 (2) (fun S_75 => wp_m_line_b282 Q S_75)))))))))))) ∧ (¬ r_53 = 0 → wp_m_answersLine S_55 (fun S_79 => Q S_79))))) ∧ (¬ r_48 = 0 → wp_m_roundLine S_50 (fun S_83 => Q S_83))))) ∧ (¬ x3 = 0 → wp_m_next S (fun S_87 => wp_m_hasRead S_87 (9) (fun r_88 => wp_m_everyLine_13 S_87 ((2 * (20 + r_88))) (30) (fun S_93 => wp_m_hasRead S_93 (9) (fun r_94 => wp_m_reads S_93 (9) ((r_94 + 1)) (fun S_99 => Q S_99)))))))) ∧ (¬ x2 = 0 → wp_m_next S (fun S_103 => wp_m_asks S_103 (3094387) (fun S_106 => wp_m_hasRead S_106 (8) (fun r_107 => wp_m_everyLine_12 S_106 ((2 * (48 + r_107))) (9) (fun S_112 => wp_m_hasRead S_112 (8) (fun r_113 => wp_m_reads S_112 (8) ((r_113 + 1)) (fun S_118 => Q S_118))))))))) ∧ (¬ x1 = 0 → wp_m_next S (fun S_122 => wp_m_stumbleLine S_122 (fun S_125 => Q S_125))))) ∧ (¬ (S.1 0 12) = 0 → Q S))
def wp_m_line_b68 (Q : St → Prop) (S : St) (x1 : Int32) (x2 : Int32) (x3 : Int32) : Prop :=
  wp_m_fails S (3) (fun S_30 => wp_m_line_b73 Q S_30 (x1) (x2) (x3))
def wp_m_line_b54 (Q : St → Prop) (S : St) (x1 : Int32) (x2 : Int32) (x3 : Int32) : Prop :=
  ((x3 = 0 → wp_m_line_b73 Q S (x1) (x2) (x3)) ∧ (¬ x3 = 0 → wp_m_hasRead S (9) (fun r_34 => ((¬ r_34 = 5 → wp_m_line_b73 Q S (x1) (x2) (x3)) ∧ (r_34 = 5 → wp_m_line_b68 Q S (x1) (x2) (x3))))))
def wp_m_line_b39 (Q : St → Prop) (S : St) (x1 : Int32) (x2 : Int32) (x3 : Int32) : Prop :=
  ((x2 = 0 → wp_m_line_b54 Q S (x1) (x2) (x3)) ∧ (¬ x2 = 0 → wp_m_hasRead S (8) (fun r_22 => ((r_22 = 12 → wp_m_line_b68 Q S (x1) (x2) (x3)) ∧ (¬ r_22 = 12 → wp_m_line_b54 Q S (x1) (x2) (x3))))))
def wp_m_line (S : St) (Q : St → Prop) : Prop :=
  wp_m_is S (7659385358) (fun r_1 => wp_m_is S (464053) (fun r_4 => wp_m_is S (409352) (fun r_7 => ((r_1 = 0 → wp_m_line_b39 Q S (r_1) (r_4) (r_7)) ∧ (¬ r_1 = 0 → wp_m_hasRead S (7) (fun r_13 => ((r_13 = 8 → wp_m_line_b68 Q S (r_1) (r_4) (r_7)) ∧ (¬ r_13 = 8 → wp_m_line_b39 Q S (r_1) (r_4) (r_7)))))))))
set_option maxRecDepth 100000 in
theorem wk_m_line_b282 {G : Gx} {K : Kx} {A : Nat → Nat} (C : KOk G K RX8 cX8_line rm_m_line 5 none) {B : Nat → Prop} (M : KM G K B) {Q : St → Prop} (N : KQv G K B (wM G A) Q) (S : St) (h : wp_m_line_b282 Q S) : Y G K 0 0 (wM G A S) 282 [(0, .ref (A 0))] [] := by
  refine y_aload_n C dX8_line_282 0 rfl rfl ?_
  refine y_callMiV (k' := 0) (n' := 0) (As := []) (rest := []) C M cs_X8_190 (met_m_beatHere G A S _ (h)) (wM_0 ..) rfl rfl ⟨rfl, rfl, Nat.le_of_ble_eq_true rfl, Nat.le_of_ble_eq_true rfl⟩ rfl rfl (Nat.le_of_ble_eq_true rfl) dX8_line_283 ⟨Nat.zero_le _, Nat.zero_le _⟩ rfl rfl (fun r_127 S_129 h_128 => ?_)
  refine y_istore C dX8_line_286 (Nat.le_of_ble_eq_true rfl) [(4, .int (r_127)), (0, .ref (A 0))] rfl ?_
  refine y_aload_n C dX8_line_288 1 rfl rfl ?_
  refine y_callRiV (As := []) (rest := []) C cs_X8_168 (met_m_isGood G A S_129 _ (h_128)) (fun _ h => h) (wM_0 ..) rfl rfl ⟨rfl, rfl, Nat.le_of_ble_eq_true rfl, Nat.le_of_ble_eq_true rfl⟩ rfl rfl (Nat.le_of_ble_eq_true rfl) dX8_line_289 ⟨Nat.zero_le _, Nat.zero_le _⟩ (fun r_130 h_131 => ?_)
  refine y_if_eq C (tgt := 307) dX8_line_292 rfl (fun c_133 => ?_) (fun c_133 => ?_)
  · have h_134 := (h_131).1 c_133
    exact y_vretM C M N rfl (S := S_129) rfl (h_134) dX8_line_307
  · have h_135 := (h_131).2 c_133
    refine y_aload_n C dX8_line_295 1 rfl rfl ?_
    refine yg_X8_46_wM0 C dX8_line_296 ?_
    refine y_sipush C dX8_line_299 sp_800 ?_
    refine y_iload C dX8_line_302 0 rfl ?_
    refine y_iadd C dX8_line_304 ?_
    refine y_iconst C dX8_line_305 ic_1 ?_
    refine y_zast C M (wM_11 ..) rfl (wM_s11 ..) (h_135).1 dX8_line_306 ?_
    exact y_vretM C M N rfl (S := (sI S_129 11 ((800 + r_127)).toNatClampNeg (vp_nar .boolean 1))) rfl ((h_135).2) dX8_line_307
set_option maxRecDepth 100000 in
theorem wk_m_line_b73 {G : Gx} {K : Kx} {A : Nat → Nat} (C : KOk G K RX8 cX8_line rm_m_line 5 none) {B : Nat → Prop} (M : KM G K B) {Q : St → Prop} (N : KQv G K B (wM G A) Q) (S : St) (x1 : Int32) (x2 : Int32) (x3 : Int32) (h : wp_m_line_b73 Q S x1 x2 x3) : Y G K 0 0 (wM G A S) 73 [(0, .ref (A 0)), (1, .int (x1)), (2, .int (x2)), (3, .int (x3))] [] := by
  refine y_aload_n C dX8_line_73 0 rfl rfl ?_
  refine yg_X8_132_wM0 C dX8_line_74 ?_
  refine y_if_eq C (tgt := 81) dX8_line_77 rfl (fun c_40 => ?_) (fun c_40 => ?_)
  · have h_41 := (h).1 c_40
    refine y_iload_n C dX8_line_81 1 rfl rfl ?_
    refine y_if_eq C (tgt := 96) dX8_line_82 rfl (fun c_42 => ?_) (fun c_42 => ?_)
    · have h_43 := (h_41).1 c_42
      refine y_iload_n C dX8_line_96 2 rfl rfl ?_
      refine y_if_eq C (tgt := 149) dX8_line_97 rfl (fun c_44 => ?_) (fun c_44 => ?_)
      · have h_45 := (h_43).1 c_44
        refine y_iload_n C dX8_line_149 3 rfl rfl ?_
        refine y_if_eq C (tgt := 195) dX8_line_150 rfl (fun c_46 => ?_) (fun c_46 => ?_)
        · have h_47 := (h_45).1 c_46
          refine y_aload_n C dX8_line_195 0 rfl rfl ?_
          refine y_ldc2 C dX8_line_196 q1832 ?_
          refine y_callMiV (k' := 0) (n' := 0) (As := [.long (9876874)]) (rest := []) C M cs_X8_145 (met_m_takes G A S (9876874) _ (h_47)) (wM_0 ..) rfl rfl ⟨rfl, rfl, Nat.le_of_ble_eq_true rfl, Nat.le_of_ble_eq_true rfl⟩ rfl rfl (Nat.le_of_ble_eq_true rfl) dX8_line_199 ⟨Nat.zero_le _, Nat.zero_le _⟩ rfl rfl (fun r_48 S_50 h_49 => ?_)
          refine y_if_eq C (tgt := 212) dX8_line_202 rfl (fun c_51 => ?_) (fun c_51 => ?_)
          · have h_52 := (h_49).1 c_51
            refine y_aload_n C dX8_line_212 0 rfl rfl ?_
            refine y_ldc2 C dX8_line_213 q1843 ?_
            refine y_callMiV (k' := 0) (n' := 0) (As := [.long (598859425)]) (rest := []) C M cs_X8_145 (met_m_takes G A S_50 (598859425) _ (h_52)) (wM_0 ..) rfl rfl ⟨rfl, rfl, Nat.le_of_ble_eq_true rfl, Nat.le_of_ble_eq_true rfl⟩ rfl rfl (Nat.le_of_ble_eq_true rfl) dX8_line_216 ⟨Nat.zero_le _, Nat.zero_le _⟩ rfl rfl (fun r_53 S_55 h_54 => ?_)
            refine y_if_eq C (tgt := 229) dX8_line_219 rfl (fun c_56 => ?_) (fun c_56 => ?_)
            · have h_57 := (h_54).1 c_56
              refine y_aload_n C dX8_line_229 0 rfl rfl ?_
              refine y_ldc2 C dX8_line_230 q1848 ?_
              refine y_callMvV (k' := 0) (n' := 0) (As := [.long (10048)]) (rest := []) C M cs_X8_151 (met_m_asks G A S_55 (10048) _ (h_57)) (wM_0 ..) rfl rfl ⟨rfl, rfl, Nat.le_of_ble_eq_true rfl, Nat.le_of_ble_eq_true rfl⟩ rfl rfl (Nat.le_of_ble_eq_true rfl) dX8_line_233 ⟨Nat.zero_le _, Nat.zero_le _⟩ rfl rfl (fun S_60 h_59 => ?_)
              refine y_aload_n C dX8_line_236 0 rfl rfl ?_
              refine yg_X8_132_wM0 C dX8_line_237 ?_
              refine y_if_ne C (tgt := 282) dX8_line_240 rfl (fun c_61 => ?_) (fun c_61 => ?_)
              · have h_62 := (h_59).1 c_61
                exact Y.sub (wk_m_line_b282 C M N S_60 (h_62)) [0] rfl
              · have h_63 := (h_59).2 c_61
                refine y_aload_n C dX8_line_243 0 rfl rfl ?_
                refine yg_X8_121_wM0 C dX8_line_244 ?_
                refine y_iconst C dX8_line_247 ic_2 ?_
                refine y_icmp_ne C (tgt := 282) dX8_line_248 rfl (fun c_64 => ?_) (fun c_64 => ?_)
                · have h_65 := (h_63).1 c_64
                  exact Y.sub (wk_m_line_b282 C M N S_60 (h_65)) [0] rfl
                · have h_66 := (h_63).2 c_64
                  refine y_aload_n C dX8_line_251 0 rfl rfl ?_
                  refine yg_X8_114_wM0 C dX8_line_252 ?_
                  refine y_sipush C dX8_line_255 sp_200 ?_
                  refine y_icmp_ge C (tgt := 282) dX8_line_258 rfl (fun c_67 => ?_) (fun c_67 => ?_)
                  · have h_68 := (h_66).1 c_67
                    exact Y.sub (wk_m_line_b282 C M N S_60 (h_68)) [0] rfl
                  · have h_69 := (h_66).2 c_67
                    refine y_aload_n C dX8_line_261 0 rfl rfl ?_
                    refine yg_X8_46_wM0 C dX8_line_262 ?_
                    refine y_sipush C dX8_line_265 sp_800 ?_
                    refine y_aload_n C dX8_line_268 0 rfl rfl ?_
                    refine yg_X8_114_wM0 C dX8_line_269 ?_
                    refine y_iadd C dX8_line_272 ?_
                    refine y_zald C (wM_11 ..) rfl (h_69).1 dX8_line_273 ?_
                    refine y_if_eq C (tgt := 282) dX8_line_274 rfl (fun c_70 => ?_) (fun c_70 => ?_)
                    · have h_71 := ((h_69).2).1 c_70
                      exact Y.sub (wk_m_line_b282 C M N S_60 (h_71)) [0] rfl
                    · have h_72 := ((h_69).2).2 c_70
                      refine y_aload_n C dX8_line_277 0 rfl rfl ?_
                      refine y_iconst C dX8_line_278 ic_2 ?_
                      refine y_callMvV (k' := 0) (n' := 0) (As := [.int (2)]) (rest := []) C M cs_X8_148 (met_m_fails G A S_60 (2) _ (h_72)) (wM_0 ..) rfl rfl ⟨rfl, rfl, Nat.le_of_ble_eq_true rfl, Nat.le_of_ble_eq_true rfl⟩ rfl rfl (Nat.le_of_ble_eq_true rfl) dX8_line_279 ⟨Nat.zero_le _, Nat.zero_le _⟩ rfl rfl (fun S_75 h_74 => ?_)
                      exact Y.sub (wk_m_line_b282 C M N S_75 (h_74)) [0] rfl
            · have h_76 := (h_54).2 c_56
              refine y_aload_n C dX8_line_222 0 rfl rfl ?_
              refine y_callMvV (k' := 0) (n' := 0) (As := []) (rest := []) C M cs_X8_219 (met_m_answersLine G A S_55 _ (h_76)) (wM_0 ..) rfl rfl ⟨rfl, rfl, Nat.le_of_ble_eq_true rfl, Nat.le_of_ble_eq_true rfl⟩ rfl rfl (Nat.le_of_ble_eq_true rfl) dX8_line_223 ⟨Nat.zero_le _, Nat.zero_le _⟩ rfl rfl (fun S_79 h_78 => ?_)
              refine y_goto C (tgt := 307) dX8_line_226 rfl ?_
              exact y_vretM C M N rfl (S := S_79) rfl (h_78) dX8_line_307
          · have h_80 := (h_49).2 c_51
            refine y_aload_n C dX8_line_205 0 rfl rfl ?_
            refine y_callMvV (k' := 0) (n' := 0) (As := []) (rest := []) C M cs_X8_214 (met_m_roundLine G A S_50 _ (h_80)) (wM_0 ..) rfl rfl ⟨rfl, rfl, Nat.le_of_ble_eq_true rfl, Nat.le_of_ble_eq_true rfl⟩ rfl rfl (Nat.le_of_ble_eq_true rfl) dX8_line_206 ⟨Nat.zero_le _, Nat.zero_le _⟩ rfl rfl (fun S_83 h_82 => ?_)
            refine y_goto C (tgt := 307) dX8_line_209 rfl ?_
            exact y_vretM C M N rfl (S := S_83) rfl (h_82) dX8_line_307
        · have h_84 := (h_45).2 c_46
          refine y_aload_n C dX8_line_153 0 rfl rfl ?_
          refine y_callMvV (k' := 0) (n' := 0) (As := []) (rest := []) C M cs_X8_142 (met_m_next G A S _ (h_84)) (wM_0 ..) rfl rfl ⟨rfl, rfl, Nat.le_of_ble_eq_true rfl, Nat.le_of_ble_eq_true rfl⟩ rfl rfl (Nat.le_of_ble_eq_true rfl) dX8_line_154 ⟨Nat.zero_le _, Nat.zero_le _⟩ rfl rfl (fun S_87 h_86 => ?_)
          refine y_aload_n C dX8_line_157 0 rfl rfl ?_
          refine y_aload_n C dX8_line_158 0 rfl rfl ?_
          refine yg_X8_53_wM0 C dX8_line_159 ?_
          refine y_iconst C dX8_line_162 ic_2 ?_
          refine y_bipush C dX8_line_163 bp_20 ?_
          refine y_aload_n C dX8_line_165 0 rfl rfl ?_
          refine y_bipush C dX8_line_166 bp_9 ?_
          refine y_callRiV (As := [.int (9)]) (rest := [.int (20), .int (2), .ref (A 13), .ref (A 0)]) C cs_X8_181 (met_m_hasRead G A S_87 (9) _ (h_86)) (fun _ h => h) (wM_0 ..) rfl rfl ⟨rfl, rfl, Nat.le_of_ble_eq_true rfl, Nat.le_of_ble_eq_true rfl⟩ rfl rfl (Nat.le_of_ble_eq_true rfl) dX8_line_168 ⟨Nat.zero_le _, Nat.zero_le _⟩ (fun r_88 h_89 => ?_)
          refine y_iadd C dX8_line_171 ?_
          refine y_imul C dX8_line_172 ?_
          refine y_bipush C dX8_line_173 bp_30 ?_
          refine y_callMvV (k' := 0) (n' := 0) (As := [.ref (A 13), .int ((2 * (20 + r_88))), .int (30)]) (rest := []) C M cs_X8_208 (met_m_everyLine_13 G A S_87 ((2 * (20 + r_88))) (30) _ (h_89)) (wM_0 ..) rfl rfl ⟨rfl, rfl, Nat.le_of_ble_eq_true rfl, Nat.le_of_ble_eq_true rfl⟩ rfl rfl (Nat.le_of_ble_eq_true rfl) dX8_line_175 ⟨Nat.zero_le _, Nat.zero_le _⟩ rfl rfl (fun S_93 h_92 => ?_)
          refine y_aload_n C dX8_line_178 0 rfl rfl ?_
          refine y_bipush C dX8_line_179 bp_9 ?_
          refine y_aload_n C dX8_line_181 0 rfl rfl ?_
          refine y_bipush C dX8_line_182 bp_9 ?_
          refine y_callRiV (As := [.int (9)]) (rest := [.int (9), .ref (A 0)]) C cs_X8_181 (met_m_hasRead G A S_93 (9) _ (h_92)) (fun _ h => h) (wM_0 ..) rfl rfl ⟨rfl, rfl, Nat.le_of_ble_eq_true rfl, Nat.le_of_ble_eq_true rfl⟩ rfl rfl (Nat.le_of_ble_eq_true rfl) dX8_line_184 ⟨Nat.zero_le _, Nat.zero_le _⟩ (fun r_94 h_95 => ?_)
          refine y_iconst C dX8_line_187 ic_1 ?_
          refine y_iadd C dX8_line_188 ?_
          refine y_callMvV (k' := 0) (n' := 0) (As := [.int (9), .int ((r_94 + 1))]) (rest := []) C M cs_X8_177 (met_m_reads G A S_93 (9) ((r_94 + 1)) _ (h_95)) (wM_0 ..) rfl rfl ⟨rfl, rfl, Nat.le_of_ble_eq_true rfl, Nat.le_of_ble_eq_true rfl⟩ rfl rfl (Nat.le_of_ble_eq_true rfl) dX8_line_189 ⟨Nat.zero_le _, Nat.zero_le _⟩ rfl rfl (fun S_99 h_98 => ?_)
          refine y_goto C (tgt := 307) dX8_line_192 rfl ?_
          exact y_vretM C M N rfl (S := S_99) rfl (h_98) dX8_line_307
      · have h_100 := (h_43).2 c_44
        refine y_aload_n C dX8_line_100 0 rfl rfl ?_
        refine y_callMvV (k' := 0) (n' := 0) (As := []) (rest := []) C M cs_X8_142 (met_m_next G A S _ (h_100)) (wM_0 ..) rfl rfl ⟨rfl, rfl, Nat.le_of_ble_eq_true rfl, Nat.le_of_ble_eq_true rfl⟩ rfl rfl (Nat.le_of_ble_eq_true rfl) dX8_line_101 ⟨Nat.zero_le _, Nat.zero_le _⟩ rfl rfl (fun S_103 h_102 => ?_)
        refine y_aload_n C dX8_line_104 0 rfl rfl ?_
        refine y_ldc2 C dX8_line_105 q1827 ?_
        refine y_callMvV (k' := 0) (n' := 0) (As := [.long (3094387)]) (rest := []) C M cs_X8_151 (met_m_asks G A S_103 (3094387) _ (h_102)) (wM_0 ..) rfl rfl ⟨rfl, rfl, Nat.le_of_ble_eq_true rfl, Nat.le_of_ble_eq_true rfl⟩ rfl rfl (Nat.le_of_ble_eq_true rfl) dX8_line_108 ⟨Nat.zero_le _, Nat.zero_le _⟩ rfl rfl (fun S_106 h_105 => ?_)
        refine y_aload_n C dX8_line_111 0 rfl rfl ?_
        refine y_aload_n C dX8_line_112 0 rfl rfl ?_
        refine yg_X8_50_wM0 C dX8_line_113 ?_
        refine y_iconst C dX8_line_116 ic_2 ?_
        refine y_bipush C dX8_line_117 bp_48 ?_
        refine y_aload_n C dX8_line_119 0 rfl rfl ?_
        refine y_bipush C dX8_line_120 bp_8 ?_
        refine y_callRiV (As := [.int (8)]) (rest := [.int (48), .int (2), .ref (A 12), .ref (A 0)]) C cs_X8_181 (met_m_hasRead G A S_106 (8) _ (h_105)) (fun _ h => h) (wM_0 ..) rfl rfl ⟨rfl, rfl, Nat.le_of_ble_eq_true rfl, Nat.le_of_ble_eq_true rfl⟩ rfl rfl (Nat.le_of_ble_eq_true rfl) dX8_line_122 ⟨Nat.zero_le _, Nat.zero_le _⟩ (fun r_107 h_108 => ?_)
        refine y_iadd C dX8_line_125 ?_
        refine y_imul C dX8_line_126 ?_
        refine y_bipush C dX8_line_127 bp_9 ?_
        refine y_callMvV (k' := 0) (n' := 0) (As := [.ref (A 12), .int ((2 * (48 + r_107))), .int (9)]) (rest := []) C M cs_X8_208 (met_m_everyLine_12 G A S_106 ((2 * (48 + r_107))) (9) _ (h_108)) (wM_0 ..) rfl rfl ⟨rfl, rfl, Nat.le_of_ble_eq_true rfl, Nat.le_of_ble_eq_true rfl⟩ rfl rfl (Nat.le_of_ble_eq_true rfl) dX8_line_129 ⟨Nat.zero_le _, Nat.zero_le _⟩ rfl rfl (fun S_112 h_111 => ?_)
        refine y_aload_n C dX8_line_132 0 rfl rfl ?_
        refine y_bipush C dX8_line_133 bp_8 ?_
        refine y_aload_n C dX8_line_135 0 rfl rfl ?_
        refine y_bipush C dX8_line_136 bp_8 ?_
        refine y_callRiV (As := [.int (8)]) (rest := [.int (8), .ref (A 0)]) C cs_X8_181 (met_m_hasRead G A S_112 (8) _ (h_111)) (fun _ h => h) (wM_0 ..) rfl rfl ⟨rfl, rfl, Nat.le_of_ble_eq_true rfl, Nat.le_of_ble_eq_true rfl⟩ rfl rfl (Nat.le_of_ble_eq_true rfl) dX8_line_138 ⟨Nat.zero_le _, Nat.zero_le _⟩ (fun r_113 h_114 => ?_)
        refine y_iconst C dX8_line_141 ic_1 ?_
        refine y_iadd C dX8_line_142 ?_
        refine y_callMvV (k' := 0) (n' := 0) (As := [.int (8), .int ((r_113 + 1))]) (rest := []) C M cs_X8_177 (met_m_reads G A S_112 (8) ((r_113 + 1)) _ (h_114)) (wM_0 ..) rfl rfl ⟨rfl, rfl, Nat.le_of_ble_eq_true rfl, Nat.le_of_ble_eq_true rfl⟩ rfl rfl (Nat.le_of_ble_eq_true rfl) dX8_line_143 ⟨Nat.zero_le _, Nat.zero_le _⟩ rfl rfl (fun S_118 h_117 => ?_)
        refine y_goto C (tgt := 307) dX8_line_146 rfl ?_
        exact y_vretM C M N rfl (S := S_118) rfl (h_117) dX8_line_307
    · have h_119 := (h_41).2 c_42
      refine y_aload_n C dX8_line_85 0 rfl rfl ?_
      refine y_callMvV (k' := 0) (n' := 0) (As := []) (rest := []) C M cs_X8_142 (met_m_next G A S _ (h_119)) (wM_0 ..) rfl rfl ⟨rfl, rfl, Nat.le_of_ble_eq_true rfl, Nat.le_of_ble_eq_true rfl⟩ rfl rfl (Nat.le_of_ble_eq_true rfl) dX8_line_86 ⟨Nat.zero_le _, Nat.zero_le _⟩ rfl rfl (fun S_122 h_121 => ?_)
      refine y_aload_n C dX8_line_89 0 rfl rfl ?_
      refine y_callMvV (k' := 0) (n' := 0) (As := []) (rest := []) C M cs_X8_203 (met_m_stumbleLine G A S_122 _ (h_121)) (wM_0 ..) rfl rfl ⟨rfl, rfl, Nat.le_of_ble_eq_true rfl, Nat.le_of_ble_eq_true rfl⟩ rfl rfl (Nat.le_of_ble_eq_true rfl) dX8_line_90 ⟨Nat.zero_le _, Nat.zero_le _⟩ rfl rfl (fun S_125 h_124 => ?_)
      refine y_goto C (tgt := 307) dX8_line_93 rfl ?_
      exact y_vretM C M N rfl (S := S_125) rfl (h_124) dX8_line_307
  · have h_126 := (h).2 c_40
    exact y_vretM C M N rfl (S := S) rfl (h_126) dX8_line_80
set_option maxRecDepth 100000 in
theorem wk_m_line_b68 {G : Gx} {K : Kx} {A : Nat → Nat} (C : KOk G K RX8 cX8_line rm_m_line 5 none) {B : Nat → Prop} (M : KM G K B) {Q : St → Prop} (N : KQv G K B (wM G A) Q) (S : St) (x1 : Int32) (x2 : Int32) (x3 : Int32) (h : wp_m_line_b68 Q S x1 x2 x3) : Y G K 0 0 (wM G A S) 68 [(0, .ref (A 0)), (1, .int (x1)), (2, .int (x2)), (3, .int (x3))] [] := by
  refine y_aload_n C dX8_line_68 0 rfl rfl ?_
  refine y_iconst C dX8_line_69 ic_3 ?_
  refine y_callMvV (k' := 0) (n' := 0) (As := [.int (3)]) (rest := []) C M cs_X8_148 (met_m_fails G A S (3) _ (h)) (wM_0 ..) rfl rfl ⟨rfl, rfl, Nat.le_of_ble_eq_true rfl, Nat.le_of_ble_eq_true rfl⟩ rfl rfl (Nat.le_of_ble_eq_true rfl) dX8_line_70 ⟨Nat.zero_le _, Nat.zero_le _⟩ rfl rfl (fun S_30 h_29 => ?_)
  exact Y.sub (wk_m_line_b73 C M N S_30 (x1) (x2) (x3) (h_29)) [0, 1, 2, 3] rfl
set_option maxRecDepth 100000 in
theorem wk_m_line_b54 {G : Gx} {K : Kx} {A : Nat → Nat} (C : KOk G K RX8 cX8_line rm_m_line 5 none) {B : Nat → Prop} (M : KM G K B) {Q : St → Prop} (N : KQv G K B (wM G A) Q) (S : St) (x1 : Int32) (x2 : Int32) (x3 : Int32) (h : wp_m_line_b54 Q S x1 x2 x3) : Y G K 0 0 (wM G A S) 54 [(0, .ref (A 0)), (1, .int (x1)), (2, .int (x2)), (3, .int (x3))] [] := by
  refine y_iload_n C dX8_line_54 3 rfl rfl ?_
  refine y_if_eq C (tgt := 73) dX8_line_55 rfl (fun c_31 => ?_) (fun c_31 => ?_)
  · have h_32 := (h).1 c_31
    exact Y.sub (wk_m_line_b73 C M N S (x1) (x2) (x3) (h_32)) [0, 1, 2, 3] rfl
  · have h_33 := (h).2 c_31
    refine y_aload_n C dX8_line_58 0 rfl rfl ?_
    refine y_bipush C dX8_line_59 bp_9 ?_
    refine y_callRiV (As := [.int (9)]) (rest := []) C cs_X8_181 (met_m_hasRead G A S (9) _ (h_33)) (fun _ h => h) (wM_0 ..) rfl rfl ⟨rfl, rfl, Nat.le_of_ble_eq_true rfl, Nat.le_of_ble_eq_true rfl⟩ rfl rfl (Nat.le_of_ble_eq_true rfl) dX8_line_61 ⟨Nat.zero_le _, Nat.zero_le _⟩ (fun r_34 h_35 => ?_)
    refine y_iconst C dX8_line_64 ic_5 ?_
    refine y_icmp_ne C (tgt := 73) dX8_line_65 rfl (fun c_37 => ?_) (fun c_37 => ?_)
    · have h_38 := (h_35).1 c_37
      exact Y.sub (wk_m_line_b73 C M N S (x1) (x2) (x3) (h_38)) [0, 1, 2, 3] rfl
    · have h_39 := (h_35).2 c_37
      exact Y.sub (wk_m_line_b68 C M N S (x1) (x2) (x3) (h_39)) [0, 1, 2, 3] rfl
set_option maxRecDepth 100000 in
theorem wk_m_line_b39 {G : Gx} {K : Kx} {A : Nat → Nat} (C : KOk G K RX8 cX8_line rm_m_line 5 none) {B : Nat → Prop} (M : KM G K B) {Q : St → Prop} (N : KQv G K B (wM G A) Q) (S : St) (x1 : Int32) (x2 : Int32) (x3 : Int32) (h : wp_m_line_b39 Q S x1 x2 x3) : Y G K 0 0 (wM G A S) 39 [(0, .ref (A 0)), (1, .int (x1)), (2, .int (x2)), (3, .int (x3))] [] := by
  refine y_iload_n C dX8_line_39 2 rfl rfl ?_
  refine y_if_eq C (tgt := 54) dX8_line_40 rfl (fun c_19 => ?_) (fun c_19 => ?_)
  · have h_20 := (h).1 c_19
    exact Y.sub (wk_m_line_b54 C M N S (x1) (x2) (x3) (h_20)) [0, 1, 2, 3] rfl
  · have h_21 := (h).2 c_19
    refine y_aload_n C dX8_line_43 0 rfl rfl ?_
    refine y_bipush C dX8_line_44 bp_8 ?_
    refine y_callRiV (As := [.int (8)]) (rest := []) C cs_X8_181 (met_m_hasRead G A S (8) _ (h_21)) (fun _ h => h) (wM_0 ..) rfl rfl ⟨rfl, rfl, Nat.le_of_ble_eq_true rfl, Nat.le_of_ble_eq_true rfl⟩ rfl rfl (Nat.le_of_ble_eq_true rfl) dX8_line_46 ⟨Nat.zero_le _, Nat.zero_le _⟩ (fun r_22 h_23 => ?_)
    refine y_bipush C dX8_line_49 bp_12 ?_
    refine y_icmp_eq C (tgt := 68) dX8_line_51 rfl (fun c_25 => ?_) (fun c_25 => ?_)
    · have h_26 := (h_23).1 c_25
      exact Y.sub (wk_m_line_b68 C M N S (x1) (x2) (x3) (h_26)) [0, 1, 2, 3] rfl
    · have h_27 := (h_23).2 c_25
      exact Y.sub (wk_m_line_b54 C M N S (x1) (x2) (x3) (h_27)) [0, 1, 2, 3] rfl
set_option maxRecDepth 100000 in
theorem met_m_line (G : Gx) (A : Nat → Nat) (S : St) (Q : St → Prop) (h : wp_m_line S Q) : Mv G yX8_line (ws_ yX8_line cX8_line 5 none) rm_m_line (wM G A S) [.ref (A 0)] (wM G A) Q := by
  refine ent_Mv (by decide +kernel) rfl (Nat.le_of_ble_eq_true rfl) [(0, .ref (A 0))] rfl (fun K B C M N => ?_)
  refine y_aload_n C dX8_line_0 0 rfl rfl ?_
  refine y_ldc2 C dX8_line_1 q1805 ?_
  refine y_callRiV (As := [.long (7659385358)]) (rest := []) C cs_X8_138 (met_m_is G A S (7659385358) _ (h)) (fun _ h => h) (wM_0 ..) rfl rfl ⟨rfl, rfl, Nat.le_of_ble_eq_true rfl, Nat.le_of_ble_eq_true rfl⟩ rfl rfl (Nat.le_of_ble_eq_true rfl) dX8_line_4 ⟨Nat.zero_le _, Nat.zero_le _⟩ (fun r_1 h_2 => ?_)
  refine y_istore_n C dX8_line_7 rfl (Nat.le_of_ble_eq_true rfl) [(1, .int (r_1)), (0, .ref (A 0))] rfl ?_
  refine y_aload_n C dX8_line_8 1 rfl rfl ?_
  refine y_ldc2 C dX8_line_9 q1806 ?_
  refine y_callRiV (As := [.long (464053)]) (rest := []) C cs_X8_138 (met_m_is G A S (464053) _ (h_2)) (fun _ h => h) (wM_0 ..) rfl rfl ⟨rfl, rfl, Nat.le_of_ble_eq_true rfl, Nat.le_of_ble_eq_true rfl⟩ rfl rfl (Nat.le_of_ble_eq_true rfl) dX8_line_12 ⟨Nat.zero_le _, Nat.zero_le _⟩ (fun r_4 h_5 => ?_)
  refine y_istore_n C dX8_line_15 rfl (Nat.le_of_ble_eq_true rfl) [(2, .int (r_4)), (1, .int (r_1)), (0, .ref (A 0))] rfl ?_
  refine y_aload_n C dX8_line_16 2 rfl rfl ?_
  refine y_ldc2 C dX8_line_17 q1807 ?_
  refine y_callRiV (As := [.long (409352)]) (rest := []) C cs_X8_138 (met_m_is G A S (409352) _ (h_5)) (fun _ h => h) (wM_0 ..) rfl rfl ⟨rfl, rfl, Nat.le_of_ble_eq_true rfl, Nat.le_of_ble_eq_true rfl⟩ rfl rfl (Nat.le_of_ble_eq_true rfl) dX8_line_20 ⟨Nat.zero_le _, Nat.zero_le _⟩ (fun r_7 h_8 => ?_)
  refine y_istore_n C dX8_line_23 rfl (Nat.le_of_ble_eq_true rfl) [(3, .int (r_7)), (2, .int (r_4)), (1, .int (r_1)), (0, .ref (A 0))] rfl ?_
  refine y_iload_n C dX8_line_24 2 rfl rfl ?_
  refine y_if_eq C (tgt := 39) dX8_line_25 rfl (fun c_10 => ?_) (fun c_10 => ?_)
  · have h_11 := (h_8).1 c_10
    exact Y.sub (wk_m_line_b39 C M N S (r_1) (r_4) (r_7) (h_11)) [3, 2, 1, 0] rfl
  · have h_12 := (h_8).2 c_10
    refine y_aload_n C dX8_line_28 3 rfl rfl ?_
    refine y_bipush C dX8_line_29 bp_7 ?_
    refine y_callRiV (As := [.int (7)]) (rest := []) C cs_X8_181 (met_m_hasRead G A S (7) _ (h_12)) (fun _ h => h) (wM_0 ..) rfl rfl ⟨rfl, rfl, Nat.le_of_ble_eq_true rfl, Nat.le_of_ble_eq_true rfl⟩ rfl rfl (Nat.le_of_ble_eq_true rfl) dX8_line_31 ⟨Nat.zero_le _, Nat.zero_le _⟩ (fun r_13 h_14 => ?_)
    refine y_bipush C dX8_line_34 bp_8 ?_
    refine y_icmp_eq C (tgt := 68) dX8_line_36 rfl (fun c_16 => ?_) (fun c_16 => ?_)
    · have h_17 := (h_14).1 c_16
      exact Y.sub (wk_m_line_b68 C M N S (r_1) (r_4) (r_7) (h_17)) [3, 2, 1, 0] rfl
    · have h_18 := (h_14).2 c_16
      exact Y.sub (wk_m_line_b39 C M N S (r_1) (r_4) (r_7) (h_18)) [3, 2, 1, 0] rfl
