/-! the twin's world: its state TS (ints, longs, int arrays, long arrays, by the field's number), the cells that hold it, rows -/
set_option maxRecDepth 100000
abbrev TS : Type := (Nat → Int32) × (Nat → Int64) × (Nat → Nat → Int32) × (Nat → Nat → Int64)
def tI (s : TS) (k : Nat) : Int32 := s.1 k
def tL (s : TS) (k : Nat) : Int64 := s.2.1 k
def tA (s : TS) (k : Nat) : Nat → Int32 := s.2.2.1 k
def tB (s : TS) (k : Nat) : Nat → Int64 := s.2.2.2 k
def sI (s : TS) (k : Nat) (v : Int32) : TS := (upd s.1 k v, s.2)
def sL (s : TS) (k : Nat) (v : Int64) : TS := (s.1, vp_updL s.2.1 k v, s.2.2)
def sA (s : TS) (k i : Nat) (v : Int32) : TS := (s.1, s.2.1, va_up s.2.2.1 k (upd (s.2.2.1 k) i v), s.2.2.2)
def sB (s : TS) (k i : Nat) (v : Int64) : TS := (s.1, s.2.1, s.2.2.1, va_up s.2.2.2 k (vp_updL (s.2.2.2 k) i v))
def twF (ad : Nat → Nat) (s : TS) : List Value := [.ref (ad 0), .ref (ad 1), .ref (ad 2), .ref (ad 3), .int (tI s 4), .int (tI s 5), .int (tI s 6), .int (tI s 7), .int (tI s 8), .int (tI s 9), .int (tI s 10), .int (tI s 11), .int (tI s 12), .int (tI s 13), .int (tI s 14), .int (tI s 15), .ref (ad 16), .ref (ad 17), .ref (ad 18), .long (tL s 19), .ref (ad 20), .ref (ad 21), .ref (ad 22), .ref (ad 23), .ref (ad 24), .int (tI s 25), .ref (ad 26), .ref (ad 27), .long (tL s 28), .ref (ad 29), .long (tL s 30), .long (tL s 31), .ref (ad 32), .ref (ad 33), .ref (ad 34), .int (tI s 35), .ref (ad 36), .ref (ad 37), .ref (ad 38), .ref (ad 39)]
def tw (ad : Nat → Nat) (dI dJ : ClassId) (s : TS) : va_W := [(ad 40, .inr (0, twF ad s)), (ad 0, .inl (dI, 73, .inl (tA s 0))), (ad 1, .inl (dI, 73, .inl (tA s 1))), (ad 2, .inl (dI, 900, .inl (tA s 2))), (ad 3, .inl (dI, 500, .inl (tA s 3))), (ad 16, .inl (dI, 5, .inl (tA s 16))), (ad 17, .inl (dI, 5, .inl (tA s 17))), (ad 18, .inl (dJ, 9, .inr (.inl (tB s 18)))), (ad 20, .inl (dJ, 9, .inr (.inl (tB s 20)))), (ad 21, .inl (dI, 400, .inl (tA s 21))), (ad 22, .inl (dI, 400, .inl (tA s 22))), (ad 23, .inl (dI, 400, .inl (tA s 23))), (ad 24, .inl (dJ, 400, .inr (.inl (tB s 24)))), (ad 26, .inl (dJ, 3, .inr (.inl (tB s 26)))), (ad 27, .inl (dJ, 9, .inr (.inl (tB s 27)))), (ad 29, .inl (dJ, 9, .inr (.inl (tB s 29)))), (ad 32, .inl (dJ, 9, .inr (.inl (tB s 32)))), (ad 33, .inl (dJ, 16, .inr (.inl (tB s 33)))), (ad 34, .inl (dJ, 18, .inr (.inl (tB s 34)))), (ad 36, .inl (dJ, 3, .inr (.inl (tB s 36)))), (ad 37, .inl (dJ, 3, .inr (.inl (tB s 37)))), (ad 38, .inl (dJ, 3, .inr (.inl (tB s 38)))), (ad 39, .inl (dJ, 3, .inr (.inl (tB s 39))))]
theorem tp_0 (ad : Nat → Nat) (dI dJ : ClassId) (s : TS) : (tw ad dI dJ s)[1]? = some (ad 0, .inl (dI, 73, .inl (tA s 0))) := rfl
theorem ts_0 (ad : Nat → Nat) (dI dJ : ClassId) (s : TS) (i : Nat) (v : Int32) : (tw ad dI dJ s).set 1 (ad 0, .inl (dI, 73, .inl (upd (tA s 0) i v))) = tw ad dI dJ (sA s 0 i v) := rfl
theorem tp_1 (ad : Nat → Nat) (dI dJ : ClassId) (s : TS) : (tw ad dI dJ s)[2]? = some (ad 1, .inl (dI, 73, .inl (tA s 1))) := rfl
theorem ts_1 (ad : Nat → Nat) (dI dJ : ClassId) (s : TS) (i : Nat) (v : Int32) : (tw ad dI dJ s).set 2 (ad 1, .inl (dI, 73, .inl (upd (tA s 1) i v))) = tw ad dI dJ (sA s 1 i v) := rfl
theorem tp_2 (ad : Nat → Nat) (dI dJ : ClassId) (s : TS) : (tw ad dI dJ s)[3]? = some (ad 2, .inl (dI, 900, .inl (tA s 2))) := rfl
theorem ts_2 (ad : Nat → Nat) (dI dJ : ClassId) (s : TS) (i : Nat) (v : Int32) : (tw ad dI dJ s).set 3 (ad 2, .inl (dI, 900, .inl (upd (tA s 2) i v))) = tw ad dI dJ (sA s 2 i v) := rfl
theorem tp_3 (ad : Nat → Nat) (dI dJ : ClassId) (s : TS) : (tw ad dI dJ s)[4]? = some (ad 3, .inl (dI, 500, .inl (tA s 3))) := rfl
theorem ts_3 (ad : Nat → Nat) (dI dJ : ClassId) (s : TS) (i : Nat) (v : Int32) : (tw ad dI dJ s).set 4 (ad 3, .inl (dI, 500, .inl (upd (tA s 3) i v))) = tw ad dI dJ (sA s 3 i v) := rfl
theorem tp_16 (ad : Nat → Nat) (dI dJ : ClassId) (s : TS) : (tw ad dI dJ s)[5]? = some (ad 16, .inl (dI, 5, .inl (tA s 16))) := rfl
theorem ts_16 (ad : Nat → Nat) (dI dJ : ClassId) (s : TS) (i : Nat) (v : Int32) : (tw ad dI dJ s).set 5 (ad 16, .inl (dI, 5, .inl (upd (tA s 16) i v))) = tw ad dI dJ (sA s 16 i v) := rfl
theorem tp_17 (ad : Nat → Nat) (dI dJ : ClassId) (s : TS) : (tw ad dI dJ s)[6]? = some (ad 17, .inl (dI, 5, .inl (tA s 17))) := rfl
theorem ts_17 (ad : Nat → Nat) (dI dJ : ClassId) (s : TS) (i : Nat) (v : Int32) : (tw ad dI dJ s).set 6 (ad 17, .inl (dI, 5, .inl (upd (tA s 17) i v))) = tw ad dI dJ (sA s 17 i v) := rfl
theorem tp_18 (ad : Nat → Nat) (dI dJ : ClassId) (s : TS) : (tw ad dI dJ s)[7]? = some (ad 18, .inl (dJ, 9, .inr (.inl (tB s 18)))) := rfl
theorem ts_18 (ad : Nat → Nat) (dI dJ : ClassId) (s : TS) (i : Nat) (v : Int64) : (tw ad dI dJ s).set 7 (ad 18, .inl (dJ, 9, .inr (.inl (vp_updL (tB s 18) i v)))) = tw ad dI dJ (sB s 18 i v) := rfl
theorem tp_20 (ad : Nat → Nat) (dI dJ : ClassId) (s : TS) : (tw ad dI dJ s)[8]? = some (ad 20, .inl (dJ, 9, .inr (.inl (tB s 20)))) := rfl
theorem ts_20 (ad : Nat → Nat) (dI dJ : ClassId) (s : TS) (i : Nat) (v : Int64) : (tw ad dI dJ s).set 8 (ad 20, .inl (dJ, 9, .inr (.inl (vp_updL (tB s 20) i v)))) = tw ad dI dJ (sB s 20 i v) := rfl
theorem tp_21 (ad : Nat → Nat) (dI dJ : ClassId) (s : TS) : (tw ad dI dJ s)[9]? = some (ad 21, .inl (dI, 400, .inl (tA s 21))) := rfl
theorem ts_21 (ad : Nat → Nat) (dI dJ : ClassId) (s : TS) (i : Nat) (v : Int32) : (tw ad dI dJ s).set 9 (ad 21, .inl (dI, 400, .inl (upd (tA s 21) i v))) = tw ad dI dJ (sA s 21 i v) := rfl
theorem tp_22 (ad : Nat → Nat) (dI dJ : ClassId) (s : TS) : (tw ad dI dJ s)[10]? = some (ad 22, .inl (dI, 400, .inl (tA s 22))) := rfl
theorem ts_22 (ad : Nat → Nat) (dI dJ : ClassId) (s : TS) (i : Nat) (v : Int32) : (tw ad dI dJ s).set 10 (ad 22, .inl (dI, 400, .inl (upd (tA s 22) i v))) = tw ad dI dJ (sA s 22 i v) := rfl
theorem tp_23 (ad : Nat → Nat) (dI dJ : ClassId) (s : TS) : (tw ad dI dJ s)[11]? = some (ad 23, .inl (dI, 400, .inl (tA s 23))) := rfl
theorem ts_23 (ad : Nat → Nat) (dI dJ : ClassId) (s : TS) (i : Nat) (v : Int32) : (tw ad dI dJ s).set 11 (ad 23, .inl (dI, 400, .inl (upd (tA s 23) i v))) = tw ad dI dJ (sA s 23 i v) := rfl
theorem tp_24 (ad : Nat → Nat) (dI dJ : ClassId) (s : TS) : (tw ad dI dJ s)[12]? = some (ad 24, .inl (dJ, 400, .inr (.inl (tB s 24)))) := rfl
theorem ts_24 (ad : Nat → Nat) (dI dJ : ClassId) (s : TS) (i : Nat) (v : Int64) : (tw ad dI dJ s).set 12 (ad 24, .inl (dJ, 400, .inr (.inl (vp_updL (tB s 24) i v)))) = tw ad dI dJ (sB s 24 i v) := rfl
theorem tp_26 (ad : Nat → Nat) (dI dJ : ClassId) (s : TS) : (tw ad dI dJ s)[13]? = some (ad 26, .inl (dJ, 3, .inr (.inl (tB s 26)))) := rfl
theorem ts_26 (ad : Nat → Nat) (dI dJ : ClassId) (s : TS) (i : Nat) (v : Int64) : (tw ad dI dJ s).set 13 (ad 26, .inl (dJ, 3, .inr (.inl (vp_updL (tB s 26) i v)))) = tw ad dI dJ (sB s 26 i v) := rfl
theorem tp_27 (ad : Nat → Nat) (dI dJ : ClassId) (s : TS) : (tw ad dI dJ s)[14]? = some (ad 27, .inl (dJ, 9, .inr (.inl (tB s 27)))) := rfl
theorem ts_27 (ad : Nat → Nat) (dI dJ : ClassId) (s : TS) (i : Nat) (v : Int64) : (tw ad dI dJ s).set 14 (ad 27, .inl (dJ, 9, .inr (.inl (vp_updL (tB s 27) i v)))) = tw ad dI dJ (sB s 27 i v) := rfl
theorem tp_29 (ad : Nat → Nat) (dI dJ : ClassId) (s : TS) : (tw ad dI dJ s)[15]? = some (ad 29, .inl (dJ, 9, .inr (.inl (tB s 29)))) := rfl
theorem ts_29 (ad : Nat → Nat) (dI dJ : ClassId) (s : TS) (i : Nat) (v : Int64) : (tw ad dI dJ s).set 15 (ad 29, .inl (dJ, 9, .inr (.inl (vp_updL (tB s 29) i v)))) = tw ad dI dJ (sB s 29 i v) := rfl
theorem tp_32 (ad : Nat → Nat) (dI dJ : ClassId) (s : TS) : (tw ad dI dJ s)[16]? = some (ad 32, .inl (dJ, 9, .inr (.inl (tB s 32)))) := rfl
theorem ts_32 (ad : Nat → Nat) (dI dJ : ClassId) (s : TS) (i : Nat) (v : Int64) : (tw ad dI dJ s).set 16 (ad 32, .inl (dJ, 9, .inr (.inl (vp_updL (tB s 32) i v)))) = tw ad dI dJ (sB s 32 i v) := rfl
theorem tp_33 (ad : Nat → Nat) (dI dJ : ClassId) (s : TS) : (tw ad dI dJ s)[17]? = some (ad 33, .inl (dJ, 16, .inr (.inl (tB s 33)))) := rfl
theorem ts_33 (ad : Nat → Nat) (dI dJ : ClassId) (s : TS) (i : Nat) (v : Int64) : (tw ad dI dJ s).set 17 (ad 33, .inl (dJ, 16, .inr (.inl (vp_updL (tB s 33) i v)))) = tw ad dI dJ (sB s 33 i v) := rfl
theorem tp_34 (ad : Nat → Nat) (dI dJ : ClassId) (s : TS) : (tw ad dI dJ s)[18]? = some (ad 34, .inl (dJ, 18, .inr (.inl (tB s 34)))) := rfl
theorem ts_34 (ad : Nat → Nat) (dI dJ : ClassId) (s : TS) (i : Nat) (v : Int64) : (tw ad dI dJ s).set 18 (ad 34, .inl (dJ, 18, .inr (.inl (vp_updL (tB s 34) i v)))) = tw ad dI dJ (sB s 34 i v) := rfl
theorem tp_36 (ad : Nat → Nat) (dI dJ : ClassId) (s : TS) : (tw ad dI dJ s)[19]? = some (ad 36, .inl (dJ, 3, .inr (.inl (tB s 36)))) := rfl
theorem ts_36 (ad : Nat → Nat) (dI dJ : ClassId) (s : TS) (i : Nat) (v : Int64) : (tw ad dI dJ s).set 19 (ad 36, .inl (dJ, 3, .inr (.inl (vp_updL (tB s 36) i v)))) = tw ad dI dJ (sB s 36 i v) := rfl
theorem tp_37 (ad : Nat → Nat) (dI dJ : ClassId) (s : TS) : (tw ad dI dJ s)[20]? = some (ad 37, .inl (dJ, 3, .inr (.inl (tB s 37)))) := rfl
theorem ts_37 (ad : Nat → Nat) (dI dJ : ClassId) (s : TS) (i : Nat) (v : Int64) : (tw ad dI dJ s).set 20 (ad 37, .inl (dJ, 3, .inr (.inl (vp_updL (tB s 37) i v)))) = tw ad dI dJ (sB s 37 i v) := rfl
theorem tp_38 (ad : Nat → Nat) (dI dJ : ClassId) (s : TS) : (tw ad dI dJ s)[21]? = some (ad 38, .inl (dJ, 3, .inr (.inl (tB s 38)))) := rfl
theorem ts_38 (ad : Nat → Nat) (dI dJ : ClassId) (s : TS) (i : Nat) (v : Int64) : (tw ad dI dJ s).set 21 (ad 38, .inl (dJ, 3, .inr (.inl (vp_updL (tB s 38) i v)))) = tw ad dI dJ (sB s 38 i v) := rfl
theorem tp_39 (ad : Nat → Nat) (dI dJ : ClassId) (s : TS) : (tw ad dI dJ s)[22]? = some (ad 39, .inl (dJ, 3, .inr (.inl (tB s 39)))) := rfl
theorem ts_39 (ad : Nat → Nat) (dI dJ : ClassId) (s : TS) (i : Nat) (v : Int64) : (tw ad dI dJ s).set 22 (ad 39, .inl (dJ, 3, .inr (.inl (vp_updL (tB s 39) i v)))) = tw ad dI dJ (sB s 39 i v) := rfl
theorem ts_4 (ad : Nat → Nat) (dI dJ : ClassId) (s : TS) (v : Int32) : (tw ad dI dJ s).set 0 (ad 40, .inr (0, (twF ad s).set 4 (.int v))) = tw ad dI dJ (sI s 4 v) := rfl
theorem ts_5 (ad : Nat → Nat) (dI dJ : ClassId) (s : TS) (v : Int32) : (tw ad dI dJ s).set 0 (ad 40, .inr (0, (twF ad s).set 5 (.int v))) = tw ad dI dJ (sI s 5 v) := rfl
theorem ts_6 (ad : Nat → Nat) (dI dJ : ClassId) (s : TS) (v : Int32) : (tw ad dI dJ s).set 0 (ad 40, .inr (0, (twF ad s).set 6 (.int v))) = tw ad dI dJ (sI s 6 v) := rfl
theorem ts_7 (ad : Nat → Nat) (dI dJ : ClassId) (s : TS) (v : Int32) : (tw ad dI dJ s).set 0 (ad 40, .inr (0, (twF ad s).set 7 (.int v))) = tw ad dI dJ (sI s 7 v) := rfl
theorem ts_8 (ad : Nat → Nat) (dI dJ : ClassId) (s : TS) (v : Int32) : (tw ad dI dJ s).set 0 (ad 40, .inr (0, (twF ad s).set 8 (.int v))) = tw ad dI dJ (sI s 8 v) := rfl
theorem ts_9 (ad : Nat → Nat) (dI dJ : ClassId) (s : TS) (v : Int32) : (tw ad dI dJ s).set 0 (ad 40, .inr (0, (twF ad s).set 9 (.int v))) = tw ad dI dJ (sI s 9 v) := rfl
theorem ts_10 (ad : Nat → Nat) (dI dJ : ClassId) (s : TS) (v : Int32) : (tw ad dI dJ s).set 0 (ad 40, .inr (0, (twF ad s).set 10 (.int v))) = tw ad dI dJ (sI s 10 v) := rfl
theorem ts_11 (ad : Nat → Nat) (dI dJ : ClassId) (s : TS) (v : Int32) : (tw ad dI dJ s).set 0 (ad 40, .inr (0, (twF ad s).set 11 (.int v))) = tw ad dI dJ (sI s 11 v) := rfl
theorem ts_12 (ad : Nat → Nat) (dI dJ : ClassId) (s : TS) (v : Int32) : (tw ad dI dJ s).set 0 (ad 40, .inr (0, (twF ad s).set 12 (.int v))) = tw ad dI dJ (sI s 12 v) := rfl
theorem ts_13 (ad : Nat → Nat) (dI dJ : ClassId) (s : TS) (v : Int32) : (tw ad dI dJ s).set 0 (ad 40, .inr (0, (twF ad s).set 13 (.int v))) = tw ad dI dJ (sI s 13 v) := rfl
theorem ts_14 (ad : Nat → Nat) (dI dJ : ClassId) (s : TS) (v : Int32) : (tw ad dI dJ s).set 0 (ad 40, .inr (0, (twF ad s).set 14 (.int v))) = tw ad dI dJ (sI s 14 v) := rfl
theorem ts_15 (ad : Nat → Nat) (dI dJ : ClassId) (s : TS) (v : Int32) : (tw ad dI dJ s).set 0 (ad 40, .inr (0, (twF ad s).set 15 (.int v))) = tw ad dI dJ (sI s 15 v) := rfl
theorem ts_19 (ad : Nat → Nat) (dI dJ : ClassId) (s : TS) (v : Int64) : (tw ad dI dJ s).set 0 (ad 40, .inr (0, (twF ad s).set 19 (.long v))) = tw ad dI dJ (sL s 19 v) := rfl
theorem ts_25 (ad : Nat → Nat) (dI dJ : ClassId) (s : TS) (v : Int32) : (tw ad dI dJ s).set 0 (ad 40, .inr (0, (twF ad s).set 25 (.int v))) = tw ad dI dJ (sI s 25 v) := rfl
theorem ts_28 (ad : Nat → Nat) (dI dJ : ClassId) (s : TS) (v : Int64) : (tw ad dI dJ s).set 0 (ad 40, .inr (0, (twF ad s).set 28 (.long v))) = tw ad dI dJ (sL s 28 v) := rfl
theorem ts_30 (ad : Nat → Nat) (dI dJ : ClassId) (s : TS) (v : Int64) : (tw ad dI dJ s).set 0 (ad 40, .inr (0, (twF ad s).set 30 (.long v))) = tw ad dI dJ (sL s 30 v) := rfl
theorem ts_31 (ad : Nat → Nat) (dI dJ : ClassId) (s : TS) (v : Int64) : (tw ad dI dJ s).set 0 (ad 40, .inr (0, (twF ad s).set 31 (.long v))) = tw ad dI dJ (sL s 31 v) := rfl
theorem ts_35 (ad : Nat → Nat) (dI dJ : ClassId) (s : TS) (v : Int32) : (tw ad dI dJ s).set 0 (ad 40, .inr (0, (twF ad s).set 35 (.int v))) = tw ad dI dJ (sI s 35 v) := rfl
abbrev tTy (dI dJ : ClassId) : List (ClassId × FieldType) := [(dI, .int), (dJ, .long)]
/-- what a walk in the twin's class carries -/
def TC (p : Program) (s : State) (m : MethodId) (args : Array Value) (c : Code) (cc : ByteArray) (D : va_G) (dI dJ : ClassId) : Prop := p.tables.exec = Jvm.exec ∧ c.code = cc ∧ s.vm.findClass RX3 = some m.cls ∧ (∀ w ∈ lw_all, w.before args s = true) ∧ va_K D gCl (tTy dI dJ) s
/-- the twin's world at a heap -/
def TH (D : va_G) (ad : Nat → Nat) (dI dJ : ClassId) (A : Nat → Prop) (H0 : Heap) (s : TS) (H : Heap) (locs : List Loc) : Prop := va_P D gCl (tw ad dI dJ s) H ∧ va_D A (tw ad dI dJ s) ∧ va_S A H0 H locs ∧ ∀ q, H0.size ≤ q → A q
def TPre (D : va_G) (ad : Nat → Nat) (dI dJ : ClassId) (A : Nat → Prop) (s : TS) (U : State) : Prop := va_P D gCl (tw ad dI dJ s) U.heap ∧ va_K D gCl (tTy dI dJ) U ∧ va_D A (tw ad dI dJ s) ∧ ∀ q, U.heap.size ≤ q → A q
def TPost (D : va_G) (ad : Nat → Nat) (dI dJ : ClassId) (A : Nat → Prop) (u : TS) (t : State) : Prop := va_P D gCl (tw ad dI dJ u) t.heap ∧ va_D A (tw ad dI dJ u)
section TWR
variable {p : Program} {l : Launch} {e : Env} {R : Room} {s : State} {m : MethodId} {args : Array Value} {below : List Frame} {meth : Method} {c : Code} {H H0 : Heap} {locs : List Loc} {cells slots : Nat} {Q : State → Prop}
variable {cc : ByteArray} {pc : Nat} {ls : Array Slot} {rest : List Value} {D : va_G} {ad : Nat → Nat} {dI dJ : ClassId} {A : Nat → Prop} {u : TS}
theorem tg_get (C : TC p s m args c cc D dI dJ) (h : TH D ad dI dJ A H0 u H locs) (k : Nat) (hk : k < 40) {index : Nat} (hl : Cond.fieldLink RX3 index (TX3 k).1 (TX3 k).2.1 (TX3 k).2.2.1 ∈ lw_all) {v : Value} (hv : (twF ad u)[k]? = some v) (hdg : decode cc pc = .ok (.getfield index, 3))
    (kk : W p l e R s m args below meth c H locs cells slots Q (F0 m (pc + 3) ls (v :: rest))) : W p l e R s m args below meth c H locs cells slots Q (F0 m pc ls (.ref (ad 40) :: rest)) :=
  va_get (D := D) (ci := 0) (v := v) (C := RX3) (T := TX3) (N := 40) (ref := (TX3 k).1) C.1 C.2.1 C.2.2.2.1 in_X3 C.2.2.1 C.2.2.2.2 h.1 0 rfl rfl k hk (C.2.2.2.1 _ hl) (fun _ h9 => h9) hv hdg kk
theorem tg_put (C : TC p s m args c cc D dI dJ) (h : TH D ad dI dJ A H0 u H locs) (k : Nat) (hk : k < 40) {index : Nat} (hl : Cond.fieldLink RX3 index (TX3 k).1 (TX3 k).2.1 (TX3 k).2.2.1 ∈ lw_all) (hfin : (TX3 k).2.2.2 = false) {v : Value} (hn : narrow (tyX3 k) v = v) (hfit : fits (tyX3 k) v = true) {u' : TS} (hset : (tw ad dI dJ u).set 0 (ad 40, .inr (0, (twF ad u).set k v)) = tw ad dI dJ u') (hdg : decode cc pc = .ok (.putfield index, 3))
    (kk : ∀ (H : Heap) (locs : List Loc), TH D ad dI dJ A H0 u' H locs → W p l e R s m args below meth c H locs cells slots Q (F0 m (pc + 3) ls rest)) : W p l e R s m args below meth c H locs cells slots Q (F0 m pc ls (v :: .ref (ad 40) :: rest)) := by
  refine va_put (D := D) (ci := 0) (v := v) (ty := tyX3 k) (C := RX3) (T := TX3) (N := 40) (ref := (TX3 k).1) C.1 C.2.1 C.2.2.2.1 in_X3 tyX3 tyX3_ok nmX3 C.2.2.1 C.2.2.2.2 h.1 h.2.1 h.2.2.1 0 rfl rfl k hk (C.2.2.2.1 _ hl) (fun _ h9 => h9) hfin (tyX3_ok k hk) hn hfit hk hdg (fun H1 locs1 hP hD hS => ?_)
  rw [hset] at hP hD
  exact kk H1 locs1 ⟨hP, hD, hS, h.2.2.2⟩
theorem tg_iald (C : TC p s m args c cc D dI dJ) (h : TH D ad dI dJ A H0 u H locs) {q0 k n : Nat} (hp : (tw ad dI dJ u)[q0]? = some (ad k, .inl (dI, n, .inl (tA u k)))) {i : Int32} (hi : ix i n = true) (hdg : decode cc pc = .ok (.iaload, 1))
    (kk : W p l e R s m args below meth c H locs cells slots Q (F0 m (pc + 1) ls (.int (tA u k i.toNatClampNeg) :: rest))) : W p l e R s m args below meth c H locs cells slots Q (F0 m pc ls (.int i :: .ref (ad k) :: rest)) :=
  va_iald C.1 C.2.1 C.2.2.2.2 h.1 q0 0 hp rfl (ix_in hi) hdg kk
theorem tg_lald (C : TC p s m args c cc D dI dJ) (h : TH D ad dI dJ A H0 u H locs) {q0 k n : Nat} (hp : (tw ad dI dJ u)[q0]? = some (ad k, .inl (dJ, n, .inr (.inl (tB u k))))) {i : Int32} (hi : ix i n = true) (hdg : decode cc pc = .ok (.laload, 1))
    (kk : W p l e R s m args below meth c H locs cells slots Q (F0 m (pc + 1) ls (.long (tB u k i.toNatClampNeg) :: rest))) : W p l e R s m args below meth c H locs cells slots Q (F0 m pc ls (.int i :: .ref (ad k) :: rest)) :=
  va_lald C.1 C.2.1 C.2.2.2.2 h.1 q0 1 hp rfl (ix_in hi) hdg kk
theorem tg_iast (C : TC p s m args c cc D dI dJ) (h : TH D ad dI dJ A H0 u H locs) {q0 k n : Nat} (hp : (tw ad dI dJ u)[q0]? = some (ad k, .inl (dI, n, .inl (tA u k)))) {i x : Int32} (hi : ix i n = true) (hset : (tw ad dI dJ u).set q0 (ad k, .inl (dI, n, .inl (upd (tA u k) i.toNatClampNeg x))) = tw ad dI dJ (sA u k i.toNatClampNeg x)) (hdg : decode cc pc = .ok (.iastore, 1))
    (kk : ∀ (H : Heap) (locs : List Loc), TH D ad dI dJ A H0 (sA u k i.toNatClampNeg x) H locs → W p l e R s m args below meth c H locs cells slots Q (F0 m (pc + 1) ls rest)) : W p l e R s m args below meth c H locs cells slots Q (F0 m pc ls (.int x :: .int i :: .ref (ad k) :: rest)) := by
  refine va_iast C.1 C.2.1 C.2.2.2.2 h.1 h.2.1 h.2.2.1 q0 0 hp rfl (ix_in hi) hdg (fun H1 locs1 hP hD hS => ?_)
  rw [hset] at hP hD
  exact kk H1 locs1 ⟨hP, hD, hS, h.2.2.2⟩
theorem tg_last (C : TC p s m args c cc D dI dJ) (h : TH D ad dI dJ A H0 u H locs) {q0 k n : Nat} (hp : (tw ad dI dJ u)[q0]? = some (ad k, .inl (dJ, n, .inr (.inl (tB u k))))) {i : Int32} {x : Int64} (hi : ix i n = true) (hset : (tw ad dI dJ u).set q0 (ad k, .inl (dJ, n, .inr (.inl (vp_updL (tB u k) i.toNatClampNeg x)))) = tw ad dI dJ (sB u k i.toNatClampNeg x)) (hdg : decode cc pc = .ok (.lastore, 1))
    (kk : ∀ (H : Heap) (locs : List Loc), TH D ad dI dJ A H0 (sB u k i.toNatClampNeg x) H locs → W p l e R s m args below meth c H locs cells slots Q (F0 m (pc + 1) ls rest)) : W p l e R s m args below meth c H locs cells slots Q (F0 m pc ls (.long x :: .int i :: .ref (ad k) :: rest)) := by
  refine va_last C.1 C.2.1 C.2.2.2.2 h.1 h.2.1 h.2.2.1 q0 1 hp rfl (ix_in hi) hdg (fun H1 locs1 hP hD hS => ?_)
  rw [hset] at hP hD
  exact kk H1 locs1 ⟨hP, hD, hS, h.2.2.2⟩
theorem TPre.blind {av : List Value} : FrameBlind (va_Pc av (TPre D ad dI dJ A u)) := fun a U g mk q => ⟨q.1, q.2.1, va_K.moved (u := U) (U := U.calling g mk a) (Vm.Alike.refl U.vm) q.2.2.1, q.2.2.2.1, q.2.2.2.2⟩
/-- the twin's own instance method is called: its start -/
theorem tg_pre (C : TC p s m args c cc D dI dJ) (h : TH D ad dI dJ A H0 u H locs) (As : List Value) : PreV s H RX3 (ad 40) (va_Pc (.ref (ad 40) :: As) (TPre D ad dI dJ A u)) As :=
  ⟨TPre.blind, va_recv C.2.2.2.2 h.1 (ci := 0) (q0 := 0) rfl rfl, fun U hU hW => ⟨rfl, by rw [hU]; exact h.1, va_K.moved hW.alike C.2.2.2.2, h.2.1, by rw [hU]; exact fun q hq => h.2.2.2 q (Nat.le_trans h.2.2.1.1 hq)⟩⟩
theorem tg_calli {r0 : Int32} {u1 : TS} {a : Array Value} {st0 : List Value} {mc ms : Nat} (h : TH D ad dI dJ A H0 u H locs) (hr : va_Run p l e R s m args below meth c H locs cells slots mc ms (F0 m pc ls st0) rest (va_Qi (fun r u => r = r0 ∧ u = u1) (TPost D ad dI dJ A) A a) A)
    (kk : ∀ (H : Heap) (locs : List Loc), TH D ad dI dJ A H0 u1 H locs → W p l e R s m args below meth c H locs (cells + mc) (slots + ms) Q (F0 m (pc + 3) ls (.int r0 :: rest))) : W p l e R s m args below meth c H locs cells slots Q (F0 m pc ls st0) := by
  refine va_calli hr h.2.2.1 (fun q _ h => h) (fun q h => h) (fun r u t H1 locs1 ht hvm hw hB hz hk hS => ?_)
  obtain ⟨e1, e2⟩ := hw
  rw [e1]; rw [e2] at hB
  exact kk H1 locs1 ⟨by rw [← ht]; exact hB.1, hB.2, hS, h.2.2.2⟩
theorem tg_calll {r0 : Int64} {u1 : TS} {a : Array Value} {st0 : List Value} {mc ms : Nat} (h : TH D ad dI dJ A H0 u H locs) (hr : va_Run p l e R s m args below meth c H locs cells slots mc ms (F0 m pc ls st0) rest (va_Ql (fun r u => r = r0 ∧ u = u1) (TPost D ad dI dJ A) A a) A)
    (kk : ∀ (H : Heap) (locs : List Loc), TH D ad dI dJ A H0 u1 H locs → W p l e R s m args below meth c H locs (cells + mc) (slots + ms) Q (F0 m (pc + 3) ls (.long r0 :: rest))) : W p l e R s m args below meth c H locs cells slots Q (F0 m pc ls st0) := by
  refine va_calll hr h.2.2.1 (fun q _ h => h) (fun q h => h) (fun r u t H1 locs1 ht hvm hw hB hz hk hS => ?_)
  obtain ⟨e1, e2⟩ := hw
  rw [e1]; rw [e2] at hB
  exact kk H1 locs1 ⟨by rw [← ht]; exact hB.1, hB.2, hS, h.2.2.2⟩
theorem tg_callv {u1 : TS} {a : Array Value} {st0 : List Value} {mc ms : Nat} (h : TH D ad dI dJ A H0 u H locs) (hr : va_Run p l e R s m args below meth c H locs cells slots mc ms (F0 m pc ls st0) rest (va_Qv (fun u => u = u1) (TPost D ad dI dJ A) A a) A)
    (kk : ∀ (H : Heap) (locs : List Loc), TH D ad dI dJ A H0 u1 H locs → W p l e R s m args below meth c H locs (cells + mc) (slots + ms) Q (F0 m (pc + 3) ls rest)) : W p l e R s m args below meth c H locs cells slots Q (F0 m pc ls st0) := by
  refine va_callv hr h.2.2.1 (fun q _ h => h) (fun q h => h) (fun u t H1 locs1 ht hvm hw hB hz hk hS => ?_)
  rw [hw] at hB
  exact kk H1 locs1 ⟨by rw [← ht]; exact hB.1, hB.2, hS, h.2.2.2⟩
end TWR
