def clS : List vw_C := [(RX0, TX0, 63), (RX1, TX1, 12), (RX2, TX2, 6), (RX3, TX3, 8), (RX4, TX4, 94), (RX5, TX5, 10), (RX6, TX6, 2), (RX7, TX7, 6), (RX8, TX8, 6), (RX9, TX9, 2), (RX10, TX10, 6), (RX11, TX11, 6)]
def fidS : Nat → List Nat := fun c => match c with
  | 0 => [1000, 1, 1002, 3, 1004, 5, 1006, 7, 1008, 1009, 10, 11, 1012, 13, 1014, 1015, 16, 1017, 1018, 1019, 1020, 1021, 22, 1023, 1024, 1025, 1026, 1027, 1028, 29, 1030, 1031, 1032, 33, 34, 35, 36, 37, 1038, 39, 40, 41, 42, 1043, 44, 1045, 1046, 1047, 48, 1049, 1050, 1051, 1052, 1053, 1054, 55, 1056, 57, 1058, 1059, 60, 1061, 1062]
  | 1 => [1100, 101, 1102, 103, 1104, 1105, 1106, 1107, 1108, 1109, 110, 1111]
  | 2 => [1200, 1201, 1202, 1203, 1204, 205]
  | 3 => [300, 1301, 302, 1303, 304, 305, 306, 307]
  | 4 => [400, 401, 1402, 1403, 1404, 1405, 1406, 1407, 1408, 1409, 1410, 1411, 412, 1413, 1414, 1415, 416, 417, 418, 419, 1420, 1421, 1422, 1423, 424, 425, 1426, 1427, 1428, 1429, 1430, 1431, 1432, 1433, 1434, 435, 1436, 437, 1438, 1439, 1440, 1441, 442, 1443, 1444, 1445, 446, 447, 448, 449, 450, 451, 452, 1453, 1454, 1455, 456, 1457, 1458, 1459, 1460, 461, 462, 463, 464, 465, 1466, 467, 468, 469, 1470, 471, 1472, 1473, 474, 1475, 1476, 1477, 1478, 479, 1480, 1481, 1482, 483, 1484, 1485, 1486, 1487, 488, 1489, 1490, 1491, 1492, 1493]
  | 5 => [500, 1501, 1502, 1503, 1504, 1505, 506, 1507, 1508, 1509]
  | 6 => [600, 1601]
  | 7 => [600, 1601, 702, 703, 704, 705]
  | 8 => [600, 1601, 702, 703, 704, 705]
  | 9 => [600, 1601]
  | 10 => [600, 1601, 702, 703, 704, 705]
  | 11 => [600, 1601, 702, 703, 704, 705]
  | _ => []
/-! BASE: abstract values, abstract heaps (fields and arrays as maps by their kinds), the judgement AWP over the machine's W -/
abbrev AV : Type := Int32 ⊕ Int64 ⊕ Option Nat ⊕ Unit
def vI (x : Int32) : AV := .inl x
def vJ (x : Int64) : AV := .inr (.inl x)
def vR (r : Option Nat) : AV := .inr (.inr (.inl r))
def vU : AV := .inr (.inr (.inr ()))
def cv (v : AV) : Value := match v with
  | .inl x => .int x
  | .inr (.inl x) => .long x
  | .inr (.inr (.inl r)) => va_rf r
  | .inr (.inr (.inr _)) => .null
/-- kinds by address; int fields; reference fields (by field number, then address); int, long, reference arrays (by address, then index); the next address -/
abbrev Hp : Type := (Nat → Nat × Nat) × (Nat → Nat → Int32) × (Nat → Nat → Option Nat) × (Nat → Nat → Int32) × (Nat → Nat → Int64) × (Nat → Nat → Option Nat) × Nat
def hK (h : Hp) : Nat → Nat × Nat := h.1
def hFI (h : Hp) : Nat → Nat → Int32 := h.2.1
def hFR (h : Hp) : Nat → Nat → Option Nat := h.2.2.1
def hAI (h : Hp) : Nat → Nat → Int32 := h.2.2.2.1
def hAL (h : Hp) : Nat → Nat → Int64 := h.2.2.2.2.1
def hAR (h : Hp) : Nat → Nat → Option Nat := h.2.2.2.2.2.1
def hN (h : Hp) : Nat := h.2.2.2.2.2.2
def up2 {α : Type} (F : Nat → Nat → α) (f a : Nat) (v : α) : Nat → Nat → α := fun g b => if g = f then (if b = a then v else F g b) else F g b
def sFI (h : Hp) (f a : Nat) (v : Int32) : Hp := (h.1, up2 h.2.1 f a v, h.2.2.1, h.2.2.2.1, h.2.2.2.2.1, h.2.2.2.2.2.1, h.2.2.2.2.2.2)
def sFR (h : Hp) (f a : Nat) (v : Option Nat) : Hp := (h.1, h.2.1, up2 h.2.2.1 f a v, h.2.2.2.1, h.2.2.2.2.1, h.2.2.2.2.2.1, h.2.2.2.2.2.2)
def sAI (h : Hp) (a : Nat) (g : Nat → Int32) : Hp := (h.1, h.2.1, h.2.2.1, va_up h.2.2.2.1 a g, h.2.2.2.2.1, h.2.2.2.2.2.1, h.2.2.2.2.2.2)
def sAL (h : Hp) (a : Nat) (g : Nat → Int64) : Hp := (h.1, h.2.1, h.2.2.1, h.2.2.2.1, va_up h.2.2.2.2.1 a g, h.2.2.2.2.2.1, h.2.2.2.2.2.2)
def sAR (h : Hp) (a : Nat) (g : Nat → Option Nat) : Hp := (h.1, h.2.1, h.2.2.1, h.2.2.2.1, h.2.2.2.2.1, va_up h.2.2.2.2.2.1 a g, h.2.2.2.2.2.2)
/-- a new cell of kind k, n places, all blank -/
def nW (h : Hp) (k n : Nat) : Hp := (va_up h.1 h.2.2.2.2.2.2 (k, n), fun f a => if a = h.2.2.2.2.2.2 then 0 else h.2.1 f a, fun f a => if a = h.2.2.2.2.2.2 then none else h.2.2.1 f a, va_up h.2.2.2.1 h.2.2.2.2.2.2 (fun _ => 0), va_up h.2.2.2.2.1 h.2.2.2.2.2.2 (fun _ => 0), va_up h.2.2.2.2.2.1 h.2.2.2.2.2.2 (fun _ => none), h.2.2.2.2.2.2 + 1)
abbrev DG : Type := va_G × (Nat → ClassId)
/-- a field's value: numbers below 1000 are ints, from 1000 on references -/
def fv (h : Hp) (a f : Nat) : Value := if f < 1000 then .int (hFI h f a) else va_rf (hFR h f a)
/-- what the cell at a is: kinds 1.. objects of class kind - 1; 100 boolean, 101 byte, 102 short, 103 int, 104 long, 105 and on references -/
def toE (dA : Nat → ClassId) (h : Hp) (a : Nat) : va_E :=
  if (hK h a).1 < 100 then .inr ((hK h a).1 - 1, (fidS ((hK h a).1 - 1)).map (fv h a))
  else if (hK h a).1 < 104 then .inl (dA ((hK h a).1 - 100), (hK h a).2, .inl (hAI h a))
  else if (hK h a).1 = 104 then .inl (dA 4, (hK h a).2, .inr (.inl (hAL h a)))
  else .inl (dA ((hK h a).1 - 100), (hK h a).2, .inr (.inr (.inr (.inr (hAR h a)))))
def tyS (dA : Nat → ClassId) : List (ClassId × FieldType) := [(dA 0, .boolean), (dA 1, .byte), (dA 2, .short), (dA 3, .int), (dA 4, .long), (dA 5, .object "PlatesSing$Part"), (dA 6, .object "PlatesSing$Shape"), (dA 7, .object "PlatesSing$Piece"), (dA 8, .object "PlatesSing$Act"), (dA 9, .object "java/lang/Object")]
def Rep (D : DG) (h : Hp) (H : Heap) : Prop := hN h = H.size ∧ ∀ a, (hK h a).1 ≠ 0 → va_at D.1 clS (a, toE D.2 h a) H
def KK (D : DG) (U : State) : Prop := va_K D.1 clS (tyS D.2) U ∧ ∃ (s0 : State) (a0 : Array Value), s0.WarmedH U.vm ∧ (∀ w ∈ lw_tbl, w.before a0 s0 = true) ∧ (Jvm.Cond.and given_1 narrow_1).before a0 s0 = true
theorem KK.moved {D : DG} {u U : State} (h : u.WarmedH U.vm) (k : KK D u) : KK D U := by
  obtain ⟨k1, s0, a0, k2, k3, k4⟩ := k
  exact ⟨va_K.moved h.alike k1, s0, a0, State.WarmedH.trans k2 h, k3, k4⟩
/-- a method: name, code, locals, answer -/
abbrev MI : Type := MethodName × ByteArray × Nat × Option FieldType
/-- how a method ends: returned, or threw -/
abbrev Rs : Type := Option AV ⊕ Nat
def ocOf (r : Rs) : Outcome := match r with
  | .inl v => .returned (v.map cv)
  | .inr a => .threw a
def rI (x : Int32) : Rs := .inl (some (vI x))
def rJ (x : Int64) : Rs := .inl (some (vJ x))
def rR (r : Option Nat) : Rs := .inl (some (vR r))
def rV : Rs := .inl none
def rT (a : Nat) : Rs := .inr a
def Cx (M : MI) (D : DG) (p : Program) (s : State) (m : MethodId) (args : Array Value) (meth : Method) (c : Code) : Prop :=
  p.tables.exec = Jvm.exec ∧ c.code = M.2.1 ∧ c.maxLocals = M.2.2.1 ∧ s.vm.findClass M.1.cls = some m.cls ∧ (∀ w ∈ lw_all, w.before args s = true) ∧ meth.sig.returnType = M.2.2.2 ∧ meth.locks = false ∧ meth.name = M.1.name ∧ KK D s
def Rm (d : Nat) (b : Nat × Nat) (R : Room) (cells slots : Nat) : Prop := d ≤ R.frames ∧ 80 * d ≤ R.locals ∧ cells + b.1 ≤ R.cells ∧ slots + b.2 ≤ R.slots
def Wd (D : DG) (A : Nat → Prop) (h : Hp) (s : State) (H : Heap) (locs : List Loc) : Prop := Rep D h H ∧ (∀ a, (hK h a).1 ≠ 0 → A a) ∧ (∀ a, s.heap.size ≤ a → A a) ∧ va_S A s.heap H locs
def LV (ls : Array Slot) (nL : Nat) (L : List AV) : Prop := ∃ l, lv_has ls nL l ∧ ∀ (i : Nat) (v : AV), L[i]? = some v → v ≠ vU → (i, cv v) ∈ l
def QX (D : DG) (A : Nat → Prop) (Q : Rs → Hp → Prop) (s : State) (o : Outcome) (t : State) : Prop := (∃ (r : Rs) (h' : Hp), o = ocOf r ∧ Q r h' ∧ Rep D h' t.heap ∧ (∀ a, (hK h' a).1 ≠ 0 → A a)) ∧ va_F A s t
def FrX (first t : State) (L : List Loc) (k n : Nat) : Prop := first.WarmedH t.vm ∧ first.sameButNew ({ t with vm := first.vm } : State) L k n
def MQX (D : DG) (A : Nat → Prop) (Q : Rs → Hp → Prop) (below : List Frame) (s : State) (mc ms : Nat) : State → Prop := fun t =>
  ∃ o, t.status = .running ∧ Ended t below o ∧ QX D A Q s o t ∧ ∃ L, FrX s t L mc ms ∧ ∀ q ∈ L, A q.base
def AWP (M : MI) (d pc : Nat) (L st : List AV) (h : Hp) (b : Nat × Nat) (Q : Rs → Hp → Prop) : Prop :=
  ∀ (p : Program) (l : Launch) (e : Env) (R : Room) (s : State) (m : MethodId) (args : Array Value) (below : List Frame) (meth : Method) (c : Code) (D : DG) (A : Nat → Prop) (H : Heap) (locs : List Loc) (cells slots : Nat) (ls : Array Slot),
    Cx M D p s m args meth c → Rm d b R cells slots → Wd D A h s H locs → LV ls M.2.2.1 L →
    W p l e R s m args below meth c H locs cells slots (MQX D A Q below s R.cells R.slots) (F0 m pc ls (st.map cv))
theorem W_mono {p : Program} {l : Launch} {e : Env} {R : Room} {s : State} {m : MethodId} {args : Array Value} {below : List Frame} {meth : Method} {c : Code} {H : Heap} {locs : List Loc} {cells slots : Nat} {Q Q' : State → Prop} {g : JFrame} (k : W p l e R s m args below meth c H locs cells slots Q g) (h : ∀ t, Q t → Q' t) : W p l e R s m args below meth c H locs cells slots Q' g := by
  intro T hT X
  obtain ⟨t, a, b⟩ := k T hT X
  exact ⟨t, a, h t b⟩
theorem AWP.mono {M : MI} {d pc : Nat} {L st : List AV} {h : Hp} {b : Nat × Nat} {Q Q' : Rs → Hp → Prop} (k : AWP M d pc L st h b Q) (hq : ∀ r h', Q r h' → Q' r h') : AWP M d pc L st h b Q' := by
  intro p l e R s m args below meth c D A H locs cells slots ls C Rm1 W1 hl
  refine W_mono (k p l e R s m args below meth c D A H locs cells slots ls C Rm1 W1 hl) ?_
  rintro t ⟨o, h1, h2, ⟨⟨r, h', e1, e2, e3⟩, e4⟩, h4⟩
  exact ⟨o, h1, h2, ⟨⟨r, h', e1, hq r h' e2, e3⟩, e4⟩, h4⟩
/-- of a local that is set, its value -/
theorem LV.at {ls : Array Slot} {nL : Nat} {L : List AV} (h : LV ls nL L) {i : Nat} {v : AV} (hi : L[i]? = some v) (hv : v ≠ vU) : ls[i]? = some (.val (cv v)) := by
  obtain ⟨l, h1, h2⟩ := h
  exact h1.2.2 _ (h2 i v hi hv)
theorem LV.size {ls : Array Slot} {nL : Nat} {L : List AV} (h : LV ls nL L) : ls.size = nL := by
  obtain ⟨l, h1, h2⟩ := h
  exact h1.1
def clr (a : AV) : AV := match a with
  | .inr (.inl _) => vU
  | _ => a
/-- a store of one word at place i: a long that began just ahead is gone -/
def st1 : List AV → Nat → AV → List AV
  | [], _, _ => []
  | _ :: t, 0, v => v :: t
  | a :: t, 1, v => clr a :: st1 t 0 v
  | a :: t, n + 2, v => a :: st1 t (n + 1) v
def st2 (L : List AV) (i : Nat) (v : AV) : List AV := st1 (L.set (i + 1) vU) i v
theorem st1_get : ∀ (L : List AV) (i : Nat) (v : AV) (j : Nat) (w : AV), (st1 L i v)[j]? = some w → w ≠ vU → (j = i ∧ w = v) ∨ (j ≠ i ∧ L[j]? = some w ∧ (j + 1 = i → ∀ x, w ≠ vJ x))
  | [], i, v, j, w, h, _ => by simp [st1] at h
  | a :: t, 0, v, j, w, h, hw => by
    cases j with
    | zero => simp [st1] at h; exact Or.inl ⟨rfl, h.symm⟩
    | succ j => simp only [st1, List.getElem?_cons_succ] at h; exact Or.inr ⟨by omega, by simpa using h, fun q => by omega⟩
  | a :: t, 1, v, j, w, h, hw => by
    cases j with
    | zero =>
      simp only [st1, List.getElem?_cons_zero, Option.some.injEq] at h
      subst h
      rcases a with x | x | x | x
      · exact Or.inr ⟨by omega, rfl, fun _ y q => by simp [clr, vJ] at q⟩
      · exact absurd rfl hw
      · exact Or.inr ⟨by omega, rfl, fun _ y q => by simp [clr, vJ] at q⟩
      · exact absurd rfl hw
    | succ j =>
      simp only [st1, List.getElem?_cons_succ] at h
      rcases st1_get t 0 v j w h hw with ⟨e1, e2⟩ | ⟨e1, e2, e3⟩
      · exact Or.inl ⟨by omega, e2⟩
      · exact Or.inr ⟨by omega, by simpa using e2, fun q => by omega⟩
  | a :: t, n + 2, v, j, w, h, hw => by
    cases j with
    | zero =>
      simp only [st1, List.getElem?_cons_zero, Option.some.injEq] at h
      subst h
      exact Or.inr ⟨by omega, rfl, fun q => by omega⟩
    | succ j =>
      simp only [st1, List.getElem?_cons_succ] at h
      rcases st1_get t (n + 1) v j w h hw with ⟨e1, e2⟩ | ⟨e1, e2, e3⟩
      · exact Or.inl ⟨by omega, e2⟩
      · exact Or.inr ⟨by omega, by simpa using e2, fun q => e3 (by omega)⟩
theorem cat2 {w : AV} (h : (cv w).category = 2) : ∃ x, w = vJ x := by
  rcases w with x | x | x | x
  · simp [cv, Value.category] at h
  · exact ⟨x, rfl⟩
  · cases x <;> simp [cv, va_rf, Value.category] at h
  · simp [cv, Value.category] at h
theorem LV.set1 {ls : Array Slot} {nL : Nat} {L : List AV} (h : LV ls nL L) {i : Nat} {v : AV} (hi : i < nL) (hc : (cv v).category = 1) : ∃ ls', storeLocals ls i (cv v) = some ls' ∧ LV ls' nL (st1 L i v) := by
  obtain ⟨l, h1, h2⟩ := h
  obtain ⟨ls', e, h'⟩ := lv_store1 (v := cv v) h1 hi hc
  refine ⟨ls', e, _, h', fun j w hj hw => ?_⟩
  rcases st1_get L i v j w hj hw with ⟨rfl, rfl⟩ | ⟨e1, e2, e3⟩
  · exact List.mem_cons_self
  · refine List.mem_cons_of_mem _ (List.mem_filter.mpr ⟨h2 j w e2 hw, ?_⟩)
    simp only [Bool.and_eq_true, Bool.not_eq_true', beq_eq_false_iff_ne, ne_eq, Bool.and_eq_false_iff]
    refine ⟨e1, ?_⟩
    by_cases q : j + 1 = i
    · right
      intro q2
      obtain ⟨x, rfl⟩ := cat2 q2
      exact e3 q x rfl
    · exact Or.inl q
theorem LV.set2 {ls : Array Slot} {nL : Nat} {L : List AV} (h : LV ls nL L) {i : Nat} {v : AV} (hi : i + 1 < nL) (hc : (cv v).category = 2) : ∃ ls', storeLocals ls i (cv v) = some ls' ∧ LV ls' nL (st2 L i v) := by
  obtain ⟨l, h1, h2⟩ := h
  obtain ⟨ls', e, h'⟩ := lv_store2 (v := cv v) h1 hi hc
  refine ⟨ls', e, _, h', fun j w hj hw => ?_⟩
  rcases st1_get _ i v j w hj hw with ⟨rfl, rfl⟩ | ⟨e1, e2, e3⟩
  · exact List.mem_cons_self
  · have e4 : j ≠ i + 1 := by
      intro q
      subst q
      rw [List.getElem?_set] at e2
      simp only [if_true] at e2
      split at e2
      · exact hw (Option.some.inj e2).symm
      · cases e2
    rw [List.getElem?_set, if_neg (Ne.symm e4)] at e2
    refine List.mem_cons_of_mem _ (List.mem_filter.mpr ⟨h2 j w e2 hw, ?_⟩)
    simp only [Bool.and_eq_true, Bool.not_eq_true', beq_eq_false_iff_ne, ne_eq, Bool.and_eq_false_iff]
    refine ⟨e1, e4, ?_⟩
    by_cases q : j + 1 = i
    · right
      intro q2
      obtain ⟨x, rfl⟩ := cat2 q2
      exact e3 q x rfl
    · exact Or.inl q
def avc (a : AV) : Nat := match a with
  | .inr (.inl _) => 2
  | _ => 1
theorem avc_eq (a : AV) : (cv a).category = avc a := by
  rcases a with x | x | x | x
  · rfl
  · rfl
  · cases x <;> rfl
  · rfl
theorem avc_cat {a : AV} {n : Nat} (h : avc a = n) : (cv a).category = n := (avc_eq a).trans h
