/-! ends of methods; new cells; calls -/
theorem MQX.of {D : DG} {A : Nat → Prop} {Q : Rs → Hp → Prop} {below : List Frame} {args : Array Value} {s : State} {mc ms : Nat} {t : State} (h : MQ below (fun _ st o t => QX D A Q st o t) args s mc ms A t) : MQX D A Q below s mc ms t := by
  obtain ⟨o, h1, h2, h3, L, ⟨-, h4, h5⟩, h6⟩ := h
  exact ⟨o, h1, h2, h3, L, ⟨h4, h5⟩, h6⟩
section
variable {M : MI} {d pc : Nat} {L st : List AV} {h : Hp} {b : Nat × Nat} {Q : Rs → Hp → Prop}
theorem go_ireturn {x : Int32} (hd : decode M.2.1 pc = .ok (.ireturn, 1)) (hr : M.2.2.2 = some .int) (k : Q (rI x) h) : AWP M d pc L [vI x] h b Q := by
  intro p l e R s m args below meth c D A H locs cells slots ls C Rm1 W1 hl
  refine W.widen (k := R.cells) (n := R.slots) (by have := Rm1.2.2.1; omega) (by have := Rm1.2.2.2; omega) ?_
  refine W_mono (W.iret (Qc := fun _ st o t => QX D A Q st o t) (free := A) C.1 C.2.1 (C.2.2.2.2.2.1.trans hr) (fun t ht hW => ⟨⟨rI x, h, rfl, k, by rw [ht]; exact W1.1, W1.2.1⟩, W1.2.2.2.F ht⟩) W1.2.2.2.2.2 hd (hlocks := C.2.2.2.2.2.2.1)) (fun t ht => MQX.of ht)
theorem go_zreturn {x : Int32} (hd : decode M.2.1 pc = .ok (.ireturn, 1)) (hr : M.2.2.2 = some .boolean) (hx : x = 0 ∨ x = 1) (k : Q (rI x) h) : AWP M d pc L [vI x] h b Q := by
  intro p l e R s m args below meth c D A H locs cells slots ls C Rm1 W1 hl
  refine W.widen (k := R.cells) (n := R.slots) (by have := Rm1.2.2.1; omega) (by have := Rm1.2.2.2; omega) ?_
  refine W_mono (W.zret (Qc := fun _ st o t => QX D A Q st o t) (free := A) C.1 C.2.1 (C.2.2.2.2.2.1.trans hr) (by rcases hx with rfl | rfl <;> rfl) (fun t ht hW => ⟨⟨rI x, h, rfl, k, by rw [ht]; exact W1.1, W1.2.1⟩, W1.2.2.2.F ht⟩) W1.2.2.2.2.2 hd (hlocks := C.2.2.2.2.2.2.1)) (fun t ht => MQX.of ht)
theorem go_lreturn {x : Int64} (hd : decode M.2.1 pc = .ok (.lreturn, 1)) (hr : M.2.2.2 = some .long) (k : Q (rJ x) h) : AWP M d pc L [vJ x] h b Q := by
  intro p l e R s m args below meth c D A H locs cells slots ls C Rm1 W1 hl
  refine W.widen (k := R.cells) (n := R.slots) (by have := Rm1.2.2.1; omega) (by have := Rm1.2.2.2; omega) ?_
  refine W_mono (W.lret (Qc := fun _ st o t => QX D A Q st o t) (free := A) C.1 C.2.1 (C.2.2.2.2.2.1.trans hr) (fun t ht hW => ⟨⟨rJ x, h, rfl, k, by rw [ht]; exact W1.1, W1.2.1⟩, W1.2.2.2.F ht⟩) W1.2.2.2.2.2 hd (hlocks := C.2.2.2.2.2.2.1)) (fun t ht => MQX.of ht)
theorem go_return (hd : decode M.2.1 pc = .ok (.return_, 1)) (hr : M.2.2.2 = none) (k : Q rV h) : AWP M d pc L [] h b Q := by
  intro p l e R s m args below meth c D A H locs cells slots ls C Rm1 W1 hl
  refine W.widen (k := R.cells) (n := R.slots) (by have := Rm1.2.2.1; omega) (by have := Rm1.2.2.2; omega) ?_
  refine W_mono (W.vret (Qc := fun _ st o t => QX D A Q st o t) (free := A) C.1 C.2.1 (C.2.2.2.2.2.1.trans hr) (fun t ht hW => ⟨⟨rV, h, rfl, k, by rw [ht]; exact W1.1, W1.2.1⟩, W1.2.2.2.F ht⟩) W1.2.2.2.2.2 hd (hlocks := C.2.2.2.2.2.2.1)) (fun t ht => MQX.of ht)
theorem go_areturn {x : Option Nat} {nm : String} (hd : decode M.2.1 pc = .ok (.areturn, 1)) (hr : M.2.2.2 = some (.object nm)) (k : Q (rR x) h) : AWP M d pc L [vR x] h b Q := by
  intro p l e R s m args below meth c D A H locs cells slots ls C Rm1 W1 hl
  refine W.widen (k := R.cells) (n := R.slots) (by have := Rm1.2.2.1; omega) (by have := Rm1.2.2.2; omega) ?_
  refine W_mono (W.aret (Qc := fun _ st o t => QX D A Q st o t) (free := A) C.1 C.2.1 (C.2.2.2.2.2.1.trans hr) (Or.inl ⟨nm, rfl⟩) (by cases x; exact Or.inl rfl; exact Or.inr ⟨_, rfl⟩) (fun t ht hW => ⟨⟨rR x, h, rfl, k, by rw [ht]; exact W1.1, W1.2.1⟩, W1.2.2.2.F ht⟩) W1.2.2.2.2.2 hd (hlocks := C.2.2.2.2.2.2.1)) (fun t ht => MQX.of ht)
theorem go_alenZ {a n : Nat} (q : Nat) (hd : decode M.2.1 pc = .ok (.arraylength, 1)) (hq : pc + 1 = q) (hk : hK h a = (100, n)) (k : AWP M d q L (vI (nI n) :: st) h b Q) : AWP M d pc L (vR (some a) :: st) h b Q := by
  subst hq
  intro p l e R s m args below meth c D A H locs cells slots ls C Rm1 W1 hl
  have hP := W1.1.one (a := a) (by rw [hk]; simp)
  rw [toE_i hk (by decide) (by decide)] at hP
  exact va_alen C.1 C.2.1 C.2.2.2.2.2.2.2.2.1 hP 0 0 rfl rfl rfl hd (k p l e R s m args below meth c D A H locs cells slots ls C Rm1 W1 hl)
theorem go_alenB {a n : Nat} (q : Nat) (hd : decode M.2.1 pc = .ok (.arraylength, 1)) (hq : pc + 1 = q) (hk : hK h a = (101, n)) (k : AWP M d q L (vI (nI n) :: st) h b Q) : AWP M d pc L (vR (some a) :: st) h b Q := by
  subst hq
  intro p l e R s m args below meth c D A H locs cells slots ls C Rm1 W1 hl
  have hP := W1.1.one (a := a) (by rw [hk]; simp)
  rw [toE_i hk (by decide) (by decide)] at hP
  exact va_alen C.1 C.2.1 C.2.2.2.2.2.2.2.2.1 hP 0 1 rfl rfl rfl hd (k p l e R s m args below meth c D A H locs cells slots ls C Rm1 W1 hl)
theorem go_alenS {a n : Nat} (q : Nat) (hd : decode M.2.1 pc = .ok (.arraylength, 1)) (hq : pc + 1 = q) (hk : hK h a = (102, n)) (k : AWP M d q L (vI (nI n) :: st) h b Q) : AWP M d pc L (vR (some a) :: st) h b Q := by
  subst hq
  intro p l e R s m args below meth c D A H locs cells slots ls C Rm1 W1 hl
  have hP := W1.1.one (a := a) (by rw [hk]; simp)
  rw [toE_i hk (by decide) (by decide)] at hP
  exact va_alen C.1 C.2.1 C.2.2.2.2.2.2.2.2.1 hP 0 2 rfl rfl rfl hd (k p l e R s m args below meth c D A H locs cells slots ls C Rm1 W1 hl)
theorem go_alenI {a n : Nat} (q : Nat) (hd : decode M.2.1 pc = .ok (.arraylength, 1)) (hq : pc + 1 = q) (hk : hK h a = (103, n)) (k : AWP M d q L (vI (nI n) :: st) h b Q) : AWP M d pc L (vR (some a) :: st) h b Q := by
  subst hq
  intro p l e R s m args below meth c D A H locs cells slots ls C Rm1 W1 hl
  have hP := W1.1.one (a := a) (by rw [hk]; simp)
  rw [toE_i hk (by decide) (by decide)] at hP
  exact va_alen C.1 C.2.1 C.2.2.2.2.2.2.2.2.1 hP 0 3 rfl rfl rfl hd (k p l e R s m args below meth c D A H locs cells slots ls C Rm1 W1 hl)
theorem go_alenJ {a n : Nat} (q : Nat) (hd : decode M.2.1 pc = .ok (.arraylength, 1)) (hq : pc + 1 = q) (hk : hK h a = (104, n)) (k : AWP M d q L (vI (nI n) :: st) h b Q) : AWP M d pc L (vR (some a) :: st) h b Q := by
  subst hq
  intro p l e R s m args below meth c D A H locs cells slots ls C Rm1 W1 hl
  have hP := W1.1.one (a := a) (by rw [hk]; simp)
  rw [toE_l hk] at hP
  exact va_alen C.1 C.2.1 C.2.2.2.2.2.2.2.2.1 hP 0 4 rfl rfl rfl hd (k p l e R s m args below meth c D A H locs cells slots ls C Rm1 W1 hl)
end
theorem nW_E (dA : Nat → ClassId) {h : Hp} {k n b : Nat} (hb : b ≠ hN h) : toE dA (nW h k n) b = toE dA h b := by
  have e1 : hK (nW h k n) b = hK h b := by simp only [hK, nW]; exact va_up_ne _ _ hb
  have e2 : hAI (nW h k n) b = hAI h b := by simp only [hAI, nW]; exact va_up_ne _ _ hb
  have e3 : hAL (nW h k n) b = hAL h b := by simp only [hAL, nW]; exact va_up_ne _ _ hb
  have e4 : hAR (nW h k n) b = hAR h b := by simp only [hAR, nW]; exact va_up_ne _ _ hb
  have e5 : fv (nW h k n) b = fv h b := by
    funext f
    simp only [fv, hFI, hFR, nW]
    have hb' : b ≠ h.2.2.2.2.2.2 := hb
    rw [if_neg hb', if_neg hb']
  unfold toE
  rw [e1, e2, e3, e4, e5]
theorem hK_nW (h : Hp) (k n : Nat) : hK (nW h k n) (hN h) = (k, n) := by simp only [hK, nW]; exact va_up_self _ _ _
theorem Wd.new {D : DG} {A : Nat → Prop} {h : Hp} {s : State} {H H1 : Heap} {locs : List Loc} {k n : Nat} (w : Wd D A h s H locs) (z : H1.size = H.size + 1) (oq : ∀ q, q < H.size → H1[q]? = H[q]?) (hE : va_at D.1 clS (hN h, toE D.2 (nW h k n) (hN h)) H1) : Wd D A (nW h k n) s H1 locs := by
  obtain ⟨⟨r1, r2⟩, w2, w3, w4⟩ := w
  have hs : s.heap.size ≤ hN h := by rw [r1]; exact w4.1
  refine ⟨⟨by rw [z, ← r1]; rfl, fun a ha => ?_⟩, fun a ha => ?_, w3, ⟨Nat.le_trans w4.1 (by omega), fun x h1 h2 => (oq x (Nat.lt_of_lt_of_le h1 w4.1)).trans (w4.2.1 x h1 h2), w4.2.2⟩⟩
  · by_cases e : a = hN h
    · subst e
      exact hE
    · rw [nW_E _ e]
      have e1 : hK (nW h k n) a = hK h a := by simp only [hK, nW]; exact va_up_ne _ _ e
      rw [e1] at ha
      exact (r2 a ha).kept (oq a (r2 a ha).lt)
  · by_cases e : a = hN h
    · subst e
      exact w3 _ hs
    · have e1 : hK (nW h k n) a = hK h a := by simp only [hK, nW]; exact va_up_ne _ _ e
      rw [e1] at ha
      exact w2 a ha
section
variable {M : MI} {d pc : Nat} {L st : List AV} {h : Hp} {b b0 : Nat × Nat} {Q : Rs → Hp → Prop}
theorem go_newZ {n : Int32} (q N : Nat) (hd : decode M.2.1 pc = .ok (.newarray .boolean, 2)) (hq : pc + 2 = q) (hw : Cond.arrayClass FieldType.boolean ∈ lw_all) (hn : ¬ n < 0) (hN1 : n.toNatClampNeg = N) (hsm : N ≤ 65536) (hb : b0 = (b.1 + 1, b.2 + N)) (k : AWP M d q L (vR (some (hN h)) :: st) (nW h 100 N) b Q) : AWP M d pc L (vI n :: st) h b0 Q := by
  subst hq hb
  intro p l e R s m args below meth c D A H locs cells slots ls C Rm1 W1 hl
  have hz := W1.1.1
  have hR1 := Rm1.2.2.1
  have hR2 := Rm1.2.2.2
  dsimp only at hR1 hR2
  refine va_newaK C.1 C.2.1 (atype := .boolean) (C.2.2.2.2.1 _ hw) (g := F0 m pc ls (.int n :: st.map cv)) rfl hd rfl hn hN1 (by simp [componentBytes, newarray.typeOf]; omega) (by omega) (by omega) hz.symm fun H1 cA e1 z1 o1 hAr hNm => ?_
  have hcA : cA = D.2 0 := Option.some.inj (hNm.symm.trans (C.2.2.2.2.2.2.2.2.1.2 0 _ rfl).2)
  subst hcA
  refine k p l e R s m args below meth c D A H1 locs (cells + 1) (slots + N) ls C ⟨Rm1.1, Rm1.2.1, by omega, by omega⟩ (W1.new (by rw [z1, hz]) (fun y hy => o1 y (by rw [hz]; exact hy)) ?_) hl
  rw [toE_i (hK_nW h _ _) (by decide) (by decide)]
  show H1[hN h]? = some (arrV (D.2 0) N (fun j => .int (hAI (nW h 100 N) (hN h) j)))
  rw [e1]
  congr 2
  funext j
  simp only [hAI, nW]
  show _ = Value.int (va_up h.2.2.2.1 (hN h) (fun _ => 0) (hN h) j)
  rw [va_up_self]
  rfl
theorem go_newB {n : Int32} (q N : Nat) (hd : decode M.2.1 pc = .ok (.newarray .byte, 2)) (hq : pc + 2 = q) (hw : Cond.arrayClass FieldType.byte ∈ lw_all) (hn : ¬ n < 0) (hN1 : n.toNatClampNeg = N) (hsm : N ≤ 65536) (hb : b0 = (b.1 + 1, b.2 + N)) (k : AWP M d q L (vR (some (hN h)) :: st) (nW h 101 N) b Q) : AWP M d pc L (vI n :: st) h b0 Q := by
  subst hq hb
  intro p l e R s m args below meth c D A H locs cells slots ls C Rm1 W1 hl
  have hz := W1.1.1
  have hR1 := Rm1.2.2.1
  have hR2 := Rm1.2.2.2
  dsimp only at hR1 hR2
  refine va_newaK C.1 C.2.1 (atype := .byte) (C.2.2.2.2.1 _ hw) (g := F0 m pc ls (.int n :: st.map cv)) rfl hd rfl hn hN1 (by simp [componentBytes, newarray.typeOf]; omega) (by omega) (by omega) hz.symm fun H1 cA e1 z1 o1 hAr hNm => ?_
  have hcA : cA = D.2 1 := Option.some.inj (hNm.symm.trans (C.2.2.2.2.2.2.2.2.1.2 1 _ rfl).2)
  subst hcA
  refine k p l e R s m args below meth c D A H1 locs (cells + 1) (slots + N) ls C ⟨Rm1.1, Rm1.2.1, by omega, by omega⟩ (W1.new (by rw [z1, hz]) (fun y hy => o1 y (by rw [hz]; exact hy)) ?_) hl
  rw [toE_i (hK_nW h _ _) (by decide) (by decide)]
  show H1[hN h]? = some (arrV (D.2 1) N (fun j => .int (hAI (nW h 101 N) (hN h) j)))
  rw [e1]
  congr 2
  funext j
  simp only [hAI, nW]
  show _ = Value.int (va_up h.2.2.2.1 (hN h) (fun _ => 0) (hN h) j)
  rw [va_up_self]
  rfl
theorem go_newS {n : Int32} (q N : Nat) (hd : decode M.2.1 pc = .ok (.newarray .short, 2)) (hq : pc + 2 = q) (hw : Cond.arrayClass FieldType.short ∈ lw_all) (hn : ¬ n < 0) (hN1 : n.toNatClampNeg = N) (hsm : N ≤ 65536) (hb : b0 = (b.1 + 1, b.2 + N)) (k : AWP M d q L (vR (some (hN h)) :: st) (nW h 102 N) b Q) : AWP M d pc L (vI n :: st) h b0 Q := by
  subst hq hb
  intro p l e R s m args below meth c D A H locs cells slots ls C Rm1 W1 hl
  have hz := W1.1.1
  have hR1 := Rm1.2.2.1
  have hR2 := Rm1.2.2.2
  dsimp only at hR1 hR2
  refine va_newaK C.1 C.2.1 (atype := .short) (C.2.2.2.2.1 _ hw) (g := F0 m pc ls (.int n :: st.map cv)) rfl hd rfl hn hN1 (by simp [componentBytes, newarray.typeOf]; omega) (by omega) (by omega) hz.symm fun H1 cA e1 z1 o1 hAr hNm => ?_
  have hcA : cA = D.2 2 := Option.some.inj (hNm.symm.trans (C.2.2.2.2.2.2.2.2.1.2 2 _ rfl).2)
  subst hcA
  refine k p l e R s m args below meth c D A H1 locs (cells + 1) (slots + N) ls C ⟨Rm1.1, Rm1.2.1, by omega, by omega⟩ (W1.new (by rw [z1, hz]) (fun y hy => o1 y (by rw [hz]; exact hy)) ?_) hl
  rw [toE_i (hK_nW h _ _) (by decide) (by decide)]
  show H1[hN h]? = some (arrV (D.2 2) N (fun j => .int (hAI (nW h 102 N) (hN h) j)))
  rw [e1]
  congr 2
  funext j
  simp only [hAI, nW]
  show _ = Value.int (va_up h.2.2.2.1 (hN h) (fun _ => 0) (hN h) j)
  rw [va_up_self]
  rfl
theorem go_newI {n : Int32} (q N : Nat) (hd : decode M.2.1 pc = .ok (.newarray .int, 2)) (hq : pc + 2 = q) (hw : Cond.arrayClass FieldType.int ∈ lw_all) (hn : ¬ n < 0) (hN1 : n.toNatClampNeg = N) (hsm : N ≤ 65536) (hb : b0 = (b.1 + 1, b.2 + N)) (k : AWP M d q L (vR (some (hN h)) :: st) (nW h 103 N) b Q) : AWP M d pc L (vI n :: st) h b0 Q := by
  subst hq hb
  intro p l e R s m args below meth c D A H locs cells slots ls C Rm1 W1 hl
  have hz := W1.1.1
  have hR1 := Rm1.2.2.1
  have hR2 := Rm1.2.2.2
  dsimp only at hR1 hR2
  refine va_newaK C.1 C.2.1 (atype := .int) (C.2.2.2.2.1 _ hw) (g := F0 m pc ls (.int n :: st.map cv)) rfl hd rfl hn hN1 (by simp [componentBytes, newarray.typeOf]; omega) (by omega) (by omega) hz.symm fun H1 cA e1 z1 o1 hAr hNm => ?_
  have hcA : cA = D.2 3 := Option.some.inj (hNm.symm.trans (C.2.2.2.2.2.2.2.2.1.2 3 _ rfl).2)
  subst hcA
  refine k p l e R s m args below meth c D A H1 locs (cells + 1) (slots + N) ls C ⟨Rm1.1, Rm1.2.1, by omega, by omega⟩ (W1.new (by rw [z1, hz]) (fun y hy => o1 y (by rw [hz]; exact hy)) ?_) hl
  rw [toE_i (hK_nW h _ _) (by decide) (by decide)]
  show H1[hN h]? = some (arrV (D.2 3) N (fun j => .int (hAI (nW h 103 N) (hN h) j)))
  rw [e1]
  congr 2
  funext j
  simp only [hAI, nW]
  show _ = Value.int (va_up h.2.2.2.1 (hN h) (fun _ => 0) (hN h) j)
  rw [va_up_self]
  rfl
theorem go_newJ {n : Int32} (q N : Nat) (hd : decode M.2.1 pc = .ok (.newarray .long, 2)) (hq : pc + 2 = q) (hw : Cond.arrayClass FieldType.long ∈ lw_all) (hn : ¬ n < 0) (hN1 : n.toNatClampNeg = N) (hsm : N ≤ 65536) (hb : b0 = (b.1 + 1, b.2 + N)) (k : AWP M d q L (vR (some (hN h)) :: st) (nW h 104 N) b Q) : AWP M d pc L (vI n :: st) h b0 Q := by
  subst hq hb
  intro p l e R s m args below meth c D A H locs cells slots ls C Rm1 W1 hl
  have hz := W1.1.1
  have hR1 := Rm1.2.2.1
  have hR2 := Rm1.2.2.2
  dsimp only at hR1 hR2
  refine va_newaK C.1 C.2.1 (atype := .long) (C.2.2.2.2.1 _ hw) (g := F0 m pc ls (.int n :: st.map cv)) rfl hd rfl hn hN1 (by simp [componentBytes, newarray.typeOf]; omega) (by omega) (by omega) hz.symm fun H1 cA e1 z1 o1 hAr hNm => ?_
  have hcA : cA = D.2 4 := Option.some.inj (hNm.symm.trans (C.2.2.2.2.2.2.2.2.1.2 4 _ rfl).2)
  subst hcA
  refine k p l e R s m args below meth c D A H1 locs (cells + 1) (slots + N) ls C ⟨Rm1.1, Rm1.2.1, by omega, by omega⟩ (W1.new (by rw [z1, hz]) (fun y hy => o1 y (by rw [hz]; exact hy)) ?_) hl
  rw [toE_l (hK_nW h _ _)]
  show H1[hN h]? = some (arrV (D.2 4) N (fun j => .long (hAL (nW h 104 N) (hN h) j)))
  rw [e1]
  congr 2
  funext j
  simp only [hAL, nW]
  show _ = Value.long (va_up h.2.2.2.2.1 (hN h) (fun _ => 0) (hN h) j)
  rw [va_up_self]
  rfl
end
