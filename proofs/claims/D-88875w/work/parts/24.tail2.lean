/-! objects, arrays of references, casts, the entry, calls -/
def cnm (k : Nat) : String := match k with
  | 1 => RX0
  | 2 => RX1
  | 3 => RX2
  | 4 => RX3
  | 5 => RX4
  | 6 => RX5
  | 7 => RX6
  | 8 => RX7
  | 9 => RX8
  | 10 => RX9
  | 11 => RX10
  | 12 => RX11
  | 100 => "[Z"
  | 101 => "[B"
  | 102 => "[S"
  | 103 => "[I"
  | 104 => "[J"
  | 105 => "[LPlatesSing$Part;"
  | 106 => "[LPlatesSing$Shape;"
  | 107 => "[LPlatesSing$Piece;"
  | 108 => "[LPlatesSing$Act;"
  | 109 => "[Ljava/lang/Object;"
  | _ => ""
theorem Rep.obj {D : DG} {h : Hp} {H : Heap} {s : State} (r : Rep D h H) (K : KK D s) {a kd : Nat} {C : String} {T : u_T} {N : Nat} (hk : (hK h a).1 = kd) (hc : CK kd C T N) : ∃ cell : Cell, H[a]? = some cell ∧ cell.vm.isStatics = false ∧ s.vm.findClass C = some cell.cls := by
  obtain ⟨c1, c2, c3, -⟩ := hc
  have hP := r.one (a := a) (by omega)
  rw [toE_obj hk c3] at hP
  exact va_recv (q0 := 0) K.1 hP c1 rfl
theorem arrV_cls (cI : ClassId) (N : Nat) (f : Nat → Value) : (arrV cI N f).cls = cI := rfl
theorem Rep.cell {D : DG} {h : Hp} {H : Heap} {s : State} (r : Rep D h H) (K : KK D s) {a kd : Nat} (hk : (hK h a).1 = kd) (hin : kd ∈ [1, 2, 3, 4, 5, 6, 7, 8, 9, 10, 11, 12, 100, 101, 102, 103, 104, 105, 106, 107, 108, 109]) : ∃ cell : Cell, H[a]? = some cell ∧ cell.vm.isStatics = false ∧ s.vm.findClass (cnm kd) = some cell.cls := by
  have hP := r.one (a := a) (by rintro e; rw [hk] at e; subst e; simp at hin)
  obtain ⟨n, hn⟩ : ∃ n, hK h a = (kd, n) := ⟨(hK h a).2, by rw [← hk]⟩
  simp only [List.mem_cons, List.not_mem_nil, or_false] at hin
  rcases hin with rfl | rfl | rfl | rfl | rfl | rfl | rfl | rfl | rfl | rfl | rfl | rfl | rfl | rfl | rfl | rfl | rfl | rfl | rfl | rfl | rfl | rfl
  · rw [toE_obj hk (by decide)] at hP; exact va_recv (q0 := 0) K.1 hP (ci := 0) (q := (RX0, TX0, _)) rfl rfl
  · rw [toE_obj hk (by decide)] at hP; exact va_recv (q0 := 0) K.1 hP (ci := 1) (q := (RX1, TX1, _)) rfl rfl
  · rw [toE_obj hk (by decide)] at hP; exact va_recv (q0 := 0) K.1 hP (ci := 2) (q := (RX2, TX2, _)) rfl rfl
  · rw [toE_obj hk (by decide)] at hP; exact va_recv (q0 := 0) K.1 hP (ci := 3) (q := (RX3, TX3, _)) rfl rfl
  · rw [toE_obj hk (by decide)] at hP; exact va_recv (q0 := 0) K.1 hP (ci := 4) (q := (RX4, TX4, _)) rfl rfl
  · rw [toE_obj hk (by decide)] at hP; exact va_recv (q0 := 0) K.1 hP (ci := 5) (q := (RX5, TX5, _)) rfl rfl
  · rw [toE_obj hk (by decide)] at hP; exact va_recv (q0 := 0) K.1 hP (ci := 6) (q := (RX6, TX6, _)) rfl rfl
  · rw [toE_obj hk (by decide)] at hP; exact va_recv (q0 := 0) K.1 hP (ci := 7) (q := (RX7, TX7, _)) rfl rfl
  · rw [toE_obj hk (by decide)] at hP; exact va_recv (q0 := 0) K.1 hP (ci := 8) (q := (RX8, TX8, _)) rfl rfl
  · rw [toE_obj hk (by decide)] at hP; exact va_recv (q0 := 0) K.1 hP (ci := 9) (q := (RX9, TX9, _)) rfl rfl
  · rw [toE_obj hk (by decide)] at hP; exact va_recv (q0 := 0) K.1 hP (ci := 10) (q := (RX10, TX10, _)) rfl rfl
  · rw [toE_obj hk (by decide)] at hP; exact va_recv (q0 := 0) K.1 hP (ci := 11) (q := (RX11, TX11, _)) rfl rfl
  · rw [toE_i hn (by decide) (by decide)] at hP; exact ⟨_, hP 0 _ rfl, rfl, (K.1.2 0 _ rfl).2⟩
  · rw [toE_i hn (by decide) (by decide)] at hP; exact ⟨_, hP 0 _ rfl, rfl, (K.1.2 1 _ rfl).2⟩
  · rw [toE_i hn (by decide) (by decide)] at hP; exact ⟨_, hP 0 _ rfl, rfl, (K.1.2 2 _ rfl).2⟩
  · rw [toE_i hn (by decide) (by decide)] at hP; exact ⟨_, hP 0 _ rfl, rfl, (K.1.2 3 _ rfl).2⟩
  · rw [toE_l hn] at hP; exact ⟨_, hP 0 _ rfl, rfl, (K.1.2 4 _ rfl).2⟩
  · rw [toE_r hn (by decide)] at hP; obtain ⟨_, _, -, -, -, e4⟩ := (K.1.2 5 _ rfl).2; exact ⟨_, hP 0 _ rfl, rfl, e4⟩
  · rw [toE_r hn (by decide)] at hP; obtain ⟨_, _, -, -, -, e4⟩ := (K.1.2 6 _ rfl).2; exact ⟨_, hP 0 _ rfl, rfl, e4⟩
  · rw [toE_r hn (by decide)] at hP; obtain ⟨_, _, -, -, -, e4⟩ := (K.1.2 7 _ rfl).2; exact ⟨_, hP 0 _ rfl, rfl, e4⟩
  · rw [toE_r hn (by decide)] at hP; obtain ⟨_, _, -, -, -, e4⟩ := (K.1.2 8 _ rfl).2; exact ⟨_, hP 0 _ rfl, rfl, e4⟩
  · rw [toE_r hn (by decide)] at hP; obtain ⟨_, _, -, -, -, e4⟩ := (K.1.2 9 _ rfl).2; exact ⟨_, hP 0 _ rfl, rfl, e4⟩
theorem KK.cast {D : DG} {s : State} (k : KK D s) {C T : String} (hw : Cond.castable C T ∈ lw_tbl) : va_Nw (.castable C T) s := by
  obtain ⟨-, s0, a0, h1, h2, -⟩ := k
  exact va_Nw.warmC h1 (va_Nw.of rfl (h2 _ hw))
theorem KK.over {D : DG} {s : State} (k : KK D s) {C : String} (hw : Cond.arrayOver (.object C) ∈ lw_tbl) : va_AO C s := by
  obtain ⟨-, s0, a0, h1, h2, -⟩ := k
  exact va_AO.moved h1.alike (va_AO.of (h2 _ hw))
/-- what the Statement's premises say of a pair of classes -/
def NoCast (C T : String) : Prop := ∀ (args : Array Value) (s : State), (Jvm.Cond.and given_1 narrow_1).before args s = true → (Cond.not (.castable C T)).before args s = true
theorem KK.no {D : DG} {s : State} (k : KK D s) {C T : String} (hw : NoCast C T) : va_Nc C T s := by
  obtain ⟨-, s0, a0, h1, h2, h3⟩ := k
  exact va_Nc.moved h1.alike (va_Nc.of (hw _ _ h3))
section
variable {M : MI} {d pc : Nat} {L st : List AV} {h : Hp} {b b0 : Nat × Nat} {Q : Rs → Hp → Prop}
theorem go_new {idx kd N n : Nat} {C0 : String} {T : u_T} (q : Nat) (hd : decode M.2.1 pc = .ok (.new idx, 3)) (hq : pc + 3 = q) (hc : CK kd C0 T N) (hw1 : Cond.classLink M.1.cls idx C0 ∈ lw_all) (hw2 : Cond.instantiable C0 n ∈ lw_all) (hw3 : Cond.initialized C0 ∈ lw_all) (hb : b0 = (b.1 + 1, b.2 + n)) (k : AWP M d q L (vR (some (hN h)) :: st) (nW h kd 0) b Q) : AWP M d pc L st h b0 Q := by
  subst hq hb
  intro p l e R s m args below meth c D A H locs cells slots ls C Rm1 W1 hl
  have hz := W1.1.1
  have hR1 := Rm1.2.2.1
  have hR2 := Rm1.2.2.2
  dsimp only at hR1 hR2
  obtain ⟨c1, c2, c3, c4, ⟨ty0, c5, c9⟩, c6, c7, c8⟩ := hc
  have hKn := C.2.2.2.2.2.2.2.2.1.1 _ _ c1
  refine W.newcK C.1 C.2.1 C.2.2.2.1 (C.2.2.2.2.1 _ hw1) (C.2.2.2.2.1 _ hw2) (C.2.2.2.2.1 _ hw3) (g := F0 m pc ls (st.map cv)) rfl hd (by omega) (by omega) hKn.2.1 hz.symm fun H1 kC hkC e1 z1 o1 => ?_
  refine k p l e R s m args below meth c D A H1 locs (cells + 1) (slots + n) ls C ⟨Rm1.1, Rm1.2.1, by omega, by omega⟩ (W1.new (by rw [z1, hz]) (fun y hy => o1 y (by rw [hz]; exact hy)) ?_) hl
  rw [toE_obj (kd := kd) (by rw [hK_nW]) c3]
  refine ⟨_, c1, (u_born ty0 (C.2.2.2.2.1) c4 hKn hkC e1 c5).to fun j hj => ?_⟩
  have hjl : j < (fidS (kd - 1)).length := by rw [c7]; exact hj
  have hf : (fidS (kd - 1))[j]? = some (fidS (kd - 1))[j] := List.getElem?_eq_getElem hjl
  rw [c9 j _ hf]
  have e2 : vp_V ((fidS (kd - 1)).map (fv (nW h kd 0) (hN h))) j = fv (nW h kd 0) (hN h) (fidS (kd - 1))[j] := by
    unfold vp_V
    rw [List.getD_eq_getElem?_getD, List.getElem?_map, hf]
    rfl
  rw [e2]
  simp only [fv, hFI, hFR, nW, hN]
  simp only [if_true]
  rfl
theorem go_anewPart {idx : Nat} {n : Int32} (q N : Nat) (hd : decode M.2.1 pc = .ok (.anewarray idx, 3)) (hq : pc + 3 = q) (hw1 : Cond.classLink M.1.cls idx "PlatesSing$Part" ∈ lw_all) (hw2 : Cond.arrayOver (.object "PlatesSing$Part") ∈ lw_tbl) (hn : ¬ n < 0) (hN1 : n.toNatClampNeg = N) (hsm : N ≤ 65536) (hb : b0 = (b.1 + 1, b.2 + N)) (k : AWP M d q L (vR (some (hN h)) :: st) (nW h 105 N) b Q) : AWP M d pc L (vI n :: st) h b0 Q := by
  subst hq hb hN1
  intro p l e R s m args below meth c D A H locs cells slots ls C Rm1 W1 hl
  have hz := W1.1.1
  have hR1 := Rm1.2.2.1
  have hR2 := Rm1.2.2.2
  dsimp only at hR1 hR2
  refine W.anew C.1 C.2.1 C.2.2.2.1 (C.2.2.2.2.1 _ hw1) ((C.2.2.2.2.2.2.2.2.over hw2)) (g := F0 m pc ls (.int n :: st.map cv)) rfl hd rfl hn (by omega) (by omega) (by omega) fun cA kA comp h1 h2 h3 h4 => ?_
  have hcA : cA = D.2 5 := by
    obtain ⟨_, _, -, -, -, e4⟩ := (C.2.2.2.2.2.2.2.2.1.2 5 _ rfl).2
    exact Option.some.inj (h1.symm.trans e4)
  subst hcA
  rw [← hz]
  refine k p l e R s m args below meth c D A _ locs (cells + 1) (slots + n.toNatClampNeg) ls C ⟨Rm1.1, Rm1.2.1, by omega, by omega⟩ (W1.new (by simp) (fun y hy => by rw [Array.getElem?_push, if_neg (Nat.ne_of_lt hy)]) ?_) hl
  rw [toE_r (hK_nW h _ _) (by decide)]
  show (Array.push H _)[hN h]? = some (arrV (D.2 5) n.toNatClampNeg (fun j => va_rf (hAR (nW h 105 n.toNatClampNeg) (hN h) j)))
  have e5 : (fun j => va_rf (hAR (nW h 105 n.toNatClampNeg) (hN h) j)) = fun _ => Value.null := by
    funext j
    simp only [hAR, nW]
    show va_rf (va_up h.2.2.2.2.2.1 (hN h) (fun _ => none) (hN h) j) = _
    rw [va_up_self]
    rfl
  rw [e5, hz, ← arrV_new]
  simp
theorem go_aastorePart {a n v kd : Nat} {i : Int32} (q : Nat) (hd : decode M.2.1 pc = .ok (.aastore, 1)) (hq : pc + 1 = q) (hk : hK h a = (105, n)) (hi : vp_in i n) (hv : (hK h v).1 = kd) (hin : kd ∈ [1, 2, 3, 4, 5, 6, 7, 8, 9, 10, 11, 12, 100, 101, 102, 103, 104, 105, 106, 107, 108, 109]) (hcs : cnm kd = "PlatesSing$Part" ∨ Cond.castable (cnm kd) "PlatesSing$Part" ∈ lw_tbl) (k : AWP M d q L st (sAR h a (va_up (hAR h a) i.toNatClampNeg (some v))) b Q) : AWP M d pc L (vR (some v) :: vI i :: vR (some a) :: st) h b Q := by
  subst hq
  intro p l e R s m args below meth c D A H locs cells slots ls C Rm1 W1 hl
  have hne : (hK h a).1 ≠ 0 := by rw [hk]; simp
  have hat := W1.1.2 a hne
  rw [toE_r hk (by decide)] at hat
  have hc : H[a]? = some (arrV (D.2 5) n (fun j => va_rf (hAR h a j))) := hat
  have hlt : i.toNatClampNeg < n := Nat.not_le.mp fun z => hi (Or.inr z)
  have h0 : ¬ i < 0 := fun z => hi (Or.inl z)
  have KK1 := C.2.2.2.2.2.2.2.2
  obtain ⟨cellV, g1, g2, g3⟩ := W1.1.cell KK1 hv hin
  obtain ⟨kA, comp, k1, k2, k3, -⟩ := (KK1.1.2 5 _ rfl).2
  obtain ⟨kE, hkE, -⟩ := Vm.findClass_spec k3
  obtain ⟨kV, hkV, -⟩ := Vm.findClass_spec g3
  have hasg : s.vm.assignable cellV.cls comp = true := by
    rcases hcs with e1 | w
    · rw [e1] at g3
      cases k3.symm.trans g3
      exact va_asg _ _
    · obtain ⟨c0, t1, f1, f2, f3⟩ := Cond.castable_spec (va_Nw.use (A := args) rfl (KK1.cast w))
      cases g3.symm.trans f1
      cases k3.symm.trans f2
      exact f3
  refine W.aast C.1 C.2.1 hc (fun z y => by cases y) (fun y => by cases y) k1 k2 rfl hkE ⟨h0, by rw [arrV_size]; exact hlt⟩ g1 (fun z y => by rw [y] at g2; cases g2) hkV hasg (g := F0 m pc ls (.ref v :: .int i :: .ref a :: st.map cv)) rfl rfl hd fun H1 e0 z oq => ?_
  have hrep : Rep D (sAR h a (va_up (hAR h a) i.toNatClampNeg (some v))) H1 := by
    refine W1.1.write z oq rfl rfl (fun y hy => sAR_E _ hy) ?_
    rw [toE_r (h := sAR h a _) (n := n) (t := 105) hk (by decide)]
    show H1[a]? = some (arrV (D.2 5) n (fun j => va_rf (hAR (sAR h a (va_up (hAR h a) i.toNatClampNeg (some v))) a j)))
    rw [e0, arrV_store, hAR_sAR]
    congr 2
    funext y
    by_cases hy : y = i.toNatClampNeg
    · subst hy
      simp [updV, va_up, va_rf]
    · simp [updV, va_up, hy]
  exact k p l e R s m args below meth c D A H1 _ cells slots ls C Rm1 (W1.write hne z oq rfl hrep) hl
theorem go_aastoreNPart {a n : Nat} {i : Int32} (q : Nat) (hd : decode M.2.1 pc = .ok (.aastore, 1)) (hq : pc + 1 = q) (hk : hK h a = (105, n)) (hi : vp_in i n) (k : AWP M d q L st (sAR h a (va_up (hAR h a) i.toNatClampNeg none)) b Q) : AWP M d pc L (vR none :: vI i :: vR (some a) :: st) h b Q := by
  subst hq
  intro p l e R s m args below meth c D A H locs cells slots ls C Rm1 W1 hl
  have hne : (hK h a).1 ≠ 0 := by rw [hk]; simp
  have hat := W1.1.2 a hne
  rw [toE_r hk (by decide)] at hat
  have hc : H[a]? = some (arrV (D.2 5) n (fun j => va_rf (hAR h a j))) := hat
  have KK1 := C.2.2.2.2.2.2.2.2
  refine va_WaastN (C := "PlatesSing$Part") C.1 C.2.1 hc ((KK1.1.2 5 _ rfl).1 n (fun j => va_rf (hAR h a j))) (fun y => by cases y) (by rw [arrV_size]; exact hi) (g := F0 m pc ls (.null :: .int i :: .ref a :: st.map cv)) rfl rfl hd fun H1 e0 z oq => ?_
  have hrep : Rep D (sAR h a (va_up (hAR h a) i.toNatClampNeg none)) H1 := by
    refine W1.1.write z oq rfl rfl (fun y hy => sAR_E _ hy) ?_
    rw [toE_r (h := sAR h a _) (n := n) (t := 105) hk (by decide)]
    show H1[a]? = some (arrV (D.2 5) n (fun j => va_rf (hAR (sAR h a (va_up (hAR h a) i.toNatClampNeg none)) a j)))
    rw [e0, arrV_store, hAR_sAR]
    congr 2
    funext y
    by_cases hy : y = i.toNatClampNeg
    · subst hy
      simp [updV, va_up, va_rf]
    · simp [updV, va_up, hy]
  exact k p l e R s m args below meth c D A H1 _ cells slots ls C Rm1 (W1.write hne z oq rfl hrep) hl
theorem go_anewShape {idx : Nat} {n : Int32} (q N : Nat) (hd : decode M.2.1 pc = .ok (.anewarray idx, 3)) (hq : pc + 3 = q) (hw1 : Cond.classLink M.1.cls idx "PlatesSing$Shape" ∈ lw_all) (hw2 : Cond.arrayOver (.object "PlatesSing$Shape") ∈ lw_tbl) (hn : ¬ n < 0) (hN1 : n.toNatClampNeg = N) (hsm : N ≤ 65536) (hb : b0 = (b.1 + 1, b.2 + N)) (k : AWP M d q L (vR (some (hN h)) :: st) (nW h 106 N) b Q) : AWP M d pc L (vI n :: st) h b0 Q := by
  subst hq hb hN1
  intro p l e R s m args below meth c D A H locs cells slots ls C Rm1 W1 hl
  have hz := W1.1.1
  have hR1 := Rm1.2.2.1
  have hR2 := Rm1.2.2.2
  dsimp only at hR1 hR2
  refine W.anew C.1 C.2.1 C.2.2.2.1 (C.2.2.2.2.1 _ hw1) ((C.2.2.2.2.2.2.2.2.over hw2)) (g := F0 m pc ls (.int n :: st.map cv)) rfl hd rfl hn (by omega) (by omega) (by omega) fun cA kA comp h1 h2 h3 h4 => ?_
  have hcA : cA = D.2 6 := by
    obtain ⟨_, _, -, -, -, e4⟩ := (C.2.2.2.2.2.2.2.2.1.2 6 _ rfl).2
    exact Option.some.inj (h1.symm.trans e4)
  subst hcA
  rw [← hz]
  refine k p l e R s m args below meth c D A _ locs (cells + 1) (slots + n.toNatClampNeg) ls C ⟨Rm1.1, Rm1.2.1, by omega, by omega⟩ (W1.new (by simp) (fun y hy => by rw [Array.getElem?_push, if_neg (Nat.ne_of_lt hy)]) ?_) hl
  rw [toE_r (hK_nW h _ _) (by decide)]
  show (Array.push H _)[hN h]? = some (arrV (D.2 6) n.toNatClampNeg (fun j => va_rf (hAR (nW h 106 n.toNatClampNeg) (hN h) j)))
  have e5 : (fun j => va_rf (hAR (nW h 106 n.toNatClampNeg) (hN h) j)) = fun _ => Value.null := by
    funext j
    simp only [hAR, nW]
    show va_rf (va_up h.2.2.2.2.2.1 (hN h) (fun _ => none) (hN h) j) = _
    rw [va_up_self]
    rfl
  rw [e5, hz, ← arrV_new]
  simp
theorem go_aastoreShape {a n v kd : Nat} {i : Int32} (q : Nat) (hd : decode M.2.1 pc = .ok (.aastore, 1)) (hq : pc + 1 = q) (hk : hK h a = (106, n)) (hi : vp_in i n) (hv : (hK h v).1 = kd) (hin : kd ∈ [1, 2, 3, 4, 5, 6, 7, 8, 9, 10, 11, 12, 100, 101, 102, 103, 104, 105, 106, 107, 108, 109]) (hcs : cnm kd = "PlatesSing$Shape" ∨ Cond.castable (cnm kd) "PlatesSing$Shape" ∈ lw_tbl) (k : AWP M d q L st (sAR h a (va_up (hAR h a) i.toNatClampNeg (some v))) b Q) : AWP M d pc L (vR (some v) :: vI i :: vR (some a) :: st) h b Q := by
  subst hq
  intro p l e R s m args below meth c D A H locs cells slots ls C Rm1 W1 hl
  have hne : (hK h a).1 ≠ 0 := by rw [hk]; simp
  have hat := W1.1.2 a hne
  rw [toE_r hk (by decide)] at hat
  have hc : H[a]? = some (arrV (D.2 6) n (fun j => va_rf (hAR h a j))) := hat
  have hlt : i.toNatClampNeg < n := Nat.not_le.mp fun z => hi (Or.inr z)
  have h0 : ¬ i < 0 := fun z => hi (Or.inl z)
  have KK1 := C.2.2.2.2.2.2.2.2
  obtain ⟨cellV, g1, g2, g3⟩ := W1.1.cell KK1 hv hin
  obtain ⟨kA, comp, k1, k2, k3, -⟩ := (KK1.1.2 6 _ rfl).2
  obtain ⟨kE, hkE, -⟩ := Vm.findClass_spec k3
  obtain ⟨kV, hkV, -⟩ := Vm.findClass_spec g3
  have hasg : s.vm.assignable cellV.cls comp = true := by
    rcases hcs with e1 | w
    · rw [e1] at g3
      cases k3.symm.trans g3
      exact va_asg _ _
    · obtain ⟨c0, t1, f1, f2, f3⟩ := Cond.castable_spec (va_Nw.use (A := args) rfl (KK1.cast w))
      cases g3.symm.trans f1
      cases k3.symm.trans f2
      exact f3
  refine W.aast C.1 C.2.1 hc (fun z y => by cases y) (fun y => by cases y) k1 k2 rfl hkE ⟨h0, by rw [arrV_size]; exact hlt⟩ g1 (fun z y => by rw [y] at g2; cases g2) hkV hasg (g := F0 m pc ls (.ref v :: .int i :: .ref a :: st.map cv)) rfl rfl hd fun H1 e0 z oq => ?_
  have hrep : Rep D (sAR h a (va_up (hAR h a) i.toNatClampNeg (some v))) H1 := by
    refine W1.1.write z oq rfl rfl (fun y hy => sAR_E _ hy) ?_
    rw [toE_r (h := sAR h a _) (n := n) (t := 106) hk (by decide)]
    show H1[a]? = some (arrV (D.2 6) n (fun j => va_rf (hAR (sAR h a (va_up (hAR h a) i.toNatClampNeg (some v))) a j)))
    rw [e0, arrV_store, hAR_sAR]
    congr 2
    funext y
    by_cases hy : y = i.toNatClampNeg
    · subst hy
      simp [updV, va_up, va_rf]
    · simp [updV, va_up, hy]
  exact k p l e R s m args below meth c D A H1 _ cells slots ls C Rm1 (W1.write hne z oq rfl hrep) hl
theorem go_aastoreNShape {a n : Nat} {i : Int32} (q : Nat) (hd : decode M.2.1 pc = .ok (.aastore, 1)) (hq : pc + 1 = q) (hk : hK h a = (106, n)) (hi : vp_in i n) (k : AWP M d q L st (sAR h a (va_up (hAR h a) i.toNatClampNeg none)) b Q) : AWP M d pc L (vR none :: vI i :: vR (some a) :: st) h b Q := by
  subst hq
  intro p l e R s m args below meth c D A H locs cells slots ls C Rm1 W1 hl
  have hne : (hK h a).1 ≠ 0 := by rw [hk]; simp
  have hat := W1.1.2 a hne
  rw [toE_r hk (by decide)] at hat
  have hc : H[a]? = some (arrV (D.2 6) n (fun j => va_rf (hAR h a j))) := hat
  have KK1 := C.2.2.2.2.2.2.2.2
  refine va_WaastN (C := "PlatesSing$Shape") C.1 C.2.1 hc ((KK1.1.2 6 _ rfl).1 n (fun j => va_rf (hAR h a j))) (fun y => by cases y) (by rw [arrV_size]; exact hi) (g := F0 m pc ls (.null :: .int i :: .ref a :: st.map cv)) rfl rfl hd fun H1 e0 z oq => ?_
  have hrep : Rep D (sAR h a (va_up (hAR h a) i.toNatClampNeg none)) H1 := by
    refine W1.1.write z oq rfl rfl (fun y hy => sAR_E _ hy) ?_
    rw [toE_r (h := sAR h a _) (n := n) (t := 106) hk (by decide)]
    show H1[a]? = some (arrV (D.2 6) n (fun j => va_rf (hAR (sAR h a (va_up (hAR h a) i.toNatClampNeg none)) a j)))
    rw [e0, arrV_store, hAR_sAR]
    congr 2
    funext y
    by_cases hy : y = i.toNatClampNeg
    · subst hy
      simp [updV, va_up, va_rf]
    · simp [updV, va_up, hy]
  exact k p l e R s m args below meth c D A H1 _ cells slots ls C Rm1 (W1.write hne z oq rfl hrep) hl
theorem go_anewPiece {idx : Nat} {n : Int32} (q N : Nat) (hd : decode M.2.1 pc = .ok (.anewarray idx, 3)) (hq : pc + 3 = q) (hw1 : Cond.classLink M.1.cls idx "PlatesSing$Piece" ∈ lw_all) (hw2 : Cond.arrayOver (.object "PlatesSing$Piece") ∈ lw_tbl) (hn : ¬ n < 0) (hN1 : n.toNatClampNeg = N) (hsm : N ≤ 65536) (hb : b0 = (b.1 + 1, b.2 + N)) (k : AWP M d q L (vR (some (hN h)) :: st) (nW h 107 N) b Q) : AWP M d pc L (vI n :: st) h b0 Q := by
  subst hq hb hN1
  intro p l e R s m args below meth c D A H locs cells slots ls C Rm1 W1 hl
  have hz := W1.1.1
  have hR1 := Rm1.2.2.1
  have hR2 := Rm1.2.2.2
  dsimp only at hR1 hR2
  refine W.anew C.1 C.2.1 C.2.2.2.1 (C.2.2.2.2.1 _ hw1) ((C.2.2.2.2.2.2.2.2.over hw2)) (g := F0 m pc ls (.int n :: st.map cv)) rfl hd rfl hn (by omega) (by omega) (by omega) fun cA kA comp h1 h2 h3 h4 => ?_
  have hcA : cA = D.2 7 := by
    obtain ⟨_, _, -, -, -, e4⟩ := (C.2.2.2.2.2.2.2.2.1.2 7 _ rfl).2
    exact Option.some.inj (h1.symm.trans e4)
  subst hcA
  rw [← hz]
  refine k p l e R s m args below meth c D A _ locs (cells + 1) (slots + n.toNatClampNeg) ls C ⟨Rm1.1, Rm1.2.1, by omega, by omega⟩ (W1.new (by simp) (fun y hy => by rw [Array.getElem?_push, if_neg (Nat.ne_of_lt hy)]) ?_) hl
  rw [toE_r (hK_nW h _ _) (by decide)]
  show (Array.push H _)[hN h]? = some (arrV (D.2 7) n.toNatClampNeg (fun j => va_rf (hAR (nW h 107 n.toNatClampNeg) (hN h) j)))
  have e5 : (fun j => va_rf (hAR (nW h 107 n.toNatClampNeg) (hN h) j)) = fun _ => Value.null := by
    funext j
    simp only [hAR, nW]
    show va_rf (va_up h.2.2.2.2.2.1 (hN h) (fun _ => none) (hN h) j) = _
    rw [va_up_self]
    rfl
  rw [e5, hz, ← arrV_new]
  simp
theorem go_aastorePiece {a n v kd : Nat} {i : Int32} (q : Nat) (hd : decode M.2.1 pc = .ok (.aastore, 1)) (hq : pc + 1 = q) (hk : hK h a = (107, n)) (hi : vp_in i n) (hv : (hK h v).1 = kd) (hin : kd ∈ [1, 2, 3, 4, 5, 6, 7, 8, 9, 10, 11, 12, 100, 101, 102, 103, 104, 105, 106, 107, 108, 109]) (hcs : cnm kd = "PlatesSing$Piece" ∨ Cond.castable (cnm kd) "PlatesSing$Piece" ∈ lw_tbl) (k : AWP M d q L st (sAR h a (va_up (hAR h a) i.toNatClampNeg (some v))) b Q) : AWP M d pc L (vR (some v) :: vI i :: vR (some a) :: st) h b Q := by
  subst hq
  intro p l e R s m args below meth c D A H locs cells slots ls C Rm1 W1 hl
  have hne : (hK h a).1 ≠ 0 := by rw [hk]; simp
  have hat := W1.1.2 a hne
  rw [toE_r hk (by decide)] at hat
  have hc : H[a]? = some (arrV (D.2 7) n (fun j => va_rf (hAR h a j))) := hat
  have hlt : i.toNatClampNeg < n := Nat.not_le.mp fun z => hi (Or.inr z)
  have h0 : ¬ i < 0 := fun z => hi (Or.inl z)
  have KK1 := C.2.2.2.2.2.2.2.2
  obtain ⟨cellV, g1, g2, g3⟩ := W1.1.cell KK1 hv hin
  obtain ⟨kA, comp, k1, k2, k3, -⟩ := (KK1.1.2 7 _ rfl).2
  obtain ⟨kE, hkE, -⟩ := Vm.findClass_spec k3
  obtain ⟨kV, hkV, -⟩ := Vm.findClass_spec g3
  have hasg : s.vm.assignable cellV.cls comp = true := by
    rcases hcs with e1 | w
    · rw [e1] at g3
      cases k3.symm.trans g3
      exact va_asg _ _
    · obtain ⟨c0, t1, f1, f2, f3⟩ := Cond.castable_spec (va_Nw.use (A := args) rfl (KK1.cast w))
      cases g3.symm.trans f1
      cases k3.symm.trans f2
      exact f3
  refine W.aast C.1 C.2.1 hc (fun z y => by cases y) (fun y => by cases y) k1 k2 rfl hkE ⟨h0, by rw [arrV_size]; exact hlt⟩ g1 (fun z y => by rw [y] at g2; cases g2) hkV hasg (g := F0 m pc ls (.ref v :: .int i :: .ref a :: st.map cv)) rfl rfl hd fun H1 e0 z oq => ?_
  have hrep : Rep D (sAR h a (va_up (hAR h a) i.toNatClampNeg (some v))) H1 := by
    refine W1.1.write z oq rfl rfl (fun y hy => sAR_E _ hy) ?_
    rw [toE_r (h := sAR h a _) (n := n) (t := 107) hk (by decide)]
    show H1[a]? = some (arrV (D.2 7) n (fun j => va_rf (hAR (sAR h a (va_up (hAR h a) i.toNatClampNeg (some v))) a j)))
    rw [e0, arrV_store, hAR_sAR]
    congr 2
    funext y
    by_cases hy : y = i.toNatClampNeg
    · subst hy
      simp [updV, va_up, va_rf]
    · simp [updV, va_up, hy]
  exact k p l e R s m args below meth c D A H1 _ cells slots ls C Rm1 (W1.write hne z oq rfl hrep) hl
theorem go_aastoreNPiece {a n : Nat} {i : Int32} (q : Nat) (hd : decode M.2.1 pc = .ok (.aastore, 1)) (hq : pc + 1 = q) (hk : hK h a = (107, n)) (hi : vp_in i n) (k : AWP M d q L st (sAR h a (va_up (hAR h a) i.toNatClampNeg none)) b Q) : AWP M d pc L (vR none :: vI i :: vR (some a) :: st) h b Q := by
  subst hq
  intro p l e R s m args below meth c D A H locs cells slots ls C Rm1 W1 hl
  have hne : (hK h a).1 ≠ 0 := by rw [hk]; simp
  have hat := W1.1.2 a hne
  rw [toE_r hk (by decide)] at hat
  have hc : H[a]? = some (arrV (D.2 7) n (fun j => va_rf (hAR h a j))) := hat
  have KK1 := C.2.2.2.2.2.2.2.2
  refine va_WaastN (C := "PlatesSing$Piece") C.1 C.2.1 hc ((KK1.1.2 7 _ rfl).1 n (fun j => va_rf (hAR h a j))) (fun y => by cases y) (by rw [arrV_size]; exact hi) (g := F0 m pc ls (.null :: .int i :: .ref a :: st.map cv)) rfl rfl hd fun H1 e0 z oq => ?_
  have hrep : Rep D (sAR h a (va_up (hAR h a) i.toNatClampNeg none)) H1 := by
    refine W1.1.write z oq rfl rfl (fun y hy => sAR_E _ hy) ?_
    rw [toE_r (h := sAR h a _) (n := n) (t := 107) hk (by decide)]
    show H1[a]? = some (arrV (D.2 7) n (fun j => va_rf (hAR (sAR h a (va_up (hAR h a) i.toNatClampNeg none)) a j)))
    rw [e0, arrV_store, hAR_sAR]
    congr 2
    funext y
    by_cases hy : y = i.toNatClampNeg
    · subst hy
      simp [updV, va_up, va_rf]
    · simp [updV, va_up, hy]
  exact k p l e R s m args below meth c D A H1 _ cells slots ls C Rm1 (W1.write hne z oq rfl hrep) hl
theorem go_anewAct {idx : Nat} {n : Int32} (q N : Nat) (hd : decode M.2.1 pc = .ok (.anewarray idx, 3)) (hq : pc + 3 = q) (hw1 : Cond.classLink M.1.cls idx "PlatesSing$Act" ∈ lw_all) (hw2 : Cond.arrayOver (.object "PlatesSing$Act") ∈ lw_tbl) (hn : ¬ n < 0) (hN1 : n.toNatClampNeg = N) (hsm : N ≤ 65536) (hb : b0 = (b.1 + 1, b.2 + N)) (k : AWP M d q L (vR (some (hN h)) :: st) (nW h 108 N) b Q) : AWP M d pc L (vI n :: st) h b0 Q := by
  subst hq hb hN1
  intro p l e R s m args below meth c D A H locs cells slots ls C Rm1 W1 hl
  have hz := W1.1.1
  have hR1 := Rm1.2.2.1
  have hR2 := Rm1.2.2.2
  dsimp only at hR1 hR2
  refine W.anew C.1 C.2.1 C.2.2.2.1 (C.2.2.2.2.1 _ hw1) ((C.2.2.2.2.2.2.2.2.over hw2)) (g := F0 m pc ls (.int n :: st.map cv)) rfl hd rfl hn (by omega) (by omega) (by omega) fun cA kA comp h1 h2 h3 h4 => ?_
  have hcA : cA = D.2 8 := by
    obtain ⟨_, _, -, -, -, e4⟩ := (C.2.2.2.2.2.2.2.2.1.2 8 _ rfl).2
    exact Option.some.inj (h1.symm.trans e4)
  subst hcA
  rw [← hz]
  refine k p l e R s m args below meth c D A _ locs (cells + 1) (slots + n.toNatClampNeg) ls C ⟨Rm1.1, Rm1.2.1, by omega, by omega⟩ (W1.new (by simp) (fun y hy => by rw [Array.getElem?_push, if_neg (Nat.ne_of_lt hy)]) ?_) hl
  rw [toE_r (hK_nW h _ _) (by decide)]
  show (Array.push H _)[hN h]? = some (arrV (D.2 8) n.toNatClampNeg (fun j => va_rf (hAR (nW h 108 n.toNatClampNeg) (hN h) j)))
  have e5 : (fun j => va_rf (hAR (nW h 108 n.toNatClampNeg) (hN h) j)) = fun _ => Value.null := by
    funext j
    simp only [hAR, nW]
    show va_rf (va_up h.2.2.2.2.2.1 (hN h) (fun _ => none) (hN h) j) = _
    rw [va_up_self]
    rfl
  rw [e5, hz, ← arrV_new]
  simp
theorem go_aastoreAct {a n v kd : Nat} {i : Int32} (q : Nat) (hd : decode M.2.1 pc = .ok (.aastore, 1)) (hq : pc + 1 = q) (hk : hK h a = (108, n)) (hi : vp_in i n) (hv : (hK h v).1 = kd) (hin : kd ∈ [1, 2, 3, 4, 5, 6, 7, 8, 9, 10, 11, 12, 100, 101, 102, 103, 104, 105, 106, 107, 108, 109]) (hcs : cnm kd = "PlatesSing$Act" ∨ Cond.castable (cnm kd) "PlatesSing$Act" ∈ lw_tbl) (k : AWP M d q L st (sAR h a (va_up (hAR h a) i.toNatClampNeg (some v))) b Q) : AWP M d pc L (vR (some v) :: vI i :: vR (some a) :: st) h b Q := by
  subst hq
  intro p l e R s m args below meth c D A H locs cells slots ls C Rm1 W1 hl
  have hne : (hK h a).1 ≠ 0 := by rw [hk]; simp
  have hat := W1.1.2 a hne
  rw [toE_r hk (by decide)] at hat
  have hc : H[a]? = some (arrV (D.2 8) n (fun j => va_rf (hAR h a j))) := hat
  have hlt : i.toNatClampNeg < n := Nat.not_le.mp fun z => hi (Or.inr z)
  have h0 : ¬ i < 0 := fun z => hi (Or.inl z)
  have KK1 := C.2.2.2.2.2.2.2.2
  obtain ⟨cellV, g1, g2, g3⟩ := W1.1.cell KK1 hv hin
  obtain ⟨kA, comp, k1, k2, k3, -⟩ := (KK1.1.2 8 _ rfl).2
  obtain ⟨kE, hkE, -⟩ := Vm.findClass_spec k3
  obtain ⟨kV, hkV, -⟩ := Vm.findClass_spec g3
  have hasg : s.vm.assignable cellV.cls comp = true := by
    rcases hcs with e1 | w
    · rw [e1] at g3
      cases k3.symm.trans g3
      exact va_asg _ _
    · obtain ⟨c0, t1, f1, f2, f3⟩ := Cond.castable_spec (va_Nw.use (A := args) rfl (KK1.cast w))
      cases g3.symm.trans f1
      cases k3.symm.trans f2
      exact f3
  refine W.aast C.1 C.2.1 hc (fun z y => by cases y) (fun y => by cases y) k1 k2 rfl hkE ⟨h0, by rw [arrV_size]; exact hlt⟩ g1 (fun z y => by rw [y] at g2; cases g2) hkV hasg (g := F0 m pc ls (.ref v :: .int i :: .ref a :: st.map cv)) rfl rfl hd fun H1 e0 z oq => ?_
  have hrep : Rep D (sAR h a (va_up (hAR h a) i.toNatClampNeg (some v))) H1 := by
    refine W1.1.write z oq rfl rfl (fun y hy => sAR_E _ hy) ?_
    rw [toE_r (h := sAR h a _) (n := n) (t := 108) hk (by decide)]
    show H1[a]? = some (arrV (D.2 8) n (fun j => va_rf (hAR (sAR h a (va_up (hAR h a) i.toNatClampNeg (some v))) a j)))
    rw [e0, arrV_store, hAR_sAR]
    congr 2
    funext y
    by_cases hy : y = i.toNatClampNeg
    · subst hy
      simp [updV, va_up, va_rf]
    · simp [updV, va_up, hy]
  exact k p l e R s m args below meth c D A H1 _ cells slots ls C Rm1 (W1.write hne z oq rfl hrep) hl
theorem go_aastoreNAct {a n : Nat} {i : Int32} (q : Nat) (hd : decode M.2.1 pc = .ok (.aastore, 1)) (hq : pc + 1 = q) (hk : hK h a = (108, n)) (hi : vp_in i n) (k : AWP M d q L st (sAR h a (va_up (hAR h a) i.toNatClampNeg none)) b Q) : AWP M d pc L (vR none :: vI i :: vR (some a) :: st) h b Q := by
  subst hq
  intro p l e R s m args below meth c D A H locs cells slots ls C Rm1 W1 hl
  have hne : (hK h a).1 ≠ 0 := by rw [hk]; simp
  have hat := W1.1.2 a hne
  rw [toE_r hk (by decide)] at hat
  have hc : H[a]? = some (arrV (D.2 8) n (fun j => va_rf (hAR h a j))) := hat
  have KK1 := C.2.2.2.2.2.2.2.2
  refine va_WaastN (C := "PlatesSing$Act") C.1 C.2.1 hc ((KK1.1.2 8 _ rfl).1 n (fun j => va_rf (hAR h a j))) (fun y => by cases y) (by rw [arrV_size]; exact hi) (g := F0 m pc ls (.null :: .int i :: .ref a :: st.map cv)) rfl rfl hd fun H1 e0 z oq => ?_
  have hrep : Rep D (sAR h a (va_up (hAR h a) i.toNatClampNeg none)) H1 := by
    refine W1.1.write z oq rfl rfl (fun y hy => sAR_E _ hy) ?_
    rw [toE_r (h := sAR h a _) (n := n) (t := 108) hk (by decide)]
    show H1[a]? = some (arrV (D.2 8) n (fun j => va_rf (hAR (sAR h a (va_up (hAR h a) i.toNatClampNeg none)) a j)))
    rw [e0, arrV_store, hAR_sAR]
    congr 2
    funext y
    by_cases hy : y = i.toNatClampNeg
    · subst hy
      simp [updV, va_up, va_rf]
    · simp [updV, va_up, hy]
  exact k p l e R s m args below meth c D A H1 _ cells slots ls C Rm1 (W1.write hne z oq rfl hrep) hl
theorem go_anewObject {idx : Nat} {n : Int32} (q N : Nat) (hd : decode M.2.1 pc = .ok (.anewarray idx, 3)) (hq : pc + 3 = q) (hw1 : Cond.classLink M.1.cls idx "java/lang/Object" ∈ lw_all) (hw2 : Cond.arrayOver (.object "java/lang/Object") ∈ lw_tbl) (hn : ¬ n < 0) (hN1 : n.toNatClampNeg = N) (hsm : N ≤ 65536) (hb : b0 = (b.1 + 1, b.2 + N)) (k : AWP M d q L (vR (some (hN h)) :: st) (nW h 109 N) b Q) : AWP M d pc L (vI n :: st) h b0 Q := by
  subst hq hb hN1
  intro p l e R s m args below meth c D A H locs cells slots ls C Rm1 W1 hl
  have hz := W1.1.1
  have hR1 := Rm1.2.2.1
  have hR2 := Rm1.2.2.2
  dsimp only at hR1 hR2
  refine W.anew C.1 C.2.1 C.2.2.2.1 (C.2.2.2.2.1 _ hw1) ((C.2.2.2.2.2.2.2.2.over hw2)) (g := F0 m pc ls (.int n :: st.map cv)) rfl hd rfl hn (by omega) (by omega) (by omega) fun cA kA comp h1 h2 h3 h4 => ?_
  have hcA : cA = D.2 9 := by
    obtain ⟨_, _, -, -, -, e4⟩ := (C.2.2.2.2.2.2.2.2.1.2 9 _ rfl).2
    exact Option.some.inj (h1.symm.trans e4)
  subst hcA
  rw [← hz]
  refine k p l e R s m args below meth c D A _ locs (cells + 1) (slots + n.toNatClampNeg) ls C ⟨Rm1.1, Rm1.2.1, by omega, by omega⟩ (W1.new (by simp) (fun y hy => by rw [Array.getElem?_push, if_neg (Nat.ne_of_lt hy)]) ?_) hl
  rw [toE_r (hK_nW h _ _) (by decide)]
  show (Array.push H _)[hN h]? = some (arrV (D.2 9) n.toNatClampNeg (fun j => va_rf (hAR (nW h 109 n.toNatClampNeg) (hN h) j)))
  have e5 : (fun j => va_rf (hAR (nW h 109 n.toNatClampNeg) (hN h) j)) = fun _ => Value.null := by
    funext j
    simp only [hAR, nW]
    show va_rf (va_up h.2.2.2.2.2.1 (hN h) (fun _ => none) (hN h) j) = _
    rw [va_up_self]
    rfl
  rw [e5, hz, ← arrV_new]
  simp
theorem go_aastoreObject {a n v kd : Nat} {i : Int32} (q : Nat) (hd : decode M.2.1 pc = .ok (.aastore, 1)) (hq : pc + 1 = q) (hk : hK h a = (109, n)) (hi : vp_in i n) (hv : (hK h v).1 = kd) (hin : kd ∈ [1, 2, 3, 4, 5, 6, 7, 8, 9, 10, 11, 12, 100, 101, 102, 103, 104, 105, 106, 107, 108, 109]) (hcs : cnm kd = "java/lang/Object" ∨ Cond.castable (cnm kd) "java/lang/Object" ∈ lw_tbl) (k : AWP M d q L st (sAR h a (va_up (hAR h a) i.toNatClampNeg (some v))) b Q) : AWP M d pc L (vR (some v) :: vI i :: vR (some a) :: st) h b Q := by
  subst hq
  intro p l e R s m args below meth c D A H locs cells slots ls C Rm1 W1 hl
  have hne : (hK h a).1 ≠ 0 := by rw [hk]; simp
  have hat := W1.1.2 a hne
  rw [toE_r hk (by decide)] at hat
  have hc : H[a]? = some (arrV (D.2 9) n (fun j => va_rf (hAR h a j))) := hat
  have hlt : i.toNatClampNeg < n := Nat.not_le.mp fun z => hi (Or.inr z)
  have h0 : ¬ i < 0 := fun z => hi (Or.inl z)
  have KK1 := C.2.2.2.2.2.2.2.2
  obtain ⟨cellV, g1, g2, g3⟩ := W1.1.cell KK1 hv hin
  obtain ⟨kA, comp, k1, k2, k3, -⟩ := (KK1.1.2 9 _ rfl).2
  obtain ⟨kE, hkE, -⟩ := Vm.findClass_spec k3
  obtain ⟨kV, hkV, -⟩ := Vm.findClass_spec g3
  have hasg : s.vm.assignable cellV.cls comp = true := by
    rcases hcs with e1 | w
    · rw [e1] at g3
      cases k3.symm.trans g3
      exact va_asg _ _
    · obtain ⟨c0, t1, f1, f2, f3⟩ := Cond.castable_spec (va_Nw.use (A := args) rfl (KK1.cast w))
      cases g3.symm.trans f1
      cases k3.symm.trans f2
      exact f3
  refine W.aast C.1 C.2.1 hc (fun z y => by cases y) (fun y => by cases y) k1 k2 rfl hkE ⟨h0, by rw [arrV_size]; exact hlt⟩ g1 (fun z y => by rw [y] at g2; cases g2) hkV hasg (g := F0 m pc ls (.ref v :: .int i :: .ref a :: st.map cv)) rfl rfl hd fun H1 e0 z oq => ?_
  have hrep : Rep D (sAR h a (va_up (hAR h a) i.toNatClampNeg (some v))) H1 := by
    refine W1.1.write z oq rfl rfl (fun y hy => sAR_E _ hy) ?_
    rw [toE_r (h := sAR h a _) (n := n) (t := 109) hk (by decide)]
    show H1[a]? = some (arrV (D.2 9) n (fun j => va_rf (hAR (sAR h a (va_up (hAR h a) i.toNatClampNeg (some v))) a j)))
    rw [e0, arrV_store, hAR_sAR]
    congr 2
    funext y
    by_cases hy : y = i.toNatClampNeg
    · subst hy
      simp [updV, va_up, va_rf]
    · simp [updV, va_up, hy]
  exact k p l e R s m args below meth c D A H1 _ cells slots ls C Rm1 (W1.write hne z oq rfl hrep) hl
theorem go_aastoreNObject {a n : Nat} {i : Int32} (q : Nat) (hd : decode M.2.1 pc = .ok (.aastore, 1)) (hq : pc + 1 = q) (hk : hK h a = (109, n)) (hi : vp_in i n) (k : AWP M d q L st (sAR h a (va_up (hAR h a) i.toNatClampNeg none)) b Q) : AWP M d pc L (vR none :: vI i :: vR (some a) :: st) h b Q := by
  subst hq
  intro p l e R s m args below meth c D A H locs cells slots ls C Rm1 W1 hl
  have hne : (hK h a).1 ≠ 0 := by rw [hk]; simp
  have hat := W1.1.2 a hne
  rw [toE_r hk (by decide)] at hat
  have hc : H[a]? = some (arrV (D.2 9) n (fun j => va_rf (hAR h a j))) := hat
  have KK1 := C.2.2.2.2.2.2.2.2
  refine va_WaastN (C := "java/lang/Object") C.1 C.2.1 hc ((KK1.1.2 9 _ rfl).1 n (fun j => va_rf (hAR h a j))) (fun y => by cases y) (by rw [arrV_size]; exact hi) (g := F0 m pc ls (.null :: .int i :: .ref a :: st.map cv)) rfl rfl hd fun H1 e0 z oq => ?_
  have hrep : Rep D (sAR h a (va_up (hAR h a) i.toNatClampNeg none)) H1 := by
    refine W1.1.write z oq rfl rfl (fun y hy => sAR_E _ hy) ?_
    rw [toE_r (h := sAR h a _) (n := n) (t := 109) hk (by decide)]
    show H1[a]? = some (arrV (D.2 9) n (fun j => va_rf (hAR (sAR h a (va_up (hAR h a) i.toNatClampNeg none)) a j)))
    rw [e0, arrV_store, hAR_sAR]
    congr 2
    funext y
    by_cases hy : y = i.toNatClampNeg
    · subst hy
      simp [updV, va_up, va_rf]
    · simp [updV, va_up, hy]
  exact k p l e R s m args below meth c D A H1 _ cells slots ls C Rm1 (W1.write hne z oq rfl hrep) hl
theorem go_castN {idx : Nat} (q : Nat) (hd : decode M.2.1 pc = .ok (.checkcast idx, 3)) (hq : pc + 3 = q) (k : AWP M d q L (vR none :: st) h b Q) : AWP M d pc L (vR none :: st) h b Q := by
  subst hq
  intro p l e R s m args below meth c D A H locs cells slots ls C Rm1 W1 hl
  exact lv_castN C.1 C.2.1 hd (k p l e R s m args below meth c D A H locs cells slots ls C Rm1 W1 hl)
theorem go_instN {idx : Nat} (q : Nat) (hd : decode M.2.1 pc = .ok (.instanceof idx, 3)) (hq : pc + 3 = q) (k : AWP M d q L (vI 0 :: st) h b Q) : AWP M d pc L (vR none :: st) h b Q := by
  subst hq
  intro p l e R s m args below meth c D A H locs cells slots ls C Rm1 W1 hl
  exact lv_instN C.1 C.2.1 hd (k p l e R s m args below meth c D A H locs cells slots ls C Rm1 W1 hl)
theorem go_castY {idx a kd : Nat} {nm : String} (q : Nat) (hd : decode M.2.1 pc = .ok (.checkcast idx, 3)) (hq : pc + 3 = q) (hk : (hK h a).1 = kd) (hin : kd ∈ [1, 2, 3, 4, 5, 6, 7, 8, 9, 10, 11, 12, 100, 101, 102, 103, 104, 105, 106, 107, 108, 109]) (hw : Cond.classLink M.1.cls idx nm ∈ lw_all) (hc : cnm kd = nm ∨ Cond.castable (cnm kd) nm ∈ lw_tbl) (k : AWP M d q L (vR (some a) :: st) h b Q) : AWP M d pc L (vR (some a) :: st) h b Q := by
  subst hq
  intro p l e R s m args below meth c D A H locs cells slots ls C Rm1 W1 hl
  have KK1 := C.2.2.2.2.2.2.2.2
  obtain ⟨cell, g1, g2, g3⟩ := W1.1.cell KK1 hk hin
  rcases hc with rfl | w
  · intro T hT X
    obtain ⟨vm', X', st'⟩ := X.checkcastYes C.1 C.2.2.2.1 (C.2.2.2.2.1 _ hw) (by rw [hT]; exact g1) g2 g3 (va_asg _ _) (g := F0 m pc ls (.ref a :: st.map cv)) rfl rfl (by rw [C.2.1]; exact hd)
    obtain ⟨t, a1, b1⟩ := k p l e R s m args below meth c D A H locs cells slots ls C Rm1 W1 hl (T.setVm vm') hT X'
    exact ⟨t, st' t a1, b1⟩
  · exact va_castY C.1 C.2.1 C.2.2.2.1 (C.2.2.2.2.1 _ hw) (KK1.cast w) ⟨cell, g1, g2, g3⟩ hd (k p l e R s m args below meth c D A H locs cells slots ls C Rm1 W1 hl)
theorem go_instY {idx a kd : Nat} {nm : String} (q : Nat) (hd : decode M.2.1 pc = .ok (.instanceof idx, 3)) (hq : pc + 3 = q) (hk : (hK h a).1 = kd) (hin : kd ∈ [1, 2, 3, 4, 5, 6, 7, 8, 9, 10, 11, 12, 100, 101, 102, 103, 104, 105, 106, 107, 108, 109]) (hw : Cond.classLink M.1.cls idx nm ∈ lw_all) (hc : cnm kd = nm ∨ Cond.castable (cnm kd) nm ∈ lw_tbl) (k : AWP M d q L (vI 1 :: st) h b Q) : AWP M d pc L (vR (some a) :: st) h b Q := by
  subst hq
  intro p l e R s m args below meth c D A H locs cells slots ls C Rm1 W1 hl
  have KK1 := C.2.2.2.2.2.2.2.2
  obtain ⟨cell, g1, g2, g3⟩ := W1.1.cell KK1 hk hin
  rcases hc with rfl | w
  · intro T hT X
    obtain ⟨vm', X', st'⟩ := X.instanceofYes C.1 C.2.2.2.1 (C.2.2.2.2.1 _ hw) (by rw [hT]; exact g1) g2 g3 (va_asg _ _) (g := F0 m pc ls (.ref a :: st.map cv)) rfl rfl (by rw [C.2.1]; exact hd)
    obtain ⟨t, a1, b1⟩ := k p l e R s m args below meth c D A H locs cells slots ls C Rm1 W1 hl (T.setVm vm') hT X'
    exact ⟨t, st' t a1, b1⟩
  · exact va_instY C.1 C.2.1 C.2.2.2.1 (C.2.2.2.2.1 _ hw) (KK1.cast w) ⟨cell, g1, g2, g3⟩ hd (k p l e R s m args below meth c D A H locs cells slots ls C Rm1 W1 hl)
theorem go_instNo {idx a kd : Nat} {nm : String} (q : Nat) (hd : decode M.2.1 pc = .ok (.instanceof idx, 3)) (hq : pc + 3 = q) (hk : (hK h a).1 = kd) (hin : kd ∈ [1, 2, 3, 4, 5, 6, 7, 8, 9, 10, 11, 12, 100, 101, 102, 103, 104, 105, 106, 107, 108, 109]) (hw : Cond.classLink M.1.cls idx nm ∈ lw_all) (hc : NoCast (cnm kd) nm) (k : AWP M d q L (vI 0 :: st) h b Q) : AWP M d pc L (vR (some a) :: st) h b Q := by
  subst hq
  intro p l e R s m args below meth c D A H locs cells slots ls C Rm1 W1 hl
  have KK1 := C.2.2.2.2.2.2.2.2
  exact va_instNo C.1 C.2.1 C.2.2.2.1 (C.2.2.2.2.1 _ hw) (KK1.no hc) (W1.1.cell KK1 hk hin) hd (k p l e R s m args below meth c D A H locs cells slots ls C Rm1 W1 hl)
end
