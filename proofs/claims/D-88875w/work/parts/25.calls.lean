/-! a method's contract; its entry; calls -/
def entL : Nat → List AV → List AV
  | n, [] => List.replicate n vU
  | n, a :: as => match avc a with
    | 2 => a :: vU :: entL (n - 2) as
    | _ => a :: entL (n - 1) as
theorem entL_mem : ∀ (as : List AV) (n i0 j : Nat) (v : AV), (entL n as)[j]? = some v → v ≠ vU → (i0 + j, cv v) ∈ lv_args i0 (as.map cv)
  | [], n, i0, j, v, h, hv => by
    simp only [entL, List.getElem?_replicate] at h
    split at h
    · exact absurd (Option.some.inj h).symm hv
    · cases h
  | a :: as, n, i0, j, v, h, hv => by
    show _ ∈ (i0, cv a) :: lv_args (if (cv a).category = 2 then i0 + 2 else i0 + 1) (as.map cv)
    rw [avc_eq]
    by_cases ha : avc a = 2
    · rw [if_pos ha]
      have e : entL n (a :: as) = a :: vU :: entL (n - 2) as := by simp [entL, ha]
      rw [e] at h
      match j, h with
      | 0, h =>
        simp only [List.getElem?_cons_zero, Option.some.injEq] at h
        subst h
        exact List.mem_cons_self
      | 1, h =>
        simp only [List.getElem?_cons_succ, List.getElem?_cons_zero, Option.some.injEq] at h
        exact absurd h.symm hv
      | j + 2, h =>
        simp only [List.getElem?_cons_succ] at h
        have := entL_mem as (n - 2) (i0 + 2) j v h hv
        rw [show i0 + (j + 2) = i0 + 2 + j by omega]
        exact List.mem_cons_of_mem _ this
    · rw [if_neg ha]
      have e : entL n (a :: as) = a :: entL (n - 1) as := by
        have : avc a = 1 := by rcases a with x | x | x | x <;> first | rfl | exact absurd rfl ha
        simp [entL, this]
      rw [e] at h
      match j, h with
      | 0, h =>
        simp only [List.getElem?_cons_zero, Option.some.injEq] at h
        subst h
        exact List.mem_cons_self
      | j + 1, h =>
        simp only [List.getElem?_cons_succ] at h
        have := entL_mem as (n - 1) (i0 + 1) j v h hv
        rw [show i0 + (j + 1) = i0 + 1 + j by omega]
        exact List.mem_cons_of_mem _ this
theorem lg_sl_len (as : List AV) : (lg_sl (as.map cv)).length = (as.map avc).sum := by
  induction as with
  | nil => rfl
  | cons a as ih =>
    simp only [lg_sl, List.map_cons, List.flatMap_cons, List.length_append, List.sum_cons] at ih ⊢
    rw [ih, avc_eq]
    rcases a with x | x | x | x <;> simp [avc]
def RmOf (d mc ms : Nat) : Room := { frames := d, cells := mc, slots := ms, locals := 80 * d }
/-- what a method with the world h may change: its cells, and those that it makes -/
def AA (h : Hp) : Nat → Prop := fun a => (hK h a).1 ≠ 0 ∨ hN h ≤ a
def PcX (D : DG) (args : List AV) (h : Hp) : Array Value → State → Prop := fun av U => av = (args.map cv).toArray ∧ Rep D h U.heap ∧ KK D U
theorem PcX.blind {D : DG} {args : List AV} {h : Hp} : FrameBlind (PcX D args h) := by
  intro a U g mk q
  obtain ⟨q1, q2, q3⟩ := q
  exact ⟨q1, q2, KK.moved (u := U) (U := U.calling g mk a) (State.WarmedH.refl U) q3⟩
abbrev wsM (M : MI) : List Cond := ws_ M.1 M.2.1 M.2.2.1 M.2.2.2
def Ret (M : MI) (d : Nat) (args : List AV) (h : Hp) (mc ms : Nat) (Q : Rs → Hp → Prop) : Prop := ∀ (l : Launch) (D : DG), Met l M.1 (wsM M) (RmOf d mc ms) (PcX D args h) (fun _ st o t => QX D (AA h) Q st o t) mc ms (AA h)
theorem Ret.of {M : MI} {d : Nat} {args : List AV} {h : Hp} {mc ms : Nat} {Q : Rs → Hp → Prop} (L : List AV) (hy : plainName M.1.cls = true) (hn : (args.map avc).sum ≤ M.2.2.1) (hL : entL M.2.2.1 args = L) (hQ : ∀ r h', Q r h' → ∃ v, r = .inl v) (k : AWP M d 0 L [] h (mc, ms) Q) : Ret M d args h mc ms Q := by
  subst hL
  intro l D
  refine Met.ofW (cc := M.2.1) (maxL := M.2.2.1) (ret := M.2.2.2) hy rfl ?_
  intro p e s m args' below meth c s₁ B hml hv
  obtain ⟨rfl, hR, hKK⟩ := hv
  have hts := atoms_spec (ws := wsM M) B.pre
  have hts : ∀ w ∈ lw_all, w.before _ s = true := fun w h => hts w (List.mem_cons_of_mem _ h)
  have hown : s.vm.findClass M.1.cls = some m.cls := findClass_of_methodNamed B.named
  have hin : meth.name = M.1.name := (name_of_methodNamed B.named B.method).1
  have hl := lv_entry (args.map cv) (n := M.2.2.1) (by rw [lg_sl_len]; exact hn)
  rw [lg_entry_eq]
  generalize (lg_sl (args.map cv) ++ List.replicate (M.2.2.1 - (lg_sl (args.map cv)).length) Slot.unset).toArray = ls at hl ⊢
  have K := k p l e (RmOf d mc ms) s m (args.map cv).toArray below meth c D (AA h) s.heap [] 0 0 ls ⟨B.exec, B.bytes, hml, hown, hts, B.returns, B.notSynchronized, hin, hKK⟩ ⟨Nat.le_refl d, Nat.le_refl _, by show 0 + mc ≤ mc; omega, by show 0 + ms ≤ ms; omega⟩ ⟨hR, fun a ha => Or.inl ha, fun a ha => Or.inr (by rw [hR.1]; exact ha), va_S.rf⟩ ⟨_, hl, fun i v hi hv => by have := entL_mem args M.2.2.1 0 i v hi hv; rwa [Nat.zero_add] at this⟩
  refine W_mono K ?_
  rintro t ⟨o, h1, h2, h3, L, ⟨h4, h5⟩, h6⟩
  refine ⟨o, h1, h2, h3, L, ⟨?_, h4, h5⟩, h6⟩
  obtain ⟨⟨r, h', e1, e2, -⟩, -⟩ := h3
  obtain ⟨v, rfl⟩ := hQ r h' e2
  exact ⟨_, e1⟩
theorem Ret.mono {M : MI} {d : Nat} {args : List AV} {h : Hp} {mc ms : Nat} {Q Q' : Rs → Hp → Prop} (k : Ret M d args h mc ms Q) (hq : ∀ r h', Q r h' → Q' r h') : Ret M d args h mc ms Q' := by
  intro l D p e h1 h2 h3 s m args' below h4 h5 h6 h7
  obtain ⟨n, o, k1, k2, k3, ⟨⟨⟨r, h', e1, e2, e3⟩, e4⟩, k5⟩⟩ := k l D p e h1 h2 h3 s m args' below h4 h5 h6 h7
  exact ⟨n, o, k1, k2, k3, ⟨⟨⟨r, h', e1, hq r h' e2, e3⟩, e4⟩, k5⟩⟩
theorem W_run {p : Program} {l : Launch} {e : Env} {R : Room} {s : State} {m : MethodId} {args : Array Value} {below : List Frame} {meth : Method} {c : Code} {H : Heap} {locs : List Loc} {cells slots : Nat} {Q : State → Prop} {D : DG} {A : Nat → Prop} {h : Hp} {Q' : Rs → Hp → Prop} {mc ms pc : Nat} {ls : Array Slot} {st0 rest : List Value}
    (hr : va_Run p l e R s m args below meth c H locs cells slots mc ms (F0 m pc ls st0) rest (fun st o t => QX D (AA h) Q' st o t) (AA h)) (hw : Wd D A h s H locs)
    (kk : ∀ (r : Option AV) (h' : Hp) (H1 : Heap) (locs1 : List Loc), Q' (.inl r) h' → Wd D A h' s H1 locs1 → W p l e R s m args below meth c H1 locs1 (cells + mc) (slots + ms) Q (F0 m (pc + 3) ls ((r.map cv).toList ++ rest))) : W p l e R s m args below meth c H locs cells slots Q (F0 m pc ls st0) := by
  obtain ⟨r1, w2, w3, w4⟩ := hw
  have hA : ∀ q, AA h q → A q := by
    rintro q (hq | hq)
    · exact w2 q hq
    · exact w3 q (Nat.le_trans w4.1 (by rw [← r1.1]; exact hq))
  intro T hT X
  obtain ⟨v, st₀, t, T', Lc, h0, X', hL, e1, e2, ⟨⟨r, h', ho, hq, hrep, hown⟩, hz, hk⟩, st⟩ := hr T hT X
  cases r with
  | inr a => cases ho
  | inl r =>
    have hv : v = r.map cv := Outcome.returned.inj ho
    subst hv
    rw [h0] at hz hk
    obtain ⟨t2, a1, b1⟩ := kk r h' T'.heap (locs ++ Lc) hq ⟨by rw [e1]; exact hrep, fun a ha => hA a (hown a ha), w3, ⟨Nat.le_trans w4.1 (by rw [e1]; exact hz), fun q h1 h2 => by rw [e1, hk q (Nat.lt_of_lt_of_le h1 w4.1) (fun z => h2 (hA q z))]; exact w4.2.1 q h1 h2, fun q hq => by
      rcases List.mem_append.mp hq with z | z
      · exact w4.2.2 q z
      · exact hA _ (hL q z)⟩⟩ T' rfl X'
    exact ⟨t2, st t2 a1, b1⟩
/-- a method by its words: called through an object of its class -/
def VOK (M : MI) (n : Nat) : Prop := Cond.code M.1 M.2.1 M.2.2.1 M.2.2.2 ∈ lw_all ∧ Cond.instanceMethod M.1 ∈ lw_all ∧ Cond.selects M.1.cls M.1 M.1 ∈ lw_all ∧ Cond.initialized M.1.cls ∈ lw_all ∧ (M.1.cls ≠ "java/lang/invoke/MethodHandle" ∧ M.1.cls ≠ "java/lang/invoke/VarHandle" ∧ (parseMethodDescriptor M.1.desc).map (fun d => d.parameters.length) = some n) ∧ M.2.2.1 ≤ 60
/-- a static method by its words -/
def SOK (M : MI) (n : Nat) : Prop := Cond.code M.1 M.2.1 M.2.2.1 M.2.2.2 ∈ lw_all ∧ Cond.static M.1 ∈ lw_all ∧ Cond.initialized M.1.cls ∈ lw_all ∧ (M.1.cls ≠ "java/lang/invoke/MethodHandle" ∧ M.1.cls ≠ "java/lang/invoke/VarHandle" ∧ (parseMethodDescriptor M.1.desc).map (fun d => d.parameters.length) = some n) ∧ M.2.2.1 ≤ 60
/-- a constructor by its words -/
def IOK (M : MI) (n : Nat) : Prop := Cond.code M.1 M.2.1 M.2.2.1 none ∈ lw_all ∧ M.2.2.2 = none ∧ Cond.instanceMethod M.1 ∈ lw_all ∧ Cond.initialized M.1.cls ∈ lw_all ∧ (M.1.cls ≠ "java/lang/invoke/MethodHandle" ∧ M.1.cls ≠ "java/lang/invoke/VarHandle" ∧ (parseMethodDescriptor M.1.desc).map (fun d => d.parameters.length) = some n) ∧ M.2.2.1 ≤ 60 ∧ M.1.name = "<init>"
theorem avc_sum (st : List AV) : ((st.map cv).map fun v => v.category).sum = (st.map avc).sum := by
  induction st with
  | nil => rfl
  | cons a st ih => simp only [List.map_cons, List.sum_cons, ih, avc_eq]
theorem KK.nestM {D : DG} {s : State} (k : KK D s) {own : String} {i : Nat} {y : MethodName} {host : String} (hw : Cond.methodLinkNest own i y host ∈ lw_tbl) : va_Nw (.methodLinkNest own i y host) s := by
  obtain ⟨-, s0, a0, h1, h2, -⟩ := k
  exact va_Nw.warmM h1 (va_Nw.of rfl (h2 _ hw))
section
variable {M M' : MI} {d d' pc : Nat} {L st st0 as : List AV} {h : Hp} {b b0 : Nat × Nat} {Q Q' : Rs → Hp → Prop} {mc ms : Nat}
theorem go_callV {idx n o kd : Nat} {T : u_T} {N : Nat} (q : Nat) (hd : decode M.2.1 pc = .ok (.invokevirtual idx, 3)) (hq : pc + 3 = q) (hw : Cond.methodLink M.1.cls idx M'.1 ∈ lw_all) (hv : VOK M' n) (ho : (hK h o).1 = kd) (hck : CK kd M'.1.cls T N) (hn : as.length = n) (hst : st0 = as.reverse ++ vR (some o) :: st) (hroom : Nat.ble (st.map avc).sum 8 = true) (hdd : Nat.ble (d' + 1) d = true) (hb : b0 = (b.1 + mc, b.2 + ms)) (hM : Ret M' d' (vR (some o) :: as) h mc ms Q') (k : ∀ r h', Q' (.inl r) h' → AWP M d q L (r.toList ++ st) h' b Q) : AWP M d pc L st0 h b0 Q := by
  subst hq hb hst
  intro p l e R s m args below meth c D A H locs cells slots ls C Rm1 W1 hl
  have hR1 := Rm1.1
  have hR2 := Rm1.2.1
  have hR3 := Rm1.2.2.1
  have hR4 := Rm1.2.2.2
  dsimp only at hR3 hR4
  have hdd' := Nat.le_of_ble_eq_true hdd
  obtain ⟨v1, v2, v3, v4, v5, v6⟩ := hv
  refine W_run (mc := mc) (ms := ms) (rest := st.map cv) (va_runV (As := as.map cv) (b := o) (Ts := lw_all) (C := M'.1.cls) (n := n) (nL := M.2.2.1) (own := M.1.cls) ⟨C.1, C.2.1, C.2.2.1, C.2.2.2.1, C.2.2.2.2.1⟩ (hM l D) (cwV n C.2.2.2.2.1 (lw_V hw v2 v3 v4 v1) rfl rfl rfl ⟨rfl, v5⟩ ⟨by show d' + 1 ≤ R.frames; omega, by show 8 + (M'.2.2.1 + 11) + 80 * d' ≤ R.locals; omega⟩) ⟨PcX.blind, W1.1.obj C.2.2.2.2.2.2.2.2 ho hck, fun U hU hW => ⟨rfl, by rw [hU]; exact W1.1, C.2.2.2.2.2.2.2.2.moved hW⟩⟩ rfl (by simpa using hn) hl.size (by simp [List.map_append, cv, vR, va_rf]) ?_ hd ⟨by omega, by omega⟩) W1 (fun r h' H1 locs1 hq' W2 => ?_)
  · show 2 * 0 + _ ≤ 8
    rw [avc_sum]
    have := Nat.le_of_ble_eq_true hroom
    omega
  · have := k r h' hq' p l e R s m args below meth c D A H1 locs1 (cells + mc) (slots + ms) ls C ⟨hR1, hR2, by omega, by omega⟩ W2 hl
    cases r <;> exact this
theorem go_callS {idx n : Nat} (q : Nat) (hd : decode M.2.1 pc = .ok (.invokestatic idx, 3)) (hq : pc + 3 = q) (hw : Cond.methodLink M.1.cls idx M'.1 ∈ lw_all) (hv : SOK M' n) (hn : as.length = n) (hst : st0 = as.reverse ++ st) (hroom : Nat.ble (st.map avc).sum 8 = true) (hdd : Nat.ble (d' + 1) d = true) (hb : b0 = (b.1 + mc, b.2 + ms)) (hM : Ret M' d' as h mc ms Q') (k : ∀ r h', Q' (.inl r) h' → AWP M d q L (r.toList ++ st) h' b Q) : AWP M d pc L st0 h b0 Q := by
  subst hq hb hst
  intro p l e R s m args below meth c D A H locs cells slots ls C Rm1 W1 hl
  have hR1 := Rm1.1
  have hR2 := Rm1.2.1
  have hR3 := Rm1.2.2.1
  have hR4 := Rm1.2.2.2
  dsimp only at hR3 hR4
  have hdd' := Nat.le_of_ble_eq_true hdd
  obtain ⟨v1, v2, v4, v5, v6⟩ := hv
  refine W_run (mc := mc) (ms := ms) (rest := st.map cv) (va_runS (As := as.map cv) (Ts := lw_all) (n := n) (nL := M.2.2.1) (own := M.1.cls) ⟨C.1, C.2.1, C.2.2.1, C.2.2.2.1, C.2.2.2.2.1⟩ (hM l D) (va_cwS n C.2.2.2.2.1 (lw_S hw v2 v4 v1) rfl rfl rfl v5 ⟨by show d' + 1 ≤ R.frames; omega, by show 8 + (M'.2.2.1 + 11) + 80 * d' ≤ R.locals; omega⟩) ⟨PcX.blind, fun U hU hW => ⟨rfl, by rw [hU]; exact W1.1, C.2.2.2.2.2.2.2.2.moved hW⟩⟩ rfl (by simpa using hn) hl.size (by simp [List.map_append]) ?_ hd ⟨by omega, by omega⟩) W1 (fun r h' H1 locs1 hq' W2 => ?_)
  · show 2 * 0 + _ ≤ 8
    rw [avc_sum]
    have := Nat.le_of_ble_eq_true hroom
    omega
  · have := k r h' hq' p l e R s m args below meth c D A H1 locs1 (cells + mc) (slots + ms) ls C ⟨hR1, hR2, by omega, by omega⟩ W2 hl
    cases r <;> exact this
theorem go_callSN {idx n : Nat} {host : String} (q : Nat) (hd : decode M.2.1 pc = .ok (.invokestatic idx, 3)) (hq : pc + 3 = q) (hw : Cond.methodLinkNest M.1.cls idx M'.1 host ∈ lw_tbl) (hv : SOK M' n) (hn : as.length = n) (hst : st0 = as.reverse ++ st) (hroom : Nat.ble (st.map avc).sum 8 = true) (hdd : Nat.ble (d' + 1) d = true) (hb : b0 = (b.1 + mc, b.2 + ms)) (hM : Ret M' d' as h mc ms Q') (k : ∀ r h', Q' (.inl r) h' → AWP M d q L (r.toList ++ st) h' b Q) : AWP M d pc L st0 h b0 Q := by
  subst hq hb hst
  intro p l e R s m args below meth c D A H locs cells slots ls C Rm1 W1 hl
  have hR1 := Rm1.1
  have hR2 := Rm1.2.1
  have hR3 := Rm1.2.2.1
  have hR4 := Rm1.2.2.2
  dsimp only at hR3 hR4
  have hdd' := Nat.le_of_ble_eq_true hdd
  obtain ⟨v1, v2, v4, v5, v6⟩ := hv
  refine W_run (mc := mc) (ms := ms) (rest := st.map cv) (va_runSN (As := as.map cv) (Ts := lw_all) (n := n) (nL := M.2.2.1) (own := M.1.cls) (host := host) ⟨C.1, C.2.1, C.2.2.1, C.2.2.2.1, C.2.2.2.2.1⟩ (hM l D) ⟨va_cnB n C.2.2.2.2.1 (lw_meth v1) rfl rfl rfl (C.2.2.2.2.2.2.2.2.nestM hw) (C.2.2.2.2.1 _ v4) v5 ⟨by show d' + 1 ≤ R.frames; omega, by show 8 + (M'.2.2.1 + 11) + 80 * d' ≤ R.locals; omega⟩, C.2.2.2.2.1 _ v2, trivial⟩ ⟨PcX.blind, fun U hU hW => ⟨rfl, by rw [hU]; exact W1.1, C.2.2.2.2.2.2.2.2.moved hW⟩⟩ rfl (by simpa using hn) hl.size (by simp [List.map_append]) ?_ hd ⟨by omega, by omega⟩) W1 (fun r h' H1 locs1 hq' W2 => ?_)
  · show 2 * 0 + _ ≤ 8
    rw [avc_sum]
    have := Nat.le_of_ble_eq_true hroom
    omega
  · have := k r h' hq' p l e R s m args below meth c D A H1 locs1 (cells + mc) (slots + ms) ls C ⟨hR1, hR2, by omega, by omega⟩ W2 hl
    cases r <;> exact this
theorem go_callVN {idx n o kd : Nat} {T : u_T} {N : Nat} {host : String} (q : Nat) (hd : decode M.2.1 pc = .ok (.invokevirtual idx, 3)) (hq : pc + 3 = q) (hw : Cond.methodLinkNest M.1.cls idx M'.1 host ∈ lw_tbl) (hv : VOK M' n) (ho : (hK h o).1 = kd) (hck : CK kd M'.1.cls T N) (hn : as.length = n) (hst : st0 = as.reverse ++ vR (some o) :: st) (hroom : Nat.ble (st.map avc).sum 8 = true) (hdd : Nat.ble (d' + 1) d = true) (hb : b0 = (b.1 + mc, b.2 + ms)) (hM : Ret M' d' (vR (some o) :: as) h mc ms Q') (k : ∀ r h', Q' (.inl r) h' → AWP M d q L (r.toList ++ st) h' b Q) : AWP M d pc L st0 h b0 Q := by
  subst hq hb hst
  intro p l e R s m args below meth c D A H locs cells slots ls C Rm1 W1 hl
  have hR1 := Rm1.1
  have hR2 := Rm1.2.1
  have hR3 := Rm1.2.2.1
  have hR4 := Rm1.2.2.2
  dsimp only at hR3 hR4
  have hdd' := Nat.le_of_ble_eq_true hdd
  obtain ⟨v1, v2, v3, v4, v5, v6⟩ := hv
  refine W_run (mc := mc) (ms := ms) (rest := st.map cv) (va_runVN (As := as.map cv) (b := o) (Ts := lw_all) (C := M'.1.cls) (n := n) (nL := M.2.2.1) (own := M.1.cls) (host := host) ⟨C.1, C.2.1, C.2.2.1, C.2.2.2.1, C.2.2.2.2.1⟩ (hM l D) ⟨va_cnB n C.2.2.2.2.1 (lw_meth v1) rfl rfl rfl (C.2.2.2.2.2.2.2.2.nestM hw) (C.2.2.2.2.1 _ v4) v5 ⟨by show d' + 1 ≤ R.frames; omega, by show 8 + (M'.2.2.1 + 11) + 80 * d' ≤ R.locals; omega⟩, C.2.2.2.2.1 _ v2, C.2.2.2.2.1 _ v3⟩ ⟨PcX.blind, W1.1.obj C.2.2.2.2.2.2.2.2 ho hck, fun U hU hW => ⟨rfl, by rw [hU]; exact W1.1, C.2.2.2.2.2.2.2.2.moved hW⟩⟩ rfl (by simpa using hn) hl.size (by simp [List.map_append, cv, vR, va_rf]) ?_ hd ⟨by omega, by omega⟩) W1 (fun r h' H1 locs1 hq' W2 => ?_)
  · show 2 * 0 + _ ≤ 8
    rw [avc_sum]
    have := Nat.le_of_ble_eq_true hroom
    omega
  · have := k r h' hq' p l e R s m args below meth c D A H1 locs1 (cells + mc) (slots + ms) ls C ⟨hR1, hR2, by omega, by omega⟩ W2 hl
    cases r <;> exact this
end
