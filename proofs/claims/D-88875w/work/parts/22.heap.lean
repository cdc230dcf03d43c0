/-! the rules of AWP that read and write cells -/
/-- a class's table as we follow it -/
def CK (kd : Nat) (C : String) (T : u_T) (N : Nat) : Prop :=
  clS[kd - 1]? = some (C, T, N) ∧ 0 < kd ∧ kd < 100 ∧ (∀ w ∈ u_ws C T N, w ∈ lw_all) ∧
  (∃ ty0 : Nat → FieldType, (∀ k, k < N → parseFieldDescriptor (T k).2.2.1 = some (ty0 k)) ∧ ∀ k f, (fidS (kd - 1))[k]? = some f → defaultValue (ty0 k) = if f < 1000 then Value.int 0 else .null) ∧
  (∀ a, a < N → ∀ b, b < N → a ≠ b → (T a).2.1 ≠ (T b).2.1) ∧ (fidS (kd - 1)).length = N ∧ (fidS (kd - 1)).Nodup
/-- the field number f of an object of kind kd, by the pool's entry idx of the class own -/
def GF (own : String) (idx f kd : Nat) : Prop := ∃ (C : String) (T : u_T) (N k : Nat), CK kd C T N ∧ k < N ∧ (fidS (kd - 1))[k]? = some f ∧
  (Cond.fieldLink own idx (T k).1 (T k).2.1 (T k).2.2.1 ∈ lw_all ∨ ∃ host, Cond.fieldLinkNest own idx (T k).1 (T k).2.1 (T k).2.2.1 host ∈ lw_tbl)
theorem toE_obj {dA : Nat → ClassId} {h : Hp} {a kd : Nat} (hk : (hK h a).1 = kd) (h1 : kd < 100) : toE dA h a = .inr (kd - 1, (fidS (kd - 1)).map (fv h a)) := by
  unfold toE
  rw [hk, if_pos h1]
theorem toE_i {dA : Nat → ClassId} {h : Hp} {a t n : Nat} (hk : hK h a = (t, n)) (h1 : 100 ≤ t) (h2 : t < 104) : toE dA h a = .inl (dA (t - 100), n, .inl (hAI h a)) := by
  unfold toE
  rw [hk]
  simp only
  rw [if_neg (by omega), if_pos h2]
theorem toE_l {dA : Nat → ClassId} {h : Hp} {a n : Nat} (hk : hK h a = (104, n)) : toE dA h a = .inl (dA 4, n, .inr (.inl (hAL h a))) := by
  unfold toE
  rw [hk]
  rfl
theorem toE_r {dA : Nat → ClassId} {h : Hp} {a t n : Nat} (hk : hK h a = (t, n)) (h1 : 105 ≤ t) : toE dA h a = .inl (dA (t - 100), n, .inr (.inr (.inr (.inr (hAR h a))))) := by
  unfold toE
  rw [hk]
  simp only
  rw [if_neg (by omega), if_neg (by omega), if_neg (by omega)]
theorem Rep.one {D : DG} {h : Hp} {H : Heap} (r : Rep D h H) {a : Nat} (ha : (hK h a).1 ≠ 0) : va_P D.1 clS [(a, toE D.2 h a)] H := by
  intro k q hq
  cases k with
  | zero =>
    simp only [List.getElem?_cons_zero, Option.some.injEq] at hq
    subst hq
    exact r.2 a ha
  | succ k => simp at hq
/-- one cell is written: the rest stays -/
theorem Rep.write {D : DG} {h h' : Hp} {H H1 : Heap} {a : Nat} (r : Rep D h H) (z : H1.size = H.size) (oq : ∀ q, q ≠ a → H1[q]? = H[q]?) (hK' : hK h' = hK h) (hN' : hN h' = hN h)
    (hE : ∀ b, b ≠ a → toE D.2 h' b = toE D.2 h b) (hA : va_at D.1 clS (a, toE D.2 h' a) H1) : Rep D h' H1 := by
  refine ⟨by rw [hN', z]; exact r.1, fun b hb => ?_⟩
  by_cases e : b = a
  · subst e
    exact hA
  · rw [hE b e]
    rw [hK'] at hb
    exact (r.2 b hb).kept (oq b e)
theorem Wd.write {D : DG} {A : Nat → Prop} {h h' : Hp} {s : State} {H H1 : Heap} {locs : List Loc} {a k : Nat} (w : Wd D A h s H locs) (ha : (hK h a).1 ≠ 0) (z : H1.size = H.size) (oq : ∀ q, q ≠ a → H1[q]? = H[q]?) (hK' : hK h' = hK h) (r : Rep D h' H1) : Wd D A h' s H1 (locs ++ [⟨a, k⟩]) :=
  ⟨r, fun b hb => w.2.1 b (by rw [hK'] at hb; exact hb), w.2.2.1, w.2.2.2.put z oq (w.2.1 a ha)⟩
theorem KK.word {D : DG} {s : State} (k : KK D s) {own : String} {i : Nat} {b n d host : String} (hw : Cond.fieldLinkNest own i b n d host ∈ lw_tbl) (args : Array Value) : (Cond.fieldLinkNest own i b n d host).before args s = true := by
  obtain ⟨-, s0, a0, h1, h2, -⟩ := k
  exact va_Nw.use rfl (va_Nw.warmF h1 (va_Nw.of rfl (h2 _ hw)))
section
variable {M : MI} {d pc : Nat} {L st : List AV} {h : Hp} {b : Nat × Nat} {Q : Rs → Hp → Prop}
theorem go_get {idx f kd a : Nat} {v : AV} (q : Nat) (hd : decode M.2.1 pc = .ok (.getfield idx, 3)) (hq : pc + 3 = q) (hk : (hK h a).1 = kd) (hf : GF M.1.cls idx f kd) (hv : fv h a f = cv v) (k : AWP M d q L (v :: st) h b Q) : AWP M d pc L (vR (some a) :: st) h b Q := by
  subst hq
  intro p l e R s m args below meth c D A H locs cells slots ls C Rm1 W1 hl
  obtain ⟨CC, T, N, j, ⟨c1, c2, c3, c4, -⟩, hj, hfj, hlink⟩ := hf
  have hP := W1.1.one (a := a) (by omega)
  rw [toE_obj hk c3] at hP
  have hg : ((fidS (kd - 1)).map (fv h a))[j]? = some (cv v) := by rw [List.getElem?_map, hfj, ← hv]; rfl
  have kk := k p l e R s m args below meth c D A H locs cells slots ls C Rm1 W1 hl
  rcases hlink with w | ⟨host, w⟩
  · exact va_get C.1 C.2.1 (C.2.2.2.2.1) c4 C.2.2.2.1 C.2.2.2.2.2.2.2.2.1 hP 0 rfl c1 j hj (C.2.2.2.2.1 _ w) (fun _ hx => hx) hg hd kk
  · exact va_getN C.1 C.2.1 (C.2.2.2.2.1) c4 C.2.2.2.1 C.2.2.2.2.2.2.2.2.1 hP 0 rfl c1 j hj (C.2.2.2.2.2.2.2.2.word w args) (fun _ hx => hx) hg hd kk
theorem go_getI {idx f kd a : Nat} (q : Nat) (hd : decode M.2.1 pc = .ok (.getfield idx, 3)) (hq : pc + 3 = q) (hk : (hK h a).1 = kd) (hf : GF M.1.cls idx f kd) (hlt : Nat.blt f 1000 = true) (k : AWP M d q L (vI (hFI h f a) :: st) h b Q) : AWP M d pc L (vR (some a) :: st) h b Q :=
  go_get q hd hq hk hf (by unfold fv; rw [if_pos (by simpa [Nat.blt_eq] using hlt)]; rfl) k
theorem go_getR {idx f kd a : Nat} (q : Nat) (hd : decode M.2.1 pc = .ok (.getfield idx, 3)) (hq : pc + 3 = q) (hk : (hK h a).1 = kd) (hf : GF M.1.cls idx f kd) (hlt : Nat.blt f 1000 = false) (k : AWP M d q L (vR (hFR h f a) :: st) h b Q) : AWP M d pc L (vR (some a) :: st) h b Q :=
  go_get q hd hq hk hf (by unfold fv; rw [if_neg (by intro z; rw [← Nat.blt_eq, hlt] at z; cases z)]; rfl) k
end
/-! writes -/
/-- the same of a field that is written: type ty -/
def GP (own mname : String) (idx f kd : Nat) (ty : FieldType) : Prop := ∃ (C : String) (T : u_T) (N k : Nat), CK kd C T N ∧ k < N ∧ (fidS (kd - 1))[k]? = some f ∧ parseFieldDescriptor (T k).2.2.1 = some ty ∧
  ((Cond.fieldLink own idx (T k).1 (T k).2.1 (T k).2.2.1 ∈ lw_all ∧ (T k).2.2.2 = false) ∨ ((∃ host, Cond.fieldLinkNest own idx (T k).1 (T k).2.1 (T k).2.2.1 host ∈ lw_tbl) ∧ (T k).2.2.2 = false) ∨ (Cond.fieldLink own idx (T k).1 (T k).2.1 (T k).2.2.1 ∈ lw_all ∧ (T k).2.2.2 = true ∧ mname = "<init>" ∧ (T k).1 = own))
theorem fv_sFI_ne {h : Hp} {f a b g : Nat} {v : Int32} (hb : b ≠ a ∨ g ≠ f) : fv (sFI h f a v) b g = fv h b g := by
  unfold fv
  by_cases hg : g < 1000
  · rw [if_pos hg, if_pos hg]
    show Value.int (up2 (hFI h) f a v g b) = _
    unfold up2
    rcases hb with hb | hb
    · by_cases e : g = f
      · rw [if_pos e, if_neg hb]
      · rw [if_neg e]
    · rw [if_neg hb]
  · rw [if_neg hg, if_neg hg]
    rfl
theorem fv_sFR_ne {h : Hp} {f a b g : Nat} {v : Option Nat} (hb : b ≠ a ∨ g ≠ f) : fv (sFR h f a v) b g = fv h b g := by
  unfold fv
  by_cases hg : g < 1000
  · rw [if_pos hg, if_pos hg]
    rfl
  · rw [if_neg hg, if_neg hg]
    show va_rf (up2 (hFR h) f a v g b) = _
    unfold up2
    rcases hb with hb | hb
    · by_cases e : g = f
      · rw [if_pos e, if_neg hb]
      · rw [if_neg e]
    · rw [if_neg hb]
theorem fv_sFI_self {h : Hp} {f a : Nat} {v : Int32} (hf : f < 1000) : fv (sFI h f a v) a f = .int v := by
  unfold fv
  rw [if_pos hf]
  show Value.int (up2 (hFI h) f a v f a) = _
  simp [up2]
theorem fv_sFR_self {h : Hp} {f a : Nat} {v : Option Nat} (hf : ¬ f < 1000) : fv (sFR h f a v) a f = va_rf v := by
  unfold fv
  rw [if_neg hf]
  show va_rf (up2 (hFR h) f a v f a) = _
  simp [up2]
/-- h' is h with the field f of the cell a set to v -/
def FSet (h h' : Hp) (f a : Nat) (v : Value) : Prop := hK h' = hK h ∧ hN h' = hN h ∧ hAI h' = hAI h ∧ hAL h' = hAL h ∧ hAR h' = hAR h ∧ fv h' a f = v ∧ ∀ b g, (b ≠ a ∨ g ≠ f) → fv h' b g = fv h b g
theorem FSet.I {h : Hp} {f a : Nat} {v : Int32} (hf : f < 1000) : FSet h (sFI h f a v) f a (.int v) := ⟨rfl, rfl, rfl, rfl, rfl, fv_sFI_self hf, fun _ _ hb => fv_sFI_ne hb⟩
theorem FSet.R {h : Hp} {f a : Nat} {v : Option Nat} (hf : ¬ f < 1000) : FSet h (sFR h f a v) f a (va_rf v) := ⟨rfl, rfl, rfl, rfl, rfl, fv_sFR_self hf, fun _ _ hb => fv_sFR_ne hb⟩
theorem FSet.E {h h' : Hp} {f a : Nat} {v : Value} (F : FSet h h' f a v) (dA : Nat → ClassId) {b : Nat} (hb : b ≠ a) : toE dA h' b = toE dA h b := by
  obtain ⟨f1, f2, f3, f4, f5, f6, f7⟩ := F
  unfold toE
  rw [f1, f3, f4, f5]
  have e : fv h' b = fv h b := by
    funext g
    exact f7 b g (Or.inl hb)
  rw [e]
theorem FSet.map {h h' : Hp} {f a : Nat} {v : Value} (F : FSet h h' f a v) {l : List Nat} (hn : l.Nodup) {j : Nat} (hj : l[j]? = some f) : l.map (fv h' a) = (l.map (fv h a)).set j v := by
  obtain ⟨-, -, -, -, -, f6, f7⟩ := F
  apply List.ext_getElem?
  intro i
  by_cases e : i = j
  · subst e
    have hl : i < l.length := (List.getElem?_eq_some_iff.mp hj).1
    rw [List.getElem?_set_self (by simpa using hl), List.getElem?_map, hj]
    simp [f6]
  · rw [List.getElem?_set_ne (Ne.symm e), List.getElem?_map, List.getElem?_map]
    cases hi : l[i]? with
    | none => rfl
    | some g =>
      have hg : g ≠ f := by
        intro q
        subst q
        obtain ⟨a1, a2⟩ := List.getElem?_eq_some_iff.mp hi
        obtain ⟨b1, b2⟩ := List.getElem?_eq_some_iff.mp hj
        exact e ((List.getElem_inj hn).mp (a2.trans b2.symm))
      simp [f7 a g (Or.inr hg)]
section
variable {M : MI} {d pc : Nat} {L st : List AV} {h h' : Hp} {b : Nat × Nat} {Q : Rs → Hp → Prop}
/-- putfield, of a field that is not final, or of a final one in its own class's constructor -/
theorem go_put {idx f kd a : Nat} {v : AV} {ty : FieldType} (q : Nat) (hd : decode M.2.1 pc = .ok (.putfield idx, 3)) (hq : pc + 3 = q) (hk : (hK h a).1 = kd) (hf : GP M.1.cls M.1.name idx f kd ty) (F : FSet h h' f a (cv v)) (hn : narrow ty (cv v) = cv v) (hfit : fits ty (cv v) = true) (k : AWP M d q L st h' b Q) : AWP M d pc L (v :: vR (some a) :: st) h b Q := by
  subst hq
  intro p l e R s m args below meth c D A H locs cells slots ls C Rm1 W1 hl
  obtain ⟨CC, T, N, j, ⟨c1, c2, c3, c4, ⟨ty0, c5, -⟩, c6, c7, c8⟩, hj, hfj, hty, hlink⟩ := hf
  have hne : (hK h a).1 ≠ 0 := by omega
  have hat := W1.1.2 a hne
  rw [toE_obj hk c3] at hat
  obtain ⟨r, h1, cell, q1, q2, q3, q4⟩ := hat
  have hr : r = (CC, T, N) := Option.some.inj (h1.symm.trans c1)
  subst hr
  have hKs := C.2.2.2.2.2.2.2.2.1
  have hap := va_apart (own := M.1.cls) (C.2.2.2.2.1) c4 ty0 c5 c6 hKs c1
  obtain ⟨hS, hfc, kC, hkC, hkind⟩ := hKs.1 _ _ c1
  obtain ⟨cf, kf, fi, fd, hi, hsl⟩ := hS j hj
  have hst := (u_facts hfc hkC (u_lays (C.2.2.2.2.1) c4 hj) hi).1
  have hbig : ∀ H' : Heap, H'[a]? = some (cell.setSlot fd.slot (cv v)) → H'.size = H.size → (∀ z, z ≠ a → H'[z]? = H[z]?) → W p l e R s m args below meth c H' (locs ++ [⟨a, fd.slot⟩]) cells slots (MQX D A Q below s R.cells R.slots) (F0 m (pc + 3) ls (st.map cv)) := by
    intro H' e1 e2 e3
    rw [hsl] at e1 ⊢
    have hk' : (hK h' a).1 = kd := by rw [F.1]; exact hk
    have hrep : Rep D h' H' := by
      refine W1.1.write e2 e3 F.1 F.2.1 (fun z hz => F.E _ hz) ?_
      rw [toE_obj hk' c3, F.map c8 hfj]
      exact ⟨_, c1, t_OB.to (V := updV (vp_V ((fidS (kd - 1)).map (fv h a))) j (cv v)) ⟨_, e1, q2, q3, t_set q4 hap hj (cv v)⟩ (fun i _ => vp_updV_set (by rw [List.length_map, c7]; exact hj) (cv v) i)⟩
    exact k p l e R s m args below meth c D A H' _ cells slots ls C Rm1 (W1.write hne e2 e3 F.1 hrep) hl
  have hlt : fd.slot < cell.slots.size := by rw [hsl]; exact k2_hasslot (q4 j hj)
  rcases hlink with ⟨w, hfin⟩ | ⟨⟨host, w⟩, hfin⟩ | ⟨w, hfin, hini, hdecl⟩
  · have hlay := C.2.2.2.2.1 _ (c4 _ (u_in_lay hj))
    unfold u_lay at hlay
    rw [if_neg (by rw [hfin]; decide)] at hlay
    have h6 := u_store hfc hkC hkind hlay hi hty hn hfit
    exact W.putK C.1 C.2.1 (f := fd) ⟨C.2.2.2.1, C.2.2.2.2.1 _ w, ⟨_, _, _, hi⟩, hst⟩ (by rw [q2]; exact h6) q1 q3 hlt rfl rfl hd hbig
  · have hlay := C.2.2.2.2.1 _ (c4 _ (u_in_lay hj))
    unfold u_lay at hlay
    rw [if_neg (by rw [hfin]; decide)] at hlay
    have h6 := u_store hfc hkC hkind hlay hi hty hn hfit
    exact va_WputK C.1 C.2.1 (f := fd) C.2.2.2.1 (C.2.2.2.2.2.2.2.2.word w args) hi hst (by rw [q2]; exact h6) q1 q3 hlt rfl rfl hd hbig
  · have hS6 := u_fits hfc hkC hkind (u_lays (C.2.2.2.2.1) c4 hj) hi hty hn hfit
    have hlay := C.2.2.2.2.1 _ (c4 _ (u_in_lay hj))
    unfold u_lay at hlay
    rw [if_pos hfin] at hlay
    have hcf : m.cls = cf := by
      obtain ⟨_, _, c', _, _, _, -, -, hf', -, -, -, hown2, -⟩ := Cond.laysFinal_spec hlay
      have e1 : c' = cf := by have := hi.symm.trans hf'; simp at this; exact this.1.symm
      rw [hdecl] at hown2
      rw [← e1]; exact Option.some.inj (C.2.2.2.1.symm.trans hown2)
    exact W.putFinK C.1 C.2.1 C.2.2.2.1 (C.2.2.2.2.1 _ w) hi hst hcf (C.2.2.2.2.2.2.2.1.trans hini) (by rw [q2]; exact hS6) q1 q3 hlt rfl rfl hd hbig
theorem go_putI {idx f kd a : Nat} {x : Int32} (q : Nat) (hd : decode M.2.1 pc = .ok (.putfield idx, 3)) (hq : pc + 3 = q) (hk : (hK h a).1 = kd) (hf : GP M.1.cls M.1.name idx f kd .int) (hlt : Nat.blt f 1000 = true) (k : AWP M d q L st (sFI h f a x) b Q) : AWP M d pc L (vI x :: vR (some a) :: st) h b Q :=
  go_put (v := vI x) q hd hq hk hf (FSet.I (by simpa [Nat.blt_eq] using hlt)) rfl rfl k
theorem go_putZ {idx f kd a : Nat} {x : Int32} (q : Nat) (hd : decode M.2.1 pc = .ok (.putfield idx, 3)) (hq : pc + 3 = q) (hk : (hK h a).1 = kd) (hf : GP M.1.cls M.1.name idx f kd .boolean) (hlt : Nat.blt f 1000 = true) (hx : x = 0 ∨ x = 1) (k : AWP M d q L st (sFI h f a x) b Q) : AWP M d pc L (vI x :: vR (some a) :: st) h b Q :=
  go_put (v := vI x) q hd hq hk hf (FSet.I (by simpa [Nat.blt_eq] using hlt)) (by rcases hx with rfl | rfl <;> rfl) (by rcases hx with rfl | rfl <;> rfl) k
theorem go_putR {idx f kd a : Nat} {r : Option Nat} {ty : FieldType} (q : Nat) (hd : decode M.2.1 pc = .ok (.putfield idx, 3)) (hq : pc + 3 = q) (hk : (hK h a).1 = kd) (hf : GP M.1.cls M.1.name idx f kd ty) (hlt : Nat.blt f 1000 = false) (ht : ty.isReference = true) (k : AWP M d q L st (sFR h f a r) b Q) : AWP M d pc L (vR r :: vR (some a) :: st) h b Q :=
  go_put (v := vR r) q hd hq hk hf (FSet.R (by intro z; rw [← Nat.blt_eq, hlt] at z; cases z)) (by cases ty <;> cases r <;> first | rfl | cases ht) (by cases ty <;> cases r <;> first | rfl | cases ht) k
end
/-! arrays -/
theorem va_at_i {D : va_G} {cl : List vw_C} {a n : Nat} {cA : ClassId} {f : Nat → Int32} {H : Heap} (h : va_at D cl (a, .inl (cA, n, .inl f)) H) : H[a]? = some (arrV cA n (fun j => .int (f j))) := h
theorem hAI_sAI (h : Hp) (a : Nat) (g : Nat → Int32) : hAI (sAI h a g) a = g := by simp [hAI, sAI, va_up]
theorem hAL_sAL (h : Hp) (a : Nat) (g : Nat → Int64) : hAL (sAL h a g) a = g := by simp [hAL, sAL, va_up]
theorem hAR_sAR (h : Hp) (a : Nat) (g : Nat → Option Nat) : hAR (sAR h a g) a = g := by simp [hAR, sAR, va_up]
theorem hAI_sAI_ne (h : Hp) {a b : Nat} (g : Nat → Int32) (hb : b ≠ a) : hAI (sAI h a g) b = hAI h b := by simp [hAI, sAI, va_up, hb]
theorem hAL_sAL_ne (h : Hp) {a b : Nat} (g : Nat → Int64) (hb : b ≠ a) : hAL (sAL h a g) b = hAL h b := by simp [hAL, sAL, va_up, hb]
theorem hAR_sAR_ne (h : Hp) {a b : Nat} (g : Nat → Option Nat) (hb : b ≠ a) : hAR (sAR h a g) b = hAR h b := by simp [hAR, sAR, va_up, hb]
theorem sAI_E (dA : Nat → ClassId) {h : Hp} {a b : Nat} {g : Nat → Int32} (hb : b ≠ a) : toE dA (sAI h a g) b = toE dA h b := by
  unfold toE
  rw [hAI_sAI_ne h g hb]
  rfl
theorem sAL_E (dA : Nat → ClassId) {h : Hp} {a b : Nat} {g : Nat → Int64} (hb : b ≠ a) : toE dA (sAL h a g) b = toE dA h b := by
  unfold toE
  rw [hAL_sAL_ne h g hb]
  rfl
theorem sAR_E (dA : Nat → ClassId) {h : Hp} {a b : Nat} {g : Nat → Option Nat} (hb : b ≠ a) : toE dA (sAR h a g) b = toE dA h b := by
  unfold toE
  rw [hAR_sAR_ne h g hb]
  rfl
section
variable {M : MI} {d pc : Nat} {L st : List AV} {h : Hp} {b : Nat × Nat} {Q : Rs → Hp → Prop}
theorem go_iaload {a n : Nat} {i : Int32} (q : Nat) (hd : decode M.2.1 pc = .ok (.iaload, 1)) (hq : pc + 1 = q) (hk : hK h a = (103, n)) (hi : vp_in i n) (k : AWP M d q L (vI (hAI h a i.toNatClampNeg) :: st) h b Q) : AWP M d pc L (vI i :: vR (some a) :: st) h b Q := by
  subst hq
  intro p l e R s m args below meth c D A H locs cells slots ls C Rm1 W1 hl
  have hP := W1.1.one (a := a) (by rw [hk]; simp)
  rw [toE_i hk (by decide) (by decide)] at hP
  exact va_iald C.1 C.2.1 C.2.2.2.2.2.2.2.2.1 hP 0 3 rfl rfl hi hd (k p l e R s m args below meth c D A H locs cells slots ls C Rm1 W1 hl)
theorem go_baloadZ {a n : Nat} {i : Int32} (q : Nat) (hd : decode M.2.1 pc = .ok (.baload, 1)) (hq : pc + 1 = q) (hk : hK h a = (100, n)) (hi : vp_in i n) (k : AWP M d q L (vI (hAI h a i.toNatClampNeg) :: st) h b Q) : AWP M d pc L (vI i :: vR (some a) :: st) h b Q := by
  subst hq
  intro p l e R s m args below meth c D A H locs cells slots ls C Rm1 W1 hl
  have hP := W1.1.one (a := a) (by rw [hk]; simp)
  rw [toE_i hk (by decide) (by decide)] at hP
  exact va_zald C.1 C.2.1 C.2.2.2.2.2.2.2.2.1 hP 0 0 rfl rfl hi hd (k p l e R s m args below meth c D A H locs cells slots ls C Rm1 W1 hl)
theorem go_baloadB {a n : Nat} {i : Int32} (q : Nat) (hd : decode M.2.1 pc = .ok (.baload, 1)) (hq : pc + 1 = q) (hk : hK h a = (101, n)) (hi : vp_in i n) (k : AWP M d q L (vI (hAI h a i.toNatClampNeg) :: st) h b Q) : AWP M d pc L (vI i :: vR (some a) :: st) h b Q := by
  subst hq
  intro p l e R s m args below meth c D A H locs cells slots ls C Rm1 W1 hl
  have hP := W1.1.one (a := a) (by rw [hk]; simp)
  rw [toE_i hk (by decide) (by decide)] at hP
  exact va_bald C.1 C.2.1 C.2.2.2.2.2.2.2.2.1 hP 0 1 rfl rfl hi hd (k p l e R s m args below meth c D A H locs cells slots ls C Rm1 W1 hl)
theorem go_saload {a n : Nat} {i : Int32} (q : Nat) (hd : decode M.2.1 pc = .ok (.saload, 1)) (hq : pc + 1 = q) (hk : hK h a = (102, n)) (hi : vp_in i n) (k : AWP M d q L (vI (hAI h a i.toNatClampNeg) :: st) h b Q) : AWP M d pc L (vI i :: vR (some a) :: st) h b Q := by
  subst hq
  intro p l e R s m args below meth c D A H locs cells slots ls C Rm1 W1 hl
  have hP := W1.1.one (a := a) (by rw [hk]; simp)
  rw [toE_i hk (by decide) (by decide)] at hP
  exact va_sald C.1 C.2.1 C.2.2.2.2.2.2.2.2.1 hP 0 2 rfl rfl hi hd (k p l e R s m args below meth c D A H locs cells slots ls C Rm1 W1 hl)
theorem go_laload {a n : Nat} {i : Int32} (q : Nat) (hd : decode M.2.1 pc = .ok (.laload, 1)) (hq : pc + 1 = q) (hk : hK h a = (104, n)) (hi : vp_in i n) (k : AWP M d q L (vJ (hAL h a i.toNatClampNeg) :: st) h b Q) : AWP M d pc L (vI i :: vR (some a) :: st) h b Q := by
  subst hq
  intro p l e R s m args below meth c D A H locs cells slots ls C Rm1 W1 hl
  have hP := W1.1.one (a := a) (by rw [hk]; simp)
  rw [toE_l hk] at hP
  exact va_lald C.1 C.2.1 C.2.2.2.2.2.2.2.2.1 hP 0 4 rfl rfl hi hd (k p l e R s m args below meth c D A H locs cells slots ls C Rm1 W1 hl)
theorem go_aaloadPart {a n : Nat} {i : Int32} (q : Nat) (hd : decode M.2.1 pc = .ok (.aaload, 1)) (hq : pc + 1 = q) (hk : hK h a = (105, n)) (hi : vp_in i n) (k : AWP M d q L (vR (hAR h a i.toNatClampNeg) :: st) h b Q) : AWP M d pc L (vI i :: vR (some a) :: st) h b Q := by
  subst hq
  intro p l e R s m args below meth c D A H locs cells slots ls C Rm1 W1 hl
  have hP := W1.1.one (a := a) (by rw [hk]; simp)
  rw [toE_r hk (by decide)] at hP
  exact va_aldq C.1 C.2.1 C.2.2.2.2.2.2.2.2.1 hP 0 5 rfl rfl hi hd (k p l e R s m args below meth c D A H locs cells slots ls C Rm1 W1 hl)
theorem go_aaloadShape {a n : Nat} {i : Int32} (q : Nat) (hd : decode M.2.1 pc = .ok (.aaload, 1)) (hq : pc + 1 = q) (hk : hK h a = (106, n)) (hi : vp_in i n) (k : AWP M d q L (vR (hAR h a i.toNatClampNeg) :: st) h b Q) : AWP M d pc L (vI i :: vR (some a) :: st) h b Q := by
  subst hq
  intro p l e R s m args below meth c D A H locs cells slots ls C Rm1 W1 hl
  have hP := W1.1.one (a := a) (by rw [hk]; simp)
  rw [toE_r hk (by decide)] at hP
  exact va_aldq C.1 C.2.1 C.2.2.2.2.2.2.2.2.1 hP 0 6 rfl rfl hi hd (k p l e R s m args below meth c D A H locs cells slots ls C Rm1 W1 hl)
theorem go_aaloadPiece {a n : Nat} {i : Int32} (q : Nat) (hd : decode M.2.1 pc = .ok (.aaload, 1)) (hq : pc + 1 = q) (hk : hK h a = (107, n)) (hi : vp_in i n) (k : AWP M d q L (vR (hAR h a i.toNatClampNeg) :: st) h b Q) : AWP M d pc L (vI i :: vR (some a) :: st) h b Q := by
  subst hq
  intro p l e R s m args below meth c D A H locs cells slots ls C Rm1 W1 hl
  have hP := W1.1.one (a := a) (by rw [hk]; simp)
  rw [toE_r hk (by decide)] at hP
  exact va_aldq C.1 C.2.1 C.2.2.2.2.2.2.2.2.1 hP 0 7 rfl rfl hi hd (k p l e R s m args below meth c D A H locs cells slots ls C Rm1 W1 hl)
theorem go_aaloadAct {a n : Nat} {i : Int32} (q : Nat) (hd : decode M.2.1 pc = .ok (.aaload, 1)) (hq : pc + 1 = q) (hk : hK h a = (108, n)) (hi : vp_in i n) (k : AWP M d q L (vR (hAR h a i.toNatClampNeg) :: st) h b Q) : AWP M d pc L (vI i :: vR (some a) :: st) h b Q := by
  subst hq
  intro p l e R s m args below meth c D A H locs cells slots ls C Rm1 W1 hl
  have hP := W1.1.one (a := a) (by rw [hk]; simp)
  rw [toE_r hk (by decide)] at hP
  exact va_aldq C.1 C.2.1 C.2.2.2.2.2.2.2.2.1 hP 0 8 rfl rfl hi hd (k p l e R s m args below meth c D A H locs cells slots ls C Rm1 W1 hl)
theorem go_aaloadObject {a n : Nat} {i : Int32} (q : Nat) (hd : decode M.2.1 pc = .ok (.aaload, 1)) (hq : pc + 1 = q) (hk : hK h a = (109, n)) (hi : vp_in i n) (k : AWP M d q L (vR (hAR h a i.toNatClampNeg) :: st) h b Q) : AWP M d pc L (vI i :: vR (some a) :: st) h b Q := by
  subst hq
  intro p l e R s m args below meth c D A H locs cells slots ls C Rm1 W1 hl
  have hP := W1.1.one (a := a) (by rw [hk]; simp)
  rw [toE_r hk (by decide)] at hP
  exact va_aldq C.1 C.2.1 C.2.2.2.2.2.2.2.2.1 hP 0 9 rfl rfl hi hd (k p l e R s m args below meth c D A H locs cells slots ls C Rm1 W1 hl)
theorem go_iastore {a n : Nat} {i x : Int32} (q : Nat) (hd : decode M.2.1 pc = .ok (.iastore, 1)) (hq : pc + 1 = q) (hk : hK h a = (103, n)) (hi : vp_in i n) (k : AWP M d q L st (sAI h a (upd (hAI h a) i.toNatClampNeg x)) b Q) : AWP M d pc L (vI x :: vI i :: vR (some a) :: st) h b Q := by
  subst hq
  intro p l e R s m args below meth c D A H locs cells slots ls C Rm1 W1 hl
  have hne : (hK h a).1 ≠ 0 := by rw [hk]; simp
  have hat := W1.1.2 a hne
  rw [toE_i hk (by decide) (by decide)] at hat
  have hc : H[a]? = some (arrV (D.2 3) n (fun j => .int (hAI h a j))) := hat
  refine W.iast C.1 C.2.1 hc ((C.2.2.2.2.2.2.2.2.1.2 3 _ rfl).1 n (fun j => .int (hAI h a j))) (fun z => by cases z) (by rw [arrV_size]; exact hi) rfl rfl hd fun H1 e0 z oq => ?_
  have hrep : Rep D (sAI h a (upd (hAI h a) i.toNatClampNeg x)) H1 := by
    refine W1.1.write z oq rfl rfl (fun y hy => sAI_E _ hy) ?_
    rw [toE_i (h := sAI h a _) (n := n) (t := 103) hk (by decide) (by decide)]
    show H1[a]? = some (arrV (D.2 3) n (fun j => .int (hAI (sAI h a (upd (hAI h a) i.toNatClampNeg x)) a j)))
    rw [e0, arrV_store, hAI_sAI]
    congr 2
    funext y
    by_cases hy : y = i.toNatClampNeg
    · subst hy
      simp [updV, upd, vp_nar, narrow]
    · simp [updV, upd, hy]
  exact k p l e R s m args below meth c D A H1 _ cells slots ls C Rm1 (W1.write hne z oq rfl hrep) hl
theorem go_bastoreZ {a n : Nat} {i x : Int32} (q : Nat) (hd : decode M.2.1 pc = .ok (.bastore, 1)) (hq : pc + 1 = q) (hk : hK h a = (100, n)) (hi : vp_in i n) (k : AWP M d q L st (sAI h a (upd (hAI h a) i.toNatClampNeg (vp_nar .boolean x))) b Q) : AWP M d pc L (vI x :: vI i :: vR (some a) :: st) h b Q := by
  subst hq
  intro p l e R s m args below meth c D A H locs cells slots ls C Rm1 W1 hl
  have hne : (hK h a).1 ≠ 0 := by rw [hk]; simp
  have hat := W1.1.2 a hne
  rw [toE_i hk (by decide) (by decide)] at hat
  have hc : H[a]? = some (arrV (D.2 0) n (fun j => .int (hAI h a j))) := hat
  refine W.zast C.1 C.2.1 hc ((C.2.2.2.2.2.2.2.2.1.2 0 _ rfl).1 n (fun j => .int (hAI h a j))) (fun z => by cases z) (by rw [arrV_size]; exact hi) rfl rfl hd fun H1 e0 z oq => ?_
  have hrep : Rep D (sAI h a (upd (hAI h a) i.toNatClampNeg (vp_nar .boolean x))) H1 := by
    refine W1.1.write z oq rfl rfl (fun y hy => sAI_E _ hy) ?_
    rw [toE_i (h := sAI h a _) (n := n) (t := 100) hk (by decide) (by decide)]
    show H1[a]? = some (arrV (D.2 0) n (fun j => .int (hAI (sAI h a (upd (hAI h a) i.toNatClampNeg (vp_nar .boolean x))) a j)))
    rw [e0, arrV_store, hAI_sAI]
    congr 2
    funext y
    by_cases hy : y = i.toNatClampNeg
    · subst hy
      simp [updV, upd, vp_nar, narrow]
    · simp [updV, upd, hy]
  exact k p l e R s m args below meth c D A H1 _ cells slots ls C Rm1 (W1.write hne z oq rfl hrep) hl
theorem go_bastoreB {a n : Nat} {i x : Int32} (q : Nat) (hd : decode M.2.1 pc = .ok (.bastore, 1)) (hq : pc + 1 = q) (hk : hK h a = (101, n)) (hi : vp_in i n) (k : AWP M d q L st (sAI h a (upd (hAI h a) i.toNatClampNeg (vp_nar .byte x))) b Q) : AWP M d pc L (vI x :: vI i :: vR (some a) :: st) h b Q := by
  subst hq
  intro p l e R s m args below meth c D A H locs cells slots ls C Rm1 W1 hl
  have hne : (hK h a).1 ≠ 0 := by rw [hk]; simp
  have hat := W1.1.2 a hne
  rw [toE_i hk (by decide) (by decide)] at hat
  have hc : H[a]? = some (arrV (D.2 1) n (fun j => .int (hAI h a j))) := hat
  refine W.bast C.1 C.2.1 hc ((C.2.2.2.2.2.2.2.2.1.2 1 _ rfl).1 n (fun j => .int (hAI h a j))) (fun z => by cases z) (by rw [arrV_size]; exact hi) rfl rfl hd fun H1 e0 z oq => ?_
  have hrep : Rep D (sAI h a (upd (hAI h a) i.toNatClampNeg (vp_nar .byte x))) H1 := by
    refine W1.1.write z oq rfl rfl (fun y hy => sAI_E _ hy) ?_
    rw [toE_i (h := sAI h a _) (n := n) (t := 101) hk (by decide) (by decide)]
    show H1[a]? = some (arrV (D.2 1) n (fun j => .int (hAI (sAI h a (upd (hAI h a) i.toNatClampNeg (vp_nar .byte x))) a j)))
    rw [e0, arrV_store, hAI_sAI]
    congr 2
    funext y
    by_cases hy : y = i.toNatClampNeg
    · subst hy
      simp [updV, upd, vp_nar, narrow]
    · simp [updV, upd, hy]
  exact k p l e R s m args below meth c D A H1 _ cells slots ls C Rm1 (W1.write hne z oq rfl hrep) hl
theorem go_sastore {a n : Nat} {i x : Int32} (q : Nat) (hd : decode M.2.1 pc = .ok (.sastore, 1)) (hq : pc + 1 = q) (hk : hK h a = (102, n)) (hi : vp_in i n) (k : AWP M d q L st (sAI h a (upd (hAI h a) i.toNatClampNeg (vp_nar .short x))) b Q) : AWP M d pc L (vI x :: vI i :: vR (some a) :: st) h b Q := by
  subst hq
  intro p l e R s m args below meth c D A H locs cells slots ls C Rm1 W1 hl
  have hne : (hK h a).1 ≠ 0 := by rw [hk]; simp
  have hat := W1.1.2 a hne
  rw [toE_i hk (by decide) (by decide)] at hat
  have hc : H[a]? = some (arrV (D.2 2) n (fun j => .int (hAI h a j))) := hat
  refine W.sast C.1 C.2.1 hc ((C.2.2.2.2.2.2.2.2.1.2 2 _ rfl).1 n (fun j => .int (hAI h a j))) (fun z => by cases z) (by rw [arrV_size]; exact hi) rfl rfl hd fun H1 e0 z oq => ?_
  have hrep : Rep D (sAI h a (upd (hAI h a) i.toNatClampNeg (vp_nar .short x))) H1 := by
    refine W1.1.write z oq rfl rfl (fun y hy => sAI_E _ hy) ?_
    rw [toE_i (h := sAI h a _) (n := n) (t := 102) hk (by decide) (by decide)]
    show H1[a]? = some (arrV (D.2 2) n (fun j => .int (hAI (sAI h a (upd (hAI h a) i.toNatClampNeg (vp_nar .short x))) a j)))
    rw [e0, arrV_store, hAI_sAI]
    congr 2
    funext y
    by_cases hy : y = i.toNatClampNeg
    · subst hy
      simp [updV, upd, vp_nar, narrow]
    · simp [updV, upd, hy]
  exact k p l e R s m args below meth c D A H1 _ cells slots ls C Rm1 (W1.write hne z oq rfl hrep) hl
theorem go_lastore {a n : Nat} {i : Int32} {x : Int64} (q : Nat) (hd : decode M.2.1 pc = .ok (.lastore, 1)) (hq : pc + 1 = q) (hk : hK h a = (104, n)) (hi : vp_in i n) (k : AWP M d q L st (sAL h a (vp_updL (hAL h a) i.toNatClampNeg x)) b Q) : AWP M d pc L (vJ x :: vI i :: vR (some a) :: st) h b Q := by
  subst hq
  intro p l e R s m args below meth c D A H locs cells slots ls C Rm1 W1 hl
  have hne : (hK h a).1 ≠ 0 := by rw [hk]; simp
  have hat := W1.1.2 a hne
  rw [toE_l hk] at hat
  have hc : H[a]? = some (arrV (D.2 4) n (fun j => .long (hAL h a j))) := hat
  refine W.last C.1 C.2.1 hc ((C.2.2.2.2.2.2.2.2.1.2 4 _ rfl).1 n (fun j => .long (hAL h a j))) (fun z => by cases z) (by rw [arrV_size]; exact hi) rfl rfl hd fun H1 e0 z oq => ?_
  have hrep : Rep D (sAL h a (vp_updL (hAL h a) i.toNatClampNeg x)) H1 := by
    refine W1.1.write z oq rfl rfl (fun y hy => sAL_E _ hy) ?_
    rw [toE_l (h := sAL h a _) (n := n) hk]
    show H1[a]? = some (arrV (D.2 4) n (fun j => .long (hAL (sAL h a (vp_updL (hAL h a) i.toNatClampNeg x)) a j)))
    rw [e0, arrV_store, hAL_sAL]
    congr 2
    funext y
    by_cases hy : y = i.toNatClampNeg
    · subst hy
      simp [updV, vp_updL]
    · simp [updV, vp_updL, hy]
  exact k p l e R s m args below meth c D A H1 _ cells slots ls C Rm1 (W1.write hne z oq rfl hrep) hl
end
