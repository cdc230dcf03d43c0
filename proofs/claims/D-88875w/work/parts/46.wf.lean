/-! WHAT ALWAYS HOLDS OF THE PLAIN STATE -/
def WSh (t : St) : Prop := ∀ s < ns t, ∀ c < nc t s, bt (hv t (6 * s + c)) 1 9 = true ∧ bt (pd t (6 * s + c)) 0 9 = true ∧ bt (wg t (6 * s + c)) 0 9 = true ∧ (hl t (6 * s + c) = 0 ∨ hl t (6 * s + c) = 1)
def WPc (t : St) : Prop := ∀ s < ns t, ∀ a < 6, ∀ b < 6, bo t (ix s a b) = bo t (ix s b a) ∧ sf t (ix s a b) = sf t (ix s b a) ∧ ck t (ix s a b) = ck t (ix s b a) ∧ (bo t (ix s a b) ≠ 0 → a < nc t s ∧ a ≠ b ∧ bt (sf t (ix s a b)) 1 9 = true ∧ 0 ≤ (ck t (ix s a b)).toInt ∧ (ck t (ix s a b)).toInt ≤ (sf t (ix s a b)).toInt ∧ bo t (ix s a b) ≤ nb t ∧ (li t (bo t (ix s a b) - 1) = ix s a b + 1 ∨ li t (bo t (ix s a b) - 1) = ix s b a + 1))
def WBo (t : St) : Prop := ∀ b < nb t, li t b ≠ 0 → bk t b = 1 ∧ bo t (li t b - 1) = b + 1
def WPn (t : St) : Prop := ∀ s < ns t, prsN t s 6 = (PL t s).length
def WJo (t : St) : Prop := ∀ s < ns t, jo t s = -1 ∨ bt (jo t s) 0 (ns t - 1) = true ∧ bt (jt t s) 0 (ns t - 1) = true
def WTp (t : St) : Prop := ∀ i < tl t, bt (tp t i) (-128) 127 = true
/-- an act of a corner -/
def WA1 (t : St) (k : Nat) : Prop := (ao t k = 0 ∨ ao t k = 1 ∨ ao t k = 2 ∨ ao t k = 5) → (∃ s c, s < ns t ∧ c < nc t s ∧ aa t k = 6 * s + c) ∧
  (ao t k < 2 → bt (be t k) 0 9 = true ∧ bt (bh t k) 0 9 = true) ∧ (ao t k = 2 → (be t k = 0 ∨ be t k = 1) ∧ (bh t k = 0 ∨ bh t k = 1)) ∧ (ao t k = 5 → bt (be t k) 1 9 = true ∧ bt (bh t k) 1 9 = true)
/-- the other order of a place -/
def mir (p : Nat) : Nat := ix (p / 36) (p % 6) (p / 6 % 6)
/-- the pieces' stiffs and cracks along the acts -/
def WA2 (t : St) (T : Nat → Nat → Int32 × Int32) : Prop :=
  (∀ p < 36 * ns t, bo t p ≠ 0 → T (dn t) p = (sf t p, ck t p)) ∧ (∀ k ≤ dn t + ud t, ∀ p < 36 * ns t, bo t p ≠ 0 → bt (T k p).1 1 9 = true ∧ 0 ≤ (T k p).2.toInt ∧ (T k p).2.toInt ≤ (T k p).1.toInt) ∧
  (∀ k < dn t + ud t, (ao t k ≠ 3 → ao t k ≠ 4 → T (k + 1) = T k) ∧ (ao t k = 3 ∨ ao t k = 4 → bo t (aa t k) ≠ 0 ∧ ∀ p < 36 * ns t, bo t p ≠ 0 → if p = aa t k ∨ p = mir (aa t k) then (ao t k = 3 → T k p = ((T k p).1, be t k) ∧ T (k + 1) p = ((T k p).1, bh t k)) ∧ (ao t k = 4 → T k p = (be t k, cb t k) ∧ T (k + 1) p = (bh t k, mnI (cb t k) (bh t k))) else T (k + 1) p = T k p))
def WAc (t : St) : Prop := (∀ k < dn t + ud t, WA1 t k) ∧ ∃ T, WA2 t T
def WPl (t : St) : Prop := (wm t ≠ 0 → pm t ≠ 0) ∧ (pm t ≠ 0 → ps t < ns t) ∧ (∀ k < pm t, pa t k < nc t (ps t) ∧ (pb t k = -1 ∨ ∃ b, b < nc t (ps t) ∧ pb t k = nI b ∧ has t (ps t) (pa t k) b = true)) ∧ (∀ k < pm t, ∀ j < pm t, k ≠ j → samP t (nI (pa t k)) (pb t k) j = false) ∧ (∀ k < wm t, bt (wb t k) 1 9 = true ∧ bt (wi t k) 0 99 = true)
def WHe (t : St) : Prop := ∀ i < hm t, bt (hi t i) 0 99 = true
def WBl (t : St) : Prop := (∀ e < 4, bt (ea t e) (-1) 5 = true ∧ bt (ew t e) (-1) 5 = true) ∧ ∀ r < rm t, bt (rv t r) (-99) 99 = true
def WRt (t : St) : Prop := ∀ i < rt t, bt (ra t i) 1 9 = true ∧ bt (rb t i) 1 9 = true
def WSv (t : St) : Prop := ∀ s < 6, bt (ho t s) (-6) (nb t - 1) = true
def WF (t : St) : Prop := Bd t ∧ WSh t ∧ WPc t ∧ WBo t ∧ WPn t ∧ WJo t ∧ WTp t ∧ WAc t ∧ WPl t ∧ WHe t ∧ WBl t ∧ WRt t ∧ WSv t
theorem WF.Sh {t : St} (w : WF t) : WSh t := w.2.1
theorem WF.Pc {t : St} (w : WF t) : WPc t := w.2.2.1
theorem WF.Bo {t : St} (w : WF t) : WBo t := w.2.2.2.1
theorem WF.Pn {t : St} (w : WF t) : WPn t := w.2.2.2.2.1
theorem WF.Jo {t : St} (w : WF t) : WJo t := w.2.2.2.2.2.1
theorem WF.Tp {t : St} (w : WF t) : WTp t := w.2.2.2.2.2.2.1
theorem WF.Ac {t : St} (w : WF t) : WAc t := w.2.2.2.2.2.2.2.1
theorem WF.Pl {t : St} (w : WF t) : WPl t := w.2.2.2.2.2.2.2.2.1
theorem WF.He {t : St} (w : WF t) : WHe t := w.2.2.2.2.2.2.2.2.2.1
theorem WF.Bl {t : St} (w : WF t) : WBl t := w.2.2.2.2.2.2.2.2.2.2.1
theorem WF.Rt {t : St} (w : WF t) : WRt t := w.2.2.2.2.2.2.2.2.2.2.2.1
theorem WF.Sv {t : St} (w : WF t) : WSv t := w.2.2.2.2.2.2.2.2.2.2.2.2
theorem WF.hd {t : St} (w : WF t) : ∀ k < ns t, ∀ i < 6, has t k i i = false := by
  intro k hk i hi
  rw [has, decide_eq_false_iff_not]
  intro q
  exact ((w.Pc k hk i hi i hi).2.2.2 (by omega)).2.1 rfl
theorem WF.hl2 {t : St} (w : WF t) : ∀ k < ns t, ∀ c < nc t k, hl t (6 * k + c) = 0 ∨ hl t (6 * k + c) = 1 := fun k hk c hc => (w.Sh k hk c hc).2.2.2
theorem ix_6 {s a b : Nat} (ha : a < 6) (hb : b < 6) : ix s a b / 36 = s ∧ ix s a b / 6 % 6 = a ∧ ix s a b % 6 = b := by unfold ix; omega
theorem WF.mirb {t : St} (w : WF t) {s a b : Nat} (hs : s < ns t) (ha : a < 6) (hb : b < 6) : bo t (ix (ix s a b / 36) (ix s a b % 6) (ix s a b / 6 % 6)) = bo t (ix s a b) := by
  obtain ⟨e1, e2, e3⟩ := ix_6 (s := s) ha hb
  rw [e1, e2, e3]
  exact (w.Pc s hs b hb a ha).1
