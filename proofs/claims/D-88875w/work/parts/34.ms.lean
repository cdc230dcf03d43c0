/-! THE MODEL HOLDS THE PLAIN STATE -/
def AG (h h' : Hp) (o : Nat) (F A : List Nat) : Prop := (∀ f ∈ F, hFI h' f o = hFI h f o) ∧ ∀ k ∈ A, hAI h' (o + k) = hAI h (o + k)
theorem AG.rfl' {h : Hp} {o : Nat} {F A : List Nat} : AG h h o F A := ⟨fun _ _ => rfl, fun _ _ => rfl⟩
theorem AG.tr {h h1 h2 : Hp} {o : Nat} {F A : List Nat} (a : AG h h1 o F A) (b : AG h1 h2 o F A) : AG h h2 o F A := ⟨fun f q => (b.1 f q).trans (a.1 f q), fun k q => (b.2 k q).trans (a.2 k q)⟩
theorem AG.sub {h h' : Hp} {o : Nat} {F A F' A' : List Nat} (a : AG h h' o F A) (x : F'.all (fun f => F.contains f) = true) (y : A'.all (fun f => A.contains f) = true) : AG h h' o F' A' := by
  refine ⟨fun f q => a.1 f ?_, fun f q => a.2 f ?_⟩
  · have := List.all_eq_true.mp x f q; simpa using this
  · have := List.all_eq_true.mp y f q; simpa using this
theorem AG.oF {h : Hp} {o f : Nat} {v : Int32} {F A : List Nat} (x : F.contains f = false) : AG h (sFI h f o v) o F A := by
  refine ⟨fun g q => ?_, fun k _ => rfl⟩
  have : g ≠ f := by rintro rfl; simp at x; exact x q
  simp [hFI, sFI, up2, this]
theorem AG.oA {h : Hp} {o k : Nat} {v : Nat → Int32} {F A : List Nat} (x : A.contains k = false) : AG h (sAI h (o + k) v) o F A := by
  refine ⟨fun g q => rfl, fun j q => ?_⟩
  have : j ≠ k := by rintro rfl; simp at x; exact x q
  rw [hAI_sAI_ne _ _ (by omega)]
theorem AG.oL {h : Hp} {a o : Nat} {v : Nat → Int64} {F A : List Nat} : AG h (sAL h a v) o F A := ⟨fun g q => rfl, fun j q => rfl⟩
theorem MO_sFI {h : Hp} {o f a : Nat} {v : Int32} (m : MO h o) : MO (sFI h f a v) o := m
theorem MO_sAI {h : Hp} {o a : Nat} {v : Nat → Int32} (m : MO h o) : MO (sAI h a v) o := m
theorem MO_sAL {h : Hp} {o a : Nat} {v : Nat → Int64} (m : MO h o) : MO (sAL h a v) o := m
theorem hFI_s {h : Hp} {f a : Nat} {v : Int32} : hFI (sFI h f a v) f a = v := by simp [hFI, sFI, up2]
theorem hFI_sn {h : Hp} {f g a b : Nat} {v : Int32} (q : g ≠ f) : hFI (sFI h f a v) g b = hFI h g b := by simp [hFI, sFI, up2, q]
theorem hFI_sA {h : Hp} {f a b : Nat} {v : Nat → Int32} : hFI (sAI h b v) f a = hFI h f a := rfl
theorem hFI_sL {h : Hp} {f a b : Nat} {v : Nat → Int64} : hFI (sAL h b v) f a = hFI h f a := rfl
theorem hAI_sF {h : Hp} {f a b : Nat} {v : Int32} : hAI (sFI h f b v) a = hAI h a := rfl
theorem hAI_sL {h : Hp} {a b : Nat} {v : Nat → Int64} : hAI (sAL h b v) a = hAI h a := rfl
theorem hAL_sF {h : Hp} {f a b : Nat} {v : Int32} : hAL (sFI h f b v) a = hAL h a := rfl
theorem hAL_sA {h : Hp} {a b : Nat} {v : Nat → Int32} : hAL (sAI h b v) a = hAL h a := rfl
theorem hAI_so {h : Hp} {o j k : Nat} {v : Nat → Int32} (q : j ≠ k) : hAI (sAI h (o + k) v) (o + j) = hAI h (o + j) := hAI_sAI_ne _ _ (by omega)
theorem hAL_so {h : Hp} {o j k : Nat} {v : Nat → Int64} (q : j ≠ k) : hAL (sAL h (o + k) v) (o + j) = hAL h (o + j) := hAL_sAL_ne _ _ (by omega)
theorem upd_s {f : Nat → Int32} {i : Nat} {x : Int32} : upd f i x i = x := by simp [upd]
theorem upd_n {f : Nat → Int32} {i j : Nat} {x : Int32} (q : j ≠ i) : upd f i x j = f j := by simp [upd, q]
theorem updL_s {f : Nat → Int64} {i : Nat} {x : Int64} : vp_updL f i x i = x := by simp [vp_updL]
theorem updL_n {f : Nat → Int64} {i j : Nat} {x : Int64} (q : j ≠ i) : vp_updL f i x j = f j := by simp [vp_updL, q]
/-- one element written -/
def w1 (h : Hp) (a i : Nat) (v : Int32) : Hp := sAI h a (upd (hAI h a) i v)
def wL (h : Hp) (a i : Nat) (v : Int64) : Hp := sAL h a (vp_updL (hAL h a) i v)
theorem hAI_w1 {h : Hp} {a i : Nat} {v : Int32} {j : Nat} : hAI (w1 h a i v) a j = if j = i then v else hAI h a j := by rw [w1, hAI_sAI]; rfl
theorem hAI_wo {h : Hp} {o j k i : Nat} {v : Int32} (q : j ≠ k) : hAI (w1 h (o + k) i v) (o + j) = hAI h (o + j) := hAI_so q
theorem hFI_w1 {h : Hp} {f a b i : Nat} {v : Int32} : hFI (w1 h b i v) f a = hFI h f a := rfl
theorem hAL_w1 {h : Hp} {a b i : Nat} {v : Int32} : hAL (w1 h b i v) a = hAL h a := rfl
theorem hFI_wL {h : Hp} {f a b i : Nat} {v : Int64} : hFI (wL h b i v) f a = hFI h f a := rfl
theorem hAI_wL {h : Hp} {a b i : Nat} {v : Int64} : hAI (wL h b i v) a = hAI h a := rfl
theorem hAL_wL {h : Hp} {a i : Nat} {v : Int64} {j : Nat} : hAL (wL h a i v) a j = if j = i then v else hAL h a j := by rw [wL, hAL_sAL]; rfl
theorem hAL_wo {h : Hp} {o j k i : Nat} {v : Int64} (q : j ≠ k) : hAL (wL h (o + k) i v) (o + j) = hAL h (o + j) := hAL_so q
theorem AG.w {h : Hp} {o k i : Nat} {v : Int32} {F A : List Nat} (x : A.contains k = false) : AG h (w1 h (o + k) i v) o F A := AG.oA x
theorem AG.wl {h : Hp} {o a i : Nat} {v : Int64} {F A : List Nat} : AG h (wL h a i v) o F A := AG.oL
theorem MO_w1 {h : Hp} {o a i : Nat} {v : Int32} (m : MO h o) : MO (w1 h a i v) o := m
theorem MO_wL {h : Hp} {o a i : Nat} {v : Int64} (m : MO h o) : MO (wL h a i v) o := m
def MSh (h : Hp) (o : Nat) (t : St) : Prop := hFI h 401 o = nI (ns t) ∧ ((∀ s < ns t, hAI h (o + 1) s = nI (nc t s)) ∧ (∀ i < 6 * ns t, hAI h (o + 2) i = hv t i ∧ hAI h (o + 3) i = pd t i ∧ hAI h (o + 4) i = wg t i ∧ hAI h (o + 5) i = hl t i) ∧ (∀ i < 36 * ns t, hAI h (o + 6) i = sf t i ∧ hAI h (o + 7) i = ck t i ∧ hAI h (o + 8) i = nI (bo t i)) ∧ ∀ s < ns t, hAI h (o + 9) s = jo t s ∧ (0 ≤ jo t s → hAI h (o + 10) s = jt t s))
def MBo (h : Hp) (o : Nat) (t : St) : Prop := hFI h 412 o = nI (nb t) ∧ (∀ b < nb t, hAI h (o + 11) b = nI (bk t b) ∧ hAI h (o + 12) b = nI (li t b))
def MTp (h : Hp) (o : Nat) (t : St) : Prop := hFI h 416 o = nI (tl t) ∧ (∀ i < tl t, hAI h (o + 13) i = tp t i)
def MAc (h : Hp) (o : Nat) (t : St) : Prop := hFI h 424 o = nI (dn t) ∧ hFI h 425 o = nI (ud t) ∧ (∀ k < dn t + ud t, hAI h (o + 18) k = nI (ao t k) ∧ hAI h (o + 19) k = nI (aa t k) ∧ hAI h (o + 20) k = be t k ∧ hAI h (o + 21) k = bh t k ∧ hAI h (o + 22) k = cb t k)
def MPl (h : Hp) (o : Nat) (t : St) : Prop := hFI h 451 o = nI (pm t) ∧ hFI h 452 o = nI (ps t) ∧ hFI h 456 o = nI (wm t) ∧ ((∀ k < pm t, hAI h (o + 35) k = nI (pa t k) ∧ hAI h (o + 36) k = pb t k ∧ hAI h (o + 37) k = nI (po t k)) ∧ ∀ k < wm t, hAI h (o + 38) k = nI (wt t k) ∧ hAI h (o + 39) k = wb t k ∧ hAI h (o + 40) k = wi t k)
def MHe (h : Hp) (o : Nat) (t : St) : Prop := hFI h 465 o = nI (hm t) ∧ (∀ i < hm t, hAI h (o + 42) i = hi t i)
def MBl (h : Hp) (o : Nat) (t : St) : Prop := hFI h 471 o = nI (dp t) ∧ hFI h 474 o = nI (sp t) ∧ hFI h 479 o = nI (rm t) ∧ ((∀ e < 4, hAI h (o + 44) e = ea t e ∧ hAI h (o + 45) e = ew t e ∧ (0 ≤ ew t e → ∀ k < sp t, hAI h (o + 49) (200 * e + k) = ha t (200 * e + k))) ∧ ∀ r < rm t, hAI h (o + 50) r = nI (rc t r) ∧ hAI h (o + 51) r = rv t r ∧ hAI h (o + 52) r = nI (rw' t r))
def MRt (h : Hp) (o : Nat) (t : St) : Prop := hFI h 483 o = nI (rt t) ∧ (∀ i < rt t, hAI h (o + 53) i = ra t i ∧ hAI h (o + 54) i = rb t i)
def MTr (h : Hp) (o : Nat) (t : St) : Prop := hFI h 488 o = nI (tr t) ∧ (∀ i < 24, i < tr t → hAI h (o + 57) i = td t i)
def MSv (h : Hp) (o : Nat) (t : St) : Prop := (∀ s < 6, hAI h (o + 58) s = ho t s ∧ (ho t s < -1 → hAI h (o + 59) s = nI (sz t s) ∧ ∀ k < sz t s, hAL h (o + 60) (60 * s + k) = el t (60 * s + k)))
def MGs (h : Hp) (o g : Nat) : Prop := ∃ n, hFI h 442 o = nI n ∧ n + g < 2 ^ 31 - 1 ∧ ∀ i < 4096, ∃ k, k ≤ n ∧ hAI h (o + 31) i = nI k
theorem MSh.fr {h h' : Hp} {o : Nat} {t : St} (m : MSh h o t) (e : AG h h' o [401] [1, 2, 3, 4, 5, 6, 7, 8, 9, 10]) : MSh h' o t := by
  unfold MSh
  simp only [e.1 401 (by decide), e.2 1 (by decide), e.2 2 (by decide), e.2 3 (by decide), e.2 4 (by decide), e.2 5 (by decide), e.2 6 (by decide), e.2 7 (by decide), e.2 8 (by decide), e.2 9 (by decide), e.2 10 (by decide)]
  exact m
theorem MBo.fr {h h' : Hp} {o : Nat} {t : St} (m : MBo h o t) (e : AG h h' o [412] [11, 12]) : MBo h' o t := by
  unfold MBo
  simp only [e.1 412 (by decide), e.2 11 (by decide), e.2 12 (by decide)]
  exact m
theorem MTp.fr {h h' : Hp} {o : Nat} {t : St} (m : MTp h o t) (e : AG h h' o [416] [13]) : MTp h' o t := by
  unfold MTp
  simp only [e.1 416 (by decide), e.2 13 (by decide)]
  exact m
theorem MAc.fr {h h' : Hp} {o : Nat} {t : St} (m : MAc h o t) (e : AG h h' o [424, 425] [18, 19, 20, 21, 22]) : MAc h' o t := by
  unfold MAc
  simp only [e.1 424 (by decide), e.1 425 (by decide), e.2 18 (by decide), e.2 19 (by decide), e.2 20 (by decide), e.2 21 (by decide), e.2 22 (by decide)]
  exact m
theorem MPl.fr {h h' : Hp} {o : Nat} {t : St} (m : MPl h o t) (e : AG h h' o [451, 452, 456] [35, 36, 37, 38, 39, 40]) : MPl h' o t := by
  unfold MPl
  simp only [e.1 451 (by decide), e.1 452 (by decide), e.1 456 (by decide), e.2 35 (by decide), e.2 36 (by decide), e.2 37 (by decide), e.2 38 (by decide), e.2 39 (by decide), e.2 40 (by decide)]
  exact m
theorem MHe.fr {h h' : Hp} {o : Nat} {t : St} (m : MHe h o t) (e : AG h h' o [465] [42]) : MHe h' o t := by
  unfold MHe
  simp only [e.1 465 (by decide), e.2 42 (by decide)]
  exact m
theorem MBl.fr {h h' : Hp} {o : Nat} {t : St} (m : MBl h o t) (e : AG h h' o [471, 474, 479] [44, 45, 49, 50, 51, 52]) : MBl h' o t := by
  unfold MBl
  simp only [e.1 471 (by decide), e.1 474 (by decide), e.1 479 (by decide), e.2 44 (by decide), e.2 45 (by decide), e.2 49 (by decide), e.2 50 (by decide), e.2 51 (by decide), e.2 52 (by decide)]
  exact m
theorem MRt.fr {h h' : Hp} {o : Nat} {t : St} (m : MRt h o t) (e : AG h h' o [483] [53, 54]) : MRt h' o t := by
  unfold MRt
  simp only [e.1 483 (by decide), e.2 53 (by decide), e.2 54 (by decide)]
  exact m
theorem MTr.fr {h h' : Hp} {o : Nat} {t : St} (m : MTr h o t) (e : AG h h' o [488] [57]) : MTr h' o t := by
  unfold MTr
  simp only [e.1 488 (by decide), e.2 57 (by decide)]
  exact m
theorem MSv.fr {h h' : Hp} {o : Nat} {t : St} (m : MSv h o t) (e : AG h h' o [] [58, 59]) (el : hAL h' (o + 60) = hAL h (o + 60)) : MSv h' o t := by
  unfold MSv
  simp only [e.2 58 (by decide), e.2 59 (by decide), el]
  exact m
theorem MGs.fr {h h' : Hp} {o g : Nat} (m : MGs h o g) (e : AG h h' o [442] [31]) : MGs h' o g := by
  unfold MGs
  simp only [e.1 442 (by decide), e.2 31 (by decide)]
  exact m
theorem MGs.le {h : Hp} {o g g1 : Nat} (m : MGs h o g) (q : g1 ≤ g) : MGs h o g1 := by
  obtain ⟨n, a, b, c⟩ := m
  exact ⟨n, a, by omega, c⟩
/-- bounds that rows have -/
def Bd (t : St) : Prop := ns t ≤ 12 ∧ (∀ s < ns t, 1 ≤ nc t s ∧ nc t s ≤ 6) ∧ nb t ≤ 200 ∧ tl t ≤ 120 ∧ dn t + ud t ≤ 40 ∧ pm t ≤ 6 ∧ wm t ≤ 6 ∧ hm t ≤ 6 ∧ dp t ≤ 500 ∧ sp t ≤ 200 ∧ rm t ≤ 6 ∧ rt t ≤ 6 ∧ tr t ≤ 100 ∧ (∀ s < 6, ho t s < -1 → sz t s ≤ 60) ∧ (∀ i < 36 * ns t, bo t i ≤ 200) ∧ (∀ b < nb t, bk t b ≤ 5 ∧ li t b ≤ 36 * ns t) ∧ (∀ k < dn t + ud t, ao t k ≤ 5 ∧ aa t k < 36 * ns t) ∧ ps t ≤ 12 ∧ (∀ k < pm t, pa t k < 6 ∧ 1 ≤ po t k ∧ po t k ≤ 3) ∧ (∀ k < wm t, wt t k < 6) ∧ ∀ r < rm t, rc t r < 6 ∧ rw' t r ≤ 99
def MS (h : Hp) (o : Nat) (t : St) (g : Nat) : Prop := MO h o ∧ Bd t ∧ MSh h o t ∧ MBo h o t ∧ MTp h o t ∧ MAc h o t ∧ MPl h o t ∧ MHe h o t ∧ MBl h o t ∧ MRt h o t ∧ MTr h o t ∧ MSv h o t ∧ MGs h o g
theorem MS.Sh {h : Hp} {o : Nat} {t : St} {g : Nat} (m : MS h o t g) : MSh h o t := m.2.2.1
theorem MS.Bo {h : Hp} {o : Nat} {t : St} {g : Nat} (m : MS h o t g) : MBo h o t := m.2.2.2.1
theorem MS.Tp {h : Hp} {o : Nat} {t : St} {g : Nat} (m : MS h o t g) : MTp h o t := m.2.2.2.2.1
theorem MS.Ac {h : Hp} {o : Nat} {t : St} {g : Nat} (m : MS h o t g) : MAc h o t := m.2.2.2.2.2.1
theorem MS.Pl {h : Hp} {o : Nat} {t : St} {g : Nat} (m : MS h o t g) : MPl h o t := m.2.2.2.2.2.2.1
theorem MS.He {h : Hp} {o : Nat} {t : St} {g : Nat} (m : MS h o t g) : MHe h o t := m.2.2.2.2.2.2.2.1
theorem MS.Bl {h : Hp} {o : Nat} {t : St} {g : Nat} (m : MS h o t g) : MBl h o t := m.2.2.2.2.2.2.2.2.1
theorem MS.Rt {h : Hp} {o : Nat} {t : St} {g : Nat} (m : MS h o t g) : MRt h o t := m.2.2.2.2.2.2.2.2.2.1
theorem MS.Tr {h : Hp} {o : Nat} {t : St} {g : Nat} (m : MS h o t g) : MTr h o t := m.2.2.2.2.2.2.2.2.2.2.1
theorem MS.Sv {h : Hp} {o : Nat} {t : St} {g : Nat} (m : MS h o t g) : MSv h o t := m.2.2.2.2.2.2.2.2.2.2.2.1
theorem MS.Gs {h : Hp} {o : Nat} {t : St} {g : Nat} (m : MS h o t g) : MGs h o g := m.2.2.2.2.2.2.2.2.2.2.2.2
theorem MS.le {h : Hp} {o : Nat} {t : St} {g g1 : Nat} (m : MS h o t g) (q : g1 ≤ g) : MS h o t g1 := ⟨m.1, m.2.1, m.Sh, m.Bo, m.Tp, m.Ac, m.Pl, m.He, m.Bl, m.Rt, m.Tr, m.Sv, m.Gs.le q⟩
abbrev pF : List Nat := [401, 412, 416, 424, 425, 451, 452, 456, 465, 471, 474, 479, 483, 488, 442]
abbrev pK : List Nat := [1, 2, 3, 4, 5, 6, 7, 8, 9, 10, 11, 12, 13, 18, 19, 20, 21, 22, 35, 36, 37, 38, 39, 40, 42, 44, 45, 49, 50, 51, 52, 53, 54, 57, 58, 59, 31]
def PE (h h' : Hp) (o : Nat) : Prop := AG h h' o pF pK ∧ hAL h' (o + 60) = hAL h (o + 60) ∧ (MO h o → MO h' o)
theorem PE.rf {h : Hp} {o : Nat} : PE h h o := ⟨AG.rfl', rfl, id⟩
theorem PE.tr {h h1 h2 : Hp} {o : Nat} (a : PE h h1 o) (b : PE h1 h2 o) : PE h h2 o := ⟨a.1.tr b.1, b.2.1.trans a.2.1, fun m => b.2.2 (a.2.2 m)⟩
theorem PE.F {h : Hp} {o f : Nat} {v : Int32} (x : pF.contains f = false) : PE h (sFI h f o v) o := ⟨AG.oF x, rfl, MO_sFI⟩
theorem PE.A {h : Hp} {o k : Nat} {v : Nat → Int32} (x : pK.contains k = false) : PE h (sAI h (o + k) v) o := ⟨AG.oA x, rfl, MO_sAI⟩
theorem PE.w {h : Hp} {o k i : Nat} {v : Int32} (x : pK.contains k = false) : PE h (w1 h (o + k) i v) o := PE.A x
theorem PE.wl {h : Hp} {o k i : Nat} {v : Int64} (x : k ≠ 60) : PE h (wL h (o + k) i v) o := ⟨AG.oL, hAL_so (Ne.symm x), MO_sAL⟩
theorem PE.L {h : Hp} {o k : Nat} {v : Nat → Int64} (x : k ≠ 60) : PE h (sAL h (o + k) v) o := ⟨AG.oL, hAL_so (Ne.symm x), MO_sAL⟩
theorem MS.fr {h h' : Hp} {o : Nat} {t : St} {g : Nat} (m : MS h o t g) (e : PE h h' o) : MS h' o t g := ⟨e.2.2 m.1, m.2.1, m.Sh.fr (e.1.sub (by decide +kernel) (by decide +kernel)), m.Bo.fr (e.1.sub (by decide +kernel) (by decide +kernel)), m.Tp.fr (e.1.sub (by decide +kernel) (by decide +kernel)), m.Ac.fr (e.1.sub (by decide +kernel) (by decide +kernel)), m.Pl.fr (e.1.sub (by decide +kernel) (by decide +kernel)), m.He.fr (e.1.sub (by decide +kernel) (by decide +kernel)), m.Bl.fr (e.1.sub (by decide +kernel) (by decide +kernel)), m.Rt.fr (e.1.sub (by decide +kernel) (by decide +kernel)), m.Tr.fr (e.1.sub (by decide +kernel) (by decide +kernel)), m.Sv.fr (e.1.sub (by decide +kernel) (by decide +kernel)) e.2.1, m.Gs.fr (e.1.sub (by decide +kernel) (by decide +kernel))⟩
theorem MS.wSh {h h' : Hp} {o : Nat} {t t' : St} {g : Nat} (m : MS h o t g) (e : AG h h' o [412, 416, 424, 425, 451, 452, 456, 465, 471, 474, 479, 483, 488, 442] [11, 12, 13, 18, 19, 20, 21, 22, 35, 36, 37, 38, 39, 40, 42, 44, 45, 49, 50, 51, 52, 53, 54, 57, 58, 59, 31]) (el : hAL h' (o + 60) = hAL h (o + 60)) (mo : MO h' o) (bd : Bd t') (hx : MSh h' o t') (tr : (MBo h' o t ∧ MTp h' o t ∧ MAc h' o t ∧ MPl h' o t ∧ MHe h' o t ∧ MBl h' o t ∧ MRt h' o t ∧ MTr h' o t ∧ MSv h' o t) → (MBo h' o t' ∧ MTp h' o t' ∧ MAc h' o t' ∧ MPl h' o t' ∧ MHe h' o t' ∧ MBl h' o t' ∧ MRt h' o t' ∧ MTr h' o t' ∧ MSv h' o t')) : MS h' o t' g := by
  have r := tr ⟨m.Bo.fr (e.sub (by decide +kernel) (by decide +kernel)), m.Tp.fr (e.sub (by decide +kernel) (by decide +kernel)), m.Ac.fr (e.sub (by decide +kernel) (by decide +kernel)), m.Pl.fr (e.sub (by decide +kernel) (by decide +kernel)), m.He.fr (e.sub (by decide +kernel) (by decide +kernel)), m.Bl.fr (e.sub (by decide +kernel) (by decide +kernel)), m.Rt.fr (e.sub (by decide +kernel) (by decide +kernel)), m.Tr.fr (e.sub (by decide +kernel) (by decide +kernel)), m.Sv.fr (e.sub (by decide +kernel) (by decide +kernel)) el⟩
  exact ⟨mo, bd, hx, r.1, r.2.1, r.2.2.1, r.2.2.2.1, r.2.2.2.2.1, r.2.2.2.2.2.1, r.2.2.2.2.2.2.1, r.2.2.2.2.2.2.2.1, r.2.2.2.2.2.2.2.2, m.Gs.fr (e.sub (by decide +kernel) (by decide +kernel))⟩
theorem MS.wBo {h h' : Hp} {o : Nat} {t t' : St} {g : Nat} (m : MS h o t g) (e : AG h h' o [401, 416, 424, 425, 451, 452, 456, 465, 471, 474, 479, 483, 488, 442] [1, 2, 3, 4, 5, 6, 7, 8, 9, 10, 13, 18, 19, 20, 21, 22, 35, 36, 37, 38, 39, 40, 42, 44, 45, 49, 50, 51, 52, 53, 54, 57, 58, 59, 31]) (el : hAL h' (o + 60) = hAL h (o + 60)) (mo : MO h' o) (bd : Bd t') (hx : MBo h' o t') (tr : (MSh h' o t ∧ MTp h' o t ∧ MAc h' o t ∧ MPl h' o t ∧ MHe h' o t ∧ MBl h' o t ∧ MRt h' o t ∧ MTr h' o t ∧ MSv h' o t) → (MSh h' o t' ∧ MTp h' o t' ∧ MAc h' o t' ∧ MPl h' o t' ∧ MHe h' o t' ∧ MBl h' o t' ∧ MRt h' o t' ∧ MTr h' o t' ∧ MSv h' o t')) : MS h' o t' g := by
  have r := tr ⟨m.Sh.fr (e.sub (by decide +kernel) (by decide +kernel)), m.Tp.fr (e.sub (by decide +kernel) (by decide +kernel)), m.Ac.fr (e.sub (by decide +kernel) (by decide +kernel)), m.Pl.fr (e.sub (by decide +kernel) (by decide +kernel)), m.He.fr (e.sub (by decide +kernel) (by decide +kernel)), m.Bl.fr (e.sub (by decide +kernel) (by decide +kernel)), m.Rt.fr (e.sub (by decide +kernel) (by decide +kernel)), m.Tr.fr (e.sub (by decide +kernel) (by decide +kernel)), m.Sv.fr (e.sub (by decide +kernel) (by decide +kernel)) el⟩
  exact ⟨mo, bd, r.1, hx, r.2.1, r.2.2.1, r.2.2.2.1, r.2.2.2.2.1, r.2.2.2.2.2.1, r.2.2.2.2.2.2.1, r.2.2.2.2.2.2.2.1, r.2.2.2.2.2.2.2.2, m.Gs.fr (e.sub (by decide +kernel) (by decide +kernel))⟩
theorem MS.wTp {h h' : Hp} {o : Nat} {t t' : St} {g : Nat} (m : MS h o t g) (e : AG h h' o [401, 412, 424, 425, 451, 452, 456, 465, 471, 474, 479, 483, 488, 442] [1, 2, 3, 4, 5, 6, 7, 8, 9, 10, 11, 12, 18, 19, 20, 21, 22, 35, 36, 37, 38, 39, 40, 42, 44, 45, 49, 50, 51, 52, 53, 54, 57, 58, 59, 31]) (el : hAL h' (o + 60) = hAL h (o + 60)) (mo : MO h' o) (bd : Bd t') (hx : MTp h' o t') (tr : (MSh h' o t ∧ MBo h' o t ∧ MAc h' o t ∧ MPl h' o t ∧ MHe h' o t ∧ MBl h' o t ∧ MRt h' o t ∧ MTr h' o t ∧ MSv h' o t) → (MSh h' o t' ∧ MBo h' o t' ∧ MAc h' o t' ∧ MPl h' o t' ∧ MHe h' o t' ∧ MBl h' o t' ∧ MRt h' o t' ∧ MTr h' o t' ∧ MSv h' o t')) : MS h' o t' g := by
  have r := tr ⟨m.Sh.fr (e.sub (by decide +kernel) (by decide +kernel)), m.Bo.fr (e.sub (by decide +kernel) (by decide +kernel)), m.Ac.fr (e.sub (by decide +kernel) (by decide +kernel)), m.Pl.fr (e.sub (by decide +kernel) (by decide +kernel)), m.He.fr (e.sub (by decide +kernel) (by decide +kernel)), m.Bl.fr (e.sub (by decide +kernel) (by decide +kernel)), m.Rt.fr (e.sub (by decide +kernel) (by decide +kernel)), m.Tr.fr (e.sub (by decide +kernel) (by decide +kernel)), m.Sv.fr (e.sub (by decide +kernel) (by decide +kernel)) el⟩
  exact ⟨mo, bd, r.1, r.2.1, hx, r.2.2.1, r.2.2.2.1, r.2.2.2.2.1, r.2.2.2.2.2.1, r.2.2.2.2.2.2.1, r.2.2.2.2.2.2.2.1, r.2.2.2.2.2.2.2.2, m.Gs.fr (e.sub (by decide +kernel) (by decide +kernel))⟩
theorem MS.wAc {h h' : Hp} {o : Nat} {t t' : St} {g : Nat} (m : MS h o t g) (e : AG h h' o [401, 412, 416, 451, 452, 456, 465, 471, 474, 479, 483, 488, 442] [1, 2, 3, 4, 5, 6, 7, 8, 9, 10, 11, 12, 13, 35, 36, 37, 38, 39, 40, 42, 44, 45, 49, 50, 51, 52, 53, 54, 57, 58, 59, 31]) (el : hAL h' (o + 60) = hAL h (o + 60)) (mo : MO h' o) (bd : Bd t') (hx : MAc h' o t') (tr : (MSh h' o t ∧ MBo h' o t ∧ MTp h' o t ∧ MPl h' o t ∧ MHe h' o t ∧ MBl h' o t ∧ MRt h' o t ∧ MTr h' o t ∧ MSv h' o t) → (MSh h' o t' ∧ MBo h' o t' ∧ MTp h' o t' ∧ MPl h' o t' ∧ MHe h' o t' ∧ MBl h' o t' ∧ MRt h' o t' ∧ MTr h' o t' ∧ MSv h' o t')) : MS h' o t' g := by
  have r := tr ⟨m.Sh.fr (e.sub (by decide +kernel) (by decide +kernel)), m.Bo.fr (e.sub (by decide +kernel) (by decide +kernel)), m.Tp.fr (e.sub (by decide +kernel) (by decide +kernel)), m.Pl.fr (e.sub (by decide +kernel) (by decide +kernel)), m.He.fr (e.sub (by decide +kernel) (by decide +kernel)), m.Bl.fr (e.sub (by decide +kernel) (by decide +kernel)), m.Rt.fr (e.sub (by decide +kernel) (by decide +kernel)), m.Tr.fr (e.sub (by decide +kernel) (by decide +kernel)), m.Sv.fr (e.sub (by decide +kernel) (by decide +kernel)) el⟩
  exact ⟨mo, bd, r.1, r.2.1, r.2.2.1, hx, r.2.2.2.1, r.2.2.2.2.1, r.2.2.2.2.2.1, r.2.2.2.2.2.2.1, r.2.2.2.2.2.2.2.1, r.2.2.2.2.2.2.2.2, m.Gs.fr (e.sub (by decide +kernel) (by decide +kernel))⟩
theorem MS.wPl {h h' : Hp} {o : Nat} {t t' : St} {g : Nat} (m : MS h o t g) (e : AG h h' o [401, 412, 416, 424, 425, 465, 471, 474, 479, 483, 488, 442] [1, 2, 3, 4, 5, 6, 7, 8, 9, 10, 11, 12, 13, 18, 19, 20, 21, 22, 42, 44, 45, 49, 50, 51, 52, 53, 54, 57, 58, 59, 31]) (el : hAL h' (o + 60) = hAL h (o + 60)) (mo : MO h' o) (bd : Bd t') (hx : MPl h' o t') (tr : (MSh h' o t ∧ MBo h' o t ∧ MTp h' o t ∧ MAc h' o t ∧ MHe h' o t ∧ MBl h' o t ∧ MRt h' o t ∧ MTr h' o t ∧ MSv h' o t) → (MSh h' o t' ∧ MBo h' o t' ∧ MTp h' o t' ∧ MAc h' o t' ∧ MHe h' o t' ∧ MBl h' o t' ∧ MRt h' o t' ∧ MTr h' o t' ∧ MSv h' o t')) : MS h' o t' g := by
  have r := tr ⟨m.Sh.fr (e.sub (by decide +kernel) (by decide +kernel)), m.Bo.fr (e.sub (by decide +kernel) (by decide +kernel)), m.Tp.fr (e.sub (by decide +kernel) (by decide +kernel)), m.Ac.fr (e.sub (by decide +kernel) (by decide +kernel)), m.He.fr (e.sub (by decide +kernel) (by decide +kernel)), m.Bl.fr (e.sub (by decide +kernel) (by decide +kernel)), m.Rt.fr (e.sub (by decide +kernel) (by decide +kernel)), m.Tr.fr (e.sub (by decide +kernel) (by decide +kernel)), m.Sv.fr (e.sub (by decide +kernel) (by decide +kernel)) el⟩
  exact ⟨mo, bd, r.1, r.2.1, r.2.2.1, r.2.2.2.1, hx, r.2.2.2.2.1, r.2.2.2.2.2.1, r.2.2.2.2.2.2.1, r.2.2.2.2.2.2.2.1, r.2.2.2.2.2.2.2.2, m.Gs.fr (e.sub (by decide +kernel) (by decide +kernel))⟩
theorem MS.wHe {h h' : Hp} {o : Nat} {t t' : St} {g : Nat} (m : MS h o t g) (e : AG h h' o [401, 412, 416, 424, 425, 451, 452, 456, 471, 474, 479, 483, 488, 442] [1, 2, 3, 4, 5, 6, 7, 8, 9, 10, 11, 12, 13, 18, 19, 20, 21, 22, 35, 36, 37, 38, 39, 40, 44, 45, 49, 50, 51, 52, 53, 54, 57, 58, 59, 31]) (el : hAL h' (o + 60) = hAL h (o + 60)) (mo : MO h' o) (bd : Bd t') (hx : MHe h' o t') (tr : (MSh h' o t ∧ MBo h' o t ∧ MTp h' o t ∧ MAc h' o t ∧ MPl h' o t ∧ MBl h' o t ∧ MRt h' o t ∧ MTr h' o t ∧ MSv h' o t) → (MSh h' o t' ∧ MBo h' o t' ∧ MTp h' o t' ∧ MAc h' o t' ∧ MPl h' o t' ∧ MBl h' o t' ∧ MRt h' o t' ∧ MTr h' o t' ∧ MSv h' o t')) : MS h' o t' g := by
  have r := tr ⟨m.Sh.fr (e.sub (by decide +kernel) (by decide +kernel)), m.Bo.fr (e.sub (by decide +kernel) (by decide +kernel)), m.Tp.fr (e.sub (by decide +kernel) (by decide +kernel)), m.Ac.fr (e.sub (by decide +kernel) (by decide +kernel)), m.Pl.fr (e.sub (by decide +kernel) (by decide +kernel)), m.Bl.fr (e.sub (by decide +kernel) (by decide +kernel)), m.Rt.fr (e.sub (by decide +kernel) (by decide +kernel)), m.Tr.fr (e.sub (by decide +kernel) (by decide +kernel)), m.Sv.fr (e.sub (by decide +kernel) (by decide +kernel)) el⟩
  exact ⟨mo, bd, r.1, r.2.1, r.2.2.1, r.2.2.2.1, r.2.2.2.2.1, hx, r.2.2.2.2.2.1, r.2.2.2.2.2.2.1, r.2.2.2.2.2.2.2.1, r.2.2.2.2.2.2.2.2, m.Gs.fr (e.sub (by decide +kernel) (by decide +kernel))⟩
theorem MS.wBl {h h' : Hp} {o : Nat} {t t' : St} {g : Nat} (m : MS h o t g) (e : AG h h' o [401, 412, 416, 424, 425, 451, 452, 456, 465, 483, 488, 442] [1, 2, 3, 4, 5, 6, 7, 8, 9, 10, 11, 12, 13, 18, 19, 20, 21, 22, 35, 36, 37, 38, 39, 40, 42, 53, 54, 57, 58, 59, 31]) (el : hAL h' (o + 60) = hAL h (o + 60)) (mo : MO h' o) (bd : Bd t') (hx : MBl h' o t') (tr : (MSh h' o t ∧ MBo h' o t ∧ MTp h' o t ∧ MAc h' o t ∧ MPl h' o t ∧ MHe h' o t ∧ MRt h' o t ∧ MTr h' o t ∧ MSv h' o t) → (MSh h' o t' ∧ MBo h' o t' ∧ MTp h' o t' ∧ MAc h' o t' ∧ MPl h' o t' ∧ MHe h' o t' ∧ MRt h' o t' ∧ MTr h' o t' ∧ MSv h' o t')) : MS h' o t' g := by
  have r := tr ⟨m.Sh.fr (e.sub (by decide +kernel) (by decide +kernel)), m.Bo.fr (e.sub (by decide +kernel) (by decide +kernel)), m.Tp.fr (e.sub (by decide +kernel) (by decide +kernel)), m.Ac.fr (e.sub (by decide +kernel) (by decide +kernel)), m.Pl.fr (e.sub (by decide +kernel) (by decide +kernel)), m.He.fr (e.sub (by decide +kernel) (by decide +kernel)), m.Rt.fr (e.sub (by decide +kernel) (by decide +kernel)), m.Tr.fr (e.sub (by decide +kernel) (by decide +kernel)), m.Sv.fr (e.sub (by decide +kernel) (by decide +kernel)) el⟩
  exact ⟨mo, bd, r.1, r.2.1, r.2.2.1, r.2.2.2.1, r.2.2.2.2.1, r.2.2.2.2.2.1, hx, r.2.2.2.2.2.2.1, r.2.2.2.2.2.2.2.1, r.2.2.2.2.2.2.2.2, m.Gs.fr (e.sub (by decide +kernel) (by decide +kernel))⟩
theorem MS.wRt {h h' : Hp} {o : Nat} {t t' : St} {g : Nat} (m : MS h o t g) (e : AG h h' o [401, 412, 416, 424, 425, 451, 452, 456, 465, 471, 474, 479, 488, 442] [1, 2, 3, 4, 5, 6, 7, 8, 9, 10, 11, 12, 13, 18, 19, 20, 21, 22, 35, 36, 37, 38, 39, 40, 42, 44, 45, 49, 50, 51, 52, 57, 58, 59, 31]) (el : hAL h' (o + 60) = hAL h (o + 60)) (mo : MO h' o) (bd : Bd t') (hx : MRt h' o t') (tr : (MSh h' o t ∧ MBo h' o t ∧ MTp h' o t ∧ MAc h' o t ∧ MPl h' o t ∧ MHe h' o t ∧ MBl h' o t ∧ MTr h' o t ∧ MSv h' o t) → (MSh h' o t' ∧ MBo h' o t' ∧ MTp h' o t' ∧ MAc h' o t' ∧ MPl h' o t' ∧ MHe h' o t' ∧ MBl h' o t' ∧ MTr h' o t' ∧ MSv h' o t')) : MS h' o t' g := by
  have r := tr ⟨m.Sh.fr (e.sub (by decide +kernel) (by decide +kernel)), m.Bo.fr (e.sub (by decide +kernel) (by decide +kernel)), m.Tp.fr (e.sub (by decide +kernel) (by decide +kernel)), m.Ac.fr (e.sub (by decide +kernel) (by decide +kernel)), m.Pl.fr (e.sub (by decide +kernel) (by decide +kernel)), m.He.fr (e.sub (by decide +kernel) (by decide +kernel)), m.Bl.fr (e.sub (by decide +kernel) (by decide +kernel)), m.Tr.fr (e.sub (by decide +kernel) (by decide +kernel)), m.Sv.fr (e.sub (by decide +kernel) (by decide +kernel)) el⟩
  exact ⟨mo, bd, r.1, r.2.1, r.2.2.1, r.2.2.2.1, r.2.2.2.2.1, r.2.2.2.2.2.1, r.2.2.2.2.2.2.1, hx, r.2.2.2.2.2.2.2.1, r.2.2.2.2.2.2.2.2, m.Gs.fr (e.sub (by decide +kernel) (by decide +kernel))⟩
theorem MS.wTr {h h' : Hp} {o : Nat} {t t' : St} {g : Nat} (m : MS h o t g) (e : AG h h' o [401, 412, 416, 424, 425, 451, 452, 456, 465, 471, 474, 479, 483, 442] [1, 2, 3, 4, 5, 6, 7, 8, 9, 10, 11, 12, 13, 18, 19, 20, 21, 22, 35, 36, 37, 38, 39, 40, 42, 44, 45, 49, 50, 51, 52, 53, 54, 58, 59, 31]) (el : hAL h' (o + 60) = hAL h (o + 60)) (mo : MO h' o) (bd : Bd t') (hx : MTr h' o t') (tr : (MSh h' o t ∧ MBo h' o t ∧ MTp h' o t ∧ MAc h' o t ∧ MPl h' o t ∧ MHe h' o t ∧ MBl h' o t ∧ MRt h' o t ∧ MSv h' o t) → (MSh h' o t' ∧ MBo h' o t' ∧ MTp h' o t' ∧ MAc h' o t' ∧ MPl h' o t' ∧ MHe h' o t' ∧ MBl h' o t' ∧ MRt h' o t' ∧ MSv h' o t')) : MS h' o t' g := by
  have r := tr ⟨m.Sh.fr (e.sub (by decide +kernel) (by decide +kernel)), m.Bo.fr (e.sub (by decide +kernel) (by decide +kernel)), m.Tp.fr (e.sub (by decide +kernel) (by decide +kernel)), m.Ac.fr (e.sub (by decide +kernel) (by decide +kernel)), m.Pl.fr (e.sub (by decide +kernel) (by decide +kernel)), m.He.fr (e.sub (by decide +kernel) (by decide +kernel)), m.Bl.fr (e.sub (by decide +kernel) (by decide +kernel)), m.Rt.fr (e.sub (by decide +kernel) (by decide +kernel)), m.Sv.fr (e.sub (by decide +kernel) (by decide +kernel)) el⟩
  exact ⟨mo, bd, r.1, r.2.1, r.2.2.1, r.2.2.2.1, r.2.2.2.2.1, r.2.2.2.2.2.1, r.2.2.2.2.2.2.1, r.2.2.2.2.2.2.2.1, hx, r.2.2.2.2.2.2.2.2, m.Gs.fr (e.sub (by decide +kernel) (by decide +kernel))⟩
theorem MS.wSv {h h' : Hp} {o : Nat} {t t' : St} {g : Nat} (m : MS h o t g) (e : AG h h' o [401, 412, 416, 424, 425, 451, 452, 456, 465, 471, 474, 479, 483, 488, 442] [1, 2, 3, 4, 5, 6, 7, 8, 9, 10, 11, 12, 13, 18, 19, 20, 21, 22, 35, 36, 37, 38, 39, 40, 42, 44, 45, 49, 50, 51, 52, 53, 54, 57, 31]) (mo : MO h' o) (bd : Bd t') (hx : MSv h' o t') (tr : (MSh h' o t ∧ MBo h' o t ∧ MTp h' o t ∧ MAc h' o t ∧ MPl h' o t ∧ MHe h' o t ∧ MBl h' o t ∧ MRt h' o t ∧ MTr h' o t) → (MSh h' o t' ∧ MBo h' o t' ∧ MTp h' o t' ∧ MAc h' o t' ∧ MPl h' o t' ∧ MHe h' o t' ∧ MBl h' o t' ∧ MRt h' o t' ∧ MTr h' o t')) : MS h' o t' g := by
  have r := tr ⟨m.Sh.fr (e.sub (by decide +kernel) (by decide +kernel)), m.Bo.fr (e.sub (by decide +kernel) (by decide +kernel)), m.Tp.fr (e.sub (by decide +kernel) (by decide +kernel)), m.Ac.fr (e.sub (by decide +kernel) (by decide +kernel)), m.Pl.fr (e.sub (by decide +kernel) (by decide +kernel)), m.He.fr (e.sub (by decide +kernel) (by decide +kernel)), m.Bl.fr (e.sub (by decide +kernel) (by decide +kernel)), m.Rt.fr (e.sub (by decide +kernel) (by decide +kernel)), m.Tr.fr (e.sub (by decide +kernel) (by decide +kernel))⟩
  exact ⟨mo, bd, r.1, r.2.1, r.2.2.1, r.2.2.2.1, r.2.2.2.2.1, r.2.2.2.2.2.1, r.2.2.2.2.2.2.1, r.2.2.2.2.2.2.2.1, r.2.2.2.2.2.2.2.2, hx, m.Gs.fr (e.sub (by decide +kernel) (by decide +kernel))⟩
theorem MS.b_ns {h : Hp} {o : Nat} {t : St} {g : Nat} (m : MS h o t g) : ns t ≤ 12 := m.2.1.1
theorem MS.b_nc {h : Hp} {o : Nat} {t : St} {g : Nat} (m : MS h o t g) : ∀ s < ns t, 1 ≤ nc t s ∧ nc t s ≤ 6 := m.2.1.2.1
theorem MS.b_nb {h : Hp} {o : Nat} {t : St} {g : Nat} (m : MS h o t g) : nb t ≤ 200 := m.2.1.2.2.1
theorem MS.b_tl {h : Hp} {o : Nat} {t : St} {g : Nat} (m : MS h o t g) : tl t ≤ 120 := m.2.1.2.2.2.1
theorem MS.b_ac {h : Hp} {o : Nat} {t : St} {g : Nat} (m : MS h o t g) : dn t + ud t ≤ 40 := m.2.1.2.2.2.2.1
theorem MS.b_pm {h : Hp} {o : Nat} {t : St} {g : Nat} (m : MS h o t g) : pm t ≤ 6 := m.2.1.2.2.2.2.2.1
theorem MS.b_wm {h : Hp} {o : Nat} {t : St} {g : Nat} (m : MS h o t g) : wm t ≤ 6 := m.2.1.2.2.2.2.2.2.1
theorem MS.b_hm {h : Hp} {o : Nat} {t : St} {g : Nat} (m : MS h o t g) : hm t ≤ 6 := m.2.1.2.2.2.2.2.2.2.1
theorem MS.b_dp {h : Hp} {o : Nat} {t : St} {g : Nat} (m : MS h o t g) : dp t ≤ 500 := m.2.1.2.2.2.2.2.2.2.2.1
theorem MS.b_sp {h : Hp} {o : Nat} {t : St} {g : Nat} (m : MS h o t g) : sp t ≤ 200 := m.2.1.2.2.2.2.2.2.2.2.2.1
theorem MS.b_rm {h : Hp} {o : Nat} {t : St} {g : Nat} (m : MS h o t g) : rm t ≤ 6 := m.2.1.2.2.2.2.2.2.2.2.2.2.1
theorem MS.b_rt {h : Hp} {o : Nat} {t : St} {g : Nat} (m : MS h o t g) : rt t ≤ 6 := m.2.1.2.2.2.2.2.2.2.2.2.2.2.1
theorem MS.b_tr {h : Hp} {o : Nat} {t : St} {g : Nat} (m : MS h o t g) : tr t ≤ 100 := m.2.1.2.2.2.2.2.2.2.2.2.2.2.2.1
theorem MS.b_sz {h : Hp} {o : Nat} {t : St} {g : Nat} (m : MS h o t g) : ∀ s < 6, ho t s < -1 → sz t s ≤ 60 := m.2.1.2.2.2.2.2.2.2.2.2.2.2.2.2.1
theorem MS.b_bo {h : Hp} {o : Nat} {t : St} {g : Nat} (m : MS h o t g) : ∀ i < 36 * ns t, bo t i ≤ 200 := m.2.1.2.2.2.2.2.2.2.2.2.2.2.2.2.2.1
theorem MS.b_bk {h : Hp} {o : Nat} {t : St} {g : Nat} (m : MS h o t g) : ∀ b < nb t, bk t b ≤ 5 ∧ li t b ≤ 36 * ns t := m.2.1.2.2.2.2.2.2.2.2.2.2.2.2.2.2.2.1
theorem MS.b_aa {h : Hp} {o : Nat} {t : St} {g : Nat} (m : MS h o t g) : ∀ k < dn t + ud t, ao t k ≤ 5 ∧ aa t k < 36 * ns t := m.2.1.2.2.2.2.2.2.2.2.2.2.2.2.2.2.2.2.1
theorem MS.b_ps {h : Hp} {o : Nat} {t : St} {g : Nat} (m : MS h o t g) : ps t ≤ 12 := m.2.1.2.2.2.2.2.2.2.2.2.2.2.2.2.2.2.2.2.1
theorem MS.b_pa {h : Hp} {o : Nat} {t : St} {g : Nat} (m : MS h o t g) : ∀ k < pm t, pa t k < 6 ∧ 1 ≤ po t k ∧ po t k ≤ 3 := m.2.1.2.2.2.2.2.2.2.2.2.2.2.2.2.2.2.2.2.2.1
theorem MS.b_wt {h : Hp} {o : Nat} {t : St} {g : Nat} (m : MS h o t g) : ∀ k < wm t, wt t k < 6 := m.2.1.2.2.2.2.2.2.2.2.2.2.2.2.2.2.2.2.2.2.2.1
theorem MS.b_rc {h : Hp} {o : Nat} {t : St} {g : Nat} (m : MS h o t g) : ∀ r < rm t, rc t r < 6 ∧ rw' t r ≤ 99 := m.2.1.2.2.2.2.2.2.2.2.2.2.2.2.2.2.2.2.2.2.2.2
theorem MS.f401 {h : Hp} {o : Nat} {t : St} {g : Nat} (m : MS h o t g) : hFI h 401 o = nI (ns t) := m.Sh.1
theorem MS.f412 {h : Hp} {o : Nat} {t : St} {g : Nat} (m : MS h o t g) : hFI h 412 o = nI (nb t) := m.Bo.1
theorem MS.f416 {h : Hp} {o : Nat} {t : St} {g : Nat} (m : MS h o t g) : hFI h 416 o = nI (tl t) := m.Tp.1
theorem MS.f424 {h : Hp} {o : Nat} {t : St} {g : Nat} (m : MS h o t g) : hFI h 424 o = nI (dn t) := m.Ac.1
theorem MS.f425 {h : Hp} {o : Nat} {t : St} {g : Nat} (m : MS h o t g) : hFI h 425 o = nI (ud t) := m.Ac.2.1
theorem MS.f451 {h : Hp} {o : Nat} {t : St} {g : Nat} (m : MS h o t g) : hFI h 451 o = nI (pm t) := m.Pl.1
theorem MS.f452 {h : Hp} {o : Nat} {t : St} {g : Nat} (m : MS h o t g) : hFI h 452 o = nI (ps t) := m.Pl.2.1
theorem MS.f456 {h : Hp} {o : Nat} {t : St} {g : Nat} (m : MS h o t g) : hFI h 456 o = nI (wm t) := m.Pl.2.2.1
theorem MS.f465 {h : Hp} {o : Nat} {t : St} {g : Nat} (m : MS h o t g) : hFI h 465 o = nI (hm t) := m.He.1
theorem MS.f471 {h : Hp} {o : Nat} {t : St} {g : Nat} (m : MS h o t g) : hFI h 471 o = nI (dp t) := m.Bl.1
theorem MS.f474 {h : Hp} {o : Nat} {t : St} {g : Nat} (m : MS h o t g) : hFI h 474 o = nI (sp t) := m.Bl.2.1
theorem MS.f479 {h : Hp} {o : Nat} {t : St} {g : Nat} (m : MS h o t g) : hFI h 479 o = nI (rm t) := m.Bl.2.2.1
theorem MS.f483 {h : Hp} {o : Nat} {t : St} {g : Nat} (m : MS h o t g) : hFI h 483 o = nI (rt t) := m.Rt.1
theorem MS.f488 {h : Hp} {o : Nat} {t : St} {g : Nat} (m : MS h o t g) : hFI h 488 o = nI (tr t) := m.Tr.1
theorem MS.a1 {h : Hp} {o : Nat} {t : St} {g : Nat} (m : MS h o t g) {s : Nat} (q : s < ns t) : hAI h (o + 1) s = nI (nc t s) := m.Sh.2.1 s q
theorem MS.a2 {h : Hp} {o : Nat} {t : St} {g : Nat} (m : MS h o t g) {i : Nat} (q : i < 6 * ns t) : hAI h (o + 2) i = hv t i := (m.Sh.2.2.1 i q).1
theorem MS.a3 {h : Hp} {o : Nat} {t : St} {g : Nat} (m : MS h o t g) {i : Nat} (q : i < 6 * ns t) : hAI h (o + 3) i = pd t i := (m.Sh.2.2.1 i q).2.1
theorem MS.a4 {h : Hp} {o : Nat} {t : St} {g : Nat} (m : MS h o t g) {i : Nat} (q : i < 6 * ns t) : hAI h (o + 4) i = wg t i := (m.Sh.2.2.1 i q).2.2.1
theorem MS.a5 {h : Hp} {o : Nat} {t : St} {g : Nat} (m : MS h o t g) {i : Nat} (q : i < 6 * ns t) : hAI h (o + 5) i = hl t i := (m.Sh.2.2.1 i q).2.2.2
theorem MS.a6 {h : Hp} {o : Nat} {t : St} {g : Nat} (m : MS h o t g) {i : Nat} (q : i < 36 * ns t) : hAI h (o + 6) i = sf t i := (m.Sh.2.2.2.1 i q).1
theorem MS.a7 {h : Hp} {o : Nat} {t : St} {g : Nat} (m : MS h o t g) {i : Nat} (q : i < 36 * ns t) : hAI h (o + 7) i = ck t i := (m.Sh.2.2.2.1 i q).2.1
theorem MS.a8 {h : Hp} {o : Nat} {t : St} {g : Nat} (m : MS h o t g) {i : Nat} (q : i < 36 * ns t) : hAI h (o + 8) i = nI (bo t i) := (m.Sh.2.2.2.1 i q).2.2
theorem MS.a9 {h : Hp} {o : Nat} {t : St} {g : Nat} (m : MS h o t g) {s : Nat} (q : s < ns t) : hAI h (o + 9) s = jo t s := (m.Sh.2.2.2.2 s q).1
theorem MS.a10 {h : Hp} {o : Nat} {t : St} {g : Nat} (m : MS h o t g) {s : Nat} (q : s < ns t) (z : 0 ≤ jo t s) : hAI h (o + 10) s = jt t s := (m.Sh.2.2.2.2 s q).2 z
theorem MS.a11 {h : Hp} {o : Nat} {t : St} {g : Nat} (m : MS h o t g) {b : Nat} (q : b < nb t) : hAI h (o + 11) b = nI (bk t b) := (m.Bo.2 b q).1
theorem MS.a12 {h : Hp} {o : Nat} {t : St} {g : Nat} (m : MS h o t g) {b : Nat} (q : b < nb t) : hAI h (o + 12) b = nI (li t b) := (m.Bo.2 b q).2
theorem MS.a13 {h : Hp} {o : Nat} {t : St} {g : Nat} (m : MS h o t g) {i : Nat} (q : i < tl t) : hAI h (o + 13) i = tp t i := m.Tp.2 i q
theorem MS.a18 {h : Hp} {o : Nat} {t : St} {g : Nat} (m : MS h o t g) {k : Nat} (q : k < dn t + ud t) : hAI h (o + 18) k = nI (ao t k) := (m.Ac.2.2 k q).1
theorem MS.a19 {h : Hp} {o : Nat} {t : St} {g : Nat} (m : MS h o t g) {k : Nat} (q : k < dn t + ud t) : hAI h (o + 19) k = nI (aa t k) := (m.Ac.2.2 k q).2.1
theorem MS.a20 {h : Hp} {o : Nat} {t : St} {g : Nat} (m : MS h o t g) {k : Nat} (q : k < dn t + ud t) : hAI h (o + 20) k = be t k := (m.Ac.2.2 k q).2.2.1
theorem MS.a21 {h : Hp} {o : Nat} {t : St} {g : Nat} (m : MS h o t g) {k : Nat} (q : k < dn t + ud t) : hAI h (o + 21) k = bh t k := (m.Ac.2.2 k q).2.2.2.1
theorem MS.a22 {h : Hp} {o : Nat} {t : St} {g : Nat} (m : MS h o t g) {k : Nat} (q : k < dn t + ud t) : hAI h (o + 22) k = cb t k := (m.Ac.2.2 k q).2.2.2.2
theorem MS.a35 {h : Hp} {o : Nat} {t : St} {g : Nat} (m : MS h o t g) {k : Nat} (q : k < pm t) : hAI h (o + 35) k = nI (pa t k) := (m.Pl.2.2.2.1 k q).1
theorem MS.a36 {h : Hp} {o : Nat} {t : St} {g : Nat} (m : MS h o t g) {k : Nat} (q : k < pm t) : hAI h (o + 36) k = pb t k := (m.Pl.2.2.2.1 k q).2.1
theorem MS.a37 {h : Hp} {o : Nat} {t : St} {g : Nat} (m : MS h o t g) {k : Nat} (q : k < pm t) : hAI h (o + 37) k = nI (po t k) := (m.Pl.2.2.2.1 k q).2.2
theorem MS.a38 {h : Hp} {o : Nat} {t : St} {g : Nat} (m : MS h o t g) {k : Nat} (q : k < wm t) : hAI h (o + 38) k = nI (wt t k) := (m.Pl.2.2.2.2 k q).1
theorem MS.a39 {h : Hp} {o : Nat} {t : St} {g : Nat} (m : MS h o t g) {k : Nat} (q : k < wm t) : hAI h (o + 39) k = wb t k := (m.Pl.2.2.2.2 k q).2.1
theorem MS.a40 {h : Hp} {o : Nat} {t : St} {g : Nat} (m : MS h o t g) {k : Nat} (q : k < wm t) : hAI h (o + 40) k = wi t k := (m.Pl.2.2.2.2 k q).2.2
theorem MS.a42 {h : Hp} {o : Nat} {t : St} {g : Nat} (m : MS h o t g) {i : Nat} (q : i < hm t) : hAI h (o + 42) i = hi t i := m.He.2 i q
theorem MS.a44 {h : Hp} {o : Nat} {t : St} {g : Nat} (m : MS h o t g) {e : Nat} (q : e < 4) : hAI h (o + 44) e = ea t e := (m.Bl.2.2.2.1 e q).1
theorem MS.a45 {h : Hp} {o : Nat} {t : St} {g : Nat} (m : MS h o t g) {e : Nat} (q : e < 4) : hAI h (o + 45) e = ew t e := (m.Bl.2.2.2.1 e q).2.1
theorem MS.a49 {h : Hp} {o : Nat} {t : St} {g : Nat} (m : MS h o t g) {e k : Nat} (q : e < 4) (z : 0 ≤ ew t e) (y : k < sp t) : hAI h (o + 49) (200 * e + k) = ha t (200 * e + k) := (m.Bl.2.2.2.1 e q).2.2 z k y
theorem MS.a50 {h : Hp} {o : Nat} {t : St} {g : Nat} (m : MS h o t g) {r : Nat} (q : r < rm t) : hAI h (o + 50) r = nI (rc t r) := (m.Bl.2.2.2.2 r q).1
theorem MS.a51 {h : Hp} {o : Nat} {t : St} {g : Nat} (m : MS h o t g) {r : Nat} (q : r < rm t) : hAI h (o + 51) r = rv t r := (m.Bl.2.2.2.2 r q).2.1
theorem MS.a52 {h : Hp} {o : Nat} {t : St} {g : Nat} (m : MS h o t g) {r : Nat} (q : r < rm t) : hAI h (o + 52) r = nI (rw' t r) := (m.Bl.2.2.2.2 r q).2.2
theorem MS.a53 {h : Hp} {o : Nat} {t : St} {g : Nat} (m : MS h o t g) {i : Nat} (q : i < rt t) : hAI h (o + 53) i = ra t i := (m.Rt.2 i q).1
theorem MS.a54 {h : Hp} {o : Nat} {t : St} {g : Nat} (m : MS h o t g) {i : Nat} (q : i < rt t) : hAI h (o + 54) i = rb t i := (m.Rt.2 i q).2
theorem MS.a57 {h : Hp} {o : Nat} {t : St} {g : Nat} (m : MS h o t g) {i : Nat} (q : i < 24) (z : i < tr t) : hAI h (o + 57) i = td t i := m.Tr.2 i q z
theorem MS.a58 {h : Hp} {o : Nat} {t : St} {g : Nat} (m : MS h o t g) {s : Nat} (q : s < 6) : hAI h (o + 58) s = ho t s := (m.Sv s q).1
theorem MS.a59 {h : Hp} {o : Nat} {t : St} {g : Nat} (m : MS h o t g) {s : Nat} (q : s < 6) (z : ho t s < -1) : hAI h (o + 59) s = nI (sz t s) := ((m.Sv s q).2 z).1
theorem MS.a60 {h : Hp} {o : Nat} {t : St} {g : Nat} (m : MS h o t g) {s k : Nat} (q : s < 6) (z : ho t s < -1) (y : k < sz t s) : hAL h (o + 60) (60 * s + k) = el t (60 * s + k) := ((m.Sv s q).2 z).2 k y
