/-- a piece that was read: its number isn't known yet -/
def pt1 (j : Nat) (y : St) (z : Qd) : St := uA (setP y j z.1 z.2.1 z.2.2.1 z.2.2.2) 1 (ux (ux (bo y) (ix j z.1 z.2.1) 1) (ix j z.2.1 z.1) 1)
def patch (t : St) (j : Nat) (L : List Qd) : St := L.foldl (pt1 j) t
theorem patch_app {t : St} {j : Nat} {L : List Qd} {z : Qd} : patch t j (L ++ [z]) = pt1 j (patch t j L) z := by
  unfold patch
  rw [List.foldl_append]
  rfl
theorem pt1_uI {t : St} {j k : Nat} {z : Qd} {f : Nat → Int32} (hk : k ≠ 4) (hk5 : k ≠ 5) : pt1 j (uI t k f) z = uI (pt1 j t z) k f := by
  have s4 : sf (uI t k f) = sf t := by
    show (if 4 = k then f else t.2.2.1 4) = _
    rw [if_neg (Ne.symm hk)]
    rfl
  have s5 : ck (uI t k f) = ck t := by
    show (if 5 = k then f else t.2.2.1 5) = _
    rw [if_neg (Ne.symm hk5)]
    rfl
  unfold pt1 setP
  rw [s4, s5]
  refine Prod.ext rfl (Prod.ext rfl (Prod.ext (funext fun g => ?_) rfl))
  show (if g = 5 then _ else if g = 4 then _ else if g = k then f else t.2.2.1 g) = (if g = k then f else if g = 5 then _ else if g = 4 then _ else t.2.2.1 g)
  by_cases c : g = k
  · subst c
    rw [if_neg hk5, if_neg hk, if_pos rfl, if_pos rfl]
  · rw [if_neg c, if_neg c]
theorem patch_uI {j k : Nat} {f : Nat → Int32} (hk : k ≠ 4) (hk5 : k ≠ 5) : ∀ (L : List Qd) (t : St), patch (uI t k f) j L = uI (patch t j L) k f
  | [], t => rfl
  | z :: L, t => by
    show patch (pt1 j (uI t k f) z) j L = uI (patch (pt1 j t z) j L) k f
    rw [pt1_uI hk hk5, patch_uI hk hk5 L]
theorem patch_same {j : Nat} : ∀ (L : List Qd) (t : St), ns (patch t j L) = ns t ∧ nb (patch t j L) = nb t ∧ nc (patch t j L) = nc t ∧ hv (patch t j L) = hv t ∧ pd (patch t j L) = pd t ∧ wg (patch t j L) = wg t ∧ hl (patch t j L) = hl t ∧ tl (patch t j L) = tl t
  | [], t => ⟨rfl, rfl, rfl, rfl, rfl, rfl, rfl, rfl⟩
  | z :: L, t => patch_same L (pt1 j t z)
def smP (z : Qd) (a b : Nat) : Bool := decide (z.1 = a ∧ z.2.1 = b ∨ z.1 = b ∧ z.2.1 = a)
theorem newP_app {L : List Qd} {z : Qd} {a b : Nat} : newP (L ++ [z]) a b = (newP L a b || smP z a b) := by
  unfold newP smP
  rw [List.any_append]
  simp
theorem ix_inj {j a b c d : Nat} (ha : a < 6) (hb : b < 6) (hc : c < 6) (hd : d < 6) : ix j a b = ix j c d ↔ a = c ∧ b = d := by
  unfold ix
  omega
theorem patch_bo {j a b : Nat} (ha : a < 6) (hb : b < 6) : ∀ (L : List Qd) (t : St), (∀ z ∈ L, z.1 < 6 ∧ z.2.1 < 6) → bo (patch t j L) (ix j a b) = if newP L a b then 1 else bo t (ix j a b)
  | [], t, _ => rfl
  | z :: L, t, hL => by
    obtain ⟨z1, z2⟩ := hL z List.mem_cons_self
    show bo (patch (pt1 j t z) j L) (ix j a b) = _
    rw [patch_bo ha hb L (pt1 j t z) (fun y hy => hL y (List.mem_cons_of_mem _ hy))]
    have e1 : newP (z :: L) a b = (smP z a b || newP L a b) := rfl
    have e2 : bo (pt1 j t z) (ix j a b) = if smP z a b then 1 else bo t (ix j a b) := by
      show ux (ux (bo t) (ix j z.1 z.2.1) 1) (ix j z.2.1 z.1) 1 (ix j a b) = _
      unfold ux smP
      by_cases c1 : ix j a b = ix j z.2.1 z.1
      · have := (ix_inj ha hb z2 z1).mp c1
        rw [if_pos c1, if_pos (decide_eq_true (by omega))]
      · rw [if_neg c1]
        have c1' : ¬ (a = z.2.1 ∧ b = z.1) := fun q => c1 ((ix_inj ha hb z2 z1).mpr q)
        by_cases c2 : ix j a b = ix j z.1 z.2.1
        · have := (ix_inj ha hb z1 z2).mp c2
          rw [if_pos c2, if_pos (decide_eq_true (by omega))]
        · have c2' : ¬ (a = z.1 ∧ b = z.2.1) := fun q => c2 ((ix_inj ha hb z1 z2).mpr q)
          rw [if_neg c2, if_neg (by rw [decide_eq_true_eq]; omega)]
    rw [e1, e2]
    cases newP L a b <;> cases smP z a b <;> rfl
/-- pairs of six corners -/
def pr6 (f : Nat → Nat → Bool) : Nat := (if f 0 1 then 1 else 0) + (if f 0 2 then 1 else 0) + (if f 0 3 then 1 else 0) + (if f 0 4 then 1 else 0) + (if f 0 5 then 1 else 0) + (if f 1 2 then 1 else 0) + (if f 1 3 then 1 else 0) + (if f 1 4 then 1 else 0) + (if f 1 5 then 1 else 0) + (if f 2 3 then 1 else 0) + (if f 2 4 then 1 else 0) + (if f 2 5 then 1 else 0) + (if f 3 4 then 1 else 0) + (if f 3 5 then 1 else 0) + (if f 4 5 then 1 else 0)
theorem pr6_le {f : Nat → Nat → Bool} : pr6 f ≤ 15 := by
  have h : ∀ x y, (if f x y then 1 else 0) ≤ 1 := by intro x y; split <;> omega
  unfold pr6
  have a1 := h 0 1; have a2 := h 0 2; have a3 := h 0 3; have a4 := h 0 4; have a5 := h 0 5
  have b1 := h 1 2; have b2 := h 1 3; have b3 := h 1 4; have b4 := h 1 5; have c1 := h 2 3
  have c2 := h 2 4; have c3 := h 2 5; have d1 := h 3 4; have d2 := h 3 5; have e1 := h 4 5
  omega
theorem pr6_add {f : Nat → Nat → Bool} {a b : Nat} (ha : a < 6) (hb : b < 6) (hab : a ≠ b) (h1 : f a b = false) (h2 : f b a = false) : pr6 (fun x y => f x y || decide (a = x ∧ b = y ∨ a = y ∧ b = x)) = pr6 f + 1 := by
  have ca : a = 0 ∨ a = 1 ∨ a = 2 ∨ a = 3 ∨ a = 4 ∨ a = 5 := by omega
  have cb : b = 0 ∨ b = 1 ∨ b = 2 ∨ b = 3 ∨ b = 4 ∨ b = 5 := by omega
  unfold pr6
  rcases ca with rfl | rfl | rfl | rfl | rfl | rfl <;> rcases cb with rfl | rfl | rfl | rfl | rfl | rfl <;> first | exact absurd rfl hab | (simp [h1, h2]; try omega)
/-- pieces that may be read: corners of the n, of different pairs, no cracks -/
def PLs (n : Nat) (L : List Qd) : Prop := (∀ z ∈ L, z.1 < n ∧ z.2.1 < n ∧ z.1 ≠ z.2.1 ∧ z.2.2.2 = 0) ∧ pr6 (newP L) = L.length
theorem PLs.add {n : Nat} {L : List Qd} {a b : Nat} {v : Int32} (h : PLs n L) (hn : n ≤ 6) (ha : a < n) (hb : b < n) (hab : a ≠ b) (hN : newP L a b = false) : PLs n (L ++ [(a, b, v, 0)]) := by
  refine ⟨fun z hz => ?_, ?_⟩
  · rcases List.mem_append.mp hz with c | c
    · exact h.1 z c
    · rw [List.mem_singleton.mp c]; exact ⟨ha, hb, hab, rfl⟩
  · have e : newP (L ++ [(a, b, v, 0)]) = fun x y => newP L x y || decide (a = x ∧ b = y ∨ a = y ∧ b = x) := by
      funext x y
      exact newP_app
    have hN2 : newP L b a = false := by
      rw [← hN]
      unfold newP
      congr 1
      funext z
      congr 1
      exact propext ⟨fun q => by omega, fun q => by omega⟩
    rw [e, pr6_add (by omega) (by omega) hab hN hN2, h.2, List.length_append]
    rfl
/-- the state as it is read: n corners, and x -/
def PT (t : St) (n : Nat) (x : PS) (A B : Nat → Int32) : St := patch (J (uN (newS t n (fun c => if c < n then ch t (1 + c) - 48 else 0) x.2.1 x.2.2.1 x.2.2.2.1) 0 (ns t + 1)) A B) (ns t) x.2.2.2.2
def RG (h : Hp) (o : Nat) (t : St) (g n : Nat) (x : PS) (A B : Nat → Int32) : Prop := MS h o t g ∧ GS h o (PT t n x A B) g ∧ hFI h 417 o = nI x.1 ∧ hFI h 418 o = -1 ∧ hFI h 419 o = nI x.2.2.2.2.length ∧ (∀ c < 6, (hAI h (o + 16) c = 0 ↔ x.2.1 c = 0) ∧ (hAI h (o + 17) c = 0 ↔ x.2.2.1 c = 0)) ∧ (∀ i < x.2.2.2.2.length, hAI h (o + 14) i = nI (x.2.2.2.2.getD i (0, 0, 0, 0)).1 ∧ hAI h (o + 15) i = nI (x.2.2.2.2.getD i (0, 0, 0, 0)).2.1) ∧ PLs n x.2.2.2.2 ∧ x.1 < 900
theorem GS.fr {h h' : Hp} {o g : Nat} {t : St} (m : GS h o t g) (e : PE h h' o) : GS h' o t g := by
  refine MS.fr m ⟨⟨fun f hf => ?_, fun k hk => e.1.2 k hk⟩, e.2.1, e.2.2⟩
  by_cases c : f = 401
  · subst c; rw [hFI_s, hFI_s]
  · rw [hFI_sn c, hFI_sn c]; exact e.1.1 f hf
theorem PT_ns {t : St} {n : Nat} {x : PS} {A B : Nat → Int32} : ns (PT t n x A B) = ns t + 1 := (patch_same _ _).1
theorem PT_bo {t : St} {n : Nat} {x : PS} {A B : Nat → Int32} {a b : Nat} (ha : a < 6) (hb : b < 6) (hL : ∀ z ∈ x.2.2.2.2, z.1 < 6 ∧ z.2.1 < 6) : bo (PT t n x A B) (ix (ns t) a b) = if newP x.2.2.2.2 a b then 1 else 0 := by
  unfold PT
  rw [patch_bo ha hb _ _ hL]
  have : bo (J (uN (newS t n (fun c => if c < n then ch t (1 + c) - 48 else 0) x.2.1 x.2.2.1 x.2.2.2.1) 0 (ns t + 1)) A B) (ix (ns t) a b) = 0 := by
    show blk (bo t) 36 (ns t) (fun _ => 0) (ix (ns t) a b) = 0
    unfold blk
    rw [if_pos (by unfold ix; omega)]
  rw [this]
theorem getD_app' {L : List Qd} {z : Qd} {i : Nat} (hi : i < L.length + 1) : (L ++ [z]).getD i (0, 0, 0, 0) = if i = L.length then z else L.getD i (0, 0, 0, 0) := by
  simp only [List.getD_eq_getElem?_getD, List.getElem?_append]
  by_cases q : i < L.length
  · rw [if_pos q, if_neg (by omega)]
  · rw [if_neg q, if_pos (by omega), show i - L.length = 0 by omega]
    rfl
theorem ctX4_hasPieceN {h : Hp} {o g n a b : Nat} {t : St} {x : PS} {A B : Nat → Int32} (r : RG h o t g n x A B) (hn : n ≤ 6) (ha : a < 6) (hb : b < 6) (h12 : ns t < 12) : Ret mX4_hasPiece 1 [vR (some o), vI (nI (ns t)), vI (nI a), vI (nI b)] h 0 0 (RI fun y h' => y = bI (newP x.2.2.2.2 a b = true) ∧ h' = h) := by
  obtain ⟨m, gs, e1, e2, e3, e4, e5, e6, e7⟩ := r
  have hx : ix (ns t) a b < 36 * (ns t + 1) := ix_lt (by omega) ha hb
  have r8 : hAI h (o + 8) (ix (ns t) a b) = nI (if newP x.2.2.2.2 a b then 1 else 0) := by
    have := gs.a8 (i := ix (ns t) a b) (by rw [PT_ns]; exact hx)
    rw [PT_bo ha hb (fun z hz => ⟨by have := (e6.1 z hz).1; omega, by have := (e6.1 z hz).2.1; omega⟩)] at this
    exact this
  refine Ret.go (by decide) rfl rfl RI.ret (bX4_hasPiece_0m m.1 ?_)
  rw [ix_nI, nt_nI (by omega), r8]
  refine ⟨vp_in_nI (by omega) (by omega), ?_⟩
  cases newP x.2.2.2.2 a b with
  | true => exact ⟨fun z => absurd z (by decide), fun _ => RI.i ⟨by rw [bI_t rfl]; rfl, rfl⟩⟩
  | false => exact ⟨fun _ => RI.i ⟨by rw [bI_f (by decide)]; rfl, rfl⟩, fun z => absurd (by decide) z⟩
