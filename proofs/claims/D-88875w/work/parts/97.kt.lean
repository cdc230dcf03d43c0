theorem bear_uN {t : St} {j n : Nat} {z : Qd} : bear (uN t 0 n) j z = uN (bear t j z) 0 n := by
  obtain ⟨a, b, c, d⟩ := t
  unfold bear setP uN uA uI
  refine Prod.ext (funext fun g => ?_) rfl
  show (if g = 1 then _ else if g = 0 then n else a g) = (if g = 0 then n else if g = 1 then _ else a g)
  by_cases h1 : g = 1
  · subst h1; rfl
  · rw [if_neg h1]
    by_cases h0 : g = 0
    · rw [if_pos h0, if_pos h0]
    · rw [if_neg h0, if_neg h0, if_neg h1]
theorem bears_uN {j n : Nat} : ∀ (Z : List Qd) (t : St), bears (uN t 0 n) j Z = uN (bears t j Z) 0 n
  | [], t => rfl
  | z :: Z, t => by
    show bears (bear (uN t 0 n) j z) j Z = uN (bears (bear t j z) j Z) 0 n
    rw [bear_uN, bears_uN Z]
theorem bears_app {t : St} {j : Nat} {Y Z : List Qd} : bears (bears t j Y) j Z = bears t j (Y ++ Z) := by
  unfold bears
  rw [List.foldl_append]
theorem cp_joi {t : St} {f : Nat → Int32} {s r : Nat} (hs : s < ns t) (hr : r < ns t) (h6 : nc t s + nc t r ≤ 6) : cp1 (cp1 (blk f 6 (ns t) (fun _ => 0)) s (ns t) 0 (nc t s)) r (ns t) (nc t s) (nc t r) = blk f 6 (ns t) (joiC t f s r) := by
  funext x
  have B : ∀ q c, q < ns t → c < 6 → blk f 6 (ns t) (fun _ => 0) (6 * q + c) = f (6 * q + c) := by
    intro q c hq hc
    unfold blk
    rw [if_neg (by omega)]
  by_cases h1 : 6 * ns t + nc t s ≤ x ∧ x < 6 * ns t + nc t s + nc t r
  · have e1 : cp1 (cp1 (blk f 6 (ns t) (fun _ => 0)) s (ns t) 0 (nc t s)) r (ns t) (nc t s) (nc t r) x = cp1 (blk f 6 (ns t) (fun _ => 0)) s (ns t) 0 (nc t s) (6 * r + (x - (6 * ns t + nc t s))) := if_pos h1
    have e2 : cp1 (blk f 6 (ns t) (fun _ => 0)) s (ns t) 0 (nc t s) (6 * r + (x - (6 * ns t + nc t s))) = blk f 6 (ns t) (fun _ => 0) (6 * r + (x - (6 * ns t + nc t s))) := if_neg (by omega)
    rw [e1, e2, B r _ hr (by omega)]
    unfold blk
    rw [if_pos (by omega), joiC, if_neg (by omega), if_pos (by omega)]
    congr 1
    omega
  · have e1 : cp1 (cp1 (blk f 6 (ns t) (fun _ => 0)) s (ns t) 0 (nc t s)) r (ns t) (nc t s) (nc t r) x = cp1 (blk f 6 (ns t) (fun _ => 0)) s (ns t) 0 (nc t s) x := if_neg h1
    rw [e1]
    by_cases h2 : 6 * ns t + 0 ≤ x ∧ x < 6 * ns t + 0 + nc t s
    · have e2 : cp1 (blk f 6 (ns t) (fun _ => 0)) s (ns t) 0 (nc t s) x = blk f 6 (ns t) (fun _ => 0) (6 * s + (x - (6 * ns t + 0))) := if_pos h2
      rw [e2, B s _ hs (by omega)]
      unfold blk
      rw [if_pos (by omega), joiC, if_pos (by omega)]
      rfl
    · have e2 : cp1 (blk f 6 (ns t) (fun _ => 0)) s (ns t) 0 (nc t s) x = blk f 6 (ns t) (fun _ => 0) x := if_neg h2
      rw [e2]
      unfold blk
      by_cases h3 : 6 * ns t ≤ x ∧ x < 6 * ns t + 6
      · rw [if_pos h3, if_pos h3, joiC, if_neg (by omega), if_neg (by omega)]
      · rw [if_neg h3, if_neg h3]
theorem newS_cp {t : St} {n m s r : Nat} (hs : s < ns t) (hr : r < ns t) (h6 : nc t s + nc t r ≤ 6) : cpC (cpC (uN (newS t n (fun _ => 0) (fun _ => 0) (fun _ => 0) (fun _ => 0)) 0 m) s (ns t) 0 (nc t s)) r (ns t) (nc t s) (nc t r) = uN (newS t n (joiC t (hv t) s r) (joiC t (pd t) s r) (joiC t (wg t) s r) (joiC t (hl t) s r)) 0 m := by
  have c0 := cp_joi (f := hv t) hs hr h6
  have c1 := cp_joi (f := pd t) hs hr h6
  have c2 := cp_joi (f := wg t) hs hr h6
  have c3 := cp_joi (f := hl t) hs hr h6
  have e0 : ∀ f : Nat → Int32, ∀ X : St, cpC X s (ns t) 0 (nc t s) = uI (uI (uI (uI X 0 (cp1 (hv X) s (ns t) 0 (nc t s))) 1 (cp1 (pd X) s (ns t) 0 (nc t s))) 2 (cp1 (wg X) s (ns t) 0 (nc t s))) 3 (cp1 (hl X) s (ns t) 0 (nc t s)) := fun f X => rfl
  refine Prod.ext rfl (Prod.ext rfl (Prod.ext (funext fun g => ?_) rfl))
  show (if g = 3 then cp1 (cp1 (blk (hl t) 6 (ns t) (fun _ => 0)) s (ns t) 0 (nc t s)) r (ns t) (nc t s) (nc t r) else if g = 2 then cp1 (cp1 (blk (wg t) 6 (ns t) (fun _ => 0)) s (ns t) 0 (nc t s)) r (ns t) (nc t s) (nc t r) else if g = 1 then cp1 (cp1 (blk (pd t) 6 (ns t) (fun _ => 0)) s (ns t) 0 (nc t s)) r (ns t) (nc t s) (nc t r) else if g = 0 then cp1 (cp1 (blk (hv t) 6 (ns t) (fun _ => 0)) s (ns t) 0 (nc t s)) r (ns t) (nc t s) (nc t r) else (cpC (uN (newS t n (fun _ => 0) (fun _ => 0) (fun _ => 0) (fun _ => 0)) 0 m) s (ns t) 0 (nc t s)).2.2.1 g) = (newS t n (joiC t (hv t) s r) (joiC t (pd t) s r) (joiC t (wg t) s r) (joiC t (hl t) s r)).2.2.1 g
  rw [c0, c1, c2, c3]
  by_cases g3 : g = 3
  · subst g3; rfl
  · by_cases g2 : g = 2
    · subst g2; rfl
    · by_cases g1 : g = 1
      · subst g1; rfl
      · by_cases g0 : g = 0
        · subst g0; rfl
        · rw [if_neg g3, if_neg g2, if_neg g1, if_neg g0]
          unfold cpC newS uI uA uN
          simp only [if_neg g3, if_neg g2, if_neg g1, if_neg g0]
def J (t : St) (A B : Nat → Int32) : St := uI (uI t 6 A) 7 B
theorem bear_J {t : St} {A B : Nat → Int32} {j : Nat} {z : Qd} : bear (J t A B) j z = J (bear t j z) A B := by
  refine Prod.ext rfl (Prod.ext rfl (Prod.ext (funext fun g => ?_) rfl))
  show (if g = 5 then _ else if g = 4 then _ else if g = 7 then B else if g = 6 then A else t.2.2.1 g) = (if g = 7 then B else if g = 6 then A else if g = 5 then _ else if g = 4 then _ else t.2.2.1 g)
  by_cases g7 : g = 7
  · subst g7; rfl
  · by_cases g6 : g = 6
    · subst g6; rfl
    · rw [if_neg g7, if_neg g6, if_neg g7, if_neg g6]
      rfl
theorem bears_J {A B : Nat → Int32} {j : Nat} : ∀ (Z : List Qd) (t : St), bears (J t A B) j Z = J (bears t j Z) A B
  | [], t => rfl
  | z :: Z, t => by
    show bears (bear (J t A B) j z) j Z = J (bears (bear t j z) j Z) A B
    rw [bear_J, bears_J Z]
theorem cpC_J {t : St} {A B : Nat → Int32} {s j b c : Nat} : cpC (J t A B) s j b c = J (cpC t s j b c) A B := by
  refine Prod.ext rfl (Prod.ext rfl (Prod.ext (funext fun g => ?_) rfl))
  show (if g = 3 then _ else if g = 2 then _ else if g = 1 then _ else if g = 0 then _ else if g = 7 then B else if g = 6 then A else t.2.2.1 g) = (if g = 7 then B else if g = 6 then A else if g = 3 then _ else if g = 2 then _ else if g = 1 then _ else if g = 0 then _ else t.2.2.1 g)
  by_cases g7 : g = 7
  · subst g7; rfl
  · by_cases g6 : g = 6
    · subst g6; rfl
    · rw [if_neg g7, if_neg g6, if_neg g7, if_neg g6]
      rfl
/-- a shape cleared behind the others, its corners told -/
theorem GS.new {h h2 : Hp} {o g n : Nat} {t : St} (m : MS h o t g) (hn : ns t < 12) (n1 : 1 ≤ n) (n6 : n ≤ 6) (F : FR h h2 o [] [1, 2, 3, 4, 5, 6, 7, 8] []) (mo : MO h2 o) (R1 : ∀ j, hAI h2 (o + 1) j = if j = ns t then nI n else hAI h (o + 1) j) (R2 : ∀ k, 2 ≤ k → k ≤ 5 → ∀ j, hAI h2 (o + k) j = if 6 * ns t ≤ j ∧ j < 6 * ns t + 6 then nI 0 else hAI h (o + k) j) (R3 : ∀ k, 6 ≤ k → k ≤ 8 → ∀ j, hAI h2 (o + k) j = if 36 * ns t ≤ j ∧ j < 36 * ns t + 36 then nI 0 else hAI h (o + k) j) : GS h2 o (J (uN (newS t n (fun _ => 0) (fun _ => 0) (fun _ => 0) (fun _ => 0)) 0 (ns t + 1)) (ux (jo t) (ns t) (hAI h (o + 9) (ns t))) (ux (jt t) (ns t) (hAI h (o + 10) (ns t)))) g := by
  obtain ⟨a1, a2, a3, a4, a5⟩ := m.Sh
  refine m.wSh (h' := sFI h2 401 o (nI (ns t + 1))) ⟨fun f hf => ?_, fun k hk => ?_⟩ (F.2.2 60 rfl) mo (by obtain ⟨b1, b2, b3, b4, b5, b6, b7, b8, b9, b10, b11, b12, b13, b14, b15, b16, b17, b18, b19, b20, b21⟩ := m.2.1; exact ⟨by show ns t + 1 ≤ 12; omega, fun s hs => by have hs : s < ns t + 1 := hs; show 1 ≤ ux (nc t) (ns t) n s ∧ ux (nc t) (ns t) n s ≤ 6; unfold ux; split <;> first | exact ⟨n1, n6⟩ | exact b2 s (by omega), b3, b4, b5, b6, b7, b8, b9, b10, b11, b12, b13, b14, fun i hi => by have hi : i < 36 * (ns t + 1) := hi; show blk (bo t) 36 (ns t) (fun _ => 0) i ≤ 200; unfold blk; split <;> first | exact Nat.zero_le _ | exact b15 i (by omega), fun b hb => ⟨(b16 b hb).1, by have := (b16 b hb).2; show li t b ≤ 36 * (ns t + 1); omega⟩, fun k hk => ⟨(b17 k hk).1, by have := (b17 k hk).2; show aa t k < 36 * (ns t + 1); omega⟩, b18, b19, b20, b21⟩) ⟨hFI_s, fun s hs => ?_, fun i hi => ?_, fun i hi => ?_, fun s hs => ?_⟩ (fun r => r)
  · rw [hFI_sn (by rintro rfl; exact absurd hf (by decide))]
    exact F.1 f rfl
  · rw [hAI_sF]
    have := (List.all_eq_true (p := fun k => !([1, 2, 3, 4, 5, 6, 7, 8].contains k))).mp (by decide +kernel) k hk
    exact F.2.1 k (by simpa using this)
  · have hs : s < ns t + 1 := hs
    rw [hAI_sF, R1]
    show _ = nI (ux (nc t) (ns t) n s)
    unfold ux
    by_cases c : s = ns t
    · rw [if_pos c, if_pos c]
    · rw [if_neg c, if_neg c]; exact a2 s (by omega)
  · have hi : i < 6 * (ns t + 1) := hi
    rw [hAI_sF, hAI_sF, hAI_sF, hAI_sF, R2 2 (by omega) (by omega), R2 3 (by omega) (by omega), R2 4 (by omega) (by omega), R2 5 (by omega) (by omega)]
    show _ = blk (hv t) 6 (ns t) (fun _ => 0) i ∧ _ = blk (pd t) 6 (ns t) (fun _ => 0) i ∧ _ = blk (wg t) 6 (ns t) (fun _ => 0) i ∧ _ = blk (hl t) 6 (ns t) (fun _ => 0) i
    unfold blk
    by_cases c : 6 * ns t ≤ i ∧ i < 6 * ns t + 6
    · simp only [if_pos c]
      exact ⟨rfl, rfl, rfl, rfl⟩
    · simp only [if_neg c]
      exact a3 i (by omega)
  · have hi : i < 36 * (ns t + 1) := hi
    rw [hAI_sF, hAI_sF, hAI_sF, R3 6 (by omega) (by omega), R3 7 (by omega) (by omega), R3 8 (by omega) (by omega)]
    show _ = blk (sf t) 36 (ns t) (fun _ => 0) i ∧ _ = blk (ck t) 36 (ns t) (fun _ => 0) i ∧ _ = nI (blk (bo t) 36 (ns t) (fun _ => 0) i)
    unfold blk
    by_cases c : 36 * ns t ≤ i ∧ i < 36 * ns t + 36
    · simp only [if_pos c]
      exact ⟨rfl, rfl, trivial⟩
    · simp only [if_neg c]
      exact a4 i (by omega)
  · have hs : s < ns t + 1 := hs
    rw [hAI_sF, hAI_sF, F.2.1 9 rfl, F.2.1 10 rfl]
    show _ = ux (jo t) (ns t) (hAI h (o + 9) (ns t)) s ∧ (0 ≤ ux (jo t) (ns t) (hAI h (o + 9) (ns t)) s → _ = ux (jt t) (ns t) (hAI h (o + 10) (ns t)) s)
    unfold ux
    by_cases c : s = ns t
    · simp only [if_pos c]
      rw [c]
      exact ⟨rfl, fun _ => rfl⟩
    · simp only [if_neg c]
      exact a5 s (by omega)
theorem MS.cleared {h h2 : Hp} {o g : Nat} {t : St} (m : MS h o t g) (F : FR h h2 o [] [1, 2, 3, 4, 5, 6, 7, 8] []) (mo : MO h2 o) (R1 : ∀ j, j ≠ ns t → hAI h2 (o + 1) j = hAI h (o + 1) j) (R2 : ∀ k, 2 ≤ k → k ≤ 5 → ∀ j, hAI h2 (o + k) j = if 6 * ns t ≤ j ∧ j < 6 * ns t + 6 then nI 0 else hAI h (o + k) j) (R3 : ∀ k, 6 ≤ k → k ≤ 8 → ∀ j, hAI h2 (o + k) j = if 36 * ns t ≤ j ∧ j < 36 * ns t + 36 then nI 0 else hAI h (o + k) j) : MS h2 o t g := by
  obtain ⟨a1, a2, a3, a4, a5⟩ := m.Sh
  refine m.wSh ⟨fun f hf => F.1 f rfl, fun k hk => ?_⟩ (F.2.2 60 rfl) mo m.2.1 ⟨by rw [F.1 401 rfl]; exact a1, fun s hs => ?_, fun i hi => ?_, fun i hi => ?_, fun s hs => ?_⟩ (fun r => r)
  · have := (List.all_eq_true (p := fun k => !([1, 2, 3, 4, 5, 6, 7, 8].contains k))).mp (by decide +kernel) k hk
    exact F.2.1 k (by simpa using this)
  · rw [R1 s (by omega)]; exact a2 s hs
  · rw [R2 2 (by omega) (by omega), R2 3 (by omega) (by omega), R2 4 (by omega) (by omega), R2 5 (by omega) (by omega)]
    simp only [if_neg (show ¬ (6 * ns t ≤ i ∧ i < 6 * ns t + 6) by omega)]
    exact a3 i hi
  · rw [R3 6 (by omega) (by omega), R3 7 (by omega) (by omega), R3 8 (by omega) (by omega)]
    simp only [if_neg (show ¬ (36 * ns t ≤ i ∧ i < 36 * ns t + 36) by omega)]
    exact a4 i hi
  · rw [F.2.1 9 rfl, F.2.1 10 rfl]; exact a5 s hs
theorem mvP_eq {t t' : St} {b x : Nat} (h1 : li t' x = li t x) (h2 : sf t' (pc t x) = sf t (pc t x)) (h3 : ck t' (pc t x) = ck t (pc t x)) : mvP t' b x = mvP t b x := by
  unfold mvP pA pB pc
  rw [h1]
  unfold pc at h2 h3
  rw [h2, h3]
theorem PL_eq {t t' : St} {s d : Nat} (h1 : nb t' = nb t + d) (h2 : ∀ x < nb t, li t' x = li t x) (h3 : ∀ x, nb t ≤ x → x < nb t + d → (li t' x - 1) / 36 ≠ s) : PL t' s = PL t s := by
  unfold PL
  rw [h1, List.range_add, List.filter_append]
  have e1 : ((List.range d).map (nb t + ·)).filter (inSh t' s) = [] := by
    rw [List.filter_eq_nil_iff]
    intro x hx
    rw [List.mem_map] at hx
    obtain ⟨y, hy, rfl⟩ := hx
    rw [List.mem_range] at hy
    rw [inSh_iff]
    exact fun z => h3 _ (by omega) (by omega) z.2
  rw [e1, List.append_nil]
  refine List.filter_congr (fun x hx => ?_)
  rw [List.mem_range] at hx
  unfold inSh
  rw [h2 x hx]
theorem ctX4_join {h : Hp} {o g : Nat} {t : St} {s r ab v : Int32} (m : MS h o t g) (W : WF t) : Ret mX4_join 4 [vR (some o), vI s, vI r, vI ab, vI v] h 0 0 (RI fun y h' => y = (spJoin t s r ab v).2 ∧ MS h' o (spJoin t s r ab v).1 g) := by
  have hns := m.b_ns
  have hnb := m.b_nb
  have B : ∀ z : ¬ (isSh t s = true ∧ isSh t r = true ∧ 0 ≤ ab.toInt ∧ nt ab / 10 < nc t (nt s) ∧ nt ab % 10 < nc t (nt r) ∧ bt v 1 9 = true ∧ nc t (nt s) + nc t (nt r) ≤ 6), spJoin t s r ab v = (t, -1) := fun z => by rw [spJoin, if_pos z]
  refine Ret.go (by decide) rfl rfl RI.ret (bX4_join_0 m ⟨fun e => RIs (B fun z => e z.1) rfl m, fun h1 => ⟨fun e => RIs (B fun z => e z.2.1) rfl m, fun h2 => ⟨fun e => RIs (B fun z => ?_) rfl m, fun h3 => ⟨h1, ?_⟩⟩⟩⟩)
  · have := z.2.2.1
    rw [lt_i] at e
    have e0 : (0 : Int32).toInt = 0 := rfl
    omega
  obtain ⟨k, hk, rfl⟩ := isShN h1
  obtain ⟨l, hl', rfl⟩ := isShN h2
  obtain ⟨n, hn31, rfl⟩ := nI_of h3
  have ek : nt (nI k) = k := nt_nI (by omega)
  have el' : nt (nI l) = l := nt_nI (by omega)
  have en : nt (nI n) = n := nt_nI hn31
  have ck6 := m.b_nc k hk
  have cl6 := m.b_nc l hl'
  rw [ek, el', en] at B
  rw [nI_mod hn31 (by omega), nI_div hn31 (by omega)]
  have c1 : isCo t (nI k) (nI (n / 10)) = true ↔ n / 10 < nc t k := by
    unfold isCo
    rw [ek, bt_iff, nI_toInt (by omega)]
    omega
  have c2 : isCo t (nI l) (nI (n % 10)) = true ↔ n % 10 < nc t l := by
    unfold isCo
    rw [el', bt_iff, nI_toInt (by omega)]
    omega
  rw [c1, c2, ek, el', nI_add, nI_leI (by omega) (by omega), nI_eq (by omega) (by omega)]
  refine ⟨fun e => RIs (B fun z => e z.2.2.2.1) rfl m, fun h4 => ⟨h2, fun e => RIs (B fun z => e z.2.2.2.2.1) rfl m, fun h5 => ⟨fun e => RIs (B fun z => e z.2.2.2.2.2.1) rfl m, fun h6 => ⟨vp_in_nI (by omega) (by omega), hk, vp_in_nI (by omega) (by omega), hl', fun h7 => ?_, fun e => RIs (B fun z => e z.2.2.2.2.2.2) rfl m⟩⟩⟩⟩
  have G : ¬ ¬ (isSh t (nI k) = true ∧ isSh t (nI l) = true ∧ 0 ≤ (nI n).toInt ∧ n / 10 < nc t k ∧ n % 10 < nc t l ∧ bt v 1 9 = true ∧ nc t k + nc t l ≤ 6) := fun z => z ⟨h1, h2, by rw [nI_toInt hn31]; omega, h4, h5, h6, h7⟩
  refine ⟨fun e => RIs (y := (t, -3)) (by rw [spJoin, ek, el', en, if_neg G, if_pos (by exact Or.inl e)]) rfl m, fun h8 => ⟨_, ctX4_piecesOf m h1, ?_⟩⟩
  rintro z9 h10 ⟨rfl, rfl⟩
  refine ⟨_, _, m, _, ctX4_piecesOf m h2, ?_⟩
  rintro z15 h16 ⟨rfl, rfl⟩
  rw [ek, el', W.Pn k hk, W.Pn l hl']
  have lk : (PL t k).length ≤ nb t := by have := List.length_filter_le (inSh t k) (List.range (nb t)); rwa [List.length_range] at this
  have ll : (PL t l).length ≤ nb t := by have := List.length_filter_le (inSh t l) (List.range (nb t)); rwa [List.length_range] at this
  simp only [nI_add]
  rw [nI_leI (by omega) (by omega)]
  refine ⟨_, _, m, fun h9 => ⟨_, ctX4_clear m.1 hns, ?_⟩, fun e => RIs (y := (t, -3)) (by rw [spJoin, ek, el', en, if_neg G, if_pos (by exact Or.inr (by omega))]) rfl m⟩
  rintro h23 ⟨mo23, F23, R1, R2, R3⟩
  have m23 : MS h23 o t g := m.cleared F23 mo23 (fun j hj => by rw [R1, if_neg hj]) R2 R3
  have v12 := vp_in_nI (n := ns t) (N := 13) (by omega) (by omega)
  have ens : nt (nI (ns t)) = ns t := nt_nI (by omega)
  rw [ens]
  refine ⟨_, _, m23, vp_in_nI (by omega) (by omega), hk, vp_in_nI (by omega) (by omega), hl', v12, fun h28 q28 => ?_⟩
  have GS28 := GS.new (h2 := h28) (n := nc t k + nc t l) m (by omega) (by omega) h7 (by rw [q28]; exact F23.tr (FR.w rfl)) (by rw [q28]; exact mo23) (fun j => by
    rw [q28, hAI_w1, R1]
    by_cases c : j = ns t
    · rw [if_pos c, if_pos c]
    · rw [if_neg c, if_neg c, if_neg c]) (fun x x1 x2 j => by rw [q28, hAI_wo (by omega)]; exact R2 x x1 x2 j) (fun x x1 x2 j => by rw [q28, hAI_wo (by omega)]; exact R3 x x1 x2 j)
  have f28 : hFI h28 401 o = nI (ns t) := by rw [q28, hFI_w1]; exact m23.f401
  generalize hJA : ux (jo t) (ns t) (hAI h16 (o + 9) (ns t)) = JA at GS28
  generalize hJB : ux (jt t) (ns t) (hAI h16 (o + 10) (ns t)) = JB at GS28
  -- corners
  have nk : ∀ x, x < ns t → ux (nc t) (ns t) (nc t k + nc t l) x = nc t x := fun x hx => ux_n (by omega)
  have nk1 : nc (J (uN (newS t (nc t k + nc t l) (fun _ => 0) (fun _ => 0) (fun _ => 0) (fun _ => 0)) 0 (ns t + 1)) JA JB) k = nc t k := nk k hk
  have hl2 : ∀ x, x < ns t → ∀ c < nc t x, blk (hl t) 6 (ns t) (fun _ => 0) (6 * x + c) = 0 ∨ blk (hl t) 6 (ns t) (fun _ => 0) (6 * x + c) = 1 := by
    intro x hx c hc
    have := m.b_nc x hx
    unfold blk
    rw [if_neg (by omega)]
    exact W.hl2 x hx c hc
  refine ⟨_, ctX4_copyCorners GS28 (s := k) (j := ns t) (b := 0) (by show k < ns t + 1; omega) (by show ns t < ns t + 1; omega) (by omega) (by rw [nk1]; omega) (by rw [nk1]; exact hl2 k hk), ?_⟩
  rintro h30 ⟨m30, f30⟩
  rw [nk1, cpC_J] at m30
  have r30 : hAI h30 (o + 1) k = nI (nc t k) := by
    have := m30.a1 (s := k) (by show k < ns t + 1; omega)
    exact this.trans (congrArg nI (nk k hk))
  rw [r30]
  refine ⟨m30.1, vp_in_nI (by omega) (by omega), ?_⟩
  have nl1 : nc (J (cpC (uN (newS t (nc t k + nc t l) (fun _ => 0) (fun _ => 0) (fun _ => 0) (fun _ => 0)) 0 (ns t + 1)) k (ns t) 0 (nc t k)) JA JB) l = nc t l := nk l hl'
  refine ⟨_, ctX4_copyCorners m30 (s := l) (j := ns t) (b := nc t k) (by show l < ns t + 1; omega) (by show ns t < ns t + 1; omega) (by omega) (by rw [nl1]; omega) (by
    rw [nl1]
    intro c hc
    show cp1 (blk (hl t) 6 (ns t) (fun _ => 0)) k (ns t) 0 (nc t k) (6 * l + c) = 0 ∨ cp1 (blk (hl t) 6 (ns t) (fun _ => 0)) k (ns t) 0 (nc t k) (6 * l + c) = 1
    unfold cp1
    rw [if_neg (by omega)]
    exact hl2 l hl' c hc), ?_⟩
  rintro h34 ⟨m34, f34⟩
  rw [nl1, cpC_J, newS_cp hk hl' h7] at m34
  refine ⟨m34.1, ?_⟩
  generalize hNS : newS t (nc t k + nc t l) (joiC t (hv t) k l) (joiC t (pd t) k l) (joiC t (wg t) k l) (joiC t (hl t) k l) = NS at m34
  have n1 : nb NS = nb t := by rw [← hNS]; rfl
  have n2 : li NS = li t := by rw [← hNS]; rfl
  have n3 : ∀ p, p < 36 * ns t → sf NS p = sf t p ∧ ck NS p = ck t p := by
    intro p hp
    rw [← hNS]
    refine ⟨?_, ?_⟩
    · show blk (sf t) 36 (ns t) (fun _ => 0) p = sf t p
      unfold blk
      rw [if_neg (by omega)]
    · show blk (ck t) 36 (ns t) (fun _ => 0) p = ck t p
      unfold blk
      rw [if_neg (by omega)]
  have n4 : nc NS = ux (nc t) (ns t) (nc t k + nc t l) := by rw [← hNS]; rfl
  have PLN : ∀ x, PL (J (uN NS 0 (ns t + 1)) JA JB) x = PL t x := by
    intro x
    refine PL_eq (d := 0) n1 (fun y hy => congrFun n2 y) (fun y h1 h2 => absurd h2 (by omega))
  have inN : ∀ x y, inSh (J (uN NS 0 (ns t + 1)) JA JB) x y = inSh t x y := by
    intro x y
    show decide (li NS y ≠ 0 ∧ (li NS y - 1) / 36 = x) = _
    rw [n2]
    rfl
  have pAN : ∀ y, pA (J (uN NS 0 (ns t + 1)) JA JB) y = pA t y := by
    intro y
    show (li NS y - 1) / 6 % 6 = _
    rw [n2]
    rfl
  have pBN : ∀ y, pB (J (uN NS 0 (ns t + 1)) JA JB) y = pB t y := by
    intro y
    show (li NS y - 1) % 6 = _
    rw [n2]
    rfl
  refine ⟨_, ctX4_copyPieces m34 (s := k) (j := ns t) (b := 0) (by show k < ns t + 1; omega) (by show ns t < ns t + 1; omega) (by omega) (fun x hx hin => ?_) (by rw [PLN]; show nb NS + _ ≤ 200; rw [n1]; omega), ?_⟩
  · rw [inN] at hin
    rw [pAN, pBN]
    have hx : x < nb NS := hx
    obtain ⟨q1, q2, q3, q4, q5, q6, q7, q8, q9, q10⟩ := W.pcs m (by omega) hin
    omega
  rintro h38 ⟨m38, f38⟩
  have mp1 : (PL (J (uN NS 0 (ns t + 1)) JA JB) k).map (mvP (J (uN NS 0 (ns t + 1)) JA JB) 0) = (PL t k).map (mvP t 0) := by
    rw [PLN]
    refine List.map_congr_left (fun x hx => ?_)
    unfold PL at hx
    rw [List.mem_filter, List.mem_range] at hx
    obtain ⟨q1, q2, q3, q4, q5, q6, q7, q8, q9, q10⟩ := W.pcs m hx.1 hx.2
    exact mvP_eq (congrFun n2 x) (n3 _ q10).1 (n3 _ q10).2
  rw [mp1, bears_J, bears_uN] at m38
  have qd1 : ∀ z ∈ (PL t k).map (mvP t 0), z.1 < 6 ∧ z.2.1 < 6 := by
    intro z hz
    rw [List.mem_map] at hz
    obtain ⟨x, hx, rfl⟩ := hz
    unfold PL at hx
    rw [List.mem_filter, List.mem_range] at hx
    obtain ⟨q1, q2, q3, q4, q5, q6, q7, q8, q9, q10⟩ := W.pcs m hx.1 hx.2
    exact ⟨by show pA t x + 0 < 6; omega, by show pB t x + 0 < 6; omega⟩
  obtain ⟨g1, g2, g3, g4, g5, g6⟩ := bears_f (j := ns t) ((PL t k).map (mvP t 0)) NS qd1
  rw [List.length_map] at g2 g5
  generalize hN3 : bears NS (ns t) ((PL t k).map (mvP t 0)) = N3 at m38 g1 g2 g3 g4 g5 g6
  have r38 : hAI h38 (o + 1) k = nI (nc t k) := by
    have := m38.a1 (s := k) (by show k < ns t + 1; omega)
    refine this.trans ?_
    show nI (nc N3 k) = _
    rw [g6, n4, nk k hk]
  rw [r38]
  refine ⟨m38.1, vp_in_nI (by omega) (by omega), ?_⟩
  have PL3 : PL (J (uN N3 0 (ns t + 1)) JA JB) l = PL t l := by
    refine PL_eq (d := (PL t k).length) (by show nb N3 = _; rw [g2, n1]) (fun y hy => ?_) (fun y h1 h2 => ?_)
    · show li N3 y = _
      rw [g3 y (by omega), n2]
    · have := g5 y (by omega) (by omega)
      show (li N3 y - 1) / 36 ≠ l
      omega
  have li3 : ∀ y < nb t, li N3 y = li t y := fun y hy => by rw [g3 y (by omega), n2]
  refine ⟨_, ctX4_copyPieces m38 (s := l) (j := ns t) (b := nc t k) (by show l < ns t + 1; omega) (by show ns t < ns t + 1; omega) (by omega) (fun x hx hin => ?_) (by rw [PL3]; show nb N3 + _ ≤ 200; rw [g2, n1]; omega), ?_⟩
  · have hx : x < nb N3 := hx
    have hin : (li N3 x ≠ 0 ∧ (li N3 x - 1) / 36 = l) := inSh_iff.mp hin
    by_cases c : x < nb t
    · rw [li3 x c] at hin
      obtain ⟨q1, q2, q3, q4, q5, q6, q7, q8, q9, q10⟩ := W.pcs m c (inSh_iff.mpr hin)
      show (li N3 x - 1) / 6 % 6 + nc t k < 6 ∧ (li N3 x - 1) % 6 + nc t k < 6
      rw [li3 x c]
      exact ⟨by show pA t x + nc t k < 6; omega, by show pB t x + nc t k < 6; omega⟩
    · have := g5 x (by omega) (by omega)
      omega
  rintro h42 ⟨m42, f42⟩
  have mp2 : (PL (J (uN N3 0 (ns t + 1)) JA JB) l).map (mvP (J (uN N3 0 (ns t + 1)) JA JB) (nc t k)) = (PL t l).map (mvP t (nc t k)) := by
    rw [PL3]
    refine List.map_congr_left (fun x hx => ?_)
    unfold PL at hx
    rw [List.mem_filter, List.mem_range] at hx
    obtain ⟨q1, q2, q3, q4, q5, q6, q7, q8, q9, q10⟩ := W.pcs m hx.1 hx.2
    have p36 : pc t x / 36 ≠ ns t := by rw [q2, (ix_6 q3 q4).1]; omega
    refine mvP_eq (li3 x hx.1) ?_ ?_
    · exact (g4 _ p36).1.trans (n3 _ q10).1
    · exact (g4 _ p36).2.trans (n3 _ q10).2
  rw [mp2, bears_J, bears_uN, ← hN3, bears_app] at m42
  have qd2 : ∀ z ∈ (PL t k).map (mvP t 0) ++ (PL t l).map (mvP t (nc t k)), z.1 < 6 ∧ z.2.1 < 6 := by
    intro z hz
    rcases List.mem_append.mp hz with hz | hz
    · exact qd1 z hz
    · rw [List.mem_map] at hz
      obtain ⟨x, hx, rfl⟩ := hz
      unfold PL at hx
      rw [List.mem_filter, List.mem_range] at hx
      obtain ⟨q1, q2, q3, q4, q5, q6, q7, q8, q9, q10⟩ := W.pcs m hx.1 hx.2
      exact ⟨by show pA t x + nc t k < 6; omega, by show pB t x + nc t k < 6; omega⟩
  obtain ⟨i1, i2, i3, i4, i5, i6⟩ := bears_f (j := ns t) ((PL t k).map (mvP t 0) ++ (PL t l).map (mvP t (nc t k))) NS qd2
  rw [List.length_append, List.length_map, List.length_map] at i2
  generalize hN4 : bears NS (ns t) ((PL t k).map (mvP t 0) ++ (PL t l).map (mvP t (nc t k))) = N4 at m42 i1 i2 i3 i4 i5 i6
  have r42 : hAI h42 (o + 1) k = nI (nc t k) := by
    have := m42.a1 (s := k) (by show k < ns t + 1; omega)
    refine this.trans ?_
    show nI (nc N4 k) = _
    rw [i6, n4, nk k hk]
  have b42 : hFI h42 412 o = nI (nb N4) := by have := m42.f412; rwa [hFI_sn (by decide)] at this
  rw [r42, b42, nI_add]
  refine ⟨m42.1, vp_in_nI (by omega) (by omega), _, ctX4_setPiece m42.1 (by omega) (by omega) (by omega), ?_⟩
  intro h46 q46
  obtain ⟨s1, s2, s3, s4⟩ := ct_setBear m42 (s := ns t) (a := n / 10) (b := nc t k + n % 10) (v := v) (w := nI 0) (by show ns t < ns t + 1; omega) (by omega) (by omega) (by show nb N4 < 200; omega) h46 q46
  rw [s3 1 (by decide) (by decide) (by decide), r42, nI_add]
  refine ⟨s1, vp_in_nI (by omega) (by omega), _, s4, ?_⟩
  rintro h50 ⟨m50, f50⟩
  rw [bear_J, bear_uN] at m50
  have v11 := vp_in_nI (n := ns t) (N := 12) (by omega) (by omega)
  refine ⟨m50.1, v11, fun h53 q53 => ⟨v11, fun h54 q54 h55 q55 => ?_⟩⟩
  have f54 : hFI h54 401 o = nI (ns t) := by rw [q54, hFI_w1, q53, hFI_w1, f50, s2, f42, f38, f34, f30]; exact f28
  rw [f54, nI_add] at q55
  have E : spJoin t (nI k) (nI l) (nI n) v = (uN (uI (uI (bear N4 (ns t) (n / 10, nc t k + n % 10, v, 0)) 6 (ux (jo t) (ns t) (nI k))) 7 (ux (jt t) (ns t) (nI l))) 0 (ns t + 1), nI (ns t)) := by
    rw [spJoin, ek, el', en, if_neg G, if_neg (by omega), hNS, ← hN4]
    have : (joiP t k l (nI n) v).foldl (fun y z => bear y (ns t) z) NS = bear (bears NS (ns t) ((PL t k).map (mvP t 0) ++ (PL t l).map (mvP t (nc t k)))) (ns t) (n / 10, nc t k + n % 10, v, 0) := by
      show bears NS (ns t) (joiP t k l (nI n) v) = _
      unfold joiP
      rw [en, ← bears_app]
      rfl
    rw [this]
  refine RIs E rfl ?_
  rw [q55, q54, q53]
  obtain ⟨a1, a2, a3, a4, a5⟩ := m50.Sh
  refine m50.wSh ⟨fun f hf => ?_, fun x hx => ?_⟩ rfl m50.1 m50.2.1 ⟨hFI_s, fun x hx => ?_, fun x hx => ?_, fun x hx => ?_, fun x hx => ?_⟩ (fun r => r)
  · by_cases c : f = 401
    · subst c; exact absurd hf (by decide)
    · rw [hFI_sn c]
      exact (hFI_sn (h := h50) c).symm
  · have := (List.all_eq_true (p := fun k => !([9, 10].contains k))).mp (by decide +kernel) x hx
    have h9 : x ≠ 9 := by rintro rfl; exact absurd this (by decide)
    have h10 : x ≠ 10 := by rintro rfl; exact absurd this (by decide)
    rw [hAI_sF, hAI_wo h10, hAI_wo h9]
    rfl
  · rw [hAI_sF, hAI_wo (by decide), hAI_wo (by decide)]; exact a2 x hx
  · simp (disch := decide) only [hAI_sF, hAI_wo]; exact a3 x hx
  · simp (disch := decide) only [hAI_sF, hAI_wo]; exact a4 x hx
  · have hx : x < ns t + 1 := hx
    simp (disch := decide) only [hAI_sF, hAI_wo, hAI_w1]
    show _ = ux (jo t) (ns t) (nI k) x ∧ (0 ≤ ux (jo t) (ns t) (nI k) x → _ = ux (jt t) (ns t) (nI l) x)
    obtain ⟨d1, d2⟩ := a5 x hx
    have d1 : hAI h50 (o + 9) x = JA x := d1
    have d2 : 0 ≤ JA x → hAI h50 (o + 10) x = JB x := d2
    unfold ux
    by_cases c : x = ns t
    · simp only [if_pos c]
      exact ⟨trivial, fun _ => trivial⟩
    · simp only [if_neg c]
      rw [← hJA, ux_n c] at d1 d2
      rw [← hJB, ux_n c] at d2
      exact ⟨d1, d2⟩
