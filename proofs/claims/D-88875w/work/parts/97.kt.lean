theorem bear_uN {t : St} {j n : Nat} {z : Qd} : bear (uN t 0 n) j z = uN (bear t j z) 0 n := by
  obtain ⟨a, b, c, d⟩ := t
  unfold bear setP uN uA uI
  refine Prod.ext (funext fun g => ?_) rfl
  show (if g = 1 then _ else if g = 0 then n else a g) = (if g = 0 then n else if g = 1 then _ else a g)
  by_cases h1 : g = 1
  · subst h1; rfl
  · rw [if_neg h1]
    by_cases h0 : g = 0
    · rw [if_pos h0, if_pos h0]
    · rw [if_neg h0, if_neg h0, if_neg h1]
theorem bears_uN {j n : Nat} : ∀ (Z : List Qd) (t : St), bears (uN t 0 n) j Z = uN (bears t j Z) 0 n
  | [], t => rfl
  | z :: Z, t => by
    show bears (bear (uN t 0 n) j z) j Z = uN (bears (bear t j z) j Z) 0 n
    rw [bear_uN, bears_uN Z]
theorem bears_app {t : St} {j : Nat} {Y Z : List Qd} : bears (bears t j Y) j Z = bears t j (Y ++ Z) := by
  unfold bears
  rw [List.foldl_append]
theorem cp_joi {t : St} {f : Nat → Int32} {s r : Nat} (hs : s < ns t) (hr : r < ns t) (h6 : nc t s + nc t r ≤ 6) : cp1 (cp1 (blk f 6 (ns t) (fun _ => 0)) s (ns t) 0 (nc t s)) r (ns t) (nc t s) (nc t r) = blk f 6 (ns t) (joiC t f s r) := by
  funext x
  have B : ∀ q c, q < ns t → c < 6 → blk f 6 (ns t) (fun _ => 0) (6 * q + c) = f (6 * q + c) := by
    intro q c hq hc
    unfold blk
    rw [if_neg (by omega)]
  by_cases h1 : 6 * ns t + nc t s ≤ x ∧ x < 6 * ns t + nc t s + nc t r
  · have e1 : cp1 (cp1 (blk f 6 (ns t) (fun _ => 0)) s (ns t) 0 (nc t s)) r (ns t) (nc t s) (nc t r) x = cp1 (blk f 6 (ns t) (fun _ => 0)) s (ns t) 0 (nc t s) (6 * r + (x - (6 * ns t + nc t s))) := if_pos h1
    have e2 : cp1 (blk f 6 (ns t) (fun _ => 0)) s (ns t) 0 (nc t s) (6 * r + (x - (6 * ns t + nc t s))) = blk f 6 (ns t) (fun _ => 0) (6 * r + (x - (6 * ns t + nc t s))) := if_neg (by omega)
    rw [e1, e2, B r _ hr (by omega)]
    unfold blk
    rw [if_pos (by omega), joiC, if_neg (by omega), if_pos (by omega)]
    congr 1
    omega
  · have e1 : cp1 (cp1 (blk f 6 (ns t) (fun _ => 0)) s (ns t) 0 (nc t s)) r (ns t) (nc t s) (nc t r) x = cp1 (blk f 6 (ns t) (fun _ => 0)) s (ns t) 0 (nc t s) x := if_neg h1
    rw [e1]
    by_cases h2 : 6 * ns t + 0 ≤ x ∧ x < 6 * ns t + 0 + nc t s
    · have e2 : cp1 (blk f 6 (ns t) (fun _ => 0)) s (ns t) 0 (nc t s) x = blk f 6 (ns t) (fun _ => 0) (6 * s + (x - (6 * ns t + 0))) := if_pos h2
      rw [e2, B s _ hs (by omega)]
      unfold blk
      rw [if_pos (by omega), joiC, if_pos (by omega)]
      rfl
    · have e2 : cp1 (blk f 6 (ns t) (fun _ => 0)) s (ns t) 0 (nc t s) x = blk f 6 (ns t) (fun _ => 0) x := if_neg h2
      rw [e2]
      unfold blk
      by_cases h3 : 6 * ns t ≤ x ∧ x < 6 * ns t + 6
      · rw [if_pos h3, if_pos h3, joiC, if_neg (by omega), if_neg (by omega)]
      · rw [if_neg h3, if_neg h3]
theorem newS_cp {t : St} {n m s r : Nat} (hs : s < ns t) (hr : r < ns t) (h6 : nc t s + nc t r ≤ 6) : cpC (cpC (uN (newS t n (fun _ => 0) (fun _ => 0) (fun _ => 0) (fun _ => 0)) 0 m) s (ns t) 0 (nc t s)) r (ns t) (nc t s) (nc t r) = uN (newS t n (joiC t (hv t) s r) (joiC t (pd t) s r) (joiC t (wg t) s r) (joiC t (hl t) s r)) 0 m := by
  have c0 := cp_joi (f := hv t) hs hr h6
  have c1 := cp_joi (f := pd t) hs hr h6
  have c2 := cp_joi (f := wg t) hs hr h6
  have c3 := cp_joi (f := hl t) hs hr h6
  have e0 : ∀ f : Nat → Int32, ∀ X : St, cpC X s (ns t) 0 (nc t s) = uI (uI (uI (uI X 0 (cp1 (hv X) s (ns t) 0 (nc t s))) 1 (cp1 (pd X) s (ns t) 0 (nc t s))) 2 (cp1 (wg X) s (ns t) 0 (nc t s))) 3 (cp1 (hl X) s (ns t) 0 (nc t s)) := fun f X => rfl
  refine Prod.ext rfl (Prod.ext rfl (Prod.ext (funext fun g => ?_) rfl))
  show (if g = 3 then cp1 (cp1 (blk (hl t) 6 (ns t) (fun _ => 0)) s (ns t) 0 (nc t s)) r (ns t) (nc t s) (nc t r) else if g = 2 then cp1 (cp1 (blk (wg t) 6 (ns t) (fun _ => 0)) s (ns t) 0 (nc t s)) r (ns t) (nc t s) (nc t r) else if g = 1 then cp1 (cp1 (blk (pd t) 6 (ns t) (fun _ => 0)) s (ns t) 0 (nc t s)) r (ns t) (nc t s) (nc t r) else if g = 0 then cp1 (cp1 (blk (hv t) 6 (ns t) (fun _ => 0)) s (ns t) 0 (nc t s)) r (ns t) (nc t s) (nc t r) else (cpC (uN (newS t n (fun _ => 0) (fun _ => 0) (fun _ => 0) (fun _ => 0)) 0 m) s (ns t) 0 (nc t s)).2.2.1 g) = (newS t n (joiC t (hv t) s r) (joiC t (pd t) s r) (joiC t (wg t) s r) (joiC t (hl t) s r)).2.2.1 g
  rw [c0, c1, c2, c3]
  by_cases g3 : g = 3
  · subst g3; rfl
  · by_cases g2 : g = 2
    · subst g2; rfl
    · by_cases g1 : g = 1
      · subst g1; rfl
      · by_cases g0 : g = 0
        · subst g0; rfl
        · rw [if_neg g3, if_neg g2, if_neg g1, if_neg g0]
          unfold cpC newS uI uA uN
          simp only [if_neg g3, if_neg g2, if_neg g1, if_neg g0]
          rfl
/-- a shape cleared behind the others, its corners told -/
theorem GS.new {h h2 : Hp} {o g n : Nat} {t : St} (m : MS h o t g) (hn : ns t < 12) (n1 : 1 ≤ n) (n6 : n ≤ 6) (F : FR h h2 o [] [1, 2, 3, 4, 5, 6, 7, 8] []) (mo : MO h2 o) (R1 : ∀ j, hAI h2 (o + 1) j = if j = ns t then nI n else hAI h (o + 1) j) (R2 : ∀ k, 2 ≤ k → k ≤ 5 → ∀ j, hAI h2 (o + k) j = if 6 * ns t ≤ j ∧ j < 6 * ns t + 6 then nI 0 else hAI h (o + k) j) (R3 : ∀ k, 6 ≤ k → k ≤ 8 → ∀ j, hAI h2 (o + k) j = if 36 * ns t ≤ j ∧ j < 36 * ns t + 36 then nI 0 else hAI h (o + k) j) : GS h2 o (uN (newS t n (fun _ => 0) (fun _ => 0) (fun _ => 0) (fun _ => 0)) 0 (ns t + 1)) g := by
  sorry
