/-! THE PLAIN LAW: the walk over sums and tests, all of it -/
section WAL
variable {G : sd_G} {u : Nat → Nat} {sz n0 n1 tl so m rd k : Nat} {ta tx : Nat → Nat} {w : Int32} {ky nd iv : Nat → Nat} {kt : Nat → List Nat}
theorem w_all (C : wlC G) (hiv : ∀ j, j < k → sd_c G (iv j) = some (.inr (47, [.int (n3 j)]))) : ∀ n,
    (∀ D i d r h, i ≤ nT u sz → d ≤ 8 → 3 * (8 - d) + 3 ≤ D → pE (kdT u sz) (vlT u sz) n 0 i d = some r → okw w r → PW G u sz n0 tl ta tx rd w so m k ky nd iv kt n1 ((pRP G D).2.2.2.1 rd) 40 0 (fun s h' a j ws => isSm (neF w k) (Lp G (Rg n0 n1 rd (nmA u sz tx) s) h') (j - i) (9 - d) a ws) i d r h) ∧
    (∀ D i d r h, i ≤ nT u sz → d ≤ 8 → 3 * (8 - d) + 2 ≤ D → pE (kdT u sz) (vlT u sz) n 2 i d = some r → okw w r → PW G u sz n0 tl ta tx rd w so m k ky nd iv kt n1 ((pRP G D).2.2.2.2.1 rd) 40 0 (fun s h' a j ws => isSm (neF w k) (Lp G (Rg n0 n1 rd (nmA u sz tx) s) h') (j - i) (9 - d) a ws) i d r h) ∧
    (∀ D i d r h, i ≤ nT u sz → d ≤ 8 → 3 * (8 - d) + 1 ≤ D → pE (kdT u sz) (vlT u sz) n 4 i d = some r → okw w r → PW G u sz n0 tl ta tx rd w so m k ky nd iv kt n1 ((pRP G D).2.2.2.2.2 rd) 40 0 (fun s h' a j ws => isSm (neF w k) (Lp G (Rg n0 n1 rd (nmA u sz tx) s) h') (j - i) (9 - d) a ws) i d r h) ∧
    (∀ D d i r h f a s0 i0 w0, d ≤ 8 → 3 * (8 - d) + 2 ≤ D → i ≤ nT u sz → pE (kdT u sz) (vlT u sz) n 1 i d = some r → okw w r → nT u sz + 1 - i < f → isSm (neF w k) (Lp G (Rg n0 n1 rd (nmA u sz tx) s0) h) (i - i0) (9 - d) a w0 → i0 < i → n1 ≤ s0 → s0 ≤ h.1 → PW G u sz n0 tl ta tx rd w so m k ky nd iv kt n1 (sd_loop (fun k s => fX7_sum_b5 G (pRP G D) k s.1 s.2) f (rd, a)) 0 0 (fun _ h' a j ws => isSm (neF w k) (Lp G (Rg n0 n1 rd (nmA u sz tx) s0) h') (j - i0) (9 - d) a (w0 ++ ws)) i d r h) ∧
    (∀ D d i r h f a s0 i0 w0, d ≤ 8 → 3 * (8 - d) + 1 ≤ D → i ≤ nT u sz → pE (kdT u sz) (vlT u sz) n 3 i d = some r → okw w r → nT u sz + 1 - i < f → isSm (neF w k) (Lp G (Rg n0 n1 rd (nmA u sz tx) s0) h) (i - i0) (9 - d) a w0 → i0 < i → n1 ≤ s0 → s0 ≤ h.1 → PW G u sz n0 tl ta tx rd w so m k ky nd iv kt n1 (sd_loop (fun k s => fX7_product_b5 G (pRP G D) k s.1 s.2) f (rd, a)) 0 0 (fun _ h' a j ws => isSm (neF w k) (Lp G (Rg n0 n1 rd (nmA u sz tx) s0) h') (j - i0) (9 - d) a (w0 ++ ws)) i d r h) ∧
    (∀ D i d r h, i ≤ nT u sz → d ≤ 8 → 3 * (8 - d) + 6 ≤ D → pE (kdT u sz) (vlT u sz) n 5 i d = some r → okw w r → PW G u sz n0 tl ta tx rd w so m k ky nd iv kt n1 ((pRP G D).1 rd) 10 3 (fun s h' a j ws => isTs (neF w k) (Lp G (Rg n0 n1 rd (nmA u sz tx) s) h') (3 + 2 * (8 - d)) a ws) i d r h) ∧
    (∀ D i d r h, i ≤ nT u sz → d ≤ 8 → 3 * (8 - d) + 5 ≤ D → pE (kdT u sz) (vlT u sz) n 7 i d = some r → okw w r → PW G u sz n0 tl ta tx rd w so m k ky nd iv kt n1 ((pRP G D).2.1 rd) 20 4 (fun s h' a j ws => isTs (neF w k) (Lp G (Rg n0 n1 rd (nmA u sz tx) s) h') (2 + 2 * (8 - d)) a ws) i d r h) ∧
    (∀ D i d r h, i ≤ nT u sz → d ≤ 8 → 3 * (8 - d) + 4 ≤ D → pE (kdT u sz) (vlT u sz) n 9 i d = some r → okw w r → PW G u sz n0 tl ta tx rd w so m k ky nd iv kt n1 ((pRP G D).2.2.1 rd) 30 5 (fun s h' a j ws => isTs (neF w k) (Lp G (Rg n0 n1 rd (nmA u sz tx) s) h') (1 + 2 * (8 - d)) a ws) i d r h) ∧
    (∀ D d i r h f hs o l mc rr cap ff ws, d ≤ 8 → 3 * (8 - d) + 5 ≤ D → i ≤ nT u sz → pE (kdT u sz) (vlT u sz) n 6 i d = some r → okw w r → nT u sz + 1 - i < f → wfH G hs → xf rd (nmA u sz tx) hs h → n1 ≤ hs.1 → SV G u sz n0 tx rd n1 (neF w k) false o l mc rr cap ff ws (2 + 2 * (8 - d)) hs.1 h → rr < h.1 → 1 ≤ ws.length → ws.length ≤ i → PB G u sz n0 tl ta tx rd w so m k ky nd iv kt n1 hs (cont_test G D rd o f) (fun h' a j w2 => isTs (neF w k) (Lp G (Rg n0 n1 rd (nmA u sz tx) hs.1) h') (2 + 2 * (8 - d) + 1) a (joiR false ws ++ w2)) i d r h) ∧
    (∀ D d i r h f hs o l mc rr cap ff ws, d ≤ 8 → 3 * (8 - d) + 4 ≤ D → i ≤ nT u sz → pE (kdT u sz) (vlT u sz) n 8 i d = some r → okw w r → nT u sz + 1 - i < f → wfH G hs → xf rd (nmA u sz tx) hs h → n1 ≤ hs.1 → SV G u sz n0 tx rd n1 (neF w k) true o l mc rr cap ff ws (1 + 2 * (8 - d)) hs.1 h → rr < h.1 → 1 ≤ ws.length → ws.length ≤ i → PB G u sz n0 tl ta tx rd w so m k ky nd iv kt n1 hs (cont_both G D rd o f) (fun h' a j w2 => isTs (neF w k) (Lp G (Rg n0 n1 rd (nmA u sz tx) hs.1) h') (1 + 2 * (8 - d) + 1) a (joiR true ws ++ w2)) i d r h) := by
  intro n
  induction n with
  | zero => exact ⟨(fun _ _ _ _ _ _ _ _ hp => by cases hp), (fun _ _ _ _ _ _ _ _ hp => by cases hp), (fun _ _ _ _ _ _ _ _ hp => by cases hp), (fun _ _ _ _ _ _ _ _ _ _ _ _ _ hp => by cases hp), (fun _ _ _ _ _ _ _ _ _ _ _ _ _ hp => by cases hp), (fun _ _ _ _ _ _ _ _ hp => by cases hp), (fun _ _ _ _ _ _ _ _ hp => by cases hp), (fun _ _ _ _ _ _ _ _ hp => by cases hp), (fun _ _ _ _ _ _ _ _ _ _ _ _ _ _ _ _ _ hp => by cases hp), (fun _ _ _ _ _ _ _ _ _ _ _ _ _ _ _ _ _ hp => by cases hp)⟩
  | succ n ih =>
    obtain ⟨a0, a2, a4, b1, b3, a5, a7, a9, b6, b8⟩ := ih
    refine ⟨?_, ?_, ?_, ?_, ?_, ?_, ?_, ?_, ?_, ?_⟩
    · intro D i d r h hi hd hD
      cases D with
      | zero => omega
      | succ D => exact w_sum C (fun i r h hi => a2 D i d r h hi hd (by omega)) (fun i r h f a s0 i0 w0 => b1 D d i r h f a s0 i0 w0 hd (by omega)) i r h hi
    · intro D i d r h hi hd hD
      cases D with
      | zero => omega
      | succ D => exact w_product C (fun i r h hi => a4 D i d r h hi hd (by omega)) (fun i r h f a s0 i0 w0 => b3 D d i r h f a s0 i0 w0 hd (by omega)) i r h hi
    · intro D i d r h hi hd hD
      cases D with
      | zero => omega
      | succ D => exact w_value C hiv (a0 D) (a4 D) i d r h hi hd hD
    · intro D d i r h f a s0 i0 w0 hd hD
      exact w_sumR C (fun i r h hi => a2 D i d r h hi hd hD) (fun i r h f a s0 i0 w0 => b1 D d i r h f a s0 i0 w0 hd hD) i r h f a s0 i0 w0
    · intro D d i r h f a s0 i0 w0 hd hD
      exact w_proR C (fun i r h hi => a4 D i d r h hi hd hD) (fun i r h f a s0 i0 w0 => b3 D d i r h f a s0 i0 w0 hd hD) i r h f a s0 i0 w0
    · intro D i d r h hi hd hD
      cases D with
      | zero => omega
      | succ D => exact w_test C (fun i r h hi => a7 D i d r h hi hd (by omega)) (fun i r h f hs o l mc rr cap ff ws => b6 D d i r h f hs o l mc rr cap ff ws hd (by omega)) i r h hi
    · intro D i d r h hi hd hD
      cases D with
      | zero => omega
      | succ D => exact w_both C (fun i r h hi => a9 D i d r h hi hd (by omega)) (fun i r h f hs o l mc rr cap ff ws => b8 D d i r h f hs o l mc rr cap ff ws hd (by omega)) i r h hi
    · intro D i d r h hi hd hD
      cases D with
      | zero => omega
      | succ D => exact w_single C hiv (a0 D) (a5 D) (a9 D) i d r h hi hd hD
    · intro D d i r h f hs o l mc rr cap ff ws hd hD
      exact w_testR C (fun i r h hi => a7 D i d r h hi hd hD) (fun i r h f hs o l mc rr cap ff ws => b6 D d i r h f hs o l mc rr cap ff ws hd hD) i r h f hs o l mc rr cap ff ws
    · intro D d i r h f hs o l mc rr cap ff ws hd hD
      exact w_bothR C (fun i r h hi => a9 D i d r h hi hd hD) (fun i r h f hs o l mc rr cap ff ws => b8 D d i r h f hs o l mc rr cap ff ws hd hD) i r h f hs o l mc rr cap ff ws
/-- a sum of an order -/
theorem w_sum0 (C : wlC G) (hiv : ∀ j, j < k → sd_c G (iv j) = some (.inr (47, [.int (n3 j)]))) {i : Nat} {h : sd_H} (hi : i ≤ nT u sz) (ow : okw w (pX (kdT u sz) (vlT u sz) 0 i)) : PW G u sz n0 tl ta tx rd w so m k ky nd iv kt n1 ((pRP G 100).2.2.2.1 rd) 40 0 (fun s h' a j ws => isSm (neF w k) (Lp G (Rg n0 n1 rd (nmA u sz tx) s) h') (j - i) 9 a ws) i 0 (pX (kdT u sz) (vlT u sz) 0 i) h := (w_all C hiv 7000).1 100 i 0 _ h hi (by omega) (by omega) (pX_eq tkT hi) ow
theorem w_test0 (C : wlC G) (hiv : ∀ j, j < k → sd_c G (iv j) = some (.inr (47, [.int (n3 j)]))) {i : Nat} {h : sd_H} (hi : i ≤ nT u sz) (ow : okw w (pX (kdT u sz) (vlT u sz) 5 i)) : PW G u sz n0 tl ta tx rd w so m k ky nd iv kt n1 ((pRP G 100).1 rd) 10 3 (fun s h' a j ws => isTs (neF w k) (Lp G (Rg n0 n1 rd (nmA u sz tx) s) h') 19 a ws) i 0 (pX (kdT u sz) (vlT u sz) 5 i) h := (w_all C hiv 7000).2.2.2.2.2.1 100 i 0 _ h hi (by omega) (by omega) (pX_eq tkT hi) ow
end WAL
