/-! THE PLAIN LAW: the model's parser does as the form says -/
theorem sqc_ass {a : Option PR} {z : Int32 × Int32} {k : Nat → Option PR} : sqc (sqc a (prW z)) k = sqc a (fun j => (k j).map (addR [z] [])) := by
  unfold sqc prW
  cases a with
  | none => rfl
  | some r =>
    cases r with
    | inr j => rfl
    | inl t =>
      obtain ⟨j, w, ks⟩ := t
      show (k j).map (addR (w ++ [z]) (ks ++ [])) = ((k j).map (addR [z] [])).map (addR w ks)
      cases k j with
      | none => rfl
      | some r' =>
        cases r' with
        | inr j' => rfl
        | inl t' =>
          obtain ⟨j', w', ks'⟩ := t'
          show some (Sum.inl (j', (w ++ [z]) ++ w', (ks ++ []) ++ ks')) = some (Sum.inl (j', w ++ ([z] ++ w'), ks ++ ([] ++ ks')))
          rw [List.append_assoc, List.append_nil, List.nil_append]
section MP2
variable {n : Nat} {ρ : Nat → Option Nat} {ad : Nat → Nat} {K : Nat → Option sd_E} {v : Nat → Int32} {x : Nat → Nat → Int32} {y : Nat → Nat → Int64} {G : sd_G} {b : Nat × Nat} {κ : Nat → Nat} {vl : Nat → Int32} {N : Nat}
/-- what is known of the parser's functions for fuel u of the form -/
def SPm (G : sd_G) (κ : Nat → Nat) (vl : Nat → Int32) (N n : Nat) (ρ : Nat → Option Nat) (ad : Nat → Nat) (K : Nat → Option sd_E) (v : Nat → Int32) (x : Nat → Nat → Int32) (y : Nat → Nat → Int64) (u : Nat) : Prop :=
  (∀ i d r mm, pE κ vl u 0 i d = some r → i ≤ N → d ≤ 8 → 4 * (8 - d) + 4 ≤ mm → mS n ρ ad K v x y 0 ((pMP G mm).2.2.2.2.1 (ad 0) (ad 20)) i d d r) ∧
  (∀ i d r mm fu, pE κ vl u 1 i d = some r → i ≤ N → d ≤ 8 → 4 * (8 - d) + 3 ≤ mm → N - i < fu → mS n ρ ad K v x y 0 (sd_loop (fun k s => fX5_isSum_b10 G (pMP G mm) k s.1 s.2) fu (ad 0, ad 20)) i d d r) ∧
  (∀ i d r mm, pE κ vl u 2 i d = some r → i ≤ N → d ≤ 8 → 4 * (8 - d) + 3 ≤ mm → mS n ρ ad K v x y 0 ((pMP G mm).2.2.2.2.2.1 (ad 0) (ad 20)) i d d r) ∧
  (∀ i d r mm fu, pE κ vl u 3 i d = some r → i ≤ N → d ≤ 8 → 4 * (8 - d) + 2 ≤ mm → N - i < fu → mS n ρ ad K v x y 0 (sd_loop (fun k s => fX5_isProduct_b10 G (pMP G mm) k s.1 s.2) fu (ad 0, ad 20)) i d d r) ∧
  (∀ i d r mm, pE κ vl u 4 i d = some r → i ≤ N → d ≤ 8 → 4 * (8 - d) + 2 ≤ mm → mS n ρ ad K v x y 0 ((pMP G mm).2.2.2.2.2.2.1 (ad 0) (ad 20)) i d d r) ∧
  (∀ i d r mm, pE κ vl u 5 i d = some r → i ≤ N → d ≤ 8 → 4 * (8 - d) + 8 ≤ mm → mS n ρ ad K v x y 0 ((pMP G mm).1 (ad 0) (ad 20)) i d d r) ∧
  (∀ i d r mm fu, pE κ vl u 6 i d = some r → i ≤ N → d ≤ 8 → 4 * (8 - d) + 7 ≤ mm → N - i < fu → mS n ρ ad K v x y 0 (sd_loop (fun k s => fX5_isTest_b10 G (pMP G mm) k s.1 s.2) fu (ad 0, ad 20)) i d d r) ∧
  (∀ i d r mm, pE κ vl u 7 i d = some r → i ≤ N → d ≤ 8 → 4 * (8 - d) + 7 ≤ mm → mS n ρ ad K v x y 0 ((pMP G mm).2.1 (ad 0) (ad 20)) i d d r) ∧
  (∀ i d r mm fu, pE κ vl u 8 i d = some r → i ≤ N → d ≤ 8 → 4 * (8 - d) + 6 ≤ mm → N - i < fu → mS n ρ ad K v x y 0 (sd_loop (fun k s => fX5_isBoth_b10 G (pMP G mm) k s.1 s.2) fu (ad 0, ad 20)) i d d r) ∧
  (∀ i d r mm, pE κ vl u 9 i d = some r → i ≤ N → d ≤ 8 → 4 * (8 - d) + 6 ≤ mm → mS n ρ ad K v x y 0 ((pMP G mm).2.2.1 (ad 0) (ad 20)) i d d r)
theorem pos_of (hN : tkN κ N) {u c i d j : Nat} {w : List (Int32 × Int32)} {ks : List Nat} (hi : i ≤ N) (h : pE κ vl u c i d = some (.inl (j, w, ks))) : i ≤ j ∧ w.length ≤ j - i ∧ j ≤ N ∧ (mainC c = 1 → i < j) := by
  have := pE_ok hN u c i d _ hi h
  exact ⟨by have := this.1; omega, this.2.2.1, this.2.1, fun e => by have := this.1; omega⟩
theorem map_some {a : Option PR} {f : PR → PR} {r : PR} (h : a.map f = some r) : ∃ r', a = some r' ∧ r = f r' := by
  cases a with
  | none => cases h
  | some r' =>
    cases h
    exact ⟨r', rfl, rfl⟩
/-- a chain: an operator's token, an operand, a row, and on -/
theorem mS_chain {f1 kk : sd_M Int32} {i d u c c' : Nat} {o : Int32} {r : PR} (hN : tkN κ N) (E : mOk n ρ ad) (hi1 : i + 1 ≤ N) (h : sqc (sqc (pE κ vl u c (i + 1) d) (prW (o, 0))) (fun j => pE κ vl u c' j d) = some r) (hc : mainC c = 1) (h1 : ∀ r1, pE κ vl u c (i + 1) d = some r1 → mS n ρ ad K v x y 0 f1 (i + 1) d d r1) (h2 : ∀ j r1, i + 1 < j → j ≤ N → pE κ vl u c' j d = some r1 → mS n ρ ad K v x y 0 kk j d d r1) : mS n ρ ad K v x y 1 (sd_bnd (sd_isC G 4 (ad 0)) fun _ => sd_bnd f1 fun r9 => if r9 = 0 then (sd_ret 0) else (sd_bnd (sd_isC G 4 (ad 0)) fun _ => sd_bnd (fX5_put G (ad 0) (ad 20) o 0) fun _ => kk)) (i + 1) d d r := by
  rw [sqc_ass] at h
  refine mS_isC E (mS_bnd h (fun r1 e1 => mS_mono (h1 r1 e1) (by omega)) (fun j w ks e1 => ?_) (fun j w ks r' e1 e2 => ?_))
  · have := pos_of hN hi1 e1
    exact ⟨this.1, this.2.1⟩
  · have po := pos_of hN hi1 e1
    obtain ⟨r2, e3, rfl⟩ := map_some e2
    have := hN.1
    exact mS_rowk E (by omega) (h2 j r2 (po.2.2.2 hc) po.2.2.1 e3)
/-- a main one, then its chain -/
theorem mS_main {f1 kk : sd_M Int32} {i d u c c' : Nat} {r : PR} (hN : tkN κ N) (E : mOk n ρ ad) (hi : i ≤ N) (h : sqc (pE κ vl u c i d) (fun j => pE κ vl u c' j d) = some r) (h1 : ∀ r1, pE κ vl u c i d = some r1 → mS n ρ ad K v x y 0 f1 i d d r1) (h2 : ∀ j r1, j ≤ N → pE κ vl u c' j d = some r1 → mS n ρ ad K v x y 0 kk j d d r1) : mS n ρ ad K v x y 0 (sd_bnd (sd_isC G 4 (ad 0)) fun _ => sd_bnd f1 fun r1 => if r1 = 0 then (sd_ret 0) else kk) i d d r := by
  refine mS_isC E (mS_bnd h h1 (fun j w ks e1 => ?_) (fun j w ks r' e1 e2 => ?_))
  · have := pos_of hN hi e1
    exact ⟨this.1, this.2.1⟩
  · exact h2 j r' (pos_of hN hi e1).2.2.1 e2
/-- an operand, then a row -/
theorem mS_oprow {f1 : sd_M Int32} {i d d1 u c s : Nat} {o : Int32} {k2 : sd_M Int32} {r : PR} (hN : tkN κ N) (hi : i ≤ N) (h : sqc (pE κ vl u c i d1) (prW (o, 0)) = some r) (h1 : ∀ r1, pE κ vl u c i d1 = some r1 → mS n ρ ad K v x y 0 f1 i d1 d1 r1) (h2 : ∀ j, j ≤ N → mS n ρ ad K v x y s k2 j d1 d (.inl (j, [(o, 0)], []))) : mS n ρ ad K v x y s (sd_bnd f1 fun r1 => if r1 = 0 then (sd_ret 0) else k2) i d1 d r := by
  refine mS_bnd h (fun r1 e1 => mS_mono (h1 r1 e1) (by omega)) (fun j w ks e1 => ?_) (fun j w ks r' e1 e2 => ?_)
  · have := pos_of hN hi e1
    exact ⟨this.1, this.2.1⟩
  · unfold prW at e2
    cases e2
    exact h2 j (pos_of hN hi e1).2.2.1
theorem SPm_suc {u : Nat} (E : mOk n ρ ad) (T : tkX κ vl N x y) (H : SPm G κ vl N n ρ ad K v x y u) : SPm G κ vl N n ρ ad K v x y (u + 1) := by
  have hN := T.1
  have h400 := hN.1
  obtain ⟨H0, H1, H2, H3, H4, H5, H6, H7, H8, H9⟩ := H
  refine ⟨?_, ?_, ?_, ?_, ?_, ?_, ?_, ?_, ?_, ?_⟩
  · -- sum
    intro i d r mm h hi hd hm
    obtain ⟨mm, rfl⟩ : ∃ q, mm = q + 1 := ⟨mm - 1, by omega⟩
    exact mS_main hN E hi h (fun r1 e1 => H2 i d r1 mm e1 hi hd (by omega)) (fun j r1 hj e1 => H1 j d r1 mm sd_FU e1 hj hd (by omega) (by unfold sd_FU; omega))
  · -- its chain
    intro i d r mm fu h hi hd hm hf
    obtain ⟨fu, rfl⟩ : ∃ q, fu = q + 1 := ⟨fu - 1, by omega⟩
    replace h : pSumR κ (pE κ vl u) i d = some r := h
    show mS n ρ ad K v x y 0 (fX5_isSum_b10 G (pMP G mm) (sd_loop (fun k s => fX5_isSum_b10 G (pMP G mm) k s.1 s.2) fu) (ad 0) (ad 20)) i d d r
    have go : ∀ o, i + 1 ≤ N → sqc (sqc (pE κ vl u 2 (i + 1) d) (prW (o, 0))) (fun j => pE κ vl u 1 j d) = some r → mS n ρ ad K v x y 0 (fX5_isSum_b59 G (pMP G mm) (sd_loop (fun k s => fX5_isSum_b10 G (pMP G mm) k s.1 s.2) fu) (ad 0) (ad 20) o) i d d r := by
      intro o hi1 h
      exact mS_tok E (mS_chain hN E hi1 h rfl (fun r1 e1 => H2 _ d r1 mm e1 hi1 hd (by omega)) (fun j r1 j1 j2 e1 => H1 j d r1 mm fu e1 j2 hd (by omega) (by omega)))
    unfold pSumR at h
    rw [fX5_isSum_b10]
    refine mS_kind E T hi (mS_ite (c := 43) rfl (by decide) T hi (fun e => ?_) (fun e => ?_))
    · rw [if_pos (Or.inl e), if_pos e] at h
      rw [fX5_isSum_b38]
      refine mS_kind E T hi (mS_ite (c := 43) rfl (by decide) T hi (fun _ => ?_) (fun e' => absurd e e'))
      exact go 101 (tk_suc hN hi e (by decide) (by decide)) h
    · refine mS_kind E T hi (mS_ite (c := 45) rfl (by decide) T hi (fun e2 => ?_) (fun e2 => ?_))
      · rw [if_pos (Or.inr e2), if_neg e] at h
        rw [fX5_isSum_b38]
        refine mS_kind E T hi (mS_ite (c := 43) rfl (by decide) T hi (fun e' => absurd e' e) (fun _ => ?_))
        exact go 102 (tk_suc hN hi e2 (by decide) (by decide)) h
      · rw [if_neg (fun h => h.elim e e2)] at h
        cases h
        exact mS_ret1
  · -- product
    intro i d r mm h hi hd hm
    obtain ⟨mm, rfl⟩ : ∃ q, mm = q + 1 := ⟨mm - 1, by omega⟩
    exact mS_main hN E hi h (fun r1 e1 => H4 i d r1 mm e1 hi hd (by omega)) (fun j r1 hj e1 => H3 j d r1 mm sd_FU e1 hj hd (by omega) (by unfold sd_FU; omega))
  · intro i d r mm fu h hi hd hm hf
    obtain ⟨fu, rfl⟩ : ∃ q, fu = q + 1 := ⟨fu - 1, by omega⟩
    replace h : pProR κ (pE κ vl u) i d = some r := h
    show mS n ρ ad K v x y 0 (fX5_isProduct_b10 G (pMP G mm) (sd_loop (fun k s => fX5_isProduct_b10 G (pMP G mm) k s.1 s.2) fu) (ad 0) (ad 20)) i d d r
    have go : ∀ o, i + 1 ≤ N → sqc (sqc (pE κ vl u 4 (i + 1) d) (prW (o, 0))) (fun j => pE κ vl u 3 j d) = some r → mS n ρ ad K v x y 0 (fX5_isProduct_b59 G (pMP G mm) (sd_loop (fun k s => fX5_isProduct_b10 G (pMP G mm) k s.1 s.2) fu) (ad 0) (ad 20) o) i d d r := by
      intro o hi1 h
      exact mS_tok E (mS_chain hN E hi1 h rfl (fun r1 e1 => H4 _ d r1 mm e1 hi1 hd (by omega)) (fun j r1 j1 j2 e1 => H3 j d r1 mm fu e1 j2 hd (by omega) (by omega)))
    unfold pProR at h
    rw [fX5_isProduct_b10]
    refine mS_kind E T hi (mS_ite (c := 42) rfl (by decide) T hi (fun e => ?_) (fun e => ?_))
    · rw [if_pos (Or.inl e), if_pos e] at h
      rw [fX5_isProduct_b38]
      refine mS_kind E T hi (mS_ite (c := 42) rfl (by decide) T hi (fun _ => ?_) (fun e' => absurd e e'))
      exact go 103 (tk_suc hN hi e (by decide) (by decide)) h
    · refine mS_kind E T hi (mS_ite (c := 47) rfl (by decide) T hi (fun e2 => ?_) (fun e2 => ?_))
      · rw [if_pos (Or.inr e2), if_neg e] at h
        rw [fX5_isProduct_b38]
        refine mS_kind E T hi (mS_ite (c := 42) rfl (by decide) T hi (fun e' => absurd e' e) (fun _ => ?_))
        exact go 104 (tk_suc hN hi e2 (by decide) (by decide)) h
      · rw [if_neg (fun h => h.elim e e2)] at h
        cases h
        exact mS_ret1
  · -- value
    intro i d r mm h hi hd hm
    obtain ⟨mm, rfl⟩ : ∃ q, mm = q + 1 := ⟨mm - 1, by omega⟩
    replace h : pVal κ vl (pE κ vl u) i d = some r := h
    show mS n ρ ad K v x y 0 (fX5_isValue G (pMP G mm) (ad 0) (ad 20)) i d d r
    unfold pVal at h
    unfold fX5_isValue
    refine mS_kind E T hi (mS_ite (c := 45) rfl (by decide) T hi (fun e => ?_) (fun e => ?_))
    · rw [if_pos e] at h
      have hi1 := tk_suc hN hi e (by decide) (by decide)
      refine mS_deep (c := 45) (k1 := sqc (pE κ vl u 4 (i + 1) (d + 1)) (prW (105, 0))) rfl (by decide) hd E T hi ?_ (fun _ d8 h => ?_)
      · by_cases c8 : d = 8
        · rw [if_pos c8] at h
          rw [if_pos (Or.inl c8)]
          exact h
        · rw [if_neg c8] at h
          rw [if_neg (fun h9 => h9.elim c8 (fun h9 => h9 e))]
          exact h
      · exact mS_isC E (mS_oprow hN hi1 h (fun r1 e1 => H4 _ _ r1 mm e1 hi1 (by omega) (by omega)) (fun j hj => mS_dec E (mS_row E (by omega))))
    · rw [if_neg e] at h
      refine mS_ite (c := 40) rfl (by decide) T hi (fun e => ?_) (fun e => ?_)
      · rw [if_pos e] at h
        have hi1 := tk_suc hN hi e (by decide) (by decide)
        refine mS_deep (c := 40) (k1 := sqc (pE κ vl u 0 (i + 1) (d + 1)) fun j => prT κ 41 j (some (.inl (j + 1, [], [])))) rfl (by decide) hd E T hi ?_ (fun _ d8 h => ?_)
        · by_cases c8 : d = 8
          · rw [if_pos c8] at h
            rw [if_pos (Or.inl c8)]
            exact h
          · rw [if_neg c8] at h
            rw [if_neg (fun h9 => h9.elim c8 (fun h9 => h9 e))]
            exact h
        · refine mS_isC E (mS_bnd h (fun r1 e1 => mS_mono (H0 _ _ r1 mm e1 hi1 (by omega) (by omega)) (by omega)) (fun j w ks e1 => ?_) (fun j w ks r' e1 e2 => ?_))
          · have := pos_of hN hi1 e1
            exact ⟨this.1, this.2.1⟩
          · refine mS_clo (c := 41) rfl (by decide) E T (pos_of hN hi1 e1).2.2.1 e2 (fun _ e3 => ?_)
            cases e3
            exact mS_ret1
      · rw [if_neg e] at h
        have two : κ i = 27 ∨ κ i = 28 → (if d = 8 ∨ κ (i + 1) ≠ 40 then some (.inr (i + 1)) else sqc (pE κ vl u 0 (i + 2) (d + 1)) fun j => prT κ 44 j (sqc (pE κ vl u 0 (j + 1) (d + 1)) fun j => prT κ 41 j (prW (n3 (κ i), 0) (j + 1)))) = some r → mS n ρ ad K v x y 0 (sd_bnd (sd_isC G 4 (ad 0)) fun _ => sd_bnd ((pMP G mm).2.2.2.2.2.2.2.2 (ad 0) (ad 20) (n3 (κ i))) fun r4 => sd_retN .boolean r4) i d d r := by
          intro e h
          have hi1 : i + 1 ≤ N := e.elim (fun e => tk_suc hN hi e (by decide) (by decide)) (fun e => tk_suc hN hi e (by decide) (by decide))
          obtain ⟨mm, rfl⟩ : ∃ q, mm = q + 1 := ⟨mm - 1, by omega⟩
          refine mS_isC E (mS_retN ?_)
          show mS n ρ ad K v x y 0 (fX5_isOfTwo G (pMP G mm) (ad 0) (ad 20) (n3 (κ i))) i d d r
          unfold fX5_isOfTwo
          refine mS_tok E (mS_deep (c := 40) rfl (by decide) hd E T hi1 h (fun e40 d8 h => ?_))
          have hi2 := tk_suc hN hi1 e40 (by decide) (by decide)
          refine mS_isC E (mS_bnd h (fun r1 e1 => mS_mono (H0 _ _ r1 mm e1 hi2 (by omega) (by omega)) (by omega)) (fun j w ks e1 => ?_) (fun j w ks r' e1 e2 => ?_))
          · have := pos_of hN hi2 e1
            exact ⟨this.1, this.2.1⟩
          · have pj := (pos_of hN hi2 e1).2.2.1
            refine mS_eat (c := 44) rfl (by decide) E T pj e2 (fun e44 e3 => ?_)
            have hj1 := tk_suc hN pj e44 (by decide) (by decide)
            refine mS_isC E (mS_bnd e3 (fun r1 e1 => mS_mono (H0 _ _ r1 mm e1 hj1 (by omega) (by omega)) (by omega)) (fun j w ks e1 => ?_) (fun j' w ks r' e1 e4 => ?_))
            · have := pos_of hN hj1 e1
              exact ⟨this.1, this.2.1⟩
            · have pj' := (pos_of hN hj1 e1).2.2.1
              refine mS_clo (c := 41) rfl (by decide) E T pj' e4 (fun e41 e5 => ?_)
              unfold prW at e5
              cases e5
              have := tk_suc hN pj' e41 (by decide) (by decide)
              exact mS_row E (by omega)
        refine mS_ite (c := 27) rfl (by decide) T hi (fun e27 => ?_) (fun e27 => ?_)
        · rw [if_pos (Or.inl e27)] at h
          exact two (Or.inl e27) h
        · refine mS_ite (c := 28) rfl (by decide) T hi (fun e28 => ?_) (fun e28 => ?_)
          · rw [if_pos (Or.inr e28)] at h
            exact two (Or.inr e28) h
          · rw [if_neg (fun h => h.elim e27 e28)] at h
            have abo : κ i = 19 ∨ κ i = 20 → prT κ 10 (i + 1) (prT κ 30 (i + 2) (some (.inl (i + 3, [(n3 (κ i), n3 (i + 2))], [i + 2])))) = some r → mS n ρ ad K v x y 0 (sd_bnd (sd_isC G 4 (ad 0)) fun _ => sd_bnd (fX5_isAbout G (ad 0) (ad 20) (n3 (κ i))) fun r4 => sd_retN .boolean r4) i d d r := by
              intro e h
              have hi1 : i + 1 ≤ N := e.elim (fun e => tk_suc hN hi e (by decide) (by decide)) (fun e => tk_suc hN hi e (by decide) (by decide))
              refine mS_isC E (mS_retN ?_)
              unfold fX5_isAbout
              refine mS_tok E ?_
              have n22 : ¬ n3 (κ i) = 22 := by
                rw [show (22 : Int32) = n3 22 from rfl, n3_eq (by omega) (by omega)]
                omega
              rw [if_neg n22]
              refine mS_eat (c := 10) rfl (by decide) E T hi1 h (fun e10 h => ?_)
              exact mS_b27 E T (tk_suc hN hi1 e10 (by decide) (by decide)) h
            refine mS_ite (c := 19) rfl (by decide) T hi (fun e19 => ?_) (fun e19 => ?_)
            · rw [if_pos (Or.inl e19)] at h
              exact abo (Or.inl e19) h
            · refine mS_ite (c := 20) rfl (by decide) T hi (fun e20 => ?_) (fun e20 => ?_)
              · rw [if_pos (Or.inr e20)] at h
                exact abo (Or.inr e20) h
              · rw [if_neg (fun h => h.elim e19 e20)] at h
                refine mS_ite (c := 21) rfl (by decide) T hi (fun e21 => ?_) (fun e21 => ?_)
                · rw [if_pos e21] at h
                  have hi1 := tk_suc hN hi e21 (by decide) (by decide)
                  obtain ⟨mm, rfl⟩ : ∃ q, mm = q + 1 := ⟨mm - 1, by omega⟩
                  refine mS_isC E (mS_retN ?_)
                  show mS n ρ ad K v x y 0 (fX5_isOfOne G (pMP G mm) (ad 0) (ad 20) (n3 (κ i))) i d d r
                  unfold fX5_isOfOne
                  refine mS_tok E ?_
                  rw [if_pos (show n3 (κ i) = 21 from by rw [e21]; rfl)]
                  refine mS_deep (c := 40) rfl (by decide) hd E T hi1 h (fun e40 d8 h => ?_)
                  have hi2 := tk_suc hN hi1 e40 (by decide) (by decide)
                  refine mS_isC E (mS_bnd h (fun r1 e1 => mS_mono (H0 _ _ r1 mm e1 hi2 (by omega) (by omega)) (by omega)) (fun j w ks e1 => ?_) (fun j w ks r' e1 e2 => ?_))
                  · have := pos_of hN hi2 e1
                    exact ⟨this.1, this.2.1⟩
                  · have pj := (pos_of hN hi2 e1).2.2.1
                    refine mS_clo (c := 41) rfl (by decide) E T pj e2 (fun e41 e5 => ?_)
                    unfold prW at e5
                    cases e5
                    have := tk_suc hN pj e41 (by decide) (by decide)
                    unfold fX5_isOfOne_b55
                    rw [e21]
                    exact mS_row E (by omega)
                · rw [if_neg e21] at h
                  refine mS_ite (c := 31) rfl (by decide) T hi (fun e31 => ?_) (fun e31 => ?_)
                  · rw [if_pos e31] at h
                    cases h
                    have hi1 := tk_suc hN hi e31 (by decide) (by decide)
                    intro m p q e b Q hm kk
                    have yv := T.2.2 i (by omega) e31
                    rw [wp_bnd, hMo_getR4 E rfl, wp_bnd, hMo_getI4 E rfl, pv_10, wp_bnd]
                    simp (disch := omega) only [↓mAr E, mAr E, ↓mAs E, mAs E]
                    rw [wp_bnd, hMo_isC4 E, wp_bnd, m_putr E (by omega), yv, m_tok E, wp_ret]
                    exact kk
                  · rw [if_neg e31] at h
                    intro m p q e b Q hm kk
                    have k1000 := (T.2.1 i hi).2
                    rw [wp_bnd, m_isIn]
                    by_cases c1 : 15 ≤ κ i ∧ κ i ≤ 18
                    · rw [if_pos c1] at h
                      cases h
                      rw [if_neg (by rw [show (15 : Int32) = n3 15 from rfl, n3_lt (by omega) (by omega)]; omega), if_neg (by rw [show (18 : Int32) = n3 18 from rfl, n3_lt (by omega) (by omega)]; omega), wp_ite, if_neg (by decide), wp_bnd, hMo_isC4 E, wp_bnd, m_putr E (by omega), m_tok E, wp_ret]
                      exact kk
                    · rw [if_neg c1] at h
                      cases h
                      have fin : wp (if (0 : Int32) = 0 then sd_ret 0 else sd_bnd (sd_isC G 4 (ad 0)) fun _ => sd_bnd (fX5_put G (ad 0) (ad 20) (n3 (κ i)) 0) fun _ => sd_bnd (sd_getI G 4 10 (ad 0)) fun v7 => sd_bnd (sd_put 4 10 .int (ad 0) (.int (v7 + 1))) fun _ => sd_ret 1) (hMo n ρ ad K (pv v i d m) (px x p q e) y) b Q := by
                        rw [wp_ite, if_pos rfl, wp_ret]
                        exact kk _ _ _ _ _
                      by_cases c2 : n3 (κ i) < 15
                      · rw [if_pos c2]
                        exact fin
                      · rw [if_neg c2]
                        rw [show (15 : Int32) = n3 15 from rfl, n3_lt (by omega) (by omega)] at c2
                        rw [if_pos (by rw [show (18 : Int32) = n3 18 from rfl, n3_lt (by omega) (by omega)]; omega)]
                        exact fin
  · -- test
    intro i d r mm h hi hd hm
    obtain ⟨mm, rfl⟩ : ∃ q, mm = q + 1 := ⟨mm - 1, by omega⟩
    exact mS_main hN E hi h (fun r1 e1 => H7 i d r1 mm e1 hi hd (by omega)) (fun j r1 hj e1 => H6 j d r1 mm sd_FU e1 hj hd (by omega) (by unfold sd_FU; omega))
  · intro i d r mm fu h hi hd hm hf
    obtain ⟨fu, rfl⟩ : ∃ q, fu = q + 1 := ⟨fu - 1, by omega⟩
    replace h : pTesR κ (pE κ vl u) i d = some r := h
    show mS n ρ ad K v x y 0 (fX5_isTest_b10 G (pMP G mm) (sd_loop (fun k s => fX5_isTest_b10 G (pMP G mm) k s.1 s.2) fu) (ad 0) (ad 20)) i d d r
    unfold pTesR at h
    rw [fX5_isTest_b10]
    intro m p q e b Q hm' kk
    rw [wp_bnd, hMo_isC4 E, wp_bnd, m_eat (a := 26) (c := 26) rfl (by decide) E T hi]
    by_cases c1 : κ i = 26
    · rw [if_pos c1] at h
      have hi1 := tk_suc hN hi c1 (by decide) (by decide)
      rw [if_pos c1, wp_ite, if_neg (by decide)]
      exact mS_chain hN E hi1 h rfl (fun r1 e1 => H7 _ d r1 mm e1 hi1 hd (by omega)) (fun j r1 j1 j2 e1 => H6 j d r1 mm fu e1 j2 hd (by omega) (by omega)) m p q e b Q (by omega) kk
    · rw [if_neg c1] at h
      cases h
      rw [if_neg c1, wp_ite, if_pos rfl, wp_ret]
      exact kk
  · -- both
    intro i d r mm h hi hd hm
    obtain ⟨mm, rfl⟩ : ∃ q, mm = q + 1 := ⟨mm - 1, by omega⟩
    exact mS_main hN E hi h (fun r1 e1 => H9 i d r1 mm e1 hi hd (by omega)) (fun j r1 hj e1 => H8 j d r1 mm sd_FU e1 hj hd (by omega) (by unfold sd_FU; omega))
  · intro i d r mm fu h hi hd hm hf
    obtain ⟨fu, rfl⟩ : ∃ q, fu = q + 1 := ⟨fu - 1, by omega⟩
    replace h : pBotR κ (pE κ vl u) i d = some r := h
    show mS n ρ ad K v x y 0 (fX5_isBoth_b10 G (pMP G mm) (sd_loop (fun k s => fX5_isBoth_b10 G (pMP G mm) k s.1 s.2) fu) (ad 0) (ad 20)) i d d r
    unfold pBotR at h
    rw [fX5_isBoth_b10]
    intro m p q e b Q hm' kk
    rw [wp_bnd, hMo_isC4 E, wp_bnd, m_eat (a := 25) (c := 25) rfl (by decide) E T hi]
    by_cases c1 : κ i = 25
    · rw [if_pos c1] at h
      have hi1 := tk_suc hN hi c1 (by decide) (by decide)
      rw [if_pos c1, wp_ite, if_neg (by decide)]
      exact mS_chain hN E hi1 h rfl (fun r1 e1 => H9 _ d r1 mm e1 hi1 hd (by omega)) (fun j r1 j1 j2 e1 => H8 j d r1 mm fu e1 j2 hd (by omega) (by omega)) m p q e b Q (by omega) kk
    · rw [if_neg c1] at h
      cases h
      rw [if_neg c1, wp_ite, if_pos rfl, wp_ret]
      exact kk
  · -- single
    intro i d r mm h hi hd hm
    obtain ⟨mm, rfl⟩ : ∃ q, mm = q + 1 := ⟨mm - 1, by omega⟩
    replace h : pSin κ (pE κ vl u) i d = some r := h
    show mS n ρ ad K v x y 0 (fX5_isSingle G (pMP G mm) (ad 0) (ad 20)) i d d r
    unfold pSin at h
    unfold fX5_isSingle
    refine mS_kind E T hi (mS_ite (c := 24) rfl (by decide) T hi (fun e => ?_) (fun e => ?_))
    · rw [if_pos e] at h
      have hi1 := tk_suc hN hi e (by decide) (by decide)
      refine mS_deep (c := 24) (k1 := sqc (pE κ vl u 9 (i + 1) (d + 1)) (prW (24, 0))) rfl (by decide) hd E T hi ?_ (fun _ d8 h => ?_)
      · by_cases c8 : d = 8
        · rw [if_pos c8] at h
          rw [if_pos (Or.inl c8)]
          exact h
        · rw [if_neg c8] at h
          rw [if_neg (fun h9 => h9.elim c8 (fun h9 => h9 e))]
          exact h
      · exact mS_isC E (mS_oprow hN hi1 h (fun r1 e1 => H9 _ _ r1 mm e1 hi1 (by omega) (by omega)) (fun j hj => mS_dec E (mS_row E (by omega))))
    · rw [if_neg e] at h
      refine mS_ite (c := 91) rfl (by decide) T hi (fun e => ?_) (fun e => ?_)
      · rw [if_pos e] at h
        have hi1 := tk_suc hN hi e (by decide) (by decide)
        refine mS_deep (c := 91) (k1 := sqc (pE κ vl u 5 (i + 1) (d + 1)) fun j => prT κ 93 j (some (.inl (j + 1, [], [])))) rfl (by decide) hd E T hi ?_ (fun _ d8 h => ?_)
        · by_cases c8 : d = 8
          · rw [if_pos c8] at h
            rw [if_pos (Or.inl c8)]
            exact h
          · rw [if_neg c8] at h
            rw [if_neg (fun h9 => h9.elim c8 (fun h9 => h9 e))]
            exact h
        · refine mS_isC E (mS_bnd h (fun r1 e1 => mS_mono (H5 _ _ r1 mm e1 hi1 (by omega) (by omega)) (by omega)) (fun j w ks e1 => ?_) (fun j w ks r' e1 e2 => ?_))
          · have := pos_of hN hi1 e1
            exact ⟨this.1, this.2.1⟩
          · refine mS_clo (c := 93) rfl (by decide) E T (pos_of hN hi1 e1).2.2.1 e2 (fun _ e3 => ?_)
            cases e3
            exact mS_ret1
      · rw [if_neg e] at h
        refine mS_ite (c := 22) rfl (by decide) T hi (fun e => ?_) (fun e => ?_)
        · rw [if_pos e] at h
          have hi1 := tk_suc hN hi e (by decide) (by decide)
          refine mS_isC E (mS_retN ?_)
          unfold fX5_isAbout
          refine mS_tok E ?_
          rw [if_pos (show n3 (κ i) = 22 from by rw [e]; rfl), e]
          exact mS_b27 E T hi1 h
        · rw [if_neg e] at h
          refine mS_ite (c := 23) rfl (by decide) T hi (fun e => ?_) (fun e => ?_)
          · rw [if_pos e] at h
            have hi1 := tk_suc hN hi e (by decide) (by decide)
            obtain ⟨mm, rfl⟩ : ∃ q, mm = q + 1 := ⟨mm - 1, by omega⟩
            refine mS_isC E (mS_retN ?_)
            show mS n ρ ad K v x y 0 (fX5_isOfOne G (pMP G mm) (ad 0) (ad 20) (n3 (κ i))) i d d r
            unfold fX5_isOfOne
            refine mS_tok E ?_
            rw [if_neg (show ¬ n3 (κ i) = 21 from by rw [e]; decide)]
            refine mS_isC E (mS_oprow hN hi1 h (fun r1 e1 => H0 _ _ r1 mm e1 hi1 hd (by omega)) (fun j hj => ?_))
            unfold fX5_isOfOne_b55
            rw [e]
            exact mS_row E (by omega)
          · rw [if_neg e] at h
            obtain ⟨mm, rfl⟩ : ∃ q, mm = q + 1 := ⟨mm - 1, by omega⟩
            refine mS_isC E (mS_retN ?_)
            show mS n ρ ad K v x y 0 (fX5_isCompare G (pMP G mm) (ad 0) (ad 20)) i d d r
            unfold fX5_isCompare
            refine mS_isC E (mS_bnd h (fun r1 e1 => mS_mono (H0 _ _ r1 mm e1 hi hd (by omega)) (by omega)) (fun j w ks e1 => ?_) (fun j w ks r' e1 e2 => ?_))
            · have := pos_of hN hi e1
              exact ⟨this.1, this.2.1⟩
            · have pj := (pos_of hN hi e1).2.2.1
              have cmp : ∀ o, o ≠ (-1 : Int32) → sgO (κ j) = some o → mS n ρ ad K v x y 0 (fX5_isCompare_b78 G (pMP G mm) (ad 0) (ad 20) o) j d d r' := by
                intro o ho hs
                rw [hs] at e2
                have hj1 := tk_suc hN pj rfl (sgO_ne hs).1 (sgO_ne hs).2
                unfold fX5_isCompare_b78
                rw [if_neg ho]
                exact mS_tok E (mS_isC E (mS_oprow hN hj1 e2 (fun r1 e1 => H0 _ _ r1 mm e1 hj1 hd (by omega)) (fun j hj => mS_row E (by omega))))
              refine mS_kind E T pj (mS_ite (c := 60) rfl (by decide) T pj (fun e => cmp 106 (by decide) (by unfold sgO; rw [if_pos e])) (fun n60 => ?_))
              refine mS_ite (c := 62) rfl (by decide) T pj (fun e => cmp 107 (by decide) (by unfold sgO; rw [if_neg n60, if_pos e])) (fun n62 => ?_)
              refine mS_ite (c := 61) rfl (by decide) T pj (fun e => cmp 108 (by decide) (by unfold sgO; rw [if_neg n60, if_neg n62, if_pos e])) (fun n61 => ?_)
              refine mS_ite (c := 316) rfl (by decide) T pj (fun e => cmp 109 (by decide) (by unfold sgO; rw [if_neg n60, if_neg n62, if_neg n61, if_pos e])) (fun n316 => ?_)
              refine mS_ite (c := 318) rfl (by decide) T pj (fun e => cmp 110 (by decide) (by unfold sgO; rw [if_neg n60, if_neg n62, if_neg n61, if_neg n316, if_pos e])) (fun n318 => ?_)
              have hs : sgO (κ j) = none := by
                unfold sgO
                rw [if_neg n60, if_neg n62, if_neg n61, if_neg n316, if_neg n318]
              rw [hs] at e2
              cases e2
              unfold fX5_isCompare_b78
              rw [if_pos rfl]
              exact mS_ret0
theorem SPm_all (E : mOk n ρ ad) (T : tkX κ vl N x y) : ∀ u, SPm G κ vl N n ρ ad K v x y u := by
  intro u
  induction u with
  | zero => exact ⟨fun _ _ _ _ h => (by cases h), fun _ _ _ _ _ h => (by cases h), fun _ _ _ _ h => (by cases h), fun _ _ _ _ _ h => (by cases h), fun _ _ _ _ h => (by cases h), fun _ _ _ _ h => (by cases h), fun _ _ _ _ _ h => (by cases h), fun _ _ _ _ h => (by cases h), fun _ _ _ _ _ h => (by cases h), fun _ _ _ _ h => (by cases h)⟩
  | succ u ih => exact SPm_suc E T ih
end MP2
