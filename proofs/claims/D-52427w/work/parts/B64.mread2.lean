/-! THE PLAIN LAW: the model reads a tape: all of it -/
def q0S : Nat → Nat := fun k => if k = 20 then 4 else if k = 21 then 6 else 0
def lowV (v v' : Nat → Int32) : Prop := v' 0 = v 0 ∧ v' 2 = v 2
def lowX (x x' : Nat → Nat → Int32) : Prop := ∀ j, j = 1 ∨ j = 15 ∨ j = 16 ∨ j = 17 → x' j = x j
section MR2
variable {n : Nat} {ρ : Nat → Option Nat} {ad : Nat → Nat} {K : Nat → Option sd_E} {v : Nat → Int32} {x : Nat → Nat → Int32} {y : Nat → Nat → Int64} {G : sd_G} {b : Nat × Nat} {sz : Nat} {u : Nat → Nat}
theorem pv_of {i d m k : Nat} (h1 : k ≠ 10) (h2 : k ≠ 11) (h3 : k ≠ 38) : pv v i d m k = v k := by
  unfold pv
  rw [if_neg h1, if_neg h2, if_neg h3]
theorem px_of {p q e a c f : Nat → Int32} {k : Nat} (h1 : k ≠ 36) (h2 : k ≠ 37) (h3 : k ≠ 7) (h4 : k ≠ 33) (h5 : k ≠ 34) (h6 : k ≠ 35) : px (qx x a c f) p q e k = x k := by
  unfold px qx
  rw [if_neg h1, if_neg h2, if_neg h3, if_neg h4, if_neg h5, if_neg h6]
theorem m_read {Q : Int32 → sd_H → Nat × Nat → Prop} (E : mOk n ρ ad) (w : wfH G (hMo n ρ ad K v x y)) (hW : strsC G (sd_ad G 18) kws) (h2 : v 2 = n3 sz) (hs : sz ≤ 2000) (hu : ∀ k, k < sz → x 1 k = n3 (u k)) (h256 : ∀ k, k < sz → u k < 256) (v20 : v 20 = n3 4) (v21 : v 21 = n3 6) (v22 : v 22 = n3 0) (v26 : v 26 = n3 0) (v32 : v 32 = n3 0) (v38 : v 38 = n3 0)
    (kb : ∀ j v' x' y', pBook (kdT u sz) (vlT u sz) = .inr j → v' 3 = n3 (plT u sz j) → lowV v v' → lowX x x' → Q 1 (hMo n ρ ad K v' x' y') b)
    (ke : ∀ L X er k v' x' y', pBook (kdT u sz) (vlT u sz) = .inl L → (∀ j, 20 ≤ j → j ≤ 32 → X j = x j) → lBook (kdT u sz) (nbT u sz) (nwT u sz) (q0S, (fun _ => 0), X) L = .inr (er, k) → v' 3 = n3 (plT u sz k) → lowV v v' → lowX x x' → Q (n3 er) (hMo n ρ ad K v' x' y') b)
    (ks : ∀ L X S t m v' y' q', pBook (kdT u sz) (vlT u sz) = .inl L → (∀ j, 20 ≤ j → j ≤ 32 → X j = x j) → lBook (kdT u sz) (nbT u sz) (nwT u sz) (q0S, (fun _ => 0), X) L = .inl S → SL t S v' y' → (∀ j, 32 < j → S.2.2 j = X j) → OT (kdT u sz) (flO (kdT u sz) L) (X 33) (X 34) (X 35) (X 36) (X 37) m → m ≤ 400 → q' = resQ (X 36) (X 37) (S.2.2 9) m → v' 3 = v 3 → lowV v v' → lowX x S.2.2 → Q 0 (hMo n ρ ad K v' (rx S.2.2 q') y') b) : wp (fX5_read G (ad 0) (ad 20)) (hMo n ρ ad K v x y) b Q := by
  have h400 := nT_le (u := u) (sz := sz)
  have hN := tkT (u := u) (sz := sz)
  unfold fX5_read
  rw [wp_bnd, hMo_isC4 E, wp_bnd]
  refine m_cut E w hW h2 hs hu h256 (fun x1 y1 a1 a2 a3 => ?_)
  have e0 : hMo n ρ ad K (upd (upd (upd v 10 0) 11 0) 12 0) x1 y1 = hMo n ρ ad K (pv (upd v 12 (n3 0)) 0 0 0) (px (qx x1 (x1 33) (x1 34) (x1 35)) (x1 36) (x1 37) (x1 7)) y1 := by
    congr 1
    · funext j
      unfold upd pv
      by_cases h10 : j = 10
      · subst h10
        rfl
      · by_cases h11 : j = 11
        · subst h11
          rfl
        · by_cases h12 : j = 12
          · subst h12
            rfl
          · rw [if_neg h12, if_neg h11, if_neg h10, if_neg h10, if_neg h11]
            by_cases h38 : j = 38
            · rw [if_pos h38, h38]
              exact v38
            · rw [if_neg h38]
              show v j = if j = 12 then n3 0 else v j
              rw [if_neg h12]
    · funext j
      unfold px qx
      by_cases h36 : j = 36
      · rw [if_pos h36, h36]
      · rw [if_neg h36]
        by_cases h37 : j = 37
        · rw [if_pos h37, h37]
        · rw [if_neg h37]
          by_cases h7 : j = 7
          · rw [if_pos h7, h7]
          · rw [if_neg h7]
            by_cases h33 : j = 33
            · rw [if_pos h33, h33]
            · rw [if_neg h33]
              by_cases h34 : j = 34
              · rw [if_pos h34, h34]
              · rw [if_neg h34]
                by_cases h35 : j = 35
                · rw [if_pos h35, h35]
                · rw [if_neg h35]
  have p10 : ∀ (b : Nat × Nat) (Q : Unit → sd_H → Nat × Nat → Prop), wp (sd_put 4 10 .int (ad 0) (.int 0)) (hMo n ρ ad K v x1 y1) b Q = Q () (hMo n ρ ad K (upd v 10 0) x1 y1) b := by
    intro b Q
    simp (disch := omega) only [↓mFl E, ↓mPu E]
  have p11 : ∀ v (b : Nat × Nat) (Q : Unit → sd_H → Nat × Nat → Prop), wp (sd_put 4 11 .int (ad 0) (.int 0)) (hMo n ρ ad K v x1 y1) b Q = Q () (hMo n ρ ad K (upd v 11 0) x1 y1) b := by
    intro v b Q
    simp (disch := omega) only [↓mFl E, ↓mPu E]
  have p12 : ∀ v (b : Nat × Nat) (Q : Unit → sd_H → Nat × Nat → Prop), wp (sd_put 4 12 .int (ad 0) (.int 0)) (hMo n ρ ad K v x1 y1) b Q = Q () (hMo n ρ ad K (upd v 12 0) x1 y1) b := by
    intro v b Q
    simp (disch := omega) only [↓mFl E, ↓mPu E]
  have p3 : ∀ v x y z (b : Nat × Nat) (Q : Unit → sd_H → Nat × Nat → Prop), wp (sd_put 4 3 .int (ad 0) (.int z)) (hMo n ρ ad K v x y) b Q = Q () (hMo n ρ ad K (upd v 3 z) x y) b := by
    intro v x y z b Q
    simp (disch := omega) only [↓mFl E, ↓mPu E]
  have hk1 : ∀ i, i < nT u sz → kdT u sz i = 31 → (y1 8 i).toInt32 = vlT u sz i := by
    intro i hi h
    have := ((a3 i (by omega)).2.2.2 hi).1 h
    rw [this, n6_n3]
    rfl
  have T : tkX (kdT u sz) (vlT u sz) (nT u sz) x1 y1 := ⟨hN, fun i hi => ⟨(a3 i hi).1, kd_lt h256⟩, hk1⟩
  rw [wp_bnd, p10, wp_bnd, p11, wp_bnd, p12, wp_bnd, hMo_isC4 E, wp_bnd, e0]
  refine m_book E T (fun k hk => (a3 k hk).2.2.1) ?_
  cases hb : pBook (kdT u sz) (vlT u sz) with
  | inr j =>
    intro d1 m1 n1 aa cc ff pp qq ee
    show wp _ _ b Q
    rw [wp_ite, if_pos rfl]
    have jN : j ≤ nT u sz := by
      unfold pBook at hb
      have hh := pHd_ok hN
      cases hx : pHd (kdT u sz) with
      | inr j0 =>
        rw [hx] at hb hh
        cases hb
        exact hh
      | inl i0 =>
        rw [hx] at hb hh
        have : ∀ f i j, i ≤ nT u sz → pBk (kdT u sz) (vlT u sz) f i = .inr j → j ≤ nT u sz := by
          intro f
          induction f with
          | zero =>
            intro i j hi h
            cases h
            exact hi
          | succ f ih =>
            intro i j hi h
            simp only [pBk] at h
            by_cases e33 : kdT u sz i = 33
            · rw [if_pos e33] at h
              cases h
            · rw [if_neg e33] at h
              have ok := pLin_ok (vl := vlT u sz) hN hi
              cases hl : pLin (kdT u sz) (vlT u sz) i with
              | inr j0 =>
                rw [hl] at h ok
                cases h
                exact ok.2
              | inl l0 =>
                rw [hl] at h ok
                by_cases e59 : kdT u sz l0.2.1 = 59
                · have s1 := tk_suc hN ok.2.2.1 e59 (by decide) (by decide)
                  simp only [e59, ↓reduceIte] at h
                  cases hr : pBk (kdT u sz) (vlT u sz) f (l0.2.1 + 1) with
                  | inr j1 =>
                    rw [hr] at h
                    cases h
                    exact ih _ _ s1 hr
                  | inl L0 =>
                    rw [hr] at h
                    cases h
                · simp only [e59, ↓reduceIte] at h
                  cases h
                  exact ok.2.2.1
        exact this 401 i0 j hh.1 hb
    have h6 : px (qx x1 aa cc ff) pp qq ee 6 j = n3 (plT u sz j) := (a3 j jN).2.1
    rw [wp_bnd, hMo_getR4 E rfl, wp_bnd, hMo_getI4 E rfl, pv_10, wp_bnd, ra_6 E (by omega), h6, wp_bnd, p3, wp_ret]
    refine kb j _ _ _ hb (upd_same _ _ _) ⟨?_, ?_⟩ (fun j hj => ?_)
    · rfl
    · rfl
    · rcases hj with rfl | rfl | rfl | rfl
      · exact a1 1 (by decide) (by decide) (by decide)
      · exact a1 15 (by decide) (by decide) (by decide)
      · exact a1 16 (by decide) (by decide) (by decide)
      · exact a1 17 (by decide) (by decide) (by decide)
  | inl L =>
    intro i0 t m' no' a' c' f' p' q' e' hh he ⟨c1, c2, c3, c4, c5, c6⟩
    have hbk : pBk (kdT u sz) (vlT u sz) 401 i0 = .inl L := by
      unfold pBook at hb
      rw [hh] at hb
      exact hb
    have hi0 : i0 ≤ nT u sz := by
      have := pHd_ok hN
      rw [hh] at this
      exact this.1
    have hmem := pBk_mem hN 401 i0 L hi0 hbk
    obtain ⟨b1, b2, b3, b4, b5⟩ := c4
    show wp _ _ b Q
    rw [wp_ite, if_neg (by decide)]
    have hX : ∀ j, 20 ≤ j → j ≤ 32 → px (qx x1 a' c' f') p' q' e' j = x j := by
      intro j h1 h3
      rw [px_of (by omega) (by omega) (by omega) (by omega) (by omega) (by omega)]
      exact a1 j (by omega) (by omega) (by omega)
    have lX : lowX x (px (qx x1 a' c' f') p' q' e') := by
      intro j hj
      rcases hj with rfl | rfl | rfl | rfl
      · exact a1 1 (by decide) (by decide) (by decide)
      · exact a1 15 (by decide) (by decide) (by decide)
      · exact a1 16 (by decide) (by decide) (by decide)
      · exact a1 17 (by decide) (by decide) (by decide)
    have D : TD (kdT u sz) (plT u sz) (nbT u sz) (nwT u sz) (nT u sz) e' (px (qx x1 a' c' f') p' q' e') y1 := by
      intro k hk
      obtain ⟨t1, t2, t3, t4⟩ := a3 k hk
      refine ⟨t1, kd_lt h256, t2, rfl, fun h => ?_, fun h => ?_⟩
      · have hk' := kd_30 hk (Or.inr h)
        exact ⟨(t4 hk').1 h, (kd_nw hk').1 h⟩
      · have hk' := kd_30 hk (Or.inl h)
        exact ⟨(t4 hk').2 (Or.inr h), (kd_nw hk').2 h⟩
    have Sl : SL t (q0S, (fun _ => 0), px (qx x1 a' c' f') p' q' e') (pv (upd v 12 (n3 no')) t 0 m') y1 := ⟨rfl, v20, v21, v22, v26, v32, fun k hk => absurd hk (Nat.not_lt_zero k), ⟨show 2 ≤ q0S 20 by decide, show q0S 20 ≤ 8 by decide⟩, ⟨show 2 ≤ q0S 21 by decide, show q0S 21 ≤ 10 by decide⟩, show q0S 22 ≤ 6 by decide, show q0S 26 ≤ 24 by decide, show q0S 32 ≤ 16 by decide⟩
    refine l_book (vl := vlT u sz) (i0 := i0) (L := L) (S := (q0S, (fun _ => 0), px (qx x1 a' c' f') p' q' e')) E hN c2 hh he c1 (fun l hl => ⟨(hmem l hl).1, (hmem l hl).2.2, (c6 l hl).2.1, (c6 l hl).2.2⟩) D Sl (show t < sd_FU by unfold sd_FU; omega) ?_
    cases hlb : lBook (kdT u sz) (nbT u sz) (nwT u sz) (q0S, (fun _ => 0), px (qx x1 a' c' f') p' q' e') L with
    | inr er =>
      obtain ⟨er, k⟩ := er
      intro v2 x2 y2 z1 z2 z3 z4
      refine ke L _ er k v2 x2 y2 hb hX hlb z2 ⟨?_, ?_⟩ (fun j hj => ?_)
      · exact z1 0 (by decide) (by decide) (by decide) (by decide) (by decide) (by decide) (by decide) (by decide)
      · exact z1 2 (by decide) (by decide) (by decide) (by decide) (by decide) (by decide) (by decide) (by decide)
      · exact (z3.1 j (by omega) (by omega)).trans (lX j hj)
    | inl S =>
      intro v2 y2 z1 z2 z3 z4 z5
      have w38 : v2 38 = n3 m' := z1 38 (by decide) (by decide) (by decide) (by decide) (by decide) (by decide) (by decide) (by decide)
      have r36 : S.2.2 36 = p' := z4.2 36 (by decide)
      have r37 : S.2.2 37 = q' := z4.2 37 (by decide)
      have mle : m' ≤ 400 := by omega
      rw [wp_bnd]
      refine m_setP E w38 (by omega) ?_ ?_
      · rw [r36, r37]
        exact b4.1
      · rw [wp_ret]
        refine ks L _ S t m' v2 y2 _ hb hX hlb z3 (fun j hj => z4.2 j hj) b4 mle (by rw [r36, r37]; rfl) z2 ⟨?_, ?_⟩ (fun j hj => ?_)
        · exact z1 0 (by decide) (by decide) (by decide) (by decide) (by decide) (by decide) (by decide) (by decide)
        · exact z1 2 (by decide) (by decide) (by decide) (by decide) (by decide) (by decide) (by decide) (by decide)
        · exact (z4.1 j (by omega) (by omega)).trans (lX j hj)
end MR2
