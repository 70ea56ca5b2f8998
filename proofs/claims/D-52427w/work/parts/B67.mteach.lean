/-! THE PLAIN LAW: the model learns -/
section MTE
variable {n : Nat} {ρ : Nat → Option Nat} {ad : Nat → Nat} {K : Nat → Option sd_E} {v : Nat → Int32} {x : Nat → Nat → Int32} {y : Nat → Nat → Int64} {G : sd_G} {b : Nat × Nat} {sz : Nat} {u : Nat → Nat}
/-- from the new plan on -/
theorem tea2 {Q : Int32 → sd_H → Nat × Nat → Prop} (E : mOk n ρ ad) (w : wfH G (hMo n ρ ad K v x y)) (hW : strsC G (sd_ad G 18) kws) (h2 : v 2 = n3 sz) (hs : sz ≤ 2000) (hu : ∀ k, k < sz → x 1 k = n3 (u k)) (h256 : ∀ k, k < sz → u k < 256) (v20 : v 20 = n3 4) (v21 : v 21 = n3 6) (v22 : v 22 = n3 0) (v26 : v 26 = n3 0) (v32 : v 32 = n3 0) (v38 : v 38 = n3 0) (hw : ∀ j, 197 ≤ j → x 15 j = 0)
    (kb : ∀ j v' x' y', pBook (kdT u sz) (vlT u sz) = .inr j → v' 3 = n3 (plT u sz j) → v' 0 = v 0 → v' 2 = 0 → lowX x x' → Q 1 (hMo n ρ ad K v' x' y') b)
    (ke : ∀ L X er k v' x' y', pBook (kdT u sz) (vlT u sz) = .inl L → (∀ j, 20 ≤ j → j ≤ 32 → X j = x j) → lBook (kdT u sz) (nbT u sz) (nwT u sz) (q0S, (fun _ => 0), X) L = .inr (er, k) → v' 3 = n3 (plT u sz k) → v' 0 = v 0 → v' 2 = 0 → lowX x x' → Q (n3 er) (hMo n ρ ad K v' x' y') b)
    (ks : ∀ L X S t m v' y' q', pBook (kdT u sz) (vlT u sz) = .inl L → (∀ j, 20 ≤ j → j ≤ 32 → X j = x j) → lBook (kdT u sz) (nbT u sz) (nwT u sz) (q0S, (fun _ => 0), X) L = .inl S → SL t S v' y' → (∀ j, 32 < j → S.2.2 j = X j) → OT (kdT u sz) (flO (kdT u sz) L) (X 33) (X 34) (X 35) (X 36) (X 37) m → m ≤ 400 → q' = resQ (X 36) (X 37) (S.2.2 9) m → v' 3 = v 3 → v' 0 = v 0 → v' 2 = 0 → lowX x S.2.2 → Q 0 (hMo n ρ (updN ad 4 (ad 20)) K v' (sx (rx S.2.2 q') (enc (t0S (S.1 20) (S.1 21)))) y') b) : wp (sd_bnd (sd_isC G 4 (ad 0)) fun _ => sd_bnd (fX5_read G (ad 0) (ad 20)) fun r2 => sd_bnd (sd_put 4 2 .int (ad 0) (.int 0)) fun _ => if r2 ≤ 0 then (sd_bnd (sd_put 4 4 (.object "SofaDigModel$Plan") (ad 0) (.ref (ad 20))) fun _ => sd_bnd (sd_isC G 4 (ad 0)) fun _ => sd_bnd (fX5_fill G (ad 0)) fun _ => sd_ret 0) else (sd_ret r2)) (hMo n ρ ad K v x y) b Q := by
  have p2 : ∀ v x y (b : Nat × Nat) (Q : Unit → sd_H → Nat × Nat → Prop), wp (sd_put 4 2 .int (ad 0) (.int 0)) (hMo n ρ ad K v x y) b Q = Q () (hMo n ρ ad K (upd v 2 0) x y) b := by
    intro v x y b Q
    simp (disch := omega) only [↓mFl E, ↓mPu E]
  have erp : ∀ (L : List Ln) (X : Nat → Nat → Int32) er k, lBook (kdT u sz) (nbT u sz) (nwT u sz) (q0S, (fun _ => 0), X) L = .inr (er, k) → 2 ≤ er ∧ er ≤ 5 := by
    have hp : ∀ S i f e, lPla (nbT u sz) S i f = .inr e → 2 ≤ e.1 ∧ e.1 ≤ 5 := by
      intro S i f e h
      unfold lPla at h
      by_cases c1 : S.1 20 ≤ nbT u sz (i + 2)
      · rw [if_pos c1] at h
        cases h
        exact ⟨Nat.le_of_ble_eq_true rfl, Nat.le_of_ble_eq_true rfl⟩
      · rw [if_neg c1] at h
        by_cases c2 : S.1 21 ≤ nbT u sz (i + 4)
        · rw [if_pos c2] at h
          cases h
          exact ⟨Nat.le_of_ble_eq_true rfl, Nat.le_of_ble_eq_true rfl⟩
        · rw [if_neg c2] at h
          by_cases c3 : (if f = true then S.2.2 30 (10 * nbT u sz (i + 2) + nbT u sz (i + 4)) ≠ -1 else S.2.2 31 (10 * nbT u sz (i + 2) + nbT u sz (i + 4)) ≠ 0)
          · rw [if_pos c3] at h
            cases h
            exact ⟨Nat.le_of_ble_eq_true rfl, Nat.le_of_ble_eq_true rfl⟩
          · rw [if_neg c3] at h
            cases h
    have hn : ∀ ks S e, lNam (nwT u sz) S ks = .inr e → 2 ≤ e.1 ∧ e.1 ≤ 5 := by
      intro ks
      induction ks with
      | nil => intro S e h; cases h
      | cons k r ih =>
        intro S e h
        simp only [lNam] at h
        split at h
        · cases h; exact ⟨Nat.le_of_ble_eq_true rfl, Nat.le_of_ble_eq_true rfl⟩
        · exact ih _ _ h
    have hl : ∀ S l e, lLin (kdT u sz) (nbT u sz) (nwT u sz) S l = .inr e → 2 ≤ e.1 ∧ e.1 ≤ 5 := by
      intro S l e h
      unfold lLin at h
      split at h
      · unfold lEmp at h
        split at h
        · cases h; exact ⟨Nat.le_of_ble_eq_true rfl, Nat.le_of_ble_eq_true rfl⟩
        · split at h
          · cases h; exact ⟨Nat.le_of_ble_eq_true rfl, Nat.le_of_ble_eq_true rfl⟩
          · split at h
            · cases h; exact ⟨Nat.le_of_ble_eq_true rfl, Nat.le_of_ble_eq_true rfl⟩
            · split at h
              · cases h; exact ⟨Nat.le_of_ble_eq_true rfl, Nat.le_of_ble_eq_true rfl⟩
              · cases h
      · split at h
        · unfold lSpr at h
          split at h
          · next e' he =>
            cases h
            exact hp _ _ _ _ he
          · cases h
        · have hf : ∀ co, lFin (nbT u sz) (nwT u sz) S l.1 co = .inr e → 2 ≤ e.1 ∧ e.1 ≤ 5 := by
            intro co h
            unfold lFin at h
            split at h
            · cases h; exact ⟨Nat.le_of_ble_eq_true rfl, Nat.le_of_ble_eq_true rfl⟩
            · split at h
              · next e' he =>
                cases h
                exact hp _ _ _ _ he
              · split at h
                · split at h
                  · cases h; exact ⟨Nat.le_of_ble_eq_true rfl, Nat.le_of_ble_eq_true rfl⟩
                  · cases h
                · split at h
                  · cases h; exact ⟨Nat.le_of_ble_eq_true rfl, Nat.le_of_ble_eq_true rfl⟩
                  · cases h
          split at h
          · exact hf _ h
          · split at h
            · exact hf _ h
            · unfold lOrd at h
              split at h
              · cases h; exact ⟨Nat.le_of_ble_eq_true rfl, Nat.le_of_ble_eq_true rfl⟩
              · exact hn _ _ _ h
    have ha : ∀ L S e, lAll (kdT u sz) (nbT u sz) (nwT u sz) S L = .inr e → 2 ≤ e.1 ∧ e.1 ≤ 5 := by
      intro L
      induction L with
      | nil => intro S e h; cases h
      | cons l r ih =>
        intro S e h
        simp only [lAll] at h
        split at h
        · next e' he =>
          cases h
          exact hl _ _ _ he
        · exact ih _ _ h
    intro L X er k h
    unfold lBook at h
    split at h
    · next e' he =>
      cases h
      unfold lHd at he
      split at he
      · split at he
        · cases he; exact ⟨Nat.le_of_ble_eq_true rfl, Nat.le_of_ble_eq_true rfl⟩
        · split at he
          · cases he; exact ⟨Nat.le_of_ble_eq_true rfl, Nat.le_of_ble_eq_true rfl⟩
          · cases he
      · cases he
    · exact ha _ _ _ h
  rw [wp_bnd, hMo_isC4 E, wp_bnd]
  refine m_read E w hW h2 hs hu h256 v20 v21 v22 v26 v32 v38 (fun j v' x' y' h1 h3 h4 h5 => ?_) (fun L X er k v' x' y' h1 h3 h4 h5 h6 h7 => ?_) (fun L X S t m v' y' q' h1 h3 h4 h5 h6 h7 h8 h9 h10 h11 h12 => ?_)
  · rw [wp_bnd, p2, wp_ite, if_neg (by decide), wp_ret]
    exact kb j _ x' y' h1 ((upd_ne (by decide)).trans h3) ((upd_ne (by decide)).trans h4.1) (upd_same _ _ _) h5
  · have := erp L X er k h4
    rw [wp_bnd, p2, wp_ite, if_neg (show ¬ n3 er ≤ 0 from by rw [show (0 : Int32) = n3 0 from rfl, n3_le (by omega) (by omega)]; omega), wp_ret]
    exact ke L X er k _ x' y' h1 h3 h4 ((upd_ne (by decide)).trans h5) ((upd_ne (by decide)).trans h6.1) (upd_same _ _ _) h7
  · have h5' := h5
    obtain ⟨s10, s20, s21, s22, s26, s32, sn, b20, b21, b22, b26, b32⟩ := h5
    have E4 := mOk_4 (r := ad 20) E
    rw [wp_bnd, p2, wp_ite, if_pos (by decide), wp_bnd, m_put4 E, wp_bnd]
    show wp (sd_isC G 4 (updN ad 4 (ad 20) 0)) _ b _
    rw [hMo_isC4 E4, wp_bnd]
    show wp (fX5_fill G (updN ad 4 (ad 20) 0)) _ b _
    refine m_fill (ns := S.1 20) (st := S.1 21) E4 rfl ((upd_ne (by decide)).trans s20) ((upd_ne (by decide)).trans s21) b20.2 b21.2 (fun j hj => ?_) ?_
    · show S.2.2 15 j = 0
      rw [h12 15 (by decide)]
      exact hw j hj
    · rw [wp_ret]
      refine ks L X S t m (upd v' 2 0) y' q' h1 h3 h4 ?_ h6 h7 h8 h9 ((upd_ne (by decide)).trans h10) ((upd_ne (by decide)).trans h11.1) (upd_same _ _ _) h12
      exact ⟨(upd_ne (by decide)).trans s10, (upd_ne (by decide)).trans s20, (upd_ne (by decide)).trans s21, (upd_ne (by decide)).trans s22, (upd_ne (by decide)).trans s26, (upd_ne (by decide)).trans s32, sn, b20, b21, b22, b26, b32⟩
end MTE
