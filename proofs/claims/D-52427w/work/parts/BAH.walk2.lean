/-! THE PLAIN LAW: the second walk -/
theorem lNam_q {nw : Nat → Nat} : ∀ (ks : List Nat) (S S' : SS), lNam nw S ks = .inl S' → S'.1 = S.1 := by
  intro ks
  induction ks with
  | nil =>
    intro S S' h
    cases h
    rfl
  | cons a r ih =>
    intro S S' h
    simp only [lNam] at h
    split at h
    · cases h
    · have := ih _ S' h
      exact this
theorem lLin_q {κ nb nw : Nat → Nat} {S S' : SS} {l : Ln} (h : lLin κ nb nw S l = .inl S') : S'.1 20 = S.1 20 ∧ S'.1 21 = S.1 21 := by
  unfold lLin at h
  split at h
  · unfold lEmp at h
    split at h
    · cases h
    · split at h
      · cases h
      · split at h
        · cases h
        · split at h
          · cases h
          · cases h
            exact ⟨rfl, rfl⟩
  · split at h
    · unfold lSpr at h
      split at h
      · cases h
      · cases h
        exact ⟨rfl, rfl⟩
    · have fin : ∀ co, lFin nb nw S l.1 co = .inl S' → S'.1 20 = S.1 20 ∧ S'.1 21 = S.1 21 := by
        intro co h
        unfold lFin at h
        split at h
        · cases h
        · split at h
          · cases h
          · split at h
            · split at h
              · cases h
              · cases h
                exact ⟨rfl, rfl⟩
            · split at h
              · cases h
              · cases h
                exact ⟨rfl, rfl⟩
      split at h
      · exact fin _ h
      · split at h
        · exact fin _ h
        · unfold lOrd at h
          split at h
          · cases h
          · rw [lNam_q _ _ _ h]
            exact ⟨rfl, rfl⟩
theorem lAll_q {κ nb nw : Nat → Nat} : ∀ (L : List Ln) (S S' : SS), lAll κ nb nw S L = .inl S' → S'.1 20 = S.1 20 ∧ S'.1 21 = S.1 21 := by
  intro L
  induction L with
  | nil =>
    intro S S' h
    cases h
    exact ⟨rfl, rfl⟩
  | cons l r ih =>
    intro S S' h
    simp only [lAll] at h
    split at h
    · cases h
    · next S1 h1 =>
      obtain ⟨q1, q2⟩ := lLin_q h1
      obtain ⟨q3, q4⟩ := ih S1 S' h
      exact ⟨q3.trans q1, q4.trans q2⟩
section WK2
variable {G : sd_G} {u : Nat → Nat} {sz n0 n2 tl so m rd E0 : Nat} {ta tx : Nat → Nat} {w : Int32} {F : Nat → Nat} {β : Nat × Nat} {Q : Unit ⊕ Nat → sd_H → Nat × Nat → Prop}
theorem w_lines2 {n4 : Nat} {ad : Nat → Nat} {mcs : Nat → Int32} (w1 : w ≠ 0) (C : wlC G) (K : crC G) (I : icC G) (hrd : n0 ≤ rd) : ∀ (f i : Nat) (S : SS) (os : List Ln) (TZ : Nat → Prop) (L : List Ln) (h : sd_H) (b : Nat × Nat) (fuel : Nat), i ≤ nT u sz → pBk (kdT u sz) (vlT u sz) f i = .inl L → W2 G u sz n0 tl ta tx rd w so m n2 n4 E0 F ad mcs TZ S os i h → bud β b (50 * (nT u sz + 1 - i)) → nT u sz - i < fuel →
    (∀ e t h' q b', lAll (kdT u sz) (nbT u sz) (nwT u sz) S L = .inr (e, t) → h'.2 q = some (aFt (n3 e) (plT u sz t)) → wfH G h' → fz n0 h h' → bud β b' 0 → Q (.inr q) h' b') →
    (∀ S' TZ' j h' b', lAll (kdT u sz) (nbT u sz) (nwT u sz) S L = .inl S' → W2 G u sz n0 tl ta tx rd w so m n2 n4 E0 F ad mcs TZ' S' (os ++ flO (kdT u sz) L) j h' → fz n0 h h' → bud β b' 0 → Q (.inl ()) h' b') → wp (sd_loop (fun k s => fX7_sofa_b60 G k s) fuel rd) h b Q := by
  intro f
  induction f with
  | zero => intro i S os TZ L h b fuel _ hp; cases hp
  | succ f ih =>
    intro i S os TZ L h b fuel hi hp W hb hfu kf kk
    cases fuel with
    | zero => omega
    | succ fuel =>
      have R : ∃ ky nd iv kt, RW G u sz n0 tl ta tx rd w so m (S.1 22) ky nd iv kt h.1 i 0 h := by
        obtain ⟨ky, nd, iv, kt, Wm⟩ := W
        exact ⟨ky, nd, iv, kt, RW_of Wm.1 Wm.2.2.1⟩
      obtain ⟨ky, nd, iv, kt, R⟩ := R
      show wp (fX7_sofa_b60 G (sd_loop (fun k s => fX7_sofa_b60 G k s) fuel) rd) h b Q
      unfold fX7_sofa_b60
      rw [wp_bnd, w_isC R, wp_bnd, c_now (RW_in R).1 (RW_in R).2.1 hi, wp_bnd, (tk_rd (RW_in R).1 hi).1, wp_ite]
      simp only [pBk] at hp
      by_cases e : kdT u sz i = 33
      · rw [if_pos e] at hp
        cases hp
        rw [if_pos ((srt_eq C.1 _).2.1.mpr e), wp_ret]
        refine kk S TZ i h b rfl ?_ fz.refl (bud_le hb (Nat.zero_le _))
        show W2 _ _ _ _ _ _ _ _ _ _ _ _ _ _ _ _ _ _ _ (os ++ []) _ _
        rw [List.append_nil]
        exact W
      · rw [if_neg e] at hp
        rw [if_neg (fun q => e ((srt_eq C.1 _).2.1.mp q)), wp_bnd, w_isC R, wp_bx]
        cases hl : pLin (kdT u sz) (vlT u sz) i with
        | inr j =>
          rw [hl] at hp
          cases hp
        | inl l =>
          rw [hl] at hp
          have hp : (if kdT u sz l.2.1 = 59 then (match pBk (kdT u sz) (vlT u sz) f (l.2.1 + 1) with
            | .inr j => .inr j
            | .inl L => .inl (l :: L)) else (Sum.inr l.2.1 : List Ln ⊕ Nat)) = .inl L := hp
          have okl := pLin_ok (vl := vlT u sz) (tkT (u := u) (sz := sz)) hi
          rw [hl] at okl
          by_cases e59 : kdT u sz l.2.1 = 59
          · rw [if_pos e59] at hp
            cases hb2 : pBk (kdT u sz) (vlT u sz) f (l.2.1 + 1) with
            | inr j =>
              rw [hb2] at hp
              cases hp
            | inl L2 =>
              rw [hb2] at hp
              cases hp
              refine w_line2 w1 C K I W hi hl hb (Nat.le_refl _) (fun e' t h' q b' q1 q2 q3 q4 q5 => ?_) (fun S' TZ' h1 b1 q1 W1' f1 B1 => ?_)
              · show wp (sd_ret (.inr q)) h' b' Q
                rw [wp_ret]
                exact kf e' t h' q b' (by simp only [lAll]; rw [q1]) q2 q3 q4 q5
              · have q3 := okl.2.2.1
                have R1 : ∃ ky nd iv kt, W2m G u sz n0 tl ta tx rd w so m n2 n4 E0 F ad mcs TZ' S' (os ++ odL (kdT u sz) l) ky nd iv kt l.2.1 h1 ∧ RW G u sz n0 tl ta tx rd w so m (S'.1 22) ky nd iv kt h1.1 l.2.1 0 h1 := by
                  obtain ⟨ky, nd, iv, kt, Wm⟩ := W1'
                  exact ⟨ky, nd, iv, kt, Wm, RW_of Wm.1 Wm.2.2.1⟩
                obtain ⟨ky1, nd1, iv1, kt1, Wm1, R1⟩ := R1
                have hn1 : n0 ≤ h1.1 := by
                  have := RW_rdn R1
                  omega
                show wp (sd_bnd (sd_isC G 6 rd) _) h1 b1 Q
                refine w_tk (E := fun _ _ => False) C R1 hrd hn1 q3 (n := 105) (c := 59) (by decide) B1 (by omega) (fun er t h' q b' p1 => p1.elim) (fun q => q e59) (fun h2 _ R2 X2 nh2 => ?_)
                have hj : l.2.1 + 1 ≤ nT u sz := tk_lt31 q3 e59 (by decide) (by decide)
                obtain ⟨Wm2, f2⟩ := W2m_xf Wm1 R1 X2 R2
                have lt : i < l.2.1 := okl.2.1
                refine ih (l.2.1 + 1) S' (os ++ odL (kdT u sz) l) TZ' L2 h2 b1 fuel hj hb2 ⟨ky1, nd1, iv1, kt1, Wm2⟩ (bud_le B1 (by omega)) (by omega) (fun e' t h' q b' p1 p2 p3 p4 p5 => ?_) (fun S2 TZ2 j h' b' p1 p2 p3 p4 => ?_)
                · exact kf e' t h' q b' (by simp only [lAll]; rw [q1]; exact p1) p2 p3 (f1.trans (f2.trans p4)) p5
                · refine kk S2 TZ2 j h' b' (by simp only [lAll]; rw [q1]; exact p1) ?_ (f1.trans (f2.trans p3)) p4
                  have ef : os ++ flO (kdT u sz) (l :: L2) = os ++ odL (kdT u sz) l ++ flO (kdT u sz) L2 := by
                    unfold flO odL
                    rw [List.filter_cons, List.append_assoc]
                    split
                    · rfl
                    · rfl
                  rw [ef]
                  exact p2
          · rw [if_neg e59] at hp
            cases hp
end WK2
