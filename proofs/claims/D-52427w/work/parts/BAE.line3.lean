/-! THE PLAIN LAW: a line of the second walk, kind by kind -/
section LN3
variable {G : sd_G} {u : Nat → Nat} {sz n0 n2 n4 tl so m rd E0 i n1 : Nat} {ta tx : Nat → Nat} {w : Int32} {ky nd iv : Nat → Nat} {kt : Nat → List Nat} {F ad : Nat → Nat} {mcs : Nat → Int32} {TZ : Nat → Prop} {S : SS} {os : List Ln} {h h' : sd_H} {β b : Nat × Nat} {v : Nat} {Q : Unit ⊕ Nat → sd_H → Nat × Nat → Prop}
theorem okM_no {rr : Nat → Nat} : okM F rr h (fun _ => False) := fun z hz => hz.elim
theorem W2m_xf {j : Nat} (W : W2m G u sz n0 tl ta tx rd w so m n2 n4 E0 F ad mcs TZ S os ky nd iv kt i h) (R : RW G u sz n0 tl ta tx rd w so m (S.1 22) ky nd iv kt n1 i 0 h) (X : xf rd (nmA u sz tx) h h') (R' : RW G u sz n0 tl ta tx rd w so m (S.1 22) ky nd iv kt n1 j 0 h') : W2m G u sz n0 tl ta tx rd w so m n2 n4 E0 F ad mcs TZ S os ky nd iv kt j h' ∧ fz n0 h h' := by
  obtain ⟨wf, n4l, rc, mo, hiv, nmr, ⟨rr, sz', A, s3, s4, s5, hrr⟩, T, hso, hE0, St, T4, X0, osl, osn, q20, q21, q22, q26, q32, hT⟩ := W
  obtain ⟨x1, x2, x3, x4, -⟩ := id X0
  have fr := lfr_xf R x1 (by omega) X
  have hP := PZ_kp (TZ' := TZ) wf rc A X0 hT (fun k k1 k2 => (hrr k k1 k2).2) fr okM_no (fun a q => q)
  have m' : h'.2 m = h.2 m := by
    obtain ⟨tb, mc', thr, fl, q1, -⟩ := rc.2.2.1
    rw [q1]
    exact xf_o R X q1 (by decide) (by decide)
  have SK := STK_kp (x' := S.2.2) wf rc A X0 (fun k k1 k2 => (hrr k k1 k2).1) T4 St fr okM_no (fun s k hs hk => xf_o R X (St.2.2 s k hs hk) (by decide) (by decide))
  refine ⟨⟨R'.1, Nat.le_trans n4l X.1, RW_in R', mow_eq mo m', hiv, nmr, ⟨rr, sz', LL_same wf rc A fr (fun z hz => hz.elim) (fun k j o k1 k2 hj E => EL2_kp osn E (fun d' fs q1 q2 => ?_) (fun _ => ⟨rfl, rfl⟩) (fun _ => ⟨rfl, rfl, rfl⟩) hP (Nat.le_refl _) (fun t _ => rfl) (fun l hl => hl)), s3, s4, s5, hrr⟩, tlw_kp T rc.1 (fun mc r n q => xf_o R X q (by decide) (by decide)), xf_o R X hso (by decide) (by decide), xf_a R X hE0, SK.1, SK.2, X0, osl, osn, q20, q21, q22, q26, q32, fun a q => ⟨(hT a q).1, Nat.lt_of_lt_of_le (hT a q).2 X.1⟩⟩, fr.1⟩
  exact xf_o R X q1 (by omega) (by omega)
/-- a spring -/
theorem l2_spring (w1 : w ≠ 0) (C : wlC G) (W : W2m G u sz n0 tl ta tx rd w so m n2 n4 E0 F ad mcs TZ S os ky nd iv kt (i + 1) h) (hi : i + 1 ≤ nT u sz) (hf : tmp (kdT u sz) (i + 1) [8, 31, 44, 31] = .inl (i + 5)) (hb : bud β b v) (hv : 100 ≤ v)
    (kf : ∀ e t h' q b', lSpr (nbT u sz) S i = .inr (e, t) → h'.2 q = some (aFt (n3 e) (plT u sz t)) → wfH G h' → fz n0 h h' → bud β b' 0 → Q (.inr q) h' b')
    (kk : ∀ S' h' b', lSpr (nbT u sz) S i = .inl S' → W2 G u sz n0 tl ta tx rd w so m n2 n4 E0 F ad mcs TZ S' os (i + 5) h' → fz n0 h h' → bud β b' (v - 60) → Q (.inl ()) h' b') : wp (sd_bnd (sd_isC G 6 rd) fun _ => sd_bx (fX7_place G rd 0) (fun e68 => sd_ret (.inr e68)) fun r6 => sd_bnd (sd_put 3 2 .boolean r6 (.int 1)) fun _ => sd_ret (.inl ())) h b Q := by
  obtain ⟨wf, n4l, rc, mo, hiv, nmr, ⟨rr, sz', A, s3, s4, s5, hrr⟩, T, hso, hE0, St, T4, X0, osl, osn, q20, q21, q22, q26, q32, hT⟩ := W
  obtain ⟨x1, x2, x3, x4, x5, x6, x7, x8, x9, x10⟩ := id X0
  have R := RW_of wf rc
  refine w_spring (F := F) (x := S.2.2) (ad := ad) (mcs := mcs) (nsN := S.1 20) (stN := S.1 21) C R x1 (by omega) T hi hso mo (fun _ => ⟨rfl, rfl, q20.2, q21.2, St⟩) (fun _ => x9) (fun _ => hf) hb hv (fun er t h' q b' p1 p2 p3 p4 p5 => ?_) (fun h' b' q => absurd q w1) (fun h' b' _ p1 p2 p3 p4 p5 p6 p7 p8 p9 p10 p11 p12 => ?_)
  · rcases p1 with ⟨p1, -⟩ | ⟨-, p1⟩
    · exact absurd p1 w1
    · obtain ⟨e, e1, rfl⟩ := spr_inr p1
      exact kf e t h' q b' e1 p2 p3 p4 p5
  · have c0 := St.2.2 _ _ p2 p3
    have hM : okM F rr h (fun a => a = ad (100 + (10 * nbT u sz (i + 2) + nbT u sz (i + 4)))) := by
      rintro z rfl
      exact Or.inr ⟨_, c0⟩
    have hP := PZ_kp (TZ' := TZ) wf rc A X0 hT (fun k k1 k2 => (hrr k k1 k2).2) p10 hM (fun a q => q)
    have SK := STK_kp (x' := up2 S.2.2 31 (10 * nbT u sz (i + 2) + nbT u sz (i + 4)) 1) wf rc A X0 (fun k k1 k2 => (hrr k k1 k2).1) T4 St p10 hM (fun s k hs hk => ?_)
    · refine kk _ h' b' (spr_inl p1) ⟨ky, nd, iv, kt, p5, Nat.le_trans n4l p10.1.1, p6, p8, hiv, nmr, ⟨rr, sz', LL_same wf rc A p10 (by rintro z rfl; exact ⟨3, _, c0, by decide⟩) (fun k j o k1 k2 hj E => EL2_kp osn E (fun d' fs q1 q2 => ob_kp wf rc A p10 hM q1 (by omega)) (fun _ => ⟨rfl, rfl⟩) (fun _ => ⟨rfl, rfl, rfl⟩) hP (Nat.le_refl _) (fun t _ => rfl) (fun l hl => hl)), s3, s4, s5, hrr⟩, p7, ob_kp wf rc A p10 hM hso (by decide), E0_kp wf rc A p10 hM hE0 rfl, SK.1, SK.2, X0, osl, osn, q20, q21, q22, q26, q32, fun a q => ⟨(hT a q).1, Nat.lt_of_lt_of_le (hT a q).2 p10.1.1⟩⟩ p10.1 p12
    · by_cases c : s = nbT u sz (i + 2) ∧ k = nbT u sz (i + 4)
      · obtain ⟨rfl, rfl⟩ := c
        rw [p9]
        unfold up2
        rw [if_neg (by decide), if_pos rfl, upd_same]
      · have ne : 10 * s + k ≠ 10 * nbT u sz (i + 2) + nbT u sz (i + 4) := by
          intro q
          have := q21.2
          exact c ⟨by omega, by omega⟩
        have na : ad (100 + (10 * s + k)) ≠ ad (100 + (10 * nbT u sz (i + 2) + nbT u sz (i + 4))) := fun q => c (x10 _ _ _ _ hs p2 hk p3 q)
        have cs := St.2.2 s k hs hk
        unfold up2
        rw [if_neg (by decide), if_pos rfl, upd_ne ne]
        refine p10.2 _ _ cs ?_ ?_ rfl na
        · intro q
          rw [q, rc.2.1] at cs
          cases cs
        · intro q
          obtain ⟨v, hs', hz', e'⟩ := nmA_s rc.1 _ _ q cs
          cases e'
end LN3
