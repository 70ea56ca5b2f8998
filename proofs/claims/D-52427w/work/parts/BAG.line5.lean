/-! THE PLAIN LAW: a line of the second walk, all kinds -/
section LN5
variable {G : sd_G} {u : Nat → Nat} {sz n0 n2 n4 tl so m rd E0 i : Nat} {ta tx : Nat → Nat} {w : Int32} {ky nd iv : Nat → Nat} {kt : Nat → List Nat} {F ad : Nat → Nat} {mcs : Nat → Int32} {TZ : Nat → Prop} {S : SS} {os : List Ln} {h h' : sd_H} {β b : Nat × Nat} {v : Nat} {Q : Unit ⊕ Nat → sd_H → Nat × Nat → Prop}
theorem l2_order {l : Ln} (w1 : w ≠ 0) (C : wlC G) (K : crC G) (W : W2m G u sz n0 tl ta tx rd w so m n2 n4 E0 F ad mcs TZ S os ky nd iv kt i h) (hi : i ≤ nT u sz) (hl : oFm u sz i = .inl l) (hl2 : pLin (kdT u sz) (vlT u sz) i = .inl l) (hb : bud β b v) (hv : 50 * (nT u sz + 1 - i) ≤ v)
    (kf : ∀ e t h' q b', lOrd (nwT u sz) S l = .inr (e, t) → h'.2 q = some (aFt (n3 e) (plT u sz t)) → wfH G h' → fz n0 h h' → bud β b' 0 → Q (.inr q) h' b')
    (kk : ∀ S' TZ' h' b', lOrd (nwT u sz) S l = .inl S' → W2 G u sz n0 tl ta tx rd w so m n2 n4 E0 F ad mcs TZ' S' (os ++ [l]) l.2.1 h' → fz n0 h h' → bud β b' (50 * (nT u sz + 1 - l.2.1)) → Q (.inl ()) h' b') : wp (fX7_order G rd) h b Q := by
  have okl := pLin_ok (vl := vlT u sz) (tkT (u := u) (sz := sz)) hi
  rw [hl2] at okl
  obtain ⟨wf, n4l, rc, mo, hiv, nmr, ⟨rr, sz', A, s3, s4, s5, hrr⟩, T, hso, hE0, St, T4, X0, osl, osn, q20, q21, q22, q26, q32, hT⟩ := W
  obtain ⟨x1, x2, x3, x4, x5, x6, x7, x8, x9, x10⟩ := id X0
  obtain ⟨mc, cap, f, a1, a2, a3, a4⟩ := A.1 5 (by omega) (by omega)
  have R := RW_of wf rc
  have hwk : ∀ j, j ∈ l.2.2.2.2 → fnd S (nwT u sz j) = wkF w (S.1 22) kt u sz j := by
    intro j hj
    have q := okl.2.2.2.2 j hj
    rw [show nwT u sz j = nmW (txT u sz j) from rfl, fnd_fd nmr (nm_ok (by have := okl.2.2.1; omega) q.2.2)]
    exact (if_neg w1).symm
  have nam := nam_rel (wk := wkF w (S.1 22) kt u sz) l.2.2.2.2 (updN S.1 32 (S.1 32 + 1), S.2) hwk
  refine w_order (F := F) C K hiv R rfl x1 (by omega) x3 T hi hso a1 a2 a3 (by omega) (fun j hj => by obtain ⟨o, o1, o2⟩ := a4 j hj; rw [o1]; exact EL2_ok wf (by omega) (by omega) o2) mo (fun _ => ⟨l, hl⟩) hb hv (fun er t h' q b' p1 p2 p3 p4 p5 => ?_) (fun l' h' mc' r' cap' f' b' o cr se te jj eA p1 p2 p3 p4 p5 p6 p7 p8 p9 p10 p11 p12 p13 p14 p15 p16 p17 p18 p19 p20 p21 p22 p23 p24 => ?_)
  · rcases p1 with ⟨p1, -⟩ | ⟨-, p1⟩
    · exact absurd p1 w1
    · unfold eOrd at p1
      rw [s5] at p1
      by_cases c : 16 ≤ S.1 32
      · rw [if_pos c] at p1
        cases p1
        refine kf 4 i h' q b' ?_ p2 p3 p4 p5
        unfold lOrd
        rw [if_pos (show S.1 32 = 16 by omega), okl.1]
      · rw [if_neg c, hl] at p1
        have p1 : (fstU (wkF w (S.1 22) kt u sz) l.2.2.2.2).map (fun t => ((3 : Int32), t)) = some (er, t) := p1
        cases hu : fstU (wkF w (S.1 22) kt u sz) l.2.2.2.2 with
        | none =>
          rw [hu] at p1
          cases p1
        | some t' =>
          rw [hu] at p1
          cases p1
          refine kf 3 _ h' q b' ?_ p2 p3 p4 p5
          unfold lOrd
          rw [if_neg (show ¬ S.1 32 = 16 by omega)]
          exact nam.1 _ hu
  · rw [hl] at p1
    cases p1
    obtain ⟨h16, hu⟩ := p2 w1
    rw [s5] at h16 p12 p13 p14
    obtain ⟨x', e1, e2⟩ := nam.2 hu
    have e0 : lOrd (nwT u sz) S l = .inl (updN S.1 32 (S.1 32 + 1), S.2.1, x') := by
      unfold lOrd
      rw [if_neg (show ¬ S.1 32 = 16 by omega)]
      exact e1
    have e2 : ∀ j, j ≠ 9 → x' j = S.2.2 j := e2
    have hM : okM F rr h (fun a => a = F 5 ∨ a = rr 5) := by
      rintro z (q | q)
      · exact Or.inl ⟨5, by omega, by omega, Or.inl q⟩
      · exact Or.inl ⟨5, by omega, by omega, Or.inr q⟩
    have hP := PZ_kp (TZ' := fun a => TZ a ∨ (h.1 ≤ a ∧ a < eA)) wf rc A X0 hT (fun k k1 k2 => (hrr k k1 k2).2) p21 hM (fun a q => Or.inl q)
    have SK := STK_kp (x' := x') wf rc A X0 (fun k k1 k2 => (hrr k k1 k2).1) T4 St p21 hM (fun s k hs hk => ?_)
    · have toZ : ∀ a c, (Lp G (PT n0 h.1 eA rd (nmA u sz tx)) h' a c ∧ isTr c = true) → Lp G (PZ n0 rd (nmA u sz tx) (fun a => TZ a ∨ (h.1 ≤ a ∧ a < eA))) h' a c := by
        rintro a c ⟨⟨z1, z2⟩ | z, zt⟩
        · refine Or.inl ⟨z1, zt, ?_⟩
          rcases z2 with z2 | z2
          · exact Or.inl (Or.inr z2)
          · exact Or.inr z2
        · exact Or.inr z
      have nw0 : neF w (S.1 22) = S.1 22 := if_neg w1
      have o' : ORd G (kdT u sz) (vlT u sz) (S.1 22) (wkF w (S.1 22) kt u sz) (Lp G (PZ n0 rd (nmA u sz tx) (fun a => TZ a ∨ (h.1 ≤ a ∧ a < eA))) h') l o := by
        rw [nw0] at p22 p23
        refine ⟨cr, se, te, jj, Or.inl ⟨p15, rfl, Or.inl (Or.inr ⟨p16, p17⟩)⟩, p3, by rw [okl.1]; exact p4, p5, isSm_mono toZ (Nat.le_refl _) _ _ _ _ _ _ (Nat.le_refl _) (Nat.le_refl _) (isSm_tr _ _ _ _ p22), ?_, hu, by rw [okl.1]; exact hl2⟩
        rcases p23 with q | ⟨q1, q2, q3, q4⟩
        · exact Or.inl (isTs_mono toZ (Nat.le_refl _) _ _ _ _ (Nat.le_refl _) (isTs_tr _ _ _ q))
        · exact Or.inr ⟨Or.inl ⟨q1, rfl, Or.inl (Or.inr ⟨q2, q3⟩)⟩, q4⟩
      have L' := LL_add (EL' := EL2 G (kdT u sz) (vlT u sz) x' (S.1 22) (wkF w (S.1 22) kt u sz) (Lp G (PZ n0 rd (nmA u sz tx) (fun a => TZ a ∨ (h.1 ≤ a ∧ a < eA))) h') (os ++ [l]) h') wf rc A (by omega) (by omega) a1 a4 p21 (fun z hz => hz.elim Or.inl (fun q => Or.inr (Or.inl q))) (by rw [s5]; exact p12) (by rw [s5]; exact p13) (by rw [s5]; exact p14) ?_ p20 (fun k j o k1 k2 hj E => EL2_kp osn E (fun d' fs q1 q2 => ob_kp wf rc A p21 hM q1 (by omega)) (fun _ => by rw [e2 24 (by decide), e2 25 (by decide)]; exact ⟨rfl, rfl⟩) (fun _ => ?_) hP (Nat.le_refl _) (fun t _ => rfl) (fun l' hl' => ?_)) ⟨(fun q => by cases q), (fun q => by cases q), fun _ => ⟨l, ?_, o'⟩⟩
      · refine kk _ (fun a => TZ a ∨ (h.1 ≤ a ∧ a < eA)) h' b' e0 ⟨ky, nd, iv, kt, p8, Nat.le_trans n4l p21.1.1, p9, p11, hiv, nmr, ⟨_, _, L', ?_, ?_, ?_, fun k k1 k2 => ?_⟩, p10, ob_kp wf rc A p21 hM hso (by decide), E0_kp wf rc A p21 hM hE0 rfl, SK.1, SK.2, X0, ?_, fun l' hl' => ?_, q20, q21, q22, q26, ?_, fun a q => ?_⟩ p21.1 p24
        · show updN sz' 5 (sz' 5 + 1) 3 = S.1 22
          rw [updN_ne (by decide), s3]
        · show updN sz' 5 (sz' 5 + 1) 4 = S.1 26
          rw [updN_ne (by decide), s4]
        · show updN sz' 5 (sz' 5 + 1) 5 = S.1 32 + 1
          rw [updN_same, s5]
        · have old : ∀ k, 3 ≤ k → k ≤ 5 → rr k < h.1 := by
            intro k k1 k2
            obtain ⟨mc2, cap2, f2, b1, -⟩ := A.1 k k1 k2
            rcases b1.2.1 with ⟨q, -⟩ | ⟨q, -⟩
            · have := wf.2.1
              have := (wfH_z0 wf).2
              omega
            · exact (wf.1 _ _ q).2
          by_cases c : k = 5
          · rw [c, updN_same]
            have o5 := old 5 (by omega) (by omega)
            rcases p19 with q | q
            · rw [q]
              refine ⟨(hrr 5 (by omega) (by omega)).1, ?_⟩
              rintro (q' | q')
              · exact (hrr 5 (by omega) (by omega)).2 q'
              · omega
            · refine ⟨Or.inr (by omega), ?_⟩
              rintro (q' | q')
              · have := (hT _ q').2
                omega
              · omega
          · rw [updN_ne c]
            refine ⟨(hrr k k1 k2).1, ?_⟩
            rintro (q' | q')
            · exact (hrr k k1 k2).2 q'
            · have := old k k1 k2
              omega
        · rw [List.length_append, osl]
          rfl
        · rw [List.mem_append, List.mem_singleton] at hl'
          rcases hl' with q | q
          · exact osn l' q
          · rw [q, okl.1]
            exact hi
        · show S.1 32 + 1 ≤ 16
          omega
        · rcases q with q | q
          · exact ⟨(hT a q).1, Nat.lt_of_lt_of_le (hT a q).2 p21.1.1⟩
          · exact ⟨by omega, by omega⟩
      · rcases p19 with q | q
        · exact Or.inl q
        · exact Or.inr (by omega)
      · rw [e2 27 (by decide), e2 29 (by decide)]
        refine ⟨rfl, rfl, ?_⟩
        unfold strm
        rw [e2 28 (by decide)]
      · rw [List.getElem?_append_left]
        · exact hl'
        · rcases Nat.lt_or_ge j os.length with q | q
          · exact q
          · rw [List.getElem?_eq_none q] at hl'
            cases hl'
      · rw [s5, ← osl, List.getElem?_append_right (Nat.le_refl _), Nat.sub_self]
        rfl
    · have cs := St.2.2 s k hs hk
      rw [e2 30 (by decide), e2 31 (by decide)]
      refine p21.2 _ _ cs ?_ ?_ rfl (fun q => ?_)
      · intro q
        rw [q, rc.2.1] at cs
        cases cs
      · intro q
        obtain ⟨v, hs', hz', e'⟩ := nmA_s rc.1 _ _ q cs
        cases e'
      · rcases q with q | q
        · rw [q, a1.1] at cs
          cases cs
        · rcases a1.2.1 with ⟨q3, -⟩ | ⟨q3, -⟩
          · rw [q, q3, (wfH_z0 wf).1] at cs
            cases cs
          · rw [q, q3] at cs
            cases cs
/-- the orders among lines -/
def odL (κ : Nat → Nat) (l : Ln) : List Ln := if isO (κ l.1) = true then [l] else []
theorem w_line2 {l : Ln} (w1 : w ≠ 0) (C : wlC G) (K : crC G) (I : icC G) (W : W2 G u sz n0 tl ta tx rd w so m n2 n4 E0 F ad mcs TZ S os i h) (hi : i ≤ nT u sz) (hl : pLin (kdT u sz) (vlT u sz) i = .inl l) (hb : bud β b v) (hv : 50 * (nT u sz + 1 - i) ≤ v)
    (kf : ∀ e t h' q b', lLin (kdT u sz) (nbT u sz) (nwT u sz) S l = .inr (e, t) → h'.2 q = some (aFt (n3 e) (plT u sz t)) → wfH G h' → fz n0 h h' → bud β b' 0 → Q (.inr q) h' b')
    (kk : ∀ S' TZ' h' b', lLin (kdT u sz) (nbT u sz) (nwT u sz) S l = .inl S' → W2 G u sz n0 tl ta tx rd w so m n2 n4 E0 F ad mcs TZ' S' (os ++ odL (kdT u sz) l) l.2.1 h' → fz n0 h h' → bud β b' (50 * (nT u sz + 1 - l.2.1)) → Q (.inl ()) h' b') : wp (fX7_line G rd) h b Q := by
  have okl := pLin_ok (vl := vlT u sz) (tkT (u := u) (sz := sz)) hi
  rw [hl] at okl
  obtain ⟨ky, nd, iv, kt, Wm⟩ := W
  have R := RW_of Wm.1 Wm.2.2.1
  -- lines told by their words
  have tm : ∀ cs, (∀ c, c ∈ cs → c ≠ 32 ∧ c ≠ 33) → i + 1 ≤ nT u sz → tmL (kdT u sz) i cs = .inl l → l = (i, i + 1 + cs.length, [], [], []) ∧ tmp (kdT u sz) (i + 1) cs = .inl (i + 1 + cs.length) ∧ i + 1 + cs.length ≤ nT u sz ∧ ∀ k c, cs[k]? = some c → kdT u sz (i + 1 + k) = c := by
    intro cs hc hi1 q
    have t1 := tmp_ok (tkT (u := u) (sz := sz)) cs (i + 1) hc hi1
    unfold tmL at q
    cases ht : tmp (kdT u sz) (i + 1) cs with
    | inl j =>
      rw [ht] at q t1
      obtain ⟨t2, t3, t4⟩ := t1
      subst t2
      cases q
      exact ⟨rfl, rfl, t3, t4⟩
    | inr j =>
      rw [ht] at q
      cases q
  have od0 : ∀ c, kdT u sz l.1 = c → c ≠ 11 → c ≠ 12 → c ≠ 13 → os ++ odL (kdT u sz) l = os := by
    intro c q1 q2 q3 q4
    have e : isO (kdT u sz l.1) = false := by
      rw [q1]
      unfold isO
      rw [decide_eq_false q2, decide_eq_false q3, decide_eq_false q4]
      rfl
    unfold odL
    rw [e, if_neg Bool.false_ne_true, List.append_nil]
  have li : l.1 = i := okl.1
  unfold fX7_line
  rw [wp_bnd, w_isC R, wp_bnd, c_now (RW_in R).1 (RW_in R).2.1 hi, wp_bnd, w_isC R, wp_bnd]
  refine w_tif C R hi (n := 106) (c := 2) (by decide) (fun h1 e R1 X1 nh1 => ?_) (fun e2 => ?_)
  · have hi1 : i + 1 ≤ nT u sz := tk_lt31 hi e (by decide) (by decide)
    obtain ⟨W1', f1⟩ := W2m_xf Wm R X1 R1
    have ep : pLin (kdT u sz) (vlT u sz) i = tmL (kdT u sz) i [30, 3, 31, 4, 31] := by
      unfold pLin
      rw [if_neg (by omega), if_pos e]
    rw [ep] at hl
    obtain ⟨l1, l2, l3, l4⟩ := tm _ (by decide) hi1 hl
    have le : lLin (kdT u sz) (nbT u sz) (nwT u sz) S l = lEmp (nbT u sz) (nwT u sz) S i := by
      unfold lLin
      rw [li, if_pos e]
    rw [wp_ite, if_neg (by decide), wp_bnd, w_isC R1, wp_bx]
    refine l2_empire w1 C I W1' hi1 ⟨l4 0 30 rfl, l4 1 3 rfl, l4 2 31 rfl, l4 3 4 rfl, l4 4 31 rfl⟩ hb (by omega) (fun e' t h' q b' q1 q2 q3 q4 q5 => ?_) (fun S' h' b' q1 q2 q3 q4 => ?_)
    · show wp (sd_ret (.inr q)) h' b' Q
      rw [wp_ret]
      exact kf e' t h' q b' (le.trans q1) q2 q3 (f1.trans q4) q5
    · show wp (sd_ret (.inl ())) h' b' Q
      rw [wp_ret]
      refine kk S' TZ h' b' (le.trans q1) ?_ (f1.trans q3) ?_
      · rw [od0 2 (by rw [li]; exact e) (by decide) (by decide) (by decide), l1]
        exact q2
      · rw [l1]
        exact bud_le q4 (by show 50 * (nT u sz + 1 - (i + 6)) ≤ _; omega)
  · rw [wp_ite, if_pos rfl, wp_bnd, w_isC R, wp_bnd]
    have fnd : ∀ co (h1 : sd_H), kdT u sz i = (if co = true then 5 else 6) → RW G u sz n0 tl ta tx rd w so m (S.1 22) ky nd iv kt h.1 (i + 1) 0 h1 → xf rd (nmA u sz tx) h h1 → h1.1 = h.1 → wp (sd_bnd (sd_isC G 6 rd) fun _ => sd_bx (fX7_find G rd (ta i) (bI co)) (fun e33 => sd_ret (.inr e33)) fun _ => sd_ret (.inl ())) h1 b Q := by
      intro co h1 e R1 X1 nh1
      have hi1 : i + 1 ≤ nT u sz := by
        cases co with
        | true => exact tk_lt31 hi e (by decide) (by decide)
        | false => exact tk_lt31 hi e (by decide) (by decide)
      obtain ⟨W1', f1⟩ := W2m_xf Wm R X1 R1
      have ep : pLin (kdT u sz) (vlT u sz) i = tmL (kdT u sz) i (cdF co) := by
        unfold pLin cdF
        cases co with
        | true =>
          have e : kdT u sz i = 5 := e
          rw [if_neg (by omega), if_neg (by omega), if_neg (by omega), if_pos e]
          rfl
        | false =>
          have e : kdT u sz i = 6 := e
          rw [if_neg (by omega), if_neg (by omega), if_neg (by omega), if_neg (by omega), if_pos e]
          rfl
      have cl : (cdF co).length = 6 := by cases co <;> rfl
      have cc : ∀ c, c ∈ cdF co → c ≠ 32 ∧ c ≠ 33 := by cases co <;> decide
      rw [ep] at hl
      obtain ⟨l1, l2, l3, l4⟩ := tm _ cc hi1 hl
      rw [cl] at l1 l2 l3
      have le : lLin (kdT u sz) (nbT u sz) (nwT u sz) S l = lFin (nbT u sz) (nwT u sz) S i co := by
        unfold lLin
        rw [li]
        cases co with
        | true =>
          have e : kdT u sz i = 5 := e
          rw [if_neg (by omega), if_neg (by omega), if_pos e]
        | false =>
          have e : kdT u sz i = 6 := e
          rw [if_neg (by omega), if_neg (by omega), if_neg (by omega), if_pos e]
      have od : os ++ odL (kdT u sz) l = os := by
        cases co with
        | true => exact od0 5 (by rw [li]; exact e) (by decide) (by decide) (by decide)
        | false => exact od0 6 (by rw [li]; exact e) (by decide) (by decide) (by decide)
      rw [wp_bnd, w_isC R1, wp_bx]
      refine l2_find w1 C W1' hi1 l2 (by omega) hb (by omega) (fun e' t h' q b' q1 q2 q3 q4 q5 => ?_) (fun S' h' b' q1 q2 q3 q4 => ?_)
      · show wp (sd_ret (.inr q)) h' b' Q
        rw [wp_ret]
        exact kf e' t h' q b' (le.trans q1) q2 q3 (f1.trans q4) q5
      · show wp (sd_ret (.inl ())) h' b' Q
        rw [wp_ret]
        refine kk S' TZ h' b' (le.trans q1) ?_ (f1.trans q3) ?_
        · rw [od, l1]
          exact q2
        · rw [l1]
          exact bud_le q4 (by show 50 * (nT u sz + 1 - (i + 7)) ≤ _; omega)
    refine w_tif C R hi (n := 110) (c := 5) (by decide) (fun h1 e R1 X1 nh1 => ?_) (fun e5 => ?_)
    · rw [wp_ite, if_neg (by decide)]
      exact fnd true h1 e R1 X1 nh1
    · rw [wp_ite, if_pos rfl, wp_bnd, w_isC R, wp_bnd]
      refine w_tif C R hi (n := 115) (c := 6) (by decide) (fun h1 e R1 X1 nh1 => ?_) (fun e6 => ?_)
      · rw [wp_ite, if_neg (by decide)]
        exact fnd false h1 e R1 X1 nh1
      · rw [wp_ite, if_pos rfl, wp_bnd, w_isC R, wp_bnd]
        refine w_tif C R hi (n := 116) (c := 7) (by decide) (fun h1 e R1 X1 nh1 => ?_) (fun e7 => ?_)
        · have hi1 : i + 1 ≤ nT u sz := tk_lt31 hi e (by decide) (by decide)
          obtain ⟨W1', f1⟩ := W2m_xf Wm R X1 R1
          have ep : pLin (kdT u sz) (vlT u sz) i = tmL (kdT u sz) i [8, 31, 44, 31] := by
            unfold pLin
            rw [if_neg (by omega), if_neg (by omega), if_pos e]
          rw [ep] at hl
          obtain ⟨l1, l2, l3, l4⟩ := tm _ (by decide) hi1 hl
          have le : lLin (kdT u sz) (nbT u sz) (nwT u sz) S l = lSpr (nbT u sz) S i := by
            unfold lLin
            rw [li, if_neg (by omega), if_pos e]
          rw [wp_ite, if_neg (by decide)]
          refine l2_spring w1 C W1' hi1 l2 hb (by omega) (fun e' t h' q b' q1 q2 q3 q4 q5 => ?_) (fun S' h' b' q1 q2 q3 q4 => ?_)
          · exact kf e' t h' q b' (le.trans q1) q2 q3 (f1.trans q4) q5
          · refine kk S' TZ h' b' (le.trans q1) ?_ (f1.trans q3) ?_
            · rw [od0 7 (by rw [li]; exact e) (by decide) (by decide) (by decide), l1]
              exact q2
            · rw [l1]
              exact bud_le q4 (by show 50 * (nT u sz + 1 - (i + 5)) ≤ _; omega)
        · have ep : pLin (kdT u sz) (vlT u sz) i = oFm u sz i := by
            unfold pLin oFm
            by_cases c : kdT u sz i = 11 ∨ kdT u sz i = 12 ∨ kdT u sz i = 13
            · rw [if_pos c, if_pos c]
            · rw [if_neg c, if_neg c, if_neg e2, if_neg e7, if_neg e5, if_neg e6]
          have le : lLin (kdT u sz) (nbT u sz) (nwT u sz) S l = lOrd (nwT u sz) S l := by
            unfold lLin
            rw [li, if_neg e2, if_neg e7, if_neg e5, if_neg e6]
          have ko : kdT u sz i = 11 ∨ kdT u sz i = 12 ∨ kdT u sz i = 13 := by
            refine Decidable.byContradiction fun c => ?_
            rw [ep] at hl
            unfold oFm at hl
            rw [if_neg c] at hl
            cases hl
          have od : odL (kdT u sz) l = [l] := by
            unfold odL isO
            rw [li, if_pos]
            simp only [Bool.or_eq_true, decide_eq_true_eq]
            omega
          rw [wp_ite, if_pos rfl, wp_bnd, w_isC R, wp_bx]
          refine l2_order w1 C K Wm hi (ep ▸ hl) hl hb hv (fun e' t h' q b' q1 q2 q3 q4 q5 => ?_) (fun S' TZ' h' b' q1 q2 q3 q4 => ?_)
          · show wp (sd_ret (.inr q)) h' b' Q
            rw [wp_ret]
            exact kf e' t h' q b' (le.trans q1) q2 q3 q4 q5
          · show wp (sd_ret (.inl ())) h' b' Q
            rw [wp_ret]
            refine kk S' TZ' h' b' (le.trans q1) ?_ q3 q4
            rw [od]
            exact q2
end LN5
