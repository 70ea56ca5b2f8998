/-! THE PLAIN LAW: a line of an order, raw, all of it -/
section LO2
variable {G : sd_G} {u : Nat → Nat} {sz n0 n1 tl so m rd k : Nat} {ta tx : Nat → Nat} {w : Int32} {ky nd iv : Nat → Nat} {kt : Nat → List Nat} {β b : Nat × Nat} {h : sd_H} {i v n2 : Nat}
theorem PW_bxU {α : Type} {d : Nat} {F : sd_M (Nat ⊕ Nat)} {K : Nat → sd_M (α ⊕ Nat)} {sl bo v : Nat} {tr : Nat → sd_H → Nat → Nat → List (Int32 × Int32) → Prop} {r : PR} {Q : α ⊕ Nat → sd_H → Nat × Nat → Prop} (W : PW G u sz n0 tl ta tx rd w so m k ky nd iv kt n1 F sl bo tr i d r h) (R : RW G u sz n0 tl ta tx rd w so m k ky nd iv kt n1 i d h) (hb : bud β b v) (hv : 50 * (nT u sz + 1 - i) ≤ v + sl) (kf : FK G u sz tx rd (wkF w k kt u sz) r h β Q) (ks : ∀ j ws ks a h' b', r = .inl (j, ws, ks) → fo (wkF w k kt u sz) r = none → RW G u sz n0 tl ta tx rd w so m k ky nd iv kt n1 j d h' → tr h.1 h' a j (res (wkF w k kt u sz) ws) → xf rd (nmA u sz tx) h h' → bud β b' (50 * (nT u sz + 1 - j) + bo) → wp (K a) h' b' Q) : wp (sd_bx F (fun e => sd_ret (.inr e)) K) h b Q := by
  rw [wp_bx]
  refine W b β v _ R hb hv (fun er t h' q b' q1 q2 q3 q4 q5 => ?_) ks
  show wp (sd_ret (.inr q)) h' b' Q
  rw [wp_ret]
  exact kf er t h' q b' q1 q2 q3 q4 q5
theorem w_order {E0 r sz' cap : Nat} {st ns mc : Int32} {F : Nat → Nat} {f : Nat → Option Nat} {Q : Unit ⊕ Nat → sd_H → Nat × Nat → Prop} (C : wlC G) (K : crC G) (hiv : ∀ j, j < k → sd_c G (iv j) = some (.inr (47, [.int (n3 j)]))) (R : RW G u sz n0 tl ta tx rd w so m k ky nd iv kt n1 i 0 h) (hn1 : n1 = h.1) (hrd : n0 ≤ rd) (hn0 : n0 ≤ h.1) (h02 : n0 ≤ n2) (T : tlw n2 tl h) (hi : i ≤ nT u sz) (hso : h.2 so = some (aSo st ns F E0)) (L : lsO G h (F 5) mc r sz' cap f) (ha : n2 ≤ F 5) (hr : r = sd_ad G 0 ∨ n2 ≤ r) (hsz : sz' ≤ 400) (hel : ∀ j, j < sz' → sd_okQ G h 4 (f j) = true) (mo : mow n0 m k nd h) (hf : w ≠ 0 → ∃ l, oFm u sz i = .inl l) (hb : bud β b v) (hv : 50 * (nT u sz + 1 - i) ≤ v) (kf : FL G u sz n0 (EO w sz' (wkF w k kt u sz) u sz i) h β Q)
    (kk : ∀ l h' mc' r' cap' f' b' (o cr se te jj eA : Nat), oFm u sz i = .inl l → (w ≠ 0 → sz' < 16 ∧ fstU (wkF w k kt u sz) l.2.2.2.2 = none) → jj < 3 → kdT u sz i = 11 + jj → sd_c G cr = some (.inr (30 + jj, [])) → i < l.2.1 → l.2.1 ≤ nT u sz → wfH G h' → RC G u sz n0 tl ta tx rd w so m k ky nd iv kt l.2.1 0 h' → tlw n2 tl h' → mow n0 m k nd h' → lsO G h' (F 5) mc' r' (sz' + 1) cap' f' → (∀ j, j < sz' → f' j = f j) → f' sz' = some o → h'.2 o = some (.inr (17, [.ref cr, .ref se, .ref te])) → h.1 ≤ o → o < eA → eA ≤ h'.1 → (r' = r ∨ eA ≤ r') → (r' = sd_ad G 0 ∨ n2 ≤ r') → lfr rd (nmA u sz tx) n0 (fun a => a = F 5 ∨ a = r) h h' → isSm (neF w k) (Lp G (PT n0 h.1 eA rd (nmA u sz tx)) h') 420 9 se (res (wkF w k kt u sz) l.2.2.1) → (isTs (neF w k) (Lp G (PT n0 h.1 eA rd (nmA u sz tx)) h') 39 te (res (wkF w k kt u sz) l.2.2.2.1) ∨ (h'.2 te = some (.inr (23, [])) ∧ h.1 ≤ te ∧ te < eA ∧ l.2.2.2.1 = [])) → bud β b' (50 * (nT u sz + 1 - l.2.1)) → Q (.inl ()) h' b') : wp (fX7_order G rd) h b Q := by
  have lN := nT_le (u := u) (sz := sz)
  unfold fX7_order
  rw [wp_bnd, w_isC R, wp_bnd, c_now (RW_in R).1 (RW_in R).2.1 hi, wp_bnd, w_isC R, wp_bx]
  refine w_craft (E := EO w sz' (wkF w k kt u sz) u sz i) C K R hn0 hi hb (by omega) (fun er t h' q b' q1 q2 q3 q4 q5 => ?_) (fun e => ?_) (fun jj cr h1 hj e hcr R1 X1 nh1 => ?_)
  · show wp (sd_ret (.inr q)) h' b' Q
    rw [wp_ret]
    exact kf er t h' q b' q1 q2 q3 q4 q5
  · have ef : oFm u sz i = .inr i := by
      unfold oFm
      rw [if_neg e]
    by_cases w0 : w = 0
    · exact Or.inl ⟨w0, rfl, ef⟩
    · obtain ⟨l, hl⟩ := hf w0
      rw [ef] at hl
      cases hl
  have ke : kdT u sz i = 11 ∨ kdT u sz i = 12 ∨ kdT u sz i = 13 := by omega
  have hi1 : i + 1 ≤ nT u sz := tk_lt31 hi e (by omega) (by omega)
  have oe : oFm u sz i = pOrd (kdT u sz) (vlT u sz) i := by
    unfold oFm
    rw [if_pos ke]
  have l1 := R.2.1
  have f1 := fz_xf R hrd hn0 X1
  have so1 := xf_o R X1 hso (by decide) (by decide)
  have L1 := xf_ls R X1 L
  show wp (sd_bnd (sd_getR G 6 4 rd) _) h1 b Q
  rw [wp_bnd, (rd_rd (RW_in R1).2.1).2.2.2.2.1, wp_bnd, (aSo_rd so1).2.2.2.2.2, wp_bnd, wp_isC (sd_look_new L1.1), wp_bnd, j_size (sd_look_new L1.1), wp_ite]
  have b32 : ∀ y : Int32, (y ≠ 0 ↔ sz' < 16) → wp (fX7_order_b32 G rd (ta i) cr y 4 rd) h1 b Q := by
    intro y hy
    unfold fX7_order_b32
    refine w_chk R1 (by omega) hi hb (by omega) (FL_fz kf f1) (fun q1 q2 => ?_) (fun q => ?_)
    · refine Or.inr ⟨q1, ?_⟩
      unfold eOrd
      rw [if_pos]
      rcases Nat.lt_or_ge sz' 16 with z | z
      · exact absurd q2 (hy.mpr z)
      · exact z
    · have h16 : w ≠ 0 → sz' < 16 := fun q1 => hy.mp (q.resolve_left q1)
      -- the form
      have owX : okw w (pX (kdT u sz) (vlT u sz) 0 (i + 1)) := by
        intro j hj
        refine Decidable.byContradiction fun w0 => ?_
        obtain ⟨l, hl⟩ := hf w0
        rw [oe] at hl
        unfold pOrd at hl
        rw [hj] at hl
        cases hl
      -- faults of names and forms
      have eW : ∀ r : PR, (∀ j, r = .inr j → oFm u sz i = .inr j) → (∀ j ws ks t, r = .inl (j, ws, ks) → fstU (wkF w k kt u sz) ks = some t → w ≠ 0 → ∃ l, oFm u sz i = .inl l ∧ fstU (wkF w k kt u sz) l.2.2.2.2 = some t) → okw w r → ∀ er t, fo (wkF w k kt u sz) r = some (er, t) → EO w sz' (wkF w k kt u sz) u sz i er t := by
        intro r q1 q2 q3 er t hfo
        cases r with
        | inr j =>
          cases hfo
          exact Or.inl ⟨q3 _ rfl, rfl, q1 _ rfl⟩
        | inl p =>
          obtain ⟨j, ws, ks⟩ := p
          have hfo : (fstU (wkF w k kt u sz) ks).map (fun t => ((3 : Int32), t)) = some (er, t) := hfo
          cases hu : fstU (wkF w k kt u sz) ks with
          | none =>
            rw [hu] at hfo
            cases hfo
          | some t' =>
            rw [hu] at hfo
            cases hfo
            have w0 : w ≠ 0 := by
              intro w0
              have := List.find?_some hu
              exact wk_tot w0 _ (Option.isNone_iff_eq_none.mp this)
            obtain ⟨l, hl1, hl2⟩ := q2 j ws ks _ rfl hu w0
            refine Or.inr ⟨w0, ?_⟩
            unfold eOrd
            rw [if_neg (by have := h16 w0; omega), hl1]
            show (fstU (wkF w k kt u sz) l.2.2.2.2).map _ = _
            rw [hl2]
            rfl
      have hb45 : bud (β.1 + 45, β.2 + 20 * 45) b (v - 45) := bud_sh.mp (bud_le hb (by omega))
      have oX := pX_ok (vl := vlT u sz) (c := 0) (tkT (u := u) (sz := sz)) hi1
      rw [wp_bnd, w_isC R1]
      refine PW_bxU (w_sum0 C hiv hi1 owX) R1 hb45 (by omega) (FK_of R1 hrd (by omega) (FL_be (FL_fz kf f1)) (eW _ (fun j hj => ?_) (fun j ws ks t hj ht w0 => ?_) owX)) (fun j ws ks' se h3 b3 q1 q2 R3 T3 X3 B3 => ?_)
      · rw [oe]
        unfold pOrd
        rw [hj]
      · obtain ⟨l, hl⟩ := hf w0
        refine ⟨l, hl, ?_⟩
        rw [oe] at hl
        unfold pOrd at hl
        rw [hj] at hl
        have hl : (if kdT u sz j = 14 then (match pX (kdT u sz) (vlT u sz) 5 (j + 1) with
          | .inr j2 => .inr j2
          | .inl (j2, w2, ks2) => .inl (i, j2, ws, w2, ks ++ ks2)) else .inl (i, j, ws, [], ks) : Ln ⊕ Nat) = .inl l := hl
        by_cases c14 : kdT u sz j = 14
        · rw [if_pos c14] at hl
          cases hx : pX (kdT u sz) (vlT u sz) 5 (j + 1) with
          | inr j2 =>
            rw [hx] at hl
            cases hl
          | inl p2 =>
            obtain ⟨j2, w2, ks2⟩ := p2
            rw [hx] at hl
            cases hl
            show fstU _ (ks ++ ks2) = some t
            rw [fstU_app, ht]
            rfl
        · rw [if_neg c14] at hl
          cases hl
          exact ht
      · rw [q1] at oX
        obtain ⟨oj1, oj2, -⟩ := oX
        have oj1 : i + 1 + 1 ≤ j := oj1
        have u1 : fstU (wkF w k kt u sz) ks' = none := by
          rw [q1] at q2
          have q2 : (fstU (wkF w k kt u sz) ks').map (fun t => ((3 : Int32), t)) = none := q2
          cases hu : fstU (wkF w k kt u sz) ks' with
          | none => rfl
          | some t' =>
            rw [hu] at q2
            cases q2
        have X03 := X1.trans X3
        have so3 := xf_o R X03 hso (by decide) (by decide)
        have hp : oFm u sz i = (if kdT u sz j = 14 then (match pX (kdT u sz) (vlT u sz) 5 (j + 1) with
          | .inr j2 => .inr j2
          | .inl (j2, w2, ks2) => .inl (i, j2, ws, w2, ks' ++ ks2)) else .inl (i, j, ws, [], ks') : Ln ⊕ Nat) := by
          rw [oe]
          unfold pOrd
          rw [q1]
          rfl
        have B3b := B3.1
        have B3c := B3.2
        simp only at B3b B3c
        have T3s : isSm (neF w k) (Lp G (Rg n0 n1 rd (nmA u sz tx) h1.1) h3) (j - (i + 1)) 9 se (res (wkF w k kt u sz) ws) := T3
        have m0 : ∀ h' : sd_H, xf rd (nmA u sz tx) h h' → h'.2 m = h.2 m := by
          intro h' X
          obtain ⟨tb, mc', thr, fl, q1, -⟩ := (RW_in R).2.2.1
          rw [q1]
          exact xf_o R X q1 (by decide) (by decide)
        rw [wp_bnd, (rd_rd (RW_in R3).2.1).2.2.2.2.1, wp_bnd, (aSo_rd so3).2.2.2.2.2, wp_bnd]
        refine wp_new (by omega) (by omega) ?_
        have R4 : RW G u sz n0 tl ta tx rd w so m k ky nd iv kt n1 j 0 (sd_pu h3 (.inr (17, [.null, .null, .null]))) := RW_pu R3
        have X34 : xf rd (nmA u sz tx) h3 (sd_pu h3 (.inr (17, [.null, .null, .null]))) := xf_pu R3.1
        have z3 := X03.1
        have hb4 : bud (β.1 + 45, β.2 + 20 * 45) (b3.1 - 1, b3.2 - 3) (50 * (nT u sz + 1 - j) - 1) := bud_new (c := 1) B3 (by omega) (by omega)
        rw [wp_bnd, w_isC R4, wp_bnd]
        refine w_tif C R4 oj2 (n := 124) (c := 14) (by decide) (fun h5 c14 R5 X5 nh5 => ?_) (fun c14 => ?_)
        · -- when
          have hj1 : j + 1 ≤ nT u sz := tk_lt31 oj2 c14 (by decide) (by decide)
          rw [if_pos c14] at hp
          have owT : okw w (pX (kdT u sz) (vlT u sz) 5 (j + 1)) := by
            intro j2 hj2
            refine Decidable.byContradiction fun w0 => ?_
            obtain ⟨l, hl⟩ := hf w0
            rw [hp, hj2] at hl
            cases hl
          have oY := pX_ok (vl := vlT u sz) (c := 5) (tkT (u := u) (sz := sz)) hj1
          have nh5 : h5.1 = h3.1 + 1 := nh5
          rw [wp_ite, if_neg (by decide), wp_bnd, w_isC R5]
          have f5 := fz_xf R hrd hn0 (X03.trans (X34.trans X5))
          have hb4' : bud (β.1 + 44, β.2 + 20 * 44) (b3.1 - 1, b3.2 - 3) (50 * (nT u sz + 1 - j)) := by
            refine ⟨?_, ?_⟩
            · have := hb4.1
              simp only at this ⊢
              omega
            · have := hb4.2
              simp only at this ⊢
              omega
          refine PW_bxU (w_test0 C hiv hj1 owT) R5 hb4' (by omega) (FK_of R5 hrd (by omega) (FL_be (FL_fz kf f5)) (eW _ (fun j2 hj2 => ?_) (fun j2 ws2 ks2 t hj2 ht w0 => ?_) owT)) (fun j2 ws2 ks2 te h6 b6 p1 p2 R6 T6 X6 B6 => ?_)
          · rw [hp, hj2]
          · refine ⟨(i, j2, ws, ws2, ks' ++ ks2), by rw [hp, hj2], ?_⟩
            show fstU _ (ks' ++ ks2) = some t
            rw [fstU_app, u1, Option.none_or]
            exact ht
          · rw [p1] at oY hp
            obtain ⟨oj3, oj4, -⟩ := oY
            have oj3 : j + 1 + 1 ≤ j2 := oj3
            have hp : oFm u sz i = .inl (i, j2, ws, ws2, ks' ++ ks2) := hp
            have u2 : fstU (wkF w k kt u sz) ks2 = none := by
              rw [p1] at p2
              have p2 : (fstU (wkF w k kt u sz) ks2).map (fun t => ((3 : Int32), t)) = none := p2
              cases hu : fstU (wkF w k kt u sz) ks2 with
              | none => rfl
              | some t' =>
                rw [hu] at p2
                cases p2
            have o6 : h6.2 h3.1 = some (.inr (17, [.null, .null, .null])) := RW_mk R3 (X5.trans X6)
            have X46 := X34.trans (X5.trans X6)
            have X06 := X03.trans X46
            have lo6 := (R6.1.1 _ _ o6).2
            have L6 := xf_ls R X06 L
            refine w_o73 (cr := cr) (se := se) (te := te) (v' := 50 * (nT u sz + 1 - j2)) R6 (by omega) h02 (tlw_kp T (RW_in R).1 (fun mc r n q => xf_o R X06 q (by decide) (by decide))) L6 ha hr hsz (fun j hj => xf_ok R X06 R6.1 (hel j hj)) o6 (by omega) (bud_sh.mpr B6) (by omega) (fun h7 mc' r' cap' f' b7 w7 R7 T7 L7 g1 g2 g3 g4 g5 g6 g7 g8 B7 => ?_)
            have ne6 : ∀ a c, h6.2 a = some c → a < h6.1 → PT n0 h.1 h6.1 rd (nmA u sz tx) a c → a ≠ h3.1 → h7.2 a = some c := by
              intro a c q1 q2 q3 q4
              refine g8 a c q1 q4 ?_ ?_
              · rintro rfl
                rcases q3 with q3 | ⟨-, -, ⟨-, v', hs, hz, q3⟩ | ⟨ln, g, q3, -⟩⟩
                · have := (R.1.1 _ _ L.1).2
                  omega
                · rw [L6.1, q3] at q1
                  cases q1
                · rw [L6.1, q3] at q1
                  cases q1
              · rintro rfl
                rcases L6.2.1 with ⟨q5, -⟩ | ⟨q5, -⟩
                · rw [q5, (wfH_z0 R6.1).1] at q1
                  cases q1
                · rcases q3 with q3 | ⟨-, -, ⟨-, v', hs, hz, q3⟩ | ⟨ln, g, q3, -⟩⟩
                  · rcases L.2.1 with ⟨q6, -⟩ | ⟨q6, -⟩
                    · rw [q6, (wfH_z0 R6.1).1] at q1
                      cases q1
                    · have := (R.1.1 _ _ q6).2
                      omega
                  · rw [q5, q3] at q1
                    cases q1
                  · rw [q5, q3] at q1
                    cases q1
            have m7 : h7.2 m = h.2 m := by
              obtain ⟨tb, mc', thr, fl, q1, -⟩ := (RW_in R6).2.2.1
              rw [← m0 h6 X06, q1]
              refine g8 _ _ q1 ?_ ?_ ?_
              · intro q
                rw [q, o6] at q1
                cases q1
              · intro q
                rw [q, L6.1] at q1
                cases q1
              · intro q
                rcases L6.2.1 with ⟨q5, -⟩ | ⟨q5, -⟩
                · rw [q, q5, (wfH_z0 R6.1).1] at q1
                  cases q1
                · rw [q, q5] at q1
                  cases q1
            refine kk _ h7 mc' r' cap' f' b7 h3.1 cr se te jj h6.1 hp (fun w0 => ⟨h16 w0, by show fstU _ (ks' ++ ks2) = none; rw [fstU_app, u1, u2]; rfl⟩) hj e hcr (by show i < j2; omega) oj4 w7 R7 T7 (mow_eq mo m7) L7 g1 g2 g3 (by omega) lo6 g6 g4 g5 ⟨(fz_xf R hrd hn0 X06).trans g7, fun a c q1 q2 q3 _ q4 => g8 a c (X06.2.1 a c q1 q2 q3) (by have := (R.1.1 _ _ q1).2; omega) (fun q => q4 (Or.inl q)) (fun q => q4 (Or.inr q))⟩ ?_ (Or.inl ?_) B7
            · show isSm (neF w k) _ 420 9 se (res (wkF w k kt u sz) ws)
              have T3' : isSm (neF w k) (Lp G (Rg n0 n1 rd (nmA u sz tx) h1.1) h6) (j - (i + 1)) 9 se (res (wkF w k kt u sz) ws) := isSm_mono (Lp_xf R3 (by omega) (Nat.le_refl _) X46) (Nat.le_refl _) _ _ _ _ _ _ (Nat.le_refl _) (Nat.le_refl _) T3s
              -- the cells of the seat's tree were there before the order
              have T3'' : isSm (neF w k) (Lp G (fun a c => Rg n0 n1 rd (nmA u sz tx) h1.1 a c ∧ a < h3.1) h6) (j - (i + 1)) 9 se (res (wkF w k kt u sz) ws) := isSm_mono (Lp_go (fun a c ha hp => by
                obtain ⟨p1, p2⟩ := Rg_xf R3 (by omega) hp
                exact ⟨X46.2.1 a c ha p1 p2, hp, (R3.1.1 _ _ ha).2⟩)) (Nat.le_refl _) _ _ _ _ _ _ (Nat.le_refl _) (Nat.le_refl _) T3s
              refine isSm_mono (Lp_go (fun a c ha hp => ?_)) (Nat.le_refl _) _ _ _ _ _ _ (by omega) (Nat.le_refl _) T3''
              have p : PT n0 h.1 h6.1 rd (nmA u sz tx) a c := by
                rcases hp.1 with q | q
                · exact Or.inl ⟨by omega, (R6.1.1 _ _ ha).2⟩
                · exact Or.inr q.2
              exact ⟨ne6 a c ha (R6.1.1 _ _ ha).2 p (by omega), p⟩
            · show isTs (neF w k) _ 39 te (res (wkF w k kt u sz) ws2)
              have T6s : isTs (neF w k) (Lp G (Rg n0 n1 rd (nmA u sz tx) h5.1) h6) 19 te (res (wkF w k kt u sz) ws2) := T6
              refine isTs_mono (Lp_go (fun a c ha hp => ?_)) (Nat.le_refl _) _ _ _ _ (by omega) T6s
              have p : PT n0 h.1 h6.1 rd (nmA u sz tx) a c := by
                rcases hp with q | q
                · exact Or.inl ⟨by omega, (R6.1.1 _ _ ha).2⟩
                · exact Or.inr q.2
              refine ⟨ne6 a c ha (R6.1.1 _ _ ha).2 p ?_, p⟩
              rcases hp with q | q
              · omega
              · omega
        · -- always
          rw [if_neg c14] at hp
          rw [wp_ite, if_pos rfl, wp_bnd]
          unfold fX25_always fX26_init
          have hb41 := hb4.1
          have hb42 := hb4.2
          simp only at hb41 hb42
          rw [wp_bnd]
          refine wp_new (by simp only; omega) (by simp only; omega) ?_
          rw [wp_bnd, wp_ret, wp_ret]
          have R5 : RW G u sz n0 tl ta tx rd w so m k ky nd iv kt n1 j 0 (sd_pu (sd_pu h3 (.inr (17, [.null, .null, .null]))) (.inr (23, []))) := RW_pu R4
          have X45 : xf rd (nmA u sz tx) h3 (sd_pu (sd_pu h3 (.inr (17, [.null, .null, .null]))) (.inr (23, []))) := X34.trans (xf_pu R4.1)
          have X05 := X03.trans X45
          have t5 : (sd_pu (sd_pu h3 (.inr (17, [.null, .null, .null]))) (.inr (23, []))).2 (h3.1 + 1) = some (.inr (23, [])) := pu_at (sd_pu h3 (.inr (17, [.null, .null, .null]))) _
          have o5 : (sd_pu (sd_pu h3 (.inr (17, [.null, .null, .null]))) (.inr (23, []))).2 h3.1 = some (.inr (17, [.null, .null, .null])) := (pu_ne (by show h3.1 ≠ h3.1 + 1; omega)).trans (pu_at _ _)
          have n5 : (sd_pu (sd_pu h3 (.inr (17, [.null, .null, .null]))) (.inr (23, []))).1 = h3.1 + 2 := rfl
          show wp (fX7_order_b73 G (h3.1 + 1) se cr h3.1 h3.1 (F 5)) (sd_pu (sd_pu h3 (.inr (17, [.null, .null, .null]))) (.inr (23, []))) (b3.1 - 1 - 1, b3.2 - 3 - 0) Q
          have hb5 : bud β (b3.1 - 1 - 1, b3.2 - 3 - 0) (50 * (nT u sz + 1 - j) + 43) := by
            refine ⟨?_, ?_⟩
            · simp only
              omega
            · simp only
              omega
          generalize sd_pu (sd_pu h3 (.inr (17, [.null, .null, .null]))) (.inr (23, [])) = h5 at R5 X45 X05 t5 o5 n5 ⊢
          have L5 := xf_ls R X05 L
          refine w_o73 (cr := cr) (se := se) (te := h3.1 + 1) (v' := 50 * (nT u sz + 1 - j)) R5 (by omega) h02 (tlw_kp T (RW_in R).1 (fun mc r n q => xf_o R X05 q (by decide) (by decide))) L5 ha hr hsz (fun j hj => xf_ok R X05 R5.1 (hel j hj)) o5 (by omega) hb5 (by omega) (fun h7 mc' r' cap' f' b7 w7 R7 T7 L7 g1 g2 g3 g4 g5 g6 g7 g8 B7 => ?_)
          have lF := (R.1.1 _ _ L.1).2
          have nr5 : ∀ a c, h5.2 a = some c → h.1 ≤ a → a ≠ r := by
            rintro a c q1 q2 rfl
            rcases L.2.1 with ⟨q6, -⟩ | ⟨q6, -⟩
            · rw [q6, (wfH_z0 R5.1).1] at q1
              cases q1
            · have := (R.1.1 _ _ q6).2
              omega
          have m7 : h7.2 m = h.2 m := by
            obtain ⟨tb, mc', thr, fl, q1, -⟩ := (RW_in R5).2.2.1
            rw [← m0 h5 X05, q1]
            refine g8 _ _ q1 ?_ ?_ ?_
            · intro q
              rw [q, o5] at q1
              cases q1
            · intro q
              rw [q, L5.1] at q1
              cases q1
            · intro q
              rcases L5.2.1 with ⟨q5, -⟩ | ⟨q5, -⟩
              · rw [q, q5, (wfH_z0 R5.1).1] at q1
                cases q1
              · rw [q, q5] at q1
                cases q1
          have t7 : h7.2 (h3.1 + 1) = some (.inr (23, [])) := g8 _ _ t5 (by omega) (by omega) (nr5 _ _ t5 (by omega))
          have lo5 : ∀ a c, h.2 a = some c → a ≠ h3.1 := by
            intro a c q
            have := (R.1.1 _ _ q).2
            omega
          refine kk _ h7 mc' r' cap' f' b7 h3.1 cr se (h3.1 + 1) jj h5.1 hp (fun w0 => ⟨h16 w0, u1⟩) hj e hcr (by show i < j; omega) oj2 w7 R7 T7 (mow_eq mo m7) L7 g1 g2 g3 (by omega) (by omega) g6 g4 g5 ⟨(fz_xf R hrd hn0 X05).trans g7, fun a c q1 q2 q3 _ q4 => g8 a c (X05.2.1 a c q1 q2 q3) (lo5 a c q1) (fun q => q4 (Or.inl q)) (fun q => q4 (Or.inr q))⟩ ?_ (Or.inr ⟨t7, by omega, by omega, rfl⟩) B7
          show isSm (neF w k) _ 420 9 se (res (wkF w k kt u sz) ws)
          have T3'' : isSm (neF w k) (Lp G (fun a c => Rg n0 n1 rd (nmA u sz tx) h1.1 a c ∧ a < h3.1) h5) (j - (i + 1)) 9 se (res (wkF w k kt u sz) ws) := isSm_mono (Lp_go (fun a c ha hp => by
            obtain ⟨p1, p2⟩ := Rg_xf R3 (by omega) hp
            exact ⟨X45.2.1 a c ha p1 p2, hp, (R3.1.1 _ _ ha).2⟩)) (Nat.le_refl _) _ _ _ _ _ _ (Nat.le_refl _) (Nat.le_refl _) T3s
          refine isSm_mono (Lp_go (fun a c ha hp => ?_)) (Nat.le_refl _) _ _ _ _ _ _ (by omega) (Nat.le_refl _) T3''
          have p : PT n0 h.1 h5.1 rd (nmA u sz tx) a c := by
            rcases hp.1 with q | q
            · exact Or.inl ⟨by omega, (R5.1.1 _ _ ha).2⟩
            · exact Or.inr q.2
          refine ⟨g8 a c ha (by omega) ?_ ?_, p⟩
          · rintro rfl
            rcases hp.1 with q | ⟨q, -, -, ⟨-, v', hs, hz, q3⟩ | ⟨ln, g, q3, -⟩⟩
            · omega
            · rw [L5.1, q3] at ha
              cases ha
            · rw [L5.1, q3] at ha
              cases ha
          · rcases hp.1 with q | ⟨q, -, -, ⟨-, v', hs, hz, q3⟩ | ⟨ln, g, q3, -⟩⟩
            · exact nr5 a c ha (by omega)
            · rintro rfl
              rcases L5.2.1 with ⟨q5, -⟩ | ⟨q5, -⟩
              · rw [q5, (wfH_z0 R5.1).1] at ha
                cases ha
              · rw [q5, q3] at ha
                cases ha
            · rintro rfl
              rcases L5.2.1 with ⟨q5, -⟩ | ⟨q5, -⟩
              · rw [q5, (wfH_z0 R5.1).1] at ha
                cases ha
              · rw [q5, q3] at ha
                cases ha
  by_cases c : (16 : Int32) ≤ n3 sz'
  · rw [if_pos c]
    rw [show (16 : Int32) = n3 16 from rfl, n3_le (by omega) (by omega)] at c
    exact b32 0 ⟨fun q => absurd rfl q, fun q => by omega⟩
  · rw [if_neg c]
    rw [show (16 : Int32) = n3 16 from rfl, n3_le (by omega) (by omega)] at c
    exact b32 1 ⟨fun _ => by omega, fun _ => by decide⟩
end LO2
