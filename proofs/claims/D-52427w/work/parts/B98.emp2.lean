/-! THE PLAIN LAW: a line of an empire, all of it -/
theorem mow_eq {n0 m k : Nat} {nd : Nat → Nat} {h h' : sd_H} (M : mow n0 m k nd h) (e : h'.2 m = h.2 m) : mow n0 m k nd h' := ⟨M.1, M.2.1, fun t k' mc thr fl q => M.2.2 t k' mc thr fl (e ▸ q)⟩
theorem n3_rng {a lo hi : Nat} (ha : a < 1000000) (h1 : lo < 1000000) (h2 : hi < 1000000) : (¬ n3 a < n3 lo ∧ ¬ n3 hi < n3 a) ↔ (lo ≤ a ∧ a ≤ hi) := by
  rw [n3_lt (by omega) (by omega), n3_lt (by omega) (by omega)]
  omega
section LE2
variable {G : sd_G} {u : Nat → Nat} {sz n0 n1 tl so m rd k : Nat} {ta tx : Nat → Nat} {w : Int32} {ky nd iv : Nat → Nat} {kt : Nat → List Nat} {β b : Nat × Nat} {h h' : sd_H} {i d v n2 : Nat} {Q : Unit ⊕ Nat → sd_H → Nat × Nat → Prop}
theorem TK_hm (T : TK G u sz n0 tl ta tx h) (f : hmF h h') : TK G u sz n0 tl ta tx h' := by
  obtain ⟨⟨mc, r, cap, f', e1, e2, e3⟩, B⟩ := T
  refine ⟨⟨mc, r, cap, f', f.2 _ _ e1 rfl, f.2 _ _ e2 rfl, e3⟩, fun j hj => ?_⟩
  obtain ⟨h1, h2, h3⟩ := B j hj
  exact ⟨f.2 _ _ h1 rfl, h2, fun c1 c2 => ⟨strN_hm (h3 c1 c2).1 f, (h3 c1 c2).2⟩⟩
theorem c_emp {o : Nat} {x y : Value} {z1 z2 : Int32} {Q : Unit → sd_H → Nat × Nat → Prop} (ho : h.2 o = some (.inr (10, [x, y]))) : wp (fX11_init G o z1 z2) h b Q = Q () (sd_up h o (.inr (10, [.int z1, .int z2]))) b := by
  unfold fX11_init
  rw [wp_bnd, wp_put ho (Nat.le_of_ble_eq_true rfl) rfl rfl, wp_bnd, wp_put (up_at _ _ _) (Nat.le_of_ble_eq_true rfl) rfl rfl, wp_ret, up_up]
  rfl
theorem fz_sfr {N : Nat → Prop} (s : sfr G N h h') (hN : ∀ a, N a → n0 ≤ a) : fz n0 h h' := ⟨Nat.le_of_eq s.1.symm, fun a ha => s.2.1 a (fun q => by have := hN a q; omega)⟩
theorem nmA_n0 (T : TK G u sz n0 tl ta tx h) : ∀ a, nmA u sz tx a → n0 ≤ a := by
  rintro a ⟨j, h1, h2, rfl⟩
  exact ((T.2 j (by omega)).2.2 (by omega) (by omega)).2.1
theorem w_empire {E0 r sz' cap : Nat} {st ns mc : Int32} {F : Nat → Nat} {f : Nat → Option Nat} (C : wlC G) (I : icC G) (hiv : ∀ j, j < k → sd_c G (iv j) = some (.inr (47, [.int (n3 j)]))) (R : RW G u sz n0 tl ta tx rd w so m k ky nd iv kt n1 (i + 1) d h) (hrd : n0 ≤ rd) (hn0 : n0 ≤ h.1) (h02 : n0 ≤ n2) (T : tlw n2 tl h) (hi : i + 1 ≤ nT u sz) (hso : h.2 so = some (aSo st ns F E0)) (L : lsO G h (F 3) mc r sz' cap f) (ha : n2 ≤ F 3) (hr : r = sd_ad G 0 ∨ n2 ≤ r) (hsz : sz' ≤ 400) (hel : ∀ j, j < sz' → sd_okQ G h 4 (f j) = true) (mo : mow n0 m k nd h) (hf : w ≠ 0 → kdT u sz (i + 1) = 30 ∧ kdT u sz (i + 2) = 3 ∧ kdT u sz (i + 3) = 31 ∧ kdT u sz (i + 4) = 4 ∧ kdT u sz (i + 5) = 31) (hb : bud β b v) (hv : 100 ≤ v) (kf : FL G u sz n0 (EE w k kt u sz i) h β Q)
    (k0 : ∀ h' mc' r' cap' f' o b', w = 0 → tmp (kdT u sz) (i + 1) [30, 3, 31, 4, 31] = .inl (i + 6) → wfH G h' → RC G u sz n0 tl ta tx rd w so m k ky nd iv kt (i + 6) d h' → tlw n2 tl h' → mow n0 m k nd h' → lsO G h' (F 3) mc' r' (sz' + 1) cap' f' → (∀ j, j < sz' → f' j = f j) → f' sz' = some o → h'.2 o = some (.inr (10, [.int (n3 (nbT u sz (i + 3))), .int (n3 (nbT u sz (i + 5)))])) → h.1 ≤ o → (r' = r ∨ h.1 ≤ r') → (r' = sd_ad G 0 ∨ n2 ≤ r') → lfr rd (nmA u sz tx) n0 (fun a => a = F 3 ∨ a = r) h h' → i + 6 ≤ nT u sz → bud β b' (v - 60) → Q (.inl ()) h' b')
    (k1 : ∀ h' mc' r' cap' f' o b' ky' nd' iv', w ≠ 0 → eEmp k kt u sz i = none → wfH G h' → RC G u sz n0 tl ta tx rd w so m (k + 1) ky' nd' iv' (updT kt k (txT u sz (i + 1))) (i + 6) d h' → (∀ j, j < k + 1 → sd_c G (iv' j) = some (.inr (47, [.int (n3 j)]))) → tlw n2 tl h' → mow n0 m (k + 1) nd' h' → lsO G h' (F 3) mc' r' (sz' + 1) cap' f' → (∀ j, j < sz' → f' j = f j) → f' sz' = some o → h'.2 o = some (.inr (10, [.int (n3 (nbT u sz (i + 3))), .int (n3 (nbT u sz (i + 5)))])) → h.1 ≤ o → (r' = r ∨ h.1 ≤ r') → (r' = sd_ad G 0 ∨ n2 ≤ r') → lfr rd (nmA u sz tx) n0 (fun a => a = F 3 ∨ a = r) h h' → i + 6 ≤ nT u sz → bud β b' (v - 60) → Q (.inl ()) h' b') : wp (fX7_empire G rd) h b Q := by
  have hb1 := hb.1
  have hb2 := hb.2
  have ef : ∀ t, (w = 0 → tmp (kdT u sz) (i + 1) [30, 3, 31, 4, 31] = .inr t) → w = 0 → EE w k kt u sz i 1 t := fun t q q0 => Or.inl ⟨q0, rfl, q q0⟩
  unfold fX7_empire
  rw [wp_bnd, (rd_rd (RW_in R).2.1).2.2.2.2.2.1]
  refine w_name C R hrd hn0 hi hb (by omega) kf (fun e => ?_) (fun e e1 e2 => ?_) (fun e e1 e2 e3 => ?_) (fun h1 c1 p1 R1 X1 nh1 => ?_)
  · by_cases w0 : w = 0
    · exact Or.inl ⟨w0, rfl, by rw [tmp_5, if_neg e]⟩
    · exact absurd (hf w0).1 e
  · exact Or.inr ⟨e1, by unfold eEmp; rw [if_pos e2]⟩
  · exact Or.inr ⟨e1, by unfold eEmp; rw [e2, if_neg (by decide), if_pos e3]⟩
  have hi2 := tk_lt31 hi c1 (by decide) (by decide)
  have f1 := fz_xf R hrd hn0 X1
  refine w_numOf C R1 hrd (by omega) hi2 (n := 108) (c := 3) (by decide) hb (by omega) (FL_fz kf f1) (fun e => ?_) (fun e e1 => ?_) (fun e e1 e2 e3 => ?_) (fun h2 c2 c3 p2 R2 X2 nh2 => ?_)
  · by_cases w0 : w = 0
    · exact Or.inl ⟨w0, rfl, by rw [tmp_5, if_pos c1, if_neg e]⟩
    · exact absurd (hf w0).2.1 e
  · by_cases w0 : w = 0
    · exact Or.inl ⟨w0, rfl, by rw [tmp_5, if_pos c1, if_pos e, if_neg e1]⟩
    · exact absurd (hf w0).2.2.1 e1
  · have nb3 := (kd_nw (tk_lt31 (tk_lt31 hi2 e (by decide) (by decide)) e1 (by decide) (by decide))).1 e1
    rw [show (0 : Int32) = n3 0 from rfl, show (999 : Int32) = n3 999 from rfl, n3_rng nb3 (by decide) (by decide)] at e3
    have e3 : ¬ (0 ≤ nbT u sz (i + 3) ∧ nbT u sz (i + 3) ≤ 999) := e3
    obtain ⟨p1, p2⟩ := p1.resolve_left e2
    exact Or.inr ⟨e2, by unfold eEmp; rw [p1, if_neg (by decide), if_neg (by omega), if_pos (by omega)]⟩
  have hi3 := tk_lt31 hi2 c2 (by decide) (by decide)
  have hi4 := tk_lt31 hi3 c3 (by decide) (by decide)
  have nb3 := (kd_nw hi4).1 c3
  rw [show (0 : Int32) = n3 0 from rfl, show (999 : Int32) = n3 999 from rfl, n3_rng nb3 (by decide) (by decide)] at p2
  have p2 : w = 0 ∨ (0 ≤ nbT u sz (i + 3) ∧ nbT u sz (i + 3) ≤ 999) := p2
  have X02 := X1.trans X2
  have so2 := xf_o R X02 hso (by decide) (by decide)
  rw [wp_bnd, (rd_rd (RW_in R2).2.1).2.2.2.2.1, wp_bnd, (aSo_rd so2).2.2.2.1, wp_bnd]
  refine wp_new (by omega) (by omega) ?_
  have R3 : RW G u sz n0 tl ta tx rd w so m k ky nd iv kt n1 (i + 4) d (sd_pu h2 (.inr (10, [.int 0, .int 0]))) := RW_pu R2
  have X3 : xf rd (nmA u sz tx) h (sd_pu h2 (.inr (10, [.int 0, .int 0]))) := X02.trans (xf_pu R2.1)
  refine w_numOf C R3 hrd (by show n0 ≤ h2.1 + 1; omega) hi4 (n := 109) (c := 4) (by decide) (bud_new (c := 1) (v' := v - 1) hb (by omega) (by omega)) (by omega) (FL_fz kf (fz_xf R hrd hn0 X3)) (fun e => ?_) (fun e e1 => ?_) (fun e e1 e2 e3 => ?_) (fun h4 c4 c5 p4 R4 X4 nh4 => ?_)
  · by_cases w0 : w = 0
    · exact Or.inl ⟨w0, rfl, by rw [tmp_5, if_pos c1, if_pos c2, if_pos c3, if_neg e]⟩
    · exact absurd (hf w0).2.2.2.1 e
  · by_cases w0 : w = 0
    · exact Or.inl ⟨w0, rfl, by rw [tmp_5, if_pos c1, if_pos c2, if_pos c3, if_pos e, if_neg e1]⟩
    · exact absurd (hf w0).2.2.2.2 e1
  · have nb5 := (kd_nw (tk_lt31 (tk_lt31 hi4 e (by decide) (by decide)) e1 (by decide) (by decide))).1 e1
    rw [show (999 : Int32) = n3 999 from rfl, n3_rng nb5 (by omega) (by decide)] at e3
    obtain ⟨p1, p1'⟩ := p1.resolve_left e2
    have p2 := p2.resolve_left e2
    refine Or.inr ⟨e2, ?_⟩
    unfold eEmp
    rw [p1, if_neg (by decide), if_neg (by omega), if_neg (by omega), if_pos]
    have e3 : ¬ (nbT u sz (i + 3) ≤ nbT u sz (i + 5) ∧ nbT u sz (i + 5) ≤ 999) := e3
    omega
  have hi5 := tk_lt31 hi4 c4 (by decide) (by decide)
  have hi6 : i + 6 ≤ nT u sz := tk_lt31 hi5 c5 (by decide) (by decide)
  have nb5 := (kd_nw hi6).1 c5
  have p4 : w = 0 ∨ (nbT u sz (i + 3) ≤ nbT u sz (i + 5) ∧ nbT u sz (i + 5) ≤ 999) := by
    rcases p4 with q | q
    · exact Or.inl q
    · rw [show (999 : Int32) = n3 999 from rfl, n3_rng nb5 (by omega) (by decide)] at q
      exact Or.inr q
  have o4 := RW_mk R2 X4
  have X04 := X3.trans X4
  have lo4 : h2.1 < h4.1 := (R4.1.1 _ _ o4).2
  rw [wp_bnd, c_emp o4]
  -- the heap with the empire
  have R5 : RW G u sz n0 tl ta tx rd w so m k ky nd iv kt n1 (i + 6) d (sd_up h4 h2.1 (.inr (10, [.int (n3 (nbT u sz (i + 3))), .int (n3 (nbT u sz (i + 5)))]))) := RW_up R4 o4 R2.2.1
  have X05 : xf rd (nmA u sz tx) h (sd_up h4 h2.1 (.inr (10, [.int (n3 (nbT u sz (i + 3))), .int (n3 (nbT u sz (i + 5)))]))) := xf_upn R.1 X04 (by omega)
  have o5 := up_at h4 h2.1 (.inr (10, [.int (n3 (nbT u sz (i + 3))), .int (n3 (nbT u sz (i + 5)))]))
  have n5 : (sd_up h4 h2.1 (.inr (10, [.int (n3 (nbT u sz (i + 3))), .int (n3 (nbT u sz (i + 5)))]))).1 = h4.1 := rfl
  generalize sd_up h4 h2.1 (.inr (10, [.int (n3 (nbT u sz (i + 3))), .int (n3 (nbT u sz (i + 5)))])) = h5 at R5 X05 o5 n5 ⊢
  have L5 := xf_ls R X05 L
  have tl5 : tlw n2 tl h5 := by
    obtain ⟨mc0, r0, cap0, f0, e1, -⟩ := (RW_in R).1.1
    have e5 := xf_o R X05 e1 (by decide) (by decide)
    refine ⟨T.1, fun mc' r2 n q => ?_⟩
    rw [e5] at q
    injection q with q
    injection q with q
    injection q with _ q
    injection q with _ q
    injection q with q _
    injection q with q
    rw [← q]
    exact T.2 _ _ _ e1
  have okn : sd_okQ G h5 4 (some h2.1) = true := by
    unfold sd_okQ
    simp only [sd_look_new o5]
    rfl
  have m5 : h5.2 m = h.2 m := by
    obtain ⟨tb, mc', thr, fl, q1, -⟩ := (RW_in R).2.2.1
    rw [q1]
    exact xf_o R X05 q1 (by decide) (by decide)
  rw [wp_bnd, wp_isC (sd_look_new L5.1), wp_bnd]
  have hb5 : bud β (b.1 - 1, b.2 - 2) (v - 1) := bud_new (c := 1) hb (by omega) (by omega)
  refine l_add (v' := v - 50) R5.1 (RW_in R5) tl5 h02 L5 ha hr hsz (fun j hj => xf_ok R X05 R5.1 (hel j hj)) okn hb5 (by omega) (fun h6 mc' r' cap' f' b6 w6 R6 T6 L6 g1 g2 g3 g4 g5 g6 g7 B6 => ?_)
  have fz6 : fz n0 h h6 := (fz_xf R hrd hn0 X05).trans g7
  have o6 : h6.2 h2.1 = some (.inr (10, [.int (n3 (nbT u sz (i + 3))), .int (n3 (nbT u sz (i + 5)))])) := by
    refine g6 _ _ ?_ ?_ o5
    · intro q
      rw [q, L5.1] at o5
      cases o5
    · intro q
      rcases L5.2.1 with ⟨q1, -⟩ | ⟨q1, -⟩
      · rw [q, q1, (wfH_z0 R5.1).1] at o5
        cases o5
      · rw [q, q1] at o5
        cases o5
  have lf6 : ∀ a e, h.2 a = some e → a ≠ rd → ¬ nmA u sz tx a → ¬ (a = F 3 ∨ a = r) → h6.2 a = some e := fun a e q1 q2 q3 q4 => g6 a e (fun q => q4 (Or.inl q)) (fun q => q4 (Or.inr q)) (X05.2.1 a e q1 q2 q3)
  have m6 : h6.2 m = h.2 m := by
    rw [← m5]
    obtain ⟨tb, mc', thr, fl, q1, -⟩ := (RW_in R5).2.2.1
    rw [q1]
    refine g6 _ _ ?_ ?_ q1
    · intro q
      rw [q, L5.1] at q1
      cases q1
    · intro q
      rcases L5.2.1 with ⟨q2, -⟩ | ⟨q2, -⟩
      · rw [q, q2, (wfH_z0 R5.1).1] at q1
        cases q1
      · rw [q, q2] at q1
        cases q1
  have mo6 := mow_eq mo m6
  rw [wp_bnd, (rd_rd R6.2.1).2.2.2.2.2.1, wp_bnd, (rd_rd R6.2.1).2.2.2.2.2.2, wp_bnd]
  unfold fX7_put
  rw [wp_bnd, (rd_rd R6.2.1).2.2.2.1, wp_ite]
  have r'n : r' = r ∨ h.1 ≤ r' := by
    rcases g3 with q | q
    · exact Or.inl q
    · exact Or.inr (by have := X05.1; omega)
  by_cases w0 : w = 0
  · rw [if_pos w0, wp_ret, wp_ret]
    exact k0 h6 mc' r' cap' f' h2.1 b6 w0 (by rw [tmp_5, if_pos c1, if_pos c2, if_pos c3, if_pos c4, if_pos c5]) w6 R6 T6 mo6 L6 g1 g2 o6 (by omega) r'n g4 ⟨fz6, fun a e q1 q2 q3 _ q4 => lf6 a e q1 q2 q3 q4⟩ hi6 (bud_le B6 (by omega))
  · obtain ⟨p1, p1'⟩ := p1.resolve_left w0
    have p2 := p2.resolve_left w0
    have p4 := p4.resolve_left w0
    obtain ⟨nn, ff, i1, i2, i3, i4⟩ := I
    obtain ⟨va, v1, v2⟩ := i4 k (by omega)
    have li := look_k w6 i1
    have ev : ∀ b (Q : Nat → sd_H → Nat × Nat → Prop), wp (fJ19_valueOf G (n3 k)) h6 b Q = Q va h6 b := by
      intro b Q
      unfold fJ19_valueOf
      rw [wp_ite, if_neg, wp_ite, if_neg, wp_bnd, show n3 k + 128 = n3 (k + 128) from n3_add k 128, wp_aldR li (n3_ix (by omega) (by omega)) (by rw [n3_nn (by omega)]; exact v1), wp_ret]
      · rw [show (127 : Int32) = n3 127 from rfl, n3_lt (by omega) (by omega)]
        omega
      · intro q
        rw [Int32.lt_iff_toInt_lt, n3_toInt (by omega)] at q
        have : (-128 : Int32).toInt = -128 := by decide
        omega
    have hx : nmA u sz tx (tx (i + 1)) := ⟨i + 1, hi, c1, rfl⟩
    have H6 := ((R6.1.2 (i + 1) (by omega)).2.2 (by omega) (by omega)).1
    have hne : ∀ j, j < k → kt j ≠ txT u sz (i + 1) := by
      intro j hj q
      have := List.find?_eq_none.mp p1 j (List.mem_range.mpr hj)
      exact this (decide_eq_true q)
    have B6b := B6.1
    have B6c := B6.2
    rw [if_neg w0, wp_bnd, hm_isC R6.2.2, wp_bnd, c_size R6.2.2, wp_bnd, ev, wp_bnd, hm_isC R6.2.2, wp_bnd]
    refine c_put w6 R6.2.2 (by omega) H6 hx (nmA_s R6.1) hne (by omega) (by omega) (fun h7 h8 nn b8 s7 w8 M8 f8 o8 q1 q2 => ?_)
    rw [wp_ret, wp_ret]
    obtain ⟨z1, z2⟩ := o8 n0 (by have := fz6.1; omega) mo6
    have tk8 : TK G u sz n0 tl ta tx h8 := TK_hm (TK_sfr R6.1 s7) f8
    have rd8 : h8.2 rd = some (aRd tl (i + 6) d w so m) := f8.2 _ _ (sfr_kp s7 R6.2.1 (fun _ _ _ q => by cases q)) rfl
    have k8 : ∀ a e, h6.2 a = some e → ¬ nmA u sz tx a → isHm e = false → h8.2 a = some e := fun a e q1 q2 q3 => f8.2 _ _ ((s7.2.1 a q2).trans q1) q3
    have ls8 : lsO G h8 (F 3) mc' r' (sz' + 1) cap' f' := by
      obtain ⟨l1, l2, l3⟩ := L6
      have nN : ∀ a e, h6.2 a = some e → (∀ v hs hz, e ≠ aS v hs hz) → ¬ nmA u sz tx a := fun a e q1 q2 q3 => by
        obtain ⟨v, hs, hz, q⟩ := nmA_s R6.1 _ _ q3 q1
        exact q2 v hs hz q
      refine ⟨k8 _ _ l1 (nN _ _ l1 (fun _ _ _ q => by cases q)) rfl, ?_, l3⟩
      rcases l2 with q | ⟨q, q'⟩
      · exact Or.inl q
      · exact Or.inr ⟨k8 _ _ q (nN _ _ q (fun _ _ _ q => by cases q)) rfl, q'⟩
    have tl8 : tlw n2 tl h8 := by
      obtain ⟨mc0, r0, cap0, f0, e1, -⟩ := R6.1.1
      have e8 : h8.2 tl = some (aL mc0 r0 (nT u sz + 1)) := f8.2 _ _ (sfr_kp s7 e1 (fun _ _ _ q => by cases q)) rfl
      refine ⟨T.1, fun mc' r2 n q => ?_⟩
      rw [e8] at q
      injection q with q
      injection q with q
      injection q with _ q
      injection q with _ q
      injection q with q _
      injection q with q
      rw [← q]
      exact T6.2 _ _ _ e1
    have o8' : h8.2 h2.1 = some (.inr (10, [.int (n3 (nbT u sz (i + 3))), .int (n3 (nbT u sz (i + 5)))])) := f8.2 _ _ (sfr_kp s7 o6 (fun _ _ _ q => by cases q)) rfl
    have fz8 : fz n0 h h8 := by
      refine fz6.trans ⟨by have := s7.1; have := f8.1; omega, fun a ha => ?_⟩
      rw [z1 a ha]
      exact (fz_sfr s7 (nmA_n0 R6.1)).2 a ha
    refine k1 h8 mc' r' cap' f' h2.1 b8 _ _ _ w0 ?_ w8 ⟨tk8, rd8, M8⟩ (fun j hj => ?_) tl8 z2 ls8 g1 g2 o8' (by omega) r'n g4 ⟨fz8, fun a e q1 q2 q3 q4 q5 => k8 a e (lf6 a e q1 q2 q3 q5) q3 q4⟩ hi6 ⟨by omega, by omega⟩
    · unfold eEmp
      rw [p1, if_neg (by decide), if_neg (by omega), if_neg (by omega), if_neg (by omega)]
    · by_cases c : j = k
      · rw [c, updN_same]
        exact v2
      · rw [updN_ne c]
        exact hiv j (by omega)
end LE2
