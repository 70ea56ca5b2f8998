/-! THE PLAIN LAW: the component learns -/
theorem ar_c1 {B1 B6 sz N c : Nat} (h0 : c = 7 * sz + 100 * N + 900) (h1 : c ≤ B1) (h : B1 - 1 - 1 - 1 ≤ B6 + (7 * sz + 10)) : B1 - c + (100 * N + 740 + 60) ≤ B6 := by omega
theorem ar_c2 {B2 B6 sz N c : Nat} (h0 : c = 1000 * sz + 2000 * N + 20000) (h1 : c ≤ B2) (h : B2 - 6 - 2 - 3 ≤ B6 + (1000 * sz + 2000)) : B2 - c + 20 * (100 * N + 740 + 60) ≤ B6 := by omega
theorem ar_t1 {B1 B6 sz N : Nat} (h0 : 7 * sz + 100 * N + 900 ≤ B1) (h : B1 - 1 - 1 - 1 ≤ B6 + (7 * sz + 10)) : B1 - (7 * sz + 100 * N + 900) + (100 * N + 740 + 60) ≤ B6 := ar_c1 rfl h0 h
theorem ar_t2 {B2 B6 sz N : Nat} (h0 : 1000 * sz + 2000 * N + 20000 ≤ B2) (h : B2 - 6 - 2 - 3 ≤ B6 + (1000 * sz + 2000)) : B2 - (1000 * sz + 2000 * N + 20000) + 20 * (100 * N + 740 + 60) ≤ B6 := ar_c2 rfl h0 h
theorem ar_t3 {N : Nat} : 100 * N + 740 + 1 ≤ 100 * N + 740 + 60 - 20 := by omega
theorem ar_t4 {B b' c : Nat} (h : B - c + 0 ≤ b') : B ≤ b' + c := by omega
theorem ar_t5 {B b' c : Nat} (h : B - c + 20 * 0 ≤ b') : B ≤ b' + c := by omega
theorem zN_old {G : sd_G} {u : Nat → Nat} {sz n0 n2 n4 tl so m rd E0 j : Nat} {ta tx : Nat → Nat} {w : Int32} {F ad : Nat → Nat} {mcs : Nat → Int32} {TZ : Nat → Prop} {S : SS} {os : List Ln} {h h' : sd_H} (W : W2 G u sz n0 tl ta tx rd w so m n2 n4 E0 F ad mcs TZ S os j h) (w' : wfH G h') {a : Nat} {e : sd_E} (hz : zN G n0 rd (nmA u sz tx) TZ h' a) (hlt : a < n0) (ha : h'.2 a = some e) : ∃ ln g, e = aB ln g ∧ ln ≤ 2 := by
  obtain ⟨ky, nd, iv, kt, wf, n4l, rc, mo, hiv, nmr, -, T, hso, hE0, St, T4, X0, osl, osn, q20, q21, q22, q26, q32, hT⟩ := W
  obtain ⟨x1, x2, x3, x4, -⟩ := X0
  rcases hz with ⟨c, q1, q2⟩ | ⟨c, q1⟩
  · rw [ha] at q1
    cases q1
    rcases q2.2 with q | ⟨-, -, ⟨q, -⟩ | ⟨ln, g, q, q'⟩⟩
    · have := (hT a q).1
      omega
    · omega
    · exact ⟨ln, g, q, q'⟩
  · have q2 := w'.2.2.1 _ _ q1
    have := (w'.1 _ _ ha).1
    omega
section CTE
variable {t : TT} {b : Nat × Nat} {G : sd_G} {cx tp bt s0 E1 : Nat} {B : Nat → Nat} {Z : Nat → Prop} {q : Nat → Nat} {x : Nat → Nat → Int32} {ea : Int32} {sz : Nat} {bs : Nat → Int32} {h : sd_H} {u : Nat → Nat} {X : Nat → Nat → Int32}
theorem c_soK {α : Type} {β b : Nat × Nat} {v : Nat} {K : Nat → sd_M α} {Q : α → sd_H → Nat × Nat → Prop} (wf : wfH G h) (hb : bud β b v) (hv : 20 ≤ v) (kk : ∀ h' F E0 b', wfH G h' → h.1 ≤ h'.1 → nSo G h.1 F E0 h' → (∀ z, z < h.1 → h'.2 z = h.2 z) → bud β b' (v - 20) → wp (K h.1) h' b' Q) : wp (sd_bnd (sd_new 2 12 [.int 0, .int 0, .null, .null, .null, .null, .null, .int 0, .int 0, .int 0, .int 0, .int 0]) fun o1 => sd_bnd (fX3_init G o1) fun _ => K o1) h b Q := by
  have w := c_soI (Q := fun _ h' b' => wp (K h.1) h' b' Q) wf hb hv kk
  rw [wp_bnd] at w ⊢
  obtain ⟨a, c, h', e1, e2, e3, e4⟩ := w
  refine ⟨a, c, h', e1, e2, e3, ?_⟩
  unfold sd_new at e1
  cases e1
  rw [wp_bnd]
  exact e4
theorem c_teach {Q : Int32 → sd_H → Nat × Nat → Prop} (Cw : wlC G) (Kc : crC G) (I : icC G) (hW : strsC G (sd_ad G 2) kws) (hSy : strC G (sd_ad G 102) syms) (C : CI G cx tp bt s0 E1 B Z q x ea sz bs h t) (hu : ∀ k, k < sz → bs k &&& 255 = n3 (u k) ∧ u k < 256) (hs : sz ≤ 2000) (zt : ¬ Z tp) (zb : ¬ Z bt) (zc : ¬ Z cx) (hX : ∀ c, c < 80 → X 30 c = -1 ∧ X 31 c = 0) (b1 : 7 * sz + 100 * (nT u sz + 1) + 900 ≤ b.1) (b2 : 1000 * sz + 2000 * (nT u sz + 1) + 20000 ≤ b.2)
    (k1 : ∀ t0 h' b', pBook (kdT u sz) (vlT u sz) = .inr t0 → CI G cx tp bt s0 E1 B Z q x (n3 (plT u sz t0)) 0 bs h' t → (∀ a, a < h.1 → a ≠ cx → a ≠ tp → h'.2 a = h.2 a) → h.1 ≤ h'.1 → b.1 ≤ b'.1 + (7 * sz + 100 * (nT u sz + 1) + 900) → b.2 ≤ b'.2 + (1000 * sz + 2000 * (nT u sz + 1) + 20000) → Q 1 h' b')
    (k2 : ∀ L e t0 h' b', pBook (kdT u sz) (vlT u sz) = .inl L → lBook (kdT u sz) (nbT u sz) (nwT u sz) (q0S, (fun _ => 0), X) L = .inr (e, t0) → CI G cx tp bt s0 E1 B Z q x (n3 (plT u sz t0)) 0 bs h' t → (∀ a, a < h.1 → a ≠ cx → a ≠ tp → h'.2 a = h.2 a) → h.1 ≤ h'.1 → b.1 ≤ b'.1 + (7 * sz + 100 * (nT u sz + 1) + 900) → b.2 ≤ b'.2 + (1000 * sz + 2000 * (nT u sz + 1) + 20000) → Q (n3 e) h' b')
    (k3 : ∀ L S s0' E1' Z' h' b', pBook (kdT u sz) (vlT u sz) = .inl L → lBook (kdT u sz) (nbT u sz) (nwT u sz) (q0S, (fun _ => 0), X) L = .inl S → (∀ x', okP S.1 x' → (∀ j, 20 ≤ j → j ≤ 32 → x' j = S.2.2 j) → (∀ k l, (flO (kdT u sz) L)[k]? = some l → x' 33 k = n3 (kdT u sz l.1) ∧ prt x' (2 * k) = res (wkS S u sz) l.2.2.1 ∧ prt x' (2 * k + 1) = res (wkS S u sz) l.2.2.2.1) → CI G cx tp bt s0' E1' B Z' S.1 x' (-1) 0 bs h' (t0S (S.1 20) (S.1 21))) → ¬ Z' tp → ¬ Z' bt → ¬ Z' cx → h.1 ≤ E1' → (flO (kdT u sz) L).length = S.1 32 → wfH G h' → (∀ a, a < h.1 → a ≠ cx → a ≠ tp → h'.2 a = h.2 a) → h.1 ≤ h'.1 → b.1 ≤ b'.1 + (7 * sz + 100 * (nT u sz + 1) + 900) → b.2 ≤ b'.2 + (1000 * sz + 2000 * (nT u sz + 1) + 20000) → Q 0 h' b') : wp (fX1_teach G cx) h b Q := by
  obtain ⟨wf, -, -, -, c1, c2, c3, -⟩ := id C
  have H : ∃ R, ahB G h B R := by
    obtain ⟨-, -, -, -, -, -, -, n, ρ, K, ad, F, mc, em, cs, R, -, -, -, H, -⟩ := C
    exact ⟨R, H⟩
  obtain ⟨R, H⟩ := H
  have lN := nT_le (u := u) (sz := sz)
  have ltp := (wf.1 _ _ c1).2
  have lbt := (wf.1 _ _ c2).2
  have lcx := (wf.1 _ _ c3).2
  have tpc : tp ≠ cx := by
    rintro rfl
    rw [c1] at c3
    cases c3
  have btc : bt ≠ cx := by
    rintro rfl
    rw [c2] at c3
    cases c3
  have btt : bt ≠ tp := by
    rintro rfl
    rw [c2] at c1
    cases c1
  unfold fX1_teach
  rw [wp_bnd, wp_put c3 (Nat.le_of_ble_eq_true rfl) rfl rfl]
  show wp _ (sd_up h cx (.inr (0, [.ref tp, .int (-1), .ref s0, .ref (B 0)]))) b Q
  have w1 : wfH G (sd_up h cx (.inr (0, [.ref tp, .int (-1), .ref s0, .ref (B 0)]))) := wfH_up wf c3
  have x1 := up_at h cx (.inr (0, [.ref tp, .int (-1), .ref s0, .ref (B 0)]))
  have f1 : ∀ a, a ≠ cx → (sd_up h cx (.inr (0, [.ref tp, .int (-1), .ref s0, .ref (B 0)]))).2 a = h.2 a := fun a ha => up_ne ha
  have n1 : (sd_up h cx (.inr (0, [.ref tp, .int (-1), .ref s0, .ref (B 0)]))).1 = h.1 := rfl
  generalize sd_up h cx (.inr (0, [.ref tp, .int (-1), .ref s0, .ref (B 0)])) = h1 at w1 x1 f1 n1 ⊢
  -- the reader and the scanner
  rw [wp_bnd]
  refine wp_new (by omega) (by omega) ?_
  rw [wp_bnd]
  refine wp_new (by simp only; omega) (by simp only; omega) ?_
  have w3 : wfH G (sd_pu (sd_pu h1 (.inr (6, [.null, .int 0, .int 0, .int 0, .null, .null]))) (.inr (7, [.null, .null]))) := wfH_pu (wfH_pu w1)
  have r3 : (sd_pu (sd_pu h1 (.inr (6, [.null, .int 0, .int 0, .int 0, .null, .null]))) (.inr (7, [.null, .null]))).2 h1.1 = some (.inr (6, [.null, .int 0, .int 0, .int 0, .null, .null])) := (pu_ne (by show h1.1 ≠ h1.1 + 1; omega)).trans (pu_at _ _)
  have s3 : (sd_pu (sd_pu h1 (.inr (6, [.null, .int 0, .int 0, .int 0, .null, .null]))) (.inr (7, [.null, .null]))).2 (h1.1 + 1) = some (.inr (7, [.null, .null])) := pu_at (sd_pu h1 (.inr (6, [.null, .int 0, .int 0, .int 0, .null, .null]))) _
  have f3 : ∀ a, a < h1.1 → (sd_pu (sd_pu h1 (.inr (6, [.null, .int 0, .int 0, .int 0, .null, .null]))) (.inr (7, [.null, .null]))).2 a = h1.2 a := fun a ha => (pu_ne (by show a ≠ h1.1 + 1; omega)).trans (pu_ne (by omega))
  have n3' : (sd_pu (sd_pu h1 (.inr (6, [.null, .int 0, .int 0, .int 0, .null, .null]))) (.inr (7, [.null, .null]))).1 = h1.1 + 2 := rfl
  show wp _ (sd_pu (sd_pu h1 (.inr (6, [.null, .int 0, .int 0, .int 0, .null, .null]))) (.inr (7, [.null, .null]))) (b.1 - 1 - 1, b.2 - 6 - 2) Q
  generalize sd_pu (sd_pu h1 (.inr (6, [.null, .int 0, .int 0, .int 0, .null, .null]))) (.inr (7, [.null, .null])) = h3 at w3 r3 s3 f3 n3' ⊢
  have x3 : h3.2 cx = some (.inr (0, [.ref tp, .int (-1), .ref s0, .ref (B 0)])) := (f3 cx (by omega)).trans x1
  show wp (sd_bnd (sd_getR G 0 0 cx) fun v3 => sd_bnd (fX8_init G (h1.1 + 1) v3) fun _ => sd_bnd (sd_isC G 7 (h1.1 + 1)) fun _ => sd_bnd (fX8_all G (h1.1 + 1)) fun r4 => sd_bnd (fX7_init G h1.1 r4) fun _ => sd_bnd (sd_isC G 6 h1.1) fun _ => _) h3 _ Q
  rw [wp_bnd, wp_getR (sd_look_new x3) rfl, wp_bnd]
  unfold fX8_init
  simp only [wp_bnd]
  refine g_new w3 (by simp only; omega) (by simp only; omega) ?_
  have s4 : (sd_pu h3 (aL 0 (sd_ad G 0) 0)).2 (h1.1 + 1) = some (.inr (7, [.null, .null])) := (pu_ne (by omega)).trans s3
  rw [wp_put s4 (Nat.le_of_ble_eq_true rfl) rfl rfl, wp_put (up_at _ _ _) (Nat.le_of_ble_eq_true rfl) rfl rfl, up_up, wp_ret]
  show wp _ (sd_up (sd_pu h3 (aL 0 (sd_ad G 0) 0)) (h1.1 + 1) (.inr (7, [.ref tp, .ref h3.1]))) _ _
  have w5 : wfH G (sd_up (sd_pu h3 (aL 0 (sd_ad G 0) 0)) (h1.1 + 1) (.inr (7, [.ref tp, .ref h3.1]))) := wfH_up (wfH_pu w3) s4
  have s5 := up_at (sd_pu h3 (aL 0 (sd_ad G 0) 0)) (h1.1 + 1) (.inr (7, [.ref tp, .ref h3.1]))
  have l5 : (sd_up (sd_pu h3 (aL 0 (sd_ad G 0) 0)) (h1.1 + 1) (.inr (7, [.ref tp, .ref h3.1]))).2 h3.1 = some (aL 0 (sd_ad G 0) 0) := (up_ne (by omega)).trans (pu_at _ _)
  have f5 : ∀ a, a < h1.1 → (sd_up (sd_pu h3 (aL 0 (sd_ad G 0) 0)) (h1.1 + 1) (.inr (7, [.ref tp, .ref h3.1]))).2 a = h1.2 a := fun a ha => (up_ne (by omega)).trans ((pu_ne (by omega)).trans (f3 a ha))
  have r5 : (sd_up (sd_pu h3 (aL 0 (sd_ad G 0) 0)) (h1.1 + 1) (.inr (7, [.ref tp, .ref h3.1]))).2 h1.1 = some (.inr (6, [.null, .int 0, .int 0, .int 0, .null, .null])) := (up_ne (by omega)).trans ((pu_ne (by omega)).trans r3)
  have n5 : (sd_up (sd_pu h3 (aL 0 (sd_ad G 0) 0)) (h1.1 + 1) (.inr (7, [.ref tp, .ref h3.1]))).1 = h1.1 + 3 := by show h3.1 + 1 = _; omega
  generalize sd_up (sd_pu h3 (aL 0 (sd_ad G 0) 0)) (h1.1 + 1) (.inr (7, [.ref tp, .ref h3.1])) = h5 at w5 s5 l5 f5 r5 n5 ⊢
  rw [wp_isC (sd_look_new s5)]
  have T5 : tapH h5 tp bt sz u := ⟨bs, (f5 tp (by omega)).trans ((f1 tp tpc).trans c1), (f5 bt (by omega)).trans ((f1 bt btc).trans c2), hu, hs⟩
  unfold fX8_all
  refine c_scan (n0 := h1.1 + 2) (h0 := h5) (b0 := (b.1 - 1 - 1 - 1, b.2 - 6 - 2 - 3)) Cw.1 hW hSy (by simp only; omega) (by simp only; omega) (fun h6 b6 A6 B6 B6' => ?_) sd_FU 0 0 h5 (b.1 - 1 - 1 - 1, b.2 - 6 - 2 - 3) (by unfold sd_FU; omega) ⟨w5, T5, s5, ⟨0, sd_ad G 0, 0, (fun _ => none), (fun _ => 0), (fun _ => 0), ⟨l5, Or.inl ⟨rfl, rfl, rfl⟩, Nat.le_refl _, by omega⟩, Or.inl rfl, fun j hj => absurd hj (Nat.not_lt_zero _), fun i hi => absurd hi (Nat.not_lt_zero _)⟩, by omega, Nat.zero_le _, rfl, Nat.zero_le _, by omega, fun a _ => rfl, by simp only; omega, by simp only; omega⟩
  obtain ⟨w6, ⟨mc6, r6, cap6, f6', ta, tx, L6, hr6, g6, TB6⟩, n6, f6⟩ := A6
  simp only at B6 B6'
  -- the reader made
  have rd6 : h6.2 h1.1 = some (.inr (6, [.null, .int 0, .int 0, .int 0, .null, .null])) := (f6 h1.1 (by omega)).trans r5
  have ar6 : h6.2 r6 = some (aR cap6 f6') := by
    rcases L6.2.1 with ⟨-, q, -⟩ | ⟨q, -⟩
    · omega
    · exact q
  have hb6 : bud (b.1 - (7 * sz + 100 * (nT u sz + 1) + 900), b.2 - (1000 * sz + 2000 * (nT u sz + 1) + 20000)) b6 (100 * (nT u sz + 1) + 740 + 60) := ⟨ar_t1 b1 B6, ar_t2 b2 B6'⟩
  unfold fX7_init
  refine c_soK w6 hb6 (by omega) (fun h7 F E0 b7 w7 n7 S7 f7 B7 => ?_)
  obtain ⟨s71, s72, s73, s74, s75⟩ := S7
  have kp7 : ∀ z e, h6.2 z = some e → h7.2 z = some e := fun z e hz => (f7 z (w6.1 _ _ hz).2).trans hz
  have rd7 := kp7 _ _ rd6
  have B7b := B7.1
  have B7c := B7.2
  simp only at B7b B7c
  simp only [wp_bnd]
  rw [wp_put rd7 (Nat.le_of_ble_eq_true rfl) rfl rfl]
  refine wp_new (by omega) (by omega) ?_
  unfold fJ22_init fJ21_init
  rw [wp_bnd, wp_ret, wp_bnd, wp_put (pu_at _ _) (Nat.le_of_ble_eq_true rfl) rfl rfl, wp_ret, pu_up]
  have lrd7 := (w7.1 _ _ rd7).2
  have w8 : wfH G (sd_pu (sd_up h7 h1.1 (.inr (6, [.null, .int 0, .int 0, .int 0, .ref h6.1, .null]))) (.inr (43, [.null, .null, .null, .null, .int 0, .int 0, .int 0, .float 1061158912]))) := wfH_pu (wfH_up w7 rd7)
  have rd8 : (sd_pu (sd_up h7 h1.1 (.inr (6, [.null, .int 0, .int 0, .int 0, .ref h6.1, .null]))) (.inr (43, [.null, .null, .null, .null, .int 0, .int 0, .int 0, .float 1061158912]))).2 h1.1 = some (.inr (6, [.null, .int 0, .int 0, .int 0, .ref h6.1, .null])) := (pu_ne (by show h1.1 ≠ h7.1; omega)).trans (up_at _ _ _)
  have m8 : (sd_pu (sd_up h7 h1.1 (.inr (6, [.null, .int 0, .int 0, .int 0, .ref h6.1, .null]))) (.inr (43, [.null, .null, .null, .null, .int 0, .int 0, .int 0, .float 1061158912]))).2 h7.1 = some (aHM none 0 0 0 1061158912) := pu_at (sd_up h7 h1.1 (.inr (6, [.null, .int 0, .int 0, .int 0, .ref h6.1, .null]))) _
  have f8 : ∀ z, z < h7.1 → z ≠ h1.1 → (sd_pu (sd_up h7 h1.1 (.inr (6, [.null, .int 0, .int 0, .int 0, .ref h6.1, .null]))) (.inr (43, [.null, .null, .null, .null, .int 0, .int 0, .int 0, .float 1061158912]))).2 z = h7.2 z := fun z z1 z2 => (pu_ne (by show z ≠ h7.1; omega)).trans (up_ne z2)
  have n8 : (sd_pu (sd_up h7 h1.1 (.inr (6, [.null, .int 0, .int 0, .int 0, .ref h6.1, .null]))) (.inr (43, [.null, .null, .null, .null, .int 0, .int 0, .int 0, .float 1061158912]))).1 = h7.1 + 1 := rfl
  show wp (sd_put 6 5 (.object "java/util/HashMap") h1.1 (.ref h7.1)) (sd_pu (sd_up h7 h1.1 (.inr (6, [.null, .int 0, .int 0, .int 0, .ref h6.1, .null]))) (.inr (43, [.null, .null, .null, .null, .int 0, .int 0, .int 0, .float 1061158912]))) (b7.1 - 1, b7.2 - 8) _
  generalize sd_pu (sd_up h7 h1.1 (.inr (6, [.null, .int 0, .int 0, .int 0, .ref h6.1, .null]))) (.inr (43, [.null, .null, .null, .null, .int 0, .int 0, .int 0, .float 1061158912])) = h8 at w8 rd8 m8 f8 n8 ⊢
  rw [wp_put rd8 (Nat.le_of_ble_eq_true rfl) rfl rfl, wp_put (up_at _ _ _) (Nat.le_of_ble_eq_true rfl) rfl rfl, up_up, wp_ret]
  show wp (sd_isC G 6 h1.1) (sd_up h8 h1.1 (aRd h3.1 0 0 0 h6.1 h7.1)) (b7.1 - 1, b7.2 - 8) _
  have w9 : wfH G (sd_up h8 h1.1 (aRd h3.1 0 0 0 h6.1 h7.1)) := wfH_up w8 rd8
  have rd9 := up_at h8 h1.1 (aRd h3.1 0 0 0 h6.1 h7.1)
  have f9 : ∀ z, z < h7.1 → z ≠ h1.1 → (sd_up h8 h1.1 (aRd h3.1 0 0 0 h6.1 h7.1)).2 z = h7.2 z := fun z z1 z2 => (up_ne z2).trans (f8 z z1 z2)
  have m9 : (sd_up h8 h1.1 (aRd h3.1 0 0 0 h6.1 h7.1)).2 h7.1 = some (aHM none 0 0 0 1061158912) := (up_ne (by omega)).trans m8
  have n9 : (sd_up h8 h1.1 (aRd h3.1 0 0 0 h6.1 h7.1)).1 = h7.1 + 1 := n8
  generalize sd_up h8 h1.1 (aRd h3.1 0 0 0 h6.1 h7.1) = h9 at w9 rd9 f9 m9 n9 ⊢
  rw [wp_isC (sd_look_new rd9), wp_bx]
  have k69 : ∀ z e, h6.2 z = some e → z ≠ h1.1 → h9.2 z = some e := fun z e hz hne => (f9 z (by have := (w6.1 _ _ hz).2; omega) hne).trans (kp7 _ _ hz)
  have k79 : ∀ z e, h7.2 z = some e → z ≠ h1.1 → h9.2 z = some e := fun z e hz hne => (f9 z (w7.1 _ _ hz).2 hne).trans hz
  have nrd : ∀ z d' fs, h6.2 z = some (.inr (d', fs)) → d' ≠ 6 → z ≠ h1.1 := by
    rintro z d' fs q1 q2 rfl
    rw [rd6] at q1
    cases q1
    exact q2 rfl
  have nrA : ∀ z y, h6.2 z = some (.inl y) → z ≠ h1.1 := by
    rintro z y q1 rfl
    rw [rd6] at q1
    cases q1
  have fz9 : ∀ a, a < h1.1 → h9.2 a = h1.2 a := fun a ha => by rw [f9 a (by omega) (by omega), f7 a (by omega), f6 a (by omega), f5 a ha]
  have TK9 : TK G u sz h1.1 h3.1 ta tx h9 := by
    refine ⟨⟨mc6, r6, cap6, f6', k69 _ _ L6.1 (nrd _ _ _ L6.1 (by decide)), k69 _ _ ar6 (nrA _ _ ar6), L6.2.2.1, L6.2.2.2, g6⟩, fun i hi => ?_⟩
    obtain ⟨t1, t2, t3⟩ := TB6 i hi
    refine ⟨k69 _ _ t1 (nrd _ _ _ t1 (by decide)), by omega, fun c1 c2 => ?_⟩
    obtain ⟨⟨v, hs', hz', g, e1, e2, e3⟩, t4, t5⟩ := t3 c1 c2
    exact ⟨⟨v, hs', hz', g, k69 _ _ e1 (nrd _ _ _ e1 (by decide)), k69 _ _ e2 (nrA _ _ e2), e3⟩, by omega, t5⟩
  have M9 : HM (nmA u sz tx) h7.1 0 (fun _ => 0) (fun _ => 0) (fun _ => 0) (fun _ => []) h9 := ⟨⟨none, 0, 0, 1061158912, m9, Or.inl ⟨rfl, rfl, rfl⟩⟩, Nat.zero_le _, fun j hj => absurd hj (Nat.not_lt_zero _), fun i j _ hj => absurd hj (Nat.not_lt_zero _)⟩
  have tl9 : tlw h6.1 h3.1 h9 := by
    refine ⟨(w6.1 _ _ L6.1).2, fun mc r n q => ?_⟩
    rw [k69 _ _ L6.1 (nrd _ _ _ L6.1 (by decide))] at q
    rw [← aL_r (Option.some.inj q)]
    exact (w6.1 _ _ ar6).2
  have mo9 : mow h1.1 h7.1 0 (fun _ => 0) h9 := by
    refine ⟨by omega, fun j hj => absurd hj (Nat.not_lt_zero _), fun t' k' mc thr fl q => ?_⟩
    rw [m9] at q
    cases q
  have W9 : W1 G u sz h1.1 h3.1 ta tx h1.1 0 h6.1 h7.1 0 (fun _ => 0) (fun _ => 0) (fun _ => 0) (fun _ => []) h6.1 E0 F 0 h9 := by
    refine ⟨w9, ⟨TK9, rd9, M9⟩, tl9, mo9, ⟨6, 4, k79 _ _ s71 (by omega)⟩, (fun _ => sd_ad G 0), (fun _ => 0), ⟨fun k k1 k2 => ⟨0, 0, (fun _ => none), ⟨k79 _ _ (s73 k (by omega) k2).1 (by have := (s73 k (by omega) k2).2; omega), Or.inl ⟨rfl, rfl, rfl⟩, Nat.le_refl _, by omega⟩, (s73 k (by omega) k2).2, Or.inl rfl, fun j hj => absurd hj (Nat.not_lt_zero _)⟩, fun k k' k1 k2 k3 => ⟨s74 k k' (by omega) k2 k3, fun _ => rfl⟩⟩, fun k _ _ => Nat.zero_le _⟩
  have hb9 : bud (b.1 - (7 * sz + 100 * (nT u sz + 1) + 900), b.2 - (1000 * sz + 2000 * (nT u sz + 1) + 20000)) (b7.1 - 1, b7.2 - 8) (100 * (nT u sz + 1) + 740) := bud_new (c := 1) B7 ar_t3 (by decide)
  -- how it ends: a fault
  have old : ∀ h' : sd_H, fz h1.1 h9 h' → ∀ a, a < h.1 → h'.2 a = h1.2 a := fun h' f a ha => (f.2 a (by omega)).trans (fz9 a (by omega))
  have flt : ∀ (er : Int32) (t0 : Nat) (h' : sd_H) (q0 : Nat) (b' : Nat × Nat), h'.2 q0 = some (aFt er (plT u sz t0)) → wfH G h' → fz h1.1 h9 h' → (∀ h2, CI G cx tp bt s0 E1 B Z q x (n3 (plT u sz t0)) 0 bs h2 t → (∀ a, a < h.1 → a ≠ cx → a ≠ tp → h2.2 a = h.2 a) → h.1 ≤ h2.1 → Q er h2 b') → wp (sd_bnd (sd_own q0) fun k29 => if k29 = 9 then (sd_bnd (sd_getI G 9 0 q0) fun v6 => sd_bnd (sd_getI G 9 1 q0) fun v7 => sd_bnd (sd_put 0 1 .int cx (.int v7)) fun _ => sd_bnd (sd_getR G 0 0 cx) fun v8 => sd_bnd (sd_put 1 1 .int v8 (.int 0)) fun _ => sd_ret v6) else sd_fail) h' b' Q := by
    intro er t0 h' q0 b' e1 w' f' kk
    have o := old h' f'
    have x' : h'.2 cx = some (.inr (0, [.ref tp, .int (-1), .ref s0, .ref (B 0)])) := (o cx lcx).trans x1
    have t' : h'.2 tp = some (.inr (1, [.ref bt, .int (n3 sz)])) := (o tp ltp).trans ((f1 tp tpc).trans c1)
    have bt' : h'.2 bt = some (.inl (2, 2000, .inl bs)) := (o bt lbt).trans ((f1 bt btc).trans c2)
    have lq := sd_look_new (G := G) e1
    rw [wp_bnd, wp_own e1, wp_ite, if_pos rfl, wp_bnd, wp_getI lq rfl, wp_bnd, wp_getI lq rfl, wp_bnd, wp_put x' (Nat.le_of_ble_eq_true rfl) rfl rfl, wp_bnd]
    have x2 := up_at h' cx (.inr (0, [.ref tp, .int (n3 (plT u sz t0)), .ref s0, .ref (B 0)]))
    have t2 : (sd_up h' cx (.inr (0, [.ref tp, .int (n3 (plT u sz t0)), .ref s0, .ref (B 0)]))).2 tp = some (.inr (1, [.ref bt, .int (n3 sz)])) := (up_ne tpc).trans t'
    show wp (sd_getR G 0 0 cx) (sd_up h' cx (.inr (0, [.ref tp, .int (n3 (plT u sz t0)), .ref s0, .ref (B 0)]))) b' _
    rw [wp_getR (sd_look_new x2) rfl, wp_bnd, wp_put t2 (Nat.le_of_ble_eq_true rfl) rfl rfl, wp_ret]
    have fin : ∀ a, a < h.1 → a ≠ cx → a ≠ tp → (sd_up (sd_up h' cx (.inr (0, [.ref tp, .int (n3 (plT u sz t0)), .ref s0, .ref (B 0)]))) tp (.inr (1, [.ref bt, .int 0]))).2 a = h.2 a := fun a a1 a2 a3 => by
      rw [up_ne a3, up_ne a2, o a a1, f1 a a2]
    have hl : h.1 ≤ h'.1 := by
      have := f'.1
      omega
    refine kk _ (CI_own C (wfH_up (wfH_up w' x') t2) hl zt zb zc (fun a a1 a2 a3 a4 _ => fin a a1 a4 a2) (up_at _ _ _) ((up_ne btt).trans ((up_ne btc).trans bt')) ((up_ne (Ne.symm tpc)).trans x2)) fin hl
  refine c_read (X := X) Cw Kc I (Nat.le_refl _) (by omega) (by omega) (by omega) W9 hX hb9 (fun t0 h' q0 b' p1 p2 p3 p4 p5 => ?_) (fun L e t0 h' q0 b' p1 p2 p3 p4 p5 p6 => ?_) (fun L S TZ so2 E2 F2 n4 ad mcs j h' b' p1 p2 p3 p4 p5 p6 p7 p8 p9 => ?_)
  · exact flt 1 t0 h' q0 b' p2 p3 p4 (fun h2 g1 g2 g3 => k1 t0 h2 b' p1 g1 g2 g3 (ar_t4 p5.1) (ar_t5 p5.2))
  · exact flt (n3 e) t0 h' q0 b' p3 p4 p5 (fun h2 g1 g2 g3 => k2 L e t0 h2 b' p1 p2 g1 g2 g3 (ar_t4 p6.1) (ar_t5 p6.2))
  · have o := old h' p8
    have w' : wfH G h' := by
      obtain ⟨ky, nd, iv, kt, Wm⟩ := p3
      exact Wm.1
    have osl : (flO (kdT u sz) L).length = S.1 32 := by
      obtain ⟨ky, nd, iv, kt, wf, n4l, rc, mo, hiv, nmr, ⟨rr, sz', A, s3, s4, s5, hrr⟩, T, hso, hE0, St, T4, X0, osl, -⟩ := p3
      exact osl
    have x' : h'.2 cx = some (.inr (0, [.ref tp, .int (-1), .ref s0, .ref (B 0)])) := (o cx lcx).trans x1
    have t' : h'.2 tp = some (.inr (1, [.ref bt, .int (n3 sz)])) := (o tp ltp).trans ((f1 tp tpc).trans c1)
    have bt' : h'.2 bt = some (.inl (2, 2000, .inl bs)) := (o bt lbt).trans ((f1 bt btc).trans c2)
    show wp (sd_bnd (sd_put 0 2 (.object "SofaDig$Sofa") cx (.ref so2)) _) h' b' Q
    rw [wp_bnd, wp_put x' (Nat.le_of_ble_eq_true rfl) rfl rfl, wp_bnd]
    have x2 := up_at h' cx (.inr (0, [.ref tp, .int (-1), .ref so2, .ref (B 0)]))
    have t2 : (sd_up h' cx (.inr (0, [.ref tp, .int (-1), .ref so2, .ref (B 0)]))).2 tp = some (.inr (1, [.ref bt, .int (n3 sz)])) := (up_ne tpc).trans t'
    show wp (sd_getR G 0 0 cx) (sd_up h' cx (.inr (0, [.ref tp, .int (-1), .ref so2, .ref (B 0)]))) b' _
    rw [wp_getR (sd_look_new x2) rfl, wp_bnd, wp_put t2 (Nat.le_of_ble_eq_true rfl) rfl rfl, wp_ret]
    show Q 0 (sd_up (sd_up h' cx (.inr (0, [.ref tp, .int (-1), .ref so2, .ref (B 0)]))) tp (.inr (1, [.ref bt, .int (n3 0)]))) b'
    have fin : ∀ a, a < h.1 → a ≠ cx → a ≠ tp → (sd_up (sd_up h' cx (.inr (0, [.ref tp, .int (-1), .ref so2, .ref (B 0)]))) tp (.inr (1, [.ref bt, .int (n3 0)]))).2 a = h.2 a := fun a a1 a2 a3 => by
      rw [up_ne a3, up_ne a2, o a a1, f1 a a2]
    have w2 : wfH G (sd_up (sd_up h' cx (.inr (0, [.ref tp, .int (-1), .ref so2, .ref (B 0)]))) tp (.inr (1, [.ref bt, .int (n3 0)]))) := wfH_up (wfH_up w' x') t2
    have hl : h.1 ≤ h'.1 := by
      have := p8.1
      omega
    have kp : ∀ z e, h'.2 z = some e → (∀ fs, e ≠ .inr (0, fs)) → (∀ fs, e ≠ .inr (1, fs)) → (sd_up (sd_up h' cx (.inr (0, [.ref tp, .int (-1), .ref so2, .ref (B 0)]))) tp (.inr (1, [.ref bt, .int (n3 0)]))).2 z = some e := by
      intro z e hz g1 g2
      rw [up_ne, up_ne]
      · exact hz
      · rintro rfl
        rw [x'] at hz
        cases hz
        exact g1 _ rfl
      · rintro rfl
        rw [t'] at hz
        cases hz
        exact g2 _ rfl
    have key := fun x' hP hx hor => CI_new (w := 1) (cx := cx) (tp := tp) (bt := bt) (B := B) (R := R) (x' := x') (ea := -1) (bs := bs) (sz' := 0) (h0 := h) (by decide) p3 p4 p5 (by omega) (by omega) wf (by omega) H (fun a a1 a2 => (o a (by omega)).trans (f1 a a2)) ⟨_, c3⟩ kp w2 (Nat.le_refl _) (by omega) (by omega) (by omega) (up_at _ _ _) ((up_ne btt).trans ((up_ne btc).trans bt')) ((up_ne (Ne.symm tpc)).trans x2) hP hx hor
    refine k3 L S so2 E2 (zN G h1.1 h1.1 (nmA u sz tx) TZ (sd_up (sd_up h' cx (.inr (0, [.ref tp, .int (-1), .ref so2, .ref (B 0)]))) tp (.inr (1, [.ref bt, .int (n3 0)])))) _ b' p1 p2 (fun x' g1 g2 g3 => (key x' g1 g2 g3).1) ?_ ?_ ?_ (by omega) osl w2 fin hl (ar_t4 p9.1) (ar_t5 p9.2)
    · intro hz
      obtain ⟨ln, g, g1, -⟩ := zN_old p3 w2 hz (by omega) (up_at _ _ _)
      cases g1
    · intro hz
      obtain ⟨ln, g, g1, g2⟩ := zN_old p3 w2 hz (by omega) ((up_ne btt).trans ((up_ne btc).trans bt'))
      cases g1
      omega
    · intro hz
      obtain ⟨ln, g, g1, -⟩ := zN_old p3 w2 hz (by omega) ((up_ne (Ne.symm tpc)).trans x2)
      cases g1
end CTE
