/-! THE PLAIN LAW: the component begins, and the law -/
section LWS
variable {G : sd_G} {h : sd_H} {b : Nat × Nat} {cx : Nat}
theorem c_init {Q : Unit → sd_H → Nat × Nat → Prop} (wf : wfH G h) (ho : h.2 cx = some (.inr (0, [.null, .int 0, .null, .null]))) (b1 : 1000 ≤ b.1) (b2 : 30000 ≤ b.2)
    (kk : ∀ tp bt s0 E1 B h' b', CI G cx tp bt s0 E1 B (fun _ => False) q0S xI (-1) 0 (fun _ => 0) h' (t0S 4 6) → h.1 ≤ h'.1 → (∀ z, z < h.1 → z ≠ cx → h'.2 z = h.2 z) → b.1 ≤ b'.1 + 1000 → b.2 ≤ b'.2 + 30000 → Q () h' b') : wp (fX1_init G cx) h b Q := by
  obtain ⟨β1, e1⟩ := Nat.exists_eq_add_of_le b1
  obtain ⟨β2, e2⟩ := Nat.exists_eq_add_of_le b2
  have lcx := (wf.1 _ _ ho).2
  have z0 := wfH_z0 wf
  unfold fX1_init
  rw [wp_bnd]
  refine wp_new (by omega) (by omega) ?_
  have w1 : wfH G (sd_pu h (.inr (1, [.null, .int 0]))) := wfH_pu wf
  have t1 := pu_at h (.inr (1, [.null, .int 0]))
  have f1 : ∀ z, z < h.1 → (sd_pu h (.inr (1, [.null, .int 0]))).2 z = h.2 z := fun z hz => pu_ne (by omega)
  have n1 : (sd_pu h (.inr (1, [.null, .int 0]))).1 = h.1 + 1 := rfl
  generalize sd_pu h (.inr (1, [.null, .int 0])) = h1 at w1 t1 f1 n1 ⊢
  rw [wp_bnd]
  unfold fX2_init
  rw [wp_bnd]
  refine wp_newI (t := 2) (n := 2000) (by omega) (by simp only; omega) (by simp only; omega) ?_
  have w2 : wfH G (sd_pu h1 (.inl (2, 2000, .inl fun _ => 0))) := wfH_pu w1
  have t2 : (sd_pu h1 (.inl (2, 2000, .inl fun _ => 0))).2 h.1 = some (.inr (1, [.null, .int 0])) := (pu_ne (by omega)).trans t1
  have a2 := pu_at h1 (.inl (2, 2000, .inl fun _ => 0))
  have f2 : ∀ z, z < h.1 → (sd_pu h1 (.inl (2, 2000, .inl fun _ => 0))).2 z = h.2 z := fun z hz => (pu_ne (by omega)).trans (f1 z hz)
  have n2 : (sd_pu h1 (.inl (2, 2000, .inl fun _ => 0))).1 = h1.1 + 1 := rfl
  generalize sd_pu h1 (.inl (2, 2000, .inl fun _ => 0)) = h2 at w2 t2 a2 f2 n2 ⊢
  rw [wp_bnd, wp_put t2 (Nat.le_of_ble_eq_true rfl) rfl rfl, wp_ret]
  show wp _ (sd_up h2 h.1 (.inr (1, [.ref h1.1, .int 0]))) _ Q
  have w3 : wfH G (sd_up h2 h.1 (.inr (1, [.ref h1.1, .int 0]))) := wfH_up w2 t2
  have t3 := up_at h2 h.1 (.inr (1, [.ref h1.1, .int 0]))
  have f3 : ∀ z, z ≠ h.1 → (sd_up h2 h.1 (.inr (1, [.ref h1.1, .int 0]))).2 z = h2.2 z := fun z hz => up_ne hz
  have n3' : (sd_up h2 h.1 (.inr (1, [.ref h1.1, .int 0]))).1 = h2.1 := rfl
  generalize sd_up h2 h.1 (.inr (1, [.ref h1.1, .int 0])) = h3 at w3 t3 f3 n3' ⊢
  have x3 : h3.2 cx = some (.inr (0, [.null, .int 0, .null, .null])) := (f3 cx (by omega)).trans ((f2 cx lcx).trans ho)
  rw [wp_bnd, wp_put x3 (Nat.le_of_ble_eq_true rfl) rfl rfl]
  show wp _ (sd_up h3 cx (.inr (0, [.ref h.1, .int 0, .null, .null]))) _ Q
  have w4 : wfH G (sd_up h3 cx (.inr (0, [.ref h.1, .int 0, .null, .null]))) := wfH_up w3 x3
  have x4 := up_at h3 cx (.inr (0, [.ref h.1, .int 0, .null, .null]))
  have f4 : ∀ z, z ≠ cx → (sd_up h3 cx (.inr (0, [.ref h.1, .int 0, .null, .null]))).2 z = h3.2 z := fun z hz => up_ne hz
  have n4 : (sd_up h3 cx (.inr (0, [.ref h.1, .int 0, .null, .null]))).1 = h3.1 := rfl
  generalize sd_up h3 cx (.inr (0, [.ref h.1, .int 0, .null, .null])) = h4 at w4 x4 f4 n4 ⊢
  rw [wp_bnd, wp_put x4 (Nat.le_of_ble_eq_true rfl) rfl rfl]
  show wp _ (sd_up h4 cx (.inr (0, [.ref h.1, .int (-1), .null, .null]))) _ Q
  have w5 : wfH G (sd_up h4 cx (.inr (0, [.ref h.1, .int (-1), .null, .null]))) := wfH_up w4 x4
  have x5 := up_at h4 cx (.inr (0, [.ref h.1, .int (-1), .null, .null]))
  have f5 : ∀ z, z ≠ cx → (sd_up h4 cx (.inr (0, [.ref h.1, .int (-1), .null, .null]))).2 z = h4.2 z := fun z hz => up_ne hz
  have n5 : (sd_up h4 cx (.inr (0, [.ref h.1, .int (-1), .null, .null]))).1 = h4.1 := rfl
  generalize sd_up h4 cx (.inr (0, [.ref h.1, .int (-1), .null, .null])) = h5 at w5 x5 f5 n5 ⊢
  have B5 : bud (β1, β2) (b.1 - 1 - 1, b.2 - 2 - 2000) 800 := ⟨by simp only; omega, by simp only; omega⟩
  refine c_soK w5 B5 (by omega) (fun h6 F E0 b6 w6 n6 N6 f6 B6 => ?_)
  obtain ⟨o1, o2, o3, o4, o5⟩ := N6
  rw [wp_bnd, wp_isC (sd_look_new o1), wp_bnd]
  refine c_lay (F := F) (E0 := E0) (x := xI) (ns := 4) (st := 6) (r20 := sd_ad G 0) (sz0 := 0) (cap := 0) (mc := 0) (f := fun _ => none) (by omega) (by omega) (by omega) (by omega) w6 o1 ⟨(o3 2 (by omega) (by omega)).1, Or.inl ⟨rfl, rfl, rfl⟩, Nat.le_refl _, by omega⟩ (fun s k hs hk => ⟨?_, rfl⟩) B6 (by omega) (fun h7 b7 ad mcs w7 n7 St g5 g6 g7 g8 g9 g10 B7 => ?_)
  · show (if 10 * s + k < 80 then (-1 : Int32) else 0) = -1
    rw [if_pos (by omega)]
  · have z6 := wfH_z0 w6
    have zl : sd_ad G 0 < h5.1 := by
      have := w5.2.1
      omega
    have F7 : ∀ z e, h6.2 z = some e → z ≠ F 2 → h7.2 z = some e := by
      intro z e hz hne
      rw [g10 z (w6.1 _ _ hz).2 hne (fun q => by rw [q, z6.1] at hz; cases hz)]
      exact hz
    have F2n : F 2 ≠ cx := by
      intro q
      have := (o3 2 (by omega) (by omega)).2
      omega
    have x7 : h7.2 cx = some (.inr (0, [.ref h.1, .int (-1), .null, .null])) := F7 _ _ ((f6 cx (by omega)).trans x5) (Ne.symm F2n)
    rw [wp_bnd, wp_put x7 (Nat.le_of_ble_eq_true rfl) rfl rfl]
    show wp _ (sd_up h7 cx (.inr (0, [.ref h.1, .int (-1), .ref h5.1, .null]))) _ Q
    have w8 : wfH G (sd_up h7 cx (.inr (0, [.ref h.1, .int (-1), .ref h5.1, .null]))) := wfH_up w7 x7
    have x8 := up_at h7 cx (.inr (0, [.ref h.1, .int (-1), .ref h5.1, .null]))
    have f8 : ∀ z, z ≠ cx → (sd_up h7 cx (.inr (0, [.ref h.1, .int (-1), .ref h5.1, .null]))).2 z = h7.2 z := fun z hz => up_ne hz
    have n8 : (sd_up h7 cx (.inr (0, [.ref h.1, .int (-1), .ref h5.1, .null]))).1 = h7.1 := rfl
    generalize sd_up h7 cx (.inr (0, [.ref h.1, .int (-1), .ref h5.1, .null])) = h8 at w8 x8 f8 n8 ⊢
    refine c_soK w8 B7 (by omega) (fun h9 F' E4 b9 w9 n9 N9 f9 B9 => ?_)
    have x9 : h9.2 cx = some (.inr (0, [.ref h.1, .int (-1), .ref h5.1, .null])) := (f9 cx (by omega)).trans x8
    rw [wp_bnd, wp_put x9 (Nat.le_of_ble_eq_true rfl) rfl rfl, wp_ret]
    show Q () (sd_up h9 cx (.inr (0, [.ref h.1, .int (-1), .ref h5.1, .ref h8.1]))) b9
    have wA : wfH G (sd_up h9 cx (.inr (0, [.ref h.1, .int (-1), .ref h5.1, .ref h8.1]))) := wfH_up w9 x9
    have fA : ∀ z, z ≠ cx → (sd_up h9 cx (.inr (0, [.ref h.1, .int (-1), .ref h5.1, .ref h8.1]))).2 z = h9.2 z := fun z hz => up_ne hz
    have xA := up_at h9 cx (.inr (0, [.ref h.1, .int (-1), .ref h5.1, .ref h8.1]))
    have nA : (sd_up h9 cx (.inr (0, [.ref h.1, .int (-1), .ref h5.1, .ref h8.1]))).1 = h9.1 := rfl
    generalize sd_up h9 cx (.inr (0, [.ref h.1, .int (-1), .ref h5.1, .ref h8.1])) = hA at wA fA xA nA ⊢
    have kp : ∀ z e, h7.2 z = some e → (∀ fs, e ≠ .inr (0, fs)) → hA.2 z = some e := by
      intro z e hz hne
      have zc : z ≠ cx := by
        rintro rfl
        rw [x7] at hz
        cases hz
        exact hne _ rfl
      have lz := (w7.1 _ _ hz).2
      rw [fA z zc, f9 z (by omega), f8 z zc]
      exact hz
    have old : ∀ z, z < h5.1 → z ≠ cx → hA.2 z = h5.2 z := by
      intro z hz hne
      rw [fA z hne, f9 z (by omega), f8 z hne]
      by_cases q : z = sd_ad G 0
      · rw [q, (wfH_z0 w7).1, (wfH_z0 w5).1]
      · rw [g10 z (by omega) (by have := (o3 2 (by omega) (by omega)).2; omega) q, f6 z hz]
    have NA : nSo G h8.1 F' E4 hA := by
      obtain ⟨m1, m2, m3, m4, m5⟩ := N9
      exact ⟨(fA _ (by omega)).trans m1, (fA _ (by omega)).trans m2, fun k k1 k2 => ⟨(fA _ (by have := (m3 k k1 k2).2; omega)).trans (m3 k k1 k2).1, (m3 k k1 k2).2⟩, m4, m5⟩
    have so7 : h7.2 h5.1 = some (aSo 6 4 F E0) := F7 _ _ o1 (fun q => by
      have := (o3 2 (by omega) (by omega)).1
      rw [← q, o1] at this
      cases this)
    have E7 : h7.2 E0 = some (.inl (0, 24, .inl (fun _ => 0))) := F7 _ _ o2 (fun q => by
      have := (o3 2 (by omega) (by omega)).1
      rw [← q, o2] at this
      cases this)
    have C := CI_first (cx := cx) (tp := h.1) (bt := h1.1) (bs := fun _ => 0) wA w7 kp so7 E7 (fun k k1 k2 => F7 _ _ (o3 k (by omega) k2).1 (fun q => o4 2 k (by omega) (by omega) k2 q.symm)) (fun k k1 k2 s hs q => by
      have l1 := (w6.1 _ _ (o3 k k1 k2).1).2
      have l2 := (g6 s hs).1
      omega) St (fun s s' c1 c2 => ⟨(g8 s s' c1 c2).1, (g8 s s' c1 c2).2.1⟩) (fun s s' k k' hs hs' hk hk' q => by
      rcases Nat.lt_trichotomy s s' with c | c | c
      · have := (g8 s s' c hs').2.2 k k' hk hk'
        omega
      · subst c
        refine ⟨rfl, ?_⟩
        rcases Nat.lt_trichotomy k k' with c | c | c
        · have := g9 s k k' hs c hk'
          omega
        · exact c
        · have := g9 s k' k hs c hk
          omega
      · have := (g8 s' s c hs).2.2 k' k hk' hk
        omega) NA (by omega) ((old h.1 (by omega) (by omega)).trans ((f5 _ (by omega)).trans ((f4 _ (by omega)).trans t3))) ((old h1.1 (by omega) (by omega)).trans ((f5 _ (by omega)).trans ((f4 _ (by omega)).trans ((f3 _ (by omega)).trans a2)))) xA
    refine kk _ _ _ _ _ _ _ C (by omega) (fun z z1 z2 => ?_) ?_ ?_
    · rw [old z (by omega) z2, f5 z z2, f4 z z2, f3 z (by omega), f2 z z1]
    · have := B9.1
      have := e1
      simp only at *
      omega
    · have := B9.2
      have := e2
      simp only at *
      omega
end LWS
