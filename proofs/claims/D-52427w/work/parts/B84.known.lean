/-! THE PLAIN LAW: a known name -/
theorem look_k {G : sd_G} {h : sd_H} {a : Nat} {e : sd_E} (w : wfH G h) (he : sd_c G a = some e) : sd_look G h a = some e := by
  unfold sd_look
  cases hq : h.2 a with
  | none => exact he
  | some e' =>
    have q1 := (w.1 _ _ hq).1
    have q2 := w.2.2.1 _ _ he
    omega
theorem sfr.trans {G : sd_G} {N : Nat → Prop} {h1 h2 h3 : sd_H} (p : sfr G N h1 h2) (q : sfr G N h2 h3) : sfr G N h1 h3 := by
  obtain ⟨p1, p2, p3, p4, p5⟩ := p
  obtain ⟨q1, q2, q3, q4, q5⟩ := q
  refine ⟨q1.trans p1, fun a ha => (q2 a ha).trans (p2 a ha), fun x l H => q3 x l (p3 x l H), fun w => q4 (p4 w), fun a ha he => ?_⟩
  obtain ⟨v, hs, hz, hs', hz', e1, e2⟩ := p5 a ha he
  obtain ⟨v2, hs2, hz2, hs3, hz3, e3, e4⟩ := q5 a ha ⟨_, e2⟩
  rw [e2] at e3
  cases e3
  exact ⟨v, hs, hz, hs3, hz3, e1, e4⟩
theorem sfr_kp {G : sd_G} {N : Nat → Prop} {h h' : sd_H} (s : sfr G N h h') {a : Nat} {e : sd_E} (ha : h.2 a = some e) (hne : ∀ v hs hz, e ≠ aS v hs hz) : h'.2 a = some e := by
  by_cases c : N a
  · obtain ⟨v, hs, hz, -, -, q, -⟩ := s.2.2.2.2 a c ⟨e, ha⟩
    rw [ha] at q
    cases q
    exact absurd rfl (hne v hs hz)
  · rw [s.2.1 a c]
    exact ha
/-- strings of names -/
def nmA (u : Nat → Nat) (sz : Nat) (tx : Nat → Nat) (a : Nat) : Prop := ∃ j, j ≤ nT u sz ∧ kdT u sz j = 30 ∧ a = tx j
section KNO
variable {G : sd_G} {h : sd_H} {b : Nat × Nat} {u : Nat → Nat} {sz n0 tl i d so m rd k : Nat} {ta tx : Nat → Nat} {w : Int32} {ky nd iv : Nat → Nat} {kt : Nat → List Nat}
theorem nmA_s (T : TK G u sz n0 tl ta tx h) : ∀ a e, nmA u sz tx a → h.2 a = some e → ∃ v hs hz, e = aS v hs hz := by
  rintro a e ⟨j, h1, h2, rfl⟩ he
  obtain ⟨⟨v, hs, hz, g, e1, -⟩, -⟩ := (T.2 j (by omega)).2.2 (by omega) (by omega)
  rw [e1] at he
  cases he
  exact ⟨v, hs, hz, rfl⟩
theorem TK_sfr {h' : sd_H} {N : Nat → Prop} (T : TK G u sz n0 tl ta tx h) (s : sfr G N h h') : TK G u sz n0 tl ta tx h' := by
  obtain ⟨⟨mc, r, cap, f, e1, e2, e3⟩, B⟩ := T
  refine ⟨⟨mc, r, cap, f, sfr_kp s e1 (fun _ _ _ q => by cases q), sfr_kp s e2 (fun _ _ _ q => by cases q), e3⟩, fun j hj => ?_⟩
  obtain ⟨h1, h2, h3⟩ := B j hj
  refine ⟨sfr_kp s h1 (fun _ _ _ q => by cases q), h2, fun c1 c2 => ?_⟩
  obtain ⟨h4, h5⟩ := h3 c1 c2
  exact ⟨s.2.2.1 _ _ h4, h5⟩
theorem HM_up {N : Nat → Prop} {e : sd_E} (hr : h.2 rd = some (aRd tl i d w so m)) (M : HM N m k ky nd iv kt h) : HM N m k ky nd iv kt (sd_up h rd e) := by
  have kp : ∀ a e', h.2 a = some e' → (∀ tl i d w so m, e' ≠ aRd tl i d w so m) → (sd_up h rd e).2 a = some e' := by
    intro a e' ha hne
    rw [up_ne]
    · exact ha
    · rintro rfl
      rw [hr] at ha
      cases ha
      exact hne _ _ _ _ _ _ rfl
  obtain ⟨⟨tb, mc, thr, fl, m1, m2⟩, m3, m4, m5⟩ := M
  refine ⟨⟨tb, mc, thr, fl, kp _ _ m1 (fun _ _ _ _ _ _ q => by cases q), ?_⟩, m3, fun j hj => ?_, m5⟩
  · rcases m2 with m2 | ⟨t, f, q1, q2, q3, q4⟩
    · exact Or.inl m2
    · refine Or.inr ⟨t, f, q1, q2, kp _ _ q3 (fun _ _ _ _ _ _ q => by cases q), fun i' hi' => ?_⟩
      exact chn_keep (fun a z y v nx ha => kp _ _ ha (fun _ _ _ _ _ _ q => by cases q)) _ _ (q4 i' hi')
  · obtain ⟨⟨v, hs, hz, g, e1, e2, e3⟩, h4⟩ := m4 j hj
    exact ⟨⟨v, hs, hz, g, kp _ _ e1 (fun _ _ _ _ _ _ q => by cases q), kp _ _ e2 (fun _ _ _ _ _ _ q => by cases q), e3⟩, h4⟩
theorem c_known {Q : Int32 ⊕ Nat → sd_H → Nat × Nat → Prop} (hS : srD G) (wf : wfH G h) (T : TK G u sz n0 tl ta tx h) (hr : h.2 rd = some (aRd tl i d w so m)) (M : HM (nmA u sz tx) m k ky nd iv kt h) (hiv : ∀ j, j < k → sd_c G (iv j) = some (.inr (47, [.int (n3 j)]))) (hi : i ≤ nT u sz) (b1 : 1 ≤ b.1) (b2 : 8 ≤ b.2)
    (k0 : kdT u sz i ≠ 30 → Q (.inr h.1) (sd_pu h (aFt 1 (plT u sz i))) (b.1 - 1, b.2 - 8))
    (k1 : ∀ h', kdT u sz i = 30 → w = 0 → sfr G (nmA u sz tx) (sd_up h rd (aRd tl (i + 1) d w so m)) h' → Q (.inl 0) h' b)
    (k2 : ∀ h' j, kdT u sz i = 30 → w ≠ 0 → fdK kt (txT u sz i) (List.range k) = some j → sfr G (nmA u sz tx) (sd_up h rd (aRd tl (i + 1) d w so m)) h' → Q (.inl (n3 j)) h' b)
    (k3 : ∀ h', kdT u sz i = 30 → w ≠ 0 → fdK kt (txT u sz i) (List.range k) = none → sfr G (nmA u sz tx) (sd_up h rd (aRd tl (i + 1) d w so m)) h' → Q (.inr h'.1) (sd_pu h' (aFt 3 (plT u sz i))) (b.1 - 1, b.2 - 8)) : wp (fX7_known G rd m) h b Q := by
  unfold fX7_known
  rw [wp_bnd, (rd_rd hr).2.2.2.2.2.2, wp_bx]
  refine c_takeS (k := 30) wf T hr hi (srt_eq hS _).2.2.2.1 b1 b2 (fun e => ?_) (fun e => ?_)
  · have k1 := fun h' => k1 h' e
    have k2 := fun h' j => k2 h' j e
    have k3 := fun h' => k3 h' e
    have w1 : wfH G (sd_up h rd (aRd tl (i + 1) d w so m)) := wfH_up wf hr
    have T1 : TK G u sz n0 tl ta tx (sd_up h rd (aRd tl (i + 1) d w so m)) := TK_up hr T
    have M1 : HM (nmA u sz tx) m k ky nd iv kt (sd_up h rd (aRd tl (i + 1) d w so m)) := HM_up hr M
    have r1 := up_at h rd (aRd tl (i + 1) d w so m)
    have hx : nmA u sz tx (tx i) := ⟨i, hi, e, rfl⟩
    show wp (sd_bnd (sd_getR G 8 1 (ta i)) _) (sd_up h rd (aRd tl (i + 1) d w so m)) b Q
    generalize sd_up h rd (aRd tl (i + 1) d w so m) = h1 at k1 k2 k3 w1 T1 M1 r1 ⊢
    have H1 := ((T1.2 i (by omega)).2.2 (by omega) (by omega)).1
    rw [wp_bnd, (tk_rd T1 hi).2.1, wp_bnd, hm_isC M1, wp_bnd]
    refine c_has M1 H1 hx (nmA_s T1) (fun h2 s2 => ?_)
    have w2 := s2.2.2.2.1 w1
    have T2 := TK_sfr T1 s2
    have r2 := sfr_kp s2 r1 (fun _ _ _ q => by cases q)
    have M2 := HM_sfr M1 s2
    have H2 := s2.2.2.1 _ _ H1
    rw [wp_bnd, (rd_rd r2).2.2.2.2.2.2, wp_bx]
    refine c_check w2 T2 r2 hi b1 b2 (fun q => ?_) (fun q1 q2 => ?_)
    · show wp (sd_bnd (sd_getI G 6 3 rd) _) h2 b Q
      rw [wp_bnd, (rd_rd r2).2.2.2.1, wp_ite]
      by_cases cw : w = 0
      · rw [if_pos cw, wp_ret]
        exact k1 h2 cw s2
      · rw [if_neg cw, wp_bnd, (tk_rd T2 hi).2.1, wp_bnd, hm_isC M2, wp_bnd]
        cases hd : fdK kt (txT u sz i) (List.range k) with
        | none =>
          rw [hd] at q
          rcases q with q | q
          · exact absurd q cw
          · exact absurd rfl q
        | some j =>
          refine c_get M2 H2 hx (nmA_s T2) hd (fun h3 s3 => ?_)
          have hjk : j < k := by
            have := List.mem_of_find?_eq_some hd
            rw [List.mem_range] at this
            exact this
          have lv := look_k (s3.2.2.2.1 w2) (hiv j hjk)
          rw [wp_bnd, wp_nn rfl, wp_bnd, wp_cast lv (by decide), wp_bnd, wp_isC lv, wp_bnd]
          unfold fJ19_intValue
          rw [wp_bnd, wp_getI lv rfl, wp_ret, wp_ret]
          exact k2 h3 j cw hd (s2.trans s3)
    · show wp (sd_ret (.inr h2.1)) _ _ Q
      rw [wp_ret]
      cases hd : fdK kt (txT u sz i) (List.range k) with
      | none => exact k3 h2 q1 hd s2
      | some j =>
        rw [hd] at q2
        cases q2
  · show wp (sd_ret (.inr h.1)) _ _ Q
    rw [wp_ret]
    exact k0 e
end KNO
