/-! THE PLAIN LAW: it answers 1 -/
theorem n3_end {n : Nat} (hn : n ≤ 384) : n3 n - 6 < n3 (6 * (n / 6)) := by
  by_cases c : 6 ≤ n
  · rw [show n3 n - 6 = n3 (n - 6) from n3_sub (a := n) (b := 6) c, n3_lt (by omega) (by omega)]
    omega
  · have key : ∀ n, n < 6 → n3 n - 6 < n3 (6 * (n / 6)) := by decide
    exact key n (by omega)
section LWT
variable {G : sd_G} {h : sd_H} {b : Nat × Nat} {cx cm o a1 n : Nat} {f : Nat → Int32}
theorem law_loop {Q : Int32 → sd_H → Nat × Nat → Prop} (hT : TEACH G cx cm o) (hw : sd_c G a1 = some (.inl (0, n, .inl f))) (hn : n ≤ 384) (J : LJ G cx cm o (n / 6) h b) (kk : ∀ h' b', Q 1 h' b') : wp (sd_loop (fun k s => fL_law_b23 G k s.1 s.2.1 s.2.2.1 s.2.2.2.1 s.2.2.2.2) sd_FU (a1, cx, cm, o, 0)) h b Q := by
  refine wp_for (β := Unit) (F := fun k (s : Nat × Nat × Nat × Nat × Int32) => fL_law_b23 G k s.1 s.2.1 s.2.2.1 s.2.2.2.1 s.2.2.2.2) (n / 6) (fun i _ => (a1, cx, cm, o, n3 (6 * i))) (fun i _ h b => LJ G cx cm o (n / 6 - i) h b) (fun k a h b J => ?_) (fun k i a h b hi J nx => ?_) sd_FU 0 () h b (Nat.zero_le _) (by unfold sd_FU; omega) J
  · have wf : wfH G h := by
      obtain ⟨tp, bt, s0, E1, B, Z, q, x, ea, sz, bs, ρ, ad, th, t, L, -⟩ := J
      exact L.1.1
    show wp (fL_law_b23 G k a1 cx cm o (n3 (6 * (n / 6)))) h b Q
    unfold fL_law_b23
    rw [wp_bnd, al_of hw wf]
    refine wp_cas (fun _ => ?_) (fun c => absurd (n3_end hn) c)
    rw [wp_ret]
    exact kk _ _
  · have e : n / 6 - i = (n / 6 - (i + 1)) + 1 := by omega
    rw [e] at J
    exact law_step hT hw hn (by omega) J (fun h' b' J' => nx () h' b' J')
theorem law_ok (Cw : wlC G) (Kc : crC G) (I : icC G) (hW : strsC G (sd_ad G 2) kws) (hW2 : strsC G (sd_ad G 18) kws) (hSy : strC G (sd_ad G 102) syms) (hw : sd_c G a1 = some (.inl (0, n, .inl f))) (hn : n ≤ 384) (wf : wfH G h) (b1 : 8600 * (n / 6) + 2000 ≤ b.1) (b2 : 111000 * (n / 6) + 40000 ≤ b.2) : wp (fL_law G a1) h b (fun r _ _ => r = 1) := by
  unfold fL_law
  rw [wp_bnd]
  refine wp_new (by omega) (by omega) ?_
  have w1 : wfH G (sd_pu h (.inr (0, [.null, .int 0, .null, .null]))) := wfH_pu wf
  have x1 := pu_at h (.inr (0, [.null, .int 0, .null, .null]))
  generalize sd_pu h (.inr (0, [.null, .int 0, .null, .null])) = h1 at w1 x1 ⊢
  generalize h.1 = cx at x1 ⊢
  obtain ⟨R, hR⟩ : ∃ R, R = n / 6 := ⟨_, rfl⟩
  rw [← hR] at b1 b2
  have lR : R ≤ 64 := by omega
  obtain ⟨c1, e1⟩ := Nat.exists_eq_add_of_le b1
  obtain ⟨c2, e2⟩ := Nat.exists_eq_add_of_le b2
  rw [wp_bnd]
  refine c_init w1 x1 (by simp only; omega) (by simp only; omega) (fun tp bt s0 E1 B h2 b2' C n2 f2 y1 y2 => ?_)
  simp only at y1 y2
  rw [wp_bnd]
  refine wp_new (by omega) (by omega) ?_
  rw [wp_bnd]
  refine o_init (K := h2.2) (o := h2.1) (by simp only; omega) (by simp only; omega) (fun h3 b3 M n3' f3 g3 y3 y4 => ?_)
  simp only at y3 y4
  rw [wp_bnd]
  refine wp_newL (n := 1) (by omega) (by omega) (by omega) ?_
  have w2 := C.1
  have w3 : wfH G h3 := by
    refine ⟨fun a e ha => ?_, by have := w2.2.1; omega, w2.2.2.1, w2.2.2.2⟩
    have z := w2.2.1
    rcases g3 a e ha with q | q
    · have := w2.1 _ _ q
      omega
    · omega
  have w4 : wfH G (sd_pu h3 (.inl (1, 1, .inr (.inl (fun _ => 0))))) := wfH_pu w3
  have lE := CI_E1 C
  have lB := CI_B1 C
  have C4 := CI_keep C w4 (by show h2.1 ≤ h3.1 + 1; omega) (fun a ha _ => (pu_ne (by omega)).trans (f3 a ha))
  have M4 := MI_keep M (h' := sd_pu h3 (.inl (1, 1, .inr (.inl (fun _ => 0))))) (by show h3.1 ≤ h3.1 + 1; omega) (fun a i hr => by
    refine pu_ne (fun q => ?_)
    unfold rhoI at hr
    rw [if_neg (by omega)] at hr
    cases hr)
  have rI : ∀ a, a < h2.1 ∨ h2.1 + 24 ≤ a → rhoI h2.1 a = none := fun a ha => if_neg (by omega)
  refine law_loop (teach_ok Cw Kc I hW hW2 hSy) hw hn ⟨tp, bt, s0, E1, B, _, q0S, xI, -1, 0, _, rhoI h2.1, adI h2.1, 0, t0S 4 6, ⟨C4, M4, rI _ (Or.inl lE), rI _ (Or.inl lB), rI _ (Or.inr (by omega)), by omega, by omega, ⟨_, pu_at _ _⟩, fun k hk => absurd hk (Nat.not_lt_zero _), by omega⟩, rfl, fun q => q, fun q => q, fun q => q, ?_, ?_⟩ (fun _ _ => rfl)
  · rw [← hR]
    simp only
    omega
  · rw [← hR]
    simp only
    omega
end LWT
