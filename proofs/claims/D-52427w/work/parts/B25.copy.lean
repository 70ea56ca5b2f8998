/-! THE PLAIN LAW: a seat's cushions copied -/
section TC
variable {G : sd_G} {h : sd_H} {b : Nat × Nat}
theorem pu_up (e e' : sd_E) : sd_up (sd_pu h e) h.1 e' = sd_pu h e' := by
  refine Prod.ext rfl (funext fun z => ?_)
  show (if z = h.1 then some e' else (if z = h.1 then some e else h.2 z)) = if z = h.1 then some e' else h.2 z
  split <;> rfl
theorem g_iter {l r sz : Nat} {mc : Int32} {Q : Nat → sd_H → Nat × Nat → Prop} (w : wfH G h) (hl : sd_look G h l = some (aL mc r sz)) (h1 : 1 ≤ b.1) (h2 : 4 ≤ b.2) (kk : Q h.1 (sd_pu h (aI (n3 0) (-1) mc l)) (b.1 - 1, b.2 - 4)) : wp (fJ2_iterator G l) h b Q := by
  have hln := wfH_lt w hl
  unfold fJ2_iterator fJ31_init
  rw [wp_bnd]
  refine wp_new h1 h2 ?_
  rw [wp_bnd, wp_bnd, g_put (pu_at h _) (Nat.le_of_ble_eq_true rfl) rfl rfl, pu_up, wp_bnd, g_put (pu_at h _) (Nat.le_of_ble_eq_true rfl) rfl rfl, pu_up]
  have l1 : sd_look G (sd_pu h (.inr (42, ([Value.int 0, .int 0, .int 0, .null].set 3 (.ref l)).set 1 (.int (-1))))) h.1 = some (aI 0 (-1) 0 l) := sd_look_new (pu_at h _)
  have l2 : sd_look G (sd_pu h (.inr (42, ([Value.int 0, .int 0, .int 0, .null].set 3 (.ref l)).set 1 (.int (-1))))) l = some (aL mc r sz) := (look_eq (pu_ne (by omega))).trans hl
  rw [wp_bnd, (it_rd l1).2.2.2.1, wp_bnd, (al_rd l2).1, wp_bnd, g_put (pu_at h _) (Nat.le_of_ble_eq_true rfl) rfl rfl, pu_up, wp_ret, wp_ret]
  exact kk
theorem g_copy {a : Nat} {z0 z1 z2 z3 : Int32} {Q : Nat → sd_H → Nat × Nat → Prop} (w : wfH G h) (ha : sd_look G h a = some (.inr (3, [.int z0, .int z1, .int z2, .int z3]))) (e2 : z2 = 0 ∨ z2 = 1) (e3 : z3 = 0 ∨ z3 = 1) (h1 : 1 ≤ b.1) (h2 : 4 ≤ b.2) (kk : Q h.1 (sd_pu h (.inr (3, [.int z0, .int z1, .int z2, .int z3]))) (b.1 - 1, b.2 - 4)) : wp (fX4_copy G a) h b Q := by
  have hln := wfH_lt w ha
  have nb : ∀ z : Int32, z = 0 ∨ z = 1 → narrow .boolean (.int z) = .int z ∧ fits .boolean (.int z) = true := by
    intro z hz
    rcases hz with rfl | rfl <;> exact ⟨rfl, rfl⟩
  have la : ∀ e : sd_E, sd_look G (sd_pu h e) a = some (.inr (3, [.int z0, .int z1, .int z2, .int z3])) := fun e => (look_eq (pu_ne (by omega))).trans ha
  unfold fX4_copy fX4_init
  rw [wp_bnd]
  refine wp_new h1 h2 ?_
  rw [wp_bnd, (cu_rd (la _)).1, wp_bnd, wp_bnd, g_put (pu_at h _) (Nat.le_of_ble_eq_true rfl) rfl rfl, pu_up, wp_bnd, g_put (pu_at h _) (Nat.le_of_ble_eq_true rfl) rfl rfl, pu_up, wp_ret, wp_bnd, (cu_rd (la _)).2.1, wp_bnd, g_put (pu_at h _) (Nat.le_of_ble_eq_true rfl) rfl rfl, pu_up, wp_bnd, (cu_rd (la _)).2.2.1, wp_bnd, g_put (pu_at h _) (Nat.le_of_ble_eq_true rfl) (nb z2 e2).1 (nb z2 e2).2, pu_up, wp_bnd, (cu_rd (la _)).2.2.2, wp_bnd, g_put (pu_at h _) (Nat.le_of_ble_eq_true rfl) (nb z3 e3).1 (nb z3 e3).2, pu_up, wp_ret]
  exact kk
/-- the cells of a seat's copy: k cushions cc of the cells z, in the list p with the array r -/
def cpy1 (G : sd_G) (h : sd_H) (p r k : Nat) (m : Int32) (f : Nat → Option Nat) (cc : Nat → Nat) (z : Nat → sd_E) : Prop := lsO G h p m r k (if k = 0 then 0 else 10) f ∧ (1 ≤ k → p < r ∧ r < h.1) ∧ (∀ j, j < k → f j = some (cc j) ∧ p < cc j ∧ cc j < h.1 ∧ h.2 (cc j) = some (z j)) ∧ ∀ i j, i < j → j < k → cc i < cc j
/-- the inner loop of taking over -/
theorem g_seat {w0 w1 w2 l r nn p : Nat} {mc : Int32} {f0 : Nat → Option Nat} {ca : Nat → Nat} {z : Nat → Int32 × Int32 × Int32 × Int32} {k31 : Nat × Nat × Nat → sd_M Nat} {Q : Nat → sd_H → Nat × Nat → Prop} (w : wfH G h) (hp : h.1 = p + 2) (hl : sd_look G h l = some (aL mc r nn)) (hlp : l < p) (hr : 1 ≤ nn → sd_look G h r = some (aR 10 f0) ∧ r < p) (hnn : nn ≤ 10) (hf0 : ∀ k, k < nn → f0 k = some (ca k)) (hca : ∀ k, k < nn → ca k < p ∧ sd_look G h (ca k) = some (.inr (3, [.int (z k).1, .int (z k).2.1, .int (z k).2.2.1, .int (z k).2.2.2])) ∧ ((z k).2.2.1 = 0 ∨ (z k).2.2.1 = 1) ∧ ((z k).2.2.2 = 0 ∨ (z k).2.2.2 = 1)) (hm : h.2 p = some (aL 0 (sd_ad G 0) 0)) (hit : h.2 (p + 1) = some (aI (n3 0) (-1) mc l)) (b1 : 2 * nn ≤ b.1) (b2 : 34 * nn ≤ b.2)
    (kk : ∀ h' m' r' f' cc b', wfH G h' → p + 2 ≤ h'.1 → (∀ y, y < p → h'.2 y = h.2 y) → cpy1 G h' p r' nn m' f' cc (fun k => .inr (3, [.int (z k).1, .int (z k).2.1, .int (z k).2.2.1, .int (z k).2.2.2])) → b.1 ≤ b'.1 + 2 * nn → b.2 ≤ b'.2 + 34 * nn → wp (sd_bnd (sd_getR G 2 2 w0) fun v30 => sd_bnd (sd_isC G 41 v30) fun _ => sd_bnd (fJ2_add G v30 p) fun _ => k31 (w0, w1, w2)) h' b' Q) : wp (sd_loop (fun k s => fX3_take_b65 G k31 k s.1 s.2.1 s.2.2.1 s.2.2.2.1 s.2.2.2.2) sd_FU (w0, w1, w2, p, p + 1)) h b Q := by
  refine wp_for (F := fun k s => fX3_take_b65 G k31 k s.1 s.2.1 s.2.2.1 s.2.2.2.1 s.2.2.2.2) nn (fun i (_ : Unit) => (w0, w1, w2, p, p + 1)) (fun i _ h' b' => ∃ m' r' f' cc last, wfH G h' ∧ p + 2 ≤ h'.1 ∧ (∀ y, y < p → h'.2 y = h.2 y) ∧ cpy1 G h' p r' i m' f' cc (fun k => .inr (3, [.int (z k).1, .int (z k).2.1, .int (z k).2.2.1, .int (z k).2.2.2])) ∧ (r' ≠ p + 1 ∧ ∀ j, j < i → cc j ≠ p + 1) ∧ h'.2 (p + 1) = some (aI (n3 i) last mc l) ∧ b.1 ≤ b'.1 + 2 * i ∧ b.2 ≤ b'.2 + 34 * i) ?_ ?_ sd_FU 0 () h b (Nat.zero_le _) (by unfold sd_FU; omega) ⟨0, sd_ad G 0, fun _ => none, fun _ => 0, -1, w, by omega, fun _ _ => rfl, ⟨⟨hm, Or.inl ⟨rfl, rfl, rfl⟩, Nat.le_refl _, by decide⟩, fun h => by omega, fun j hj => by omega, fun i j hij hj => by omega⟩, ⟨by have := (wfH_z0 w).2; have := w.1 _ _ hm; omega, fun j hj => by omega⟩, hit, by omega, by omega⟩
  · rintro k _ h' b' ⟨m', r', f', cc, last, w', s', fr, C, -, it, c1, c2⟩
    have il : sd_look G h' (p + 1) = some (aI (n3 nn) last mc l) := sd_look_new it
    have ll : sd_look G h' l = some (aL mc r nn) := (look_eq (fr l hlp)).trans hl
    unfold fX3_take_b65
    rw [wp_bnd, (it_rd il).2.2.2.2, wp_bnd, j_hasNext il ll (by omega) (by omega), if_pos rfl, if_pos rfl]
    exact kk h' m' r' f' cc b' w' s' fr C c1 c2
  · rintro k i _ h' b' hi ⟨m', r', f', cc, last, w', s', fr, C, ne, it, c1, c2⟩ K1
    have il : sd_look G h' (p + 1) = some (aI (n3 i) last mc l) := sd_look_new it
    have ll : sd_look G h' l = some (aL mc r nn) := (look_eq (fr l hlp)).trans hl
    obtain ⟨hr, hrp⟩ := hr (by omega)
    have lr : sd_look G h' r = some (aR 10 f0) := (look_eq (fr r hrp)).trans hr
    obtain ⟨q1, q2, q3, q4⟩ := hca i hi
    have h9 : ¬ (i = nn) := by omega
    unfold fX3_take_b65
    rw [wp_bnd, (it_rd il).2.2.2.2, wp_bnd, j_hasNext il ll (by omega) (by omega), if_neg h9, if_neg (by decide), wp_bnd, (it_rd il).2.2.2.2, wp_bnd, j_next it ll lr (by omega) (by omega) hi hnn (by omega) (hf0 i hi)]
    -- behind next
    have w2 : wfH G (sd_up h' (p + 1) (aI (n3 (i + 1)) (n3 i) mc l)) := wfH_up w' it
    have lc : sd_look G (sd_up h' (p + 1) (aI (n3 (i + 1)) (n3 i) mc l)) (ca i) = some (.inr (3, [.int (z i).1, .int (z i).2.1, .int (z i).2.2.1, .int (z i).2.2.2])) := (look_eq (up_ne (by omega))).trans ((look_eq (fr _ q1)).trans q2)
    rw [wp_bnd, wp_cast lc (by decide), wp_bnd, wp_isC lc, wp_bnd]
    refine g_copy w2 lc q3 q4 (by omega) (by omega) ?_
    obtain ⟨C1, C2, C3, C4⟩ := C
    have e1 : (sd_up h' (p + 1) (aI (n3 (i + 1)) (n3 i) mc l)).1 = h'.1 := rfl
    generalize hB : sd_up h' (p + 1) (aI (n3 (i + 1)) (n3 i) mc l) = h2 at w2 lc e1 ⊢
    have g2 : ∀ y, y ≠ p + 1 → h2.2 y = h'.2 y := fun y hy => by rw [← hB]; exact up_ne hy
    have g3 : h2.2 (p + 1) = some (aI (n3 (i + 1)) (n3 i) mc l) := by rw [← hB]; exact up_at _ _ _
    have w3 : wfH G (sd_pu h2 (.inr (3, [.int (z i).1, .int (z i).2.1, .int (z i).2.2.1, .int (z i).2.2.2]))) := wfH_pu w2
    have g4 : ∀ y, y < h2.1 → (sd_pu h2 (.inr (3, [.int (z i).1, .int (z i).2.1, .int (z i).2.2.1, .int (z i).2.2.2]))).2 y = h2.2 y := fun y hy => pu_ne (by omega)
    have g5 := pu_at h2 (.inr (3, [Value.int (z i).1, .int (z i).2.1, .int (z i).2.2.1, .int (z i).2.2.2]))
    have g6 : (sd_pu h2 (.inr (3, [.int (z i).1, .int (z i).2.1, .int (z i).2.2.1, .int (z i).2.2.2]))).1 = h2.1 + 1 := rfl
    generalize sd_pu h2 (.inr (3, [.int (z i).1, .int (z i).2.1, .int (z i).2.2.1, .int (z i).2.2.2])) = h3 at w3 g4 g5 g6 ⊢
    have old : ∀ y, y < h'.1 → y ≠ p + 1 → h3.2 y = h'.2 y := fun y hy hy2 => (g4 y (by omega)).trans (g2 y hy2)
    have pm := C1.1
    have N : lsO G h3 p m' r' i (if i = 0 then 0 else 10) f' := by
      refine ⟨(old p (by omega) (by omega)).trans C1.1, ?_, C1.2.2.1, C1.2.2.2⟩
      rcases C1.2.1 with y | ⟨y1, y2, y3⟩
      · exact Or.inl y
      · have hi1 : 1 ≤ i := by
          cases i with
          | zero => exact absurd y2 (by decide)
          | succ i => omega
        exact Or.inr ⟨(old r' (C2 hi1).2 ne.1).trans y1, y2, y3⟩
    rw [wp_bnd, (al_rd (sd_look_new N.1)).2.2.2.1, wp_bnd]
    have okc : ∀ j, j < i → sd_okQ G h3 4 (f' j) = true := by
      intro j hj
      obtain ⟨y1, y2, y3, y4⟩ := C3 j hj
      rw [y1]
      unfold sd_okQ
      simp only [sd_look_new ((old _ y3 (ne.2 j hj)).trans y4)]
      decide
    have okn : sd_okQ G h3 4 (some h2.1) = true := by
      unfold sd_okQ
      simp only [sd_look_new g5]
      decide
    refine g_add w3 N (by omega) okc okn (by show 1 ≤ b'.1 - 1; omega) (by show 2 * i + 10 ≤ b'.2 - 4; omega) (fun h4 r4 cap4 f4 b4 w4 L4 k1 k2 k3 k4 k6 k7 k8 => ?_)
    have cap10 : cap4 = 10 := by
      rcases k4 with ⟨y1, y2⟩ | ⟨y1, y2, y3, y4⟩
      · by_cases ci : i = 0
        · have := L4.2.2.1
          rw [if_pos ci] at y1
          omega
        · rw [if_neg ci] at y1
          exact y1
      · by_cases ci : i = 0
        · exact y4 (if_pos ci)
        · rw [if_neg ci] at y2
          omega
    have r4n : p < r4 ∧ r4 ≠ p + 1 ∧ r4 < h4.1 := by
      have lt4 : r4 < h4.1 := by
        rcases L4.2.1 with ⟨y1, y2, y3⟩ | ⟨y1, y2, y3⟩
        · omega
        · exact (w4.1 _ _ y1).2
      rcases k4 with ⟨y1, y2⟩ | ⟨y1, y2, y3, y4⟩
      · by_cases ci : i = 0
        · rw [if_pos ci] at y1
          omega
        · rw [y2]
          exact ⟨(C2 (by omega)).1, ne.1, by rw [← y2]; exact lt4⟩
      · exact ⟨by omega, by omega, lt4⟩
    have notr : ∀ y, y < h3.1 → (∃ o, h3.2 y = some (.inr o)) → y ≠ r' ∨ i = 0 := by
      intro y hy ⟨o, ho⟩
      by_cases ci : i = 0
      · exact Or.inr ci
      · refine Or.inl fun e => ?_
        rcases N.2.1 with ⟨y1, y2, y3⟩ | ⟨y1, y2, y3⟩
        · omega
        · rw [e, y1] at ho
          cases ho
    have keep : ∀ y o, y < h3.1 → y ≠ p → h3.2 y = some (.inr o) → h4.2 y = some (.inr o) := by
      intro y o hy hyp ho
      rcases notr y hy ⟨o, ho⟩ with c | c
      · exact (k6 y hyp c hy).trans ho
      · refine (k6 y hyp ?_ hy).trans ho
        intro e
        rcases N.2.1 with ⟨y1, y2, y3⟩ | ⟨y1, y2, y3⟩
        · rw [e, y1, (wfH_z0 w3).1] at ho
          cases ho
        · rw [e, y1] at ho
          cases ho
    refine K1 () h4 b4 ⟨m' + 1, r4, f4, fun j => if j = i then h2.1 else cc j, n3 i, w4, by omega, fun y hy => ?_, ⟨?_, fun _ => ⟨r4n.1, r4n.2.2⟩, fun j hj => ?_, fun j1 j2 j12 j2i => ?_⟩, ⟨r4n.2.1, fun j hj => ?_⟩, ?_, ?_, ?_⟩
    · by_cases cr : y = r'
      · -- the array in use before lies above p, or is the library's
        by_cases ci : i = 0
        · rcases N.2.1 with ⟨y1, y2, y3⟩ | ⟨y1, y2, y3⟩
          · rw [cr, y1]
            have a1 := (wfH_z0 w4).1
            have a2 := (wfH_z0 w).1
            rw [a1, a2]
          · rw [if_pos ci] at y2
            omega
        · have := (C2 (by omega)).1
          omega
      · exact (k6 y (show y ≠ p by omega) cr (by omega)).trans ((old y (by omega) (by omega)).trans (fr y hy))
    · rw [if_neg (by omega), ← cap10]
      exact L4
    · by_cases cj : j = i
      · subst cj
        show f4 j = some (if j = j then h2.1 else cc j) ∧ p < (if j = j then h2.1 else cc j) ∧ (if j = j then h2.1 else cc j) < h4.1 ∧ h4.2 (if j = j then h2.1 else cc j) = _
        rw [if_pos rfl]
        exact ⟨k2, by omega, by omega, keep _ _ (by omega) (by omega) g5⟩
      · obtain ⟨y1, y2, y3, y4⟩ := C3 j (by omega)
        show f4 j = some (if j = i then h2.1 else cc j) ∧ p < (if j = i then h2.1 else cc j) ∧ (if j = i then h2.1 else cc j) < h4.1 ∧ h4.2 (if j = i then h2.1 else cc j) = _
        rw [if_neg cj]
        exact ⟨(k1 j (by omega)).trans y1, y2, by omega, keep _ _ (by omega) (by omega) ((old _ y3 (ne.2 j (by omega))).trans y4)⟩
    · show (if j1 = i then h2.1 else cc j1) < (if j2 = i then h2.1 else cc j2)
      rw [if_neg (by omega)]
      by_cases c2 : j2 = i
      · rw [if_pos c2]
        have := (C3 j1 (by omega)).2.2.1
        omega
      · rw [if_neg c2]
        exact C4 j1 j2 j12 (by omega)
    · show (if j = i then h2.1 else cc j) ≠ p + 1
      by_cases cj : j = i
      · rw [if_pos cj]
        omega
      · rw [if_neg cj]
        exact ne.2 j (by omega)
    · exact keep _ _ (by omega) (by omega) ((g4 _ (by omega)).trans g3)
    · simp only at k7
      omega
    · simp only at k8
      omega
end TC
