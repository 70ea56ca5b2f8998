/-! THE PLAIN LAW: lists of the library made, filled, emptied, on any heap -/
section RM
variable {G : sd_G} {h : sd_H} {a r sz cap : Nat} {mc : Int32} {f : Nat → Option Nat} {b : Nat × Nat}
theorem okQ_fr {h' : sd_H} {v : Option Nat} {o o' : Nat × List Value} (w : wfH G h) (hf : ∀ z, z ≠ a → z < h.1 → h'.2 z = h.2 z) (ha : h.2 a = some (.inr o)) (ha' : h'.2 a = some (.inr o')) (he : o'.1 = o.1) (ho : sd_okQ G h 4 v = true) : sd_okQ G h' 4 v = true := by
  cases v with
  | none => rfl
  | some y =>
    obtain ⟨u, h1, h2⟩ := sd_okQ_some ho
    unfold sd_okQ
    by_cases c : y = a
    · subst c
      rw [sd_look_new ha] at h1
      cases h1
      simp only [sd_look_new ha']
      show sd_may 4 o'.1 = true
      rw [he]
      exact h2
    · simp only [look_eq (G := G) (hf y c (wfH_lt w h1)), h1]
      exact h2
theorem g_add {wd : Nat} {Q : Int32 → sd_H → Nat × Nat → Prop} (w : wfH G h) (L : lsO G h a mc r sz cap f) (hsz : sz ≤ 450) (hel : ∀ j, j < sz → sd_okQ G h 4 (f j) = true) (hw : sd_okQ G h 4 (some wd) = true) (h1 : 1 ≤ b.1) (h2 : 2 * sz + 10 ≤ b.2) (kk : ∀ h' r' cap' f' b', wfH G h' → lsO G h' a (mc + 1) r' (sz + 1) cap' f' → (∀ j, j < sz → f' j = f j) → f' sz = some wd → h.1 ≤ h'.1 → ((cap' = cap ∧ r' = r) ∨ (cap' ≤ 2 * sz + 10 ∧ cap = sz ∧ h.1 ≤ r' ∧ (cap = 0 → cap' = 10))) → (∀ z, z ≠ a → z ≠ r → z < h.1 → h'.2 z = h.2 z) → b.1 ≤ b'.1 + 1 → b.2 ≤ b'.2 + (2 * sz + 10) → Q 1 h' b') : wp (fJ2_add G a wd) h b Q := by
  have hne := lsO_ne L w
  have L0 := L
  obtain ⟨L1, L2, L3, L4⟩ := L
  have han := (w.1 _ _ L1).2
  have l1 := sd_look_new (G := G) L1
  have w1 : wfH G (sd_up h a (aL (mc + 1) r sz)) := wfH_up w L1
  have M : lsO G (sd_up h a (aL (mc + 1) r sz)) a (mc + 1) r sz cap f := ⟨up_at _ _ _, by rw [up_ne hne]; exact L2, L3, L4⟩
  have l2 := sd_look_new (G := G) M.1
  obtain ⟨g, l3, -⟩ := lsO_arr M w1
  have okU : ∀ v, sd_okQ G h 4 v = true → sd_okQ G (sd_up h a (aL (mc + 1) r sz)) 4 v = true := fun v hv => okQ_up L1 (fun o ho => ⟨_, rfl, by cases ho; rfl⟩) hv
  unfold fJ2_add fJ2_add_2 fJ2_grow
  rw [wp_bnd, (al_rd l1).1, wp_bnd, g_put L1 (Nat.le_of_ble_eq_true rfl) rfl rfl]
  show wp _ (sd_up h a (aL (mc + 1) r sz)) _ _
  rw [wp_bnd, (al_rd l2).2.1, wp_bnd, (al_rd l2).2.2.1, wp_bnd, (al_rd l2).2.2.2.1, wp_bnd, wp_bnd, wp_alenR l3]
  -- what follows the choice of the array
  have tail : ∀ (h3 : sd_H) (r3 cap3 : Nat) (f3 : Nat → Option Nat) (b3 : Nat × Nat), wfH G h3 → lsO G h3 a (mc + 1) r3 sz cap3 f3 → sz < cap3 → h3.2 r3 = some (aR cap3 f3) → (∀ j, sz ≤ j → f3 j = none) → (∀ j, j < sz → f3 j = f j) → sd_okQ G h3 4 (some wd) = true → h.1 ≤ h3.1 → ((cap3 = cap ∧ r3 = r) ∨ (cap3 ≤ 2 * sz + 10 ∧ cap = sz ∧ h.1 ≤ r3 ∧ (cap = 0 → cap3 = 10))) → (∀ z, z ≠ a → z ≠ r → z < h.1 → h3.2 z = h.2 z) → b.1 ≤ b3.1 + 1 → b.2 ≤ b3.2 + (2 * sz + 10) → wp (fJ2_add_2_b11 G a wd r3 (n3 sz)) h3 b3 (fun _ h1 b1 => wp (sd_ret 1) h1 b1 Q) := by
    intro h3 r3 cap3 f3 b3 w3 N n1 n2 n3' n4 n5 n6 n7 n9 n10 n11
    have hne3 := lsO_ne N w3
    obtain ⟨N1, -, N3, N4⟩ := N
    unfold fJ2_add_2_b11
    rw [wp_bnd, wp_astQ (t := 4) (n := cap3) (f := f3) n2 (n3_ix n1 (by omega)) n5, n3_nn (by omega), wp_bnd]
    have c1 : (sd_up h3 r3 (.inl (4, cap3, .inr (.inr (.inr (.inr (va_up f3 sz (some wd)))))))).2 a = some (aL (mc + 1) r3 sz) := (up_ne (fun e => hne3 e.symm)).trans N1
    rw [g_put c1 (Nat.le_of_ble_eq_true rfl) rfl rfl, wp_ret, wp_ret, show n3 sz + 1 = n3 (sz + 1) from n3_add sz 1]
    refine kk _ r3 cap3 (va_up f3 sz (some wd)) b3 (wfH_up (wfH_up w3 n2) c1) ⟨up_at _ _ _, Or.inr ⟨(up_ne hne3).trans (up_at _ _ _), by omega, fun j hj => ?_⟩, by omega, N4⟩ (fun j hj => ?_) (if_pos rfl) n6 n7 (fun z z1 z2 z3 => ?_) n10 n11
    · rw [show va_up f3 sz (some wd) j = f3 j from if_neg (by omega)]
      exact n3' j (by omega)
    · rw [show va_up f3 sz (some wd) j = f3 j from if_neg (by omega)]
      exact n4 j hj
    · rw [up_ne z1, up_ne (by
        rcases n7 with ⟨-, e⟩ | ⟨-, -, e, -⟩
        · rw [e]; exact z2
        · omega)]
      exact n9 z z1 z2 z3
  by_cases c : sz = cap
  · rw [if_pos (by rw [c]), wp_bnd, (al_rd l2).2.2.2.1, wp_bnd, wp_bnd, (al_rd l2).2.2.1, wp_bnd, (al_rd l2).2.2.2.1, wp_bnd, show n3 sz + 1 = n3 (sz + 1) from n3_add sz 1]
    have hnw : (if cap = 0 then max 10 (sz + 1) else cap + max (sz + 1 - cap) (cap / 2)) ≤ 2 * sz + 10 ∧ sz < (if cap = 0 then max 10 (sz + 1) else cap + max (sz + 1 - cap) (cap / 2)) := by
      split <;> omega
    refine g_grow w1 M (by omega) (by omega) rfl (fun j hj => okU _ (hel j hj)) h1 (by omega) (fun h' f' w' L' s' q1 q2 => ?_)
    rw [wp_ret]
    obtain ⟨L1', L2', -, -⟩ := L'
    have e1 : (sd_up h a (aL (mc + 1) r sz)).1 = h.1 := rfl
    rcases L2' with ⟨z1, z2, z3⟩ | ⟨z1, z2, z3⟩
    · have := (wfH_z0 w).2
      have := w.2.1
      omega
    · refine tail h' _ _ f' _ w' ⟨L1', Or.inr ⟨z1, z2, z3⟩, by omega, by omega⟩ hnw.2 z1 z3 q1 (okQ_fr w1 q2 M.1 L1' rfl (okU _ hw)) (by omega) (Or.inr ⟨hnw.1, c.symm, by omega, fun e => by rw [if_pos e]; omega⟩) (fun z z1 z2 z3 => (q2 z z1 (by omega)).trans (up_ne z1)) ?_ ?_
      · show b.1 ≤ b.1 - 1 + 1
        omega
      · show b.2 ≤ b.2 - _ + _
        omega
  · rw [if_neg (by rw [n3_eq (by omega) (by omega)]; exact c)]
    rcases L2 with ⟨z1, z2, z3⟩ | ⟨z1, z2, z3⟩
    · omega
    · exact tail _ r cap f b w1 M (by omega) ((up_ne hne).trans z1) z3 (fun _ _ => rfl) (okU _ hw) (Nat.le_refl _) (Or.inl ⟨rfl, rfl⟩) (fun z z1 z2 z3 => up_ne z1) (by omega) (by omega)
/-- a new list -/
theorem g_new {Q : Nat → sd_H → Nat × Nat → Prop} (w : wfH G h) (h1 : 1 ≤ b.1) (h2 : 3 ≤ b.2) (kk : Q h.1 (sd_pu h (aL 0 (sd_ad G 0) 0)) (b.1 - 1, b.2 - 3)) : wp (sd_new 41 3 [.int 0, .null, .int 0]) h b (fun o h' b' => wp (fJ2_init G o) h' b' (fun _ h2 b2 => Q o h2 b2)) := by
  refine wp_new h1 h2 ?_
  unfold fJ2_init fJ1_init fJ0_init
  have c1 := pu_at h (.inr (41, [Value.int 0, .null, .int 0]))
  rw [wp_bnd, wp_bnd, wp_ret, wp_bnd, g_put c1 (Nat.le_of_ble_eq_true rfl) rfl rfl, wp_ret, wp_bnd, g_put (up_at _ _ _) (Nat.le_of_ble_eq_true rfl) rfl rfl, wp_ret, up_up]
  have e : ∀ e e' : sd_E, sd_up (sd_pu h e) h.1 e' = sd_pu h e' := by
    intro e e'
    refine Prod.ext rfl (funext fun z => ?_)
    show (if z = h.1 then some e' else (if z = h.1 then some e else h.2 z)) = if z = h.1 then some e' else h.2 z
    split <;> rfl
  rw [e]
  exact kk
theorem g_newls {f : Nat → Option Nat} (w : wfH G h) : lsO G (sd_pu h (aL 0 (sd_ad G 0) 0)) h.1 0 (sd_ad G 0) 0 0 f := ⟨pu_at _ _, Or.inl ⟨rfl, rfl, rfl⟩, Nat.le_refl _, by omega⟩
theorem g_clear {Q : Unit → sd_H → Nat × Nat → Prop} (w : wfH G h) (L : lsO G h a mc r sz cap f) (kk : ∀ h', wfH G h' → lsO G h' a (mc + 1) r 0 cap (fun _ => none) → h'.1 = h.1 → (∀ z, z ≠ a → z ≠ r → h'.2 z = h.2 z) → Q () h' b) : wp (fJ2_clear G a) h b Q := by
  have hne := lsO_ne L w
  obtain ⟨L1, L2, L3, L4⟩ := L
  have l1 := sd_look_new (G := G) L1
  have l2 := sd_look_new (G := G) (up_at h a (aL (mc + 1) r sz))
  unfold fJ2_clear
  rw [wp_bnd, (al_rd l1).1, wp_bnd, g_put L1 (Nat.le_of_ble_eq_true rfl) rfl rfl]
  show wp _ (sd_up h a (aL (mc + 1) r sz)) _ _
  rw [wp_bnd, (al_rd l2).2.1, wp_bnd, (al_rd l2).2.2.1, wp_bnd, g_put (up_at _ _ _) (Nat.le_of_ble_eq_true rfl) rfl rfl, up_up]
  show wp _ (sd_up h a (aL (mc + 1) r 0)) _ _
  have w2 : wfH G (sd_up h a (aL (mc + 1) r 0)) := wfH_up w L1
  rcases L2 with ⟨e1, e2, e3⟩ | ⟨e1, e2, e3⟩
  · subst e2
    have hk := kk (sd_up h a (aL (mc + 1) r 0)) w2 ⟨up_at _ _ _, Or.inl ⟨e1, rfl, e3⟩, Nat.zero_le _, L4⟩ rfl (fun z z1 z2 => up_ne z1)
    show wp (fJ2_clear_b27 G _ _ _ _) _ _ _
    unfold fJ2_clear_b27
    rw [if_pos (by show n3 0 ≤ 0; decide), wp_ret]
    exact hk
  · have key := wp_lp (F := fun k s => fJ2_clear_b27 G k s.1 s.2.1 s.2.2) (b := b) (Q := Q) sz (fun i (_ : Nat → Option Nat) => (r, n3 sz, n3 i)) (fun g => sd_up (sd_up h a (aL (mc + 1) r 0)) r (aR cap g)) (fun i g => (∀ j, j < i → g j = none) ∧ ∀ j, sz ≤ j → g j = none) (fun i g => (.inl (va_up g i none) : (Nat → Option Nat) ⊕ (Nat → Option Nat))) (fun g => g) (fun g => Q () (sd_up (sd_up h a (aL (mc + 1) r 0)) r (aR cap g)) b) ?_ ?_ sd_FU 0 f (Nat.zero_le _) (by unfold sd_FU; omega) ⟨fun j hj => by omega, e3⟩
    · have e4 : sd_up (sd_up h a (aL (mc + 1) r 0)) r (aR cap f) = sd_up h a (aL (mc + 1) r 0) := by
        refine Prod.ext rfl (funext fun z => ?_)
        by_cases c : z = r
        · subst c
          rw [up_at, up_ne hne, e1]
        · rw [up_ne c]
      rw [e4] at key
      refine Eq.mpr key ?_
      have fin : ∀ k i (g : Nat → Option Nat), i + k = sz → (∀ j, j < i → g j = none) → (∀ j, sz ≤ j → g j = none) → lp (fun i g => (.inl (va_up g i none) : (Nat → Option Nat) ⊕ (Nat → Option Nat))) (fun g => g) k i g = fun _ => none := by
        intro k
        induction k with
        | zero =>
          intro i g hi g1 g2
          funext j
          by_cases c : j < i
          · exact g1 j c
          · exact g2 j (by omega)
        | succ k ih =>
          intro i g hi g1 g2
          refine ih (i + 1) _ (by omega) (fun j hj => ?_) (fun j hj => ?_)
          · unfold va_up
            split
            · rfl
            · exact g1 j (by omega)
          · unfold va_up
            split
            · rfl
            · exact g2 j hj
      rw [fin (sz - 0) 0 f (by omega) (fun j hj => by omega) e3]
      have c0 : (sd_up h a (aL (mc + 1) r 0)).2 r = some (aR cap f) := (up_ne hne).trans e1
      exact kk _ (wfH_up w2 c0) ⟨(up_ne (fun e => hne e.symm)).trans (up_at _ _ _), Or.inr ⟨up_at _ _ _, e2, fun _ _ => rfl⟩, Nat.zero_le _, L4⟩ rfl (fun z z1 z2 => (up_ne z2).trans (up_ne z1))
    · intro k g _
      unfold fJ2_clear_b27
      simp (disch := omega) only [↓wp_bnd, ↓wp_ret, ↓wp_ite, ↓reduceIte, n3_le, Nat.le_refl]
    · intro k i g hi hg
      refine ⟨fun g' e => ?_, ?_⟩
      · cases e
        refine ⟨fun j hj => ?_, fun j hj => ?_⟩
        · unfold va_up
          split
          · rfl
          · exact hg.1 j (by omega)
        · unfold va_up
          split
          · rfl
          · exact hg.2 j hj
      · unfold fJ2_clear_b27
        have h9 : ¬ sz ≤ i := by omega
        simp (disch := omega) only [↓wp_bnd, ↓wp_ret, ↓wp_ite, ↓reduceIte, n3_le, h9]
        rw [wp_astQ (t := 4) (n := cap) (f := g) (up_at _ _ _) (n3_ix (by omega) (by omega)) rfl, n3_nn (by omega), up_up, show n3 i + 1 = n3 (i + 1) from n3_add i 1]
end RM
