/-! THE PLAIN LAW: a list takes over what another has -/
section RA
variable {G : sd_G} {h : sd_H} {a r cap : Nat} {mc : Int32} {b : Nat × Nat}
theorem n3_sub0 (x : Nat) : n3 x - n3 0 = n3 x := n3_sub (Nat.zero_le x)
theorem g_addAll {a1 r1 k1 c1 : Nat} {m1 : Int32} {f1 : Nat → Option Nat} {Q : Int32 → sd_H → Nat × Nat → Prop} (w : wfH G h) (L : lsO G h a mc r 0 cap (fun _ => none)) (s1 : sd_look G h a1 = some (aL m1 r1 k1)) (s2 : sd_look G h r1 = some (aR c1 f1)) (hk : k1 ≤ c1) (hc1 : c1 ≤ 1000) (hk30 : k1 ≤ 30) (hcap : cap ≤ 60) (hel : ∀ j, j < k1 → sd_okQ G h 4 (f1 j) = true) (h1 : 2 ≤ b.1) (h2 : 100 ≤ b.2) (kk : ∀ v h' r' cap' f' b', wfH G h' → lsO G h' a (mc + 1) r' k1 cap' f' → cap' ≤ 60 → (∀ j, j < k1 → f' j = f1 j) → h.1 ≤ h'.1 → (r' = r ∨ h.1 ≤ r') → (∀ z, z ≠ a → z ≠ r → z < h.1 → h'.2 z = h.2 z) → b.1 ≤ b'.1 + 2 → b.2 ≤ b'.2 + 100 → Q v h' b') : wp (fJ2_addAll G a a1) h b Q := by
  have hne := lsO_ne L w
  obtain ⟨L1, L2, L3, L4⟩ := L
  have han := (w.1 _ _ L1).2
  have hr1 := wfH_lt w s2
  unfold fJ2_addAll fJ2_toArray fJ5_copyOf fJ5_copyOf_2
  rw [wp_bnd, (al_rd s1).2.2.2.1, wp_bnd, wp_bnd, (al_rd s1).2.1, wp_bnd, (al_rd s1).2.2.1, wp_bnd, wp_bnd, wp_isO s2, wp_bnd, if_pos rfl, wp_bnd]
  refine wp_newQ (by omega) (by omega) (by omega) ?_
  have d1 : sd_look G (sd_pu h (aR k1 (fun _ => none))) r1 = some (aR c1 f1) := (look_eq (pu_ne (by omega))).trans s2
  rw [wp_bnd, wp_alenR d1, wp_bnd, j_min, mnI_n3 (by omega) (by omega), Nat.min_eq_right hk, wp_bnd]
  rw [g_cpQ0 d1 (pu_at h _) hk (Nat.le_refl _) (by omega) (by omega) (fun j hj => okQ_pu w (hel j hj)), wp_ret, wp_ret, wp_ret]
  -- the copy lies at h.1
  have w1 : wfH G (sd_up (sd_pu h (aR k1 (fun _ => none))) h.1 (aR k1 (va_cpy f1 (fun _ => none) 0 0 k1))) := wfH_up (wfH_pu w) (pu_at h _)
  have c1' : (sd_up (sd_pu h (aR k1 (fun _ => none))) h.1 (aR k1 (va_cpy f1 (fun _ => none) 0 0 k1))).2 a = some (aL mc r 0) := (up_ne (by omega)).trans ((pu_ne (by omega)).trans L1)
  have c2' : (sd_up (sd_pu h (aR k1 (fun _ => none))) h.1 (aR k1 (va_cpy f1 (fun _ => none) 0 0 k1))).2 h.1 = some (aR k1 (va_cpy f1 (fun _ => none) 0 0 k1)) := up_at _ _ _
  have c3' : ∀ z, z < h.1 → (sd_up (sd_pu h (aR k1 (fun _ => none))) h.1 (aR k1 (va_cpy f1 (fun _ => none) 0 0 k1))).2 z = h.2 z := fun z hz => (up_ne (by omega)).trans (pu_ne (by omega))
  have c4' : (sd_up (sd_pu h (aR k1 (fun _ => none))) h.1 (aR k1 (va_cpy f1 (fun _ => none) 0 0 k1))).1 = h.1 + 1 := rfl
  generalize sd_up (sd_pu h (aR k1 (fun _ => none))) h.1 (aR k1 (va_cpy f1 (fun _ => none) 0 0 k1)) = hA at w1 c1' c2' c3' c4' ⊢
  rw [wp_bnd, (al_rd (sd_look_new c1')).1, wp_bnd, g_put c1' (Nat.le_of_ble_eq_true rfl) rfl rfl]
  show wp _ (sd_up hA a (aL (mc + 1) r 0)) _ _
  have w2 : wfH G (sd_up hA a (aL (mc + 1) r 0)) := wfH_up w1 c1'
  have e1 : (sd_up hA a (aL (mc + 1) r 0)).2 h.1 = some (aR k1 (va_cpy f1 (fun _ => none) 0 0 k1)) := (up_ne (by omega)).trans c2'
  have e2 := up_at hA a (aL (mc + 1) r 0)
  have e3 : ∀ z, z ≠ a → z < h.1 → (sd_up hA a (aL (mc + 1) r 0)).2 z = h.2 z := fun z z1 z2 => (up_ne z1).trans (c3' z z2)
  have e4 : (sd_up hA a (aL (mc + 1) r 0)).1 = h.1 + 1 := c4'
  have ML2 : (r = sd_ad G 0 ∧ 0 = 0 ∧ cap = 0) ∨ ((sd_up hA a (aL (mc + 1) r 0)).2 r = some (aR cap (fun _ => none)) ∧ 1 ≤ cap ∧ ∀ j, 0 ≤ j → (fun _ => (none : Option Nat)) j = none) := by
    rcases L2 with z | ⟨z1, z2, z3⟩
    · exact Or.inl z
    · exact Or.inr ⟨(e3 r hne (w.1 _ _ z1).2).trans z1, z2, z3⟩
  have M : lsO G (sd_up hA a (aL (mc + 1) r 0)) a (mc + 1) r 0 cap (fun _ => none) := ⟨e2, ML2, Nat.zero_le _, L4⟩
  have el : ∀ j, j < k1 → ∀ h4 : sd_H, (∀ z, z ≠ a → z < h.1 → h4.2 z = h.2 z) → (∃ o', h4.2 a = some (.inr (41, o'))) → sd_okQ G h4 4 (f1 j) = true := by
    intro j hj h4 hh ⟨o', ho'⟩
    exact okQ_fr w hh L1 ho' rfl (hel j hj)
  generalize hB : sd_up hA a (aL (mc + 1) r 0) = h5 at w2 e1 e2 e3 e4 ML2 M ⊢
  rw [wp_bnd, wp_alenR (sd_look_new e1)]
  by_cases ck : k1 = 0
  · rw [if_pos (by rw [ck]; rfl), wp_ret]
    subst ck
    exact kk 0 h5 r cap (fun _ => none) _ w2 M hcap (fun j hj => by omega) (by omega) (Or.inl rfl) (fun z z1 z2 z3 => e3 z z1 z3) (by show b.1 ≤ b.1 - 1 + 2; omega) (by show b.2 ≤ b.2 - 0 + 100; omega)
  · have ck' : ¬ (n3 k1 = 0) := by
      rw [show (0 : Int32) = n3 0 from rfl, n3_eq (by omega) (by omega)]
      exact ck
    obtain ⟨g9, l9, -⟩ := lsO_arr M w2
    rw [if_neg ck', wp_bnd, (al_rd (sd_look_new e2)).2.1, wp_bnd, wp_alenR l9, wp_bnd, (al_rd (sd_look_new e2)).2.2.1, n3_sub0]
    have tail : ∀ (h3 : sd_H) (r3 cap3 : Nat) (g3 : Nat → Option Nat) (b3 : Nat × Nat), wfH G h3 → h3.2 a = some (aL (mc + 1) r3 0) → h3.2 r3 = some (aR cap3 g3) → (∀ j, g3 j = none) → k1 ≤ cap3 → cap3 ≤ 60 → h3.2 h.1 = some (aR k1 (va_cpy f1 (fun _ => none) 0 0 k1)) → h.1 ≤ h3.1 → (r3 = r ∨ h.1 ≤ r3) → (∀ z, z ≠ a → z < h.1 → h3.2 z = h.2 z) → b.1 ≤ b3.1 + 2 → b.2 ≤ b3.2 + 100 → wp (fJ2_addAll_b56 G a h.1 (n3 k1) r3 (n3 0)) h3 b3 Q := by
      intro h3 r3 cap3 g3 b3 w3 n1 n2 n3' n4 n5 n6 n7 n8 n9 n10 n11
      have hne3 : r3 ≠ a := by
        intro e
        rw [e, n1] at n2
        cases n2
      unfold fJ2_addAll_b56
      have cp : wp (sd_cpQ G 4 h.1 0 r3 (n3 0) (n3 k1)) h3 b3 (fun _ h1 b1 => wp (sd_bnd (sd_put 41 2 .int a (.int (n3 0 + n3 k1))) fun _ => sd_ret 1) h1 b1 Q) = _ := g_cpQ0 (sd_look_new n6) n2 (Nat.le_refl _) n4 (by omega) (by omega) (fun j hj => by
        unfold va_cpy
        rw [if_pos (by omega), show 0 + (j - 0) = j by omega]
        exact el j hj h3 n9 ⟨_, n1⟩)
      rw [wp_bnd, cp, wp_bnd]
      have c1 : (sd_up h3 r3 (aR cap3 (va_cpy (va_cpy f1 (fun _ => none) 0 0 k1) g3 0 0 k1))).2 a = some (aL (mc + 1) r3 0) := (up_ne (fun e => hne3 e.symm)).trans n1
      rw [g_put c1 (Nat.le_of_ble_eq_true rfl) rfl rfl, wp_ret, n3_add, Nat.zero_add]
      have ff : ∀ j, va_cpy (va_cpy f1 (fun _ => none) 0 0 k1) g3 0 0 k1 j = if j < k1 then f1 j else none := by
        intro j
        unfold va_cpy
        by_cases c : j < k1
        · rw [if_pos (by omega), if_pos (by omega), if_pos c]
          congr 1
          omega
        · rw [if_neg (by omega), if_neg c]
          exact n3' j
      refine kk 1 _ r3 cap3 _ b3 (wfH_up (wfH_up w3 n2) c1) ⟨up_at _ _ _, Or.inr ⟨(up_ne hne3).trans (up_at _ _ _), by omega, fun j hj => by rw [ff, if_neg (by omega)]⟩, n4, by omega⟩ n5 (fun j hj => by rw [ff, if_pos hj]) n7 n8 (fun z z1 z2 z3 => ?_) n10 n11
      rw [up_ne z1, up_ne (by
        rcases n8 with e | e
        · rw [e]; exact z2
        · omega)]
      exact n9 z z1 z3
    by_cases cc : k1 ≤ cap
    · rw [if_pos (by rw [n3_le (by omega) (by omega)]; exact cc)]
      rcases ML2 with ⟨z1, z2, z3⟩ | ⟨z1, z2, z3⟩
      · omega
      · exact tail h5 r cap (fun _ => none) _ w2 e2 z1 (fun _ => rfl) cc hcap e1 (by omega) (Or.inl rfl) e3 (by show b.1 ≤ b.1 - 1 + 2; omega) (by show b.2 ≤ b.2 - k1 + 100; omega)
    · rw [if_neg (by rw [n3_le (by omega) (by omega)]; exact cc), wp_bnd, (al_rd (sd_look_new e2)).2.2.2.1, wp_bnd, n3_add, Nat.zero_add]
      have hnw : (if cap = 0 then max 10 k1 else cap + max (k1 - cap) (cap / 2)) ≤ 60 ∧ k1 ≤ (if cap = 0 then max 10 k1 else cap + max (k1 - cap) (cap / 2)) := by
        split <;> omega
      refine g_grow w2 M (by omega) (by omega) rfl (fun j hj => by omega) (by show 1 ≤ b.1 - 1; omega) (by show _ ≤ b.2 - k1; omega) (fun h' f' w' L' s' q1 q2 => ?_)
      obtain ⟨L1', L2', -, -⟩ := L'
      rcases L2' with ⟨z1, z2, z3⟩ | ⟨z1, z2, z3⟩
      · have := (wfH_z0 w).2
        have := w.2.1
        omega
      · refine tail h' _ _ f' _ w' L1' z1 (fun j => z3 j (Nat.zero_le _)) hnw.2 hnw.1 ((q2 h.1 (by omega) (by omega)).trans e1) (by omega) (Or.inr (by omega)) (fun z z1 z2 => (q2 z z1 (by omega)).trans (e3 z z1 z2)) ?_ ?_
        · show b.1 ≤ b.1 - 1 - 1 + 2
          omega
        · show b.2 ≤ b.2 - k1 - _ + 100
          omega
end RA
