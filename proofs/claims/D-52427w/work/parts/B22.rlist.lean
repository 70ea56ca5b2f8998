/-! THE PLAIN LAW: lists of the library, on any heap -/
/-- a list at a: sz elements f, room for cap; its array is its own, or the library's empty one -/
def lsO (G : sd_G) (h : sd_H) (a : Nat) (mc : Int32) (r sz cap : Nat) (f : Nat → Option Nat) : Prop := h.2 a = some (aL mc r sz) ∧ ((r = sd_ad G 0 ∧ sz = 0 ∧ cap = 0) ∨ (h.2 r = some (aR cap f) ∧ 1 ≤ cap ∧ ∀ j, sz ≤ j → f j = none)) ∧ sz ≤ cap ∧ cap ≤ 1000
/-- nothing else has changed -/
def fr2 (h h' : sd_H) (a r : Nat) : Prop := ∀ z, z ≠ a → z ≠ r → z < h.1 → h'.2 z = h.2 z
theorem wp_alenR {G : sd_G} {h : sd_H} {a n : Nat} {f : Nat → Option Nat} {b : Nat × Nat} {Q : Int32 → sd_H → Nat × Nat → Prop} (e : sd_look G h a = some (aR n f)) : wp (sd_alen G a) h b Q = Q (n3 n) h b := wp_alen e
section RL
variable {G : sd_G} {h : sd_H} {a r sz cap : Nat} {mc : Int32} {f : Nat → Option Nat} {b : Nat × Nat}
theorem lsO_ne (L : lsO G h a mc r sz cap f) (w : wfH G h) : r ≠ a := by
  obtain ⟨l1, l2, -⟩ := L
  intro e
  subst e
  rcases l2 with ⟨e, -⟩ | ⟨e, -⟩
  · rw [e, (wfH_z0 w).1] at l1
    cases l1
  · rw [l1] at e
    cases e
theorem lsO_arr (L : lsO G h a mc r sz cap f) (w : wfH G h) : ∃ g, sd_look G h r = some (aR cap g) ∧ (∀ k, k < sz → g k = f k) := by
  obtain ⟨-, l2, -⟩ := L
  rcases l2 with ⟨e, e1, e2⟩ | ⟨e, -⟩
  · obtain ⟨g, hg⟩ := wfH_z w
    subst e e1 e2
    exact ⟨g, hg, fun k hk => absurd hk (Nat.not_lt_zero k)⟩
  · exact ⟨f, sd_look_new e, fun _ _ => rfl⟩
theorem g_put {ci k : Nat} {fs : List Value} {ty : FieldType} {v : Value} {Q : Unit → sd_H → Nat × Nat → Prop} (hc : h.2 a = some (.inr (ci, fs))) (h1 : k < fs.length) (h2 : narrow ty v = v) (h3 : fits ty v = true) : wp (sd_put ci k ty a v) h b Q = Q () (sd_up h a (.inr (ci, fs.set k v))) b := wp_put hc h1 h2 h3
theorem up_up (e e' : sd_E) : sd_up (sd_up h a e) a e' = sd_up h a e' := by
  refine Prod.ext rfl (funext fun z => ?_)
  show (if z = a then some e' else (if z = a then some e else h.2 z)) = if z = a then some e' else h.2 z
  split <;> rfl
theorem n3_half : ∀ c, c ≤ 1000 → n3 c >>> ((1 : Int32) &&& 31) = n3 (c / 2) := by
  have key : ∀ c : Fin 1001, n3 c.val >>> ((1 : Int32) &&& 31) = n3 (c.val / 2) := by decide +kernel
  exact fun c hc => key ⟨c, by omega⟩
theorem mxI_n3 {x y : Nat} (hx : x < 2147483648) (hy : y < 2147483648) : mxI (n3 x) (n3 y) = n3 (max x y) := by
  unfold mxI
  simp only [n3_lt hx hy]
  split
  · rw [Nat.max_eq_right (by omega)]
  · rw [Nat.max_eq_left (by omega)]
theorem mnI_n3 {x y : Nat} (hx : x < 2147483648) (hy : y < 2147483648) : (if n3 y < n3 x then n3 y else n3 x) = n3 (min x y) := by
  simp only [n3_lt hy hx]
  split
  · rw [Nat.min_eq_right (by omega)]
  · rw [Nat.min_eq_left (by omega)]
theorem g_cpQ {a0 k n0 n1 d : Nat} {f g : Nat → Option Nat} {Q : Unit → sd_H → Nat × Nat → Prop} (e0 : sd_look G h a0 = some (aR n0 f)) (e1 : h.2 a = some (aR n1 g)) (h0 : k ≤ n0) (h1 : d + k ≤ n1) (hn : n0 ≤ 1000000) (hn1 : n1 ≤ 1000000) (hel : ∀ j, j < k → sd_okQ G h 4 (f j) = true) : wp (sd_cpQ G 4 a0 0 a (n3 d) (n3 k)) h b Q = Q () (sd_up h a (aR n1 (va_cpy f g 0 d k))) b := by
  refine wp_eq ?_
  unfold sd_cpQ
  simp only [e0, e1]
  have hz : (0 : Int32).toNatClampNeg = 0 := rfl
  have x1 : ¬ n3 k < 0 := by rw [n3_nlt0 (by omega)]; exact id
  have x2 : ¬ n3 d < 0 := by rw [n3_nlt0 (by omega)]; exact id
  rw [n3_nn (by omega), n3_nn (by omega), hz, if_pos]
  refine ⟨trivial, trivial, by decide, x2, x1, by omega, by omega, ?_⟩
  rw [List.all_eq_true]
  intro j hj
  rw [Nat.zero_add]
  exact hel j (List.mem_range.mp hj)
theorem g_cpQ0 {a0 k n0 n1 : Nat} {f g : Nat → Option Nat} {Q : Unit → sd_H → Nat × Nat → Prop} (e0 : sd_look G h a0 = some (aR n0 f)) (e1 : h.2 a = some (aR n1 g)) (h0 : k ≤ n0) (h1 : k ≤ n1) (hn : n0 ≤ 1000000) (hn1 : n1 ≤ 1000000) (hel : ∀ j, j < k → sd_okQ G h 4 (f j) = true) : wp (sd_cpQ G 4 a0 0 a 0 (n3 k)) h b Q = Q () (sd_up h a (aR n1 (va_cpy f g 0 0 k))) b := g_cpQ (d := 0) e0 e1 h0 (by omega) hn hn1 hel
theorem okQ_up {v : Option Nat} {e e0 : sd_E} (ha : h.2 a = some e0) (he : ∀ o, e0 = .inr o → ∃ o', e = .inr o' ∧ o'.1 = o.1) (ho : sd_okQ G h 4 v = true) : sd_okQ G (sd_up h a e) 4 v = true := by
  cases v with
  | none => rfl
  | some y =>
    obtain ⟨o, h1, h2⟩ := sd_okQ_some ho
    unfold sd_okQ
    by_cases c : y = a
    · subst c
      rw [sd_look_new ha] at h1
      obtain ⟨o', k1, k2⟩ := he o (Option.some.inj h1)
      simp only [sd_look_new (up_at h y e)]
      rw [k1]
      show sd_may 4 o'.1 = true
      rw [k2]
      exact h2
    · simp only [look_eq (G := G) (up_ne (e := e) (h := h) c), h1]
      exact h2
theorem okQ_pu {v : Option Nat} {e : sd_E} (w : wfH G h) (ho : sd_okQ G h 4 v = true) : sd_okQ G (sd_pu h e) 4 v = true := by
  cases v with
  | none => rfl
  | some y =>
    obtain ⟨o, h1, h2⟩ := sd_okQ_some ho
    have c : y ≠ h.1 := by
      have := wfH_lt w h1
      omega
    unfold sd_okQ
    simp only [look_eq (G := G) (pu_ne (e := e) (h := h) c), h1]
    exact h2
/-- room for more is made -/
theorem g_grow {nw k : Nat} {Q : Nat → sd_H → Nat × Nat → Prop} (w : wfH G h) (L : lsO G h a mc r sz cap f) (hk : cap < k) (hk2 : k ≤ 500) (hw : nw = if cap = 0 then max 10 k else cap + max (k - cap) (cap / 2)) (hel : ∀ j, j < sz → sd_okQ G h 4 (f j) = true) (h1 : 1 ≤ b.1) (h2 : nw ≤ b.2) (kk : ∀ h' f', wfH G h' → lsO G h' a mc h.1 sz nw f' → h'.1 = h.1 + 1 → (∀ j, j < sz → f' j = f j) → (∀ z, z ≠ a → z < h.1 → h'.2 z = h.2 z) → Q h.1 h' (b.1 - 1, b.2 - nw)) : wp (fJ2_grow_2 G a (n3 k)) h b Q := by
  have hnw : k ≤ nw ∧ nw ≤ 1000 ∧ 1 ≤ nw := by
    rw [hw]
    split <;> omega
  have l1 := sd_look_new (G := G) L.1
  obtain ⟨g, l2, -⟩ := lsO_arr L w
  have hne := lsO_ne L w
  obtain ⟨L1, L2, L3, L4⟩ := L
  have han := (w.1 _ _ L1).2
  unfold fJ2_grow_2
  rw [wp_bnd, (al_rd l1).2.1, wp_bnd, wp_alenR l2]
  rcases L2 with ⟨e1, e2, e3⟩ | ⟨e1, e2, e3⟩
  · subst e3
    rw [if_pos rfl] at hw
    have e4 : ¬ ((0 : Int32) < n3 0) := by decide
    rw [if_neg e4, wp_bnd, (al_rd l1).2.1, if_pos e1, wp_bnd, j_max, show (10 : Int32) = n3 10 from rfl, mxI_n3 (by omega) (by omega), ← hw, wp_bnd]
    refine wp_newQ (by omega) h1 h2 ?_
    have c1 : (sd_pu h (aR nw (fun _ => none))).2 a = some (aL mc r sz) := (pu_ne (by omega)).trans L1
    rw [wp_bnd, g_put c1 (Nat.le_of_ble_eq_true rfl) rfl rfl, wp_ret]
    refine kk _ (fun _ => none) (wfH_up (wfH_pu w) c1) ⟨up_at _ _ _, Or.inr ⟨(up_ne (by omega)).trans (pu_at _ _), by omega, fun _ _ => rfl⟩, by omega, by omega⟩ rfl (fun j hj => by omega) (fun z hz hz2 => (up_ne hz).trans (pu_ne (by omega)))
  · rw [if_neg (by omega)] at hw
    have e4 : (0 : Int32) < n3 cap := by
      rw [show (0 : Int32) = n3 0 from rfl, n3_lt (by omega) (by omega)]
      omega
    have e5 : ¬ (n3 nw ≤ 0) := by
      rw [show (0 : Int32) = n3 0 from rfl, n3_le (by omega) (by omega)]
      omega
    have e6 : ¬ ((2147483639 : Int32) < n3 nw) := by
      rw [show (2147483639 : Int32) = n3 2147483639 from rfl, n3_lt (by omega) (by omega)]
      omega
    rw [if_pos e4]
    unfold fJ2_grow_2_b20 fJ3_newLength fJ5_copyOf fJ5_copyOf_2
    rw [wp_bnd, wp_bnd, n3_half cap (by omega), n3_sub (by omega), j_max, mxI_n3 (by omega) (by omega), wp_bnd, n3_add, ← hw, wp_ret, if_neg e5, if_neg e6, wp_ret, wp_bnd, (al_rd l1).2.1, wp_bnd, wp_bnd, wp_isO (sd_look_new e1), wp_bnd, if_pos rfl, wp_bnd]
    refine wp_newQ (by omega) h1 h2 ?_
    have hrn := (w.1 _ _ e1).2
    have c0 : (sd_pu h (aR nw (fun _ => none))).2 r = some (aR cap f) := (pu_ne (by omega)).trans e1
    rw [wp_bnd, wp_alenR (sd_look_new c0), wp_bnd, j_min, mnI_n3 (by omega) (by omega), Nat.min_eq_left (by omega), wp_bnd]
    have el : ∀ j, j < cap → sd_okQ G (sd_pu h (aR nw (fun _ => none))) 4 (f j) = true := by
      intro j hj
      by_cases c : j < sz
      · exact okQ_pu w (hel j c)
      · rw [e3 j (by omega)]
        rfl
    rw [g_cpQ0 (sd_look_new c0) (pu_at h _) (Nat.le_refl _) (by omega) (by omega) (by omega) el, wp_ret, wp_ret, wp_bnd]
    have c1 : (sd_up (sd_pu h (aR nw (fun _ => none))) h.1 (aR nw (va_cpy f (fun _ => none) 0 0 cap))).2 a = some (aL mc r sz) := (up_ne (by omega)).trans ((pu_ne (by omega)).trans L1)
    rw [g_put c1 (Nat.le_of_ble_eq_true rfl) rfl rfl, wp_ret]
    refine kk _ (va_cpy f (fun _ => none) 0 0 cap) (wfH_up (wfH_up (wfH_pu w) (pu_at h _)) c1) ⟨up_at _ _ _, Or.inr ⟨(up_ne (by omega)).trans (up_at _ _ _), by omega, fun j hj => ?_⟩, by omega, by omega⟩ rfl (fun j hj => ?_) (fun z hz hz2 => (up_ne hz).trans ((up_ne (by omega)).trans (pu_ne (by omega))))
    · unfold va_cpy
      split
      · rw [show 0 + (j - 0) = j by omega]
        exact e3 j hj
      · rfl
    · unfold va_cpy
      rw [if_pos (by omega), show 0 + (j - 0) = j by omega]
end RL
