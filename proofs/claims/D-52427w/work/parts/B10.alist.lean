/-! THE PLAIN LAW: lists of the library, read -/
abbrev aR (n : Nat) (f : Nat → Option Nat) : sd_E := .inl (4, n, .inr (.inr (.inr (.inr f))))
abbrev aL (mc : Int32) (r n : Nat) : sd_E := .inr (41, [.int mc, .ref r, .int (n3 n)])
section AL
variable {G : sd_G} {h : sd_H} {a r sz cap : Nat} {mc : Int32} {f : Nat → Option Nat}
theorem al_rd (ha : sd_look G h a = some (aL mc r sz)) : (∀ b (Q : Int32 → sd_H → Nat × Nat → Prop), wp (sd_getI G 41 0 a) h b Q = Q mc h b) ∧ (∀ b (Q : Nat → sd_H → Nat × Nat → Prop), wp (sd_getR G 41 1 a) h b Q = Q r h b) ∧ (∀ b (Q : Int32 → sd_H → Nat × Nat → Prop), wp (sd_getI G 41 2 a) h b Q = Q (n3 sz) h b) ∧ (∀ b (Q : Unit → sd_H → Nat × Nat → Prop), wp (sd_isC G 41 a) h b Q = Q () h b) ∧ (∀ b (Q : Unit → sd_H → Nat × Nat → Prop), wp (sd_cast G [41] a) h b Q = Q () h b) := ⟨fun _ _ => wp_getI ha rfl, fun _ _ => wp_getR ha rfl, fun _ _ => wp_getI ha rfl, fun _ _ => wp_isC ha, fun _ _ => wp_cast ha (by decide)⟩
theorem j_size {b : Nat × Nat} {Q : Int32 → sd_H → Nat × Nat → Prop} (ha : sd_look G h a = some (aL mc r sz)) : wp (fJ2_size G a) h b Q = Q (n3 sz) h b := by
  unfold fJ2_size
  simp only [wp_bnd, wp_ret, al_rd ha]
theorem n3_nlt0 {k : Nat} (hk : k < 2147483648) : (n3 k < 0) = False := by
  rw [show (0 : Int32) = n3 0 from rfl, n3_lt hk (by omega)]
  exact propext ⟨fun h => by omega, fun h => h.elim⟩
theorem j_get {b : Nat × Nat} {k w : Nat} {Q : Nat → sd_H → Nat × Nat → Prop} (ha : sd_look G h a = some (aL mc r sz)) (hr : sd_look G h r = some (aR cap f)) (hk : k < sz) (hc : sz ≤ cap) (hb : cap ≤ 1000000) (hf : f k = some w) : wp (fJ2_get G a (n3 k)) h b Q = Q w h b := by
  unfold fJ2_get fJ23_checkIndex fJ17_checkIndex fJ2_elementData
  have h2 : (n3 k < n3 sz) = True := by
    rw [n3_lt (by omega) (by omega)]
    exact eq_true hk
  simp only [wp_bnd, wp_ret, wp_ite, al_rd ha, n3_nlt0 (show k < 2147483648 by omega), h2, ↓reduceIte]
  rw [wp_aldR hr (n3_ix (by omega) (by omega)) (by rw [n3_nn (by omega)]; exact hf)]
end AL
theorem n3_subl3 {a b : Nat} (ha : a < 1000) (hb : b < 1000) : (n3 a - n3 b ≤ 3) = (a ≤ b + 3) := by
  apply propext
  rw [Int32.le_iff_toInt_le, Int32.toInt_sub, n3_toInt (by omega), n3_toInt (by omega), Int.bmod_eq_of_le (by omega) (by omega)]
  have : (3 : Int32).toInt = 3 := rfl
  rw [this]
  omega
/-! iterators -/
abbrev aI (cur last em : Int32) (l : Nat) : sd_E := .inr (42, [.int cur, .int last, .int em, .ref l])
section IT
variable {G : sd_G} {h : sd_H} {a r sz cap it : Nat} {mc cur last em : Int32} {f : Nat → Option Nat} {b : Nat × Nat}
theorem it_rd (hi : sd_look G h it = some (aI cur last em a)) : (∀ b (Q : Int32 → sd_H → Nat × Nat → Prop), wp (sd_getI G 42 0 it) h b Q = Q cur h b) ∧ (∀ b (Q : Int32 → sd_H → Nat × Nat → Prop), wp (sd_getI G 42 1 it) h b Q = Q last h b) ∧ (∀ b (Q : Int32 → sd_H → Nat × Nat → Prop), wp (sd_getI G 42 2 it) h b Q = Q em h b) ∧ (∀ b (Q : Nat → sd_H → Nat × Nat → Prop), wp (sd_getR G 42 3 it) h b Q = Q a h b) ∧ (∀ b (Q : Unit → sd_H → Nat × Nat → Prop), wp (sd_isC G 42 it) h b Q = Q () h b) := ⟨fun _ _ => wp_getI hi rfl, fun _ _ => wp_getI hi rfl, fun _ _ => wp_getI hi rfl, fun _ _ => wp_getR hi rfl, fun _ _ => wp_isC hi⟩
theorem j_hasNext {k : Nat} {Q : Int32 → sd_H → Nat × Nat → Prop} (hi : sd_look G h it = some (aI (n3 k) last em a)) (ha : sd_look G h a = some (aL mc r sz)) (hk : k < 2147483648) (hs : sz < 2147483648) : wp (fJ31_hasNext G it) h b Q = if k = sz then Q 0 h b else Q 1 h b := by
  unfold fJ31_hasNext
  simp only [wp_bnd, wp_ret, wp_ite, it_rd hi, al_rd ha, n3_eq hk hs]
theorem j_next {k w : Nat} {Q : Nat → sd_H → Nat × Nat → Prop} (hi : h.2 it = some (aI (n3 k) last mc a)) (ha : sd_look G h a = some (aL mc r sz)) (hr : sd_look G h r = some (aR cap f)) (hne : it ≠ a) (hne2 : it ≠ r) (hk : k < sz) (hc : sz ≤ cap) (hb : cap ≤ 1000000) (hf : f k = some w) : wp (fJ31_next G it) h b Q = Q w (sd_up h it (aI (n3 (k + 1)) (n3 k) mc a)) b := by
  have hi' : sd_look G h it = some (aI (n3 k) last mc a) := sd_look_new hi
  have h1 : (n3 k < n3 sz) = True := by
    rw [n3_lt (by omega) (by omega)]
    exact eq_true hk
  have h2 : (n3 k < n3 cap) = True := by
    rw [n3_lt (by omega) (by omega)]
    exact eq_true (by omega)
  unfold fJ31_next fJ31_checkForComodification
  simp only [wp_bnd, wp_ret, wp_ite, it_rd hi', al_rd ha, ↓reduceIte, h1, wp_alen hr, h2]
  rw [wp_put hi (Nat.le_of_ble_eq_true rfl) rfl rfl]
  have hu : (sd_up h it (.inr (42, [Value.int (n3 k), .int last, .int mc, .ref a].set 0 (.int (n3 k + 1))))).2 it = some (aI (n3 k + 1) last mc a) := if_pos rfl
  rw [wp_put hu (Nat.le_of_ble_eq_true rfl) rfl rfl]
  have e : ∀ (e1 e2 : sd_E), sd_up (sd_up h it e1) it e2 = sd_up h it e2 := by
    intro e1 e2
    refine Prod.ext rfl (funext fun q => ?_)
    show (if q = it then _ else (if q = it then _ else _)) = if q = it then _ else _
    split <;> rfl
  rw [e]
  have hr' : sd_look G (sd_up h it (aI (n3 k + 1) (n3 k) mc a)) r = some (aR cap f) := by
    unfold sd_look sd_up
    simp only
    rw [if_neg (fun e => hne2 e.symm)]
    exact hr
  have e2 : ([Value.int (n3 k + 1), .int last, .int mc, .ref a].set 1 (.int (n3 k))) = [.int (n3 k + 1), .int (n3 k), .int mc, .ref a] := rfl
  rw [e2, wp_aldR hr' (n3_ix (by omega) (by omega)) (by rw [n3_nn (by omega)]; exact hf)]
  rw [show n3 k + 1 = n3 (k + 1) from n3_add k 1]
end IT
