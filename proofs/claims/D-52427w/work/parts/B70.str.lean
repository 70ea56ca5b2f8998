/-! THE PLAIN LAW: strings made and compared -/
/-- a byte of a string -/
def sb (c : Nat) : Int32 := sd_nar 2 (n3 c).toInt8.toInt32
theorem sb_lo : ∀ c, c < 128 → sb c = n3 c := by
  have key : ∀ c : Fin 128, sb c.val = n3 c.val := by decide +kernel
  exact fun c hc => key ⟨c, hc⟩
theorem sb_fit : ∀ c, c < 256 → fits .byte (.int (sb c)) = true := by
  have key : ∀ c : Fin 256, fits .byte (.int (sb c.val)) = true := by decide +kernel
  exact fun c hc => key ⟨c, hc⟩
/-- bytes that fit -/
def fB (n : Nat) (g : Nat → Int32) : Prop := ∀ j, j < n → fits .byte (.int (g j)) = true
abbrev aSB (r : Nat) (z : Int32) (k : Nat) : sd_E := .inr (46, [.ref r, .int 0, .int z, .int (n3 k)])
theorem n3_subn {a b : Nat} (ha : a < 1073741824) (hb : b < 1073741824) : (n3 a - n3 b ≤ 0) = (a ≤ b) := by
  rw [Int32.le_iff_toInt_le, Int32.toInt_sub, n3_toInt (by omega), n3_toInt (by omega), show (0 : Int32).toInt = 0 from rfl]
  rw [Int.bmod_def]
  apply propext
  constructor <;> intro h <;> split at * <;> omega
theorem shr0 (a : Int32) : a >>> ((0 : Int32) &&& 31) = a := by
  rw [show ((0 : Int32) &&& 31) = 0 from by decide]
  exact Int32.toBitVec_inj.1 (by simp)
theorem shl0 (a : Int32) : a <<< ((0 : Int32) &&& 31) = a := by
  rw [show ((0 : Int32) &&& 31) = 0 from by decide]
  exact Int32.toBitVec_inj.1 (by simp)
section SB
variable {G : sd_G} {h : sd_H} {b : Nat × Nat} {o r cap cnt : Nat} {z : Int32} {g : Nat → Int32}
theorem sb_rd (ha : sd_look G h o = some (aSB r z cnt)) : (∀ b (Q : Nat → sd_H → Nat × Nat → Prop), wp (sd_getR G 46 0 o) h b Q = Q r h b) ∧ (∀ b (Q : Int32 → sd_H → Nat × Nat → Prop), wp (sd_getI G 46 1 o) h b Q = Q 0 h b) ∧ (∀ b (Q : Int32 → sd_H → Nat × Nat → Prop), wp (sd_getI G 46 3 o) h b Q = Q (n3 cnt) h b) ∧ (∀ b (Q : Unit → sd_H → Nat × Nat → Prop), wp (sd_isC G 46 o) h b Q = Q () h b) := ⟨fun _ _ => wp_getR ha rfl, fun _ _ => wp_getI ha rfl, fun _ _ => wp_getI ha rfl, fun _ _ => wp_isC ha⟩
theorem wp_cpB {a0 a k n0 n1 : Nat} {f w : Nat → Int32} {Q : Unit → sd_H → Nat × Nat → Prop} (e0 : sd_look G h a0 = some (aB n0 f)) (e1 : h.2 a = some (aB n1 w)) (h0 : k ≤ n0) (h1 : k ≤ n1) (hk : k < 2147483648) (hf : fB n0 f) : wp (sd_cpI G 2 a0 0 a 0 (n3 k)) h b Q = Q () (sd_up h a (aB n1 (va_cpy f w 0 0 k))) b := by
  refine wp_eq ?_
  unfold sd_cpI
  simp only [e0, e1]
  have hn : ¬ n3 k < 0 := by
    rw [show (0 : Int32) = n3 0 from rfl, n3_lt hk (by omega)]
    omega
  have hz : (0 : Int32).toNatClampNeg = 0 := rfl
  rw [n3_nn hk, hz, if_pos]
  refine ⟨trivial, trivial, by decide, by decide, hn, by omega, by omega, Or.inr ⟨trivial, ?_⟩⟩
  rw [List.all_eq_true]
  intro i hi
  rw [List.mem_range] at hi
  rw [Nat.zero_add]
  exact hf i (by omega)
theorem j_copyB {n : Nat} {Q : Nat → sd_H → Nat × Nat → Prop} (w : wfH G h) (hr : sd_look G h r = some (aB cap g)) (hf : fB cap g) (hn : n ≠ cap) (h1 : n ≤ 1000000) (h2 : cap ≤ 1000000) (b1 : 1 ≤ b.1) (b2 : n ≤ b.2) (kk : Q h.1 (sd_pu h (aB n (va_cpy g (fun _ => 0) 0 0 (if n < cap then n else cap)))) (b.1 - 1, b.2 - n)) : wp (fJ5_copyOf_3 G r (n3 n)) h b Q := by
  have hl := wfH_lt w hr
  unfold fJ5_copyOf_3
  rw [wp_bnd, wp_alen hr, wp_ite, if_neg (by show ¬ n3 n = n3 cap; rw [n3_eq (by omega) (by omega)]; exact hn), wp_bnd]
  refine wp_newI h1 b1 b2 ?_
  have l1 : sd_look G (sd_pu h (.inl (2, n, .inl fun _ => 0))) r = some (aB cap g) := (look_eq (pu_ne (by omega))).trans hr
  rw [wp_bnd, wp_alen l1, wp_bnd, j_min]
  have e : (if n3 n < n3 cap then n3 n else n3 cap) = n3 (if n < cap then n else cap) := by
    by_cases c : n < cap
    · rw [if_pos c, if_pos (by rw [n3_lt (by omega) (by omega)]; exact c)]
    · rw [if_neg c, if_neg (by rw [n3_lt (by omega) (by omega)]; exact c)]
  show wp (sd_bnd (sd_cpI G 2 r 0 h.1 0 (if n3 n < n3 cap then n3 n else n3 cap)) _) _ _ _
  rw [e, wp_bnd, wp_cpB l1 (pu_at h _) (by split <;> omega) (by split <;> omega) (by split <;> omega) hf, pu_up, wp_ret]
  exact kk
theorem j_app {c : Nat} {Q : Nat → sd_H → Nat × Nat → Prop} (w : wfH G h) (ho : h.2 o = some (aSB r z cnt)) (hr : h.2 r = some (aB cap g)) (hf : fB cap g) (hc : cnt ≤ cap) (hcap : cap ≤ 100000) (hcc : c < 256) (b1 : 1 ≤ b.1) (b2 : 2 * cap + 2 ≤ b.2)
    (kk : ∀ h' r' cap' g' b', wfH G h' → h'.2 o = some (aSB r' z (cnt + 1)) → h'.2 r' = some (aB cap' g') → fB cap' g' → (∀ j, j < cnt → g' j = g j) → g' cnt = sb c → cnt + 1 ≤ cap' → ((cap' = cap ∧ r' = r ∧ h'.1 = h.1 ∧ b' = b) ∨ (cap = cnt ∧ cap' = 2 * cap + 2 ∧ r' = h.1 ∧ h'.1 = h.1 + 1 ∧ b' = (b.1 - 1, b.2 - (2 * cap + 2)))) → (∀ a, a ≠ o → a ≠ r → a < h.1 → h'.2 a = h.2 a) → Q o h' b') : wp (fJ13_append G o (n3 c)) h b Q := by
  have hor : o ≠ r := by
    intro e
    rw [e, hr] at ho
    cases ho
  have lo := (w.1 _ _ ho).2
  have lr := (w.1 _ _ hr).2
  -- what follows the choice of the array
  have tail : ∀ (h3 : sd_H) (r3 cap3 : Nat) (g3 : Nat → Int32) (b3 : Nat × Nat), wfH G h3 → h3.2 o = some (aSB r3 z cnt) → h3.2 r3 = some (aB cap3 g3) → fB cap3 g3 → (∀ j, j < cnt → g3 j = g j) → cnt + 1 ≤ cap3 → cap3 ≤ 1000000 → ((cap3 = cap ∧ r3 = r ∧ h3.1 = h.1 ∧ b3 = b) ∨ (cap = cnt ∧ cap3 = 2 * cap + 2 ∧ r3 = h.1 ∧ h3.1 = h.1 + 1 ∧ b3 = (b.1 - 1, b.2 - (2 * cap + 2)))) → (∀ a, a ≠ o → a ≠ r → a < h.1 → h3.2 a = h.2 a) → wp (sd_bnd (sd_isC G 46 o) fun _ => sd_bnd (fJ12_isLatin1 G o) fun r2 => if r2 = 0 then sd_fail else sd_bnd (fJ16_canEncode G (n3 c)) fun r3 => if r3 = 0 then sd_fail else sd_bnd (sd_getR G 46 0 o) fun v4 => sd_bnd (sd_getI G 46 3 o) fun v5 => sd_bnd (sd_put 46 3 .int o (.int (v5 + 1))) fun _ => sd_bnd (sd_astI 2 v4 v5 ((n3 c).toInt8.toInt32)) fun _ => sd_ret o) h3 b3 (fun r1 h4 b4 => wp (sd_ret o) h4 b4 Q) := by
    intro h3 r3 cap3 g3 b3 w3 e1 e2 e3 e4 e5 e6 e7 e8
    have hor3 : o ≠ r3 := by
      intro e
      rw [e, e2] at e1
      cases e1
    have l1 : sd_look G h3 o = some (aSB r3 z cnt) := sd_look_new e1
    rw [wp_bnd, (sb_rd l1).2.2.2, wp_bnd]
    unfold fJ12_isLatin1 fJ16_canEncode
    rw [wp_bnd, (sb_rd l1).2.1, wp_ite, if_pos rfl, wp_ret, wp_ite, if_neg (by decide), wp_bnd, wp_ite, if_neg (by rw [show (255 : Int32) = n3 255 from rfl, n3_lt (by omega) (by omega)]; omega), wp_ret, wp_ite, if_neg (by decide), wp_bnd, (sb_rd l1).1, wp_bnd, (sb_rd l1).2.2.1, wp_bnd, g_put e1 (Nat.le_of_ble_eq_true rfl) rfl rfl, wp_bnd, show n3 cnt + 1 = n3 (cnt + 1) from n3_add cnt 1]
    have l2 : (sd_up h3 o (aSB r3 z (cnt + 1))).2 r3 = some (aB cap3 g3) := (up_ne (Ne.symm hor3)).trans e2
    show wp (sd_astI 2 r3 (n3 cnt) _) (sd_up h3 o (aSB r3 z (cnt + 1))) b3 _
    rw [wp_astI l2 (n3_ix (by omega) (by omega)), n3_nn (by omega), wp_ret, wp_ret]
    refine kk _ r3 cap3 (upd g3 cnt (sb c)) b3 (wfH_up (wfH_up w3 e1) l2) ?_ (up_at _ _ _) (fun j hj => ?_) (fun j hj => ?_) (upd_same ..) e5 e7 (fun a a1 a2 a3 => ?_)
    · rw [up_ne hor3]
      exact up_at _ _ _
    · by_cases c' : j = cnt
      · rw [c', upd_same]
        exact sb_fit c hcc
      · rw [upd_ne c']
        exact e3 j hj
    · rw [upd_ne (by omega)]
      exact e4 j hj
    · have : a ≠ r3 := by omega
      rw [up_ne this, up_ne a1]
      exact e8 a a1 a2 a3
  have l1 : sd_look G h o = some (aSB r z cnt) := sd_look_new ho
  have l2 : sd_look G h r = some (aB cap g) := sd_look_new hr
  unfold fJ13_append fJ12_append fJ12_ensureCapacityInternal
  rw [wp_bnd, (sb_rd l1).2.2.2, wp_bnd, wp_bnd, (sb_rd l1).2.2.1, wp_bnd, (sb_rd l1).2.2.2, wp_bnd, wp_bnd, (sb_rd l1).1, wp_bnd, wp_alen l2, wp_bnd, (sb_rd l1).2.1, wp_bnd, wp_ret, show n3 cnt + 1 = n3 (cnt + 1) from n3_add cnt 1, shr0]
  show wp (if n3 (cnt + 1) - n3 cap ≤ 0 then _ else _) h b _
  rw [wp_ite]
  by_cases c1 : cnt + 1 ≤ cap
  · rw [if_pos (by rw [n3_subn (by omega) (by omega)]; exact c1), wp_ret]
    exact tail h r cap g b w ho hr hf (fun _ _ => rfl) c1 (by omega) (Or.inl ⟨rfl, rfl, rfl, rfl⟩) (fun _ _ _ _ => rfl)
  · rw [if_neg (by rw [n3_subn (by omega) (by omega)]; exact c1)]
    have ec : cnt = cap := by omega
    unfold fJ12_newCapacity fJ3_newLength
    rw [wp_bnd, (sb_rd l1).1, wp_bnd, (sb_rd l1).2.2.2, wp_bnd, wp_bnd, (sb_rd l1).1, wp_bnd, wp_alen l2, wp_bnd, (sb_rd l1).2.1, wp_bnd, wp_ret, wp_bnd, wp_ret, wp_bnd, (sb_rd l1).2.1, wp_bnd, wp_bnd, j_max, wp_bnd, wp_ret, shl0, shl0]
    show wp (if n3 cap + mxI (n3 (cnt + 1) - n3 cap) (n3 cap + 2) ≤ 0 then _ else _) h b _
    have e1 : n3 cap + mxI (n3 (cnt + 1) - n3 cap) (n3 cap + 2) = n3 (2 * cap + 2) := by
      rw [n3_sub (by omega), show n3 cap + 2 = n3 (cap + 2) from n3_add cap 2]
      unfold mxI
      rw [if_pos (by rw [n3_lt (by omega) (by omega)]; omega), n3_add, show cap + (cap + 2) = 2 * cap + 2 by omega]
    rw [e1, wp_ite, if_neg (by rw [show (0 : Int32) = n3 0 from rfl, n3_le (by omega) (by omega)]; omega), wp_ite, if_neg (by rw [show (2147483639 : Int32) = n3 2147483639 from rfl, n3_lt (by omega) (by omega)]; omega), wp_ret, wp_ite, if_neg (by rw [show (2147483647 : Int32) = n3 2147483647 from rfl, n3_eq (by omega) (by omega)]; omega), wp_bnd, (sb_rd l1).2.1, wp_ret, shr0, wp_bnd, (sb_rd l1).2.1, wp_bnd, shl0]
    refine j_copyB w l2 hf (by omega) (by omega) (by omega) b1 b2 ?_
    have e2 : (if 2 * cap + 2 < cap then 2 * cap + 2 else cap) = cap := if_neg (by omega)
    rw [e2]
    have p1 : (sd_pu h (aB (2 * cap + 2) (va_cpy g (fun _ => 0) 0 0 cap))).2 o = some (aSB r z cnt) := (pu_ne (by omega)).trans ho
    rw [wp_bnd, g_put p1 (Nat.le_of_ble_eq_true rfl) rfl rfl, wp_ret]
    refine tail _ h.1 (2 * cap + 2) (va_cpy g (fun _ => 0) 0 0 cap) _ (wfH_up (wfH_pu w) p1) (up_at _ _ _) ((up_ne (by omega)).trans (pu_at _ _)) (fun j hj => ?_) (fun j hj => ?_) (by omega) (by omega) (Or.inr ⟨ec.symm, rfl, rfl, rfl, rfl⟩) (fun a a1 a2 a3 => ?_)
    · unfold va_cpy
      split
      · next hj2 =>
        rw [show 0 + (j - 0) = j by omega]
        exact hf j (by omega)
      · exact sb_fit 0 (by omega)
    · unfold va_cpy
      rw [if_pos (by omega), show 0 + (j - 0) = j by omega]
    · rw [up_ne a1]
      exact pu_ne (by omega)
end SB
