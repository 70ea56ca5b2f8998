/-! THE PLAIN LAW: a line of a find or of a spring, raw -/
theorem tmp_6 {κ : Nat → Nat} {i a b c d e f : Nat} : tmp κ (i + 1) [a, b, c, d, e, f] = if κ (i + 1) = a then (if κ (i + 2) = b then (if κ (i + 3) = c then (if κ (i + 4) = d then (if κ (i + 5) = e then (if κ (i + 6) = f then .inl (i + 7) else .inr (i + 6)) else .inr (i + 5)) else .inr (i + 4)) else .inr (i + 3)) else .inr (i + 2)) else .inr (i + 1) := rfl
theorem tmp_4 {κ : Nat → Nat} {i a b c d : Nat} : tmp κ (i + 1) [a, b, c, d] = if κ (i + 1) = a then (if κ (i + 2) = b then (if κ (i + 3) = c then (if κ (i + 4) = d then .inl (i + 5) else .inr (i + 4)) else .inr (i + 3)) else .inr (i + 2)) else .inr (i + 1) := rfl
theorem gd1 {x : Nat → Nat → Int32} {c : Nat} : gdP 1 x c ↔ x 30 c = -1 := by
  unfold gdP
  rw [if_neg (by decide)]
theorem gd0 {x : Nat → Nat → Int32} {c : Nat} : gdP 0 x c ↔ x 31 c = 0 := by
  unfold gdP
  rw [if_pos rfl]
/-- the words of a find -/
def cdF (co : Bool) : List Nat := if co = true then [8, 31, 44, 31, 9, 31] else [8, 31, 44, 31, 10, 30]
/-- a find's fault in the second walk -/
def eFin (nf nsN stN : Nat) (x : Nat → Nat → Int32) (k : Nat) (kt : Nat → List Nat) (u : Nat → Nat) (sz i : Nat) (co : Bool) : Option (Int32 × Nat) := if 24 ≤ nf then some (4, i) else if nsN ≤ nbT u sz (i + 2) then some (5, i + 2) else if stN ≤ nbT u sz (i + 4) then some (5, i + 4) else if x 30 (10 * nbT u sz (i + 2) + nbT u sz (i + 4)) ≠ -1 then some (2, i + 4) else if co = true then (if 999 < nbT u sz (i + 6) then some (5, i + 6) else none) else if fdK kt (txT u sz (i + 6)) (List.range k) = none then some (3, i + 6) else none
def eSpr (nsN stN : Nat) (x : Nat → Nat → Int32) (u : Nat → Nat) (sz i : Nat) : Option (Int32 × Nat) := if nsN ≤ nbT u sz (i + 2) then some (5, i + 2) else if stN ≤ nbT u sz (i + 4) then some (5, i + 4) else if x 31 (10 * nbT u sz (i + 2) + nbT u sz (i + 4)) ≠ 0 then some (2, i + 4) else none
def EF (w : Int32) (nf nsN stN : Nat) (x : Nat → Nat → Int32) (k : Nat) (kt : Nat → List Nat) (u : Nat → Nat) (sz i : Nat) (co : Bool) (er : Int32) (t : Nat) : Prop := (w = 0 ∧ er = 1 ∧ tmp (kdT u sz) (i + 1) (cdF co) = .inr t) ∨ (w ≠ 0 ∧ eFin nf nsN stN x k kt u sz i co = some (er, t))
def ES (w : Int32) (nsN stN : Nat) (x : Nat → Nat → Int32) (u : Nat → Nat) (sz i : Nat) (er : Int32) (t : Nat) : Prop := (w = 0 ∧ er = 1 ∧ tmp (kdT u sz) (i + 1) [8, 31, 44, 31] = .inr t) ∨ (w ≠ 0 ∧ eSpr nsN stN x u sz i = some (er, t))
section LFI
variable {G : sd_G} {u : Nat → Nat} {sz n0 n1 tl so m rd k : Nat} {ta tx : Nat → Nat} {w : Int32} {ky nd iv : Nat → Nat} {kt : Nat → List Nat} {β b : Nat × Nat} {h h' : sd_H} {i d v n2 : Nat} {x : Nat → Nat → Int32} {ad : Nat → Nat} {mcs : Nat → Int32}
/-- a cell that the reader's world does not hold is changed -/
theorem RW_os {a d' : Nat} {fs : List Value} {e : sd_E} (R : RW G u sz n0 tl ta tx rd w so m k ky nd iv kt n1 i d h) (ha : h.2 a = some (.inr (d', fs))) (hd : isRC (.inr (d', fs)) = false) (h41 : d' ≠ 41) : RW G u sz n0 tl ta tx rd w so m k ky nd iv kt n1 i d (sd_up h a e) := by
  obtain ⟨mc0, r0, cap0, f0, e1, e2, -⟩ := R.2.2.1.1
  refine ⟨wfH_up R.1 ha, R.2.1, RC_kp R.2.2 (fun z e' hz he => ?_) (fun mc r n q => ?_)⟩
  · have hz := cut_in.mp hz
    refine cut_in.mpr ⟨hz.1, (up_ne ?_).trans hz.2⟩
    rintro rfl
    have := hz.2
    rw [ha] at this
    cases this
    rw [hd] at he
    cases he
  · rw [e1] at q
    have er := aL_r (Option.some.inj q)
    subst er
    have q1 := cut_in.mp e1
    have q2 := cut_in.mp e2
    have na : tl ≠ a := by
      rintro rfl
      have := q1.2
      rw [ha] at this
      cases this
      exact h41 rfl
    have nr : r0 ≠ a := by
      rintro rfl
      have := q2.2
      rw [ha] at this
      cases this
    refine ⟨?_, fun e' he => ?_⟩
    · rw [← q]
      exact cut_in.mpr ⟨q1.1, (up_ne na).trans q1.2⟩
    · have he := cut_in.mp he
      exact cut_in.mpr ⟨he.1, (up_ne nr).trans he.2⟩
theorem tlw_kp {h' : sd_H} (T : tlw n2 tl h) (TK0 : TK G u sz n0 tl ta tx h) (e : ∀ mc r n, h.2 tl = some (aL mc r n) → h'.2 tl = some (aL mc r n)) : tlw n2 tl h' := by
  obtain ⟨mc0, r0, cap0, f0, e1, -⟩ := TK0.1
  refine ⟨T.1, fun mc' r2 n q => ?_⟩
  rw [e _ _ _ e1] at q
  rw [← aL_r (Option.some.inj q)]
  exact T.2 _ _ _ e1
theorem c_fnd {o : Nat} {co : Bool} {x y z : Value} {z1 z2 : Int32} {Q : Unit → sd_H → Nat × Nat → Prop} (ho : h.2 o = some (.inr (11, [x, y, z]))) : wp (fX12_init G o (bI co) z1 z2) h b Q = Q () (sd_up h o (.inr (11, [.int (bI co), .int z1, .int z2]))) b := by
  have n1 : narrow .boolean (.int (bI co)) = .int (bI co) := by cases co <;> rfl
  have n2 : fits .boolean (.int (bI co)) = true := by cases co <;> rfl
  unfold fX12_init
  rw [wp_bnd, wp_put ho (Nat.le_of_ble_eq_true rfl) n1 n2, wp_bnd, wp_put (up_at _ _ _) (Nat.le_of_ble_eq_true rfl) rfl rfl, wp_bnd, up_up, wp_put (up_at _ _ _) (Nat.le_of_ble_eq_true rfl) rfl rfl, wp_ret, up_up]
  rfl
/-- the find itself -/
theorem w_fin84 {E0 r sz' cap cu : Nat} {st ns mc told z0 z1 z2 z3 : Int32} {F : Nat → Nat} {f : Nat → Option Nat} {co : Bool} {Q : Unit ⊕ Nat → sd_H → Nat × Nat → Prop} (R : RW G u sz n0 tl ta tx rd w so m k ky nd iv kt n1 i d h) (hn0 : n0 ≤ h.1) (h02 : n0 ≤ n2) (T : tlw n2 tl h) (hso : h.2 so = some (aSo st ns F E0)) (L : lsO G h (F 4) mc r sz' cap f) (ha : n2 ≤ F 4) (hr : r = sd_ad G 0 ∨ n2 ≤ r) (hsz : sz' ≤ 400) (hel : ∀ j, j < sz' → sd_okQ G h 4 (f j) = true) (hc : h.2 cu = some (.inr (3, [.int z0, .int z1, .int z2, .int z3]))) (hb : bud β b v) (hv : 50 ≤ v)
    (kk : ∀ h' mc' r' cap' f' b', wfH G h' → RC G u sz n0 tl ta tx rd w so m k ky nd iv kt i d h' → tlw n2 tl h' → lsO G h' (F 4) mc' r' (sz' + 1) cap' f' → (∀ j, j < sz' → f' j = f j) → f' sz' = some h.1 → h'.2 h.1 = some (.inr (11, [.int (bI co), .int told, .int z0])) → (r' = r ∨ h.1 ≤ r') → (r' = sd_ad G 0 ∨ n2 ≤ r') → fz n0 h h' → (∀ a e, h.2 a = some e → a ≠ F 4 → a ≠ r → h'.2 a = some e) → bud β b' (v - 45) → Q (.inl ()) h' b') : wp (fX7_find_b84 G rd (bI co) cu told) h b Q := by
  have hb1 := hb.1
  have hb2 := hb.2
  unfold fX7_find_b84
  rw [wp_bnd, (rd_rd (RW_in R).2.1).2.2.2.2.1, wp_bnd, (aSo_rd hso).2.2.2.2.1, wp_bnd]
  refine wp_new (by omega) (by omega) ?_
  have c1 : (sd_pu h (.inr (11, [.int 0, .int 0, .int 0]))).2 cu = some (.inr (3, [.int z0, .int z1, .int z2, .int z3])) := (pu_ne (by have := (R.1.1 _ _ hc).2; omega)).trans hc
  rw [wp_bnd, wp_getI (sd_look_new c1) rfl, wp_bnd, c_fnd (pu_at _ _), pu_up]
  have R1 : RW G u sz n0 tl ta tx rd w so m k ky nd iv kt n1 i d (sd_pu h (.inr (11, [.int (bI co), .int told, .int z0]))) := RW_pu R
  have X1 : xf rd (nmA u sz tx) h (sd_pu h (.inr (11, [.int (bI co), .int told, .int z0]))) := xf_pu R.1
  have o1 := pu_at h (.inr (11, [.int (bI co), .int told, .int z0]))
  have L1 := xf_ls R X1 L
  have T1 : tlw n2 tl (sd_pu h (.inr (11, [.int (bI co), .int told, .int z0]))) := tlw_kp T (RW_in R).1 (fun mc r n q => xf_o R X1 q (by decide) (by decide))
  have ok1 : sd_okQ G (sd_pu h (.inr (11, [.int (bI co), .int told, .int z0]))) 4 (some h.1) = true := by
    unfold sd_okQ
    simp only [sd_look_new o1]
    rfl
  rw [wp_bnd, wp_isC (sd_look_new L1.1), wp_bnd]
  have hb' : bud β (b.1 - 1, b.2 - 3) (v - 1) := bud_new (c := 1) hb (by omega) (by omega)
  refine l_add (v' := v - 45) R1.1 (RW_in R1) T1 h02 L1 ha hr hsz (fun j hj => xf_ok R X1 R1.1 (hel j hj)) ok1 hb' (by omega) (fun h6 mc' r' cap' f' b6 w6 R6 T6 L6 g1 g2 g3 g4 g5 g6 g7 B6 => ?_)
  have ne1 : ∀ z d' fs, (sd_pu h (.inr (11, [.int (bI co), .int told, .int z0]))).2 z = some (.inr (d', fs)) → d' ≠ 41 → z ≠ F 4 ∧ z ≠ r := by
    intro z d' fs hz hd'
    constructor
    · rintro rfl
      rw [L1.1] at hz
      cases hz
      exact hd' rfl
    · rintro rfl
      rcases L1.2.1 with ⟨q, -⟩ | ⟨q, -⟩
      · rw [q, (wfH_z0 R1.1).1] at hz
        cases hz
      · rw [q] at hz
        cases hz
  rw [wp_ret]
  obtain ⟨q1, q2⟩ := ne1 _ _ _ o1 (by decide)
  refine kk h6 mc' r' cap' f' b6 w6 R6 T6 L6 g1 g2 (g6 _ _ q1 q2 o1) ?_ g4 ((fz_pu hn0).trans g7) (fun a e q3 q4 q5 => g6 a e q4 q5 ((pu_ne (by have := (R.1.1 _ _ q3).2; omega)).trans q3)) B6
  rcases g3 with q | q
  · exact Or.inl q
  · exact Or.inr (by have q : h.1 + 1 ≤ r' := q; omega)
end LFI
