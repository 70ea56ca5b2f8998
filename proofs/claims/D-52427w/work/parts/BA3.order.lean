/-! THE PLAIN LAW: a line of an order, raw -/
/-- the form of an order at token i -/
def oFm (u : Nat → Nat) (sz i : Nat) : Ln ⊕ Nat := if kdT u sz i = 11 ∨ kdT u sz i = 12 ∨ kdT u sz i = 13 then pOrd (kdT u sz) (vlT u sz) i else .inr i
def eOrd (no : Nat) (wk : Nat → Option Nat) (u : Nat → Nat) (sz i : Nat) : Option (Int32 × Nat) := if 16 ≤ no then some (4, i) else match oFm u sz i with
  | .inr _ => none
  | .inl l => (fstU wk l.2.2.2.2).map (fun t => (3, t))
def EO (w : Int32) (no : Nat) (wk : Nat → Option Nat) (u : Nat → Nat) (sz i : Nat) (er : Int32) (t : Nat) : Prop := (w = 0 ∧ er = 1 ∧ oFm u sz i = .inr t) ∨ (w ≠ 0 ∧ eOrd no wk u sz i = some (er, t))
/-- the region of an order's tree: made from s to e, or an old string -/
def PT (n0 s e rd : Nat) (N : Nat → Prop) (a : Nat) (c : sd_E) : Prop := (s ≤ a ∧ a < e) ∨ (a ≠ rd ∧ ¬ N a ∧ ((n0 ≤ a ∧ ∃ v hs hz, c = aS v hs hz) ∨ ∃ ln g, c = aB ln g ∧ ln ≤ 2))
section LOR
variable {G : sd_G} {u : Nat → Nat} {sz n0 n1 tl so m rd k : Nat} {ta tx : Nat → Nat} {w : Int32} {ky nd iv : Nat → Nat} {kt : Nat → List Nat} {β b : Nat × Nat} {h h' : sd_H} {i d v n2 : Nat}
theorem w_craft {E : Int32 → Nat → Prop} {Q : Nat ⊕ Nat → sd_H → Nat × Nat → Prop} (C : wlC G) (K : crC G) (R : RW G u sz n0 tl ta tx rd w so m k ky nd iv kt n1 i d h) (hn0 : n0 ≤ h.1) (hi : i ≤ nT u sz) (hb : bud β b v) (hv : 1 ≤ v) (kf : FL G u sz n0 E h β Q) (e1 : ¬ (kdT u sz i = 11 ∨ kdT u sz i = 12 ∨ kdT u sz i = 13) → E 1 i) (k1 : ∀ j cr h', j < 3 → kdT u sz i = 11 + j → sd_c G cr = some (.inr (30 + j, [])) → RW G u sz n0 tl ta tx rd w so m k ky nd iv kt n1 (i + 1) d h' → xf rd (nmA u sz tx) h h' → h'.1 = h.1 → Q (.inl cr) h' b) : wp (fX7_craft G rd) h b Q := by
  obtain ⟨f, W1, W2⟩ := K
  have wl := look_k R.1 W1
  unfold fX7_craft
  rw [wp_bnd, wp_alen wl]
  have loop : ∀ q j, q + j = 3 → (∀ j', j' < j → kdT u sz i ≠ 11 + j') → ∀ fuel, q < fuel → wp (sd_loop (fun k s => fX7_craft_b9 G k s.1 s.2.1 s.2.2.1 s.2.2.2) fuel (rd, sd_ad G 9, n3 3, n3 j)) h b Q := by
    intro q
    induction q with
    | zero =>
      intro j hj hne fuel hf
      cases fuel with
      | zero => omega
      | succ fuel =>
        have j3 : j = 3 := by omega
        subst j3
        show wp (fX7_craft_b9 G (sd_loop _ fuel) rd (sd_ad G 9) (n3 3) (n3 3)) h b Q
        unfold fX7_craft_b9
        have m0 := hne 0 (by omega)
        have m1 := hne 1 (by omega)
        have m2 := hne 2 (by omega)
        rw [wp_ite, if_pos (by decide), wp_bnd, w_isC R]
        exact c_wrong R.1 (RW_in R).1 (RW_in R).2.1 hi (bud_1 hb hv).1 (bud_1 hb hv).2 (FL_flt R.1 hn0 hb hv kf (e1 (by omega)))
    | succ q ih =>
      intro j hj hne fuel hf
      cases fuel with
      | zero => omega
      | succ fuel =>
        obtain ⟨wa, ws, w1, w2, w3, w4⟩ := W2 j (by omega)
        show wp (fX7_craft_b9 G (sd_loop _ fuel) rd (sd_ad G 9) (n3 3) (n3 j)) h b Q
        unfold fX7_craft_b9
        rw [wp_ite, if_neg (by rw [n3_le (by omega) (by omega)]; omega), wp_bnd, wp_aldR wl (n3_ix (by omega) (by omega)) (by rw [n3_nn (by omega)]; exact w1), wp_bnd, wp_cget w3, wp_bnd, w_isC R, wp_bnd]
        refine w_tifL C R hi (wdL_kw (11 + j) (by omega)) w4 (fun h1 e R1 X1 nh1 => ?_) (fun e => ?_)
        · rw [wp_ite, if_neg (by decide), wp_ret]
          exact k1 j wa h1 (by omega) e w2 R1 X1 nh1
        · rw [wp_ite, if_pos rfl, wp_bnd, wp_ret, show n3 j + 1 = n3 (j + 1) from n3_add j 1]
          refine ih (j + 1) (by omega) (fun j' hj' => ?_) fuel (by omega)
          by_cases c : j' = j
          · rw [c]
            exact e
          · exact hne j' (by omega)
  exact loop 3 0 rfl (fun j' hj' => absurd hj' (Nat.not_lt_zero _)) sd_FU (by unfold sd_FU; omega)
theorem c_ord {o cr se te : Nat} {x y z : Value} {Q : Unit → sd_H → Nat × Nat → Prop} (ho : h.2 o = some (.inr (17, [x, y, z]))) : wp (fX19_init G o cr se te) h b Q = Q () (sd_up h o (.inr (17, [.ref cr, .ref se, .ref te]))) b := by
  unfold fX19_init
  rw [wp_bnd, wp_put ho (Nat.le_of_ble_eq_true rfl) rfl rfl, wp_bnd, wp_put (up_at _ _ _) (Nat.le_of_ble_eq_true rfl) rfl rfl, wp_bnd, up_up, wp_put (up_at _ _ _) (Nat.le_of_ble_eq_true rfl) rfl rfl, wp_ret, up_up]
  rfl
/-- the order made and added -/
theorem w_o73 {a r sz' cap o cr se te v' : Nat} {mc : Int32} {f : Nat → Option Nat} {x y z : Value} {Q : Unit ⊕ Nat → sd_H → Nat × Nat → Prop} (R : RW G u sz n0 tl ta tx rd w so m k ky nd iv kt n1 i d h) (hn0 : n0 ≤ h.1) (h02 : n0 ≤ n2) (T : tlw n2 tl h) (L : lsO G h a mc r sz' cap f) (ha : n2 ≤ a) (hr : r = sd_ad G 0 ∨ n2 ≤ r) (hsz : sz' ≤ 400) (hel : ∀ j, j < sz' → sd_okQ G h 4 (f j) = true) (ho : h.2 o = some (.inr (17, [x, y, z]))) (hon : n0 ≤ o) (hb : bud β b v) (hv : v' + 41 ≤ v)
    (kk : ∀ h' mc' r' cap' f' b', wfH G h' → RC G u sz n0 tl ta tx rd w so m k ky nd iv kt i d h' → tlw n2 tl h' → lsO G h' a mc' r' (sz' + 1) cap' f' → (∀ j, j < sz' → f' j = f j) → f' sz' = some o → h'.2 o = some (.inr (17, [.ref cr, .ref se, .ref te])) → (r' = r ∨ h.1 ≤ r') → (r' = sd_ad G 0 ∨ n2 ≤ r') → h.1 ≤ h'.1 → fz n0 h h' → (∀ q e, h.2 q = some e → q ≠ o → q ≠ a → q ≠ r → h'.2 q = some e) → bud β b' v' → Q (.inl ()) h' b') : wp (fX7_order_b73 G te se cr o o a) h b Q := by
  unfold fX7_order_b73
  rw [wp_bnd, c_ord ho]
  have R1 : RW G u sz n0 tl ta tx rd w so m k ky nd iv kt n1 i d (sd_up h o (.inr (17, [.ref cr, .ref se, .ref te]))) := RW_os R ho rfl (by decide)
  have o1 := up_at h o (.inr (17, [.ref cr, .ref se, .ref te]))
  have kpS : ∀ a e, h.2 a = some e → (∀ fs, e ≠ .inr (17, fs)) → (sd_up h o (.inr (17, [.ref cr, .ref se, .ref te]))).2 a = some e := by
    intro a e q1 q2
    rw [up_ne]
    · exact q1
    · rintro rfl
      rw [ho] at q1
      cases q1
      exact q2 _ rfl
  have hel1 : ∀ j, j < sz' → sd_okQ G (sd_up h o (.inr (17, [.ref cr, .ref se, .ref te]))) 4 (f j) = true := fun j hj => okQ_up ho (fun o ho => ⟨_, rfl, by cases ho; rfl⟩) (hel j hj)
  have L1 : lsO G (sd_up h o (.inr (17, [.ref cr, .ref se, .ref te]))) a mc r sz' cap f := by
    obtain ⟨l1, l2, l3⟩ := L
    refine ⟨kpS _ _ l1 (fun _ q => by cases q), ?_, l3⟩
    rcases l2 with q | ⟨q, q'⟩
    · exact Or.inl q
    · exact Or.inr ⟨kpS _ _ q (fun _ q => by cases q), q'⟩
  have T1 : tlw n2 tl (sd_up h o (.inr (17, [.ref cr, .ref se, .ref te]))) := tlw_kp T (RW_in R).1 (fun mc r n q => kpS _ _ q (fun _ q => by cases q))
  have ok1 : sd_okQ G (sd_up h o (.inr (17, [.ref cr, .ref se, .ref te]))) 4 (some o) = true := by
    unfold sd_okQ
    simp only [sd_look_new o1]
    rfl
  rw [wp_bnd, wp_isC (sd_look_new L1.1), wp_bnd]
  refine l_add (v' := v') R1.1 (RW_in R1) T1 h02 L1 ha hr hsz hel1 ok1 hb hv (fun h6 mc' r' cap' f' b6 w6 R6 T6 L6 g1 g2 g3 g4 g5 g6 g7 B6 => ?_)
  have on : o ≠ a ∧ o ≠ r := by
    constructor
    · intro q
      rw [q, L.1] at ho
      cases ho
    · intro q
      rcases L.2.1 with ⟨q', -⟩ | ⟨q', -⟩
      · rw [q, q', (wfH_z0 R.1).1] at ho
        cases ho
      · rw [q, q'] at ho
        cases ho
  rw [wp_ret]
  exact kk h6 mc' r' cap' f' b6 w6 R6 T6 L6 g1 g2 (g6 _ _ on.1 on.2 o1) g3 g4 g5 ((fz_up hon).trans g7) (fun q e q1 q2 q3 q4 => g6 q e q3 q4 ((up_ne q2).trans q1)) B6
end LOR
