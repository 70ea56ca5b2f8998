/-! THE PLAIN LAW: steps of the lines -/
/-- what lay below n0 stays -/
def fz (n0 : Nat) (h h' : sd_H) : Prop := h.1 ≤ h'.1 ∧ ∀ a, a < n0 → h'.2 a = h.2 a
theorem fz.refl {n0 : Nat} {h : sd_H} : fz n0 h h := ⟨Nat.le_refl _, fun _ _ => rfl⟩
theorem fz.trans {n0 : Nat} {h1 h2 h3 : sd_H} (p : fz n0 h1 h2) (q : fz n0 h2 h3) : fz n0 h1 h3 := ⟨Nat.le_trans p.1 q.1, fun a ha => (q.2 a ha).trans (p.2 a ha)⟩
theorem fz_up {n0 a : Nat} {h : sd_H} {e : sd_E} (ha : n0 ≤ a) : fz n0 h (sd_up h a e) := ⟨Nat.le_refl _, fun z hz => up_ne (by omega)⟩
theorem fz_pu {n0 : Nat} {h : sd_H} {e : sd_E} (ha : n0 ≤ h.1) : fz n0 h (sd_pu h e) := ⟨Nat.le_succ _, fun z hz => pu_ne (by omega)⟩
/-- how a line may fail -/
def FL (G : sd_G) (u : Nat → Nat) (sz n0 : Nat) (E : Int32 → Nat → Prop) (h : sd_H) (β : Nat × Nat) {α : Type} (Q : α ⊕ Nat → sd_H → Nat × Nat → Prop) : Prop := ∀ er t h' q b', E er t → h'.2 q = some (aFt er (plT u sz t)) → wfH G h' → fz n0 h h' → bud β b' 0 → Q (.inr q) h' b'
/-- integers by their numbers -/
def icC (G : sd_G) : Prop := ∃ nn f, sd_c G (sd_ad G 8) = some (.inl (9, nn, .inr (.inr (.inr (.inr f))))) ∧ 134 ≤ nn ∧ nn ≤ 1000000 ∧ ∀ j, j ≤ 5 → ∃ a, f (j + 128) = some a ∧ sd_c G a = some (.inr (47, [.int (n3 j)]))
/-- crafts -/
def crC (G : sd_G) : Prop := ∃ f, sd_c G (sd_ad G 9) = some (.inl (7, 3, .inr (.inr (.inr (.inr f))))) ∧ ∀ j, j < 3 → ∃ wa ws, f j = some wa ∧ sd_c G wa = some (.inr (30 + j, [])) ∧ sd_cf G 0 wa = some ws ∧ strC G ws (wdL (11 + j))
theorem FL_fz {G : sd_G} {u : Nat → Nat} {sz n0 : Nat} {E : Int32 → Nat → Prop} {h h' : sd_H} {β : Nat × Nat} {α : Type} {Q : α ⊕ Nat → sd_H → Nat × Nat → Prop} (kf : FL G u sz n0 E h β Q) (f : fz n0 h h') : FL G u sz n0 E h' β Q := fun er t h2 q b' q1 q2 q3 q4 q5 => kf er t h2 q b' q1 q2 q3 (f.trans q4) q5
theorem FL_be {G : sd_G} {u : Nat → Nat} {sz n0 c : Nat} {E : Int32 → Nat → Prop} {h : sd_H} {β : Nat × Nat} {α : Type} {Q : α ⊕ Nat → sd_H → Nat × Nat → Prop} (kf : FL G u sz n0 E h β Q) : FL G u sz n0 E h (β.1 + c, β.2 + 20 * c) Q := fun er t h2 q b' q1 q2 q3 q4 q5 => kf er t h2 q b' q1 q2 q3 q4 (bud_le (bud_sh.mpr q5) (Nat.zero_le _))
section WLS
variable {G : sd_G} {u : Nat → Nat} {sz n0 n1 tl so m rd k : Nat} {ta tx : Nat → Nat} {w : Int32} {ky nd iv : Nat → Nat} {kt : Nat → List Nat} {β b : Nat × Nat} {h h' : sd_H} {i d v : Nat} {E : Int32 → Nat → Prop} {α : Type} {Q : α ⊕ Nat → sd_H → Nat × Nat → Prop}
theorem fz_xf (R : RW G u sz n0 tl ta tx rd w so m k ky nd iv kt n1 i d h) (hrd : n0 ≤ rd) (hn : n0 ≤ h.1) (X : xf rd (nmA u sz tx) h h') : fz n0 h h' := by
  refine ⟨X.1, fun a ha => X.2.2 a (by omega) (by omega) ?_⟩
  rintro ⟨j, q1, q2, q3⟩
  have := ((R.2.2.1.2 j (by omega)).2.2 (by omega) (by omega)).2.1
  omega
theorem FK_of {r : PR} (R : RW G u sz n0 tl ta tx rd w so m k ky nd iv kt n1 i d h) (hrd : n0 ≤ rd) (hn : n0 ≤ h.1) (kf : FL G u sz n0 E h β Q) (he : ∀ er t, fo (wkF w k kt u sz) r = some (er, t) → E er t) : FK G u sz tx rd (wkF w k kt u sz) r h β Q := fun er t h2 q b' q1 q2 q3 q4 q5 => kf er t h2 q b' (he _ _ q1) q2 q3 (fz_xf R hrd hn q4) q5
theorem FL_flt {er : Int32} {t : Nat} (wf : wfH G h) (hn : n0 ≤ h.1) (hb : bud β b v) (hv : 1 ≤ v) (kf : FL G u sz n0 E h β Q) (he : E er t) : Q (.inr h.1) (sd_pu h (aFt er (plT u sz t))) (b.1 - 1, b.2 - 8) := kf er t _ _ _ he (pu_at _ _) (wfH_pu wf) (fz_pu hn) (bud_new hb (by omega) (by omega))
theorem w_num {lo hi' : Int32} {K : Int32 → sd_M (α ⊕ Nat)} (C : wlC G) (R : RW G u sz n0 tl ta tx rd w so m k ky nd iv kt n1 i d h) (hrd : n0 ≤ rd) (hn0 : n0 ≤ h.1) (hi : i ≤ nT u sz) (hb : bud β b v) (hv : 1 ≤ v) (kf : FL G u sz n0 E h β Q) (e2 : kdT u sz i ≠ 31 → E 1 i) (e3 : kdT u sz i = 31 → w ≠ 0 → ¬ (¬ n3 (nbT u sz i) < lo ∧ ¬ hi' < n3 (nbT u sz i)) → E 5 i) (k1 : ∀ h', kdT u sz i = 31 → (w = 0 ∨ (¬ n3 (nbT u sz i) < lo ∧ ¬ hi' < n3 (nbT u sz i))) → RW G u sz n0 tl ta tx rd w so m k ky nd iv kt n1 (i + 1) d h' → xf rd (nmA u sz tx) h h' → h'.1 = h.1 → wp (K (n3 (nbT u sz i))) h' b Q) : wp (sd_bnd (sd_isC G 6 rd) fun _ => sd_bx (fX7_number G rd lo hi') (fun e => sd_ret (.inr e)) K) h b Q := by
  rw [wp_bnd, w_isC R, wp_bx]
  refine c_number C.1 R.1 (RW_in R).1 (RW_in R).2.1 hi (bud_1 hb hv).1 (bud_1 hb hv).2 (fun e => ?_) (fun e r => ?_) (fun e q r => ?_)
  · show wp (sd_ret (.inr h.1)) _ _ Q
    rw [wp_ret]
    exact FL_flt R.1 hn0 hb hv kf (e2 e)
  · exact k1 _ e r (RW_rd R) xf_up rfl
  · have R1 : RW G u sz n0 tl ta tx rd w so m k ky nd iv kt n1 (i + 1) d (sd_up h rd (aRd tl (i + 1) d w so m)) := RW_rd R
    show wp (sd_ret (.inr h.1)) _ _ Q
    rw [wp_ret]
    exact FL_flt (h := sd_up h rd (aRd tl (i + 1) d w so m)) R1.1 hn0 hb hv (FL_fz kf (fz_up hrd)) (e3 e q r)
theorem w_numOf {n c : Nat} {lo hi' : Int32} {K : Int32 → sd_M (α ⊕ Nat)} (C : wlC G) (R : RW G u sz n0 tl ta tx rd w so m k ky nd iv kt n1 i d h) (hrd : n0 ≤ rd) (hn0 : n0 ≤ h.1) (hi : i ≤ nT u sz) (hn : (n, c) ∈ wdK) (hb : bud β b v) (hv : 1 ≤ v) (kf : FL G u sz n0 E h β Q) (e1 : kdT u sz i ≠ c → E 1 i) (e2 : kdT u sz i = c → kdT u sz (i + 1) ≠ 31 → E 1 (i + 1)) (e3 : kdT u sz i = c → kdT u sz (i + 1) = 31 → w ≠ 0 → ¬ (¬ n3 (nbT u sz (i + 1)) < lo ∧ ¬ hi' < n3 (nbT u sz (i + 1))) → E 5 (i + 1)) (k1 : ∀ h', kdT u sz i = c → kdT u sz (i + 1) = 31 → (w = 0 ∨ (¬ n3 (nbT u sz (i + 1)) < lo ∧ ¬ hi' < n3 (nbT u sz (i + 1)))) → RW G u sz n0 tl ta tx rd w so m k ky nd iv kt n1 (i + 2) d h' → xf rd (nmA u sz tx) h h' → h'.1 = h.1 → wp (K (n3 (nbT u sz (i + 1)))) h' b Q) : wp (sd_bnd (sd_isC G 6 rd) fun _ => sd_bx (fX7_numberOf G rd (sd_ad G n) lo hi') (fun e => sd_ret (.inr e)) K) h b Q := by
  have fl : ∀ j er t, E er t → Q (.inr (sd_up h rd (aRd tl j d w so m)).1) (sd_pu (sd_up h rd (aRd tl j d w so m)) (aFt er (plT u sz t))) (b.1 - 1, b.2 - 8) := by
    intro j er t he
    have R1 : RW G u sz n0 tl ta tx rd w so m k ky nd iv kt n1 j d (sd_up h rd (aRd tl j d w so m)) := RW_rd R
    exact FL_flt (h := sd_up h rd (aRd tl j d w so m)) R1.1 hn0 hb hv (FL_fz kf (fz_up hrd)) he
  rw [wp_bnd, w_isC R, wp_bx]
  refine c_numberOf C.1 R.1 (RW_in R).1 (RW_in R).2.1 hi (wdL_ok n c hn) (C.2.1.1 n c hn) (bud_1 hb hv).1 (bud_1 hb hv).2 (fun e => ?_) (fun e q => ?_) (fun e q r => ?_) (fun e q r1 r2 => ?_)
  · show wp (sd_ret (.inr h.1)) _ _ Q
    rw [wp_ret]
    exact FL_flt R.1 hn0 hb hv kf (e1 e)
  · show wp (sd_ret (.inr h.1)) _ _ Q
    rw [wp_ret]
    exact fl _ _ _ (e2 e q)
  · exact k1 _ e q r (RW_rd R) xf_up rfl
  · show wp (sd_ret (.inr h.1)) _ _ Q
    rw [wp_ret]
    exact fl _ _ _ (e3 e q r1 r2)
theorem w_tk {n c : Nat} {K : Unit → sd_M (α ⊕ Nat)} (C : wlC G) (R : RW G u sz n0 tl ta tx rd w so m k ky nd iv kt n1 i d h) (hrd : n0 ≤ rd) (hn0 : n0 ≤ h.1) (hi : i ≤ nT u sz) (hn : (n, c) ∈ wdK) (hb : bud β b v) (hv : 1 ≤ v) (kf : FL G u sz n0 E h β Q) (e1 : kdT u sz i ≠ c → E 1 i) (k1 : ∀ h', kdT u sz i = c → RW G u sz n0 tl ta tx rd w so m k ky nd iv kt n1 (i + 1) d h' → xf rd (nmA u sz tx) h h' → h'.1 = h.1 → wp (K ()) h' b Q) : wp (sd_bnd (sd_isC G 6 rd) fun _ => sd_bx (fX7_take_2 G rd (sd_ad G n)) (fun e => sd_ret (.inr e)) K) h b Q := w_take C R hi hn hb hv k1 (fun e => FK_of R hrd hn0 kf (fun er t q => by cases q; exact e1 e))
theorem w_kn {K : Int32 → sd_M (α ⊕ Nat)} (C : wlC G) (hiv : ∀ j, j < k → sd_c G (iv j) = some (.inr (47, [.int (n3 j)]))) (R : RW G u sz n0 tl ta tx rd w so m k ky nd iv kt n1 i d h) (hrd : n0 ≤ rd) (hn0 : n0 ≤ h.1) (hi : i ≤ nT u sz) (hb : bud β b v) (hv : 1 ≤ v) (kf : FL G u sz n0 E h β Q) (e1 : kdT u sz i ≠ 30 → E 1 i) (e3 : kdT u sz i = 30 → wkF w k kt u sz i = none → E 3 i) (k1 : ∀ e h', kdT u sz i = 30 → wkF w k kt u sz i = some e → RW G u sz n0 tl ta tx rd w so m k ky nd iv kt n1 (i + 1) d h' → xf rd (nmA u sz tx) h h' → h'.1 = h.1 → wp (K (n3 e)) h' b Q) : wp (sd_bnd (sd_isC G 6 rd) fun _ => sd_bx (fX7_known G rd m) (fun e => sd_ret (.inr e)) K) h b Q := w_known C hiv R hi hb hv k1 (fun e => FK_of R hrd hn0 kf (fun er t q => by cases q; exact e1 e)) (fun e q h' z b' p1 p2 p3 p4 => kf 3 i h' z b' (e3 e q) p1 p2 (fz_xf R hrd hn0 p3) p4)
theorem w_chk {er z : Int32} {j : Nat} {K : Unit → sd_M (α ⊕ Nat)} (R : RW G u sz n0 tl ta tx rd w so m k ky nd iv kt n1 i d h) (hn0 : n0 ≤ h.1) (hj : j ≤ nT u sz) (hb : bud β b v) (hv : 1 ≤ v) (kf : FL G u sz n0 E h β Q) (e1 : w ≠ 0 → z = 0 → E er j) (k1 : (w = 0 ∨ z ≠ 0) → wp (K ()) h b Q) : wp (sd_bnd (sd_isC G 6 rd) fun _ => sd_bx (fX7_check G rd er z (ta j)) (fun e => sd_ret (.inr e)) K) h b Q := by
  rw [wp_bnd, w_isC R, wp_bx]
  refine c_check R.1 (RW_in R).1 (RW_in R).2.1 hj (bud_1 hb hv).1 (bud_1 hb hv).2 (fun e => ?_) (fun e1' e2 => ?_)
  · exact k1 e
  · show wp (sd_ret (.inr h.1)) _ _ Q
    rw [wp_ret]
    exact FL_flt R.1 hn0 hb hv kf (e1 e1' e2)
theorem w_name {K : Nat → sd_M (α ⊕ Nat)} (C : wlC G) (R : RW G u sz n0 tl ta tx rd w so m k ky nd iv kt n1 i d h) (hrd : n0 ≤ rd) (hn0 : n0 ≤ h.1) (hi : i ≤ nT u sz) (hb : bud β b v) (hv : 1 ≤ v) (kf : FL G u sz n0 E h β Q) (e1 : kdT u sz i ≠ 30 → E 1 i) (e2 : kdT u sz i = 30 → w ≠ 0 → (fdK kt (txT u sz i) (List.range k)).isSome = true → E 2 i) (e4 : kdT u sz i = 30 → w ≠ 0 → fdK kt (txT u sz i) (List.range k) = none → 6 ≤ k → E 4 i) (k1 : ∀ h', kdT u sz i = 30 → (w = 0 ∨ (fdK kt (txT u sz i) (List.range k) = none ∧ k < 6)) → RW G u sz n0 tl ta tx rd w so m k ky nd iv kt n1 (i + 1) d h' → xf rd (nmA u sz tx) h h' → h'.1 = h.1 → wp (K (tx i)) h' b Q) : wp (sd_bnd (sd_isC G 6 rd) fun _ => sd_bx (fX7_name G rd m 6) (fun e => sd_ret (.inr e)) K) h b Q := by
  rw [wp_bnd, w_isC R]
  unfold fX7_name
  rw [wp_bx_bnd, w_isC R, wp_bx_bx, wp_bx]
  refine c_takeS (k := 30) R.1 (RW_in R).1 (RW_in R).2.1 hi (srt_eq C.1 _).2.2.2.1 (bud_1 hb hv).1 (bud_1 hb hv).2 (fun e => ?_) (fun e => ?_)
  · have R1 : RW G u sz n0 tl ta tx rd w so m k ky nd iv kt n1 (i + 1) d (sd_up h rd (aRd tl (i + 1) d w so m)) := RW_rd R
    have X1 : xf rd (nmA u sz tx) h (sd_up h rd (aRd tl (i + 1) d w so m)) := xf_up
    have n1' : (sd_up h rd (aRd tl (i + 1) d w so m)).1 = h.1 := rfl
    show wp (sd_bx (sd_bnd (sd_getR G 8 1 (ta i)) _) _ K) (sd_up h rd (aRd tl (i + 1) d w so m)) b Q
    generalize sd_up h rd (aRd tl (i + 1) d w so m) = h1 at R1 X1 n1' ⊢
    have hx : nmA u sz tx (tx i) := ⟨i, hi, e, rfl⟩
    have H1 := (((RW_in R1).1.2 i (by omega)).2.2 (by omega) (by omega)).1
    rw [wp_bx_bnd, (tk_rd (RW_in R1).1 hi).2.1, wp_bx_bnd, hm_isC (RW_in R1).2.2, wp_bx_bnd]
    refine c_has (RW_in R1).2.2 H1 hx (nmA_s (RW_in R1).1) (fun h2 s2 => ?_)
    have R2 : RW G u sz n0 tl ta tx rd w so m k ky nd iv kt n1 (i + 1) d h2 := RW_sfr R1 s2
    have X2 : xf rd (nmA u sz tx) h h2 := X1.trans (xf_sfr s2)
    have n2' : h2.1 = h.1 := s2.1.trans n1'
    have fin : ∀ z : Int32, (z ≠ 0 ↔ fdK kt (txT u sz i) (List.range k) = none) → wp (sd_bx (fX7_name_b26 G rd m 6 (ta i) z 2 rd) (fun e => sd_ret (.inr e)) K) h2 b Q := by
      intro z hz
      unfold fX7_name_b26
      have kf2 := FL_fz kf (fz_xf R hrd hn0 X2)
      rw [wp_bx_bnd, w_isC R2, wp_bx_bx, wp_bx]
      refine c_check R2.1 (RW_in R2).1 (RW_in R2).2.1 hi (bud_1 hb hv).1 (bud_1 hb hv).2 (fun q => ?_) (fun q1 q2 => ?_)
      · show wp (sd_bx (sd_bnd (sd_isC G 43 m) _) _ K) h2 b Q
        have k6 := (RW_in R2).2.2.2.1
        rw [wp_bx_bnd, hm_isC (RW_in R2).2.2, wp_bx_bnd, c_size (RW_in R2).2.2]
        have go : ∀ y : Int32, (y ≠ 0 ↔ k < 6) → wp (sd_bx (sd_bnd (sd_isC G 6 rd) fun _ => sd_bx (fX7_check G rd 4 y (ta i)) (fun e46 => sd_ret (.inr e46)) fun _ => sd_bnd (sd_getR G 8 1 (ta i)) fun v5 => sd_ret (.inl v5)) (fun e => sd_ret (.inr e)) K) h2 b Q := by
          intro y hy
          rw [wp_bx_bnd, w_isC R2, wp_bx_bx, wp_bx]
          refine c_check R2.1 (RW_in R2).1 (RW_in R2).2.1 hi (bud_1 hb hv).1 (bud_1 hb hv).2 (fun p => ?_) (fun p1 p2 => ?_)
          · show wp (sd_bx (sd_bnd (sd_getR G 8 1 (ta i)) _) _ K) h2 b Q
            rw [wp_bx_bnd, (tk_rd (RW_in R2).1 hi).2.1, wp_bx_l]
            refine k1 h2 e ?_ R2 X2 n2'
            rcases q with q | q
            · exact Or.inl q
            · rcases p with p | p
              · exact Or.inl p
              · exact Or.inr ⟨hz.mp q, hy.mp p⟩
          · show wp (sd_ret (.inr h2.1)) _ _ Q
            rw [wp_ret]
            refine FL_flt R2.1 (by omega) hb hv kf2 (e4 e p1 ?_ ?_)
            · rcases q with q | q
              · exact absurd q p1
              · exact hz.mp q
            · rcases Nat.lt_or_ge k 6 with r | r
              · exact absurd p2 (hy.mpr r)
              · exact r
        by_cases ck : (6 : Int32) ≤ n3 k
        · rw [if_pos ck]
          rw [show (6 : Int32) = n3 6 from rfl, n3_le (by omega) (by omega)] at ck
          exact go 0 ⟨fun q => absurd rfl q, fun q => absurd q (by omega)⟩
        · rw [if_neg ck]
          rw [show (6 : Int32) = n3 6 from rfl, n3_le (by omega) (by omega)] at ck
          exact go 1 ⟨fun _ => by omega, fun _ => by decide⟩
      · show wp (sd_ret (.inr h2.1)) _ _ Q
        rw [wp_ret]
        refine FL_flt R2.1 (by omega) hb hv kf2 (e2 e q1 ?_)
        cases hd : fdK kt (txT u sz i) (List.range k) with
        | some j => rfl
        | none => exact absurd q2 (hz.mpr hd)
    cases hd : fdK kt (txT u sz i) (List.range k) with
    | none =>
      rw [if_pos (show (if (none : Option Nat).isSome = true then (1 : Int32) else 0) = 0 from rfl)]
      exact fin 1 ⟨fun _ => hd, fun _ => by decide⟩
    | some j =>
      rw [if_neg (show ¬ (if (some j).isSome = true then (1 : Int32) else 0) = 0 from (by decide : ¬ (1 : Int32) = 0))]
      exact fin 0 ⟨fun q => absurd rfl q, fun q => by rw [hd] at q; cases q⟩
  · show wp (sd_ret (.inr h.1)) _ _ Q
    rw [wp_ret]
    exact FL_flt R.1 hn0 hb hv kf (e1 e)
end WLS
