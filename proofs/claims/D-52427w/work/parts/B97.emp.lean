/-! THE PLAIN LAW: a line of an empire, raw -/
/-- sorts of cells that the reader's world is made of, but for the list of tokens -/
def isRC : sd_E → Bool
  | .inl (d, _) => decide (d = 2) || decide (d = 5)
  | .inr (d, _) => decide (d = 8) || decide (d = 45) || decide (d = 6) || decide (d = 43) || decide (d = 44)
/-- the list of tokens lies below n2 -/
def tlw (n2 tl : Nat) (h : sd_H) : Prop := tl < n2 ∧ ∀ mc r n, h.2 tl = some (aL mc r n) → r < n2
/-- what a line leaves: M is what it changed -/
def lfr (rd : Nat) (N : Nat → Prop) (n0 : Nat) (M : Nat → Prop) (h h' : sd_H) : Prop := fz n0 h h' ∧ ∀ a e, h.2 a = some e → a ≠ rd → ¬ N a → isHm e = false → ¬ M a → h'.2 a = some e
abbrev aSo (st ns : Int32) (F : Nat → Nat) (E : Nat) : sd_E := .inr (2, [.int st, .int ns, .ref (F 2), .ref (F 3), .ref (F 4), .ref (F 5), .ref E, .int 0, .int 0, .int 0, .int 0, .int 0])
theorem aSo_rd {G : sd_G} {h : sd_H} {so E : Nat} {st ns : Int32} {F : Nat → Nat} (hs : h.2 so = some (aSo st ns F E)) : (∀ b (Q : Int32 → sd_H → Nat × Nat → Prop), wp (sd_getI G 2 0 so) h b Q = Q st h b) ∧ (∀ b (Q : Int32 → sd_H → Nat × Nat → Prop), wp (sd_getI G 2 1 so) h b Q = Q ns h b) ∧ (∀ b (Q : Nat → sd_H → Nat × Nat → Prop), wp (sd_getR G 2 2 so) h b Q = Q (F 2) h b) ∧ (∀ b (Q : Nat → sd_H → Nat × Nat → Prop), wp (sd_getR G 2 3 so) h b Q = Q (F 3) h b) ∧ (∀ b (Q : Nat → sd_H → Nat × Nat → Prop), wp (sd_getR G 2 4 so) h b Q = Q (F 4) h b) ∧ (∀ b (Q : Nat → sd_H → Nat × Nat → Prop), wp (sd_getR G 2 5 so) h b Q = Q (F 5) h b) := ⟨fun _ _ => wp_getI (sd_look_new hs) rfl, fun _ _ => wp_getI (sd_look_new hs) rfl, fun _ _ => wp_getR (sd_look_new hs) rfl, fun _ _ => wp_getR (sd_look_new hs) rfl, fun _ _ => wp_getR (sd_look_new hs) rfl, fun _ _ => wp_getR (sd_look_new hs) rfl⟩
theorem tmp_5 {κ : Nat → Nat} {i a b c d e : Nat} : tmp κ (i + 1) [a, b, c, d, e] = if κ (i + 1) = a then (if κ (i + 2) = b then (if κ (i + 3) = c then (if κ (i + 4) = d then (if κ (i + 5) = e then .inl (i + 6) else .inr (i + 5)) else .inr (i + 4)) else .inr (i + 3)) else .inr (i + 2)) else .inr (i + 1) := rfl
/-- an empire's fault in the second walk -/
def eEmp (k : Nat) (kt : Nat → List Nat) (u : Nat → Nat) (sz i : Nat) : Option (Int32 × Nat) := if (fdK kt (txT u sz (i + 1)) (List.range k)).isSome = true then some (2, i + 1) else if 6 ≤ k then some (4, i + 1) else if 999 < nbT u sz (i + 3) then some (5, i + 3) else if 999 < nbT u sz (i + 5) ∨ nbT u sz (i + 5) < nbT u sz (i + 3) then some (5, i + 5) else none
def EE (w : Int32) (k : Nat) (kt : Nat → List Nat) (u : Nat → Nat) (sz i : Nat) (er : Int32) (t : Nat) : Prop := (w = 0 ∧ er = 1 ∧ tmp (kdT u sz) (i + 1) [30, 3, 31, 4, 31] = .inr t) ∨ (w ≠ 0 ∧ eEmp k kt u sz i = some (er, t))
section LEM
variable {G : sd_G} {u : Nat → Nat} {sz n0 n1 tl so m rd k : Nat} {ta tx : Nat → Nat} {w : Int32} {ky nd iv : Nat → Nat} {kt : Nat → List Nat} {β b : Nat × Nat} {h h' : sd_H} {i d v n2 : Nat} {Q : Unit ⊕ Nat → sd_H → Nat × Nat → Prop}
theorem RC_kp (R : RC G u sz n0 tl ta tx rd w so m k ky nd iv kt i d h) (hk : ∀ a e, h.2 a = some e → isRC e = true → h'.2 a = some e) (h1 : ∀ mc r n, h.2 tl = some (aL mc r n) → h'.2 tl = some (aL mc r n) ∧ ∀ e, h.2 r = some e → h'.2 r = some e) : RC G u sz n0 tl ta tx rd w so m k ky nd iv kt i d h' := by
  obtain ⟨⟨⟨mc, r, cap, f, e1, e2, e3⟩, B⟩, r1, ⟨tb, mc', thr, fl, m1, m2⟩, m3, m4, m5⟩ := R
  have st : ∀ x l, strN h x l → strN h' x l := by
    rintro x l ⟨v, hs, hz, g, q1, q2, q3⟩
    exact ⟨v, hs, hz, g, hk _ _ q1 rfl, hk _ _ q2 rfl, q3⟩
  refine ⟨⟨⟨mc, r, cap, f, (h1 _ _ _ e1).1, (h1 _ _ _ e1).2 _ e2, e3⟩, fun j hj => ?_⟩, hk _ _ r1 rfl, ⟨tb, mc', thr, fl, hk _ _ m1 rfl, ?_⟩, m3, fun j hj => ⟨st _ _ (m4 j hj).1, (m4 j hj).2⟩, m5⟩
  · obtain ⟨b1, b2, b3⟩ := B j hj
    exact ⟨hk _ _ b1 rfl, b2, fun c1 c2 => ⟨st _ _ (b3 c1 c2).1, (b3 c1 c2).2⟩⟩
  · rcases m2 with m2 | ⟨t, f, q1, q2, q3, q4⟩
    · exact Or.inl m2
    · exact Or.inr ⟨t, f, q1, q2, hk _ _ q3 rfl, fun j hj => chn_keep (fun a z y v nx ha => hk _ _ ha rfl) _ _ (q4 j hj)⟩
theorem HM_kp {N : Nat → Prop} (M : HM N m k ky nd iv kt h) (hk : ∀ a e, h.2 a = some e → isRC e = true → h'.2 a = some e) : HM N m k ky nd iv kt h' := by
  obtain ⟨⟨tb, mc', thr, fl, m1, m2⟩, m3, m4, m5⟩ := M
  have st : ∀ x l, strN h x l → strN h' x l := by
    rintro x l ⟨v, hs, hz, g, q1, q2, q3⟩
    exact ⟨v, hs, hz, g, hk _ _ q1 rfl, hk _ _ q2 rfl, q3⟩
  refine ⟨⟨tb, mc', thr, fl, hk _ _ m1 rfl, ?_⟩, m3, fun j hj => ⟨st _ _ (m4 j hj).1, (m4 j hj).2⟩, m5⟩
  rcases m2 with m2 | ⟨t, f, q1, q2, q3, q4⟩
  · exact Or.inl m2
  · exact Or.inr ⟨t, f, q1, q2, hk _ _ q3 rfl, fun j hj => chn_keep (fun a z y v nx ha => hk _ _ ha rfl) _ _ (q4 j hj)⟩
/-- neither the reader's cell nor a string: stays -/
theorem xf_o {a d' : Nat} {fs : List Value} (R : RW G u sz n0 tl ta tx rd w so m k ky nd iv kt n1 i d h) (X : xf rd (nmA u sz tx) h h') (ha : h.2 a = some (.inr (d', fs))) (h1 : d' ≠ 6) (h2 : d' ≠ 45) : h'.2 a = some (.inr (d', fs)) := by
  refine X.2.1 _ _ ha ?_ (fun q => ?_)
  · rintro rfl
    rw [(RW_in R).2.1] at ha
    cases ha
    exact h1 rfl
  · obtain ⟨v, hs, hz, e⟩ := nmA_s (RW_in R).1 _ _ q ha
    cases e
    exact h2 rfl
theorem xf_a {a : Nat} {y : Nat × vp_A} (R : RW G u sz n0 tl ta tx rd w so m k ky nd iv kt n1 i d h) (X : xf rd (nmA u sz tx) h h') (ha : h.2 a = some (.inl y)) : h'.2 a = some (.inl y) := by
  refine X.2.1 _ _ ha ?_ (fun q => ?_)
  · rintro rfl
    rw [(RW_in R).2.1] at ha
    cases ha
  · obtain ⟨v, hs, hz, e⟩ := nmA_s (RW_in R).1 _ _ q ha
    cases e
theorem xf_ls {a r sz' cap : Nat} {mc : Int32} {f : Nat → Option Nat} (R : RW G u sz n0 tl ta tx rd w so m k ky nd iv kt n1 i d h) (X : xf rd (nmA u sz tx) h h') (L : lsO G h a mc r sz' cap f) : lsO G h' a mc r sz' cap f := by
  obtain ⟨l1, l2, l3⟩ := L
  refine ⟨xf_o R X l1 (by decide) (by decide), ?_, l3⟩
  rcases l2 with q | ⟨q, q2⟩
  · exact Or.inl q
  · exact Or.inr ⟨xf_a R X q, q2⟩
theorem xf_ok {y : Option Nat} (R : RW G u sz n0 tl ta tx rd w so m k ky nd iv kt n1 i d h) (X : xf rd (nmA u sz tx) h h') (w' : wfH G h') (hy : sd_okQ G h 4 y = true) : sd_okQ G h' 4 y = true := by
  cases y with
  | none => rfl
  | some a =>
    obtain ⟨o, e1, e2⟩ := sd_okQ_some hy
    obtain ⟨od, ofs⟩ := o
    have e2 : sd_may 4 od = true := e2
    have key : sd_look G h' a = some (.inr (od, ofs)) := by
      unfold sd_look at e1
      cases hq : h.2 a with
      | some e =>
        rw [hq] at e1
        cases e1
        exact sd_look_new (xf_o R X hq (by rintro rfl; cases e2) (by rintro rfl; cases e2))
      | none =>
        rw [hq] at e1
        exact look_k w' e1
    unfold sd_okQ
    simp only [key]
    exact e2
/-- an element more in a list of the sofa -/
theorem l_add {a r sz' cap o : Nat} {mc : Int32} {f : Nat → Option Nat} {Q : Int32 → sd_H → Nat × Nat → Prop} {v' : Nat} (wf : wfH G h) (R : RC G u sz n0 tl ta tx rd w so m k ky nd iv kt i d h) (T : tlw n2 tl h) (h02 : n0 ≤ n2) (L : lsO G h a mc r sz' cap f) (ha : n2 ≤ a) (hr : r = sd_ad G 0 ∨ n2 ≤ r) (hsz : sz' ≤ 400) (hel : ∀ j, j < sz' → sd_okQ G h 4 (f j) = true) (ho : sd_okQ G h 4 (some o) = true) (hb : bud β b v) (hv : v' + 41 ≤ v)
    (kk : ∀ h' mc' r' cap' f' b', wfH G h' → RC G u sz n0 tl ta tx rd w so m k ky nd iv kt i d h' → tlw n2 tl h' → lsO G h' a mc' r' (sz' + 1) cap' f' → (∀ j, j < sz' → f' j = f j) → f' sz' = some o → (r' = r ∨ h.1 ≤ r') → (r' = sd_ad G 0 ∨ n2 ≤ r') → h.1 ≤ h'.1 → (∀ z e, z ≠ a → z ≠ r → h.2 z = some e → h'.2 z = some e) → fz n0 h h' → bud β b' v' → Q 1 h' b') : wp (fJ2_add G a o) h b Q := by
  have hb1 := hb.1
  have hb2 := hb.2
  have z0 := wfH_z0 wf
  have ra : ∀ z e, h.2 z = some e → isRC e = true ∨ z < n2 → z ≠ a ∧ z ≠ r := by
    intro z e hz he
    constructor
    · rintro rfl
      rcases he with he | he
      · rw [L.1] at hz
        cases hz
        cases he
      · omega
    · rintro rfl
      rcases he with he | he
      · rcases L.2.1 with ⟨q, -⟩ | ⟨q, -⟩
        · rw [q, z0.1] at hz
          cases hz
        · rw [q] at hz
          cases hz
          cases he
      · rcases hr with q | q
        · rw [q, z0.1] at hz
          cases hz
        · omega
  refine g_add wf L (by omega) hel ho (by omega) (by omega) (fun h' r' cap' f' b' w' L' k1 k2 k3 k4 k5 k6 k7 => ?_)
  have kp : ∀ z e, z ≠ a → z ≠ r → h.2 z = some e → h'.2 z = some e := fun z e q1 q2 q3 => (k5 z q1 q2 (wf.1 _ _ q3).2).trans q3
  have tk : ∀ mc r' n, h.2 tl = some (aL mc r' n) → h'.2 tl = some (aL mc r' n) ∧ ∀ e, h.2 r' = some e → h'.2 r' = some e := by
    intro mc r' n q
    obtain ⟨q1, q2⟩ := ra _ _ q (Or.inr T.1)
    refine ⟨kp _ _ q1 q2 q, fun e he => ?_⟩
    obtain ⟨q3, q4⟩ := ra _ _ he (Or.inr (T.2 _ _ _ q))
    exact kp _ _ q3 q4 he
  have T' : tlw n2 tl h' := by
    refine ⟨T.1, fun mc' r2 n q => ?_⟩
    obtain ⟨mc0, r0, cap0, f0, e1, -⟩ := R.1.1
    have e1' := (tk _ _ _ e1).1
    rw [e1'] at q
    injection q with q
    injection q with q
    injection q with _ q
    injection q with _ q
    injection q with q _
    injection q with q
    rw [← q]
    exact T.2 _ _ _ e1
  refine kk h' (mc + 1) r' cap' f' b' w' (RC_kp R (fun z e hz he => kp z e (ra z e hz (Or.inl he)).1 (ra z e hz (Or.inl he)).2 hz) tk) T' L' k1 k2 ?_ ?_ k3 kp ⟨k3, fun z hz => ?_⟩ ⟨by omega, by omega⟩
  · rcases k4 with ⟨-, q⟩ | ⟨-, -, q, -⟩
    · exact Or.inl q
    · exact Or.inr q
  · rcases k4 with ⟨-, q⟩ | ⟨-, -, q, -⟩
    · rw [q]
      exact hr
    · exact Or.inr (by have := (wf.1 _ _ L.1).2; omega)
  · by_cases c : z = r
    · rcases hr with q | q
      · rw [c, q, z0.1, (wfH_z0 w').1]
      · omega
    · have := (wf.1 _ _ L.1).2
      exact k5 z (by omega) c (by omega)
end LEM
