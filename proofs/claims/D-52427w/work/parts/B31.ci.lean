/-! THE PLAIN LAW: the component as a whole: one predicate of a heap, its frames -/
/-- sorts of cells that the model has -/
def isM : sd_E → Bool
  | .inl (k, _) => decide (k = 0) || decide (k = 1) || decide (k = 3)
  | .inr (d, _) => decide (d = 4) || decide (d = 5)
/-- sorts of cells that a sofa names -/
def isS : sd_E → Bool
  | .inl (k, _) => decide (k = 0) || decide (k = 4)
  | .inr (d, _) => decide (d = 2) || decide (d = 3) || decide (d = 41)
theorem cS_isS {ad F : Nat → Nat} {q : Nat → Nat} {x : Nat → Nat → Int32} {z0 : Nat} {mc : Nat → Int32} {em : Nat → Bool} {t : TT} {i : Nat} : isS (cS ad F q x z0 mc em t i) = true ∧ (i ≠ 3 → isM (cS ad F q x z0 mc em t i) = false) := by
  unfold cS
  split
  · exact ⟨rfl, fun _ => rfl⟩
  · split
    · next e => exact ⟨rfl, fun h => absurd e h⟩
    · split
      · exact ⟨rfl, fun _ => rfl⟩
      · split
        · exact ⟨rfl, fun _ => rfl⟩
        · exact ⟨rfl, fun _ => rfl⟩
/-- cells of the model's sorts stay -/
def fr (h h' : sd_H) (E1 E2 : Nat) : Prop := h.1 ≤ h'.1 ∧ ∀ a e, h.2 a = some e → isM e = true → a ≠ E1 → a ≠ E2 → h'.2 a = some e
theorem fr.refl {h : sd_H} {E1 E2 : Nat} : fr h h E1 E2 := ⟨Nat.le_refl _, fun _ _ h _ _ _ => h⟩
theorem fr.trans {h h' h'' : sd_H} {E1 E2 : Nat} (p : fr h h' E1 E2) (p' : fr h' h'' E1 E2) : fr h h'' E1 E2 := ⟨Nat.le_trans p.1 p'.1, fun a e h1 h2 h3 h4 => p'.2 a e (p.2 a e h1 h2 h3 h4) h2 h3 h4⟩
/-- the component: cx itself, tp its tape (bs, sz bytes of it), s0 its sofa with the ends E1, B the second sofa -/
def CI (G : sd_G) (cx tp bt s0 E1 : Nat) (B : Nat → Nat) (Z : Nat → Prop) (q : Nat → Nat) (x : Nat → Nat → Int32) (ea : Int32) (sz : Nat) (bs : Nat → Int32) (h : sd_H) (t : TT) : Prop := wfH G h ∧ (∀ a, Z a → a < h.1 ∧ ∀ e, h.2 a = some e → isM e = false) ∧ ok3 t ∧ dst (q 20) t ∧ h.2 tp = some (.inr (1, [.ref bt, .int (n3 sz)])) ∧ h.2 bt = some (.inl (2, 2000, .inl bs)) ∧ h.2 cx = some (.inr (0, [.ref tp, .int ea, .ref s0, .ref (B 0)])) ∧ ∃ n ρ K ad F mc em cs R, h = hSo G n ρ K ad F q x mc em t ∧ sA G n ρ K ad F q x em cs t ∧ sO G n ρ K Z F q x ∧ ahB G h B R ∧ apB G n ρ K F B R Z ∧ ad 0 = s0 ∧ ad 3 = E1
section CX
variable {n n' : Nat} {ρ ρ' : Nat → Option Nat} {K K' : Nat → Option sd_E} {ad ad' F R : Nat → Nat} {mc mc' : Nat → Int32} {em em' cs : Nat → Bool} {t t' : TT} {b : Nat × Nat} {G : sd_G} {cx tp bt s0 E1 : Nat} {B : Nat → Nat} {Z : Nat → Prop} {q : Nat → Nat} {x : Nat → Nat → Int32} {ea : Int32} {sz : Nat} {bs : Nat → Int32}
theorem im_Xb {a : Nat} {e : sd_E} (X : XT n ρ K ad em n' ρ' K' ad' em') (ha : a < n) (h : im G n' ρ' K' a e) : im G n ρ K a e := by
  refine ⟨(X.1.2.1 a ha).symm.trans h.1, ha, ?_⟩
  have := h.2.2
  rw [X.2 a ha] at this
  exact this
theorem X_same {a : Nat} (X : XT n ρ K ad em n' ρ' K' ad' em') (ha : a < n) (hr : ρ a = none) : (hSo G n' ρ' K' ad' F q x mc' em' t').2 a = (hSo G n ρ K ad F q x mc em t).2 a := by
  unfold hSo
  rw [nh_out hr, nh_out ((X.1.2.1 a ha).trans hr)]
  exact X.2 a ha
theorem so_none {a : Nat} {e : sd_E} (h : (hSo G n ρ K ad F q x mc em t).2 a = some e) (he : isS e = false) : ρ a = none := by
  cases hr : ρ a with
  | none => rfl
  | some i =>
    unfold hSo at h
    rw [nh_at hr] at h
    cases h
    rw [cS_isS.1] at he
    cases he
theorem so_M {a : Nat} {e : sd_E} (A : sOk n ρ ad (q 20) em cs) (h : (hSo G n ρ K ad F q x mc em t).2 a = some e) (he : isM e = true) (h3 : a ≠ ad 3) : ρ a = none := by
  cases hr : ρ a with
  | none => rfl
  | some i =>
    unfold hSo at h
    rw [nh_at hr] at h
    cases h
    rw [cS_isS.2 (fun e => h3 (by rw [(A.2.1 a i hr).1, e]))] at he
    cases he
theorem fr_X (A : sOk n ρ ad (q 20) em cs) (w : wfH G (hSo G n ρ K ad F q x mc em t)) (X : XT n ρ K ad em n' ρ' K' ad' em') {E2 : Nat} : fr (hSo G n ρ K ad F q x mc em t) (hSo G n' ρ' K' ad' F q x mc' em' t') (ad 3) E2 := ⟨X.1.1, fun a e h1 h2 h3 _ => (X_same X (w.1 a e h1).2 (so_M A h1 h2 h3)).trans h1⟩
/-- the second sofa, if its cells stay -/
theorem ahB_keep {h h' : sd_H} (H : ahB G h B R) (k0 : h'.2 (B 0) = h.2 (B 0)) (k1 : h'.2 (B 1) = h.2 (B 1)) (kb : ∀ k, 2 ≤ k → k ≤ 5 → h'.2 (B k) = h.2 (B k)) (kr : ∀ k, 2 ≤ k → k ≤ 5 → h'.2 (R k) = h.2 (R k)) : ahB G h' B R := by
  obtain ⟨h0, h1, h2, h3⟩ := H
  unfold ahB
  rw [k0, k1]
  refine ⟨h0, h1, fun k k2 k5 => ?_, h3⟩
  obtain ⟨m, sz, cap, f, l, l2⟩ := h2 k k2 k5
  refine ⟨m, sz, cap, f, ?_, l2⟩
  unfold lsO at l ⊢
  rw [kb k k2 k5, kr k k2 k5]
  exact l
theorem im_lt {a : Nat} {e : sd_E} (h : im G n ρ K a e) : a < n := h.2.1
/-- the sofa itself went on -/
theorem CI_X (w : wfH G (hSo G n ρ K ad F q x mc em t)) (C : CI G cx tp bt s0 E1 B Z q x ea sz bs (hSo G n ρ K ad F q x mc em t) t) (A : sA G n ρ K ad F q x em cs t) (O : sO G n ρ K Z F q x) (H : ahB G (hSo G n ρ K ad F q x mc em t) B R) (D : apB G n ρ K F B R Z) (e0 : ad 0 = s0) (e1 : ad 3 = E1) (X : XT n ρ K ad em n' ρ' K' ad' em') (A' : sA G n' ρ' K' ad' F q x em' cs t') (w' : wfH G (hSo G n' ρ' K' ad' F q x mc' em' t')) (h3 : ok3 t') (hd : dst (q 20) t') : CI G cx tp bt s0 E1 B Z q x ea sz bs (hSo G n' ρ' K' ad' F q x mc' em' t') t' ∧ fr (hSo G n ρ K ad F q x mc em t) (hSo G n' ρ' K' ad' F q x mc' em' t') E1 (B 1) := by
  obtain ⟨-, Zk, -, -, c1, c2, c3, -⟩ := C
  have keep : ∀ {a : Nat} {e : sd_E}, (hSo G n ρ K ad F q x mc em t).2 a = some e → isS e = false → (hSo G n' ρ' K' ad' F q x mc' em' t').2 a = some e := fun h1 h2 => (X_same X (w.1 _ _ h1).2 (so_none h1 h2)).trans h1
  have keepB : ∀ a, ρ a = none → (∃ e, (hSo G n ρ K ad F q x mc em t).2 a = some e) ∨ a = sd_ad G 0 → (hSo G n' ρ' K' ad' F q x mc' em' t').2 a = (hSo G n ρ K ad F q x mc em t).2 a := by
    intro a ha h
    refine X_same X ?_ ha
    rcases h with ⟨e, h⟩ | h
    · exact (w.1 _ _ h).2
    · have h1 := (wfH_z0 w).2
      have h2 : sd_z G ≤ n := w.2.1
      omega
  obtain ⟨d1, d2, d3, d4⟩ := D
  refine ⟨⟨w', fun a ha => ⟨Nat.lt_of_lt_of_le (Zk a ha).1 X.1.1, fun e he => ?_⟩, h3, hd, keep c1 rfl, keep c2 rfl, keep c3 rfl, n', ρ', K', ad', F, mc', em', cs, R, rfl, A', sO_X X O, ahB_keep H ?_ ?_ (fun k k2 k5 => ?_) (fun k k2 k5 => ?_), ⟨fun k hk => ?_, fun k k2 k5 => ?_, fun k k' k2 k5 k2' k5' => ⟨(d3 k k' k2 k5 k2' k5').1, fun m r l hi => (d3 k k' k2 k5 k2' k5').2 m r l (im_Xb X ?_ hi)⟩, d4⟩, (X.1.ad (by omega)).trans e0, (X.1.ad (by omega)).trans e1⟩, e1 ▸ fr_X A.1 w X⟩
  · cases hr : ρ a with
    | none => exact (Zk a ha).2 e ((X_same X (Zk a ha).1 hr).symm.trans he)
    | some i =>
      have h1 := (Zk a ha).2 _ (nh_at hr)
      unfold hSo at he
      rw [nh_at ((X.1.2.1 a (Zk a ha).1).trans hr)] at he
      cases he
      refine cS_isS.2 fun e3 => ?_
      rw [e3] at h1
      cases h1
  · obtain ⟨i0, i1, v7, v8, v9, v10, v11, h0⟩ := H.1
    exact keepB _ (d1 0 (by omega)) (Or.inl ⟨_, h0⟩)
  · obtain ⟨e, h0, -⟩ := H.2.1
    exact keepB _ (d1 1 (by omega)) (Or.inl ⟨_, h0⟩)
  · obtain ⟨m, sz, cap, f, l, -⟩ := H.2.2.1 k k2 k5
    exact keepB _ (d1 k k5) (Or.inl ⟨_, l.1⟩)
  · obtain ⟨m, sz, cap, f, l, -⟩ := H.2.2.1 k k2 k5
    rcases l.2.1 with ⟨l1, -⟩ | ⟨l1, -⟩
    · exact keepB _ (d2 k k2 k5) (Or.inr l1)
    · exact keepB _ (d2 k k2 k5) (Or.inl ⟨_, l1⟩)
  · obtain ⟨i0, i1, v7, v8, v9, v10, v11, h0⟩ := H.1
    obtain ⟨e, h1, -⟩ := H.2.1
    refine (X.1.2.1 _ ?_).trans (d1 k hk)
    by_cases k0 : k = 0
    · subst k0
      exact (w.1 _ _ h0).2
    · by_cases k1 : k = 1
      · subst k1
        exact (w.1 _ _ h1).2
      · obtain ⟨m, sz, cap, f, l, -⟩ := H.2.2.1 k (by omega) hk
        exact (w.1 _ _ l.1).2
  · refine (X.1.2.1 _ ?_).trans (d2 k k2 k5)
    obtain ⟨m, sz, cap, f, l, -⟩ := H.2.2.1 k k2 k5
    rcases l.2.1 with ⟨l1, -⟩ | ⟨l1, -⟩
    · have h1 := (wfH_z0 w).2
      have h2 : sd_z G ≤ n := w.2.1
      omega
    · exact (w.1 _ _ l1).2
  · obtain ⟨⟨m2, r2, c2, f2, a1, -⟩, ⟨m3, r3, c3, f3, a2, -⟩, ⟨m4, r4, c4, f4, a3, -⟩, -⟩ := A.2.2.1
    obtain ⟨m5, r5, c5, f5, a4, -⟩ := O
    have hk : k = 2 ∨ k = 3 ∨ k = 4 ∨ k = 5 := by omega
    rcases hk with rfl | rfl | rfl | rfl
    · exact im_lt a1
    · exact im_lt a2
    · exact im_lt a3
    · exact im_lt a4
end CX
