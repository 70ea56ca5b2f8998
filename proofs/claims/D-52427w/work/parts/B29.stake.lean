/-! THE PLAIN LAW: taking over, between two named sofas -/
/-- the cushions in the stacks are apart -/
def dst (ns : Nat) (t : TT) : Prop := ∀ s s' k k', s < ns → s' < ns → k < t.2.1 s → k' < t.2.1 s' → t.2.2.1 (10 * s + k) = t.2.2.1 (10 * s' + k') → s = s' ∧ k = k'
theorem dst_low {ns s : Nat} {t : TT} (h : dst ns t) : dst ns (lowT t s) := by
  have le : ∀ r, updN t.2.1 s (t.2.1 s - 1) r ≤ t.2.1 r := by
    intro r
    unfold updN
    split
    · next e => subst e; omega
    · exact Nat.le_refl _
  intro r r' k k' hr hr' hk hk' e
  exact h r r' k k' hr hr' (Nat.lt_of_lt_of_le hk (le r)) (Nat.lt_of_lt_of_le hk' (le r')) e
theorem dst_eq {ns : Nat} {t u : TT} (h : dst ns t) (e1 : u.2.1 = t.2.1) (e2 : u.2.2.1 = t.2.2.1) : dst ns u := by
  intro r r' k k' hr hr' hk hk' e
  rw [e1] at hk hk'
  rw [e2] at e
  exact h r r' k k' hr hr' hk hk' e
theorem dst_sld {ns nf o s : Nat} {t : TT} (ok : okT ns nf t) (h : dst ns t) (ho : o < ns) (hs : s < ns) (hc : t.2.1 s + 3 < t.2.1 o) : dst ns (sld t o s) := by
  have hne : s ≠ o := by
    intro e
    subst e
    omega
  have o10 := ok.2.2.1 o ho
  -- where a place's cushion lay before
  have back : ∀ r k, r < ns → k < (sld t o s).2.1 r → ∃ r' k', r' < ns ∧ k' < t.2.1 r' ∧ (sld t o s).2.2.1 (10 * r + k) = t.2.2.1 (10 * r' + k') ∧ ((r' = r ∧ k' = k ∧ ¬ (r = s ∧ k = t.2.1 s)) ∨ (r = s ∧ k = t.2.1 s ∧ r' = o ∧ k' = t.2.1 o - 1)) ∧ (¬ (r = s ∧ k = t.2.1 s) → r = o → k < t.2.1 o - 1) := by
    intro r k hr hk
    have hk : k < updN (updN t.2.1 o (t.2.1 o - 1)) s (t.2.1 s + 1) r := hk
    have hv : (sld t o s).2.2.1 (10 * r + k) = updN t.2.2.1 (10 * s + t.2.1 s) (topC t o) (10 * r + k) := rfl
    have r10 := ok.2.2.1 r hr
    by_cases c : r = s ∧ k = t.2.1 s
    · refine ⟨o, t.2.1 o - 1, ho, by omega, ?_, Or.inr ⟨c.1, c.2, rfl, rfl⟩, fun h => absurd c h⟩
      rw [hv, c.1, c.2, updN_same]
      rfl
    · have k2 : k < t.2.1 r ∧ (r = o → k < t.2.1 o - 1) := by
        unfold updN at hk
        split at hk
        · next e => subst e; exact ⟨by omega, fun e => absurd e hne⟩
        · split at hk
          · next e => subst e; exact ⟨by omega, fun _ => hk⟩
          · next e1 e2 => exact ⟨hk, fun e => absurd e e2⟩
      refine ⟨r, k, hr, k2.1, ?_, Or.inl ⟨rfl, rfl, c⟩, fun _ => k2.2⟩
      rw [hv, updN_ne]
      intro e
      have s10 := ok.2.2.1 s hs
      exact c (by omega)
  intro r r' k k' hr hr' hk hk' e
  obtain ⟨a, b, a1, a2, a3, a4, a5⟩ := back r k hr hk
  obtain ⟨a', b', a1', a2', a3', a4', a5'⟩ := back r' k' hr' hk'
  rw [a3, a3'] at e
  obtain ⟨e1, e2⟩ := h a a' b b' a1 a1' a2 a2' e
  rcases a4 with ⟨p1, p2, p3⟩ | ⟨p1, p2, p3, p4⟩
  · rcases a4' with ⟨q1, q2, q3⟩ | ⟨q1, q2, q3, q4⟩
    · omega
    · have := a5 p3 (by omega)
      omega
  · rcases a4' with ⟨q1, q2, q3⟩ | ⟨q1, q2, q3, q4⟩
    · have := a5' q3 (by omega)
      omega
    · omega
theorem dst_setl {ns nf : Nat} {sp : Nat → Int32} {t : TT} (ok : okT ns nf t) (h : dst ns t) : dst ns (setl ns sp t) := by
  have : ∀ r (a : TT × Int32), okT ns nf a.1 → dst ns a.1 → dst ns (rn (stp ns sp) (fun a => a) r a).1 := by
    intro r
    induction r with
    | zero => intro a _ h; exact h
    | succ r ih =>
      intro a ho h
      simp only [rn]
      cases hf : stp ns sp a with
      | inl a' =>
        obtain ⟨s, o, -, -, hs, ho', hc, e, h1, -⟩ := stp_inl ho hf
        refine ih a' h1 ?_
        rw [e]
        exact dst_sld ho h ho' hs hc
      | inr g =>
        unfold stp at hf
        split at hf
        · cases hf
          exact h
        · split at hf
          · cases hf
            exact h
          · cases hf
  exact dst_eq (this 801 (t, 0) ok h) rfl rfl
theorem dst_digT {q : Nat → Nat} {x : Nat → Nat → Int32} {t : TT} {s : Nat} (hP : okP q x) (ok : okT (q 20) (q 26) t) (h : dst (q 20) t) (hs : s < q 20) (h1 : 1 ≤ t.2.1 s) : dst (q 20) (digT (q 20) x t s) := dst_setl (okT_dg1 hP ok hs h1) (dst_eq (dst_low (s := s) h) rfl rfl)
theorem dst_carT {q : Nat → Nat} {x : Nat → Nat → Int32} {t u : TT} {o : Int32} {s : Nat} (hP : okP q x) (ok : okT (q 20) (q 26) t) (h : dst (q 20) t) (hs : s < q 20) (hu : carT q x t o s = some u) : dst (q 20) u := by
  unfold carT at hu
  split at hu
  · split at hu
    · cases hu
    · cases hu
      exact dst_digT hP ok h hs (by omega)
  · split at hu
    · split at hu
      · cases hu
      · cases hu
        exact dst_eq h rfl rfl
    · split at hu
      · cases hu
        exact dst_setl (okT_subP ok hs) (dst_eq h rfl rfl)
      · cases hu
theorem dst_ordT {q : Nat → Nat} {x : Nat → Nat → Int32} {t : TT} {k : Nat} (hP : okP q x) (ok : okT (q 20) (q 26) t) (h : dst (q 20) t) : dst (q 20) (ordT q x t k) := by
  refine dst_eq (t := (carO q x t k).2) ?_ rfl rfl
  unfold carO
  split
  · split
    · next u hu => exact dst_carT hP ok h (tolS_lt hP).1 hu
    · exact h
  · exact h
theorem dst_ords {q : Nat → Nat} {x : Nat → Nat → Int32} (hP : okP q x) : ∀ r k (t : TT), okT (q 20) (q 26) t → dst (q 20) t → dst (q 20) (ords q x r k t) := by
  intro r
  induction r with
  | zero => intro k t _ h; exact h
  | succ r ih => intro k t h h3; exact ih (k + 1) _ (okT_ordT hP h) (dst_ordT hP h h3)
theorem dst_dys {q : Nat → Nat} {x : Nat → Nat → Int32} (hP : okP q x) : ∀ m (t : TT), okT (q 20) (q 26) t → dst (q 20) t → dst (q 20) (dys q x m t) := by
  intro m
  induction m with
  | zero => intro t _ h; exact h
  | succ m ih => intro t h h3; exact ih _ (okT_dayT hP h) (dst_eq (dst_ords hP _ _ _ h h3) rfl rfl)
/-- where the cushion c lies -/
def inT (ns : Nat) (t : TT) (c : Nat) (p : Nat × Nat) : Prop := p.1 < ns ∧ p.2 < t.2.1 p.1 ∧ t.2.2.1 (10 * p.1 + p.2) = c
noncomputable def cuF (ns : Nat) (t : TT) (A : TkA) (c : Nat) : Nat := match Classical.propDecidable (∃ p, inT ns t c p) with
  | isTrue h => A.2.2.1 (Classical.choose h).1 (Classical.choose h).2
  | isFalse _ => 0
noncomputable def csF (ns : Nat) (t : TT) (c : Nat) : Bool := match Classical.propDecidable (∃ p, inT ns t c p) with
  | isTrue _ => true
  | isFalse _ => false
theorem csF_t {ns c : Nat} {t : TT} (h : csF ns t c = true) : ∃ p, inT ns t c p := by
  refine Classical.byContradiction fun hn => ?_
  unfold csF at h
  split at h
  · next hh _ => exact hn hh
  · cases h
theorem cuF_at {ns s k : Nat} {t : TT} {A : TkA} (d : dst ns t) (hs : s < ns) (hk : k < t.2.1 s) : csF ns t (t.2.2.1 (10 * s + k)) = true ∧ cuF ns t A (t.2.2.1 (10 * s + k)) = A.2.2.1 s k := by
  have ex : ∃ p, inT ns t (t.2.2.1 (10 * s + k)) p := ⟨(s, k), hs, hk, rfl⟩
  unfold csF cuF
  constructor
  · split
    · rfl
    · next h _ => exact absurd ex h
  · split
    · next h _ =>
      obtain ⟨h1, h2, h3⟩ := Classical.choose_spec h
      obtain ⟨e1, e2⟩ := d _ _ _ _ h1 hs h2 hk h3
      rw [e1, e2]
    · next h _ => exact absurd ex h
/-- addresses of the copy's names -/
noncomputable def adF (ns : Nat) (t : TT) (B : Nat → Nat) (A : TkA) : Nat → Nat := fun i => if i = 0 then B 0 else if i = 3 then B 1 else if i < 20 then A.1 (i - 10) else if i < 100 then A.2.1 (i - 20) else cuF ns t A (i - 100)
theorem adF_10 {ns s : Nat} {t : TT} {B : Nat → Nat} {A : TkA} (hs : s < 8) : adF ns t B A (10 + s) = A.1 s := by
  unfold adF
  rw [if_neg (by omega), if_neg (by omega), if_pos (by omega), show 10 + s - 10 = s by omega]
theorem adF_20 {ns s : Nat} {t : TT} {B : Nat → Nat} {A : TkA} (hs : s < 8) : adF ns t B A (20 + s) = A.2.1 s := by
  unfold adF
  rw [if_neg (by omega), if_neg (by omega), if_neg (by omega), if_pos (by omega), show 20 + s - 20 = s by omega]
theorem adF_100 {ns c : Nat} {t : TT} {B : Nat → Nat} {A : TkA} : adF ns t B A (100 + c) = cuF ns t A c := by
  unfold adF
  rw [if_neg (by omega), if_neg (by omega), if_neg (by omega), if_neg (by omega), show 100 + c - 100 = c by omega]
