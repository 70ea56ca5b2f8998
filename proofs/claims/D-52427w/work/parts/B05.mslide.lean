/-! THE PLAIN LAW: sliding -/
/-- rounds of a while loop -/
def rn {β γ : Type} (f : β → β ⊕ γ) (d : β → γ) : Nat → β → γ
  | 0, a => d a
  | r + 1, a => match f a with
    | .inl a' => rn f d r a'
    | .inr g => g
theorem wp_wl {α β γ σ : Type} {F : (σ → sd_M α) → σ → sd_M α} {b : Nat × Nat} {Q : α → sd_H → Nat × Nat → Prop} (en : β → σ) (hh : β → sd_H) (I : Nat → β → Prop) (f : β → β ⊕ γ) (d : β → γ) (q : γ → Prop)
    (Hs : ∀ k m a, I m a → wp (F k (en a)) (hh a) b Q = match f a with
      | .inl a' => wp (k (en a')) (hh a') b Q
      | .inr g => q g)
    (Hd : ∀ m a a', I m a → f a = .inl a' → ∃ m', m' < m ∧ I m' a') :
    ∀ fuel r m a, m < fuel → m < r → I m a → wp (sd_loop F fuel (en a)) (hh a) b Q = q (rn f d r a) := by
  intro fuel
  induction fuel with
  | zero => intro r m a h1; omega
  | succ fuel ih =>
    intro r m a h1 h2 hi
    cases r with
    | zero => omega
    | succ r =>
      show wp (F (sd_loop F fuel) (en a)) (hh a) b Q = _
      rw [Hs _ m a hi]
      simp only [rn]
      cases hf : f a with
      | inl a' =>
        obtain ⟨m', h3, h4⟩ := Hd m a a' hi hf
        exact ih r m' a' (by omega) (by omega) h4
      | inr g => rfl
def pot : Nat → (Nat → Nat) → Nat
  | 0, _ => 0
  | k + 1, f => pot k f + f k * f k
theorem pot_up {f : Nat → Nat} {k z : Nat} : ∀ n, k < n → pot n (updN f k z) + f k * f k = pot n f + z * z := by
  intro n
  induction n with
  | zero => intro h; omega
  | succ n ih =>
    intro h
    by_cases hk : k = n
    · subst hk
      have e : ∀ m, m ≤ k → pot m (updN f k z) = pot m f := by
        intro m
        induction m with
        | zero => intro _; rfl
        | succ m im =>
          intro hm
          simp only [pot]
          rw [im (by omega), updN_ne (show m ≠ k by omega)]
      simp only [pot]
      rw [e k (Nat.le_refl k), updN_same]
      omega
    · have := ih (by omega)
      simp only [pot]
      rw [updN_ne (show n ≠ k by omega)]
      omega
theorem pot_le {f : Nat → Nat} {c : Nat} : ∀ n, (∀ s, s < n → f s ≤ 10) → pot n f ≤ 100 * n := by
  intro n
  induction n with
  | zero => intro _; exact Nat.le_refl 0
  | succ n ih =>
    intro h
    have h1 := ih (fun s hs => h s (by omega))
    have h2 : f n * f n ≤ 10 * 10 := Nat.mul_le_mul (h n (by omega)) (h n (by omega))
    simp only [pot]
    omega
theorem pot_sld {ns : Nat} {t : TT} {o s : Nat} (ho : o < ns) (hs : s < ns) (h : t.2.1 s + 3 < t.2.1 o) : pot ns (sld t o s).2.1 < pot ns t.2.1 := by
  have hne : s ≠ o := by
    intro e
    subst e
    omega
  have e1 := pot_up (f := t.2.1) (k := o) (z := t.2.1 o - 1) ns ho
  have e2 := pot_up (f := updN t.2.1 o (t.2.1 o - 1)) (k := s) (z := t.2.1 s + 1) ns hs
  rw [updN_ne hne] at e2
  show pot ns (updN (updN t.2.1 o (t.2.1 o - 1)) s (t.2.1 s + 1)) < pot ns t.2.1
  generalize hA : pot ns (updN (updN t.2.1 o (t.2.1 o - 1)) s (t.2.1 s + 1)) = A at e2 ⊢
  generalize hB : pot ns (updN t.2.1 o (t.2.1 o - 1)) = B at e1 e2
  generalize hC : t.2.1 s = p at *
  obtain ⟨q, hq⟩ : ∃ q, t.2.1 o = q + 1 := ⟨t.2.1 o - 1, by omega⟩
  rw [hq] at e1 h
  simp only [Nat.add_sub_cancel, Nat.mul_add, Nat.add_mul, Nat.mul_one, Nat.one_mul] at e1 e2
  omega
theorem canS_of {ns : Nat} {sp : Nat → Int32} {t : TT} {o s : Nat} (h : canS ns sp t o s = true) : o < ns ∧ t.2.1 s + 3 < t.2.1 o ∧ isP t o = false ∧ sp (topC t o) = 0 := by
  unfold canS at h
  simp only [Bool.and_eq_true, decide_eq_true_eq, Bool.not_eq_true'] at h
  exact ⟨h.1.1.1, h.1.1.2, h.1.2, h.2⟩
theorem frm_of {ns : Nat} {sp : Nat → Int32} {t : TT} {o s : Nat} (h : frm ns sp t s = some o) : canS ns sp t o s = true ∧ (o + 1 = s ∨ o = s + 1) := by
  unfold frm at h
  split at h
  · next h1 =>
    cases h
    exact ⟨h1.2, by omega⟩
  · split at h
    · next h2 =>
      cases h
      exact ⟨h2, Or.inr rfl⟩
    · cases h
theorem okT_sld {ns nf : Nat} {t : TT} {o s : Nat} (ok : okT ns nf t) (ho : o < ns) (hs : s < ns) (h : t.2.1 s + 3 < t.2.1 o) : okT ns nf (sld t o s) := by
  obtain ⟨q1, q2, q3, q4, q5, q6, q7⟩ := ok
  have hne : s ≠ o := by
    intro e
    subst e
    omega
  have ht := q3 o ho
  have htop : topC t o < 80 := q4 o _ ho (by omega)
  refine ⟨q1, q2, ?_, ?_, ?_, q6, q7⟩
  · intro r hr
    show updN (updN t.2.1 o (t.2.1 o - 1)) s (t.2.1 s + 1) r ≤ 10
    unfold updN
    split
    · omega
    · split
      · omega
      · exact q3 r hr
  · intro r k hr hk
    show updN t.2.2.1 (10 * s + t.2.1 s) (topC t o) (10 * r + k) < 80
    unfold updN
    split
    · exact htop
    · next hx =>
      refine q4 r k hr ?_
      have hk' : k < updN (updN t.2.1 o (t.2.1 o - 1)) s (t.2.1 s + 1) r := hk
      unfold updN at hk'
      split at hk'
      · next e =>
        subst e
        omega
      · split at hk'
        · next e =>
          subst e
          omega
        · exact hk'
  · intro c hc
    show upd t.2.2.2.1 (topC t o) 1 c = 0 ∨ upd t.2.2.2.1 (topC t o) 1 c = 1
    unfold upd
    split
    · exact Or.inr rfl
    · exact q5 c hc
theorem nxt_of {ns : Nat} {sp : Nat → Int32} {t : TT} {s : Nat} : ∀ r i, i + r = ns → lp (fun j (_ : Unit) => if (frm ns sp t j).isSome then .inr (some j) else .inl ()) (fun _ => none) r i () = some s → s < ns ∧ (frm ns sp t s).isSome = true := by
  intro r
  induction r with
  | zero => intro i _ h; cases h
  | succ r ih =>
    intro i hi h
    simp only [lp] at h
    by_cases hc : (frm ns sp t i).isSome = true
    · rw [if_pos hc] at h
      cases h
      exact ⟨by omega, hc⟩
    · rw [if_neg hc] at h
      exact ih (i + 1) (by omega) h
/-- one round of settling: what slides next -/
def stp (ns : Nat) (sp : Nat → Int32) (a : TT × Int32) : (TT × Int32) ⊕ (TT × Int32) := match nxt ns sp a.1 0 with
  | none => .inr a
  | some s => match frm ns sp a.1 s with
    | none => .inr a
    | some o => .inl (sld a.1 o s, a.2 + 1)
/-- all that slide: the state (slides not counted), how many -/
def stl (ns : Nat) (sp : Nat → Int32) (t : TT) : TT × Int32 := rn (stp ns sp) (fun a => a) 801 (t, 0)
def adds (t : TT) (m : Int32) : TT := (upd t.1 3 (t.1 3 + m), t.2)
/-- settled -/
def setl (ns : Nat) (sp : Nat → Int32) (t : TT) : TT := adds (stl ns sp t).1 (stl ns sp t).2
theorem stp_inl {ns nf : Nat} {sp : Nat → Int32} {a a' : TT × Int32} (ok : okT ns nf a.1) (h : stp ns sp a = .inl a') : ∃ s o, nxt ns sp a.1 0 = some s ∧ frm ns sp a.1 s = some o ∧ s < ns ∧ o < ns ∧ a.1.2.1 s + 3 < a.1.2.1 o ∧ a' = (sld a.1 o s, a.2 + 1) ∧ okT ns nf a'.1 ∧ pot ns a'.1.2.1 < pot ns a.1.2.1 := by
  unfold stp at h
  split at h
  · cases h
  · next s hs =>
    split at h
    · cases h
    · next o ho =>
      cases h
      have h1 := (nxt_of _ 0 (by omega) hs).1
      obtain ⟨h2, -⟩ := frm_of ho
      obtain ⟨h3, h4, -⟩ := canS_of h2
      exact ⟨s, o, hs, ho, h1, h3, h4, rfl, okT_sld ok h3 h1 h4, pot_sld h3 h1 h4⟩
theorem stl_ok {ns nf : Nat} {sp : Nat → Int32} {t : TT} (ok : okT ns nf t) : okT ns nf (stl ns sp t).1 := by
  unfold stl
  have : ∀ r (a : TT × Int32), okT ns nf a.1 → okT ns nf (rn (stp ns sp) (fun a => a) r a).1 := by
    intro r
    induction r with
    | zero => intro a h; exact h
    | succ r ih =>
      intro a h
      simp only [rn]
      cases hf : stp ns sp a with
      | inl a' =>
        obtain ⟨-, -, -, -, -, -, -, -, h1, -⟩ := stp_inl h hf
        exact ih a' h1
      | inr g =>
        unfold stp at hf
        split at hf
        · cases hf
          exact h
        · split at hf
          · cases hf
            exact h
          · cases hf
  exact this 801 (t, 0) ok
section MS
variable {n : Nat} {ρ : Nat → Option Nat} {ad : Nat → Nat} {K : Nat → Option sd_E} {v : Nat → Int32} {x : Nat → Nat → Int32} {y : Nat → Nat → Int64} {G : sd_G} {t : TT} {b : Nat × Nat} {h : sd_H} {ns nf : Nat}
theorem n3_0sub1 : n3 0 - 1 = -1 := by decide
theorem m_canS0 {s : Nat} {Q : Int32 → sd_H → Nat × Nat → Prop} (E : mOk n ρ ad) (hp : ad 4 = ad 20) (hv : v 20 = n3 ns) (hn : ns ≤ 8) : wp (fX5_canSlide G (ad 0) (-1) (n3 s)) (hMo n ρ ad K v (sx x (enc t)) y) b Q = Q 0 (hMo n ρ ad K v (sx x (enc t)) y) b := by
  unfold fX5_canSlide
  simp only [wp_bnd, wp_ret, wp_ite, ↓reduceIte, mFl E, mPu E, m_isSeat E hp hv hn, show ((-1 : Int32) < 0) = True from by decide]
/-- the seat beside, to the left -/
theorem m_canSl {s : Nat} {Q : Int32 → sd_H → Nat × Nat → Prop} (E : mOk n ρ ad) (hp : ad 4 = ad 20) (hv : v 20 = n3 ns) (ok : okT ns nf t) (hs : s < ns) : wp (fX5_canSlide G (ad 0) (n3 s - 1) (n3 s)) (hMo n ρ ad K v (sx x (enc t)) y) b Q = if 1 ≤ s ∧ canS ns (x 31) t (s - 1) s = true then Q 1 (hMo n ρ ad K v (sx x (enc t)) y) b else Q 0 (hMo n ρ ad K v (sx x (enc t)) y) b := by
  have q2 := ok.2.1
  cases s with
  | zero =>
    rw [n3_0sub1, m_canS0 E hp hv q2, if_neg (by omega)]
  | succ s =>
    rw [show n3 (s + 1) - 1 = n3 s from n3_sub (show 1 ≤ s + 1 by omega), m_canS E hp hv ok hs (by omega)]
    simp
theorem m_next {Q : Int32 → sd_H → Nat × Nat → Prop} (E : mOk n ρ ad) (hp : ad 4 = ad 20) (hv : v 20 = n3 ns) (ok : okT ns nf t) : wp (fX5_next G (ad 0)) (hMo n ρ ad K v (sx x (enc t)) y) b Q = Q (match nxt ns (x 31) t 0 with
    | some s => n3 s
    | none => -1) (hMo n ρ ad K v (sx x (enc t)) y) b := by
  have q2 := ok.2.1
  unfold fX5_next
  refine Eq.trans (wp_lp (F := fun k s => fX5_next_b2 G k s.1 s.2) ns (fun i (_ : Unit) => (ad 0, n3 i)) (fun _ => (hMo n ρ ad K v (sx x (enc t)) y)) (fun _ _ => True) (fun j _ => if (frm ns (x 31) t j).isSome then .inr (some j) else .inl ()) (fun _ => none) (fun g => Q (match g with
    | some s => n3 s
    | none => -1) (hMo n ρ ad K v (sx x (enc t)) y) b) ?_ ?_ sd_FU 0 () (Nat.zero_le _) (by unfold sd_FU; omega) trivial) ?_
  · intro k a _
    unfold fX5_next_b2
    simp (disch := omega) only [wp_bnd, wp_ret, wp_ite, ↓reduceIte, mFl E, mPu E, hp, hv, n3_le, Nat.le_refl]
  · intro k i a hi _
    refine ⟨fun _ _ => trivial, ?_⟩
    unfold fX5_next_b2
    have h1 : ¬ ns ≤ i := by omega
    simp (disch := omega) only [wp_bnd, wp_ret, wp_ite, ↓reduceIte, mFl E, mPu E, hp, hv, n3_le, h1, n3_addl]
    rw [m_canSl E hp hv ok hi]
    unfold frm
    split
    · simp
    · simp only [↓reduceIte, hMo_isC4 E]
      rw [m_canS E hp hv ok hi (by omega)]
      split <;> simp
  · rfl
theorem m_settle {Q : Int32 → sd_H → Nat × Nat → Prop} (E : mOk n ρ ad) (hp : ad 4 = ad 20) (hv : v 20 = n3 ns) (ok : okT ns nf t) : wp (fX5_settle_2 G (ad 0)) (hMo n ρ ad K v (sx x (enc t)) y) b Q = Q (stl ns (x 31) t).2 (hMo n ρ ad K v (sx x (enc (setl ns (x 31) t))) y) b := by
  have q2 := ok.2.1
  unfold fX5_settle_2
  rw [wp_bnd, hMo_isC4 E, wp_bnd, m_next E hp hv ok]
  refine Eq.trans (wp_wl (F := fun k s => fX5_settle_2_b7 G k s.1 s.2.1 s.2.2) (fun (a : TT × Int32) => (ad 0, a.2, match nxt ns (x 31) a.1 0 with
    | some s => n3 s
    | none => -1)) (fun a => hMo n ρ ad K v (sx x (enc a.1)) y) (fun m a => okT ns nf a.1 ∧ m = pot ns a.1.2.1) (stp ns (x 31)) (fun a => a) (fun g => Q g.2 (hMo n ρ ad K v (sx x (enc (adds g.1 g.2))) y) b) ?_ ?_ sd_FU 801 (pot ns t.2.1) (t, 0) ?_ ?_ ⟨ok, rfl⟩) ?_
  · rintro k m a ⟨oka, -⟩
    obtain ⟨t, c⟩ := a
    simp only at oka ⊢
    unfold stp fX5_settle_2_b7
    cases hx : nxt ns (x 31) t 0 with
    | none =>
      simp (disch := omega) only [wp_bnd, wp_ret, wp_ite, ↓reduceIte, mFl E, mPu E, mAr E, mAs E, ald_lit, ast_lit, sxs, up2_sx, enc_nu, enc_unu]
      rfl
    | some s =>
      obtain ⟨h1, h2⟩ := nxt_of _ 0 (by omega) hx
      cases hf : frm ns (x 31) t s with
      | none => rw [hf] at h2; cases h2
      | some o =>
        obtain ⟨h3, h4⟩ := frm_of hf
        obtain ⟨h5, h6, -, -⟩ := canS_of h3
        have h7 := oka.2.2.1 o h5
        have h8 := oka.top h5 (by omega)
        have hne : s ≠ o := by omega
        simp only [hf]
        have body : ∀ (Q' : Int32 → sd_H → Nat × Nat → Prop), wp (fX5_settle_2_b32 G k (ad 0) c (n3 s) (n3 o)) (hMo n ρ ad K v (sx x (enc t)) y) b Q' = wp (k (ad 0, c + 1, match nxt ns (x 31) (sld t o s) 0 with
            | some s => n3 s
            | none => -1)) (hMo n ρ ad K v (sx x (enc (sld t o s))) y) b Q' := by
          intro Q'
          unfold fX5_settle_2_b32
          simp (disch := omega) only [wp_bnd, wp_ret, wp_ite, ↓reduceIte, mFl E, mPu E, mAr E, mAs E, m_top E, sxs, up2_sx, n3_ladd, n3_lmul, n3_add, n3_addl, n3_subl, enc_tl, enc_utl, m_tall E, updN_ne, enc_ust, enc_ulo]
          have := m_next (G := G) (K := K) (v := v) (x := x) (y := y) (b := b) (Q := fun r h' b' => wp (k (ad 0, c + 1, r)) h' b' Q') E hp hv (okT_sld oka h5 h1 h6)
          exact this
        by_cases hl : 1 ≤ s ∧ canS ns (x 31) t (s - 1) s = true
        · have ho : o = s - 1 := by
            unfold frm at hf
            rw [if_pos hl] at hf
            cases hf
            rfl
          simp (disch := omega) only [wp_bnd, wp_ret, wp_ite, ↓reduceIte, mFl E, mPu E, n3_neg1]
          rw [m_canSl E hp hv oka h1, if_pos hl]
          simp only [show ((1 : Int32) = 0) = False from by decide, ↓reduceIte]
          rw [show n3 s - 1 = n3 o from by rw [ho]; exact n3_sub hl.1]
          exact body Q
        · have ho : o = s + 1 := by
            unfold frm at hf
            rw [if_neg hl] at hf
            split at hf
            · cases hf
              rfl
            · cases hf
          simp (disch := omega) only [wp_bnd, wp_ret, wp_ite, ↓reduceIte, mFl E, mPu E, n3_neg1]
          rw [m_canSl E hp hv oka h1, if_neg hl]
          simp only [↓reduceIte]
          rw [show n3 s + 1 = n3 o from by rw [ho]; exact n3_add s 1]
          exact body Q
  · rintro m a a' ⟨oka, hm⟩ hf
    obtain ⟨s, o, -, -, -, -, -, -, h1, h2⟩ := stp_inl oka hf
    exact ⟨_, by rw [hm]; exact h2, h1, rfl⟩
  · have := pot_le (c := 0) ns (fun s hs => ok.2.2.1 s hs)
    unfold sd_FU
    omega
  · have := pot_le (c := 0) ns (fun s hs => ok.2.2.1 s hs)
    omega
  · rfl
end MS
