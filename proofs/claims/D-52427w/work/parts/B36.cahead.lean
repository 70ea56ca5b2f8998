/-! THE PLAIN LAW: the component: days until a find is found, the best dig -/
/-- days until a find is found -/
def unt (q : Nat → Nat) (x : Nat → Nat → Int32) (f : Nat) : Nat → Nat → TT → Int32
  | 0, _, _ => -1
  | r + 1, k, t => if t.2.2.2.2 f = 0 then unt q x f r (k + 1) (dys q x 1 t) else n3 k
/-- step by step -/
def itr {β : Type} (g : Nat → β → β) : Nat → Nat → β → β
  | 0, _, d => d
  | r + 1, i, d => itr g r (i + 1) (g i d)
theorem itr_st {β : Type} (g : Nat → β → β) {n i : Nat} {d : β} (h : i < n) : itr g (n - i) i d = itr g (n - (i + 1)) (i + 1) (g i d) := by
  rw [show n - i = (n - (i + 1)) + 1 by omega]
  rfl
theorem itr_en {β : Type} (g : Nat → β → β) {n : Nat} {d : β} : itr g (n - n) n d = d := by
  rw [Nat.sub_self]
  rfl
def lft (x : Nat → Nat → Int32) (t : TT) (s : Nat) : Int32 := cnt (lftB x t s) (t.2.1 s)
/-- the best seat so far -/
def bsS (q : Nat → Nat) (x : Nat → Nat → Int32) (t : TT) (s : Nat) (a : Option Nat × Int32) : Option Nat × Int32 := if t.2.1 s = 0 then a else match a.1 with
  | none => (some s, slb q x t s)
  | some k => if a.2 < slb q x t s then a else if slb q x t s = a.2 then (if lft x t k < lft x t s then (some s, slb q x t s) else a) else (some s, slb q x t s)
def bE : Option Nat → Int32
  | none => -1
  | some k => n3 k
def bst (q : Nat → Nat) (x : Nat → Nat → Int32) (t : TT) : Int32 := bE (itr (bsS q x t) (q 20) 0 (none, 0)).1
theorem n3_ne1 {k : Nat} (h : k < 2147483648) : n3 k ≠ -1 := by
  intro e
  have h1 : ¬ n3 k < 0 := by
    rw [show (0 : Int32) = n3 0 from rfl, n3_lt (by omega) (by omega)]
    omega
  rw [e] at h1
  exact h1 (by decide)
theorem bsS_lt {q : Nat → Nat} {x : Nat → Nat → Int32} {t : TT} {s : Nat} {a : Option Nat × Int32} (hs : s < q 20) (h : ∀ k, a.1 = some k → k < q 20) : ∀ k, (bsS q x t s a).1 = some k → k < q 20 := by
  intro k hk
  unfold bsS at hk
  split at hk
  · exact h k hk
  · split at hk
    · cases hk
      exact hs
    · split at hk
      · exact h k hk
      · split at hk
        · split at hk
          · cases hk
            exact hs
          · exact h k hk
        · cases hk
          exact hs
section CAH
variable {t : TT} {b : Nat × Nat} {G : sd_G} {cx tp bt s0 E1 : Nat} {B : Nat → Nat} {Z : Nat → Prop} {q : Nat → Nat} {x : Nat → Nat → Int32} {ea : Int32} {sz : Nat} {bs : Nat → Int32} {h : sd_H}
theorem c_best {Q : Int32 → sd_H → Nat × Nat → Prop} (C : CI G cx tp bt s0 E1 B Z q x ea sz bs h t) (b1 : 1680 ≤ b.1) (b2 : 27904 ≤ b.2) (kk : ∀ h' b', CI G cx tp bt s0 E1 B Z q x ea sz bs h' t → fr h h' E1 (B 1) → b.1 ≤ b'.1 + 1680 → b.2 ≤ b'.2 + 27904 → Q (bst q x t) h' b') : wp (fX1_bestDig G cx) h b Q := by
  obtain ⟨hP, hT, -, -⟩ := C_P C
  have q20 := hP.1.2
  unfold fX1_bestDig
  refine wp_for (q 20) (fun i (a : Option Nat × Int32) => (cx, bE a.1, a.2, n3 i)) (fun i a h' b' => CI G cx tp bt s0 E1 B Z q x ea sz bs h' t ∧ fr h h' E1 (B 1) ∧ b.1 ≤ b'.1 + 210 * i ∧ b.2 ≤ b'.2 + 3488 * i ∧ (∀ k, a.1 = some k → k < q 20) ∧ itr (bsS q x t) (q 20 - i) i a = itr (bsS q x t) (q 20) 0 (none, 0)) ?_ ?_ sd_FU 0 (none, 0) h b (Nat.zero_le _) (by unfold sd_FU; omega) ⟨C, fr.refl, by omega, by omega, fun k hk => by (cases hk), rfl⟩
  · rintro k a h' b' ⟨C', f', i1, i2, i3, i4⟩
    obtain ⟨r1, r2, r3, r4, r5, r6⟩ := c_rd C'
    obtain ⟨o0, o1, o8, o9, o10, o11, o12, o6, oe⟩ := c_so C'
    show wp (fX1_bestDig_b6 G k cx (bE a.1) a.2 (n3 (q 20))) h' b' Q
    unfold fX1_bestDig_b6
    rw [wp_bnd, r4, wp_bnd, o1, wp_ite, if_pos (by rw [n3_le (by omega) (by omega)]; exact Nat.le_refl _), wp_ret]
    rw [itr_en] at i4
    have := kk h' b' C' f' (by omega) (by omega)
    unfold bst at this
    rw [← i4] at this
    exact this
  · rintro k i a h' b' hi ⟨C', f', i1, i2, i3, i4⟩ nx
    obtain ⟨r1, r2, r3, r4, r5, r6⟩ := c_rd C'
    obtain ⟨o0, o1, o8, o9, o10, o11, o12, o6, oe⟩ := c_so C'
    have h10 := hT.2.2.1 i hi
    rw [itr_st _ hi] at i4
    have hn : ¬ n3 (q 20) ≤ n3 i := by
      rw [n3_le (by omega) (by omega)]
      omega
    have nx2 : ∀ a' h'' b'', a' = bsS q x t i a → CI G cx tp bt s0 E1 B Z q x ea sz bs h'' t → fr h h'' E1 (B 1) → b'.1 ≤ b''.1 + 210 → b'.2 ≤ b''.2 + 3488 → wp (k (cx, bE a'.1, a'.2, n3 i + 1)) h'' b'' Q := by
      intro a' h'' b'' e C'' f'' y1 y2
      have := nx a' h'' b'' ⟨C'', f'', by omega, by omega, e ▸ bsS_lt hi i3, e ▸ i4⟩
      rw [show n3 i + 1 = n3 (i + 1) from by rw [show (1 : Int32) = n3 1 from rfl, n3_add]]
      exact this
    show wp (fX1_bestDig_b6 G k cx (bE a.1) a.2 (n3 i)) h' b' Q
    unfold fX1_bestDig_b6
    rw [wp_bnd, r4, wp_bnd, o1, wp_ite, if_neg hn, wp_bnd, r4, wp_bnd, o12, wp_bnd, c_height C' hi, wp_ite]
    by_cases c0 : t.2.1 i = 0
    · rw [if_pos (by rw [c0]; rfl), wp_bnd, wp_ret]
      exact nx2 _ _ _ (by unfold bsS; rw [if_pos c0]) C' f' (by omega) (by omega)
    · have e0 : ¬ n3 (t.2.1 i) = 0 := by
        rw [show (0 : Int32) = n3 0 from rfl, n3_eq (by omega) (by omega)]
        exact c0
      rw [if_neg e0, wp_bnd, r1, wp_bnd]
      refine c_slidesBy C' hi (by omega) (by omega) (by omega) (fun h'' b'' C'' f'' y1 y2 => ?_)
      have f2 := f'.trans f''
      obtain ⟨a1, a2⟩ := a
      cases a1 with
      | none =>
        rw [wp_ite, if_pos (show bE none = -1 from rfl), wp_bnd, wp_ret]
        exact nx2 (some i, slb q x t i) _ _ (by unfold bsS; rw [if_neg c0]) C'' f2 (by omega) (by omega)
      | some j =>
        have hj := i3 j rfl
        rw [wp_ite, if_neg (show ¬ bE (some j) = -1 from n3_ne1 (by omega)), wp_ite]
        by_cases c1 : a2 < slb q x t i
        · rw [if_pos c1, wp_bnd, wp_ret]
          exact nx2 (some j, a2) _ _ (by unfold bsS; rw [if_neg c0]; simp only; rw [if_pos c1]) C'' f2 (by omega) (by omega)
        · rw [if_neg c1, wp_ite]
          by_cases c2 : slb q x t i = a2
          · rw [if_pos c2]
            obtain ⟨r1, r2, r3, r4, r5, r6⟩ := c_rd C''
            obtain ⟨o0, o1, o8, o9, o10, o11, o12, o6, oe⟩ := c_so C''
            rw [wp_bnd, r4, wp_bnd, o12, wp_bnd]
            refine c_left C'' hi (by omega) (by omega) (fun h3 C3 f3 => ?_)
            obtain ⟨r1, r2, r3, r4, r5, r6⟩ := c_rd C3
            obtain ⟨o0, o1, o8, o9, o10, o11, o12, o6, oe⟩ := c_so C3
            rw [wp_bnd, r4, wp_bnd, o12, wp_bnd]
            refine c_left C3 hj (by simp only; omega) (by simp only; omega) (fun h4 C4 f4 => ?_)
            rw [wp_ite]
            by_cases c3 : lft x t j < lft x t i
            · rw [if_pos (show cnt (lftB x t j) (t.2.1 j) < cnt (lftB x t i) (t.2.1 i) from c3), wp_bnd, wp_ret]
              exact nx2 (some i, slb q x t i) _ _ (by unfold bsS; rw [if_neg c0]; simp only; rw [if_neg c1, if_pos c2, if_pos c3]) C4 ((f2.trans f3).trans f4) (by simp only; omega) (by simp only; omega)
            · rw [if_neg (show ¬ cnt (lftB x t j) (t.2.1 j) < cnt (lftB x t i) (t.2.1 i) from c3), wp_bnd, wp_ret]
              exact nx2 (some j, a2) _ _ (by unfold bsS; rw [if_neg c0]; simp only; rw [if_neg c1, if_pos c2, if_neg c3]) C4 ((f2.trans f3).trans f4) (by simp only; omega) (by simp only; omega)
          · rw [if_neg c2, wp_bnd, wp_ret]
            exact nx2 (some i, slb q x t i) _ _ (by unfold bsS; rw [if_neg c0]; simp only; rw [if_neg c1, if_neg c2]) C'' f2 (by omega) (by omega)
theorem a_daysUntilFound (C : CI G cx tp bt s0 E1 B Z q x ea sz bs h t) (a : Int32) : CO G cx tp bt s0 E1 B Z q x ea sz bs (fX1_daysUntilFound G cx a) h t (fun h' r => AN h' r (ixA a (q 26) fun f => .inl (unt q x f 31 0 t))) := by
  intro b Q b1 b2 kk
  obtain ⟨hP, hT, h3, -⟩ := C_P C
  have q26 := hP.2.2.2.1
  have q8 := hP.1.2
  obtain ⟨r1, r2, r3, r4, r5, r6⟩ := c_rd C
  obtain ⟨f3, f4, l1, l2, l3, l4, l5, l6, l7⟩ := c_ls C
  unfold fX1_daysUntilFound
  rcases inR_cases a (n := q 26) (by omega) with ⟨f, hf, rfl⟩ | ⟨hb, hn⟩
  · simp only [ixA_ok hf (show q 26 ≤ 1000000 by omega)] at kk
    have hi : ∀ {h : sd_H} {b : Nat × Nat} {Q : Unit ⊕ Nat → sd_H → Nat × Nat → Prop}, wp (fX1_requireIndex G (n3 f) (n3 (q 26))) h b Q = Q (.inl ()) h b := r_idx hf (by omega)
    rw [wp_bnd, r4, wp_bnd, l4, wp_bnd, l5, wp_bnd, l6, wp_bx, hi]
    show wp (sd_bnd _ _) h b Q
    rw [wp_bnd, r5, wp_bnd, r4, wp_bnd, r6, wp_bnd]
    refine c_take C (by omega) (by omega) (fun n' ρ' K' ad' mc' em' cs' b' A' O' w' e0 e3 back bb1 bb2 => ?_)
    have ce := cE_le (em := em') (q 20)
    refine wp_for 31 (fun i (u : TT) => (cx, n3 f, n3 i)) (fun i u h' b' => ∃ n2 ρ2 K2 ad2 mc2 em2, h' = hSo G n2 ρ2 K2 ad2 B q x mc2 em2 u ∧ XT n' ρ' K' ad' em' n2 ρ2 K2 ad2 em2 ∧ sA G n2 ρ2 K2 ad2 B q x em2 cs' u ∧ ok3 u ∧ wfH G h' ∧ b.1 + cE em2 (q 20) ≤ b'.1 + 208 + i ∧ b.2 + 10 * cE em2 (q 20) ≤ b'.2 + 3480 + 4 * i ∧ unt q x f (31 - i) i u = unt q x f 31 0 t) ?_ ?_ sd_FU 0 t _ b' (Nat.zero_le _) (by unfold sd_FU; omega) ⟨n', ρ', K', ad', mc', em', rfl, XT.refl, A', h3, w', by omega, by omega, rfl⟩
    · rintro k u h' b2 ⟨n2, ρ2, K2, ad2, mc2, em2, rfl, X, A2, h32, w2, i1, i2, i3⟩
      obtain ⟨C', f'⟩ := back _ _ _ _ mc2 _ _ X A2 w2
      show wp (fX1_daysUntilFound_b28 G k cx (n3 f) (n3 31)) _ b2 Q
      unfold fX1_daysUntilFound_b28
      rw [wp_ite, if_pos (by decide), wp_ret]
      rw [show 31 - 31 = 0 from rfl] at i3
      rw [← i3] at kk
      exact kk _ _ _ C' f' (by omega) (by omega) rfl
    · rintro k i u h' b2 hi31 ⟨n2, ρ2, K2, ad2, mc2, em2, rfl, X, A2, h32, w2, i1, i2, i3⟩ nx
      obtain ⟨C', f'⟩ := back _ _ _ _ mc2 _ _ X A2 w2
      obtain ⟨r1, r2, r3, r4, r5, r6⟩ := c_rd C'
      have a0 : ad2 0 = B 0 := (X.1.ad (by omega)).trans e0
      obtain ⟨-, -, -, -, -, -, g6, -, -, -, -, -, g12, g13⟩ := s_rd (mc := mc2) A2
      have fz := (A2.2.2.2.2.2.2.2.2.2.1 f).1
      have ce2 := cE_le (em := em2) (q 20)
      have hn : ¬ (30 : Int32) < n3 i := by
        rw [show (30 : Int32) = n3 30 from rfl, n3_lt (by omega) (by omega)]
        omega
      show wp (fX1_daysUntilFound_b28 G k cx (n3 f) (n3 i)) _ b2 Q
      unfold fX1_daysUntilFound_b28
      rw [wp_ite, if_neg hn, wp_bnd, r5, ← a0, wp_bnd, g6, wp_bnd, g13 f _ _ (by omega), wp_ite]
      rw [show 31 - i = (31 - (i + 1)) + 1 by omega] at i3
      have i3 : (if u.2.2.2.2 f = 0 then unt q x f (31 - (i + 1)) (i + 1) (dys q x 1 u) else n3 i) = unt q x f 31 0 t := i3
      by_cases c : u.2.2.2.2 f = 0
      · rw [if_pos (by rw [cnv_0 fz]; exact c), wp_bnd, r5, ← a0, wp_bnd, g12, wp_bnd]
        rw [if_pos c] at i3
        have O2 := sO_X X O'
        refine s_pass (m := 1) A2 O2 h32 w2 (by omega) (by omega) (by omega) (fun n3' ρ3 K3 ad3 mc3 em3 b3 X3 bb A3 w3 => ?_)
        obtain ⟨bb3, bb4⟩ := bb
        rw [wp_bnd, wp_ret]
        have := nx _ _ b3 ⟨n3', ρ3, K3, ad3, mc3, em3, rfl, X.trans X3, A3, ok3_dys A2.2.2.2.1 1 u A2.2.2.2.2 h32, w3, by omega, by omega, i3⟩
        rw [show n3 i + 1 = n3 (i + 1) from by rw [show (1 : Int32) = n3 1 from rfl, n3_add]]
        exact this
      · rw [if_neg (by rw [cnv_0 fz]; exact c), wp_ret]
        rw [if_neg c] at i3
        rw [← i3] at kk
        exact kk _ _ _ C' f' (by omega) (by omega) rfl
  · simp only [ixA_bad hn] at kk
    have hi : ∀ {h : sd_H} {Q : Unit ⊕ Nat → sd_H → Nat × Nat → Prop}, wp (fX1_requireIndex G a (n3 (q 26))) h b Q = Q (.inr h.1) (sd_pu h (.inr (50, []))) (b.1 - 1, b.2 - 6) := r_idb hb (by omega) (by omega)
    simp only [↓wp_bnd, ↓wp_bx, ↓wp_ret, r4, l4, l5, l6, hi]
    exact kk _ _ _ (CI_pu C).1 (CI_pu C).2 (by simp only; omega) (by simp only; omega) (pu_at _ _)
end CAH
