/-! THE PLAIN LAW: the model's second look: all lines; names become numbers -/
section PBM
variable {κ : Nat → Nat} {vl : Nat → Int32} {N : Nat}
theorem pBk_mem (hN : tkN κ N) : ∀ f i L, i ≤ N → pBk κ vl f i = .inl L → ∀ l, l ∈ L → pLin κ vl l.1 = .inl l ∧ i ≤ l.1 ∧ l.1 ≤ N := by
  intro f
  induction f with
  | zero => intro i L _ h; cases h
  | succ f ih =>
    intro i L hi h l hl
    simp only [pBk] at h
    by_cases e33 : κ i = 33
    · rw [if_pos e33] at h
      cases h
      cases hl
    · rw [if_neg e33] at h
      have ok := pLin_ok (vl := vl) hN hi
      cases hx : pLin κ vl i with
      | inr j =>
        rw [hx] at h
        cases h
      | inl l0 =>
        rw [hx] at h ok
        obtain ⟨o1, o2, o3, -⟩ := ok
        by_cases e59 : κ l0.2.1 = 59
        · have s1 := tk_suc hN o3 e59 (by decide) (by decide)
          simp only [e59, ↓reduceIte] at h
          cases hr : pBk κ vl f (l0.2.1 + 1) with
          | inr j =>
            rw [hr] at h
            cases h
          | inl L0 =>
            rw [hr] at h
            cases h
            rw [List.mem_cons] at hl
            rcases hl with rfl | hl
            · rw [o1]
              exact ⟨hx, Nat.le_refl _, hi⟩
            · have := ih _ L0 s1 hr l hl
              exact ⟨this.1, by omega, this.2.2⟩
        · simp only [e59, ↓reduceIte] at h
          cases h
end PBM
section MLA
variable {n : Nat} {ρ : Nat → Option Nat} {ad : Nat → Nat} {K : Nat → Option sd_E} {v : Nat → Int32} {y : Nat → Nat → Int64} {G : sd_G} {b : Nat × Nat} {t fu : Nat} {κ pl nb nw : Nat → Nat} {vl : Nat → Int32} {N : Nat} {e : Nat → Int32} {S : SS}
/-- the meanings of a line's tokens -/
def mkd (κ : Nat → Nat) (e : Nat → Int32) (l : Ln) : Prop := e l.2.1 = 0 ∧ ∀ k, l.1 ≤ k → k < l.2.1 → e k = mkT κ l k
theorem l_line {l : Ln} {Q : Int32 → sd_H → Nat × Nat → Prop} (E : mOk n ρ ad) (hN : tkN κ N) (D : TD κ pl nb nw N e S.2.2 y) (L : SL t S v y) (htN : t ≤ N) (hl : pLin κ vl l.1 = .inl l) (hi : l.1 ≤ N) (hj : l.2.1 < t) (hf : t - l.1 < fu) (mk : mkd κ e l) (kk : kL G pl t n ρ ad K v S.2.2 y b Q (l.2.1 + 1) (lLin κ nb nw S l)) : wp (LPr G ad fu l.1) (hMo n ρ ad K v S.2.2 y) b Q := by
  have h400 := hN.1
  obtain ⟨mz, mk⟩ := mk
  have ok := pLin_ok (vl := vl) hN hi
  rw [hl] at ok
  obtain ⟨-, ok2, ok3, -, ok5⟩ := ok
  unfold lLin at kk
  -- a template's facts
  have tm : ∀ (c : Nat) (cs : List Nat), κ l.1 = c → c ≠ 32 → c ≠ 33 → isO c = false → (∀ c, c ∈ cs → c ≠ 32 ∧ c ≠ 33) → tmL κ l.1 cs = .inl l → l.2.1 = l.1 + 1 + cs.length ∧ (∀ k c, cs[k]? = some c → κ (l.1 + 1 + k) = c) ∧ ∀ t' c1 z, (csO c)[t']? = some (c1, z) → t' < cs.length + 1 → e (l.1 + t') = z.getD 0 := by
    intro c cs hc c1 c2 ho hcs htm
    have := tmL_ok hN hcs (tk_suc hN hi hc c1 c2)
    rw [htm] at this
    obtain ⟨-, t2, t3⟩ := this
    have hj' : l.2.1 = l.1 + 1 + cs.length := by
      have := congrArg (fun l : Ln => l.2.1) t2
      exact this
    refine ⟨hj', t3, fun t' c' z hz ht => ?_⟩
    rw [mk (l.1 + t') (by omega) (by omega)]
    unfold mkT
    rw [hc, ho, if_neg (by decide), mkL_at _ _ _ _ _ _ hz]
  unfold pLin at hl
  by_cases o1 : κ l.1 = 11 ∨ κ l.1 = 12 ∨ κ l.1 = 13
  · rw [if_pos o1] at hl
    rw [if_neg (by omega), if_neg (by omega), if_neg (by omega), if_neg (by omega)] at kk
    have hO : isO (κ l.1) = true := by
      unfold isO
      rcases o1 with h | h | h <;> rw [h] <;> rfl
    have hi1 : l.1 + 1 ≤ N := by omega
    refine l_ord E D L htN h400 ok2 hj hf (pOrd_srt hN hi1 hl) ok5 ?_ (fun k h1 h2 => ?_) kk
    · rw [mk l.1 (Nat.le_refl _) ok2]
      unfold mkT
      rw [if_pos hO, if_pos rfl]
    · by_cases c1 : k = l.2.1
      · rw [c1, mz, if_neg (fun h => by have := (ok5 _ h).2.1; omega)]
      · rw [mk k (by omega) (by omega)]
        unfold mkT
        rw [if_pos hO, if_neg (by omega)]
  · rw [if_neg o1] at hl
    by_cases e2 : κ l.1 = 2
    · rw [if_pos e2] at hl kk
      obtain ⟨a1, a2, a3⟩ := tm 2 _ e2 (by decide) (by decide) rfl (by decide) hl
      have a1 : l.2.1 = l.1 + 6 := a1
      rw [a1] at kk mz
      exact l_emp E D L htN h400 (by omega) hf (a2 0 30 rfl) (a2 2 31 rfl) (a2 4 31 rfl) (a3 0 2 none rfl (by decide)) (a3 1 30 (some 3) rfl (by decide)) (a3 2 3 none rfl (by decide)) (a3 3 31 (some 4) rfl (by decide)) (a3 4 4 none rfl (by decide)) (a3 5 31 (some 5) rfl (by decide)) mz kk
    · rw [if_neg e2] at hl kk
      by_cases e7 : κ l.1 = 7
      · rw [if_pos e7] at hl kk
        obtain ⟨a1, a2, a3⟩ := tm 7 _ e7 (by decide) (by decide) rfl (by decide) hl
        have a1 : l.2.1 = l.1 + 5 := a1
        rw [a1] at kk mz
        exact l_spr E D L htN h400 (by omega) hf e7 (a2 1 31 rfl) (a2 3 31 rfl) (a3 0 7 (some 0) rfl (by decide)) (a3 1 8 none rfl (by decide)) (a3 2 31 (some 7) rfl (by decide)) (a3 3 44 none rfl (by decide)) (a3 4 31 (some 8) rfl (by decide)) mz kk
      · rw [if_neg e7] at hl kk
        by_cases e5 : κ l.1 = 5
        · rw [if_pos e5] at hl kk
          obtain ⟨a1, a2, a3⟩ := tm 5 _ e5 (by decide) (by decide) rfl (by decide) hl
          have a1 : l.2.1 = l.1 + 7 := a1
          rw [a1] at kk mz
          exact l_fin (co := true) E D L htN h400 (by omega) hf e5 (a2 1 31 rfl) (a2 3 31 rfl) (a2 5 31 rfl) (a3 0 5 (some 6) rfl (by decide)) (a3 1 8 none rfl (by decide)) (a3 2 31 (some 7) rfl (by decide)) (a3 3 44 none rfl (by decide)) (a3 4 31 (some 8) rfl (by decide)) (a3 5 9 none rfl (by decide)) (a3 6 31 (some 9) rfl (by decide)) mz kk
        · rw [if_neg e5] at hl kk
          by_cases e6 : κ l.1 = 6
          · rw [if_pos e6] at hl kk
            obtain ⟨a1, a2, a3⟩ := tm 6 _ e6 (by decide) (by decide) rfl (by decide) hl
            have a1 : l.2.1 = l.1 + 7 := a1
            rw [a1] at kk mz
            exact l_fin (co := false) E D L htN h400 (by omega) hf e6 (a2 1 31 rfl) (a2 3 31 rfl) (a2 5 30 rfl) (a3 0 6 (some 6) rfl (by decide)) (a3 1 8 none rfl (by decide)) (a3 2 31 (some 7) rfl (by decide)) (a3 3 44 none rfl (by decide)) (a3 4 31 (some 8) rfl (by decide)) (a3 5 10 none rfl (by decide)) (a3 6 30 (some 10) rfl (by decide)) mz kk
          · rw [if_neg e6] at hl
            cases hl
/-- behind all lines -/
def kF (G : sd_G) (pl : Nat → Nat) (t n : Nat) (ρ : Nat → Option Nat) (ad : Nat → Nat) (K : Nat → Option sd_E) (v : Nat → Int32) (x : Nat → Nat → Int32) (y : Nat → Nat → Int64) (b : Nat × Nat) (Q : Int32 → sd_H → Nat × Nat → Prop) : SS ⊕ (Nat × Nat) → Prop
  | .inr (er, k) => kE pl n ρ ad K v x y b Q er k
  | .inl S' => ∀ v' y', vk v v' → v' 3 = v 3 → SL t S' v' y' → xk x S'.2.2 → yk y y' → wp (sd_bnd (fX5_settle G (ad 0) (ad 20)) fun _ => sd_ret 0) (hMo n ρ ad K v' S'.2.2 y') b Q
theorem l_all {Q : Int32 → sd_H → Nat × Nat → Prop} (E : mOk n ρ ad) (hN : tkN κ N) (htN : t ≤ N) : ∀ (L : List Ln) (i : Nat) (S : SS) (v : Nat → Int32) (y : Nat → Nat → Int64) (fu : Nat), chL i L t → (∀ l, l ∈ L → pLin κ vl l.1 = .inl l ∧ l.1 ≤ N ∧ mkd κ e l) → TD κ pl nb nw N e S.2.2 y → SL t S v y → t - i < fu → kF G pl t n ρ ad K v S.2.2 y b Q (lAll κ nb nw S L) → wp (LPr G ad fu i) (hMo n ρ ad K v S.2.2 y) b Q := by
  have h400 := hN.1
  intro L
  induction L with
  | nil =>
    intro i S v y fu hc _ D L hf kk
    have hc : i = t := hc
    subst hc
    obtain ⟨fu, rfl⟩ : ∃ q, fu = q + 1 := ⟨fu - 1, by omega⟩
    show wp (fX5_read_b44 G _ (ad 0) (ad 20) (n3 i)) _ b Q
    rw [fX5_read_b44, wp_bnd, hMo_getI4 E rfl, L.1, wp_ite, if_pos (by rw [n3_le (by omega) (by omega)]; exact Nat.le_refl _), wp_bnd, hMo_isC4 E]
    exact kk v y vk.refl rfl L xk.refl yk.refl
  | cons l r ih =>
    intro i S v y fu hc hm D L hf kk
    obtain ⟨c1, c2, c3⟩ := hc
    subst c1
    have hlt : l.2.1 < t := by
      have : ∀ (r : List Ln) (j : Nat), chL j r t → j ≤ t := by
        intro r
        induction r with
        | nil => intro j h; exact Nat.le_of_eq h
        | cons l' r' ih' =>
          intro j h
          have := ih' _ h.2.2
          have := h.2.1
          omega
      exact this r _ c3
    obtain ⟨m1, m2, m3⟩ := hm l (by simp)
    refine l_line (vl := vl) E hN D L htN m1 m2 hlt hf m3 ?_
    simp only [lAll] at kk
    cases hx : lLin κ nb nw S l with
    | inr er =>
      rw [hx] at kk
      exact kk
    | inl S' =>
      rw [hx] at kk
      intro v' y' fu' q1 q2 q3 q4 q5 q6
      refine ih (l.2.1 + 1) S' v' y' fu' c3 (fun l' hl' => hm l' (by simp [hl'])) (D.keep q4 q5) q3 q6 ?_
      revert kk
      show kF G pl t n ρ ad K v S.2.2 y b Q (lAll κ nb nw S' r) → _
      cases lAll κ nb nw S' r with
      | inr er =>
        intro kk v2 x2 y2 z1 z2 z3 z4
        exact kk v2 x2 y2 (q1.trans z1) z2 (q4.trans z3) (q5.trans z4)
      | inl S2 =>
        intro kk v2 y2 z1 z2 z3 z4 z5
        exact kk v2 y2 (q1.trans z1) (z2.trans q2) z3 (q4.trans z4) (q5.trans z5)
/-- the header, then all lines -/
def lBook (κ nb nw : Nat → Nat) (S : SS) (L : List Ln) : SS ⊕ (Nat × Nat) := match lHd κ nb S with
  | .inr er => .inr er
  | .inl S' => lAll κ nb nw S' L
theorem l_book {L : List Ln} {i0 : Nat} {Q : Int32 → sd_H → Nat × Nat → Prop} (E : mOk n ρ ad) (hN : tkN κ N) (htN : t ≤ N) (hh : pHd κ = .inl i0) (he : i0 = 5 → e 0 = 0 ∧ e 1 = 1 ∧ e 2 = 0 ∧ e 3 = 2 ∧ e 4 = 0) (hc : chL i0 L t) (hm : ∀ l, l ∈ L → pLin κ vl l.1 = .inl l ∧ l.1 ≤ N ∧ mkd κ e l) (D : TD κ pl nb nw N e S.2.2 y) (Sl : SL t S v y) (hf : t < fu) (kk : kF G pl t n ρ ad K v S.2.2 y b Q (lBook κ nb nw S L)) : wp (LPr G ad fu 0) (hMo n ρ ad K v S.2.2 y) b Q := by
  have h400 := hN.1
  have hd := pHd_ok hN
  rw [hh] at hd
  obtain ⟨d1, d2⟩ := hd
  unfold lBook lHd at kk
  by_cases c0 : κ 0 = 0
  · have i5 : i0 = 5 ∧ κ 0 = 0 ∧ κ 1 = 31 ∧ κ 2 = 1 ∧ κ 3 = 31 ∧ κ 4 = 59 := by
      rcases d2 with d2 | d2
      · exfalso
        subst d2
        unfold pHd at hh
        rw [if_pos c0] at hh
        have := tmp_ok hN [31, 1, 31, 59] 1 (by decide) (tk_suc hN (Nat.zero_le _) c0 (by decide) (by decide))
        rw [hh] at this
        have := this.1
        simp at this
      · exact d2
    obtain ⟨rfl, -, k1, k2, k3, k4⟩ := i5
    obtain ⟨e0, e1, e2, e3, e4⟩ := he rfl
    have h5t : 5 ≤ t := by
      have : ∀ (r : List Ln) (j : Nat), chL j r t → j ≤ t := by
        intro r
        induction r with
        | nil => intro j h; exact Nat.le_of_eq h
        | cons l' r' ih' =>
          intro j h
          have := ih' _ h.2.2
          have := h.2.1
          omega
      exact this L 5 hc
    obtain ⟨fu, rfl⟩ : ∃ q, fu = q + 1 + 1 + 1 + 1 + 1 := ⟨fu - 5, by omega⟩
    have hft : t - 5 < fu := by omega
    have t4 : t ≤ 400 := by omega
    have l0 : 0 < t := by omega
    have l1 : 0 + 1 < t := by omega
    have l2 : 0 + 1 + 1 < t := by omega
    have l3 : 0 + 1 + 1 + 1 < t := by omega
    have l4 : 0 + 1 + 1 + 1 + 1 < t := by omega
    have D0 := D 0 (by omega)
    have D1 := D 1 (by omega)
    have D2 := D 2 (by omega)
    have D3 := D 3 (by omega)
    have D4 := D 4 (by omega)
    rw [if_pos c0] at kk
    have L0 := Sl
    obtain ⟨s10, s20, s21, s22, s26, s32, sn, b20, b21, b22, b26, b32⟩ := Sl
    obtain ⟨y1, y1'⟩ := D1.2.2.2.2.1 k1
    obtain ⟨y3, y3'⟩ := D3.2.2.2.2.1 k3
    refine lp_0 E s10 t4 l0 (D0.2.2.2.1.trans e0) ?_
    refine lp_st E s10 t4 l1 ?_
    show wp (fX5_errorOf G (ad 0) (ad 20) (n3 1)) _ b _
    rw [e_1 E (by decide) (D1.2.2.2.1.trans e1), y1, f_seats E y1']
    by_cases c1 : nb 1 < 2 ∨ 8 < nb 1
    · rw [if_pos c1] at kk ⊢
      exact lp_er E (by decide) D1.2.2.1 (by decide) (by decide) (kk _ _ _ (vk_upd (k := 3) (by decide)) (upd_same _ _ _) xk.refl yk.refl)
    · rw [if_neg c1] at kk ⊢
      rw [if_pos rfl]
      refine lp_0 (t := t) E s10 t4 l2 (D2.2.2.2.1.trans e2) ?_
      refine lp_st (t := t) E s10 t4 l3 ?_
      show wp (fX5_errorOf G (ad 0) (ad 20) (n3 3)) _ b _
      rw [e_2 E (by decide) (D3.2.2.2.1.trans e3), y3, f_layers E y3']
      by_cases c2 : nb 3 < 2 ∨ 10 < nb 3
      · rw [if_pos c2] at kk ⊢
        exact lp_er E (by decide) D3.2.2.1 (by decide) (by decide) (kk _ _ _ ((vk_upd (k := 20) (by decide)).trans (vk_upd (k := 3) (by decide))) (upd_same _ _ _) xk.refl yk.refl)
      · rw [if_neg c2] at kk ⊢
        rw [if_pos rfl]
        refine lp_0 (t := t) E s10 t4 l4 (D4.2.2.2.1.trans e4) ?_
        have vq : vk v (upd (upd v 20 (n3 (nb 1))) 21 (n3 (nb 3))) := (vk_upd (k := 20) (by decide)).trans (vk_upd (k := 21) (by decide))
        have g1 : 2 ≤ nb 1 ∧ nb 1 ≤ 8 := ⟨Nat.le_of_not_lt fun h => c1 (Or.inl h), Nat.le_of_not_lt fun h => c1 (Or.inr h)⟩
        have g3 : 2 ≤ nb 3 ∧ nb 3 ≤ 10 := ⟨Nat.le_of_not_lt fun h => c2 (Or.inl h), Nat.le_of_not_lt fun h => c2 (Or.inr h)⟩
        have u20 : updN (updN S.1 20 (nb 1)) 21 (nb 3) 20 = nb 1 := (updN_ne (by decide)).trans (updN_same _ _ _)
        have u21 : updN (updN S.1 20 (nb 1)) 21 (nb 3) 21 = nb 3 := updN_same _ _ _
        have u22 : updN (updN S.1 20 (nb 1)) 21 (nb 3) 22 = S.1 22 := (updN_ne (by decide)).trans (updN_ne (by decide))
        have u26 : updN (updN S.1 20 (nb 1)) 21 (nb 3) 26 = S.1 26 := (updN_ne (by decide)).trans (updN_ne (by decide))
        have u32 : updN (updN S.1 20 (nb 1)) 21 (nb 3) 32 = S.1 32 := (updN_ne (by decide)).trans (updN_ne (by decide))
        have hL : SL t (updN (updN S.1 20 (nb 1)) 21 (nb 3), S.2) (upd (upd v 20 (n3 (nb 1))) 21 (n3 (nb 3))) y := by
          unfold SL
          simp only [u20, u21, u22, u26, u32]
          exact ⟨s10, rfl, rfl, s22, s26, s32, sn, g1, g3, b22, b26, b32⟩
        refine l_all (vl := vl) E hN htN L 5 (updN (updN S.1 20 (nb 1)) 21 (nb 3), S.2) _ y fu hc hm D hL hft ?_
        revert kk
        show kF G pl t n ρ ad K v S.2.2 y b Q (lAll κ nb nw (updN (updN S.1 20 (nb 1)) 21 (nb 3), S.2) L) → _
        cases lAll κ nb nw (updN (updN S.1 20 (nb 1)) 21 (nb 3), S.2) L with
        | inr er =>
          intro kk v2 x2 y2 z1 z2 z3 z4
          exact kk v2 x2 y2 (vq.trans z1) z2 z3 z4
        | inl S2 =>
          intro kk v2 y2 z1 z2 z3 z4 z5
          exact kk v2 y2 (vq.trans z1) z2 z3 z4 z5
  · have i0 : i0 = 0 := by
      rcases d2 with d2 | d2
      · exact d2
      · exact absurd d2.2.1 c0
    subst i0
    rw [if_neg c0] at kk
    exact l_all (vl := vl) E hN htN L 0 S v y fu hc hm D Sl (by omega) kk
/-- names become numbers -/
def resQ (p q w : Nat → Int32) (m : Nat) : Nat → Int32 := fun k => if k < m ∧ (p k = 19 ∨ p k = 20 ∨ p k = 22) then w (q k).toNatClampNeg else q k
end MLA
