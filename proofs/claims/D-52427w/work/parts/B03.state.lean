/-! THE PLAIN LAW: the state of a sofa, as both sides hold it: numbers (day, carried out, dug, slid, propped), heights, stacks (10 a seat, flat), loose, fates -/
abbrev TT : Type := (Nat → Int32) × (Nat → Nat) × (Nat → Nat) × (Nat → Int32) × (Nat → Int32)
def updN (f : Nat → Nat) (k z : Nat) : Nat → Nat := fun j => if j = k then z else f j
theorem updN_same (f : Nat → Nat) (k z : Nat) : updN f k z k = z := if_pos rfl
theorem updN_ne {f : Nat → Nat} {k z j : Nat} (h : j ≠ k) : updN f k z j = f j := if_neg h
theorem upd_same (f : Nat → Int32) (k : Nat) (z : Int32) : upd f k z k = z := if_pos rfl
theorem upd_ne {f : Nat → Int32} {k j : Nat} {z : Int32} (h : j ≠ k) : upd f k z j = f j := if_neg h
def enc (t : TT) : Nat → Int32 := fun i => if i < 5 then t.1 i else if i < 13 then n3 (t.2.1 (i - 5)) else if i < 93 then n3 (t.2.2.1 (i - 13)) else if i < 173 then t.2.2.2.1 (i - 93) else t.2.2.2.2 (i - 173)
section EN
variable {t : TT} {s c i h : Nat} {z : Int32}
theorem enc_nu (hi : i < 5) : enc t i = t.1 i := if_pos hi
theorem enc_tl (hs : s < 8) : enc t (5 + s) = n3 (t.2.1 s) := by
  unfold enc
  rw [if_neg (by omega), if_pos (by omega), show 5 + s - 5 = s by omega]
theorem enc_st (hc : c < 80) : enc t (13 + c) = n3 (t.2.2.1 c) := by
  unfold enc
  rw [if_neg (by omega), if_neg (by omega), if_pos (by omega), show 13 + c - 13 = c by omega]
theorem enc_st2 (hc : 10 * s + c < 80) : enc t (13 + 10 * s + c) = n3 (t.2.2.1 (10 * s + c)) := by
  rw [show 13 + 10 * s + c = 13 + (10 * s + c) by omega, enc_st hc]
theorem enc_top (h1 : 1 ≤ h) (hc : 10 * s + (h - 1) < 80) : enc t (13 + 10 * s + h - 1) = n3 (t.2.2.1 (10 * s + (h - 1))) := by
  rw [show 13 + 10 * s + h - 1 = 13 + (10 * s + (h - 1)) by omega, enc_st hc]
theorem enc_lo (hc : c < 80) : enc t (93 + c) = t.2.2.2.1 c := by
  unfold enc
  rw [if_neg (by omega), if_neg (by omega), if_neg (by omega), if_pos (by omega), show 93 + c - 93 = c by omega]
theorem enc_ft : enc t (173 + c) = t.2.2.2.2 c := by
  unfold enc
  rw [if_neg (by omega), if_neg (by omega), if_neg (by omega), if_neg (by omega), show 173 + c - 173 = c by omega]
theorem enc_unu (hi : i < 5) : upd (enc t) i z = enc (upd t.1 i z, t.2) := by
  funext j
  unfold upd enc
  by_cases hj : j = i
  · subst hj
    rw [if_pos rfl, if_pos hi]
    exact (if_pos rfl).symm
  · rw [if_neg hj]
    by_cases h5 : j < 5
    · rw [if_pos h5, if_pos h5]
      exact (if_neg hj).symm
    · rw [if_neg h5, if_neg h5]
theorem enc_utl (hs : s < 8) : upd (enc t) (5 + s) (n3 h) = enc (t.1, updN t.2.1 s h, t.2.2) := by
  funext j
  unfold upd enc updN
  by_cases hj : j = 5 + s
  · subst hj
    rw [if_pos rfl, if_neg (by omega), if_pos (by omega)]
    simp only
    rw [if_pos (by omega)]
  · rw [if_neg hj]
    by_cases h5 : j < 5
    · rw [if_pos h5, if_pos h5]
    · rw [if_neg h5, if_neg h5]
      by_cases h13 : j < 13
      · rw [if_pos h13, if_pos h13]
        simp only
        rw [if_neg (by omega)]
      · rw [if_neg h13, if_neg h13]
theorem enc_ust (hc : 10 * s + c < 80) : upd (enc t) (13 + 10 * s + c) (n3 h) = enc (t.1, t.2.1, updN t.2.2.1 (10 * s + c) h, t.2.2.2) := by
  funext j
  unfold upd enc updN
  by_cases hj : j = 13 + 10 * s + c
  · subst hj
    rw [if_pos rfl, if_neg (by omega), if_neg (by omega), if_pos (by omega)]
    simp only
    rw [if_pos (by omega)]
  · rw [if_neg hj]
    by_cases h5 : j < 5
    · rw [if_pos h5, if_pos h5]
    · rw [if_neg h5, if_neg h5]
      by_cases h13 : j < 13
      · rw [if_pos h13, if_pos h13]
      · rw [if_neg h13, if_neg h13]
        by_cases h93 : j < 93
        · rw [if_pos h93, if_pos h93]
          simp only
          rw [if_neg (by omega)]
        · rw [if_neg h93, if_neg h93]
theorem enc_ulo (hc : c < 80) : upd (enc t) (93 + c) z = enc (t.1, t.2.1, t.2.2.1, upd t.2.2.2.1 c z, t.2.2.2.2) := by
  funext j
  unfold upd enc
  by_cases hj : j = 93 + c
  · subst hj
    rw [if_pos rfl, if_neg (by omega), if_neg (by omega), if_neg (by omega), if_pos (by omega)]
    simp only
    rw [if_pos (by omega)]
  · rw [if_neg hj]
    by_cases h5 : j < 5
    · rw [if_pos h5, if_pos h5]
    · rw [if_neg h5, if_neg h5]
      by_cases h13 : j < 13
      · rw [if_pos h13, if_pos h13]
      · rw [if_neg h13, if_neg h13]
        by_cases h93 : j < 93
        · rw [if_pos h93, if_pos h93]
        · rw [if_neg h93, if_neg h93]
          by_cases h173 : j < 173
          · rw [if_pos h173, if_pos h173]
            simp only
            rw [if_neg (by omega)]
          · rw [if_neg h173, if_neg h173]
theorem enc_uft : upd (enc t) (173 + c) z = enc (t.1, t.2.1, t.2.2.1, t.2.2.2.1, upd t.2.2.2.2 c z) := by
  funext j
  unfold upd enc
  by_cases hj : j = 173 + c
  · subst hj
    rw [if_pos rfl, if_neg (by omega), if_neg (by omega), if_neg (by omega), if_neg (by omega)]
    simp only
    rw [if_pos (by omega)]
  · rw [if_neg hj]
    by_cases h5 : j < 5
    · rw [if_pos h5, if_pos h5]
    · rw [if_neg h5, if_neg h5]
      by_cases h13 : j < 13
      · rw [if_pos h13, if_pos h13]
      · rw [if_neg h13, if_neg h13]
        by_cases h93 : j < 93
        · rw [if_pos h93, if_pos h93]
        · rw [if_neg h93, if_neg h93]
          by_cases h173 : j < 173
          · rw [if_pos h173, if_pos h173]
          · rw [if_neg h173, if_neg h173]
            simp only
            rw [if_neg (by omega)]
end EN
/-- the model's arrays with its row set -/
def sx (x : Nat → Nat → Int32) (w : Nat → Int32) : Nat → Nat → Int32 := fun j => if j = 15 then w else x j
theorem sx_o {x : Nat → Nat → Int32} {w : Nat → Int32} {j : Nat} (h : j ≠ 15) : sx x w j = x j := if_neg h
theorem sx_self (x : Nat → Nat → Int32) : sx x (x 15) = x := by
  funext j
  by_cases h : j = 15
  · subst h; rfl
  · exact sx_o h
theorem sxs : (∀ x w, sx x w 15 = w) ∧ (∀ x w, sx x w 1 = x 1) ∧ (∀ x w, sx x w 5 = x 5) ∧ (∀ x w, sx x w 6 = x 6) ∧ (∀ x w, sx x w 7 = x 7) ∧ (∀ x w, sx x w 9 = x 9) ∧ (∀ x w, sx x w 16 = x 16) ∧ (∀ x w, sx x w 17 = x 17) ∧ (∀ x w, sx x w 24 = x 24) ∧ (∀ x w, sx x w 25 = x 25) ∧ (∀ x w, sx x w 27 = x 27) ∧ (∀ x w, sx x w 28 = x 28) ∧ (∀ x w, sx x w 29 = x 29) ∧ (∀ x w, sx x w 30 = x 30) ∧ (∀ x w, sx x w 31 = x 31) ∧ (∀ x w, sx x w 33 = x 33) ∧ (∀ x w, sx x w 34 = x 34) ∧ (∀ x w, sx x w 35 = x 35) ∧ (∀ x w, sx x w 36 = x 36) ∧ (∀ x w, sx x w 37 = x 37) := ⟨fun _ _ => rfl, fun _ _ => rfl, fun _ _ => rfl, fun _ _ => rfl, fun _ _ => rfl, fun _ _ => rfl, fun _ _ => rfl, fun _ _ => rfl, fun _ _ => rfl, fun _ _ => rfl, fun _ _ => rfl, fun _ _ => rfl, fun _ _ => rfl, fun _ _ => rfl, fun _ _ => rfl, fun _ _ => rfl, fun _ _ => rfl, fun _ _ => rfl, fun _ _ => rfl, fun _ _ => rfl⟩
theorem up2_sx (x : Nat → Nat → Int32) (w : Nat → Int32) (a : Nat) (z : Int32) : up2 (sx x w) 15 a z = sx x (upd w a z) := by
  funext j
  unfold up2 sx
  by_cases h : j = 15
  · rw [if_pos h, if_pos h]
    rfl
  · rw [if_neg h, if_neg h, if_neg h]
/-! what can be asked of the state; ns seats, sp springs, fd finds by cushion, nf finds -/
/-- a seat is propped -/
def isP (t : TT) (s : Nat) : Bool := decide (((t.1 4 >>> (n3 s &&& 31)) &&& 1) = 1)
def topC (t : TT) (s : Nat) : Nat := t.2.2.1 (10 * s + (t.2.1 s - 1))
/-- the highest cushion of o can slide onto s -/
def canS (ns : Nat) (sp : Nat → Int32) (t : TT) (o s : Nat) : Bool := decide (o < ns) && decide (t.2.1 s + 3 < t.2.1 o) && !isP t o && decide (sp (topC t o) = 0)
/-- from which seat one slides onto s -/
def frm (ns : Nat) (sp : Nat → Int32) (t : TT) (s : Nat) : Option Nat := if 1 ≤ s ∧ canS ns sp t (s - 1) s = true then some (s - 1) else if canS ns sp t (s + 1) s = true then some (s + 1) else none
def nxt (ns : Nat) (sp : Nat → Int32) (t : TT) (i : Nat) : Option Nat := lp (fun j (_ : Unit) => if (frm ns sp t j).isSome then .inr (some j) else .inl ()) (fun _ => none) (ns - i) i ()
/-- one slide from o onto s -/
def sld (t : TT) (o s : Nat) : TT := (t.1, updN (updN t.2.1 o (t.2.1 o - 1)) s (t.2.1 s + 1), updN t.2.2.1 (10 * s + t.2.1 s) (topC t o), upd t.2.2.2.1 (topC t o) 1, t.2.2.2.2)
/-- heights and stacks within their bounds -/
def okT (ns nf : Nat) (t : TT) : Prop := 2 ≤ ns ∧ ns ≤ 8 ∧ (∀ s, s < ns → t.2.1 s ≤ 10) ∧ (∀ s k, s < ns → k < t.2.1 s → t.2.2.1 (10 * s + k) < 80) ∧ (∀ c, c < 80 → t.2.2.2.1 c = 0 ∨ t.2.2.2.1 c = 1) ∧ (∀ f, (t.2.2.2.2 f = 0 ∨ t.2.2.2.2 f = 1 ∨ t.2.2.2.2 f = 2) ∧ (nf ≤ f → t.2.2.2.2 f = 0)) ∧ ∃ p, t.1 4 = n3 p ∧ p < 2 ^ ns
theorem okT.top {ns nf : Nat} {t : TT} (h : okT ns nf t) {s : Nat} (hs : s < ns) (ht : 1 ≤ t.2.1 s) : topC t s < 80 := h.2.2.2.1 s _ hs (by omega)
