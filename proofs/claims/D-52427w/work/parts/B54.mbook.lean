/-! THE PLAIN LAW: the model reads lines and the book -/
def qx (x : Nat → Nat → Int32) (a c f : Nat → Int32) : Nat → Nat → Int32 := fun j => if j = 33 then a else if j = 34 then c else if j = 35 then f else x j
theorem qx_33 {x : Nat → Nat → Int32} {a c f p q e : Nat → Int32} {k : Nat} {z : Int32} : up2 (px (qx x a c f) p q e) 33 k z = px (qx x (upd a k z) c f) p q e := by
  funext j
  unfold up2
  by_cases h : j = 33
  · subst h
    rfl
  · rw [if_neg h]
    unfold px qx
    rw [if_neg h, if_neg h]
theorem qx_34 {x : Nat → Nat → Int32} {a c f p q e : Nat → Int32} {k : Nat} {z : Int32} : up2 (px (qx x a c f) p q e) 34 k z = px (qx x a (upd c k z) f) p q e := by
  funext j
  unfold up2
  by_cases h : j = 34
  · subst h
    rfl
  · rw [if_neg h]
    unfold px qx
    rw [if_neg h, if_neg h]
theorem qx_35 {x : Nat → Nat → Int32} {a c f p q e : Nat → Int32} {k : Nat} {z : Int32} : up2 (px (qx x a c f) p q e) 35 k z = px (qx x a c (upd f k z)) p q e := by
  funext j
  unfold up2
  by_cases h : j = 35
  · subst h
    rfl
  · rw [if_neg h]
    unfold px qx
    rw [if_neg h, if_neg h]
/-- tokens one behind another, with what they mean -/
def mkL (e : Nat → Int32) : Nat → List (Nat × Option Int32) → Nat → Int32
  | _, [] => e
  | i, (_, none) :: r => mkL e (i + 1) r
  | i, (_, some z) :: r => mkL (upd e i z) (i + 1) r
theorem mkL_out : ∀ (cs : List (Nat × Option Int32)) (e : Nat → Int32) (i k : Nat), (k < i ∨ i + cs.length ≤ k) → mkL e i cs k = e k := by
  intro cs
  induction cs with
  | nil => intro e i k _; rfl
  | cons c r ih =>
    intro e i k h
    rw [List.length_cons] at h
    obtain ⟨c, z⟩ := c
    cases z with
    | none => exact ih e (i + 1) k (by omega)
    | some z =>
      show mkL (upd e i z) (i + 1) r k = e k
      rw [ih (upd e i z) (i + 1) k (by omega), upd_ne (by omega)]
theorem mkL_at : ∀ (cs : List (Nat × Option Int32)) (e : Nat → Int32) (i t : Nat) (c : Nat) (z : Option Int32), cs[t]? = some (c, z) → mkL e i cs (i + t) = z.getD (e (i + t)) := by
  intro cs
  induction cs with
  | nil => intro e i t c z h; cases h
  | cons c0 r ih =>
    intro e i t c z h
    obtain ⟨c0, z0⟩ := c0
    cases t with
    | zero =>
      cases h
      cases z with
      | none =>
        show mkL e (i + 1) r (i + 0) = e (i + 0)
        exact mkL_out r e (i + 1) _ (by omega)
      | some z =>
        show mkL (upd e i z) (i + 1) r (i + 0) = z
        rw [mkL_out r _ (i + 1) _ (by omega), Nat.add_zero, upd_same]
    | succ t =>
      have h : r[t]? = some (c, z) := h
      cases z0 with
      | none =>
        show mkL e (i + 1) r (i + (t + 1)) = _
        rw [show i + (t + 1) = i + 1 + t by omega]
        exact ih e (i + 1) t c z h
      | some z0 =>
        show mkL (upd e i z0) (i + 1) r (i + (t + 1)) = _
        have e1 := ih (upd e i z0) (i + 1) t c z h
        rw [show i + (t + 1) = i + 1 + t by omega, e1, upd_ne (by omega)]
section MTM
variable {n : Nat} {ρ : Nat → Option Nat} {ad : Nat → Nat} {K : Nat → Option sd_E} {v : Nat → Int32} {x : Nat → Nat → Int32} {y : Nat → Nat → Int64} {G : sd_G} {b : Nat × Nat} {κ : Nat → Nat} {vl : Nat → Int32} {N : Nat} {i m : Nat} {p q e : Nat → Int32}
/-- a template -/
def mT (κ : Nat → Nat) (N n : Nat) (ρ : Nat → Option Nat) (ad : Nat → Nat) (K : Nat → Option sd_E) (v : Nat → Int32) (x : Nat → Nat → Int32) (y : Nat → Nat → Int64) (f : sd_M Int32) (i : Nat) (cs : List (Nat × Option Int32)) : Prop := ∀ (m : Nat) (p q e : Nat → Int32) (b : Nat × Nat) (Q : Int32 → sd_H → Nat × Nat → Prop), i ≤ N → (match tmp κ i (cs.map Prod.fst) with
    | .inl j => Q 1 (hMo n ρ ad K (pv v j 0 m) (px x p q (mkL e i cs)) y) b
    | .inr j => ∀ e1, Q 0 (hMo n ρ ad K (pv v j 0 m) (px x p q e1) y) b) → wp f (hMo n ρ ad K (pv v i 0 m) (px x p q e) y) b Q
theorem mT_nil : mT κ N n ρ ad K v x y (sd_ret 1) i [] := by
  intro m p q e b Q hi kk
  rw [wp_ret]
  exact kk
theorem mT_eat {a : Int32} {c : Nat} {k : sd_M Int32} {r : List (Nat × Option Int32)} (ha : a = n3 c) (hc : c < 1000) (c1 : c ≠ 32) (c2 : c ≠ 33) (E : mOk n ρ ad) (T : tkX κ vl N x y) (h : mT κ N n ρ ad K v x y k (i + 1) r) : mT κ N n ρ ad K v x y (sd_bnd (sd_isC G 4 (ad 0)) fun _ => sd_bnd (fX5_eat G (ad 0) a) fun r9 => if r9 = 0 then (sd_ret 0) else k) i ((c, none) :: r) := by
  intro m p q e b Q hi kk
  rw [wp_bnd, hMo_isC4 E, wp_bnd, m_eat ha hc E T hi]
  simp only [List.map_cons, tmp] at kk
  by_cases e1 : κ i = c
  · rw [if_pos e1] at kk ⊢
    rw [wp_ite, if_neg (by decide)]
    exact h m p q e b Q (tk_suc T.1 hi e1 c1 c2) kk
  · rw [if_neg e1] at kk ⊢
    rw [wp_ite, if_pos rfl, wp_ret]
    exact kk _
theorem mT_as {a z : Int32} {c : Nat} {k : sd_M Int32} {r : List (Nat × Option Int32)} (ha : a = n3 c) (hc : c < 1000) (c1 : c ≠ 32) (c2 : c ≠ 33) (E : mOk n ρ ad) (T : tkX κ vl N x y) (h : mT κ N n ρ ad K v x y k (i + 1) r) : mT κ N n ρ ad K v x y (sd_bnd (sd_isC G 4 (ad 0)) fun _ => sd_bnd (fX5_eatAs G (ad 0) a z) fun r9 => if r9 = 0 then (sd_ret 0) else k) i ((c, some z) :: r) := by
  intro m p q e b Q hi kk
  rw [wp_bnd, hMo_isC4 E, wp_bnd, m_eatAs ha hc E T hi]
  simp only [List.map_cons, tmp] at kk
  by_cases e1 : κ i = c
  · rw [if_pos e1] at kk ⊢
    rw [wp_ite, if_neg (by decide)]
    exact h m p q _ b Q (tk_suc T.1 hi e1 c1 c2) kk
  · rw [if_neg e1] at kk ⊢
    rw [wp_ite, if_pos rfl, wp_ret]
    exact kk _
theorem mT_pla {k : sd_M Int32} {r : List (Nat × Option Int32)} (E : mOk n ρ ad) (T : tkX κ vl N x y) (h : mT κ N n ρ ad K v x y k (i + 4) r) : mT κ N n ρ ad K v x y (sd_bnd (sd_isC G 4 (ad 0)) fun _ => sd_bnd (fX5_isPlace G (ad 0)) fun r9 => if r9 = 0 then (sd_ret 0) else k) i ((8, none) :: (31, some 7) :: (44, none) :: (31, some 8) :: r) := by
  have key : ∀ (k' : sd_M Int32), mT κ N n ρ ad K v x y k' (i + 4) r → mT κ N n ρ ad K v x y (sd_bnd (sd_isC G 4 (ad 0)) fun _ => sd_bnd (fX5_eat G (ad 0) 8) fun r9 => if r9 = 0 then (sd_ret 0) else (sd_bnd (sd_isC G 4 (ad 0)) fun _ => sd_bnd (fX5_eatAs G (ad 0) 31 7) fun r9 => if r9 = 0 then (sd_ret 0) else (sd_bnd (sd_isC G 4 (ad 0)) fun _ => sd_bnd (fX5_eat G (ad 0) 44) fun r9 => if r9 = 0 then (sd_ret 0) else (sd_bnd (sd_isC G 4 (ad 0)) fun _ => sd_bnd (fX5_eatAs G (ad 0) 31 8) fun r9 => if r9 = 0 then (sd_ret 0) else k')))) i ((8, none) :: (31, some 7) :: (44, none) :: (31, some 8) :: r) := fun k' h => mT_eat (c := 8) rfl (by decide) (by decide) (by decide) E T (mT_as (c := 31) rfl (by decide) (by decide) (by decide) E T (mT_eat (c := 44) rfl (by decide) (by decide) (by decide) E T (mT_as (c := 31) rfl (by decide) (by decide) (by decide) E T h)))
  intro m p q e b Q hi kk
  have := key k h m p q e b Q hi kk
  rw [wp_bnd, hMo_isC4 E, wp_bnd]
  unfold fX5_isPlace
  rw [wp_bnd, hMo_isC4 E, wp_bnd] at this ⊢
  refine wp_mono this (fun a h1 b1 w1 => ?_)
  rw [wp_ite] at w1 ⊢
  by_cases c0 : a = 0
  · rw [if_pos c0] at w1 ⊢
    rw [wp_ret, wp_ite, if_pos rfl]
    exact w1
  · rw [if_neg c0] at w1 ⊢
    rw [wp_bnd] at w1 ⊢
    refine wp_mono w1 (fun _ h2 b2 w2 => ?_)
    rw [wp_bnd] at w2 ⊢
    refine wp_mono w2 (fun a h3 b3 w3 => ?_)
    rw [wp_ite] at w3 ⊢
    by_cases c0 : a = 0
    · rw [if_pos c0] at w3 ⊢
      rw [wp_ret, wp_ite, if_pos rfl]
      exact w3
    · rw [if_neg c0] at w3 ⊢
      rw [wp_bnd] at w3 ⊢
      refine wp_mono w3 (fun _ h4 b4 w4 => ?_)
      rw [wp_bnd] at w4 ⊢
      refine wp_mono w4 (fun a h5 b5 w5 => ?_)
      rw [wp_ite] at w5 ⊢
      by_cases c0 : a = 0
      · rw [if_pos c0] at w5 ⊢
        rw [wp_ret, wp_ite, if_pos rfl]
        exact w5
      · rw [if_neg c0] at w5 ⊢
        rw [wp_bnd] at w5 ⊢
        refine wp_mono w5 (fun _ h6 b6 w6 => ?_)
        rw [wp_bnd] at w6 ⊢
        refine wp_mono w6 (fun a h7 b7 w7 => ?_)
        rw [wp_ite] at w7 ⊢
        by_cases c0 : a = 0
        · rw [if_pos c0] at w7 ⊢
          rw [wp_ret, wp_ite, if_pos rfl]
          exact w7
        · rw [if_neg c0] at w7 ⊢
          rw [wp_ret, wp_ite, if_neg (by decide)]
          exact w7
end MTM
/-- what tokens of a kind of line mean -/
def csO (c : Nat) : List (Nat × Option Int32) := if c = 2 then [(2, none), (30, some 3), (3, none), (31, some 4), (4, none), (31, some 5)] else if c = 7 then [(7, some 0), (8, none), (31, some 7), (44, none), (31, some 8)] else if c = 5 then [(5, some 6), (8, none), (31, some 7), (44, none), (31, some 8), (9, none), (31, some 9)] else [(6, some 6), (8, none), (31, some 7), (44, none), (31, some 8), (10, none), (30, some 10)]
def isO (c : Nat) : Bool := decide (c = 11) || decide (c = 12) || decide (c = 13)
/-- what a token of a line means -/
def mkT (κ : Nat → Nat) (l : Ln) (k : Nat) : Int32 := if isO (κ l.1) = true then (if k = l.1 then 11 else if k ∈ l.2.2.2.2 then 12 else 0) else mkL (fun _ => 0) l.1 (csO (κ l.1)) k
def rwA (p q : Nat → Int32) (b : Nat) (w : List (Int32 × Int32)) : Prop := ∀ t r, w[t]? = some r → p (b + t) = r.1 ∧ q (b + t) = r.2
/-- the orders' table -/
def OT (κ : Nat → Nat) (os : List Ln) (a c f p q : Nat → Int32) (m : Nat) : Prop := (∀ k, k < m → abR (p k, q k) → ∃ tk, tk ≤ 400 ∧ q k = n3 tk) ∧ (os.length ≤ 16 → ∀ k l, os[k]? = some l → a k = n3 (κ l.1) ∧ ∃ b0 b1 b2, c (2 * k) = n3 b0 ∧ f (2 * k) = n3 b1 ∧ c (2 * k + 1) = n3 b1 ∧ f (2 * k + 1) = n3 b2 ∧ b0 + l.2.2.1.length = b1 ∧ b1 + l.2.2.2.1.length = b2 ∧ b2 ≤ m ∧ rwA p q b0 l.2.2.1 ∧ rwA p q b1 l.2.2.2.1)
theorem wrA_lt : ∀ (l : List Int32) (a : Nat → Int32) (m k : Nat), k < m → wrA a m l k = a k := by
  intro l
  induction l with
  | nil => intro a m k _; rfl
  | cons z r ih =>
    intro a m k h
    show wrA (upd a m z) (m + 1) r k = a k
    rw [ih _ _ _ (by omega), upd_ne (by omega)]
theorem wrA_at : ∀ (l : List Int32) (a : Nat → Int32) (m t : Nat) (z : Int32), l[t]? = some z → wrA a m l (m + t) = z := by
  intro l
  induction l with
  | nil => intro a m t z h; cases h
  | cons z0 r ih =>
    intro a m t z h
    show wrA (upd a m z0) (m + 1) r (m + t) = z
    cases t with
    | zero =>
      cases h
      rw [wrA_lt _ _ _ _ (by omega), Nat.add_zero, upd_same]
    | succ t =>
      rw [show m + (t + 1) = m + 1 + t by omega]
      exact ih _ _ t z h
theorem rwA_wr {p q : Nat → Int32} {m : Nat} {w : List (Int32 × Int32)} : rwA (wrA p m (w.map Prod.fst)) (wrA q m (w.map Prod.snd)) m w := by
  intro t r h
  exact ⟨wrA_at _ _ _ _ _ (by rw [List.getElem?_map, h]; rfl), wrA_at _ _ _ _ _ (by rw [List.getElem?_map, h]; rfl)⟩
theorem rwA_keep {p q p' q' : Nat → Int32} {b : Nat} {w : List (Int32 × Int32)} {m : Nat} (h : rwA p q b w) (hm : b + w.length ≤ m) (hp : ∀ k, k < m → p' k = p k) (hq : ∀ k, k < m → q' k = q k) : rwA p' q' b w := by
  intro t r ht
  have : t < w.length := by
    rcases Nat.lt_or_ge t w.length with h | h
    · exact h
    · rw [List.getElem?_eq_none h] at ht
      cases ht
  rw [hp _ (by omega), hq _ (by omega)]
  exact h t r ht
theorem mrk_no {e : Nat → Int32} : ∀ (ks : List Nat) (e : Nat → Int32) (k : Nat), mrk e ks k = if k ∈ ks then 12 else e k := by
  intro ks
  induction ks with
  | nil => intro e k; rfl
  | cons k0 r ih =>
    intro e k
    show mrk (upd e k0 12) r k = _
    rw [ih]
    by_cases h1 : k ∈ r
    · rw [if_pos h1, if_pos (by simp [h1])]
    · rw [if_neg h1]
      by_cases h2 : k = k0
      · rw [h2, upd_same, if_pos (by simp)]
      · rw [upd_ne h2, if_neg (by simp [h1, h2])]
