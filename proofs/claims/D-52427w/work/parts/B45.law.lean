/-! THE PLAIN LAW: one round of the law's loop. Printed by gen/mk_B45.py -/
theorem wp_cas {α : Type} {c : Prop} {d : Decidable c} {f g : sd_M α} {h : sd_H} {b : Nat × Nat} {Q : α → sd_H → Nat × Nat → Prop} (h1 : c → wp f h b Q) (h2 : ¬ c → wp g h b Q) : wp (@ite _ c d f g) h b Q := by
  by_cases hc : c
  · rw [if_pos hc]
    exact h1 hc
  · rw [if_neg hc]
    exact h2 hc
/-- only some exceptions -/
def exA (P : Nat → Prop) (A : Int32 ⊕ Nat) : Prop := ∀ d, A = .inr d → P d
theorem exA_l {P : Nat → Prop} {v : Int32} : exA P (.inl v) := fun d h => by cases h
theorem exA_ix {P : Nat → Prop} {a : Int32} {n : Nat} {f : Nat → Int32 ⊕ Nat} (h : P 50) (hf : ∀ s, exA P (f s)) : exA P (ixA a n f) := by
  intro d hd
  unfold ixA at hd
  split at hd
  · exact hf _ d hd
  · cases hd
    exact h
theorem exA_rg {P : Nat → Prop} {a : Int32} {f : Nat → Int32 ⊕ Nat} (h : P 49) (hf : ∀ s, exA P (f s)) : exA P (rgA a f) := by
  intro d hd
  unfold rgA at hd
  split at hd
  · exact hf _ d hd
  · cases hd
    exact h
theorem exA_st {P : Nat → Prop} {c : Prop} [Decidable c] {v : Int32 ⊕ Nat} (h : P 48) (hv : exA P v) : exA P (stA c v) := by
  intro d hd
  unfold stA at hd
  split at hd
  · exact hv d hd
  · cases hd
    exact h
theorem cat1 {A : Int32 ⊕ Nat} {c : Nat} (hc : c ≠ 48) (h : exA (fun d => d = c) A) : catO A (fun e => sd_bnd (sd_own e) fun k => if k = c then (sd_ret 1) else sd_fail) := by
  intro e d h' b Q hA he
  have hd := h d hA
  subst hd
  rw [hA, wp_bnd, wp_own he, if_pos rfl, wp_ret]
  show Q 1 h' b = Q (if d = 48 then 2 else 1) h' b
  rw [if_neg hc]
theorem cat2 {A : Int32 ⊕ Nat} (h : exA (fun d => d = 50 ∨ d = 48) A) : catO A (fun e => sd_bnd (sd_own e) fun k => if k = 50 then (sd_ret 1) else if k = 48 then (sd_ret 2) else sd_fail) := by
  intro e d h' b Q hA he
  rcases h d hA with rfl | rfl
  · rw [hA, wp_bnd, wp_own he, if_pos rfl, wp_ret]
    rfl
  · rw [hA, wp_bnd, wp_own he, if_neg (by decide), if_pos rfl, wp_ret]
    rfl
/-- the state between rounds, r rounds left -/
def LJ (G : sd_G) (cx cm o r : Nat) (h : sd_H) (b : Nat × Nat) : Prop := ∃ tp bt s0 E1 B Z q x ea sz bs ρ ad th t, LI G cx tp bt s0 E1 B Z q x ea sz bs ρ ad th o h t ∧ ad 0 = cm ∧ ¬ Z tp ∧ ¬ Z bt ∧ ¬ Z cx ∧ 8600 * r + 300 * sz ≤ b.1 ∧ 111000 * r + 4000 * sz ≤ b.2
/-- both learn -/
def TEACH (G : sd_G) (cx cm o : Nat) : Prop := ∀ r h b (N : sd_M Int32) (Q : Int32 → sd_H → Nat × Nat → Prop), LJ G cx cm o (r + 1) h b → (∀ h' b', LJ G cx cm o r h' b' → wp N h' b' Q) → wp (sd_bnd (sd_isC G 0 cx) fun _ => sd_bnd (fX1_teach G cx) fun r31 => sd_bnd (sd_isC G 4 cm) fun _ => sd_bnd (fX5_teach G cm) fun r32 => if r31 = r32 then N else sd_ret 0) h b Q
theorem rd_of {G : sd_G} {w0 n i : Nat} {f : Nat → Int32} (hw : sd_c G w0 = some (.inl (0, n, .inl f))) (hi : i < n) (hn : n ≤ 1000000) : rdS G w0 (n3 i) (f i) := by
  intro h b Q w
  have l := w.2.2.1 _ _ hw
  have e : sd_look G h w0 = some (.inl (0, n, .inl f)) := by
    unfold sd_look
    cases hz : h.2 w0 with
    | none => exact hw
    | some e =>
      have := (w.1 _ _ hz).1
      omega
  rw [wp_aldI e (n3_ix hi (by omega)), n3_nn (by omega)]
theorem al_of {G : sd_G} {w0 n : Nat} {f : Nat → Int32} {h : sd_H} {b : Nat × Nat} {Q : Int32 → sd_H → Nat × Nat → Prop} (hw : sd_c G w0 = some (.inl (0, n, .inl f))) (w : wfH G h) : wp (sd_alen G w0) h b Q = Q (n3 n) h b := by
  have l := w.2.2.1 _ _ hw
  have e : sd_look G h w0 = some (.inl (0, n, .inl f)) := by
    unfold sd_look
    cases hz : h.2 w0 with
    | none => exact hw
    | some e =>
      have := (w.1 _ _ hz).1
      omega
  exact wp_alen e
section LST
variable {t t' : TT} {b : Nat × Nat} {G : sd_G} {cx tp bt s0 E1 : Nat} {B : Nat → Nat} {Z : Nat → Prop} {q : Nat → Nat} {x : Nat → Nat → Int32} {ea : Int32} {sz : Nat} {bs : Nat → Int32} {h h' : sd_H} {ρ : Nat → Option Nat} {ad : Nat → Nat} {th : Int32} {o : Nat}
/-- feed -/
theorem law_F {N : sd_M Int32} {w0 r : Nat} {i1 i2 i3 i4 i5 : Int32} {p : Nat → Int32} {Q : Int32 → sd_H → Nat × Nat → Prop} (L : LI G cx tp bt s0 E1 B Z q x ea sz bs ρ ad th o h t) (zt : ¬ Z tp) (zb : ¬ Z bt) (zc : ¬ Z cx) (r1 : rdS G w0 i1 (p 0)) (r2 : rdS G w0 i2 (p 1)) (r3 : rdS G w0 i3 (p 2)) (r4 : rdS G w0 i4 (p 3)) (r5 : rdS G w0 i5 (p 4)) (b1 : 8600 * r + 8600 + 300 * sz ≤ b.1) (b2 : 111000 * r + 111000 + 4000 * sz ≤ b.2) (kk : ∀ h' b', LJ G cx (ad 0) o r h' b' → wp N h' b' Q) :
    wp (sd_bnd (sd_aldI G 0 w0 i1) fun v7 => sd_bnd (sd_aldI G 0 w0 i2) fun v8 => sd_bnd (sd_aldI G 0 w0 i3) fun v9 => sd_bnd (sd_aldI G 0 w0 i4) fun v10 => sd_bnd (sd_aldI G 0 w0 i5) fun v11 => sd_bnd (fX0_feed G cx v7 v8 v9 v10 v11 o) fun r12 => sd_bnd (sd_aldI G 0 w0 i1) fun v13 => sd_bnd (sd_aldI G 0 w0 i2) fun v14 => sd_bnd (sd_aldI G 0 w0 i3) fun v15 => sd_bnd (sd_aldI G 0 w0 i4) fun v16 => sd_bnd (sd_aldI G 0 w0 i5) fun v17 => sd_bnd (sd_isC G 4 (ad 0)) fun _ => sd_bnd (fX5_feed G (ad 0) v13 v14 v15 v16 v17) fun r18 => sd_bnd (sd_isC G 4 (ad 0)) fun _ => sd_bnd (fX5_thrown G (ad 0)) fun r19 => if r19 = r12 then (if r12 = 0 then (sd_bnd (sd_aldL G o 0) fun v21 => if (lg_cmp v21 (r18.toInt64)) = 0 then N else (sd_ret 0)) else N) else (sd_ret 0)) h b Q := by
  have L0 := L
  obtain ⟨C, M, n1, n2, n3', n4, n5, ⟨g, ho⟩, tp', hsz⟩ := L
  rw [wp_bnd, r1 h b _ C.1, wp_bnd, r2 h b _ C.1, wp_bnd, r3 h b _ C.1, wp_bnd, r4 h b _ C.1, wp_bnd, r5 h b _ C.1, wp_bnd]
  unfold fX0_feed
  rw [wp_bnd, (c_rd C).1, wp_bx]
  refine a_feed C zt zb zc hsz (by omega) (by omega) (fun hb h' C' f' he => ?_) (fun hg h' C' f' => ?_)
  · show wp (sd_bnd (sd_own h.1) _) _ _ _
    rw [wp_bnd, wp_own he, if_pos rfl, wp_ret]
    have M' := MI_frO M (f'.O (o := o)) n1 n2 n3'
    rw [wp_bnd, r1 h' _ _ C'.1, wp_bnd, r2 h' _ _ C'.1, wp_bnd, r3 h' _ _ C'.1, wp_bnd, r4 h' _ _ C'.1, wp_bnd, r5 h' _ _ C'.1, wp_bnd, m_isC M', wp_bnd]
    refine o_feed M' hsz (by simp only; omega) (by simp only; omega) (fun _ h'' M'' f'' => ?_) (fun hg => absurd hg (by omega))
    obtain ⟨L'', -⟩ := LI_mo L0 C' f'.O M'' f'' ⟨g, f'.2 o _ ho rfl n4 n5⟩
    rw [wp_bnd, m_isC M'', wp_bnd, m_thr M'', wp_ite, if_pos rfl, wp_ite, if_neg (by decide)]
    have z1 : 8600 * r + 300 * sz ≤ b.1 - 1 := by omega
    have z2 : 111000 * r + 4000 * sz ≤ b.2 - 6 := by omega
    exact kk _ _ ⟨tp, bt, s0, E1, B, Z, q, x, ea, sz, bs, ρ, ad, 1, t, L'', rfl, zt, zb, zc, z1, z2⟩
  · have ho' := f'.2 o _ ho rfl n4 n5
    show wp (sd_bnd (sd_astL o 0 _) _) _ _ _
    rw [wp_bnd, st_out ho', wp_ret]
    have C2 : CI G cx tp bt s0 E1 B Z q x ea (sz + 20) (put20 bs sz p) (sd_up h' o (.inl (1, 1, .inr (.inl (vp_updL g 0 (n3 (sz + 20)).toInt64))))) t := CI_up C' ho' rfl n4 n5
    have fO : frO h (sd_up h' o (.inl (1, 1, .inr (.inl (vp_updL g 0 (n3 (sz + 20)).toInt64))))) E1 (B 1) o := ⟨f'.1, fun a e h1 h2 h3 h4 h5 => by rw [up_ne h5]; exact f'.2 a e h1 h2 h3 h4⟩
    have M' := MI_frO M fO n1 n2 n3'
    rw [wp_bnd, r1 _ _ _ C2.1, wp_bnd, r2 _ _ _ C2.1, wp_bnd, r3 _ _ _ C2.1, wp_bnd, r4 _ _ _ C2.1, wp_bnd, r5 _ _ _ C2.1, wp_bnd, m_isC M', wp_bnd]
    refine o_feed M' hsz (by omega) (by omega) (fun hb => absurd hb (by omega)) (fun _ h'' M'' f'' => ?_)
    have e : h''.2 o = _ := (f''.2.1 o (C2.1.1 _ _ (up_at _ _ _)).2 n3').trans (up_at _ _ _)
    have C3 : CI G cx tp bt s0 E1 B Z q (xF x sz p 20) ea (sz + 20) (put20 bs sz p) h'' t := CI_x (fun j hj => xF_hi hj) (CI_mf C2 M' f'' n1 n2)
    rw [wp_bnd, m_isC M'', wp_bnd, m_thr M'', wp_ite, if_pos rfl, wp_ite, if_pos rfl, wp_bnd, wp_aldL (sd_look_new e) (by decide), wp_ite, if_pos (show lg_cmp (vp_updL g 0 (n3 (sz + 20)).toInt64 (Int32.toNatClampNeg 0)) (n3 (sz + 20)).toInt64 = 0 from lg_refl _)]
    have z1 : 8600 * r + 300 * (sz + 20) ≤ b.1 - 1 := by omega
    have z2 : 111000 * r + 4000 * (sz + 20) ≤ b.2 - 5 := by
      rw [Nat.mul_add, show 4000 * 20 = 80000 from rfl]
      generalize 111000 * r = X at b2 ⊢
      generalize 4000 * sz = Y at b2 ⊢
      refine Nat.le_sub_of_add_le ?_
      refine Nat.le_trans ?_ b2
      rw [Nat.add_assoc, Nat.add_assoc X, Nat.add_comm Y 80000, Nat.add_right_comm]
      exact Nat.add_le_add_left (Nat.add_le_add_right (by decide) Y) X
    refine kk _ _ ⟨tp, bt, s0, E1, B, Z, q, xF x sz p 20, ea, sz + 20, put20 bs sz p, ρ, ad, 0, t, ⟨C3, M'', n1, n2, n3', n4, n5, ⟨_, e⟩, fun k hk => ?_, by omega⟩, rfl, zt, zb, zc, z1, z2⟩
    show xF x sz p 20 1 k = _
    unfold xF
    rw [if_pos rfl]
    by_cases c : k < sz
    · rw [if_neg (by omega), put20_lt c]
      exact tp' k c
    · have e2 := put20_at (bs := bs) (sz := sz) (p := p) (k := k - sz) (by omega)
      rw [show sz + (k - sz) = k by omega] at e2
      rw [if_pos (by omega), e2, by_and]
/-- trim -/
theorem law_T {N : sd_M Int32} {w0 r : Nat} {i1 z : Int32} {Q : Int32 → sd_H → Nat × Nat → Prop} (L : LI G cx tp bt s0 E1 B Z q x ea sz bs ρ ad th o h t) (zt : ¬ Z tp) (zb : ¬ Z bt) (zc : ¬ Z cx) (r1 : rdS G w0 i1 z) (b1 : 8600 * r + 8600 + 300 * sz ≤ b.1) (b2 : 111000 * r + 111000 + 4000 * sz ≤ b.2) (kk : ∀ h' b', LJ G cx (ad 0) o r h' b' → wp N h' b' Q) :
    wp (sd_bnd (sd_aldI G 0 w0 i1) fun v7 => sd_bnd (fX0_trim G cx v7 o) fun r12 => sd_bnd (sd_aldI G 0 w0 i1) fun v13 => sd_bnd (sd_isC G 4 (ad 0)) fun _ => sd_bnd (fX5_trim G (ad 0) v13) fun r18 => sd_bnd (sd_isC G 4 (ad 0)) fun _ => sd_bnd (fX5_thrown G (ad 0)) fun r19 => if r19 = r12 then (if r12 = 0 then (sd_bnd (sd_aldL G o 0) fun v21 => if (lg_cmp v21 (r18.toInt64)) = 0 then N else (sd_ret 0)) else N) else (sd_ret 0)) h b Q := by
  have L0 := L
  obtain ⟨C, M, n1, n2, n3', n4, n5, ⟨g, ho⟩, tp', hsz⟩ := L
  rw [wp_bnd, r1 h b _ C.1, wp_bnd]
  unfold fX0_trim
  rw [wp_bnd, (c_rd C).1, wp_bx]
  refine a_trim C zt zb zc hsz (by omega) (by omega) (fun hb h' C' f' he => ?_) (fun m hm hz h' C' f' => ?_)
  · show wp (sd_bnd (sd_own h.1) _) _ _ _
    rw [wp_bnd, wp_own he, if_pos rfl, wp_ret]
    have M' := MI_frO M (f'.O (o := o)) n1 n2 n3'
    rw [wp_bnd, r1 h' _ _ C'.1, wp_bnd, m_isC M', wp_bnd]
    refine o_trim M' hsz (fun _ h'' M'' f'' => ?_) (fun m hm hz => ?_)
    · obtain ⟨L'', -⟩ := LI_mo L0 C' f'.O M'' f'' ⟨g, f'.2 o _ ho rfl n4 n5⟩
      rw [wp_bnd, m_isC M'', wp_bnd, m_thr M'', wp_ite, if_pos rfl, wp_ite, if_neg (by decide)]
      have z1 : 8600 * r + 300 * sz ≤ b.1 - 1 := by omega
      have z2 : 111000 * r + 4000 * sz ≤ b.2 - 6 := by omega
      exact kk _ _ ⟨tp, bt, s0, E1, B, Z, q, x, ea, sz, bs, ρ, ad, 1, t, L'', rfl, zt, zb, zc, z1, z2⟩
    · rw [hz, inR_some (by omega) (by omega)] at hb
      cases hb
  · have ho' := f'.2 o _ ho rfl n4 n5
    show wp (sd_bnd (sd_astL o 0 _) _) _ _ _
    rw [wp_bnd, st_out ho', wp_ret]
    have C2 : CI G cx tp bt s0 E1 B Z q x ea m bs (sd_up h' o (.inl (1, 1, .inr (.inl (vp_updL g 0 z.toInt64))))) t := CI_up C' ho' rfl n4 n5
    have fO : frO h (sd_up h' o (.inl (1, 1, .inr (.inl (vp_updL g 0 z.toInt64))))) E1 (B 1) o := ⟨f'.1, fun a e h1 h2 h3 h4 h5 => by rw [up_ne h5]; exact f'.2 a e h1 h2 h3 h4⟩
    have M' := MI_frO M fO n1 n2 n3'
    rw [wp_bnd, r1 _ _ _ C2.1, wp_bnd, m_isC M', wp_bnd]
    refine o_trim M' hsz (fun hb => ?_) (fun m2 hm2 hz2 h'' M'' f'' => ?_)
    · rw [hz, inR_some (by omega) (by omega)] at hb
      cases hb
    · have em : m2 = m := by
        have := hz2.symm.trans hz
        rw [n3_eq (by omega) (by omega)] at this
        exact this
      subst em
      have e : h''.2 o = _ := (f''.2.1 o (C2.1.1 _ _ (up_at _ _ _)).2 n3').trans (up_at _ _ _)
      rw [wp_bnd, m_isC M'', wp_bnd, m_thr M'', wp_ite, if_pos rfl, wp_ite, if_pos rfl, wp_bnd, wp_aldL (sd_look_new e) (by decide), wp_ite, if_pos (show lg_cmp (vp_updL g 0 z.toInt64 (Int32.toNatClampNeg 0)) z.toInt64 = 0 from lg_refl _)]
      have z1 : 8600 * r + 300 * m2 ≤ b.1 := by omega
      have z2 : 111000 * r + 4000 * m2 ≤ b.2 := by omega
      exact kk _ _ ⟨tp, bt, s0, E1, B, Z, q, x, ea, m2, bs, ρ, ad, 0, t, ⟨CI_mf C2 M' f'' n1 n2, M'', n1, n2, n3', n4, n5, ⟨_, e⟩, fun k hk => tp' k (by omega), by omega⟩, rfl, zt, zb, zc, z1, z2⟩
theorem law_step {w0 n i r : Nat} {f : Nat → Int32} {cm : Nat} {k : Nat × Nat × Nat × Nat × Int32 → sd_M Int32} {Q : Int32 → sd_H → Nat × Nat → Prop} (hT : TEACH G cx cm o) (hw : sd_c G w0 = some (.inl (0, n, .inl f))) (hn : n ≤ 384) (hi : 6 * i + 6 ≤ n) (J : LJ G cx cm o (r + 1) h b) (nx : ∀ h' b', LJ G cx cm o r h' b' → wp (k (w0, cx, cm, o, n3 (6 * (i + 1)))) h' b' Q) : wp (fL_law_b23 G k w0 cx cm o (n3 (6 * i))) h b Q := by
  have J0 := J
  obtain ⟨tp, bt, s0, E1, B, Z, q, x, ea, sz, bs, ρ, ad, th, t, L, rfl, zt, zb, zc, b1, b2⟩ := J
  rw [Nat.mul_add, Nat.mul_one] at b1 b2
  have C := L.1
  have M := L.2.1
  have n6 : n3 (6 * i) + 6 = n3 (6 * (i + 1)) := n3_add _ _
  have rd1 : rdS G w0 (n3 (6 * i) + 1) (f (6 * i + 1)) := by
    rw [show n3 (6 * i) + 1 = n3 (6 * i + 1) from n3_add _ 1]
    exact rd_of hw (by omega) (by omega)
  have rd2 : rdS G w0 (n3 (6 * i) + 2) (f (6 * i + 2)) := by
    rw [show n3 (6 * i) + 2 = n3 (6 * i + 2) from n3_add _ 2]
    exact rd_of hw (by omega) (by omega)
  have rd3 : rdS G w0 (n3 (6 * i) + 3) (f (6 * i + 3)) := by
    rw [show n3 (6 * i) + 3 = n3 (6 * i + 3) from n3_add _ 3]
    exact rd_of hw (by omega) (by omega)
  have rd4 : rdS G w0 (n3 (6 * i) + 4) (f (6 * i + 4)) := by
    rw [show n3 (6 * i) + 4 = n3 (6 * i + 4) from n3_add _ 4]
    exact rd_of hw (by omega) (by omega)
  have rd5 : rdS G w0 (n3 (6 * i) + 5) (f (6 * i + 5)) := by
    rw [show n3 (6 * i) + 5 = n3 (6 * i + 5) from n3_add _ 5]
    exact rd_of hw (by omega) (by omega)
  have nxN : ∀ h' b', LJ G cx (ad 0) o r h' b' → wp (sd_bnd (sd_ret (n3 (6 * i) + 6)) fun x22 => k (w0, cx, ad 0, o, x22)) h' b' Q := by
    intro h' b' J'
    rw [wp_bnd, wp_ret, n6]
    exact nx h' b' J'
  have nxL : ∀ th' t' h' b', LI G cx tp bt s0 E1 B Z q x ea sz bs ρ ad th' o h' t' → b.1 ≤ b'.1 + 2600 → b.2 ≤ b'.2 + 31000 → wp (sd_bnd (sd_ret (n3 (6 * i) + 6)) fun x22 => k (w0, cx, ad 0, o, x22)) h' b' Q := by
    intro th' t' h' b' L' y1 y2
    have z1 : 8600 * r + 300 * sz ≤ b'.1 := by omega
    have z2 : 111000 * r + 4000 * sz ≤ b'.2 := by omega
    exact nxN h' b' ⟨tp, bt, s0, E1, B, Z, q, x, ea, sz, bs, ρ, ad, th', t', L', rfl, zt, zb, zc, z1, z2⟩
  have c1 : 2600 ≤ b.1 := by omega
  have c2 : 31000 ≤ b.2 := by omega
  unfold fL_law_b23
  rw [wp_bnd, al_of hw C.1]
  refine wp_cas (fun c => ?_) (fun _ => ?_)
  · exfalso
    rw [show n3 n - 6 = n3 (n - 6) from n3_sub (a := n) (b := 6) (by omega), n3_lt (by omega) (by omega)] at c
    omega
  rw [wp_bnd, rd_of hw (show 6 * i < n by omega) (by omega) h b _ C.1, wp_bnd, wp_ret]
  refine wp_cas (fun _ => ?_) (fun _ => ?_)
  · exact law_F (p := fun j => f (6 * i + 1 + j)) L zt zb zc rd1 rd2 rd3 rd4 rd5 b1 b2 nxN
  refine wp_cas (fun _ => ?_) (fun _ => ?_)
  · exact law_T L zt zb zc rd1 b1 b2 nxN
  refine wp_cas (fun _ => ?_) (fun _ => ?_)
  · exact hT r h b _ Q J0 nxN
  refine wp_cas (fun _ => ?_) (fun _ => ?_)
  · refine law_P L (fun b Q y1 y2 kk => ?_) (fun h' M' => o_errorAt M') c1 c2 (nxL 0 t)
    rw [a_errorAt C]
    exact kk _ _ C fr.refl (by omega) (by omega)
  refine wp_cas (fun _ => ?_) (fun _ => ?_)
  · refine law_P L (fun b Q y1 y2 kk => ?_) (fun h' M' => o_seats M') c1 c2 (nxL 0 t)
    rw [a_seats C]
    exact kk _ _ C fr.refl (by omega) (by omega)
  refine wp_cas (fun _ => ?_) (fun _ => ?_)
  · refine law_P L (fun b Q y1 y2 kk => ?_) (fun h' M' => o_strata M') c1 c2 (nxL 0 t)
    rw [a_strata C]
    exact kk _ _ C fr.refl (by omega) (by omega)
  refine wp_cas (fun _ => ?_) (fun _ => ?_)
  · refine law_P L (fun b Q y1 y2 kk => ?_) (fun h' M' => o_finds M') c1 c2 (nxL 0 t)
    rw [a_finds C]
    exact kk _ _ C fr.refl (by omega) (by omega)
  refine wp_cas (fun _ => ?_) (fun _ => ?_)
  · refine law_P L (fun b Q y1 y2 kk => ?_) (fun h' M' => o_days M') c1 c2 (nxL 0 t)
    rw [a_days C]
    exact kk _ _ C fr.refl (by omega) (by omega)
  refine wp_cas (fun _ => ?_) (fun _ => ?_)
  · refine law_P L (fun b Q y1 y2 kk => ?_) (fun h' M' => o_ordersCarriedOut M') c1 c2 (nxL 0 t)
    rw [a_ordersCarriedOut C]
    exact kk _ _ C fr.refl (by omega) (by omega)
  refine wp_cas (fun _ => ?_) (fun _ => ?_)
  · refine law_P L (fun b Q y1 y2 kk => ?_) (fun h' M' => o_cushionsDug M') c1 c2 (nxL 0 t)
    rw [a_cushionsDug C]
    exact kk _ _ C fr.refl (by omega) (by omega)
  refine wp_cas (fun _ => ?_) (fun _ => ?_)
  · refine law_P L (fun b Q y1 y2 kk => ?_) (fun h' M' => o_slides M') c1 c2 (nxL 0 t)
    rw [a_slides C]
    exact kk _ _ C fr.refl (by omega) (by omega)
  refine wp_cas (fun _ => ?_) (fun _ => ?_)
  · refine law_P L (fun b Q y1 y2 kk => ?_) (fun h' M' => o_found M') c1 c2 (nxL 0 t)
    rw [a_found C]
    exact kk _ _ C fr.refl (by omega) (by omega)
  refine wp_cas (fun _ => ?_) (fun _ => ?_)
  · refine law_P L (fun b Q y1 y2 kk => ?_) (fun h' M' => o_sureFinds M') c1 c2 (nxL 0 t)
    rw [a_sureFinds C]
    exact kk _ _ C fr.refl (by omega) (by omega)
  refine wp_cas (fun _ => ?_) (fun _ => ?_)
  · refine law_P L (fun b Q y1 y2 kk => ?_) (fun h' M' => o_props M') c1 c2 (nxL 0 t)
    rw [a_props C]
    exact kk _ _ C fr.refl (by omega) (by omega)
  refine wp_cas (fun _ => ?_) (fun _ => ?_)
  · have Hw := w_int L (a_heightOf C (f (6 * i + 1))) (cat1 (c := 50) (by decide) (exA_ix rfl fun _ => exA_l))
    rw [wp_bnd, rd1 h b _ C.1]
    exact law_I (fw := fX0_heightOf G cx (f (6 * i + 1)) o) L rd1 Hw (fun h' M' => o_heightOf M' _) c1 c2 (nxL _ _)
  refine wp_cas (fun _ => ?_) (fun _ => ?_)
  · have Hw := w_bool L (a_isPropped C (f (6 * i + 1))) (cat1 (c := 50) (by decide) (exA_ix rfl fun _ => exA_l))
    rw [wp_bnd, rd1 h b _ C.1]
    exact law_B (fw := fX0_isPropped G cx (f (6 * i + 1)) o) L rd1 Hw (fun h' M' => o_isPropped M' _) c1 c2 (nxL _ _)
  refine wp_cas (fun _ => ?_) (fun _ => ?_)
  · have Hw := w_int L (a_topStratum C (f (6 * i + 1))) (cat2 (exA_ix (Or.inl rfl) fun _ => exA_st (Or.inr rfl) exA_l))
    rw [wp_bnd, rd1 h b _ C.1]
    exact law_I (fw := fX0_topStratum G cx (f (6 * i + 1)) o) L rd1 Hw (fun h' M' => o_topStratum M' _) c1 c2 (nxL _ _)
  refine wp_cas (fun _ => ?_) (fun _ => ?_)
  · have Hw := w_bool L (a_isTopLoose C (f (6 * i + 1))) (cat2 (exA_ix (Or.inl rfl) fun _ => exA_st (Or.inr rfl) exA_l))
    rw [wp_bnd, rd1 h b _ C.1]
    exact law_B (fw := fX0_isTopLoose G cx (f (6 * i + 1)) o) L rd1 Hw (fun h' M' => o_isTopLoose M' _) c1 c2 (nxL _ _)
  refine wp_cas (fun _ => ?_) (fun _ => ?_)
  · have Hw := w_bool L (a_hasTopSpring C (f (6 * i + 1))) (cat2 (exA_ix (Or.inl rfl) fun _ => exA_st (Or.inr rfl) exA_l))
    rw [wp_bnd, rd1 h b _ C.1]
    exact law_B (fw := fX0_hasTopSpring G cx (f (6 * i + 1)) o) L rd1 Hw (fun h' M' => o_hasTopSpring M' _) c1 c2 (nxL _ _)
  refine wp_cas (fun _ => ?_) (fun _ => ?_)
  · have Hw := w_int L (a_findsLeft C (f (6 * i + 1))) (cat1 (c := 50) (by decide) (exA_ix rfl fun _ => exA_l))
    rw [wp_bnd, rd1 h b _ C.1]
    exact law_I (fw := fX0_findsLeft G cx (f (6 * i + 1)) o) L rd1 Hw (fun h' M' => o_findsLeft M' _) c1 c2 (nxL _ _)
  refine wp_cas (fun _ => ?_) (fun _ => ?_)
  · have Hw := w_bool L (a_isCoin C (f (6 * i + 1))) (cat1 (c := 50) (by decide) (exA_ix rfl fun _ => exA_l))
    rw [wp_bnd, rd1 h b _ C.1]
    exact law_B (fw := fX0_isCoin G cx (f (6 * i + 1)) o) L rd1 Hw (fun h' M' => o_isCoin M' _) c1 c2 (nxL _ _)
  refine wp_cas (fun _ => ?_) (fun _ => ?_)
  · have Hw := w_bool L (a_isFound C (f (6 * i + 1))) (cat1 (c := 50) (by decide) (exA_ix rfl fun _ => exA_l))
    rw [wp_bnd, rd1 h b _ C.1]
    exact law_B (fw := fX0_isFound G cx (f (6 * i + 1)) o) L rd1 Hw (fun h' M' => o_isFound M' _) c1 c2 (nxL _ _)
  refine wp_cas (fun _ => ?_) (fun _ => ?_)
  · have Hw := w_bool L (a_isSure C (f (6 * i + 1))) (cat2 (exA_ix (Or.inl rfl) fun _ => exA_st (Or.inr rfl) exA_l))
    rw [wp_bnd, rd1 h b _ C.1]
    exact law_B (fw := fX0_isSure G cx (f (6 * i + 1)) o) L rd1 Hw (fun h' M' => o_isSure M' _) c1 c2 (nxL _ _)
  refine wp_cas (fun _ => ?_) (fun _ => ?_)
  · have Hw := w_int L (a_stratumOf C (f (6 * i + 1))) (cat1 (c := 50) (by decide) (exA_ix rfl fun _ => exA_l))
    rw [wp_bnd, rd1 h b _ C.1]
    exact law_I (fw := fX0_stratumOf G cx (f (6 * i + 1)) o) L rd1 Hw (fun h' M' => o_stratumOf M' _) c1 c2 (nxL _ _)
  refine wp_cas (fun _ => ?_) (fun _ => ?_)
  · have Hw := w_int L (a_yearOf C (f (6 * i + 1))) (cat2 (exA_ix (Or.inl rfl) fun _ => exA_st (Or.inr rfl) exA_l))
    rw [wp_bnd, rd1 h b _ C.1]
    exact law_I (fw := fX0_yearOf G cx (f (6 * i + 1)) o) L rd1 Hw (fun h' M' => o_yearOf M' _) c1 c2 (nxL _ _)
  refine wp_cas (fun _ => ?_) (fun _ => ?_)
  · have Hw := w_int L (a_empireOf C (f (6 * i + 1))) (cat2 (exA_ix (Or.inl rfl) fun _ => exA_st (Or.inr rfl) exA_l))
    rw [wp_bnd, rd1 h b _ C.1]
    exact law_I (fw := fX0_empireOf G cx (f (6 * i + 1)) o) L rd1 Hw (fun h' M' => o_empireOf M' _) c1 c2 (nxL _ _)
  refine wp_cas (fun _ => ?_) (fun _ => ?_)
  · have Hw := w_int L (a_buriedUnder C (f (6 * i + 1))) (cat2 (exA_ix (Or.inl rfl) fun _ => exA_st (Or.inr rfl) exA_l))
    rw [wp_bnd, rd1 h b _ C.1]
    exact law_I (fw := fX0_buriedUnder G cx (f (6 * i + 1)) o) L rd1 Hw (fun h' M' => o_buriedUnder M' _) c1 c2 (nxL _ _)
  refine wp_cas (fun _ => ?_) (fun _ => ?_)
  · have Hw := w_int L (a_notBefore C (f (6 * i + 1))) (cat1 (c := 50) (by decide) (exA_ix rfl fun _ => exA_l))
    rw [wp_bnd, rd1 h b _ C.1]
    exact law_I (fw := fX0_notBefore G cx (f (6 * i + 1)) o) L rd1 Hw (fun h' M' => o_notBefore M' _) c1 c2 (nxL _ _)
  refine wp_cas (fun _ => ?_) (fun _ => ?_)
  · have Hw := w_bool L (a_isSeenIn C (f (6 * i + 1)) (f (6 * i + 2))) (cat1 (c := 50) (by decide) (exA_ix rfl fun _ => exA_ix rfl fun _ => exA_l))
    rw [wp_bnd, rd1 h b _ C.1, wp_bnd, rd2 h b _ C.1]
    exact law_B2 (fw := fX0_isSeenIn G cx (f (6 * i + 1)) (f (6 * i + 2)) o) L rd1 rd2 Hw (fun h' M' => o_isSeenIn M' _ _) c1 c2 (nxL _ _)
  refine wp_cas (fun _ => ?_) (fun _ => ?_)
  · have Hw := w_bool L (a_isMixed C (f (6 * i + 1))) (cat1 (c := 50) (by decide) (exA_ix rfl fun _ => exA_l))
    rw [wp_bnd, rd1 h b _ C.1]
    exact law_B (fw := fX0_isMixed G cx (f (6 * i + 1)) o) L rd1 Hw (fun h' M' => o_isMixed M' _) c1 c2 (nxL _ _)
  refine wp_cas (fun _ => ?_) (fun _ => ?_)
  · have Hw := w_int L (a_dig C (f (6 * i + 1))) (cat2 (exA_ix (Or.inl rfl) fun _ => exA_st (Or.inr rfl) exA_l))
    rw [wp_bnd, rd1 h b _ C.1]
    exact law_I (fw := fX0_dig G cx (f (6 * i + 1)) o) L rd1 Hw (fun h' M' => o_dig M' _) c1 c2 (nxL _ _)
  refine wp_cas (fun _ => ?_) (fun _ => ?_)
  · have Hw := w_int L (a_prop C (f (6 * i + 1))) (cat2 (exA_ix (Or.inl rfl) fun _ => exA_st (Or.inr rfl) exA_l))
    rw [wp_bnd, rd1 h b _ C.1]
    exact law_I (fw := fX0_prop G cx (f (6 * i + 1)) o) L rd1 Hw (fun h' M' => o_prop M' _) c1 c2 (nxL _ _)
  refine wp_cas (fun _ => ?_) (fun _ => ?_)
  · have Hw := w_int L (a_takeProp C (f (6 * i + 1))) (cat2 (exA_ix (Or.inl rfl) fun _ => exA_st (Or.inr rfl) exA_l))
    rw [wp_bnd, rd1 h b _ C.1]
    exact law_I (fw := fX0_takeProp G cx (f (6 * i + 1)) o) L rd1 Hw (fun h' M' => o_takeProp M' _) c1 c2 (nxL _ _)
  refine wp_cas (fun _ => ?_) (fun _ => ?_)
  · have Hw := w_int L (a_passDays C (f (6 * i + 1))) (cat1 (c := 49) (by decide) (exA_rg rfl fun _ => exA_l))
    rw [wp_bnd, rd1 h b _ C.1]
    exact law_I (fw := fX0_passDays G cx (f (6 * i + 1)) o) L rd1 Hw (fun h' M' => o_passDays M' _) c1 c2 (nxL _ _)
  refine wp_cas (fun _ => ?_) (fun _ => ?_)
  · have Hw := w_int L (a_foundAfter C (f (6 * i + 1))) (cat1 (c := 49) (by decide) (exA_rg rfl fun _ => exA_l))
    rw [wp_bnd, rd1 h b _ C.1]
    exact law_I (fw := fX0_foundAfter G cx (f (6 * i + 1)) o) L rd1 Hw (fun h' M' => o_foundAfter M' _) c1 c2 (nxL _ _)
  refine wp_cas (fun _ => ?_) (fun _ => ?_)
  · have Hw := w_int L (a_daysUntilFound C (f (6 * i + 1))) (cat1 (c := 50) (by decide) (exA_ix rfl fun _ => exA_l))
    rw [wp_bnd, rd1 h b _ C.1]
    exact law_I (fw := fX0_daysUntilFound G cx (f (6 * i + 1)) o) L rd1 Hw (fun h' M' => o_daysUntilFound M' _) c1 c2 (nxL _ _)
  refine wp_cas (fun _ => ?_) (fun _ => ?_)
  · have Hw := w_int L (a_wouldSlide C (f (6 * i + 1))) (cat2 (exA_ix (Or.inl rfl) fun _ => exA_st (Or.inr rfl) exA_l))
    rw [wp_bnd, rd1 h b _ C.1]
    exact law_I (fw := fX0_wouldSlide G cx (f (6 * i + 1)) o) L rd1 Hw (fun h' M' => o_wouldSlide M' _) c1 c2 (nxL _ _)
  refine wp_cas (fun _ => ?_) (fun _ => ?_)
  · exact law_P L (fun b Q y1 y2 kk => c_best C (by omega) (by omega) (fun h' b' C' f' z1 z2 => kk h' b' C' f' (by omega) (by omega))) (fun h' M' => o_bestDig M') c1 c2 (nxL 0 t)
  refine wp_cas (fun _ => ?_) (fun _ => ?_)
  · exact law_Y L (fun b Q y1 y2 kk => c_mean C (kk _ _ C fr.refl (by omega) (by omega))) (fun h' M' => o_meanYear M') c1 c2 (nxL 0 t)
  refine wp_cas (fun _ => ?_) (fun _ => ?_)
  · exact law_D L (fun b Q y1 y2 kk => a_digest C b Q y1 y2 (fun r h' b' C' f' z1 z2 e => by rw [e]; exact kk h' b' C' f' z1 z2)) (fun h' M' => o_digest M') c1 c2 (nxL 0 t)
  exact nxL th t h b L (by omega) (by omega)
end LST
