/-! THE PLAIN LAW: the model's parser of sums and tests -/
def pv (v : Nat → Int32) (i d m : Nat) : Nat → Int32 := fun j => if j = 10 then n3 i else if j = 11 then n3 d else if j = 38 then n3 m else v j
def px (x : Nat → Nat → Int32) (p q e : Nat → Int32) : Nat → Nat → Int32 := fun j => if j = 36 then p else if j = 37 then q else if j = 7 then e else x j
def wrA (a : Nat → Int32) : Nat → List Int32 → Nat → Int32
  | _, [] => a
  | m, z :: r => wrA (upd a m z) (m + 1) r
def mrk (c : Nat → Int32) (ks : List Nat) : Nat → Int32 := ks.foldl (fun c k => upd c k 12) c
theorem wrA_app : ∀ (l l' : List Int32) (a : Nat → Int32) (m : Nat), wrA a m (l ++ l') = wrA (wrA a m l) (m + l.length) l' := by
  intro l
  induction l with
  | nil => intro l' a m; rfl
  | cons z r ih =>
    intro l' a m
    show wrA (upd a m z) (m + 1) (r ++ l') = _
    rw [ih, List.length_cons, show m + 1 + r.length = m + (r.length + 1) by omega]
    rfl
theorem mrk_app {c : Nat → Int32} {ks ks' : List Nat} : mrk c (ks ++ ks') = mrk (mrk c ks) ks' := List.foldl_append
section PVX
variable {v : Nat → Int32} {x : Nat → Nat → Int32} {i d m : Nat} {p q e : Nat → Int32}
theorem pv_10 : pv v i d m 10 = n3 i := rfl
theorem pv_11 : pv v i d m 11 = n3 d := rfl
theorem pv_38 : pv v i d m 38 = n3 m := rfl
theorem pv_u10 {i' : Nat} : upd (pv v i d m) 10 (n3 i') = pv v i' d m := by
  funext j
  unfold upd pv
  by_cases h : j = 10
  · rw [if_pos h, if_pos h]
  · rw [if_neg h, if_neg h, if_neg h]
theorem pv_u11 {d' : Nat} : upd (pv v i d m) 11 (n3 d') = pv v i d' m := by
  funext j
  unfold upd pv
  by_cases h : j = 11
  · subst h
    rfl
  · rw [if_neg h]
    by_cases h0 : j = 10
    · rw [if_pos h0, if_pos h0]
    · rw [if_neg h0, if_neg h0, if_neg h, if_neg h]
theorem pv_u38 {m' : Nat} : upd (pv v i d m) 38 (n3 m') = pv v i d m' := by
  funext j
  unfold upd pv
  by_cases h : j = 38
  · subst h
    rfl
  · rw [if_neg h]
    by_cases h0 : j = 10
    · rw [if_pos h0, if_pos h0]
    · rw [if_neg h0, if_neg h0]
      by_cases h1 : j = 11
      · rw [if_pos h1, if_pos h1]
      · rw [if_neg h1, if_neg h1, if_neg h, if_neg h]
theorem px_5 : px x p q e 5 = x 5 := rfl
theorem px_36 {k : Nat} {z : Int32} : up2 (px x p q e) 36 k z = px x (upd p k z) q e := by
  funext j
  unfold up2
  by_cases h : j = 36
  · subst h
    rfl
  · rw [if_neg h]
    unfold px
    rw [if_neg h, if_neg h]
theorem px_37 {k : Nat} {z : Int32} : up2 (px x p q e) 37 k z = px x p (upd q k z) e := by
  funext j
  unfold up2
  by_cases h : j = 37
  · subst h
    rfl
  · rw [if_neg h]
    unfold px
    by_cases h1 : j = 36
    · rw [if_pos h1, if_pos h1]
    · rw [if_neg h1, if_neg h1, if_neg h, if_neg h]
theorem px_7 {k : Nat} {z : Int32} : up2 (px x p q e) 7 k z = px x p q (upd e k z) := by
  funext j
  unfold up2
  by_cases h : j = 7
  · subst h
    rfl
  · rw [if_neg h]
    unfold px
    by_cases h1 : j = 36
    · rw [if_pos h1, if_pos h1]
    · rw [if_neg h1, if_neg h1]
      by_cases h2 : j = 37
      · rw [if_pos h2, if_pos h2]
      · rw [if_neg h2, if_neg h2, if_neg h, if_neg h]
end PVX
/-- the tokens lie in the model's arrays -/
def tkX (κ : Nat → Nat) (vl : Nat → Int32) (N : Nat) (x : Nat → Nat → Int32) (y : Nat → Nat → Int64) : Prop := tkN κ N ∧ (∀ i, i ≤ N → x 5 i = n3 (κ i) ∧ κ i < 1000) ∧ ∀ i, i < N → κ i = 31 → (y 8 i).toInt32 = vl i
section MPA
variable {n : Nat} {ρ : Nat → Option Nat} {ad : Nat → Nat} {K : Nat → Option sd_E} {v : Nat → Int32} {x : Nat → Nat → Int32} {y : Nat → Nat → Int64} {G : sd_G} {b : Nat × Nat} {κ : Nat → Nat} {vl : Nat → Int32} {N : Nat} {i d m : Nat} {p q e : Nat → Int32}
theorem m_kind {Q : Int32 → sd_H → Nat × Nat → Prop} (E : mOk n ρ ad) (T : tkX κ vl N x y) (hi : i ≤ N) : wp (sd_bnd (sd_getR G 4 5 (ad 0)) fun v1 => sd_bnd (sd_getI G 4 10 (ad 0)) fun v2 => sd_aldI G 0 v1 v2) (hMo n ρ ad K (pv v i d m) (px x p q e) y) b Q = Q (n3 (κ i)) (hMo n ρ ad K (pv v i d m) (px x p q e) y) b := by
  have h4 := T.1.1
  rw [wp_bnd, hMo_getR4 E rfl, wp_bnd, hMo_getI4 E rfl, pv_10]
  simp (disch := omega) only [↓mAr E, mAr E, ↓mAs E, mAs E, px_5, (T.2.1 i hi).1]
theorem m_kindB {β : Type} {k : Int32 → sd_M β} {Q : β → sd_H → Nat × Nat → Prop} (E : mOk n ρ ad) (T : tkX κ vl N x y) (hi : i ≤ N) : wp (sd_bnd (sd_getR G 4 5 (ad 0)) fun v1 => sd_bnd (sd_getI G 4 10 (ad 0)) fun v2 => sd_bnd (sd_aldI G 0 v1 v2) k) (hMo n ρ ad K (pv v i d m) (px x p q e) y) b Q = wp (k (n3 (κ i))) (hMo n ρ ad K (pv v i d m) (px x p q e) y) b Q := by
  have h4 := T.1.1
  rw [wp_bnd, hMo_getR4 E rfl, wp_bnd, hMo_getI4 E rfl, pv_10, wp_bnd]
  simp (disch := omega) only [↓mAr E, mAr E, ↓mAs E, mAs E, px_5, (T.2.1 i hi).1]
theorem m_tok {β : Type} {k : sd_M β} {Q : β → sd_H → Nat × Nat → Prop} (E : mOk n ρ ad) : wp (sd_bnd (sd_getI G 4 10 (ad 0)) fun v4 => sd_bnd (sd_put 4 10 .int (ad 0) (.int (v4 + 1))) fun _ => k) (hMo n ρ ad K (pv v i d m) (px x p q e) y) b Q = wp k (hMo n ρ ad K (pv v (i + 1) d m) (px x p q e) y) b Q := by
  rw [wp_bnd, hMo_getI4 E rfl, pv_10, n3_suc, wp_bnd]
  simp (disch := omega) only [↓mFl E, ↓mPu E, pv_u10]
theorem m_dec {β : Type} {k : sd_M β} {Q : β → sd_H → Nat × Nat → Prop} (E : mOk n ρ ad) : wp (sd_bnd (sd_getI G 4 11 (ad 0)) fun v4 => sd_bnd (sd_put 4 11 .int (ad 0) (.int (v4 - 1))) fun _ => k) (hMo n ρ ad K (pv v i (d + 1) m) (px x p q e) y) b Q = wp k (hMo n ρ ad K (pv v i d m) (px x p q e) y) b Q := by
  rw [wp_bnd, hMo_getI4 E rfl, pv_11, show n3 (d + 1) - 1 = n3 d from n3_sub (a := d + 1) (b := 1) (by omega), wp_bnd]
  simp (disch := omega) only [↓mFl E, ↓mPu E, pv_u11]
theorem m_eat {a : Int32} {c : Nat} {Q : Int32 → sd_H → Nat × Nat → Prop} (ha : a = n3 c) (hc : c < 1000) (E : mOk n ρ ad) (T : tkX κ vl N x y) (hi : i ≤ N) : wp (fX5_eat G (ad 0) a) (hMo n ρ ad K (pv v i d m) (px x p q e) y) b Q = if κ i = c then Q 1 (hMo n ρ ad K (pv v (i + 1) d m) (px x p q e) y) b else Q 0 (hMo n ρ ad K (pv v i d m) (px x p q e) y) b := by
  have h1 := (T.2.1 i hi).2
  unfold fX5_eat
  rw [m_kindB E T hi, wp_ite, ha]
  by_cases h : κ i = c
  · rw [if_pos h, if_pos (by rw [h]), m_tok E, wp_ret]
  · rw [if_neg h, if_neg (by rw [n3_eq (by omega) (by omega)]; exact h), wp_ret]
theorem m_eatAs {a z : Int32} {c : Nat} {Q : Int32 → sd_H → Nat × Nat → Prop} (ha : a = n3 c) (hc : c < 1000) (E : mOk n ρ ad) (T : tkX κ vl N x y) (hi : i ≤ N) : wp (fX5_eatAs G (ad 0) a z) (hMo n ρ ad K (pv v i d m) (px x p q e) y) b Q = if κ i = c then Q 1 (hMo n ρ ad K (pv v (i + 1) d m) (px x p q (upd e i z)) y) b else Q 0 (hMo n ρ ad K (pv v i d m) (px x p q (upd e i z)) y) b := by
  have h4 := T.1.1
  unfold fX5_eatAs
  rw [wp_bnd, hMo_getR4 E rfl, wp_bnd, hMo_getI4 E rfl, pv_10, wp_bnd]
  simp (disch := omega) only [↓mAr E, mAr E, ↓mAs E, mAs E, px_7]
  rw [wp_bnd, hMo_isC4 E, wp_bnd, m_eat ha hc E T hi]
  split
  · rw [wp_retN nar_b1]
  · rw [wp_retN nar_b0]
theorem m_deeper {a : Int32} {c : Nat} {Q : Int32 → sd_H → Nat × Nat → Prop} (ha : a = n3 c) (hc : c < 1000) (hd : d ≤ 8) (E : mOk n ρ ad) (T : tkX κ vl N x y) (hi : i ≤ N) : wp (fX5_deeper G (ad 0) a) (hMo n ρ ad K (pv v i d m) (px x p q e) y) b Q = if d = 8 ∨ κ i ≠ c then Q 0 (hMo n ρ ad K (pv v i d m) (px x p q e) y) b else Q 1 (hMo n ρ ad K (pv v (i + 1) (d + 1) m) (px x p q e) y) b := by
  unfold fX5_deeper
  rw [wp_bnd, hMo_getI4 E rfl, pv_11, wp_ite]
  by_cases h8 : d = 8
  · rw [if_pos (show n3 d = 8 from by rw [h8]; rfl), if_pos (Or.inl h8), wp_ret]
  · rw [if_neg (show ¬ n3 d = 8 from by rw [show (8 : Int32) = n3 8 from rfl, n3_eq (by omega) (by omega)]; exact h8), wp_bnd, hMo_isC4 E, wp_bnd, m_eat ha hc E T hi]
    by_cases h : κ i = c
    · rw [if_pos h, if_neg (show ¬ (d = 8 ∨ κ i ≠ c) from fun h9 => h9.elim h8 (fun h9 => h9 h)), wp_ite, if_neg (by decide), wp_bnd, hMo_getI4 E rfl, pv_11, n3_suc, wp_bnd]
      simp (disch := omega) only [↓wp_bnd, ↓wp_ret, ↓wp_ite, ↓reduceIte, ↓mFl E, ↓mPu E, pv_u11]
    · rw [if_neg h, if_pos (Or.inr h), wp_ite, if_pos rfl, wp_ret]
theorem m_closes {a : Int32} {c : Nat} {Q : Int32 → sd_H → Nat × Nat → Prop} (ha : a = n3 c) (hc : c < 1000) (E : mOk n ρ ad) (T : tkX κ vl N x y) (hi : i ≤ N) : wp (fX5_closes G (ad 0) a) (hMo n ρ ad K (pv v i (d + 1) m) (px x p q e) y) b Q = if κ i = c then Q 1 (hMo n ρ ad K (pv v (i + 1) d m) (px x p q e) y) b else Q 0 (hMo n ρ ad K (pv v i (d + 1) m) (px x p q e) y) b := by
  unfold fX5_closes
  rw [wp_bnd, hMo_isC4 E, wp_bnd, m_eat ha hc E T hi]
  by_cases h : κ i = c
  · rw [if_pos h, if_pos h, wp_ite, if_neg (by decide), m_dec E, wp_ret]
  · rw [if_neg h, if_neg h, wp_ite, if_pos rfl, wp_ret]
theorem m_putr {o z : Int32} {Q : Unit → sd_H → Nat × Nat → Prop} (E : mOk n ρ ad) (hm : m < 800) : wp (fX5_put G (ad 0) (ad 20) o z) (hMo n ρ ad K (pv v i d m) (px x p q e) y) b Q = Q () (hMo n ρ ad K (pv v i d (m + 1)) (px x (upd p m o) (upd q m z) e) y) b := by
  unfold fX5_put
  rw [wp_bnd, hMo_getR5 E rfl, wp_bnd, hMo_getI5 E rfl, pv_38, wp_bnd]
  simp (disch := omega) only [↓mAr E, mAr E, ↓mAs E, mAs E, px_36]
  rw [wp_bnd, hMo_getR5 E rfl, wp_bnd, hMo_getI5 E rfl, pv_38, wp_bnd]
  simp (disch := omega) only [↓mAr E, mAr E, ↓mAs E, mAs E, px_37]
  rw [wp_bnd, hMo_getI5 E rfl, pv_38, n3_suc, wp_bnd]
  simp (disch := omega) only [↓wp_bnd, ↓wp_ret, ↓wp_ite, ↓reduceIte, ↓mFl E, ↓mPu E, pv_u38]
/-- what comes behind a piece of the parser -/
def kM (n : Nat) (ρ : Nat → Option Nat) (ad : Nat → Nat) (K : Nat → Option sd_E) (v : Nat → Int32) (x : Nat → Nat → Int32) (y : Nat → Nat → Int64) (d' m : Nat) (p q e : Nat → Int32) (b : Nat × Nat) (Q : Int32 → sd_H → Nat × Nat → Prop) : PR → Prop
  | .inl (j, w, ks) => Q 1 (hMo n ρ ad K (pv v j d' (m + w.length)) (px x (wrA p m (w.map Prod.fst)) (wrA q m (w.map Prod.snd)) (mrk e ks)) y) b
  | .inr j => ∀ d1 m1 p1 q1 e1, Q 0 (hMo n ρ ad K (pv v j d1 m1) (px x p1 q1 e1) y) b
/-- what a piece of the parser does: from token i and depth d, s rows fewer than tokens; to depth d' -/
def mS (n : Nat) (ρ : Nat → Option Nat) (ad : Nat → Nat) (K : Nat → Option sd_E) (v : Nat → Int32) (x : Nat → Nat → Int32) (y : Nat → Nat → Int64) (s : Nat) (f : sd_M Int32) (i d d' : Nat) (r : PR) : Prop := ∀ (m : Nat) (p q e : Nat → Int32) (b : Nat × Nat) (Q : Int32 → sd_H → Nat × Nat → Prop), m + s ≤ i → kM n ρ ad K v x y d' m p q e b Q r → wp f (hMo n ρ ad K (pv v i d m) (px x p q e) y) b Q
theorem mS_mono {f : sd_M Int32} {d' s s' : Nat} {r : PR} (h : mS n ρ ad K v x y s f i d d' r) (hs : s ≤ s') : mS n ρ ad K v x y s' f i d d' r := fun m p q e b Q hm kk => h m p q e b Q (by omega) kk
theorem kM_add {d' : Nat} {w : List (Int32 × Int32)} {ks : List Nat} {r : PR} {Q : Int32 → sd_H → Nat × Nat → Prop} (kk : kM n ρ ad K v x y d' m p q e b Q (addR w ks r)) : kM n ρ ad K v x y d' (m + w.length) (wrA p m (w.map Prod.fst)) (wrA q m (w.map Prod.snd)) (mrk e ks) b Q r := by
  cases r with
  | inr j' => exact kk
  | inl t =>
    obtain ⟨j', w', ks'⟩ := t
    have kk : Q 1 (hMo n ρ ad K (pv v j' d' (m + (w ++ w').length)) (px x (wrA p m ((w ++ w').map Prod.fst)) (wrA q m ((w ++ w').map Prod.snd)) (mrk e (ks ++ ks'))) y) b := kk
    rw [List.length_append, List.map_append, List.map_append, wrA_app, wrA_app, mrk_app, List.length_map, List.length_map, ← Nat.add_assoc] at kk
    exact kk
theorem mS_bnd {f1 k2 : sd_M Int32} {d1 d2 s : Nat} {a : Option PR} {k : Nat → Option PR} {r : PR} (h : sqc a k = some r) (h1 : ∀ r1, a = some r1 → mS n ρ ad K v x y s f1 i d d1 r1) (hok : ∀ j w ks, a = some (.inl (j, w, ks)) → i ≤ j ∧ w.length ≤ j - i) (h2 : ∀ j w ks r', a = some (.inl (j, w, ks)) → k j = some r' → mS n ρ ad K v x y s k2 j d1 d2 r') : mS n ρ ad K v x y s (sd_bnd f1 fun r1 => if r1 = 0 then (sd_ret 0) else k2) i d d2 r := by
  intro m p q e b Q hm kk
  rw [wp_bnd]
  rcases sqc_some h with ⟨j, e1, rfl⟩ | ⟨j, w, ks, r', e1, e2, rfl⟩
  · refine h1 _ e1 m p q e b _ hm (fun d1 m1 p1 q1 e1 => ?_)
    rw [wp_ite, if_pos rfl, wp_ret]
    exact kk d1 m1 p1 q1 e1
  · obtain ⟨o1, o2⟩ := hok j w ks e1
    refine h1 _ e1 m p q e b _ hm ?_
    show wp _ _ b Q
    rw [wp_ite, if_neg (by decide)]
    exact h2 j w ks r' e1 e2 _ _ _ _ b Q (by omega) (kM_add kk)
theorem mS_isC {f : sd_M Int32} {d' s : Nat} {r : PR} (E : mOk n ρ ad) (h : mS n ρ ad K v x y s f i d d' r) : mS n ρ ad K v x y s (sd_bnd (sd_isC G 4 (ad 0)) fun _ => f) i d d' r := by
  intro m p q e b Q hm kk
  rw [wp_bnd, hMo_isC4 E]
  exact h m p q e b Q hm kk
theorem mS_row {o z : Int32} {s : Nat} (E : mOk n ρ ad) (hi : i ≤ 400) : mS n ρ ad K v x y s (sd_bnd (sd_isC G 4 (ad 0)) fun _ => sd_bnd (fX5_put G (ad 0) (ad 20) o z) fun _ => sd_ret 1) i d d (.inl (i, [(o, z)], [])) := by
  intro m p q e b Q hm kk
  rw [wp_bnd, hMo_isC4 E, wp_bnd, m_putr E (by omega), wp_ret]
  exact kk
theorem mS_rowk {o z : Int32} {k : sd_M Int32} {r : PR} {d' s : Nat} (E : mOk n ρ ad) (hi : i ≤ 400) (h : mS n ρ ad K v x y s k i d d' r) : mS n ρ ad K v x y (s + 1) (sd_bnd (sd_isC G 4 (ad 0)) fun _ => sd_bnd (fX5_put G (ad 0) (ad 20) o z) fun _ => k) i d d' (addR [(o, z)] [] r) := by
  intro m p q e b Q hm kk
  rw [wp_bnd, hMo_isC4 E, wp_bnd, m_putr E (by omega)]
  exact h (m + 1) _ _ _ b Q (by omega) (kM_add kk)
/-- depth less one -/
theorem mS_dec {f : sd_M Int32} {r : PR} {d' s : Nat} (E : mOk n ρ ad) (h : mS n ρ ad K v x y s f i d d' r) : mS n ρ ad K v x y s (sd_bnd (sd_getI G 4 11 (ad 0)) fun v4 => sd_bnd (sd_put 4 11 .int (ad 0) (.int (v4 - 1))) fun _ => f) i (d + 1) d' r := by
  intro m p q e b Q hm kk
  rw [m_dec E]
  exact h m p q e b Q hm kk
theorem mS_tok {f : sd_M Int32} {r : PR} {d' s : Nat} (E : mOk n ρ ad) (h : mS n ρ ad K v x y (s + 1) f (i + 1) d d' r) : mS n ρ ad K v x y s (sd_bnd (sd_getI G 4 10 (ad 0)) fun v4 => sd_bnd (sd_put 4 10 .int (ad 0) (.int (v4 + 1))) fun _ => f) i d d' r := by
  intro m p q e b Q hm kk
  rw [m_tok E]
  exact h m p q e b Q (by omega) kk
theorem mS_ret1 {s : Nat} : mS n ρ ad K v x y s (sd_ret 1) i d d (.inl (i, [], [])) := by
  intro m p q e b Q hm kk
  rw [wp_ret]
  exact kk
theorem mS_ret0 {d' s : Nat} : mS n ρ ad K v x y s (sd_ret 0) i d d' (.inr i) := by
  intro m p q e b Q hm kk
  rw [wp_ret]
  exact kk _ _ _ _ _
theorem mS_retN {f : sd_M Int32} {r : PR} {d' s : Nat} (h : mS n ρ ad K v x y s f i d d' r) : mS n ρ ad K v x y s (sd_bnd f fun r4 => sd_retN .boolean r4) i d d' r := by
  intro m p q e b Q hm kk
  rw [wp_bnd]
  refine h m p q e b _ hm ?_
  cases r with
  | inr j =>
    intro d1 m1 p1 q1 e1
    show wp (sd_retN .boolean 0) _ b Q
    rw [wp_retN nar_b0]
    exact kk d1 m1 p1 q1 e1
  | inl t =>
    obtain ⟨j, w, ks⟩ := t
    show wp (sd_retN .boolean 1) _ b Q
    rw [wp_retN nar_b1]
    exact kk
theorem mS_clo {a : Int32} {c s : Nat} {k : sd_M Int32} {k1 : Option PR} {d' : Nat} {r : PR} (ha : a = n3 c) (hc : c < 1000) (E : mOk n ρ ad) (T : tkX κ vl N x y) (hi : i ≤ N) (hr : prT κ c i k1 = some r) (h : κ i = c → k1 = some r → mS n ρ ad K v x y (s + 1) k (i + 1) d d' r) : mS n ρ ad K v x y s (sd_bnd (sd_isC G 4 (ad 0)) fun _ => sd_bnd (fX5_closes G (ad 0) a) fun r9 => if r9 = 0 then (sd_ret 0) else k) i (d + 1) d' r := by
  intro m p q e b Q hm kk
  rw [wp_bnd, hMo_isC4 E, wp_bnd, m_closes ha hc E T hi]
  rcases prT_some hr with ⟨e1, e2⟩ | ⟨e1, rfl⟩
  · rw [if_pos e1, wp_ite, if_neg (by decide)]
    exact h e1 e2 m p q e b Q (by omega) kk
  · rw [if_neg e1, wp_ite, if_pos rfl, wp_ret]
    exact kk _ _ _ _ _
theorem mS_eat {a : Int32} {c s : Nat} {k : sd_M Int32} {k1 : Option PR} {d' : Nat} {r : PR} (ha : a = n3 c) (hc : c < 1000) (E : mOk n ρ ad) (T : tkX κ vl N x y) (hi : i ≤ N) (hr : prT κ c i k1 = some r) (h : κ i = c → k1 = some r → mS n ρ ad K v x y (s + 1) k (i + 1) d d' r) : mS n ρ ad K v x y s (sd_bnd (sd_isC G 4 (ad 0)) fun _ => sd_bnd (fX5_eat G (ad 0) a) fun r9 => if r9 = 0 then (sd_ret 0) else k) i d d' r := by
  intro m p q e b Q hm kk
  rw [wp_bnd, hMo_isC4 E, wp_bnd, m_eat ha hc E T hi]
  rcases prT_some hr with ⟨e1, e2⟩ | ⟨e1, rfl⟩
  · rw [if_pos e1, wp_ite, if_neg (by decide)]
    exact h e1 e2 m p q e b Q (by omega) kk
  · rw [if_neg e1, wp_ite, if_pos rfl, wp_ret]
    exact kk _ _ _ _ _
theorem mS_deep {a : Int32} {c s : Nat} {k : sd_M Int32} {k1 : Option PR} {d' : Nat} {r : PR} (ha : a = n3 c) (hc : c < 1000) (hd : d ≤ 8) (E : mOk n ρ ad) (T : tkX κ vl N x y) (hi : i ≤ N) (hr : (if d = 8 ∨ κ i ≠ c then some (.inr i) else k1) = some r) (h : κ i = c → d < 8 → k1 = some r → mS n ρ ad K v x y (s + 1) k (i + 1) (d + 1) d' r) : mS n ρ ad K v x y s (sd_bnd (sd_isC G 4 (ad 0)) fun _ => sd_bnd (fX5_deeper G (ad 0) a) fun r9 => if r9 = 0 then (sd_ret 0) else k) i d d' r := by
  intro m p q e b Q hm kk
  rw [wp_bnd, hMo_isC4 E, wp_bnd, m_deeper ha hc hd E T hi]
  by_cases c1 : d = 8 ∨ κ i ≠ c
  · rw [if_pos c1] at hr
    cases hr
    rw [if_pos c1, wp_ite, if_pos rfl, wp_ret]
    exact kk _ _ _ _ _
  · rw [if_neg c1] at hr
    rw [if_neg c1, wp_ite, if_neg (by decide)]
    exact h (Decidable.byContradiction fun h9 => c1 (Or.inr h9)) (by omega) hr m p q e b Q (by omega) kk
/-- a word about an empire, at the token of the name -/
theorem mS_b27 {o : Int32} {s : Nat} {r : PR} (E : mOk n ρ ad) (T : tkX κ vl N x y) (hi : i ≤ N) (hr : prT κ 30 i (some (.inl (i + 1, [(o, n3 i)], [i]))) = some r) : mS n ρ ad K v x y s (fX5_isAbout_b27 G (ad 0) (ad 20) o) i d d r := by
  intro m p q e b Q hm kk
  have h4 := T.1.1
  unfold fX5_isAbout_b27
  rw [wp_bnd, hMo_getI4 E rfl, pv_10, wp_bnd, hMo_isC4 E, wp_bnd, m_putr E (by omega), wp_bnd, hMo_isC4 E, wp_bnd, m_eatAs (a := 30) (c := 30) rfl (by decide) E T hi]
  rcases prT_some hr with ⟨e1, e2⟩ | ⟨e1, rfl⟩
  · cases e2
    rw [if_pos e1, wp_retN nar_b1]
    exact kk
  · rw [if_neg e1, wp_retN nar_b0]
    exact kk _ _ _ _ _
theorem mS_kind {k : Int32 → sd_M Int32} {r : PR} {d' s : Nat} (E : mOk n ρ ad) (T : tkX κ vl N x y) (hi : i ≤ N) (h : mS n ρ ad K v x y s (k (n3 (κ i))) i d d' r) : mS n ρ ad K v x y s (sd_bnd (sd_getR G 4 5 (ad 0)) fun v1 => sd_bnd (sd_getI G 4 10 (ad 0)) fun v2 => sd_bnd (sd_aldI G 0 v1 v2) k) i d d' r := by
  intro m p q e b Q hm kk
  rw [m_kindB E T hi]
  exact h m p q e b Q hm kk
/-- a kind is asked for -/
theorem mS_ite {a : Int32} {c s : Nat} {f g : sd_M Int32} {r : PR} {d' : Nat} (ha : a = n3 c) (hc : c < 1000) (T : tkX κ vl N x y) (hi : i ≤ N) (h1 : κ i = c → mS n ρ ad K v x y s f i d d' r) (h2 : κ i ≠ c → mS n ρ ad K v x y s g i d d' r) : mS n ρ ad K v x y s (if n3 (κ i) = a then f else g) i d d' r := by
  have h9 := (T.2.1 i hi).2
  by_cases h : κ i = c
  · rw [if_pos (by rw [ha, h])]
    exact h1 h
  · rw [if_neg (by rw [ha, n3_eq (by omega) (by omega)]; exact h)]
    exact h2 h
end MPA
