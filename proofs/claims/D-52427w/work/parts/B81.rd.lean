/-! THE PLAIN LAW: the reader's steps -/
abbrev aRd (tl i d : Nat) (w : Int32) (so m : Nat) : sd_E := .inr (6, [.ref tl, .int (n3 i), .int (n3 d), .int w, .ref so, .ref m])
abbrev aFt (er : Int32) (p : Nat) : sd_E := .inr (9, [.int er, .int (n3 p)])
/-- the tokens lie there -/
def TK (G : sd_G) (u : Nat → Nat) (sz n0 tl : Nat) (ta tx : Nat → Nat) (h : sd_H) : Prop := (∃ mc r cap f, h.2 tl = some (aL mc r (nT u sz + 1)) ∧ h.2 r = some (aR cap f) ∧ nT u sz + 1 ≤ cap ∧ cap ≤ 1000 ∧ ∀ j, j ≤ nT u sz → f j = some (ta j)) ∧ TB G u sz n0 ta tx (nT u sz + 1) h
section RDS
variable {G : sd_G} {h : sd_H} {b : Nat × Nat} {u : Nat → Nat} {sz n0 tl i d so m rd a c : Nat} {ta tx : Nat → Nat} {w : Int32} {l : List Nat}
theorem rd_rd (ha : h.2 rd = some (aRd tl i d w so m)) : (∀ b (Q : Nat → sd_H → Nat × Nat → Prop), wp (sd_getR G 6 0 rd) h b Q = Q tl h b) ∧ (∀ b (Q : Int32 → sd_H → Nat × Nat → Prop), wp (sd_getI G 6 1 rd) h b Q = Q (n3 i) h b) ∧ (∀ b (Q : Int32 → sd_H → Nat × Nat → Prop), wp (sd_getI G 6 2 rd) h b Q = Q (n3 d) h b) ∧ (∀ b (Q : Int32 → sd_H → Nat × Nat → Prop), wp (sd_getI G 6 3 rd) h b Q = Q w h b) ∧ (∀ b (Q : Nat → sd_H → Nat × Nat → Prop), wp (sd_getR G 6 4 rd) h b Q = Q so h b) ∧ (∀ b (Q : Nat → sd_H → Nat × Nat → Prop), wp (sd_getR G 6 5 rd) h b Q = Q m h b) ∧ (∀ b (Q : Unit → sd_H → Nat × Nat → Prop), wp (sd_isC G 6 rd) h b Q = Q () h b) := ⟨fun _ _ => wp_getR (sd_look_new ha) rfl, fun _ _ => wp_getI (sd_look_new ha) rfl, fun _ _ => wp_getI (sd_look_new ha) rfl, fun _ _ => wp_getI (sd_look_new ha) rfl, fun _ _ => wp_getR (sd_look_new ha) rfl, fun _ _ => wp_getR (sd_look_new ha) rfl, fun _ _ => wp_isC (sd_look_new ha)⟩
theorem tk_rd (T : TK G u sz n0 tl ta tx h) (hi : i ≤ nT u sz) : (∀ b (Q : Nat → sd_H → Nat × Nat → Prop), wp (sd_getR G 8 0 (ta i)) h b Q = Q (srtA G (kdT u sz i)) h b) ∧ (∀ b (Q : Nat → sd_H → Nat × Nat → Prop), wp (sd_getR G 8 1 (ta i)) h b Q = Q (tx i) h b) ∧ (∀ b (Q : Int32 → sd_H → Nat × Nat → Prop), wp (sd_getI G 8 2 (ta i)) h b Q = Q (n3 (plT u sz i)) h b) ∧ (∀ b (Q : Unit → sd_H → Nat × Nat → Prop), wp (sd_isC G 8 (ta i)) h b Q = Q () h b) ∧ (∀ b (Q : Unit → sd_H → Nat × Nat → Prop), wp (sd_cast G [8] (ta i)) h b Q = Q () h b) := by
  have ha := (T.2 i (by omega)).1
  exact ⟨fun _ _ => wp_getR (sd_look_new ha) rfl, fun _ _ => wp_getR (sd_look_new ha) rfl, fun _ _ => wp_getI (sd_look_new ha) rfl, fun _ _ => wp_isC (sd_look_new ha), fun _ _ => wp_cast (sd_look_new ha) (by decide)⟩
theorem c_now {Q : Nat → sd_H → Nat × Nat → Prop} (T : TK G u sz n0 tl ta tx h) (hr : h.2 rd = some (aRd tl i d w so m)) (hi : i ≤ nT u sz) : wp (fX7_now G rd) h b Q = Q (ta i) h b := by
  obtain ⟨mc, r, cap, f, e1, e2, e3, e4, e5⟩ := T.1
  unfold fX7_now
  rw [wp_bnd, (rd_rd hr).1, wp_bnd, (rd_rd hr).2.1, wp_bnd, wp_isC (sd_look_new e1), wp_bnd, j_get (sd_look_new e1) (sd_look_new e2) (by omega) e3 (by omega) (e5 i hi), wp_bnd, (tk_rd T hi).2.2.2.2, wp_ret]
theorem c_is {Q : Int32 → sd_H → Nat × Nat → Prop} (hS : srD G) (wf : wfH G h) (T : TK G u sz n0 tl ta tx h) (hi : i ≤ nT u sz) (hw : wcd l c) (hc : strC G a l) : wp (fX9_is G (ta i) a) h b Q = Q (if kdT u sz i = c then 1 else 0) h b := by
  have key := tk_is (u := u) (sz := sz) (i := i) hw hi
  have sr := srt_eq hS (kdT u sz i)
  have h128 : (∀ c, c ∈ l → c < 128) ∧ l.length ≤ 2000 := by
    rcases hw with ⟨h1, h2⟩ | ⟨h1, h2⟩
    · have := kws_128 l (List.mem_of_getElem? h2)
      exact ⟨this.1, by omega⟩
    · subst h2
      have := sym_not h1
      exact ⟨fun c' hc' => by rw [List.mem_singleton] at hc'; omega, by simp⟩
  have go : (kdT u sz i < 29 ∨ kdT u sz i = 29 ∨ 33 < kdT u sz i) → wp (fX9_is_b20 G (ta i) a) h b Q = Q (if kdT u sz i = c then 1 else 0) h b := by
    intro hk
    have H := ((T.2 i (by omega)).2.2 (by omega) (by omega)).1
    unfold fX9_is_b20
    rw [wp_bnd, (tk_rd T hi).2.1, wp_bnd, strH_isC (strN_H H), wp_bnd, j_eq (strN_H H) (strC_H wf hc h128.1 h128.2), wp_ite]
    by_cases e : txT u sz i = l
    · rw [if_pos e, if_neg (by decide), wp_ret, if_pos (key.mp ⟨hk, e⟩)]
    · rw [if_neg e, if_pos rfl, wp_ret, if_neg (fun q => e (key.mpr q).2)]
  unfold fX9_is
  rw [wp_bnd, (tk_rd T hi).1, wp_ite]
  by_cases c1 : kdT u sz i < 29
  · rw [if_pos (sr.2.2.2.2.1.mpr c1)]
    exact go (Or.inl c1)
  · rw [if_neg (fun q => c1 (sr.2.2.2.2.1.mp q)), wp_bnd, (tk_rd T hi).1, wp_ite]
    by_cases c2 : kdT u sz i = 29 ∨ 33 < kdT u sz i
    · rw [if_pos (sr.2.2.2.2.2.mpr c2)]
      exact go (Or.inr c2)
    · rw [if_neg (fun q => c2 (sr.2.2.2.2.2.mp q)), wp_ret, if_neg (fun q => ?_)]
      have := (key.mpr q).1
      omega
theorem c_takeIf {Q : Int32 → sd_H → Nat × Nat → Prop} (hS : srD G) (wf : wfH G h) (T : TK G u sz n0 tl ta tx h) (hr : h.2 rd = some (aRd tl i d w so m)) (hi : i ≤ nT u sz) (hw : wcd l c) (hc : strC G a l) : wp (fX7_takeIf G rd a) h b Q = if kdT u sz i = c then Q 1 (sd_up h rd (aRd tl (i + 1) d w so m)) b else Q 0 h b := by
  unfold fX7_takeIf
  rw [wp_bnd, (rd_rd hr).2.2.2.2.2.2, wp_bnd, c_now T hr hi, wp_bnd, (tk_rd T hi).2.2.2.1, wp_bnd, c_is hS wf T hi hw hc, wp_ite]
  by_cases e : kdT u sz i = c
  · rw [if_pos e, if_neg (by decide), if_pos e, wp_bnd, (rd_rd hr).2.1, wp_bnd, wp_put hr (Nat.le_of_ble_eq_true rfl) rfl rfl, wp_retN rfl, show n3 i + 1 = n3 (i + 1) from n3_add i 1]
    rfl
  · rw [if_neg e, if_pos rfl, if_neg e, wp_retN rfl]
theorem wp_exi {v0 v1 v2 x y : Value} {Q : Unit → sd_H → Nat × Nat → Prop} (e : h.2 a = some (.inr (51, [v0, v1, v2, .null, x, y]))) : wp (sd_exi a) h b Q = Q () (sd_up h a (.inr (9, [x, y]))) b := wp_eq (by simp [sd_exi, e])
theorem c_flt {er : Int32} {p : Nat} {Q : Unit → sd_H → Nat × Nat → Prop} {e : sd_E} (he : e = .inr (51, [.null, .null, .null, .null, .int 0, .int 0])) : wp (fX10_init G h.1 er (n3 p)) (sd_pu h e) b Q = Q () (sd_pu h (aFt er p)) b := by
  subst he
  unfold fX10_init
  rw [wp_bnd, wp_exi (pu_at h _), pu_up, wp_bnd, wp_put (pu_at h _) (Nat.le_of_ble_eq_true rfl) rfl rfl, pu_up, wp_bnd, wp_put (pu_at h _) (Nat.le_of_ble_eq_true rfl) rfl rfl, pu_up, wp_ret]
  rfl
theorem TK_pu {e : sd_E} (wf : wfH G h) (T : TK G u sz n0 tl ta tx h) : TK G u sz n0 tl ta tx (sd_pu h e) := by
  have kp : ∀ a e', h.2 a = some e' → (sd_pu h e).2 a = some e' := fun a e' ha => (pu_ne (by have := (wf.1 _ _ ha).2; omega)).trans ha
  obtain ⟨⟨mc, r, cap, f, e1, e2, e3⟩, B⟩ := T
  exact ⟨⟨mc, r, cap, f, kp _ _ e1, kp _ _ e2, e3⟩, TB_keep B (fun a e' ha _ => kp a e' ha)⟩
/-- wrong here -/
theorem c_wrong {α : Type} {Q : α ⊕ Nat → sd_H → Nat × Nat → Prop} (wf : wfH G h) (T : TK G u sz n0 tl ta tx h) (hr : h.2 rd = some (aRd tl i d w so m)) (hi : i ≤ nT u sz) (b1 : 1 ≤ b.1) (b2 : 8 ≤ b.2) (kk : Q (.inr h.1) (sd_pu h (aFt 1 (plT u sz i))) (b.1 - 1, b.2 - 8)) : wp (sd_bnd (fX7_wrong G rd) fun r4 => sd_bnd (sd_own r4) fun k17 => if k17 = 9 then sd_ret (.inr r4) else sd_fail) h b Q := by
  have lr := (wf.1 _ _ hr).2
  rw [wp_bnd]
  unfold fX7_wrong
  rw [wp_bnd]
  refine wp_new b1 b2 ?_
  have r1 : (sd_pu h (.inr (51, [.null, .null, .null, .null, .int 0, .int 0]))).2 rd = some (aRd tl i d w so m) := (pu_ne (by omega)).trans hr
  have T1 := TK_pu (e := .inr (51, [.null, .null, .null, .null, .int 0, .int 0])) wf T
  rw [wp_bnd, (rd_rd r1).2.2.2.2.2.2, wp_bnd, c_now T1 r1 hi, wp_bnd, (tk_rd T1 hi).2.2.1, wp_bnd, c_flt rfl, wp_ret, wp_bnd, wp_own (pu_at h _), wp_ite, if_pos rfl, wp_ret]
  exact kk
/-- a word that must be there -/
theorem c_take2 {Q : Unit ⊕ Nat → sd_H → Nat × Nat → Prop} (hS : srD G) (wf : wfH G h) (T : TK G u sz n0 tl ta tx h) (hr : h.2 rd = some (aRd tl i d w so m)) (hi : i ≤ nT u sz) (hw : wcd l c) (hc : strC G a l) (b1 : 1 ≤ b.1) (b2 : 8 ≤ b.2) (k1 : kdT u sz i = c → Q (.inl ()) (sd_up h rd (aRd tl (i + 1) d w so m)) b) (k2 : kdT u sz i ≠ c → Q (.inr h.1) (sd_pu h (aFt 1 (plT u sz i))) (b.1 - 1, b.2 - 8)) : wp (fX7_take_2 G rd a) h b Q := by
  unfold fX7_take_2
  rw [wp_bnd, (rd_rd hr).2.2.2.2.2.2, wp_bnd, c_takeIf hS wf T hr hi hw hc]
  by_cases e : kdT u sz i = c
  · rw [if_pos e, wp_ite, if_neg (by decide), wp_ret]
    exact k1 e
  · rw [if_neg e, wp_ite, if_pos rfl, wp_bnd, (rd_rd hr).2.2.2.2.2.2]
    exact c_wrong wf T hr hi b1 b2 (k2 e)
/-- a sort that must be there -/
theorem c_takeS {k : Nat} {Q : Nat ⊕ Nat → sd_H → Nat × Nat → Prop} (wf : wfH G h) (T : TK G u sz n0 tl ta tx h) (hr : h.2 rd = some (aRd tl i d w so m)) (hi : i ≤ nT u sz) (hk : srtA G (kdT u sz i) = a ↔ kdT u sz i = k) (b1 : 1 ≤ b.1) (b2 : 8 ≤ b.2) (k1 : kdT u sz i = k → Q (.inl (ta i)) (sd_up h rd (aRd tl (i + 1) d w so m)) b) (k2 : kdT u sz i ≠ k → Q (.inr h.1) (sd_pu h (aFt 1 (plT u sz i))) (b.1 - 1, b.2 - 8)) : wp (fX7_take G rd a) h b Q := by
  unfold fX7_take
  rw [wp_bnd, (rd_rd hr).2.2.2.2.2.2, wp_bnd, c_now T hr hi, wp_bnd, (tk_rd T hi).1, wp_ite]
  by_cases e : kdT u sz i = k
  · rw [if_pos (hk.mpr e), wp_bnd, (rd_rd hr).2.1, wp_bnd, wp_put hr (Nat.le_of_ble_eq_true rfl) rfl rfl, wp_ret, show n3 i + 1 = n3 (i + 1) from n3_add i 1]
    exact k1 e
  · rw [if_neg (fun q => e (hk.mp q)), wp_bnd, (rd_rd hr).2.2.2.2.2.2]
    exact c_wrong wf T hr hi b1 b2 (k2 e)
theorem c_deeper {Q : Unit ⊕ Nat → sd_H → Nat × Nat → Prop} (hS : srD G) (wf : wfH G h) (T : TK G u sz n0 tl ta tx h) (hr : h.2 rd = some (aRd tl i d w so m)) (hi : i ≤ nT u sz) (hd : d ≤ 8) (hw : wcd l c) (hc : strC G a l) (b1 : 1 ≤ b.1) (b2 : 8 ≤ b.2) (k1 : kdT u sz i = c → d ≠ 8 → Q (.inl ()) (sd_up h rd (aRd tl (i + 1) (d + 1) w so m)) b) (k2 : kdT u sz i ≠ c ∨ d = 8 → Q (.inr h.1) (sd_pu h (aFt 1 (plT u sz i))) (b.1 - 1, b.2 - 8)) : wp (fX7_deeper G rd a) h b Q := by
  unfold fX7_deeper
  rw [wp_bnd, (rd_rd hr).2.2.2.2.2.2, wp_bnd, c_now T hr hi, wp_bnd, (tk_rd T hi).2.2.2.1, wp_bnd, c_is hS wf T hi hw hc, wp_ite]
  by_cases e : kdT u sz i = c
  · rw [if_pos e, if_neg (by decide), wp_bnd, (rd_rd hr).2.2.1, wp_ite]
    by_cases e8 : d = 8
    · rw [if_pos (by rw [e8]; rfl), wp_bnd, (rd_rd hr).2.2.2.2.2.2]
      exact c_wrong wf T hr hi b1 b2 (k2 (Or.inr e8))
    · rw [if_neg (by rw [show (8 : Int32) = n3 8 from rfl, n3_eq (by omega) (by omega)]; exact e8), wp_bnd, (rd_rd hr).2.2.1, wp_bnd, wp_put hr (Nat.le_of_ble_eq_true rfl) rfl rfl, show n3 d + 1 = n3 (d + 1) from n3_add d 1]
      show wp _ (sd_up h rd (aRd tl i (d + 1) w so m)) b Q
      have u1 := up_at h rd (aRd tl i (d + 1) w so m)
      rw [wp_bnd, (rd_rd u1).2.1, wp_bnd, wp_put u1 (Nat.le_of_ble_eq_true rfl) rfl rfl, up_up, wp_ret, show n3 i + 1 = n3 (i + 1) from n3_add i 1]
      exact k1 e e8
  · rw [if_neg e, if_pos rfl, wp_bnd, (rd_rd hr).2.2.2.2.2.2]
    exact c_wrong wf T hr hi b1 b2 (k2 (Or.inl e))
theorem TK_up {e : sd_E} (hr : h.2 rd = some (aRd tl i d w so m)) (T : TK G u sz n0 tl ta tx h) : TK G u sz n0 tl ta tx (sd_up h rd e) := by
  have kp : ∀ a e', h.2 a = some e' → (∀ tl i d w so m, e' ≠ aRd tl i d w so m) → (sd_up h rd e).2 a = some e' := by
    intro a e' ha hne
    rw [up_ne]
    · exact ha
    · rintro rfl
      rw [hr] at ha
      cases ha
      exact hne _ _ _ _ _ _ rfl
  obtain ⟨⟨mc, r, cap, f, e1, e2, e3⟩, B⟩ := T
  refine ⟨⟨mc, r, cap, f, kp _ _ e1 (fun _ _ _ _ _ _ q => by cases q), kp _ _ e2 (fun _ _ _ _ _ _ q => by cases q), e3⟩, fun j hj => ?_⟩
  obtain ⟨h1, h2, h3⟩ := B j hj
  refine ⟨kp _ _ h1 (fun _ _ _ _ _ _ q => by cases q), h2, fun c1 c2 => ?_⟩
  obtain ⟨⟨v, hs, hz, g, e1, e2, e3⟩, h4⟩ := h3 c1 c2
  exact ⟨⟨v, hs, hz, g, kp _ _ e1 (fun _ _ _ _ _ _ q => by cases q), kp _ _ e2 (fun _ _ _ _ _ _ q => by cases q), e3⟩, h4⟩
end RDS
