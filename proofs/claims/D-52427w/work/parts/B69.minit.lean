/-! THE PLAIN LAW: a new model -/
theorem okT_t0 {ns st nf : Nat} (h1 : 2 ≤ ns) (h2 : ns ≤ 8) (h4 : st ≤ 10) : okT ns nf (t0S ns st) := by
  refine ⟨h1, h2, fun s hs => ?_, fun s k hs hk => ?_, fun c _ => Or.inl rfl, fun f => ⟨Or.inl rfl, fun _ => rfl⟩, 0, rfl, Nat.pow_pos (by omega)⟩
  · show (if s < ns then st else 0) ≤ 10
    rw [if_pos hs]
    exact h4
  · show (if 10 * s + k < 10 * ns ∧ (10 * s + k) % 10 < st then 10 * s + k else 0) < 80
    have hk : k < (if s < ns then st else 0) := hk
    rw [if_pos hs] at hk
    split <;> omega
theorem dst_t0 {ns st : Nat} (h4 : st ≤ 10) : dst ns (t0S ns st) := by
  intro s s' k k' hs hs' hk hk' e
  have hk : k < (if s < ns then st else 0) := hk
  have hk' : k' < (if s' < ns then st else 0) := hk'
  rw [if_pos hs] at hk
  rw [if_pos hs'] at hk'
  have e : (if 10 * s + k < 10 * ns ∧ (10 * s + k) % 10 < st then 10 * s + k else 0) = (if 10 * s' + k' < 10 * ns ∧ (10 * s' + k') % 10 < st then 10 * s' + k' else 0) := e
  rw [if_pos (by omega), if_pos (by omega)] at e
  omega
theorem ok3_t0 {ns st : Nat} : ok3 (t0S ns st) := by
  show bitc 0 < 4
  decide
/-- what lies in a new model, by the place behind it -/
def iC (o j : Nat) : sd_E := if j = 1 then .inl (0, 2000, .inl fun _ => 0) else if j = 2 then .inr (5, plF (o + 2)) else if j = 9 then .inl (0, 80, .inl (nofd 80)) else if j < 16 then arrs (j - 3) else if j = 19 then .inl (1, 401, .inr (.inl fun _ => 0)) else if j < 21 then .inl (0, 401, .inl fun _ => 0) else if j < 23 then .inl (0, 197, .inl fun _ => 0) else .inl (0, 800, .inl fun _ => 0)
def KC (K : Nat → Option sd_E) (o k : Nat) (fs : List Value) : Nat → Option sd_E := fun a => if a = o then some (.inr (4, fs)) else if o < a ∧ a < o + k then some (iC o (a - o)) else K a
section MIN
variable {G : sd_G} {b : Nat × Nat} {K : Nat → Option sd_E} {o k j l : Nat} {fs : List Value}
theorem KC_set {fs' : List Value} : updK (KC K o k fs) o (.inr (4, fs')) = KC K o k fs' := by
  funext a
  unfold updK KC
  by_cases h : a = o
  · rw [if_pos h, if_pos h]
  · rw [if_neg h, if_neg h, if_neg h]
theorem KC_new (hk : 1 ≤ k) : updK (KC K o k fs) (o + k) (iC o k) = KC K o (k + 1) fs := by
  funext a
  unfold updK KC
  by_cases h : a = o + k
  · rw [if_pos h, if_neg (by omega), if_pos (by omega), h, Nat.add_sub_cancel_left]
  · rw [if_neg h]
    by_cases h1 : a = o
    · rw [if_pos h1, if_pos h1]
    · rw [if_neg h1, if_neg h1]
      by_cases h2 : o < a ∧ a < o + k
      · rw [if_pos h2, if_pos (by omega)]
      · rw [if_neg h2, if_neg (by omega)]
theorem KC_plan : KQ (KC K o 2 fs) (o + 2) 80 = KC K o 16 fs := by
  funext a
  unfold KQ updK KP
  by_cases h : a = o + 2 + 1 + 6
  · rw [if_pos h, h]
    unfold KC
    rw [if_neg (by omega), if_pos (by omega), show o + 2 + 1 + 6 - o = 9 by omega]
    rfl
  · rw [if_neg h]
    by_cases h2 : a = o + 2
    · rw [if_pos h2, h2]
      unfold KC
      rw [if_neg (by omega), if_pos (by omega), show o + 2 - o = 2 by omega]
      rfl
    · rw [if_neg h2]
      by_cases h3 : o + 2 < a ∧ a ≤ o + 2 + 13
      · rw [if_pos h3]
        unfold KC
        rw [if_neg (by omega), if_pos (by omega)]
        unfold iC
        rw [if_neg (by omega), if_neg (by omega), if_neg (by omega), if_pos (by omega), show a - (o + 2) - 1 = a - o - 3 by omega]
      · rw [if_neg h3]
        unfold KC
        by_cases h4 : a = o
        · rw [if_pos h4, if_pos h4]
        · rw [if_neg h4, if_neg h4]
          by_cases h5 : o < a ∧ a < o + 2
          · rw [if_pos h5, if_pos (by omega)]
          · rw [if_neg h5, if_neg (by omega)]
theorem inm_put {z : Value} {ty : FieldType} {β : Type} {r : sd_M β} {Q : β → sd_H → Nat × Nat → Prop} {N : Nat} (hj : j < fs.length) (h1 : narrow ty z = z) (h2 : fits ty z = true) : wp (sd_bnd (sd_put 4 j ty o z) fun _ => r) (N, KC K o k fs) b Q = wp r (N, KC K o k (fs.set j z)) b Q := by
  rw [wp_bnd, wp_put (h := (N, KC K o k fs)) (if_pos rfl) hj h1 h2]
  show wp r (N, updK (KC K o k fs) o (.inr (4, fs.set j z))) b Q = _
  rw [KC_set]
theorem inm_arr {t : Nat} {a : Int32} {ty : FieldType} {β : Type} {r : sd_M β} {Q : β → sd_H → Nat × Nat → Prop} (k1 : 1 ≤ k) (ha : a = n3 l) (hk : iC o k = .inl (t, l, .inl fun _ => 0)) (hl : l ≤ 2000) (b1 : 1 ≤ b.1) (b2 : l ≤ b.2) (hj : j < fs.length) (h1 : ∀ q, narrow ty (.ref q) = .ref q) (h2 : ∀ q, fits ty (.ref q) = true) (kk : wp r (o + (k + 1), KC K o (k + 1) (fs.set j (.ref (o + k)))) (b.1 - 1, b.2 - l) Q) : wp (sd_bnd (sd_newI t a) fun q => sd_bnd (sd_put 4 j ty o (.ref q)) fun _ => r) (o + k, KC K o k fs) b Q := by
  rw [wp_bnd, ha]
  refine wp_newI (by omega) b1 b2 ?_
  show wp (sd_bnd (sd_put 4 j ty o (.ref (o + k))) fun _ => r) (o + k + 1, updK (KC K o k fs) (o + k) (.inl (t, l, .inl fun _ => 0))) _ Q
  rw [← hk, KC_new k1, inm_put hj (h1 _) (h2 _)]
  exact kk
theorem inm_arL {a : Int32} {ty : FieldType} {β : Type} {r : sd_M β} {Q : β → sd_H → Nat × Nat → Prop} (k1 : 1 ≤ k) (ha : a = n3 l) (hk : iC o k = .inl (1, l, .inr (.inl fun _ => 0))) (hl : l ≤ 2000) (b1 : 1 ≤ b.1) (b2 : l ≤ b.2) (hj : j < fs.length) (h1 : ∀ q, narrow ty (.ref q) = .ref q) (h2 : ∀ q, fits ty (.ref q) = true) (kk : wp r (o + (k + 1), KC K o (k + 1) (fs.set j (.ref (o + k)))) (b.1 - 1, b.2 - l) Q) : wp (sd_bnd (sd_newL a) fun q => sd_bnd (sd_put 4 j ty o (.ref q)) fun _ => r) (o + k, KC K o k fs) b Q := by
  rw [wp_bnd, ha]
  refine wp_newL (by omega) b1 b2 ?_
  show wp (sd_bnd (sd_put 4 j ty o (.ref (o + k))) fun _ => r) (o + k + 1, updK (KC K o k fs) (o + k) (.inl (1, l, .inr (.inl fun _ => 0)))) _ Q
  rw [← hk, KC_new k1, inm_put hj (h1 _) (h2 _)]
  exact kk
/-- names of a new model -/
def iNm (k : Nat) : Nat := [0, 1, 20, 23, 24, 25, 27, 28, 29, 30, 31, 33, 34, 35, 36, 37, 5, 6, 7, 8, 9, 15, 16, 17].getD k 0
def iIx (i : Nat) : Nat := if i = 4 then 2 else if i < 2 then i else if i < 10 then i + 11 else if i < 20 then i + 6 else if i = 20 then 2 else if i < 26 then i - 20 else if i < 32 then i - 21 else i - 22
theorem iNm_ok : ∀ k, k < 24 → iNm k ∈ mN ∧ iIx (iNm k) = k := by decide
theorem iIx_ok : ∀ i, i ∈ mN → iIx i < 24 ∧ iNm (iIx i) = i := by decide
def rhoI (o : Nat) : Nat → Option Nat := fun a => if o ≤ a ∧ a < o + 24 then some (iNm (a - o)) else none
def adI (o : Nat) : Nat → Nat := fun i => o + iIx i
theorem mOk_I {N : Nat} (hN : o + 24 ≤ N) : mOk N (rhoI o) (adI o) := by
  refine ⟨fun i hi => ?_, fun a i h => ?_, fun a i h => ?_⟩
  · obtain ⟨p1, p2⟩ := iIx_ok i hi
    unfold rhoI adI
    rw [if_pos (by omega), Nat.add_sub_cancel_left, p2]
  · unfold rhoI at h
    by_cases c : o ≤ a ∧ a < o + 24
    · rw [if_pos c] at h
      cases h
      obtain ⟨p1, p2⟩ := iNm_ok (a - o) (by omega)
      refine ⟨?_, p1⟩
      unfold adI
      rw [p2]
      omega
    · rw [if_neg c] at h
      cases h
  · unfold rhoI at h
    by_cases c : o ≤ a ∧ a < o + 24
    · omega
    · rw [if_neg c] at h
      cases h
def vI : Nat → Int32 := fun j => if j = 3 then -1 else if j = 20 then 4 else if j = 21 then 6 else 0
def xI : Nat → Nat → Int32 := fun j => if j = 30 then nofd 80 else fun _ => 0
def fI (o : Nat) : List Value := [.int 0, .ref (o + 1), .int 0, .int (-1), .ref (o + 2), .ref (o + 16), .ref (o + 17), .ref (o + 18), .ref (o + 19), .ref (o + 20), .int 0, .int 0, .int 0, .int 0, .int 0, .ref (o + 21), .ref (o + 22), .ref (o + 23)]
theorem ren_I : (o + 24, KC K o 24 (fI o)) = hMo (o + 24) (rhoI o) (adI o) (KC K o 24 (fI o)) vI xI (fun _ _ => 0) := by
  refine hMo_ren (h := (o + 24, KC K o 24 (fI o))) (fun a i h => ?_)
  unfold rhoI at h
  by_cases c : o ≤ a ∧ a < o + 24
  · rw [if_pos c] at h
    cases h
    obtain ⟨j, hj⟩ : ∃ j, a = o + j := ⟨a - o, by omega⟩
    subst hj
    rw [Nat.add_sub_cancel_left]
    show KC K o 24 (fI o) (o + j) = _
    by_cases c0 : j = 0
    · subst c0
      exact if_pos rfl
    · unfold KC
      rw [if_neg (by omega), if_pos (by omega), Nat.add_sub_cancel_left]
      have : j = 1 ∨ j = 2 ∨ j = 3 ∨ j = 4 ∨ j = 5 ∨ j = 6 ∨ j = 7 ∨ j = 8 ∨ j = 9 ∨ j = 10 ∨ j = 11 ∨ j = 12 ∨ j = 13 ∨ j = 14 ∨ j = 15 ∨ j = 16 ∨ j = 17 ∨ j = 18 ∨ j = 19 ∨ j = 20 ∨ j = 21 ∨ j = 22 ∨ j = 23 := by omega
      rcases this with rfl | rfl | rfl | rfl | rfl | rfl | rfl | rfl | rfl | rfl | rfl | rfl | rfl | rfl | rfl | rfl | rfl | rfl | rfl | rfl | rfl | rfl | rfl <;> rfl
  · rw [if_neg c] at h
    cases h
theorem o_init {Q : Unit → sd_H → Nat × Nat → Prop} (b1 : 23 ≤ b.1) (b2 : 8000 ≤ b.2) (kk : ∀ h' b', MI (rhoI o) (adI o) q0S xI (-1) 0 0 h' (t0S 4 6) → h'.1 = o + 24 → (∀ a, a < o → h'.2 a = K a) → (∀ a e, h'.2 a = some e → K a = some e ∨ (o ≤ a ∧ a < o + 24)) → b.1 ≤ b'.1 + 23 → b.2 ≤ b'.2 + 8000 → Q () h' b') : wp (fX5_init G o) (o + 1, updK K o (.inr (4, [.int 0, .null, .int 0, .int 0, .null, .null, .null, .null, .null, .null, .int 0, .int 0, .int 0, .int 0, .int 0, .null, .null, .null]))) b Q := by
  have e0 : ∀ fs, updK K o (.inr (4, fs)) = KC K o 1 fs := by
    intro fs
    funext a
    unfold updK KC
    by_cases h : a = o
    · rw [if_pos h, if_pos h]
    · rw [if_neg h, if_neg h, if_neg (by omega)]
  rw [e0]
  unfold fX5_init
  refine inm_arr (k := 1) (l := 2000) (by omega) rfl rfl (by omega) (by omega) (by omega) (by simp) (fun _ => rfl) (fun _ => rfl) ?_
  rw [inm_put (by simp) rfl rfl, wp_bnd]
  refine wp_new (by simp only; omega) (by simp only; omega) ?_
  rw [wp_bnd]
  refine m_plan (ρ := fun _ => none) (ad := fun _ => 0) (v := fun _ => 0) (x := fun _ _ => 0) (y := fun _ _ => 0) (n := o + 2) (fun _ _ => rfl) (by simp only; omega) (by simp only; omega) (fun b' c1 c2 => ?_)
  simp only at c1 c2
  show wp _ (o + 16, KQ (KC K o 2 _) (o + 2) 80) b' Q
  rw [KC_plan, inm_put (by simp) rfl rfl]
  refine inm_arr (k := 16) (l := 401) (by omega) rfl rfl (by omega) (by omega) (by omega) (by simp) (fun _ => rfl) (fun _ => rfl) ?_
  refine inm_arr (k := 17) (l := 401) (by omega) rfl rfl (by omega) (by simp only; omega) (by simp only; omega) (by simp) (fun _ => rfl) (fun _ => rfl) ?_
  refine inm_arr (k := 18) (l := 401) (by omega) rfl rfl (by omega) (by simp only; omega) (by simp only; omega) (by simp) (fun _ => rfl) (fun _ => rfl) ?_
  refine inm_arL (k := 19) (l := 401) (by omega) rfl rfl (by omega) (by simp only; omega) (by simp only; omega) (by simp) (fun _ => rfl) (fun _ => rfl) ?_
  refine inm_arr (k := 20) (l := 401) (by omega) rfl rfl (by omega) (by simp only; omega) (by simp only; omega) (by simp) (fun _ => rfl) (fun _ => rfl) ?_
  refine inm_arr (k := 21) (l := 197) (by omega) rfl rfl (by omega) (by simp only; omega) (by simp only; omega) (by simp) (fun _ => rfl) (fun _ => rfl) ?_
  refine inm_arr (k := 22) (l := 197) (by omega) rfl rfl (by omega) (by simp only; omega) (by simp only; omega) (by simp) (fun _ => rfl) (fun _ => rfl) ?_
  refine inm_arr (k := 23) (l := 800) (by omega) rfl rfl (by omega) (by simp only; omega) (by simp only; omega) (by simp) (fun _ => rfl) (fun _ => rfl) ?_
  show wp _ (o + 24, KC K o 24 (fI o)) _ Q
  have E := mOk_I (o := o) (Nat.le_refl (o + 24))
  rw [wp_bnd, wp_isC (fs := fI o) (sd_look_new (if_pos rfl)), wp_bnd, ren_I]
  refine m_fill (ns := 4) (st := 6) (ad := adI o) E rfl rfl rfl (by omega) (by omega) (fun _ _ => rfl) ?_
  rw [wp_ret]
  refine kk _ _ ⟨o + 24, KC K o 24 (fI o), vI, fun _ _ => 0, xI 16, xI 17, ?_, E, rfl, ⟨rfl, rfl, rfl, rfl, rfl⟩, ?_, ?_, okT_t0 (by decide) (by decide) (by decide), rfl, rfl, rfl⟩ rfl (fun a ha => ?_) (fun a e he => ?_) (by simp only; omega) (by simp only; omega)
  · congr 1
    funext j
    unfold sx s7
    by_cases h15 : j = 15
    · rw [if_pos h15, if_pos h15]
    · rw [if_neg h15, if_neg h15]
      by_cases h16 : j = 16
      · rw [if_pos h16, h16]
      · by_cases h17 : j = 17
        · rw [if_neg h16, if_pos h17, h17]
        · rw [if_neg h16, if_neg h17]
  · refine ⟨by decide, by decide, by decide, by decide, by decide, fun f hf => absurd hf (Nat.not_lt_zero _), fun c hc => ⟨Or.inl ?_, Or.inl rfl⟩⟩
    exact if_pos hc
  · intro k hk
    exact absurd hk (Nat.not_lt_zero _)
  · have hr : rhoI o a = none := if_neg (by omega)
    rw [show (hMo (o + 24) (rhoI o) (adI o) (KC K o 24 (fI o)) vI (sx xI (enc (t0S 4 6))) (fun _ _ => 0)).2 a = KC K o 24 (fI o) a from nh_out hr]
    unfold KC
    rw [if_neg (by omega), if_neg (by omega)]
  · by_cases c : o ≤ a ∧ a < o + 24
    · exact Or.inr c
    · have hr : rhoI o a = none := if_neg c
      rw [show (hMo (o + 24) (rhoI o) (adI o) (KC K o 24 (fI o)) vI (sx xI (enc (t0S 4 6))) (fun _ _ => 0)).2 a = KC K o 24 (fI o) a from nh_out hr] at he
      unfold KC at he
      rw [if_neg (by omega), if_neg (by omega)] at he
      exact Or.inl he
end MIN
