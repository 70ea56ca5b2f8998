/-! THE PLAIN LAW: the component's next token -/
theorem kwF_30 {l : List Nat} : ∀ (L : List (List Nat)) (k : Nat), k + L.length ≤ 29 → (kwF l L k = 30 ↔ ∀ w, w ∈ L → w ≠ l) := by
  intro L
  induction L with
  | nil => intro k _; exact ⟨fun _ w hw => (by cases hw), fun _ => rfl⟩
  | cons w r ih =>
    intro k hk
    rw [List.length_cons] at hk
    simp only [kwF]
    by_cases c : w = l
    · rw [if_pos c]
      constructor
      · intro h
        omega
      · intro h
        exact absurd c (h w (by simp))
    · rw [if_neg c, ih (k + 1) (by omega)]
      constructor
      · intro h w' hw'
        rw [List.mem_cons] at hw'
        rcases hw' with rfl | hw'
        · exact c
        · exact h w' hw'
      · intro h w' hw'
        exact h w' (by simp [hw'])
theorem kwI_30 {l : List Nat} : kwI l = 30 ↔ ∀ w, w ∈ kws → w ≠ l := kwF_30 kws 0 (by decide)
theorem kws_128 : ∀ w, w ∈ kws → (∀ c, c ∈ w → c < 128) ∧ w.length ≤ 10 := by decide
/-- the constant of a token's sort -/
def srtA (G : sd_G) (k : Nat) : Nat := if k = 32 then sd_ad G 1 else if k = 33 then sd_ad G 7 else if k = 31 then sd_ad G 5 else if k = 30 then sd_ad G 4 else if k < 29 then sd_ad G 3 else sd_ad G 6
section NX
variable {G : sd_G} {h : sd_H} {b : Nat × Nat} {tp bt sz sc tl : Nat} {u : Nat → Nat}
theorem c_isKey {a : Nat} {l : List Nat} (w : wfH G h) (hW : strsC G (sd_ad G 2) kws) (H : strH G h a l) (Q : Int32 → sd_H → Nat × Nat → Prop) : wp (fX8_isKey G a) h b Q = Q (if kwI l = 30 then 0 else 1) h b := by
  refine wp_det ?_ Q
  obtain ⟨f, f1, f2⟩ := hW
  have lk : sd_look G h (sd_ad G 2) = some (.inl (6, 29, .inr (.inr (.inr (.inr f))))) := by
    unfold sd_look
    cases hq : h.2 (sd_ad G 2) with
    | none => exact f1
    | some e' =>
      have q1 := (w.1 _ _ hq).1
      have q2 := w.2.2.1 _ _ f1
      omega
  unfold fX8_isKey
  rw [wp_bnd, wp_alen lk]
  refine wp_for (F := fun k s => fX8_isKey_b9 G k s.1 s.2.1 s.2.2.1 s.2.2.2) 29 (fun i (_ : Unit) => (a, sd_ad G 2, n3 29, n3 i)) (fun i _ h' b' => h' = h ∧ b' = b ∧ ∀ j w, j < i → kws[j]? = some w → w ≠ l) ?_ ?_ sd_FU 0 () h b (Nat.zero_le _) (by unfold sd_FU; omega) ⟨rfl, rfl, fun j w hj => by omega⟩
  · rintro K _ h1 b1 ⟨rfl, rfl, he⟩
    show wp (fX8_isKey_b9 G K a (sd_ad G 2) (n3 29) (n3 29)) _ _ _
    unfold fX8_isKey_b9
    rw [wp_ite, if_pos (by decide), wp_ret, if_pos]
    · exact ⟨rfl, rfl, rfl⟩
    · refine kwI_30.mpr (fun w hw => ?_)
      obtain ⟨j, hj⟩ := List.getElem?_of_mem hw
      have : j < kws.length := by
        rcases Nat.lt_or_ge j kws.length with h | h
        · exact h
        · rw [List.getElem?_eq_none h] at hj
          cases hj
      exact he j w this hj
  · rintro K i _ h1 b1 hi ⟨rfl, rfl, he⟩ nx
    show wp (fX8_isKey_b9 G K a (sd_ad G 2) (n3 29) (n3 i)) _ _ _
    unfold fX8_isKey_b9
    obtain ⟨wd, hwd⟩ : ∃ x, kws[i]? = some x := ⟨_, List.getElem?_eq_getElem hi⟩
    obtain ⟨s, s1, s2⟩ := f2 i wd hwd
    have m1 := kws_128 wd (List.mem_of_getElem? hwd)
    have H1 := strC_H w s2 m1.1 (by omega)
    rw [wp_ite, if_neg (by rw [n3_le (by omega) (by omega)]; omega), wp_bnd, wp_aldR lk (n3_ix hi (by omega)) (by rw [n3_nn (by omega)]; exact s1), wp_bnd, strH_isC H1, wp_bnd, j_eq H1 H, wp_ite]
    by_cases c : wd = l
    · rw [if_pos c, if_neg (by decide), wp_ret, if_neg]
      · exact ⟨rfl, rfl, rfl⟩
      · intro q
        exact kwI_30.mp q wd (List.mem_of_getElem? hwd) c
    · rw [if_neg c, if_pos rfl, wp_bnd, wp_ret, show n3 i + 1 = n3 (i + 1) from n3_add i 1]
      refine nx () _ _ ⟨rfl, rfl, fun j w' hj hw' => ?_⟩
      by_cases cj : j = i
      · subst cj
        rw [hwd] at hw'
        cases hw'
        exact c
      · exact he j w' (by omega) hw'
theorem c_isL {c : Nat} {Q : Int32 → sd_H → Nat × Nat → Prop} (hc : c < 2147483648) : wp (fX8_isLetter G (n3 c)) h b Q = Q (if isL c = true then 1 else 0) h b := by
  unfold fX8_isLetter isL
  rw [wp_ite]
  by_cases c1 : c < 97
  · rw [if_pos (by rw [show (97 : Int32) = n3 97 from rfl, n3_lt (by omega) (by omega)]; exact c1), wp_ret, if_neg (by simp only [Bool.and_eq_true, decide_eq_true_eq]; omega)]
  · rw [if_neg (by rw [show (97 : Int32) = n3 97 from rfl, n3_lt (by omega) (by omega)]; exact c1), wp_ite]
    by_cases c2 : 122 < c
    · rw [if_pos (by rw [show (122 : Int32) = n3 122 from rfl, n3_lt (by omega) (by omega)]; exact c2), wp_ret, if_neg (by simp only [Bool.and_eq_true, decide_eq_true_eq]; omega)]
    · rw [if_neg (by rw [show (122 : Int32) = n3 122 from rfl, n3_lt (by omega) (by omega)]; exact c2), wp_ret, if_pos (by simp only [Bool.and_eq_true, decide_eq_true_eq]; omega)]
theorem c_isD {c : Nat} {Q : Int32 → sd_H → Nat × Nat → Prop} (hc : c < 2147483648) : wp (fX8_isDigit G (n3 c)) h b Q = Q (if isD c = true then 1 else 0) h b := by
  unfold fX8_isDigit isD
  rw [wp_ite]
  by_cases c1 : c < 48
  · rw [if_pos (by rw [show (48 : Int32) = n3 48 from rfl, n3_lt (by omega) (by omega)]; exact c1), wp_ret, if_neg (by simp only [Bool.and_eq_true, decide_eq_true_eq]; omega)]
  · rw [if_neg (by rw [show (48 : Int32) = n3 48 from rfl, n3_lt (by omega) (by omega)]; exact c1), wp_ite]
    by_cases c2 : 57 < c
    · rw [if_pos (by rw [show (57 : Int32) = n3 57 from rfl, n3_lt (by omega) (by omega)]; exact c2), wp_ret, if_neg (by simp only [Bool.and_eq_true, decide_eq_true_eq]; omega)]
    · rw [if_neg (by rw [show (57 : Int32) = n3 57 from rfl, n3_lt (by omega) (by omega)]; exact c2), wp_ret, if_pos (by simp only [Bool.and_eq_true, decide_eq_true_eq]; omega)]
abbrev aTk (s x p : Nat) : sd_E := .inr (8, [.ref s, .ref x, .int (n3 p)])
theorem c_tok {o s x p : Nat} {z0 z1 z2 : Value} {Q : Unit → sd_H → Nat × Nat → Prop} (ho : h.2 o = some (.inr (8, [z0, z1, z2]))) : wp (fX9_init G o s x (n3 p)) h b Q = Q () (sd_up h o (aTk s x p)) b := by
  unfold fX9_init
  rw [wp_bnd, g_put ho (Nat.le_of_ble_eq_true rfl) rfl rfl, wp_bnd, g_put (up_at _ _ _) (Nat.le_of_ble_eq_true rfl) rfl rfl, up_up, wp_bnd, g_put (up_at _ _ _) (Nat.le_of_ble_eq_true rfl) rfl rfl, up_up, wp_ret]
  rfl
/-- the letters of a new string -/
def nwS (h h' : sd_H) (u : Nat → Nat) (x p e : Nat) : Prop := ∃ v g, h'.2 x = some (aS v 0 0) ∧ h'.2 v = some (aB (e - p) g) ∧ h.1 ≤ x ∧ h.1 ≤ v ∧ ∀ j, j < e - p → g j = sb (u (p + j))
theorem nwS_H {h' : sd_H} {x p e : Nat} (H : nwS h h' u x p e) (he : e - p ≤ 2000) (hl : ∀ k, p ≤ k → k < e → u k < 128) : strH G h' x (txP u p e) := by
  obtain ⟨v, g, e1, e2, e3, e4, e5⟩ := H
  refine ⟨v, 0, 0, g, sd_look_new e1, ?_, fun i c hi => ?_, by rw [txP_len]; exact he⟩
  · rw [txP_len]
    exact sd_look_new e2
  · have hi2 : i < e - p := by
      rcases Nat.lt_or_ge i (e - p) with h | h
      · exact h
      · rw [List.getElem?_eq_none (by rw [txP_len]; exact h)] at hi
        cases hi
    rw [txP_at hi2] at hi
    cases hi
    have := hl (p + i) (by omega) (by omega)
    rw [e5 i hi2, sb_lo _ this]
    exact ⟨rfl, this⟩
/-- the sort told, the text made -/
theorem c_b252 {p e s o : Nat} {Q : Nat → sd_H → Nat × Nat → Prop} (w : wfH G h) (T : tapH h tp bt sz u) (hsc : h.2 sc = some (.inr (7, [.ref tp, .ref tl]))) (ho : h.2 o = some (.inr (8, [.null, .null, .int 0]))) (h1 : p ≤ e) (h2 : e ≤ sz) (b1 : e - p + 5 ≤ b.1) (b2 : 9 * (e - p) + 200 ≤ b.2)
    (kk : ∀ h' x b', wfH G h' → h'.2 o = some (aTk s x p) → nwS h h' u x p e → h.1 ≤ h'.1 → (∀ a, a < h.1 → a ≠ o → h'.2 a = h.2 a) → b.1 ≤ b'.1 + (e - p + 4) → b.2 ≤ b'.2 + (5 * (e - p) + 76) → Q o h' b') : wp (fX8_next_b252 G sc (n3 p) (n3 e) s o o) h b Q := by
  have lo := (w.1 _ _ ho).2
  unfold fX8_next_b252
  rw [wp_bnd, wp_getR (sd_look_new hsc) rfl, wp_bnd, tp_isC T, wp_bnd]
  refine c_text w T h1 h2 b1 b2 (fun h' x v g b' w' q1 q2 q3 q4 q5 q6 q7 q8 q9 => ?_)
  have o1 := (q7 o lo).trans ho
  rw [wp_bnd, c_tok o1, wp_ret]
  refine kk _ x b' (wfH_up w' o1) (up_at _ _ _) ⟨v, g, (up_ne (by omega)).trans q1, (up_ne (by omega)).trans q2, q4, q5, q3⟩ q6 (fun a ha hao => (up_ne hao).trans (q7 a ha)) q8 q9
end NX
