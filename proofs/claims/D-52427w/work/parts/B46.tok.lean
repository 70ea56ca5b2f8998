/-! THE PLAIN LAW: tokens, pure: what both scanners make of a tape (u: its bytes, sz: how many) -/
/-- on as long as p holds -/
def run (p : Nat → Bool) : Nat → Nat → Nat
  | 0, k => k
  | f + 1, k => if p k = true then run p f (k + 1) else k
theorem run_ge {p : Nat → Bool} : ∀ f k, k ≤ run p f k := by
  intro f
  induction f with
  | zero => intro k; exact Nat.le_refl _
  | succ f ih =>
    intro k
    simp only [run]
    split
    · exact Nat.le_trans (Nat.le_succ k) (ih (k + 1))
    · exact Nat.le_refl _
theorem run_le {p : Nat → Bool} {m : Nat} (hp : ∀ k, p k = true → k < m) : ∀ f k, k ≤ m → run p f k ≤ m := by
  intro f
  induction f with
  | zero => intro k h; exact h
  | succ f ih =>
    intro k h
    simp only [run]
    split
    · next c => exact ih (k + 1) (hp k c)
    · exact h
theorem run_fix {p : Nat → Bool} {k : Nat} (h : p k = false) : ∀ f, run p f k = k := by
  intro f
  cases f with
  | zero => rfl
  | succ f =>
    simp only [run]
    rw [if_neg (by rw [h]; decide)]
theorem run_stop {p : Nat → Bool} {m : Nat} (hp : ∀ k, p k = true → k < m) : ∀ f k, m ≤ k + f → p (run p f k) = false := by
  intro f
  induction f with
  | zero =>
    intro k h
    cases hk : p (run p 0 k) with
    | false => rfl
    | true =>
      have := hp _ hk
      have e : run p 0 k = k := rfl
      omega
  | succ f ih =>
    intro k h
    simp only [run]
    split
    · exact ih (k + 1) (by omega)
    · next c => exact Bool.eq_false_iff.mpr c
theorem run_in {p : Nat → Bool} : ∀ f k j, k ≤ j → j < run p f k → p j = true := by
  intro f
  induction f with
  | zero =>
    intro k j h1 h2
    have e : run p 0 k = k := rfl
    omega
  | succ f ih =>
    intro k j h1 h2
    simp only [run] at h2
    split at h2
    · next c =>
      by_cases hj : j = k
      · rw [hj]
        exact c
      · exact ih (k + 1) j (by omega) h2
    · omega
theorem run_st {p : Nat → Bool} {m k : Nat} (h : p k = true) (hk : k < m) : run p (m - k) k = run p (m - (k + 1)) (k + 1) := by
  rw [show m - k = (m - (k + 1)) + 1 by omega]
  simp only [run]
  rw [if_pos h]
/-- a loop that only goes on -/
theorem wp_run {α σ : Type} {F : (σ → sd_M α) → σ → sd_M α} {h : sd_H} {b : Nat × Nat} {Q : α → sd_H → Nat × Nat → Prop} {p : Nat → Bool} {en : Nat → σ} {R : Nat → Prop} (m : Nat) (hp : ∀ k, p k = true → k < m) (Hs : ∀ K k, p k = true → wp (F K (en k)) h b Q = wp (K (en (k + 1))) h b Q) (Hn : ∀ K k, k ≤ m → p k = false → wp (F K (en k)) h b Q = R k) : ∀ fuel k, k ≤ m → m - k < fuel → wp (sd_loop F fuel (en k)) h b Q = R (run p (m - k) k) := by
  intro fuel
  induction fuel with
  | zero => intro k _ h2; omega
  | succ fuel ih =>
    intro k h1 h2
    show wp (F (sd_loop F fuel) (en k)) h b Q = _
    cases hk : p k with
    | true =>
      have := hp k hk
      rw [Hs _ k hk, ih (k + 1) (by omega) (by omega), ← run_st hk this]
    | false => rw [Hn _ k h1 hk, run_fix hk]
def isL (c : Nat) : Bool := decide (97 ≤ c) && decide (c ≤ 122)
def isD (c : Nat) : Bool := decide (48 ≤ c) && decide (c ≤ 57)
def blk (u : Nat → Nat) (sz k : Nat) : Bool := decide (k < sz) && (decide (u k = 32) || decide (u k = 10))
def wch (u : Nat → Nat) (sz k : Nat) : Bool := decide (k < sz) && (isL (u k) || isD (u k))
def dch (u : Nat → Nat) (sz k : Nat) : Bool := decide (k < sz) && isD (u k)
theorem blk_lt {u : Nat → Nat} {sz k : Nat} (h : blk u sz k = true) : k < sz := by
  unfold blk at h
  simp only [Bool.and_eq_true, decide_eq_true_eq] at h
  exact h.1
theorem wch_lt {u : Nat → Nat} {sz k : Nat} (h : wch u sz k = true) : k < sz := by
  unfold wch at h
  simp only [Bool.and_eq_true, decide_eq_true_eq] at h
  exact h.1
theorem dch_lt {u : Nat → Nat} {sz k : Nat} (h : dch u sz k = true) : k < sz := by
  unfold dch at h
  simp only [Bool.and_eq_true, decide_eq_true_eq] at h
  exact h.1
/-- past blanks -/
def skp (u : Nat → Nat) (sz k : Nat) : Nat := run (blk u sz) (sz - k) k
/-- where a token ends -/
def enP (u : Nat → Nat) (sz p : Nat) : Nat := if isL (u p) = true then run (wch u sz) (sz - (p + 1)) (p + 1) else if isD (u p) = true then run (dch u sz) (sz - (p + 1)) (p + 1) else if (u p = 60 ∨ u p = 62) ∧ p + 1 < sz ∧ u (p + 1) = 61 then p + 2 else p + 1
def txP (u : Nat → Nat) (p e : Nat) : List Nat := (List.range (e - p)).map (fun k => u (p + k))
def kws : List (List Nat) := [[115, 101, 97, 116, 115], [108, 97, 121, 101, 114, 115], [101, 109, 112, 105, 114, 101], [102, 114, 111, 109], [116, 111], [99, 111, 105, 110], [99, 114, 117, 109, 98, 115], [115, 112, 114, 105, 110, 103], [105, 110], [121, 101, 97, 114], [111, 102], [100, 105, 103], [112, 114, 111, 112], [102, 114, 101, 101], [119, 104, 101, 110], [100, 97, 121], [102, 111, 117, 110, 100], [115, 108, 105, 100, 101, 115], [112, 114, 111, 112, 115], [102, 105, 114, 115, 116], [108, 97, 115, 116], [104, 101, 105, 103, 104, 116], [115, 101, 101, 110], [115, 117, 114, 101], [110, 111, 116], [97, 110, 100], [111, 114], [109, 105, 110], [109, 97, 120]]
def kwF (l : List Nat) : List (List Nat) → Nat → Nat
  | [], _ => 30
  | w :: r, k => if w = l then k else kwF l r (k + 1)
def kwI (l : List Nat) : Nat := kwF l kws 0
def sym (c : Nat) : Bool := decide (c = 40) || decide (c = 41) || decide (c = 91) || decide (c = 93) || decide (c = 59) || decide (c = 44) || decide (c = 43) || decide (c = 45) || decide (c = 42) || decide (c = 47) || decide (c = 60) || decide (c = 62) || decide (c = 61)
/-- the kind of a token -/
def knP (u : Nat → Nat) (sz p : Nat) : Nat := if isD (u p) = true then (if enP u sz p - p ≤ 6 then 31 else 32) else if isL (u p) = true then (if enP u sz p - p ≤ 10 then kwI (txP u p (enP u sz p)) else 32) else if enP u sz p - p = 2 then 256 + u p else if sym (u p) = true then u p else 32
/-- where the i-th token begins -/
def plT (u : Nat → Nat) (sz : Nat) : Nat → Nat
  | 0 => skp u sz 0
  | i + 1 => skp u sz (enP u sz (plT u sz i))
def kdT (u : Nat → Nat) (sz i : Nat) : Nat := if sz ≤ plT u sz i then 33 else if i = 400 then 32 else knP u sz (plT u sz i)
def spT (u : Nat → Nat) (sz i : Nat) : Bool := decide (kdT u sz i = 32) || decide (kdT u sz i = 33)
/-- the last token -/
def nT (u : Nat → Nat) (sz : Nat) : Nat := run (fun i => decide (i < 400) && !spT u sz i) 400 0
def txT (u : Nat → Nat) (sz i : Nat) : List Nat := txP u (plT u sz i) (enP u sz (plT u sz i))
def nmV (l : List Nat) : Nat := l.foldl (fun a c => 10 * a + (c - 48)) 0
def ltr (c : Nat) : Nat := if isL c = true then c - 96 else c - 21
def nmW (l : List Nat) : Nat := l.foldl (fun a c => 37 * a + ltr c) 0
section TK
variable {u : Nat → Nat} {sz i p e : Nat}
theorem nT_le : nT u sz ≤ 400 := run_le (fun k h => by
  simp only [Bool.and_eq_true, decide_eq_true_eq] at h
  exact h.1) _ _ (by omega)
theorem spT_400 : spT u sz 400 = true := by
  unfold spT kdT
  by_cases c : sz ≤ plT u sz 400
  · rw [if_pos c]
    rfl
  · rw [if_neg c, if_pos rfl]
    rfl
theorem nT_stop : spT u sz (nT u sz) = true := by
  have h := run_stop (p := fun i => decide (i < 400) && !spT u sz i) (m := 400) (fun k h => by
    simp only [Bool.and_eq_true, decide_eq_true_eq] at h
    exact h.1) 400 0 (by omega)
  have h : (decide (nT u sz < 400) && !spT u sz (nT u sz)) = false := h
  by_cases c : nT u sz < 400
  · rw [decide_eq_true c, Bool.true_and] at h
    cases hs : spT u sz (nT u sz) with
    | true => rfl
    | false =>
      rw [hs] at h
      cases h
  · have := nT_le (u := u) (sz := sz)
    rw [show nT u sz = 400 by omega]
    exact spT_400
theorem nT_in (h : i < nT u sz) : spT u sz i = false := by
  have h1 := run_in (p := fun i => decide (i < 400) && !spT u sz i) 400 0 i (Nat.zero_le _) h
  simp only [Bool.and_eq_true, decide_eq_true_eq] at h1
  cases hs : spT u sz i with
  | false => rfl
  | true =>
    rw [hs] at h1
    cases h1.2
theorem enP_gt : p < enP u sz p := by
  unfold enP
  split
  · exact run_ge (p := wch u sz) _ (p + 1)
  · split
    · exact run_ge (p := dch u sz) _ (p + 1)
    · split <;> omega
theorem enP_le (h : p < sz) : enP u sz p ≤ sz := by
  unfold enP
  split
  · exact run_le (fun k => wch_lt) _ _ h
  · split
    · exact run_le (fun k => dch_lt) _ _ h
    · split <;> omega
theorem skp_ge : p ≤ skp u sz p := run_ge _ _
theorem skp_le (h : p ≤ sz) : skp u sz p ≤ sz := run_le (fun k => blk_lt) _ _ h
theorem skp_nb (h : p ≤ sz) : blk u sz (skp u sz p) = false := run_stop (fun k => blk_lt) _ _ (by omega)
theorem tk_lt (h : i < nT u sz) : plT u sz i < sz ∧ i ≠ 400 ∧ kdT u sz i = knP u sz (plT u sz i) ∧ knP u sz (plT u sz i) ≠ 32 ∧ kdT u sz i ≠ 33 := by
  have h1 := nT_in h
  have h2 := nT_le (u := u) (sz := sz)
  unfold spT at h1
  simp only [Bool.or_eq_false_iff, decide_eq_false_iff_not] at h1
  obtain ⟨h3, h4⟩ := h1
  by_cases c : sz ≤ plT u sz i
  · exact absurd (if_pos c) h4
  · have e : kdT u sz i = knP u sz (plT u sz i) := by
      unfold kdT
      rw [if_neg c, if_neg (by omega)]
    exact ⟨by omega, by omega, e, e ▸ h3, h4⟩
theorem plT_le : ∀ i, i ≤ nT u sz → plT u sz i ≤ sz ∧ i ≤ plT u sz i := by
  intro i
  induction i with
  | zero => intro _; exact ⟨skp_le (Nat.zero_le _), Nat.zero_le _⟩
  | succ i ih =>
    intro h
    obtain ⟨h1, h2⟩ := ih (by omega)
    have h3 := (tk_lt (show i < nT u sz by omega)).1
    have h4 : enP u sz (plT u sz i) ≤ sz := enP_le h3
    have h5 : plT u sz i < enP u sz (plT u sz i) := enP_gt
    have h6 : enP u sz (plT u sz i) ≤ plT u sz (i + 1) := skp_ge
    exact ⟨skp_le h4, by omega⟩
theorem plT_nb : ∀ i, i ≤ nT u sz → blk u sz (plT u sz i) = false := by
  intro i h
  cases i with
  | zero => exact skp_nb (Nat.zero_le _)
  | succ i => exact skp_nb (enP_le (tk_lt (show i < nT u sz by omega)).1)
theorem nT_sz : nT u sz ≤ sz := Nat.le_trans (plT_le _ (Nat.le_refl _)).2 (plT_le _ (Nat.le_refl _)).1
theorem txP_len : (txP u p e).length = e - p := by
  unfold txP
  rw [List.length_map, List.length_range]
theorem txP_at {k : Nat} (h : k < e - p) : (txP u p e)[k]? = some (u (p + k)) := by
  unfold txP
  rw [List.getElem?_map, List.getElem?_range h]
  rfl
theorem txP_suc {k : Nat} : txP u p (p + (k + 1)) = txP u p (p + k) ++ [u (p + k)] := by
  unfold txP
  rw [Nat.add_sub_cancel_left, Nat.add_sub_cancel_left, List.range_succ, List.map_append]
  rfl
theorem txP_nil : txP u p p = [] := by
  unfold txP
  rw [Nat.sub_self]
  rfl
theorem nmV_sn {l : List Nat} {c : Nat} : nmV (l ++ [c]) = 10 * nmV l + (c - 48) := by
  unfold nmV
  rw [List.foldl_append]
  rfl
theorem nmW_sn {l : List Nat} {c : Nat} : nmW (l ++ [c]) = 37 * nmW l + ltr c := by
  unfold nmW
  rw [List.foldl_append]
  rfl
theorem ltr_le {c : Nat} (h : isL c = true ∨ isD c = true) : 1 ≤ ltr c ∧ ltr c ≤ 36 := by
  unfold ltr
  unfold isL isD at *
  simp only [Bool.and_eq_true, decide_eq_true_eq] at *
  split <;> omega
theorem ltr_inj {c d : Nat} (h : isL c = true ∨ isD c = true) (h' : isL d = true ∨ isD d = true) (e : ltr c = ltr d) : c = d := by
  unfold ltr at e
  unfold isL isD at *
  simp only [Bool.and_eq_true, decide_eq_true_eq] at *
  split at e <;> split at e <;> omega
/-- all letters or digits -/
def okN (l : List Nat) : Prop := ∀ c, c ∈ l → isL c = true ∨ isD c = true
theorem nmW_inj : ∀ (n : Nat) (l l' : List Nat), l.length = n → okN l → okN l' → nmW l = nmW l' → l = l' := by
  intro n
  induction n with
  | zero =>
    intro l l' hl ok ok' e
    have : l = [] := List.length_eq_zero_iff.mp hl
    subst this
    rcases List.eq_nil_or_concat l' with h | ⟨L, c, h⟩
    · exact h.symm
    · rw [List.concat_eq_append] at h
      subst h
      rw [nmW_sn] at e
      have h1 := ltr_le (ok' c (by simp))
      have h2 : nmW [] = 0 := rfl
      omega
  | succ n ih =>
    intro l l' hl ok ok' e
    rcases List.eq_nil_or_concat l with h | ⟨L, c, h⟩
    · subst h
      cases hl
    · rw [List.concat_eq_append] at h
      subst h
      rw [nmW_sn] at e
      have h1 := ltr_le (ok c (by simp))
      rcases List.eq_nil_or_concat l' with h' | ⟨L', c', h'⟩
      · subst h'
        have h2 : nmW [] = 0 := rfl
        omega
      · rw [List.concat_eq_append] at h'
        subst h'
        rw [nmW_sn] at e
        have h2 := ltr_le (ok' c' (by simp))
        have e1 : nmW L = nmW L' := by omega
        have e2 : ltr c = ltr c' := by omega
        have e3 := ltr_inj (ok c (by simp)) (ok' c' (by simp)) e2
        rw [List.length_append] at hl
        have hl : L.length + 1 = n + 1 := hl
        have e4 := ih L L' (by omega) (fun d hd => ok d (by simp [hd])) (fun d hd => ok' d (by simp [hd])) e1
        rw [e3, e4]
theorem nmW_lt : ∀ (n : Nat) (l : List Nat), l.length = n → okN l → nmW l < 37 ^ n := by
  intro n
  induction n with
  | zero =>
    intro l hl _
    have : l = [] := List.length_eq_zero_iff.mp hl
    subst this
    exact Nat.zero_lt_one
  | succ n ih =>
    intro l hl ok
    rcases List.eq_nil_or_concat l with h | ⟨L, c, h⟩
    · subst h
      cases hl
    · rw [List.concat_eq_append] at h
      subst h
      rw [nmW_sn, Nat.pow_succ]
      have h1 := ltr_le (ok c (by simp))
      rw [List.length_append] at hl
      have hl : L.length + 1 = n + 1 := hl
      have h2 := ih L (by omega) (fun d hd => ok d (by simp [hd]))
      omega
theorem nmV_lt : ∀ (n : Nat) (l : List Nat), l.length = n → (∀ c, c ∈ l → isD c = true) → nmV l < 10 ^ n := by
  intro n
  induction n with
  | zero =>
    intro l hl _
    have : l = [] := List.length_eq_zero_iff.mp hl
    subst this
    exact Nat.zero_lt_one
  | succ n ih =>
    intro l hl ok
    rcases List.eq_nil_or_concat l with h | ⟨L, c, h⟩
    · subst h
      cases hl
    · rw [List.concat_eq_append] at h
      subst h
      rw [nmV_sn, Nat.pow_succ]
      have h1 := ok c (by simp)
      unfold isD at h1
      simp only [Bool.and_eq_true, decide_eq_true_eq] at h1
      rw [List.length_append] at hl
      have hl : L.length + 1 = n + 1 := hl
      have h2 := ih L (by omega) (fun d hd => ok d (by simp [hd]))
      omega
theorem mem_tx {c : Nat} (h : c ∈ txP u p e) : ∃ k, p ≤ k ∧ k < e ∧ c = u k := by
  unfold txP at h
  rw [List.mem_map] at h
  obtain ⟨k, h1, h2⟩ := h
  rw [List.mem_range] at h1
  exact ⟨p + k, by omega, by omega, h2.symm⟩
theorem okN_tx (h : isL (u p) = true) : okN (txP u p (enP u sz p)) := by
  intro c hc
  obtain ⟨k, h1, h2, rfl⟩ := mem_tx hc
  unfold enP at h2
  rw [if_pos h] at h2
  by_cases hk : k = p
  · rw [hk]
    exact Or.inl h
  · have := run_in (p := wch u sz) _ (p + 1) k (by omega) h2
    unfold wch at this
    simp only [Bool.and_eq_true, Bool.or_eq_true] at this
    exact this.2
theorem dig_tx (h : isD (u p) = true) : ∀ c, c ∈ txP u p (enP u sz p) → isD c = true := by
  intro c hc
  obtain ⟨k, h1, h2, rfl⟩ := mem_tx hc
  have hl : ¬ isL (u p) = true := by
    unfold isL isD at *
    simp only [Bool.and_eq_true, decide_eq_true_eq] at *
    omega
  unfold enP at h2
  rw [if_neg hl, if_pos h] at h2
  by_cases hk : k = p
  · rw [hk]
    exact h
  · have := run_in (p := dch u sz) _ (p + 1) k (by omega) h2
    unfold dch at this
    simp only [Bool.and_eq_true] at this
    exact this.2
end TK
/-! keywords -/
theorem kwF_lt {l : List Nat} : ∀ (L : List (List Nat)) (k : Nat), kwF l L k = 30 ∨ (kwF l L k < k + L.length ∧ k ≤ kwF l L k) := by
  intro L
  induction L with
  | nil => intro k; exact Or.inl rfl
  | cons w r ih =>
    intro k
    simp only [kwF]
    split
    · exact Or.inr ⟨by simp, Nat.le_refl _⟩
    · rcases ih (k + 1) with h | h
      · exact Or.inl h
      · refine Or.inr ⟨?_, by omega⟩
        rw [List.length_cons]
        omega
theorem kwI_lt (l : List Nat) : kwI l < 29 ∨ kwI l = 30 := by
  rcases kwF_lt (l := l) kws 0 with h | h
  · exact Or.inr h
  · refine Or.inl ?_
    have : kws.length = 29 := rfl
    unfold kwI
    omega
theorem kws_okN : ∀ w, w ∈ kws → okN w ∧ w.length ≤ 10 := by
  have : ∀ w, w ∈ kws → (∀ c, c ∈ w → (isL c || isD c) = true) ∧ w.length ≤ 10 := by decide
  intro w hw
  obtain ⟨h1, h2⟩ := this w hw
  refine ⟨fun c hc => ?_, h2⟩
  have := h1 c hc
  simpa using this
