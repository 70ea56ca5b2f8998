/-! THE PLAIN LAW: the model cuts its tape into tokens: all of them -/
theorem up2_ne {x : Nat → Nat → Int32} {i a j : Nat} {z : Int32} (h : j ≠ i) : up2 x i a z j = x j := if_neg h
theorem up2_at {x : Nat → Nat → Int32} {i a : Nat} {z : Int32} : up2 x i a z i = upd (x i) a z := if_pos rfl
/-- what the model holds of a token -/
def tokO (u : Nat → Nat) (sz : Nat) (x : Nat → Nat → Int32) (y : Nat → Nat → Int64) (i : Nat) : Prop := x 5 i = n3 (kdT u sz i) ∧ x 6 i = n3 (plT u sz i) ∧ x 7 i = 0 ∧ (i < nT u sz → valO (kdT u sz i) (txT u sz i) (y 8 i))
/-- behind the blanks -/
def cutR (G : sd_G) (k4 : Nat × Int32 × Int32 → sd_M Unit) (w0 : Nat) (w1 : Int32) (w2 : Int32) : sd_M Unit :=
  sd_bnd (sd_isC G 4 w0) fun _ =>
  sd_bnd (fX5_endOf G w0 w1) fun r4 =>
  sd_bnd (sd_getR G 4 6 w0) fun v5 =>
  sd_bnd (sd_astI 0 v5 w2 w1) fun _ =>
  sd_bnd (sd_getR G 4 7 w0) fun v6 =>
  sd_bnd (sd_astI 0 v6 w2 0) fun _ =>
  sd_bnd (sd_getR G 4 5 w0) fun v7 =>
  sd_bnd (sd_isC G 4 w0) fun _ =>
  sd_bnd (fX5_kindOf G w0 w2 w1 r4) fun r8 =>
  sd_bnd (sd_astI 0 v7 w2 r8) fun _ =>
  if w2 = 400 then (
    sd_bnd (sd_getR G 4 5 w0) fun v14 =>
    sd_bnd (sd_aldI G 0 v14 w2) fun v15 =>
    if v15 = 33 then (
      fX5_cutIntoTokens_b96 G k4 w0 w2 r4)
    else (
      sd_bnd (sd_getR G 4 5 w0) fun v16 =>
      sd_bnd (sd_astI 0 v16 w2 32) fun _ =>
      fX5_cutIntoTokens_b96 G k4 w0 w2 r4))
  else (
    fX5_cutIntoTokens_b96 G k4 w0 w2 r4)
section MC2
variable {n : Nat} {ρ : Nat → Option Nat} {ad : Nat → Nat} {K : Nat → Option sd_E} {v : Nat → Int32} {x : Nat → Nat → Int32} {y : Nat → Nat → Int64} {G : sd_G} {t : TT} {b : Nat × Nat} {h : sd_H} {q : Nat → Nat} {κ g : Nat → Int32} {ea th : Int32} {sz : Nat} {u : Nat → Nat}
theorem m_b96 {k4 : Nat × Int32 × Int32 → sd_M Unit} {i kd e : Nat} {Q : Unit → sd_H → Nat × Nat → Prop} (E : mOk n ρ ad) (hi : i < 401) (hk : x 5 i = n3 kd) (h4 : kd < 1000) : wp (fX5_cutIntoTokens_b96 G k4 (ad 0) (n3 i) (n3 e)) (hMo n ρ ad K v x y) b Q = if kd = 32 ∨ kd = 33 then Q () (hMo n ρ ad K v x y) b else wp (k4 (ad 0, n3 e, n3 (i + 1))) (hMo n ρ ad K v x y) b Q := by
  unfold fX5_cutIntoTokens_b96
  rw [wp_bnd, hMo_getR4 E rfl, wp_bnd]
  simp (disch := omega) only [↓wp_bnd, ↓mAr E, mAr E, ↓mAs E, mAs E, hk]
  rw [wp_ite]
  by_cases c1 : kd = 32
  · rw [if_pos (show n3 kd = 32 from by rw [c1]; rfl), if_pos (Or.inl c1), wp_ret]
  · rw [if_neg (show ¬ n3 kd = 32 from by rw [show (32 : Int32) = n3 32 from rfl, n3_eq (by omega) (by omega)]; exact c1), wp_bnd, hMo_getR4 E rfl, wp_bnd]
    simp (disch := omega) only [↓wp_bnd, ↓mAr E, mAr E, ↓mAs E, mAs E, hk]
    rw [wp_ite]
    by_cases c2 : kd = 33
    · rw [if_pos (show n3 kd = 33 from by rw [c2]; rfl), if_pos (Or.inr c2), wp_ret]
    · rw [if_neg (show ¬ n3 kd = 33 from by rw [show (33 : Int32) = n3 33 from rfl, n3_eq (by omega) (by omega)]; exact c2), if_neg (fun h => h.elim c1 c2), wp_bnd, wp_ret, n3_suc]
theorem knP_lt {p : Nat} (h256 : ∀ k, k < sz → u k < 256) (hp : p < sz) : knP u sz p < 1000 := by
  have h1 := h256 p hp
  unfold knP
  split
  · split <;> omega
  · split
    · split
      · rcases kwI_lt (txP u p (enP u sz p)) with h | h <;> omega
      · omega
    · split
      · omega
      · split <;> omega
theorem kd_stop {i : Nat} (hi : i ≤ nT u sz) (h : kdT u sz i = 32 ∨ kdT u sz i = 33) : i = nT u sz := by
  by_cases c : i < nT u sz
  · have h1 := nT_in c
    unfold spT at h1
    simp only [Bool.or_eq_false_iff, decide_eq_false_iff_not] at h1
    rcases h with h | h
    · exact absurd h h1.1
    · exact absurd h h1.2
  · omega
/-- one token -/
theorem m_cut1 {k4 : Nat × Int32 × Int32 → sd_M Unit} {i : Nat} {Q : Unit → sd_H → Nat × Nat → Prop} (E : mOk n ρ ad) (w : wfH G (hMo n ρ ad K v x y)) (hW : strsC G (sd_ad G 18) kws) (h2 : v 2 = n3 sz) (hs : sz ≤ 2000) (hu : ∀ k, k < sz → x 1 k = n3 (u k)) (h256 : ∀ k, k < sz → u k < 256) (hi : i ≤ nT u sz) (kk : ∀ x' y', (∀ j, j ≠ 5 → j ≠ 6 → j ≠ 7 → x' j = x j) → (∀ j, j ≠ 8 → y' j = y j) → (∀ j k, 5 ≤ j → j ≤ 7 → k ≠ i → x' j k = x j k) → (∀ k, k ≠ i → y' 8 k = y 8 k) → tokO u sz x' y' i → if i = nT u sz then Q () (hMo n ρ ad K v x' y') b else wp (k4 (ad 0, n3 (enP u sz (plT u sz i)), n3 (i + 1))) (hMo n ρ ad K v x' y') b Q) : wp (cutR G k4 (ad 0) (n3 (plT u sz i)) (n3 i)) (hMo n ρ ad K v x y) b Q := by
  have h400 := nT_le (u := u) (sz := sz)
  have hpl := (plT_le i hi).1
  unfold cutR
  rw [wp_bnd, hMo_isC4 E, wp_bnd, m_endOf E h2 hs hu h256 hpl, wp_bnd, hMo_getR4 E rfl, wp_bnd]
  simp (disch := omega) only [↓wp_bnd, ↓mFl E, ↓mPu E, ↓mAr E, mAr E, ↓mAs E, mAs E]
  have hX : ∀ z, (∀ j, j ≠ 5 → j ≠ 6 → j ≠ 7 → up2 (up2 (up2 x 6 i (n3 (plT u sz i))) 7 i 0) 5 i z j = x j) ∧ (∀ j k, 5 ≤ j → j ≤ 7 → k ≠ i → up2 (up2 (up2 x 6 i (n3 (plT u sz i))) 7 i 0) 5 i z j k = x j k) ∧ up2 (up2 (up2 x 6 i (n3 (plT u sz i))) 7 i 0) 5 i z 5 i = z ∧ up2 (up2 (up2 x 6 i (n3 (plT u sz i))) 7 i 0) 5 i z 6 i = n3 (plT u sz i) ∧ up2 (up2 (up2 x 6 i (n3 (plT u sz i))) 7 i 0) 5 i z 7 i = 0 := by
    intro z
    refine ⟨fun j h5 h6 h7 => ?_, fun j k h5 h7 hk => ?_, ?_, ?_, ?_⟩
    · rw [up2_ne h5, up2_ne h7, up2_ne h6]
    · have : j = 5 ∨ j = 6 ∨ j = 7 := by omega
      rcases this with rfl | rfl | rfl
      · rw [up2_at, upd_ne hk, up2_ne (by decide), up2_ne (by decide)]
      · rw [up2_ne (by decide), up2_ne (by decide), up2_at, upd_ne hk]
      · rw [up2_ne (by decide), up2_at, upd_ne hk, up2_ne (by decide)]
    · rw [up2_at, upd_same]
    · rw [up2_ne (by decide), up2_ne (by decide), up2_at, upd_same]
    · rw [up2_ne (by decide), up2_at, upd_same]
  by_cases cp : sz ≤ plT u sz i
  · -- the end
    have ekd : kdT u sz i = 33 := if_pos cp
    have ei := kd_stop hi (Or.inr ekd)
    have ek : wp (fX5_kindOf G (ad 0) (n3 i) (n3 (plT u sz i)) (n3 (enQ u sz (plT u sz i)))) (hMo n ρ ad K v (up2 (up2 x 6 i (n3 (plT u sz i))) 7 i 0) y) b = fun Q => Q 33 (hMo n ρ ad K v (up2 (up2 x 6 i (n3 (plT u sz i))) 7 i 0) y) b := by
      funext Q
      unfold fX5_kindOf
      rw [wp_bnd, hMo_isC4 E, wp_bnd, m_byteOf (u := u) E h2 hs (fun k hk => by rw [up2_ne (by decide), up2_ne (by decide)]; exact hu k hk) (by omega), wp_ite, if_pos (show btI u sz (plT u sz i) = -1 from if_neg (by omega)), wp_ret]
    rw [ek]
    simp (disch := omega) only [↓wp_bnd, ↓mAr E, mAr E, ↓mAs E, mAs E]
    obtain ⟨a1, a2, a3, a4, a5⟩ := hX 33
    have kk := kk _ y a1 (fun _ _ => rfl) a2 (fun _ _ => rfl) ⟨by rw [a3, ekd]; rfl, a4, a5, fun h => by omega⟩
    rw [if_pos ei] at kk
    have fin : ∀ e, wp (fX5_cutIntoTokens_b96 G k4 (ad 0) (n3 i) (n3 e)) (hMo n ρ ad K v (up2 (up2 (up2 x 6 i (n3 (plT u sz i))) 7 i 0) 5 i 33) y) b Q := by
      intro e
      rw [m_b96 (kd := 33) E (by omega) a3 (by omega), if_pos (Or.inr rfl)]
      exact kk
    refine wp_cas (fun _ => ?_) (fun _ => fin _)
    rw [wp_bnd, hMo_getR4 E rfl, wp_bnd]
    simp (disch := omega) only [↓wp_bnd, ↓mAr E, mAr E, ↓mAs E, mAs E, a3, if_true]
    exact fin _
  · have hp : plT u sz i < sz := by omega
    have eq : enQ u sz (plT u sz i) = enP u sz (plT u sz i) := if_pos hp
    rw [eq]
    refine m_kindOf (sz := sz) (u := u) E (wfH_mo w) hW h2 hs (fun k hk => by rw [up2_ne (by decide), up2_ne (by decide)]; exact hu k hk) h256 hp (by omega) (fun y' y1 y2 y3 => ?_)
    simp (disch := omega) only [↓wp_bnd, ↓mAr E, mAr E, ↓mAs E, mAs E]
    obtain ⟨a1, a2, a3, a4, a5⟩ := hX (n3 (knP u sz (plT u sz i)))
    have hlt := knP_lt h256 hp
    by_cases c4 : i = 400
    · have ekd : kdT u sz i = 32 := by
        unfold kdT
        rw [if_neg cp, if_pos c4]
      have ei := kd_stop hi (Or.inl ekd)
      have kk := kk (up2 (up2 (up2 (up2 x 6 i (n3 (plT u sz i))) 7 i 0) 5 i (n3 (knP u sz (plT u sz i)))) 5 i 32) y' (fun j h5 h6 h7 => by rw [up2_ne h5]; exact a1 j h5 h6 h7) y1 (fun j k h5 h7 hk => ?_) y2 ⟨by rw [up2_at, upd_same, ekd]; rfl, by rw [up2_ne (by decide)]; exact a4, by rw [up2_ne (by decide)]; exact a5, fun h => by omega⟩
      · rw [if_pos ei] at kk
        rw [wp_ite, if_pos (show n3 i = 400 from by rw [c4]; rfl), wp_bnd, hMo_getR4 E rfl, wp_bnd]
        simp (disch := omega) only [↓wp_bnd, ↓mAr E, mAr E, ↓mAs E, mAs E, a3]
        have k33 : ¬ n3 (knP u sz (plT u sz i)) = 33 := by
          rw [show (33 : Int32) = n3 33 from rfl, n3_eq (by omega) (by omega)]
          intro h
          have h1 := h256 _ hp
          unfold knP at h
          split at h
          · split at h <;> omega
          · split at h
            · split at h
              · rcases kwI_lt (txP u (plT u sz i) (enP u sz (plT u sz i))) with h3 | h3 <;> omega
              · omega
            · split at h
              · omega
              · split at h
                · next hsy =>
                  rw [h] at hsy
                  revert hsy
                  decide
                · omega
        rw [wp_ite, if_neg k33, wp_bnd, hMo_getR4 E rfl, wp_bnd]
        simp (disch := omega) only [↓wp_bnd, ↓mAr E, mAr E, ↓mAs E, mAs E]
        rw [m_b96 (kd := 32) E (by omega) (by rw [up2_at, upd_same]; rfl) (by omega), if_pos (Or.inl rfl)]
        exact kk
      · by_cases h5' : j = 5
        · rw [h5', up2_at, upd_ne hk, ← a2 5 k (by omega) (by omega) hk]
        · rw [up2_ne h5']
          exact a2 j k h5 h7 hk
    · have ekd : kdT u sz i = knP u sz (plT u sz i) := by
        unfold kdT
        rw [if_neg cp, if_neg c4]
      have kk := kk _ y' a1 y1 a2 y2 ⟨by rw [a3, ekd], a4, a5, fun _ => by rw [ekd]; exact y3⟩
      rw [wp_ite, if_neg (show ¬ n3 i = 400 from by rw [show (400 : Int32) = n3 400 from rfl, n3_eq (by omega) (by omega)]; exact c4), m_b96 E (by omega) a3 hlt]
      by_cases c : knP u sz (plT u sz i) = 32 ∨ knP u sz (plT u sz i) = 33
      · rw [if_pos c]
        rw [← ekd] at c
        rw [if_pos (kd_stop hi c)] at kk
        exact kk
      · rw [if_neg c]
        rw [← ekd] at c
        rw [if_neg] at kk
        · exact kk
        · intro e
          have := nT_stop (u := u) (sz := sz)
          rw [← e] at this
          unfold spT at this
          simp only [Bool.or_eq_true, decide_eq_true_eq] at this
          exact c this
theorem m_skip {k4 : Nat × Int32 × Int32 → sd_M Unit} {i pl : Nat} {Q : Unit → sd_H → Nat × Nat → Prop} (E : mOk n ρ ad) (h2 : v 2 = n3 sz) (hs : sz ≤ 2000) (hu' : ∀ k, k < sz → x 1 k = n3 (u k)) (h256 : ∀ k, k < sz → u k < 256) (hpl : pl ≤ sz) : wp (sd_loop (fun k s => fX5_cutIntoTokens_b11 G k4 k s.1 s.2.1 s.2.2) sd_FU (ad 0, n3 pl, n3 i)) (hMo n ρ ad K v x y) b Q = wp (cutR G k4 (ad 0) (n3 (skp u sz pl)) (n3 i)) (hMo n ρ ad K v x y) b Q := by
  refine wp_run (p := blk u sz) (en := fun k => (ad 0, n3 k, n3 i)) (R := fun k => wp (cutR G k4 (ad 0) (n3 k) (n3 i)) (hMo n ρ ad K v x y) b Q) sz (fun k => blk_lt) (fun K0 k hk => ?_) (fun K0 k hk1 hk => ?_) sd_FU pl hpl (by unfold sd_FU; omega)
  · have hl := blk_lt hk
    show wp (fX5_cutIntoTokens_b11 G _ K0 (ad 0) (n3 k) (n3 i)) _ b Q = _
    unfold blk at hk
    simp only [Bool.and_eq_true, Bool.or_eq_true, decide_eq_true_eq] at hk
    unfold fX5_cutIntoTokens_b11
    rw [wp_bnd, hMo_isC4 E, wp_bnd, m_byteOf E h2 hs hu' (by omega), wp_ite]
    by_cases c : u k = 32
    · rw [if_pos (show btI u sz k = 32 from Eq.mpr (btI_eq (c := 32) h256 (by decide)) ⟨hl, c⟩), wp_bnd, wp_ret, n3_suc]
    · rw [if_neg (show ¬ btI u sz k = 32 from fun e => c (Eq.mp (btI_eq (c := 32) h256 (by decide)) e).2), wp_bnd, hMo_isC4 E, wp_bnd, m_byteOf E h2 hs hu' (by omega), wp_ite, if_pos (show btI u sz k = 10 from Eq.mpr (btI_eq (c := 10) h256 (by decide)) ⟨hl, hk.2.resolve_left c⟩), wp_bnd, wp_ret, n3_suc]
  · show wp (fX5_cutIntoTokens_b11 G _ K0 (ad 0) (n3 k) (n3 i)) _ b Q = _
    have nb : ¬ (k < sz ∧ (u k = 32 ∨ u k = 10)) := by
      intro h
      unfold blk at hk
      rcases h with ⟨h1, h | h⟩ <;> (rw [decide_eq_true h1, h] at hk; cases hk)
    unfold fX5_cutIntoTokens_b11
    rw [wp_bnd, hMo_isC4 E, wp_bnd, m_byteOf E h2 hs hu' (by omega), wp_ite, if_neg (show ¬ btI u sz k = 32 from fun e => nb (by have := Eq.mp (btI_eq (c := 32) h256 (by decide)) e; exact ⟨this.1, Or.inl this.2⟩)), wp_bnd, hMo_isC4 E, wp_bnd, m_byteOf E h2 hs hu' (by omega), wp_ite, if_neg (show ¬ btI u sz k = 10 from fun e => nb (by have := Eq.mp (btI_eq (c := 10) h256 (by decide)) e; exact ⟨this.1, Or.inr this.2⟩))]
    rfl
theorem m_cut {Q : Unit → sd_H → Nat × Nat → Prop} (E : mOk n ρ ad) (w : wfH G (hMo n ρ ad K v x y)) (hW : strsC G (sd_ad G 18) kws) (h2 : v 2 = n3 sz) (hs : sz ≤ 2000) (hu : ∀ k, k < sz → x 1 k = n3 (u k)) (h256 : ∀ k, k < sz → u k < 256) (kk : ∀ x' y', (∀ j, j ≠ 5 → j ≠ 6 → j ≠ 7 → x' j = x j) → (∀ j, j ≠ 8 → y' j = y j) → (∀ i, i ≤ nT u sz → tokO u sz x' y' i) → Q () (hMo n ρ ad K v x' y') b) : wp (fX5_cutIntoTokens G (ad 0)) (hMo n ρ ad K v x y) b Q := by
  have h400 := nT_le (u := u) (sz := sz)
  have key : ∀ (r i pl fuel : Nat) (x' : Nat → Nat → Int32) (y' : Nat → Nat → Int64), i + r = nT u sz → r < fuel → pl ≤ sz → skp u sz pl = plT u sz i → (∀ j, j ≠ 5 → j ≠ 6 → j ≠ 7 → x' j = x j) → (∀ j, j ≠ 8 → y' j = y j) → (∀ j, j < i → tokO u sz x' y' j) → wp (sd_loop (fun k s => fX5_cutIntoTokens_b4 G k s.1 s.2.1 s.2.2) fuel (ad 0, n3 pl, n3 i)) (hMo n ρ ad K v x' y') b Q := by
    intro r
    induction r with
    | zero =>
      intro i pl fuel x' y' hi hf hpl hsk hx hy ht
      obtain ⟨fuel, rfl⟩ : ∃ f', fuel = f' + 1 := ⟨fuel - 1, by omega⟩
      show wp (fX5_cutIntoTokens_b4 G _ (ad 0) (n3 pl) (n3 i)) _ b Q
      rw [fX5_cutIntoTokens_b4, wp_ite, if_neg (show ¬ (400 : Int32) < n3 i from by rw [show (400 : Int32) = n3 400 from rfl, n3_lt (by omega) (by omega)]; omega)]
      have hu' : ∀ k, k < sz → x' 1 k = n3 (u k) := fun k hk => by rw [hx 1 (by decide) (by decide) (by decide)]; exact hu k hk
      rw [m_skip E h2 hs hu' h256 hpl, hsk]
      · refine m_cut1 E (wfH_mo w) hW h2 hs hu' h256 (by omega) (fun x2 y2 a1 a2 a3 a4 a5 => ?_)
        rw [if_pos (by omega)]
        refine kk x2 y2 (fun j h5 h6 h7 => (a1 j h5 h6 h7).trans (hx j h5 h6 h7)) (fun j h8 => (a2 j h8).trans (hy j h8)) (fun j hj => ?_)
        by_cases c : j = i
        · rw [c]
          exact a5
        · obtain ⟨t1, t2, t3, t4⟩ := ht j (by omega)
          exact ⟨(a3 5 j (by omega) (by omega) c).trans t1, (a3 6 j (by omega) (by omega) c).trans t2, (a3 7 j (by omega) (by omega) c).trans t3, fun h => by rw [a4 j c]; exact t4 h⟩
    | succ r ih =>
      intro i pl fuel x' y' hi hf hpl hsk hx hy ht
      obtain ⟨fuel, rfl⟩ : ∃ f', fuel = f' + 1 := ⟨fuel - 1, by omega⟩
      show wp (fX5_cutIntoTokens_b4 G _ (ad 0) (n3 pl) (n3 i)) _ b Q
      rw [fX5_cutIntoTokens_b4, wp_ite, if_neg (show ¬ (400 : Int32) < n3 i from by rw [show (400 : Int32) = n3 400 from rfl, n3_lt (by omega) (by omega)]; omega)]
      have hu' : ∀ k, k < sz → x' 1 k = n3 (u k) := fun k hk => by rw [hx 1 (by decide) (by decide) (by decide)]; exact hu k hk
      rw [m_skip E h2 hs hu' h256 hpl, hsk]
      · refine m_cut1 E (wfH_mo w) hW h2 hs hu' h256 (by omega) (fun x2 y2 a1 a2 a3 a4 a5 => ?_)
        rw [if_neg (by omega)]
        have hti := tk_lt (show i < nT u sz by omega)
        refine ih (i + 1) (enP u sz (plT u sz i)) fuel x2 y2 (by omega) (by omega) (enP_le hti.1) rfl (fun j h5 h6 h7 => (a1 j h5 h6 h7).trans (hx j h5 h6 h7)) (fun j h8 => (a2 j h8).trans (hy j h8)) (fun j hj => ?_)
        by_cases c : j = i
        · rw [c]
          exact a5
        · obtain ⟨t1, t2, t3, t4⟩ := ht j (by omega)
          exact ⟨(a3 5 j (by omega) (by omega) c).trans t1, (a3 6 j (by omega) (by omega) c).trans t2, (a3 7 j (by omega) (by omega) c).trans t3, fun h => by rw [a4 j c]; exact t4 h⟩
  unfold fX5_cutIntoTokens
  exact key (nT u sz) 0 0 sd_FU x y (by omega) (by unfold sd_FU; omega) (Nat.zero_le _) rfl (fun _ _ _ _ => rfl) (fun _ _ => rfl) (fun j hj => by omega)
end MC2
