/-! THE PLAIN LAW: the model cuts its tape into tokens -/
def n6 (n : Nat) : Int64 := Int64.ofNat n
theorem n6_add (a b : Nat) : n6 a + n6 b = n6 (a + b) := (Int64.ofNat_add a b).symm
theorem n6_mul (a b : Nat) : n6 a * n6 b = n6 (a * b) := (Int64.ofNat_mul a b).symm
theorem n6_toInt {a : Nat} (h : a < 9223372036854775808) : (n6 a).toInt = (a : Int) := Int64.toInt_ofNat_of_lt (by omega)
theorem n3_n6 {a : Nat} (h : a < 2147483648) : (n3 a).toInt64 = n6 a := by
  apply Int64.toInt_inj.mp
  rw [Int32.toInt_toInt64, n3_toInt h, n6_toInt (by omega)]
theorem n6_inj {a b : Nat} (ha : a < 9223372036854775808) (hb : b < 9223372036854775808) : (n6 a = n6 b) = (a = b) := by
  apply propext
  constructor
  · intro h
    have h1 := congrArg Int64.toInt h
    rw [n6_toInt ha, n6_toInt hb] at h1
    omega
  · intro h
    rw [h]
theorem n6_n3 (a : Nat) : (n6 a).toInt32 = n3 a := Int64.toInt32_ofNat'
/-- constants can be looked up -/
theorem look_c {G : sd_G} {h : sd_H} {a : Nat} {e : sd_E} (w : wfH G h) (hc : sd_c G a = some e) : sd_look G h a = some e := by
  unfold sd_look
  cases hz : h.2 a with
  | none => exact hc
  | some e' =>
    have h1 := (w.1 _ _ hz).1
    have h2 := w.2.2.1 _ _ hc
    omega
/-- a String constant with these bytes -/
def strC (G : sd_G) (a : Nat) (l : List Nat) : Prop := ∃ v hs hz g, sd_c G a = some (aS v hs hz) ∧ sd_c G v = some (aB l.length g) ∧ ∀ i c, l[i]? = some c → g i = n3 c
/-- an array of String constants -/
def strsC (G : sd_G) (a : Nat) (L : List (List Nat)) : Prop := ∃ f, sd_c G a = some (.inl (6, L.length, .inr (.inr (.inr (.inr f))))) ∧ ∀ (i : Nat) l, L[i]? = some l → ∃ s, f i = some s ∧ strC G s l
def btI (u : Nat → Nat) (sz k : Nat) : Int32 := if k < sz then n3 (u k) else -1
section MTK
variable {n : Nat} {ρ : Nat → Option Nat} {ad : Nat → Nat} {K : Nat → Option sd_E} {v : Nat → Int32} {x : Nat → Nat → Int32} {y : Nat → Nat → Int64} {G : sd_G} {t : TT} {b : Nat × Nat} {h : sd_H} {q : Nat → Nat} {κ g : Nat → Int32} {ea th : Int32} {sz : Nat} {u : Nat → Nat}
theorem m_byteOf {k : Nat} {Q : Int32 → sd_H → Nat × Nat → Prop} (E : mOk n ρ ad) (h2 : v 2 = n3 sz) (hs : sz ≤ 2000) (hu : ∀ k, k < sz → x 1 k = n3 (u k)) (hk : k < 2147483648) : wp (fX5_byteOf G (ad 0) (n3 k)) (hMo n ρ ad K v x y) b Q = Q (btI u sz k) (hMo n ρ ad K v x y) b := by
  unfold fX5_byteOf btI
  by_cases c : k < sz
  · have c' : ¬ sz ≤ k := by omega
    simp (disch := omega) only [↓wp_bnd, ↓wp_ret, ↓wp_ite, ↓reduceIte, ↓mFl E, ↓mPu E, ↓mAr E, mAr E, ↓mAs E, mAs E, h2, n3_le, c', hu k c, c]
  · have c' : sz ≤ k := by omega
    simp (disch := omega) only [↓wp_bnd, ↓wp_ret, ↓wp_ite, ↓reduceIte, ↓mFl E, ↓mPu E, h2, n3_le, c', c]
theorem lt_neg1 {c : Nat} (h : c < 2147483648) : ((-1 : Int32) < n3 c) = True := by
  apply eq_true
  rw [Int32.lt_iff_toInt_lt, n3_toInt h]
  have : (-1 : Int32).toInt = -1 := by decide
  omega
theorem m_small {k : Nat} {Q : Int32 → sd_H → Nat × Nat → Prop} (hu : ∀ k, k < sz → u k < 256) : wp (fX5_isSmall G (btI u sz k)) h b Q = Q (bI (decide (k < sz) && isL (u k))) h b := by
  unfold fX5_isSmall btI isL
  by_cases c : k < sz
  · have h1 := hu k c
    rw [if_pos c]
    simp (disch := omega) only [wp_ite, n3_ltl, n3_llt]
    by_cases c1 : u k < 97
    · rw [if_pos c1, wp_ret, decide_eq_false (show ¬ 97 ≤ u k by omega)]
      simp [bI]
    · rw [if_neg c1]
      by_cases c2 : 122 < u k
      · rw [if_pos c2, wp_ret, decide_eq_false (show ¬ u k ≤ 122 by omega)]
        simp [bI]
      · rw [if_neg c2, wp_ret, decide_eq_true c, decide_eq_true (show 97 ≤ u k by omega), decide_eq_true (show u k ≤ 122 by omega)]
        rfl
  · rw [if_neg c, wp_ite, if_pos (by decide), wp_ret, decide_eq_false c]
    rfl
theorem m_dig {k : Nat} {Q : Int32 → sd_H → Nat × Nat → Prop} (hu : ∀ k, k < sz → u k < 256) : wp (fX5_isDigit G (btI u sz k)) h b Q = Q (bI (dch u sz k)) h b := by
  unfold fX5_isDigit btI dch isD
  by_cases c : k < sz
  · have h1 := hu k c
    rw [if_pos c]
    simp (disch := omega) only [wp_ite, n3_ltl, n3_llt]
    by_cases c1 : u k < 48
    · rw [if_pos c1, wp_ret, decide_eq_false (show ¬ 48 ≤ u k by omega)]
      simp [bI]
    · rw [if_neg c1]
      by_cases c2 : 57 < u k
      · rw [if_pos c2, wp_ret, decide_eq_false (show ¬ u k ≤ 57 by omega)]
        simp [bI]
      · rw [if_neg c2, wp_ret, decide_eq_true c, decide_eq_true (show 48 ≤ u k by omega), decide_eq_true (show u k ≤ 57 by omega)]
        rfl
  · rw [if_neg c, wp_ite, if_pos (by decide), wp_ret, decide_eq_false c]
    rfl
theorem btI_eq {k c : Nat} (hu : ∀ k, k < sz → u k < 256) (hc : c < 256) : (btI u sz k = n3 c) = (k < sz ∧ u k = c) := by
  unfold btI
  by_cases hk : k < sz
  · have := hu k hk
    rw [if_pos hk, n3_eq (by omega) (by omega)]
    simp [hk]
  · rw [if_neg hk]
    apply propext
    constructor
    · intro h
      have := n3_neg1 (a := c) (by omega)
      rw [← h] at this
      simp at this
    · intro h
      exact absurd h.1 hk
def enQ (u : Nat → Nat) (sz p : Nat) : Nat := if p < sz then enP u sz p else p + 1
theorem m_endOf {p : Nat} {Q : Int32 → sd_H → Nat × Nat → Prop} (E : mOk n ρ ad) (h2 : v 2 = n3 sz) (hs : sz ≤ 2000) (hu : ∀ k, k < sz → x 1 k = n3 (u k)) (h256 : ∀ k, k < sz → u k < 256) (hp : p ≤ sz) : wp (fX5_endOf G (ad 0) (n3 p)) (hMo n ρ ad K v x y) b Q = Q (n3 (enQ u sz p)) (hMo n ρ ad K v x y) b := by
  have by0 : ∀ k (b : Nat × Nat) (Q : Int32 → sd_H → Nat × Nat → Prop), k < 2147483648 → wp (fX5_byteOf G (ad 0) (n3 k)) (hMo n ρ ad K v x y) b Q = Q (btI u sz k) (hMo n ρ ad K v x y) b := fun k b Q hk => m_byteOf E h2 hs hu hk
  have ic : ∀ (b : Nat × Nat) (Q : Unit → sd_H → Nat × Nat → Prop), wp (sd_isC G 4 (ad 0)) (hMo n ρ ad K v x y) b Q = Q () (hMo n ρ ad K v x y) b := fun b Q => hMo_isC4 E
  -- the last step
  have l69 : ∀ (k : Nat) (Q : Int32 → sd_H → Nat × Nat → Prop), k ≤ sz + 1 → wp (fX5_endOf_b69 G (ad 0) (btI u sz p) (n3 k)) (hMo n ρ ad K v x y) b Q = Q (n3 (if (p < sz ∧ (u p = 60 ∨ u p = 62)) ∧ k < sz ∧ u k = 61 then k + 1 else k)) (hMo n ρ ad K v x y) b := by
    intro k Q hk
    have l81 : wp (fX5_endOf_b81 G (ad 0) (n3 k)) (hMo n ρ ad K v x y) b Q = Q (n3 (if k < sz ∧ u k = 61 then k + 1 else k)) (hMo n ρ ad K v x y) b := by
      unfold fX5_endOf_b81
      rw [wp_bnd, ic, wp_bnd, by0 k _ _ (by omega), wp_ite]
      by_cases c : k < sz ∧ u k = 61
      · rw [if_pos c, if_pos (show btI u sz k = 61 from Eq.mpr (btI_eq (c := 61) h256 (by decide)) c), wp_bnd, wp_ret, wp_ret, n3_suc]
      · rw [if_neg c, if_neg (show ¬ btI u sz k = 61 from fun e => c (Eq.mp (btI_eq (c := 61) h256 (by decide)) e)), wp_ret]
    unfold fX5_endOf_b69
    rw [wp_ite]
    by_cases c1 : p < sz ∧ u p = 60
    · rw [if_pos (show btI u sz p = 60 from Eq.mpr (btI_eq (c := 60) h256 (by decide)) c1), l81]
      congr 2
      by_cases c : k < sz ∧ u k = 61
      · rw [if_pos c, if_pos ⟨⟨c1.1, Or.inl c1.2⟩, c⟩]
      · rw [if_neg c, if_neg (fun h => c h.2)]
    · rw [if_neg (show ¬ btI u sz p = 60 from fun e => c1 (Eq.mp (btI_eq (c := 60) h256 (by decide)) e)), wp_ite]
      by_cases c2 : p < sz ∧ u p = 62
      · rw [if_pos (show btI u sz p = 62 from Eq.mpr (btI_eq (c := 62) h256 (by decide)) c2), l81]
        congr 2
        by_cases c : k < sz ∧ u k = 61
        · rw [if_pos c, if_pos ⟨⟨c2.1, Or.inr c2.2⟩, c⟩]
        · rw [if_neg c, if_neg (fun h => c h.2)]
      · rw [if_neg (show ¬ btI u sz p = 62 from fun e => c2 (Eq.mp (btI_eq (c := 62) h256 (by decide)) e)), wp_ret, if_neg]
        rintro ⟨⟨h1, h3⟩, -⟩
        rcases h3 with h3 | h3
        · exact c1 ⟨h1, h3⟩
        · exact c2 ⟨h1, h3⟩
  have l45 : ∀ (k : Nat) (Q : Int32 → sd_H → Nat × Nat → Prop), k ≤ sz + 1 → (dch u sz p = true → k ≤ sz) → wp (fX5_endOf_b45 G (ad 0) (btI u sz p) (n3 k)) (hMo n ρ ad K v x y) b Q = Q (n3 (if dch u sz p = true then run (dch u sz) (sz - k) k else if (p < sz ∧ (u p = 60 ∨ u p = 62)) ∧ k < sz ∧ u k = 61 then k + 1 else k)) (hMo n ρ ad K v x y) b := by
    intro k Q hk hk2
    unfold fX5_endOf_b45
    rw [wp_bnd, m_dig h256, wp_ite]
    cases cd : dch u sz p with
    | false =>
      rw [if_pos (show bI false = 0 from rfl), l69 k Q hk, if_neg (show ¬ false = true by decide)]
    | true =>
      rw [if_neg (show ¬ bI true = 0 by decide), if_pos rfl]
      have hk3 := hk2 cd
      refine wp_run (p := dch u sz) (en := fun k => (ad 0, btI u sz p, n3 k)) (R := fun k => Q (n3 k) (hMo n ρ ad K v x y) b) sz (fun k => dch_lt) (fun K0 k hk => ?_) (fun K0 k hk1 hk => ?_) sd_FU k hk3 (by unfold sd_FU; omega)
      · have := dch_lt hk
        show wp (fX5_endOf_b52 G K0 (ad 0) (btI u sz p) (n3 k)) _ b Q = _
        unfold fX5_endOf_b52
        rw [wp_bnd, ic, wp_bnd, by0 k _ _ (by omega), wp_bnd, m_dig h256, hk, wp_ite, if_neg (show ¬ bI true = 0 by decide), wp_bnd, wp_ret, n3_suc]
      · show wp (fX5_endOf_b52 G K0 (ad 0) (btI u sz p) (n3 k)) _ b Q = _
        unfold fX5_endOf_b52
        rw [wp_bnd, ic, wp_bnd, by0 k _ _ (by omega), wp_bnd, m_dig h256, hk, wp_ite, if_pos (show bI false = 0 from rfl), l69 k Q (by omega), if_neg]
        rintro ⟨⟨-, h3⟩, -⟩
        unfold dch isD at cd
        simp only [Bool.and_eq_true, decide_eq_true_eq] at cd
        omega
  unfold fX5_endOf
  rw [wp_bnd, ic, wp_bnd, by0 p _ _ (by omega), wp_bnd, wp_ret, n3_suc, wp_bnd, m_small h256, wp_ite]
  by_cases c : p < sz
  · unfold enQ enP
    rw [decide_eq_true c, Bool.true_and, if_pos c]
    cases cl : isL (u p) with
    | false =>
      rw [if_pos (show bI false = 0 from rfl), l45 (p + 1) Q (by omega) (fun _ => by omega), if_neg (show ¬ false = true by decide)]
      have e1 : dch u sz p = isD (u p) := by
        unfold dch
        rw [decide_eq_true c, Bool.true_and]
      rw [e1]
      congr 2
      split
      · rfl
      · by_cases c2 : (u p = 60 ∨ u p = 62) ∧ p + 1 < sz ∧ u (p + 1) = 61
        · rw [if_pos c2, if_pos ⟨⟨c, c2.1⟩, c2.2⟩]
        · rw [if_neg c2, if_neg (fun h => c2 ⟨h.1.2, h.2⟩)]
    | true =>
      rw [if_neg (show ¬ bI true = 0 by decide), if_pos rfl]
      have nd : dch u sz p = false := by
        unfold dch isD
        unfold isL at cl
        simp only [Bool.and_eq_true, decide_eq_true_eq] at cl
        rw [decide_eq_false (show ¬ u p ≤ 57 by omega)]
        simp
      refine wp_run (p := wch u sz) (en := fun k => (ad 0, btI u sz p, n3 k)) (R := fun k => Q (n3 k) (hMo n ρ ad K v x y) b) sz (fun k => wch_lt) (fun K0 k hk => ?_) (fun K0 k hk1 hk => ?_) sd_FU (p + 1) (by omega) (by unfold sd_FU; omega)
      · have hl := wch_lt hk
        show wp (fX5_endOf_b17 G K0 (ad 0) (btI u sz p) (n3 k)) _ b Q = _
        unfold fX5_endOf_b17
        rw [wp_bnd, ic, wp_bnd, by0 k _ _ (by omega), wp_bnd, m_small h256, decide_eq_true hl, Bool.true_and, wp_ite]
        cases ck : isL (u k) with
        | true => rw [if_neg (show ¬ bI true = 0 by decide), wp_bnd, wp_ret, n3_suc]
        | false =>
          have dk : dch u sz k = true := by
            unfold wch at hk
            unfold dch
            rw [ck, Bool.false_or] at hk
            exact hk
          rw [if_pos (show bI false = 0 from rfl), wp_bnd, ic, wp_bnd, by0 k _ _ (by omega), wp_bnd, m_dig h256, dk, wp_ite, if_neg (show ¬ bI true = 0 by decide), wp_bnd, wp_ret, n3_suc]
      · show wp (fX5_endOf_b17 G K0 (ad 0) (btI u sz p) (n3 k)) _ b Q = _
        have ck : (decide (k < sz) && isL (u k)) = false := by
          unfold wch at hk
          cases hd : decide (k < sz) with
          | false => rfl
          | true =>
            rw [hd, Bool.true_and, Bool.or_eq_false_iff] at hk
            rw [hk.1]
            rfl
        have dk : dch u sz k = false := by
          unfold wch at hk
          unfold dch
          cases hd : decide (k < sz) with
          | false => rfl
          | true =>
            rw [hd, Bool.true_and, Bool.or_eq_false_iff] at hk
            rw [hk.2]
            rfl
        unfold fX5_endOf_b17
        rw [wp_bnd, ic, wp_bnd, by0 k _ _ (by omega), wp_bnd, m_small h256, ck, wp_ite, if_pos (show bI false = 0 from rfl), wp_bnd, ic, wp_bnd, by0 k _ _ (by omega), wp_bnd, m_dig h256, dk, wp_ite, if_pos (show bI false = 0 from rfl), l45 k Q (by omega) (fun h => by rw [nd] at h; cases h), nd, if_neg (by decide), if_neg]
        rintro ⟨⟨-, h3⟩, -⟩
        unfold isL at cl
        simp only [Bool.and_eq_true, decide_eq_true_eq] at cl
        omega
  · unfold enQ
    have nd : dch u sz p = false := by
      unfold dch
      rw [decide_eq_false c, Bool.false_and]
    rw [decide_eq_false c, Bool.false_and, if_pos (show bI false = 0 from rfl), if_neg c, l45 (p + 1) Q (by omega) (fun h => by rw [nd] at h; cases h), nd, if_neg (by decide), if_neg (fun h => c h.1.1)]
theorem m_numberAt {p e ix : Nat} {Q : Int32 → sd_H → Nat × Nat → Prop} (E : mOk n ρ ad) (hs : sz ≤ 2000) (hu : ∀ k, k < sz → x 1 k = n3 (u k)) (h256 : ∀ k, k < sz → u k < 256) (hd : ∀ k, p ≤ k → k < e → isD (u k) = true) (hp : p ≤ e) (he : e ≤ sz) (h6 : e - p ≤ 6) (hi : ix < 401) : wp (fX5_numberAt G (ad 0) (n3 ix) (n3 p) (n3 e)) (hMo n ρ ad K v x y) b Q = Q 31 (hMo n ρ ad K v x (up2L y 8 ix (n6 (nmV (txP u p e))))) b := by
  unfold fX5_numberAt
  have hlt : ∀ k, k ≤ e - p → nmV (txP u p (p + k)) < 1000000 := by
    intro k hk
    have h1 := nmV_lt k (txP u p (p + k)) (by rw [txP_len]; omega) (fun c hc => by
      obtain ⟨j, h1, h2, rfl⟩ := mem_tx hc
      exact hd j h1 (by omega))
    have h2 : 10 ^ k ≤ 10 ^ 6 := Nat.pow_le_pow_right (by omega) (by omega)
    omega
  refine Eq.trans (b := (fun a => Q 31 (hMo n ρ ad K v x (up2L y 8 ix (n6 a))) b) (lp (fun k a => (.inl (10 * a + (u (p + k) - 48)) : Nat ⊕ Nat)) (fun a => a) (e - p - 0) 0 0)) ?_ ?_
  · refine wp_lp (e - p) (fun k (a : Nat) => (ad 0, n3 ix, n3 e, n3 a, n3 (p + k))) (fun _ => hMo n ρ ad K v x y) (fun k a => a = nmV (txP u p (p + k))) (fun k a => .inl (10 * a + (u (p + k) - 48))) (fun a => a) (fun a => Q 31 (hMo n ρ ad K v x (up2L y 8 ix (n6 a))) b) (fun K0 a ha => ?_) (fun K0 k a hk ha => ⟨fun a' e' => ?_, ?_⟩) sd_FU 0 0 (Nat.zero_le _) (by unfold sd_FU; omega) ?_
    · show wp (fX5_numberAt_b6 G K0 (ad 0) (n3 ix) (n3 e) (n3 a) (n3 (p + (e - p)))) _ b Q = _
      have h1 := hlt _ (Nat.le_refl _)
      rw [← ha] at h1
      unfold fX5_numberAt_b6
      rw [show p + (e - p) = e by omega, wp_ite, if_pos (by rw [n3_le (by omega) (by omega)]; exact Nat.le_refl _), wp_bnd, hMo_getR4 E rfl, wp_bnd, n3_n6 (by omega)]
      simp (disch := omega) only [↓wp_bnd, ↓wp_ret, ↓wp_ite, ↓reduceIte, mAs E]
    · cases e'
      rw [ha, ← nmV_sn, ← txP_suc]
    · show wp (fX5_numberAt_b6 G K0 (ad 0) (n3 ix) (n3 e) (n3 a) (n3 (p + k))) _ b Q = _
      have h1 := hd (p + k) (by omega) (by omega)
      have h3 := h256 (p + k) (by omega)
      unfold isD at h1
      simp only [Bool.and_eq_true, decide_eq_true_eq] at h1
      unfold fX5_numberAt_b6
      rw [wp_ite, if_neg (by rw [n3_le (by omega) (by omega)]; omega), wp_bnd, hMo_getR4 E rfl, wp_bnd]
      simp (disch := omega) only [↓wp_bnd, ↓wp_ret, ↓wp_ite, ↓reduceIte, ↓mAr E, mAr E, ↓mAs E, mAs E, hu (p + k) (show p + k < sz by omega)]
      rw [show (10 : Int32) * n3 a + n3 (u (p + k)) - 48 = n3 (10 * a + (u (p + k) - 48)) from by rw [show (10 : Int32) * n3 a = n3 (10 * a) from n3_mul 10 a, n3_add, show (48 : Int32) = n3 48 from rfl, n3_sub (by omega)]; congr 1; omega, n3_suc]
      rfl
    · rw [Nat.add_zero, txP_nil]
      rfl
  · have key : ∀ r k a, k + r = e - p → a = nmV (txP u p (p + k)) → lp (fun k a => (.inl (10 * a + (u (p + k) - 48)) : Nat ⊕ Nat)) (fun a => a) r k a = nmV (txP u p e) := by
      intro r
      induction r with
      | zero =>
        intro k a h1 h2
        show a = _
        rw [h2, show p + k = e by omega]
      | succ r ih =>
        intro k a h1 h2
        show lp _ _ r (k + 1) (10 * a + (u (p + k) - 48)) = _
        refine ih (k + 1) _ (by omega) ?_
        rw [h2, ← nmV_sn, ← txP_suc]
    show Q 31 (hMo n ρ ad K v x (up2L y 8 ix (n6 (lp _ _ (e - p - 0) 0 0)))) b = _
    rw [key (e - p - 0) 0 0 (by omega) (by rw [Nat.add_zero, txP_nil]; rfl)]
end MTK
