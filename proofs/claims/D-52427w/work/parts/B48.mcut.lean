/-! THE PLAIN LAW: the model cuts its tape into tokens: words, kinds, all of them -/
section MCU
variable {n : Nat} {ρ : Nat → Option Nat} {ad : Nat → Nat} {K : Nat → Option sd_E} {v : Nat → Int32} {x : Nat → Nat → Int32} {y : Nat → Nat → Int64} {G : sd_G} {t : TT} {b : Nat × Nat} {h : sd_H} {q : Nat → Nat} {κ g : Nat → Int32} {ea th : Int32} {sz : Nat} {u : Nat → Nat}
theorem str_look {s : Nat} {l : List Nat} (w : wfH G h) (hS : strC G s l) : ∃ v hs hz g, sd_look G h s = some (aS v hs hz) ∧ sd_look G h v = some (aB l.length g) ∧ ∀ i c, l[i]? = some c → g i = n3 c := by
  obtain ⟨v, hs, hz, g, h1, h2, h3⟩ := hS
  exact ⟨v, hs, hz, g, look_c w h1, look_c w h2, h3⟩
theorem m_letter {c : Nat} {Q : Int32 → sd_H → Nat × Nat → Prop} (hc : isL c = true ∨ isD c = true) : wp (fX5_letter G (n3 c)) h b Q = Q (n3 (ltr c)) h b := by
  unfold fX5_letter fX5_isSmall ltr
  unfold isL isD at *
  simp only [Bool.and_eq_true, decide_eq_true_eq] at *
  by_cases c1 : c < 97
  · have c2 : ¬ (97 ≤ c ∧ c ≤ 122) := by omega
    have e : n3 c - 48 + 27 = n3 (c - 21) := by
      rw [show n3 c - 48 = n3 (c - 48) from n3_sub (a := c) (b := 48) (by omega), show (27 : Int32) = n3 27 from rfl, n3_add]
      congr 1
      omega
    simp (disch := omega) only [↓wp_bnd, ↓wp_ret, ↓wp_ite, ↓reduceIte, n3_ltl, c1, c2, e]
  · have c3 : ¬ 122 < c := by omega
    have c2 : 97 ≤ c ∧ c ≤ 122 := by omega
    have e : n3 c - 97 + 1 = n3 (c - 96) := by
      rw [show n3 c - 97 = n3 (c - 97) from n3_sub (a := c) (b := 97) (by omega), n3_suc]
      congr 1
      omega
    simp (disch := omega) only [↓wp_bnd, ↓wp_ret, ↓wp_ite, ↓reduceIte, n3_ltl, n3_llt, c1, c3, e, show ((1 : Int32) = 0) = False from by decide]
    rw [if_pos c2]
theorem okN_take {l : List Nat} (ok : okN l) (k : Nat) : okN (l.take k) := fun c hc => ok c (List.mem_of_mem_take hc)
theorem take_snoc {l : List Nat} {k c : Nat} (h : l[k]? = some c) : l.take (k + 1) = l.take k ++ [c] := by
  rw [List.take_succ, h]
  rfl
theorem m_nameOf {s : Nat} {l : List Nat} {Q : Int64 → sd_H → Nat × Nat → Prop} (w : wfH G h) (hS : strC G s l) (ok : okN l) (hl : l.length ≤ 10) : wp (fX5_nameOf G s) h b Q = Q (n6 (nmW l)) h b := by
  obtain ⟨vv, hs, hz, gg, l1, l2, l3⟩ := str_look w hS
  unfold fX5_nameOf
  refine Eq.trans (wp_lp l.length (fun k (a : Nat) => (s, n6 a, n3 k)) (fun _ => h) (fun k a => a = nmW (l.take k)) (fun k a => .inl (37 * a + ltr (l[k]?.getD 0))) (fun a => a) (fun a => Q (n6 a) h b) (fun K0 a ha => ?_) (fun K0 k a hk ha => ⟨fun a' e' => ?_, ?_⟩) sd_FU 0 0 (Nat.zero_le _) (by unfold sd_FU; omega) ?_) ?_
  · show wp (fX5_nameOf_b4 G K0 s (n6 a) (n3 l.length)) h b Q = _
    unfold fX5_nameOf_b4
    rw [wp_bnd, wp_isC l1, wp_bnd, j_length l1 l2, wp_ite, if_pos (by rw [n3_le (by omega) (by omega)]; exact Nat.le_refl _), wp_ret]
  · cases e'
    obtain ⟨c, hc⟩ : ∃ c, l[k]? = some c := ⟨_, List.getElem?_eq_getElem hk⟩
    rw [take_snoc hc, nmW_sn, ha, hc]
    rfl
  · obtain ⟨c, hc⟩ : ∃ c, l[k]? = some c := ⟨_, List.getElem?_eq_getElem hk⟩
    have hok := ok c (List.mem_of_getElem? hc)
    have hlt : c < 128 := by
      unfold isL isD at hok
      simp only [Bool.and_eq_true, decide_eq_true_eq] at hok
      omega
    show wp (fX5_nameOf_b4 G K0 s (n6 a) (n3 k)) h b Q = _
    unfold fX5_nameOf_b4
    have h36 := (ltr_le hok).2
    rw [wp_bnd, wp_isC l1, wp_bnd, j_length l1 l2, wp_ite, if_neg (by rw [n3_le (by omega) (by omega)]; omega), wp_bnd, wp_isC l1, wp_bnd, j_charAt l1 l2 hk (by omega) (l3 k c hc) hlt, wp_bnd, m_letter hok, wp_bnd, wp_ret, n3_n6 (by omega), show (37 : Int64) * n6 a = n6 (37 * a) from n6_mul 37 a, n6_add, wp_bnd, wp_ret, n3_suc, hc]
    rfl
  · rfl
  · have key : ∀ r k a, k + r = l.length → a = nmW (l.take k) → lp (fun k a => (.inl (37 * a + ltr (l[k]?.getD 0)) : Nat ⊕ Nat)) (fun a => a) r k a = nmW l := by
      intro r
      induction r with
      | zero =>
        intro k a h1 h2
        show a = _
        rw [h2, List.take_of_length_le (by omega)]
      | succ r ih =>
        intro k a h1 h2
        obtain ⟨c, hc⟩ : ∃ c, l[k]? = some c := ⟨_, List.getElem?_eq_getElem (by omega)⟩
        show lp _ _ r (k + 1) (37 * a + ltr (l[k]?.getD 0)) = _
        refine ih (k + 1) _ (by omega) ?_
        rw [take_snoc hc, nmW_sn, h2, hc]
        rfl
    show Q (n6 (lp _ _ (l.length - 0) 0 0)) h b = _
    rw [key (l.length - 0) 0 0 (by omega) rfl]
theorem n6_lt {l : List Nat} (ok : okN l) (h : l.length ≤ 10) : nmW l < 9223372036854775808 := by
  have h1 := nmW_lt l.length l rfl ok
  have h2 : 37 ^ l.length ≤ 37 ^ 10 := Nat.pow_le_pow_right (by omega) h
  have h3 : 37 ^ 10 < 9223372036854775808 := by decide
  omega
/-- the word's number: first those of the list -/
theorem m_word {l : List Nat} {Q : Int32 → sd_H → Nat × Nat → Prop} (w : wfH G h) (hW : strsC G (sd_ad G 18) kws) (ok : okN l) (hl : l.length ≤ 10) : wp (sd_loop (fun k s => fX5_wordAt_b49 G k s.1 s.2) sd_FU (n6 (nmW l), 0)) h b Q = Q (n3 (kwI l)) h b := by
  obtain ⟨f, f1, f2⟩ := hW
  have la := look_c w f1
  have l29 : kws.length = 29 := rfl
  have key : ∀ (r k fuel : Nat), k + r = 29 → r < fuel → wp (sd_loop (fun k s => fX5_wordAt_b49 G k s.1 s.2) fuel (n6 (nmW l), n3 k)) h b Q = Q (n3 (kwF l (kws.drop k) k)) h b := by
    intro r
    induction r with
    | zero =>
      intro k fuel h1 h2
      obtain ⟨fuel, rfl⟩ : ∃ f', fuel = f' + 1 := ⟨fuel - 1, by omega⟩
      have hk : k = 29 := by omega
      subst hk
      show wp (fX5_wordAt_b49 G _ (n6 (nmW l)) (n3 29)) h b Q = _
      unfold fX5_wordAt_b49
      rw [wp_bnd, wp_alen la, wp_ite, if_pos (show n3 kws.length ≤ n3 29 from by rw [l29]; decide), wp_ret]
      rfl
    | succ r ih =>
      intro k fuel h1 h2
      obtain ⟨fuel, rfl⟩ : ∃ f', fuel = f' + 1 := ⟨fuel - 1, by omega⟩
      have hk : k < kws.length := by omega
      obtain ⟨wd, hwd⟩ : ∃ wd, kws[k]? = some wd := ⟨_, List.getElem?_eq_getElem hk⟩
      obtain ⟨s, s1, s2⟩ := f2 k wd hwd
      obtain ⟨o1, o2⟩ := kws_okN wd (List.mem_of_getElem? hwd)
      have ed : kws.drop k = wd :: kws.drop (k + 1) := by
        rw [List.drop_eq_getElem_cons hk]
        congr 1
        rw [List.getElem?_eq_getElem hk] at hwd
        exact Option.some.inj hwd
      show wp (fX5_wordAt_b49 G _ (n6 (nmW l)) (n3 k)) h b Q = _
      unfold fX5_wordAt_b49
      rw [wp_bnd, wp_alen la, wp_ite, if_neg (show ¬ n3 kws.length ≤ n3 k from by rw [n3_le (by omega) (by omega)]; omega), wp_bnd, wp_aldR la (n3_ix hk (by omega)) (by rw [n3_nn (by omega)]; exact s1), wp_bnd, m_nameOf w s2 o1 o2, wp_ite, ed]
      simp only [kwF]
      by_cases c : wd = l
      · rw [if_pos c, if_pos (by rw [c]; exact lg_refl _), wp_ret]
      · rw [if_neg c, if_neg, wp_bnd, wp_ret, n3_suc]
        · exact ih (k + 1) fuel (by omega) (by omega)
        · intro e
          rw [lg_cmp_eq, n6_inj (n6_lt o1 o2) (n6_lt ok hl)] at e
          exact c (nmW_inj _ _ _ rfl o1 ok e)
  exact key 29 0 sd_FU rfl (by unfold sd_FU; omega)
theorem m_wordAt {p e ix : Nat} {Q : Int32 → sd_H → Nat × Nat → Prop} (E : mOk n ρ ad) (w : wfH G (hMo n ρ ad K v x y)) (hW : strsC G (sd_ad G 18) kws) (hs : sz ≤ 2000) (hu : ∀ k, k < sz → x 1 k = n3 (u k)) (ok : okN (txP u p e)) (hp : p ≤ e) (he : e ≤ sz) (h10 : e - p ≤ 10) (hi : ix < 401) : wp (fX5_wordAt G (ad 0) (n3 ix) (n3 p) (n3 e)) (hMo n ρ ad K v x y) b Q = Q (n3 (kwI (txP u p e))) (hMo n ρ ad K v x (up2L y 8 ix (n6 (nmW (txP u p e))))) b := by
  unfold fX5_wordAt
  have okk : ∀ k, p ≤ k → k < e → isL (u k) = true ∨ isD (u k) = true := by
    intro k h1 h2
    refine ok _ ?_
    unfold txP
    rw [List.mem_map]
    exact ⟨k - p, List.mem_range.mpr (by omega), by rw [show p + (k - p) = k by omega]⟩
  have fin : ∀ (K0 : Nat × Int32 × Int32 × Int64 × Int32 → sd_M Int32), wp (fX5_wordAt_b6 G K0 (ad 0) (n3 ix) (n3 e) (n6 (nmW (txP u p e))) (n3 e)) (hMo n ρ ad K v x y) b Q = Q (n3 (kwI (txP u p e))) (hMo n ρ ad K v x (up2L y 8 ix (n6 (nmW (txP u p e))))) b := by
    intro K0
    unfold fX5_wordAt_b6
    rw [wp_ite, if_pos (by rw [n3_le (by omega) (by omega)]; exact Nat.le_refl _), wp_bnd, hMo_getR4 E rfl, wp_bnd]
    simp (disch := omega) only [↓wp_bnd, ↓wp_ret, ↓wp_ite, ↓reduceIte, mAs E]
    exact m_word (wfH_mo w) hW ok (by rw [txP_len]; omega)
  have key : ∀ (r k fuel : Nat), k + r = e - p → r < fuel → wp (sd_loop (fun k s => fX5_wordAt_b6 G k s.1 s.2.1 s.2.2.1 s.2.2.2.1 s.2.2.2.2) fuel (ad 0, n3 ix, n3 e, n6 (nmW (txP u p (p + k))), n3 (p + k))) (hMo n ρ ad K v x y) b Q = Q (n3 (kwI (txP u p e))) (hMo n ρ ad K v x (up2L y 8 ix (n6 (nmW (txP u p e))))) b := by
    intro r
    induction r with
    | zero =>
      intro k fuel h1 h2
      obtain ⟨fuel, rfl⟩ : ∃ f', fuel = f' + 1 := ⟨fuel - 1, by omega⟩
      rw [show p + k = e by omega]
      exact fin _
    | succ r ih =>
      intro k fuel h1 h2
      obtain ⟨fuel, rfl⟩ : ∃ f', fuel = f' + 1 := ⟨fuel - 1, by omega⟩
      have hok := okk (p + k) (by omega) (by omega)
      have h36 := (ltr_le hok).2
      have ih := ih (k + 1) fuel (by omega) (by omega)
      show wp (fX5_wordAt_b6 G _ (ad 0) (n3 ix) (n3 e) (n6 (nmW (txP u p (p + k)))) (n3 (p + k))) _ b Q = _
      unfold fX5_wordAt_b6
      rw [wp_ite, if_neg (by rw [n3_le (by omega) (by omega)]; omega), wp_bnd, hMo_getR4 E rfl, wp_bnd]
      simp (disch := omega) only [↓wp_bnd, ↓wp_ret, ↓mAr E, mAr E, ↓mAs E, mAs E, hu (p + k) (show p + k < sz by omega), m_letter hok]
      rw [n3_n6 (by omega), show (37 : Int64) * n6 (nmW (txP u p (p + k))) = n6 (37 * nmW (txP u p (p + k))) from n6_mul 37 _, n6_add, n3_suc, ← nmW_sn, ← txP_suc]
      exact ih
  have := key (e - p) 0 sd_FU (by omega) (by unfold sd_FU; omega)
  rw [Nat.add_zero, txP_nil] at this
  exact this
/-- what the array of values holds of a token -/
def valO (kd : Nat) (l : List Nat) (z : Int64) : Prop := (kd = 31 → z = n6 (nmV l)) ∧ (kd < 29 ∨ kd = 30 → z = n6 (nmW l))
theorem m_kindOf {p ix : Nat} {Q : Int32 → sd_H → Nat × Nat → Prop} (E : mOk n ρ ad) (w : wfH G (hMo n ρ ad K v x y)) (hW : strsC G (sd_ad G 18) kws) (h2 : v 2 = n3 sz) (hs : sz ≤ 2000) (hu : ∀ k, k < sz → x 1 k = n3 (u k)) (h256 : ∀ k, k < sz → u k < 256) (hp : p < sz) (hi : ix < 401) (kk : ∀ y', (∀ j, j ≠ 8 → y' j = y j) → (∀ j, j ≠ ix → y' 8 j = y 8 j) → valO (knP u sz p) (txP u p (enP u sz p)) (y' 8 ix) → Q (n3 (knP u sz p)) (hMo n ρ ad K v x y') b) : wp (fX5_kindOf G (ad 0) (n3 ix) (n3 p) (n3 (enP u sz p))) (hMo n ρ ad K v x y) b Q := by
  have he := enP_le (u := u) hp
  have hg := enP_gt (u := u) (sz := sz) (p := p)
  have bq : btI u sz p = n3 (u p) := if_pos hp
  have h1 := h256 p hp
  have hsub : n3 (enP u sz p) - n3 p = n3 (enP u sz p - p) := n3_sub (by omega)
  have up : ∀ z, (∀ j, j ≠ 8 → up2L y 8 ix z j = y j) ∧ (∀ j, j ≠ ix → up2L y 8 ix z 8 j = y 8 j) ∧ up2L y 8 ix z 8 ix = z := by
    intro z
    refine ⟨fun j hj => if_neg hj, fun j hj => ?_, ?_⟩
    · unfold up2L
      rw [if_pos rfl]
      exact if_neg hj
    · unfold up2L
      rw [if_pos rfl]
      exact if_pos rfl
  unfold fX5_kindOf
  rw [wp_bnd, hMo_isC4 E, wp_bnd, m_byteOf E h2 hs hu (by omega), wp_ite, if_neg (by rw [bq]; exact n3_ne1 (by omega)), wp_bnd, m_dig h256]
  have ed : dch u sz p = isD (u p) := by
    unfold dch
    rw [decide_eq_true hp, Bool.true_and]
  rw [ed]
  unfold knP at kk
  cases cd : isD (u p) with
  | true =>
    rw [cd, if_pos rfl] at kk
    rw [wp_ite, if_neg (show ¬ bI true = 0 by decide), hsub, wp_ite]
    by_cases c6 : enP u sz p - p ≤ 6
    · rw [if_pos c6] at kk
      rw [if_pos (show n3 (enP u sz p - p) ≤ 6 from by rw [show (6 : Int32) = n3 6 from rfl, n3_le (by omega) (by omega)]; exact c6), wp_bnd, hMo_isC4 E, wp_bnd, m_numberAt (sz := sz) (u := u) E hs hu h256 (fun k h1 h2 => ?_) (by omega) he c6 hi, wp_ret]
      · obtain ⟨y1, y2, y3⟩ := up (n6 (nmV (txP u p (enP u sz p))))
        exact kk _ y1 y2 ⟨fun _ => y3, fun h => by omega⟩
      · refine dig_tx (sz := sz) cd _ ?_
        unfold txP
        rw [List.mem_map]
        exact ⟨k - p, List.mem_range.mpr (by omega), by rw [show p + (k - p) = k by omega]⟩
    · rw [if_neg c6] at kk
      rw [if_neg (show ¬ n3 (enP u sz p - p) ≤ 6 from by rw [show (6 : Int32) = n3 6 from rfl, n3_le (by omega) (by omega)]; exact c6), wp_ret]
      exact kk y (fun _ _ => rfl) (fun _ _ => rfl) ⟨fun h => by omega, fun h => by omega⟩
  | false =>
    rw [cd, if_neg (show ¬ false = true by decide)] at kk
    rw [wp_ite, if_pos (show bI false = 0 from rfl), wp_bnd, m_small h256, decide_eq_true hp, Bool.true_and, wp_ite]
    cases cl : isL (u p) with
    | true =>
      rw [cl, if_pos rfl] at kk
      rw [if_neg (show ¬ bI true = 0 by decide), hsub, wp_ite]
      by_cases c10 : enP u sz p - p ≤ 10
      · rw [if_pos c10] at kk
        rw [if_pos (show n3 (enP u sz p - p) ≤ 10 from by rw [show (10 : Int32) = n3 10 from rfl, n3_le (by omega) (by omega)]; exact c10), wp_bnd, hMo_isC4 E, wp_bnd, m_wordAt E w hW hs hu (okN_tx cl) (by omega) he c10 hi, wp_ret]
        obtain ⟨y1, y2, y3⟩ := up (n6 (nmW (txP u p (enP u sz p))))
        refine kk _ y1 y2 ⟨fun h => ?_, fun _ => y3⟩
        rcases kwI_lt (txP u p (enP u sz p)) with h0 | h0 <;> omega
      · rw [if_neg c10] at kk
        rw [if_neg (show ¬ n3 (enP u sz p - p) ≤ 10 from by rw [show (10 : Int32) = n3 10 from rfl, n3_le (by omega) (by omega)]; exact c10), wp_ret]
        exact kk y (fun _ _ => rfl) (fun _ _ => rfl) ⟨fun h => by omega, fun h => by omega⟩
    | false =>
      rw [cl, if_neg (show ¬ false = true by decide)] at kk
      rw [if_pos (show bI false = 0 from rfl), hsub, wp_ite]
      by_cases c2 : enP u sz p - p = 2
      · rw [if_pos c2] at kk
        rw [if_pos (show n3 (enP u sz p - p) = 2 from by rw [c2]; rfl), wp_ret, bq, show (256 : Int32) = n3 256 from rfl, n3_add]
        exact kk y (fun _ _ => rfl) (fun _ _ => rfl) ⟨fun h => by omega, fun h => by omega⟩
      · rw [if_neg c2] at kk
        rw [if_neg (show ¬ n3 (enP u sz p - p) = 2 from by rw [show (2 : Int32) = n3 2 from rfl, n3_eq (by omega) (by omega)]; exact c2), bq]
        have kk := kk y (fun _ _ => rfl) (fun _ _ => rfl)
        have nl : ¬ (97 ≤ u p ∧ u p ≤ 122) := by
          unfold isL at cl
          intro h
          rw [decide_eq_true h.1, decide_eq_true h.2] at cl
          cases cl
        by_cases cs : sym (u p) = true
        · rw [if_pos cs] at kk
          unfold sym at cs
          simp only [Bool.or_eq_true, decide_eq_true_eq] at cs
          have kk := kk ⟨fun h => by omega, fun h => by omega⟩
          refine wp_cas (fun _ => by rw [wp_ret]; exact kk) (fun c40 => ?_)
          refine wp_cas (fun _ => by rw [wp_ret]; exact kk) (fun c41 => ?_)
          refine wp_cas (fun _ => by rw [wp_ret]; exact kk) (fun c91 => ?_)
          refine wp_cas (fun _ => by rw [wp_ret]; exact kk) (fun c93 => ?_)
          refine wp_cas (fun _ => by rw [wp_ret]; exact kk) (fun c59 => ?_)
          refine wp_cas (fun _ => by rw [wp_ret]; exact kk) (fun c44 => ?_)
          refine wp_cas (fun _ => by rw [wp_ret]; exact kk) (fun c43 => ?_)
          refine wp_cas (fun _ => by rw [wp_ret]; exact kk) (fun c45 => ?_)
          refine wp_cas (fun _ => by rw [wp_ret]; exact kk) (fun c42 => ?_)
          refine wp_cas (fun _ => by rw [wp_ret]; exact kk) (fun c47 => ?_)
          refine wp_cas (fun _ => by rw [wp_ret]; exact kk) (fun c60 => ?_)
          refine wp_cas (fun _ => by rw [wp_ret]; exact kk) (fun c62 => ?_)
          refine wp_cas (fun _ => by rw [wp_ret]; exact kk) (fun c61 => ?_)
          exfalso
          have nn : ∀ k, ¬ n3 (u p) = n3 k → u p ≠ k := fun k h e => h (by rw [e])
          have := nn 40 c40
          have := nn 41 c41
          have := nn 91 c91
          have := nn 93 c93
          have := nn 59 c59
          have := nn 44 c44
          have := nn 43 c43
          have := nn 45 c45
          have := nn 42 c42
          have := nn 47 c47
          have := nn 60 c60
          have := nn 62 c62
          have := nn 61 c61
          omega
        · rw [if_neg cs] at kk
          unfold sym at cs
          simp only [Bool.or_eq_true, decide_eq_true_eq, not_or] at cs
          have kk := kk ⟨fun h => by omega, fun h => by omega⟩
          refine wp_cas (fun h => ?_) (fun _ => ?_)
          · have : u p = 40 := by
              have h : n3 (u p) = n3 40 := h
              rw [n3_eq (by omega) (by omega)] at h
              exact h
            omega
          refine wp_cas (fun h => ?_) (fun _ => ?_)
          · have : u p = 41 := by
              have h : n3 (u p) = n3 41 := h
              rw [n3_eq (by omega) (by omega)] at h
              exact h
            omega
          refine wp_cas (fun h => ?_) (fun _ => ?_)
          · have : u p = 91 := by
              have h : n3 (u p) = n3 91 := h
              rw [n3_eq (by omega) (by omega)] at h
              exact h
            omega
          refine wp_cas (fun h => ?_) (fun _ => ?_)
          · have : u p = 93 := by
              have h : n3 (u p) = n3 93 := h
              rw [n3_eq (by omega) (by omega)] at h
              exact h
            omega
          refine wp_cas (fun h => ?_) (fun _ => ?_)
          · have : u p = 59 := by
              have h : n3 (u p) = n3 59 := h
              rw [n3_eq (by omega) (by omega)] at h
              exact h
            omega
          refine wp_cas (fun h => ?_) (fun _ => ?_)
          · have : u p = 44 := by
              have h : n3 (u p) = n3 44 := h
              rw [n3_eq (by omega) (by omega)] at h
              exact h
            omega
          refine wp_cas (fun h => ?_) (fun _ => ?_)
          · have : u p = 43 := by
              have h : n3 (u p) = n3 43 := h
              rw [n3_eq (by omega) (by omega)] at h
              exact h
            omega
          refine wp_cas (fun h => ?_) (fun _ => ?_)
          · have : u p = 45 := by
              have h : n3 (u p) = n3 45 := h
              rw [n3_eq (by omega) (by omega)] at h
              exact h
            omega
          refine wp_cas (fun h => ?_) (fun _ => ?_)
          · have : u p = 42 := by
              have h : n3 (u p) = n3 42 := h
              rw [n3_eq (by omega) (by omega)] at h
              exact h
            omega
          refine wp_cas (fun h => ?_) (fun _ => ?_)
          · have : u p = 47 := by
              have h : n3 (u p) = n3 47 := h
              rw [n3_eq (by omega) (by omega)] at h
              exact h
            omega
          refine wp_cas (fun h => ?_) (fun _ => ?_)
          · have : u p = 60 := by
              have h : n3 (u p) = n3 60 := h
              rw [n3_eq (by omega) (by omega)] at h
              exact h
            omega
          refine wp_cas (fun h => ?_) (fun _ => ?_)
          · have : u p = 62 := by
              have h : n3 (u p) = n3 62 := h
              rw [n3_eq (by omega) (by omega)] at h
              exact h
            omega
          refine wp_cas (fun h => ?_) (fun _ => ?_)
          · have : u p = 61 := by
              have h : n3 (u p) = n3 61 := h
              rw [n3_eq (by omega) (by omega)] at h
              exact h
            omega
          rw [wp_ret]
          exact kk
end MCU
