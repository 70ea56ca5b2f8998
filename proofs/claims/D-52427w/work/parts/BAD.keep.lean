/-! THE PLAIN LAW: what stays through a line of the second walk -/
theorem fdK_ext {kt : Nat → List Nat} {l l' : List Nat} {k j : Nat} (h : fdK kt l (List.range k) = some j) : fdK (updT kt k l') l (List.range (k + 1)) = some j := by
  unfold fdK at *
  rw [List.range_succ, List.find?_append]
  have e : (List.range k).find? (fun j => decide (updT kt k l' j = l)) = (List.range k).find? (fun j => decide (kt j = l)) := by
    have key : ∀ (L : List Nat), (∀ j, j ∈ L → j < k) → L.find? (fun j => decide (updT kt k l' j = l)) = L.find? (fun j => decide (kt j = l)) := by
      intro L
      induction L with
      | nil => intro _; rfl
      | cons a r ih =>
        intro hL
        have ea : updT kt k l' a = kt a := updT_ne (by have := hL a (by simp); omega)
        have ih := ih (fun j hj => hL j (by simp [hj]))
        by_cases c : kt a = l
        · rw [List.find?_cons_of_pos (p := fun j => decide (updT kt k l' j = l)) (by rw [ea]; exact decide_eq_true c), List.find?_cons_of_pos (p := fun j => decide (kt j = l)) (decide_eq_true c)]
        · rw [List.find?_cons_of_neg (p := fun j => decide (updT kt k l' j = l)) (by rw [ea, decide_eq_false c]; exact Bool.false_ne_true), List.find?_cons_of_neg (p := fun j => decide (kt j = l)) (by rw [decide_eq_false c]; exact Bool.false_ne_true)]
          exact ih
    exact key _ (fun j hj => List.mem_range.mp hj)
  rw [e, h]
  rfl
theorem wkF_ext {w : Int32} {k : Nat} {kt : Nat → List Nat} {u : Nat → Nat} {sz t : Nat} {l : List Nat} (hw : w ≠ 0) (h : wkF w k kt u sz t ≠ none) : wkF w (k + 1) (updT kt k l) u sz t = wkF w k kt u sz t := by
  unfold wkF at *
  rw [if_neg hw] at h ⊢
  rw [if_neg hw]
  cases hd : fdK kt (txT u sz t) (List.range k) with
  | none => exact absurd hd h
  | some j => exact fdK_ext hd
theorem res_eq {wk wk' : Nat → Option Nat} {ks : List Nat} (hu : fstU wk ks = none) (hw : ∀ t, wk t ≠ none → wk' t = wk t) : ∀ (ws : List (Int32 × Int32)), (∀ z, z ∈ ws → abR z → ∃ k, k ∈ ks ∧ z.2 = n3 k ∧ k ≤ 1000) → res wk' ws = res wk ws := by
  intro ws h
  refine List.map_congr_left (fun z hz => ?_)
  unfold resR
  by_cases c : z.1 = 19 ∨ z.1 = 20 ∨ z.1 = 22
  · rw [if_pos c, if_pos c]
    obtain ⟨k, k1, k2, k3⟩ := h z hz c
    rw [k2, n3_nn (by omega)]
    have : wk k ≠ none := by
      intro q
      have := List.find?_eq_none.mp hu k k1
      exact this (by rw [q]; rfl)
    rw [hw k this]
  · rw [if_neg c, if_neg c]
/-- rows about names, of a line -/
theorem pLin_abt {u : Nat → Nat} {sz i : Nat} {l : Ln} (hi : i ≤ nT u sz) (h : pLin (kdT u sz) (vlT u sz) i = .inl l) : (∀ z, z ∈ l.2.2.1 → abR z → ∃ k, k ∈ l.2.2.2.2 ∧ z.2 = n3 k ∧ k ≤ 1000) ∧ (∀ z, z ∈ l.2.2.2.1 → abR z → ∃ k, k ∈ l.2.2.2.2 ∧ z.2 = n3 k ∧ k ≤ 1000) := by
  have lN := nT_le (u := u) (sz := sz)
  have ok := pLin_ok (vl := vlT u sz) (tkT (u := u) (sz := sz)) hi
  rw [h] at ok
  have kb : ∀ k, k ∈ l.2.2.2.2 → k ≤ 1000 := by
    intro k hk
    have := (ok.2.2.2.2 k hk).2.1
    have := ok.2.2.1
    omega
  have emp : ∀ cs, tmL (kdT u sz) i cs = .inl l → l.2.2.1 = [] ∧ l.2.2.2.1 = [] := by
    intro cs q
    unfold tmL at q
    cases ht : tmp (kdT u sz) (i + 1) cs with
    | inl j =>
      rw [ht] at q
      cases q
      exact ⟨rfl, rfl⟩
    | inr j =>
      rw [ht] at q
      cases q
  have fin : l.2.2.1 = [] ∧ l.2.2.2.1 = [] → (∀ z, z ∈ l.2.2.1 → abR z → ∃ k, k ∈ l.2.2.2.2 ∧ z.2 = n3 k ∧ k ≤ 1000) ∧ (∀ z, z ∈ l.2.2.2.1 → abR z → ∃ k, k ∈ l.2.2.2.2 ∧ z.2 = n3 k ∧ k ≤ 1000) := by
    rintro ⟨q1, q2⟩
    rw [q1, q2]
    exact ⟨(fun z hz => by cases hz), (fun z hz => by cases hz)⟩
  unfold pLin at h
  by_cases c : kdT u sz i = 11 ∨ kdT u sz i = 12 ∨ kdT u sz i = 13
  · rw [if_pos c] at h
    have hi1 : i + 1 ≤ nT u sz := by
      rcases c with c | c | c <;> exact tk_lt31 hi c (by decide) (by decide)
    unfold pOrd at h
    cases hx : pX (kdT u sz) (vlT u sz) 0 (i + 1) with
    | inr j =>
      rw [hx] at h
      cases h
    | inl t =>
      obtain ⟨j, ws, ks⟩ := t
      rw [hx] at h
      have a1 : abt (.inl (j, ws, ks)) := by
        have := pE_abt 7000 0 (i + 1) 0 _ (pX_eq (vl := vlT u sz) (tkT (u := u) (sz := sz)) hi1)
        rw [hx] at this
        exact this
      have hj : j ≤ nT u sz := by
        have := pX_ok (vl := vlT u sz) (c := 0) (tkT (u := u) (sz := sz)) hi1
        rw [hx] at this
        exact this.2.1
      have h : (if kdT u sz j = 14 then (match pX (kdT u sz) (vlT u sz) 5 (j + 1) with
        | .inr j2 => .inr j2
        | .inl (j2, w2, ks2) => .inl (i, j2, ws, w2, ks ++ ks2)) else .inl (i, j, ws, [], ks) : Ln ⊕ Nat) = .inl l := h
      by_cases c14 : kdT u sz j = 14
      · rw [if_pos c14] at h
        have hj1 : j + 1 ≤ nT u sz := tk_lt31 hj c14 (by decide) (by decide)
        cases hx2 : pX (kdT u sz) (vlT u sz) 5 (j + 1) with
        | inr j2 =>
          rw [hx2] at h
          cases h
        | inl t2 =>
          obtain ⟨j2, ws2, ks2⟩ := t2
          rw [hx2] at h
          cases h
          have a2 : abt (.inl (j2, ws2, ks2)) := by
            have := pE_abt 7000 5 (j + 1) 0 _ (pX_eq (vl := vlT u sz) (tkT (u := u) (sz := sz)) hj1)
            rw [hx2] at this
            exact this
          refine ⟨fun z hz ha => ?_, fun z hz ha => ?_⟩
          · obtain ⟨k, k1, k2⟩ := a1 z hz ha
            exact ⟨k, List.mem_append.mpr (Or.inl k1), k2, kb k (List.mem_append.mpr (Or.inl k1))⟩
          · obtain ⟨k, k1, k2⟩ := a2 z hz ha
            exact ⟨k, List.mem_append.mpr (Or.inr k1), k2, kb k (List.mem_append.mpr (Or.inr k1))⟩
      · rw [if_neg c14] at h
        cases h
        refine ⟨fun z hz ha => ?_, (fun z hz => by cases hz)⟩
        obtain ⟨k, k1, k2⟩ := a1 z hz ha
        exact ⟨k, k1, k2, kb k k1⟩
  · rw [if_neg c] at h
    by_cases c2 : kdT u sz i = 2
    · rw [if_pos c2] at h
      exact fin (emp _ h)
    · rw [if_neg c2] at h
      by_cases c7 : kdT u sz i = 7
      · rw [if_pos c7] at h
        exact fin (emp _ h)
      · rw [if_neg c7] at h
        by_cases c5 : kdT u sz i = 5
        · rw [if_pos c5] at h
          exact fin (emp _ h)
        · rw [if_neg c5] at h
          by_cases c6 : kdT u sz i = 6
          · rw [if_pos c6] at h
            exact fin (emp _ h)
          · rw [if_neg c6] at h
            cases h
section KEP
variable {G : sd_G} {u : Nat → Nat} {sz n0 n2 n4 tl so m rd E0 k i : Nat} {ta tx : Nat → Nat} {w : Int32} {ky nd iv : Nat → Nat} {kt : Nat → List Nat} {F ad : Nat → Nat} {mcs : Nat → Int32} {TZ M : Nat → Prop} {x x' : Nat → Nat → Int32} {h h' : sd_H} {ne ne' : Nat} {wk wk' : Nat → Option Nat} {L L' : Nat → sd_E → Prop} {os os' : List Ln}
theorem ORd_kp {l : Ln} {o : Nat} (hl : l.1 ≤ nT u sz) (hL : ∀ a c, L a c → L' a c) (hne : ne ≤ ne') (hwk : ∀ t, wk t ≠ none → wk' t = wk t) (E : ORd G (kdT u sz) (vlT u sz) ne wk L l o) : ORd G (kdT u sz) (vlT u sz) ne' wk' L' l o := by
  obtain ⟨cr, se, te, jj, e1, e2, e3, e4, e5, e6, e7, e8⟩ := E
  obtain ⟨b1, b2⟩ := pLin_abt hl e8
  refine ⟨cr, se, te, jj, hL _ _ e1, e2, e3, e4, ?_, ?_, ?_, e8⟩
  · rw [res_eq e7 hwk _ b1]
    exact isSm_mono hL hne _ _ _ _ _ _ (Nat.le_refl _) (Nat.le_refl _) e5
  · rcases e6 with e6 | e6
    · refine Or.inl ?_
      rw [res_eq e7 hwk _ b2]
      exact isTs_mono hL hne _ _ _ _ (Nat.le_refl _) e6
    · exact Or.inr ⟨hL _ _ e6.1, e6.2⟩
  · unfold fstU at *
    rw [List.find?_eq_none] at *
    intro t ht
    have := e7 t ht
    have n : wk t ≠ none := fun q => this (by rw [q]; rfl)
    rw [hwk t n]
    exact this
theorem EL2_kp {kk j o : Nat} (hosn : ∀ l, l ∈ os → l.1 ≤ nT u sz) (E : EL2 G (kdT u sz) (vlT u sz) x ne wk L os h kk j o) (ob : ∀ d' fs, h.2 o = some (.inr (d', fs)) → d' = 10 ∨ d' = 11 → h'.2 o = some (.inr (d', fs))) (hx3 : kk = 3 → x' 24 j = x 24 j ∧ x' 25 j = x 25 j) (hx4 : kk = 4 → x' 27 j = x 27 j ∧ x' 29 j = x 29 j ∧ strm x' j = strm x j) (hL : ∀ a c, L a c → L' a c) (hne : ne ≤ ne') (hwk : ∀ t, wk t ≠ none → wk' t = wk t) (hos : ∀ l, os[j]? = some l → os'[j]? = some l) : EL2 G (kdT u sz) (vlT u sz) x' ne' wk' L' os' h' kk j o := by
  obtain ⟨e1, e2, e3⟩ := E
  refine ⟨fun q => ?_, fun q => ?_, fun q => ?_⟩
  · rw [(hx3 q).1, (hx3 q).2]
    exact ob _ _ (e1 q) (Or.inl rfl)
  · rw [(hx4 q).1, (hx4 q).2.1, (hx4 q).2.2]
    exact ob _ _ (e2 q) (Or.inr rfl)
  · obtain ⟨l, l1, l2⟩ := e3 q
    exact ⟨l, hos l l1, ORd_kp (hosn l (List.mem_of_getElem? l1)) hL hne hwk l2⟩
theorem EL2_ok {kk j o : Nat} (wf : wfH G h) (k3 : 3 ≤ kk) (k5 : kk ≤ 5) (E : EL2 G (kdT u sz) (vlT u sz) x ne wk (Lp G (PZ n0 rd (nmA u sz tx) TZ) h) os h kk j o) : sd_okQ G h 4 (some o) = true := by
  have go : ∀ d' fs, sd_look G h o = some (.inr (d', fs)) → sd_may 4 d' = true → sd_okQ G h 4 (some o) = true := by
    intro d' fs q1 q2
    unfold sd_okQ
    simp only [q1]
    exact q2
  obtain ⟨e1, e2, e3⟩ := E
  have : kk = 3 ∨ kk = 4 ∨ kk = 5 := by omega
  rcases this with q | q | q
  · exact go _ _ (sd_look_new (e1 q)) rfl
  · exact go _ _ (sd_look_new (e2 q)) rfl
  · obtain ⟨l, -, cr, se, te, jj, e4, -⟩ := e3 q
    exact go _ _ (Lp_look wf e4) rfl
theorem E0_kp {rr sz' : Nat → Nat} {EL : Nat → Nat → Nat → Prop} {a t : Nat} {y : vp_A} (wf : wfH G h) (R : RC G u sz n0 tl ta tx rd w so m k ky nd iv kt i 0 h) (A : LL G n2 F rr sz' EL h) (fr : lfr rd (nmA u sz tx) n0 M h h') (hM : okM F rr h M) (ha : h.2 a = some (.inl (t, y))) (ht : t = 0) : h'.2 a = some (.inl (t, y)) := by
  refine fr.2 _ _ ha ?_ ?_ ?_ (fun q => ?_)
  · rintro rfl
    rw [R.2.1] at ha
    cases ha
  · intro q
    obtain ⟨v, hs, hz', e'⟩ := nmA_s R.1 _ _ q ha
    cases e'
  · rw [ht]
    rfl
  · rcases hM a q with ⟨k', k1, k2, q' | q'⟩ | ⟨fs', q'⟩
    · obtain ⟨mc, cap, f, a1, -⟩ := A.1 k' k1 k2
      rw [q', a1.1] at ha
      cases ha
    · obtain ⟨mc, cap, f, a1, -⟩ := A.1 k' k1 k2
      rcases a1.2.1 with ⟨q3, -⟩ | ⟨q3, -⟩
      · rw [q', q3, (wfH_z0 wf).1] at ha
        cases ha
      · rw [q', q3] at ha
        cases ha
        cases ht
    · rw [ha] at q'
      cases q'
end KEP
