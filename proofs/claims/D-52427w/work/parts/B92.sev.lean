/-! THE PLAIN LAW: several tests under way -/
theorem bud_sh {β b : Nat × Nat} {v c : Nat} : bud β b (v + c) ↔ bud (β.1 + c, β.2 + 20 * c) b v := by
  unfold bud
  constructor
  · rintro ⟨h1, h2⟩
    exact ⟨by simp only; omega, by simp only; omega⟩
  · rintro ⟨h1, h2⟩
    simp only at h1 h2
    exact ⟨by omega, by omega⟩
theorem joiR_sn {al : Bool} {p : Nat × List (Int32 × Int32)} {ws : List (Nat × List (Int32 × Int32))} (h : 1 ≤ ws.length) : joiR al (ws ++ [p]) = joiR al ws ++ (p.2 ++ [(oprO al, 0)]) := by
  cases ws with
  | nil =>
    have h : 1 ≤ 0 := h
    omega
  | cons q r =>
    show q.2 ++ (r ++ [p]).flatMap _ = q.2 ++ r.flatMap _ ++ _
    rw [List.flatMap_append, ← List.append_assoc]
    congr 1
    show _ ++ [] = _
    rw [List.append_nil]
section SEV
variable {G : sd_G} {u : Nat → Nat} {sz n0 n1 tl so m rd k : Nat} {ta tx : Nat → Nat} {w : Int32} {ky nd iv : Nat → Nat} {kt : Nat → List Nat} {β b : Nat × Nat} {h h' hs : sd_H} {i d v ne lv : Nat} {al : Bool} {o l r cap : Nat} {mc : Int32} {f : Nat → Option Nat} {ws : List (Nat × List (Int32 × Int32))}
theorem FK_be {α : Type} {Q : α ⊕ Nat → sd_H → Nat × Nat → Prop} {wk : Nat → Option Nat} {r : PR} {c : Nat} (kf : FK G u sz tx rd wk r h β Q) : FK G u sz tx rd wk r h (β.1 + c, β.2 + 20 * c) Q := fun er t h2 q b' q1 q2 q3 q4 q5 => kf er t h2 q b' q1 q2 q3 q4 (bud_le (bud_sh.mpr q5) (Nat.zero_le _))
/-- all or any of the tests ws so far; made since s -/
def SV (G : sd_G) (u : Nat → Nat) (sz n0 : Nat) (tx : Nat → Nat) (rd n1 ne : Nat) (al : Bool) (o l : Nat) (mc : Int32) (r cap : Nat) (f : Nat → Option Nat) (ws : List (Nat × List (Int32 × Int32))) (lv s : Nat) (h : sd_H) : Prop := h.2 o = some (.inr (18, [.int (bI al), .ref l])) ∧ lsO G h l mc r ws.length cap f ∧ s ≤ o ∧ s ≤ l ∧ (r = sd_ad G 0 ∨ s ≤ r) ∧ ∀ (q : Nat) p, ws[q]? = some p → f q = some p.1 ∧ isTs ne (Lp G (fun a e => Rg n0 n1 rd (nmA u sz tx) s a e ∧ a ≠ l ∧ a ≠ r) h) lv p.1 p.2
theorem SV_done {s : Nat} (wf : wfH G h) (S : SV G u sz n0 tx rd n1 ne al o l mc r cap f ws lv s h) (h1 : 1 ≤ ws.length) : isTs ne (Lp G (Rg n0 n1 rd (nmA u sz tx) s) h) (lv + 1) o (joiR al ws) := by
  obtain ⟨s1, ⟨t1, t2, t3, t4⟩, s3, s4, s5, s6⟩ := S
  have hr : h.2 r = some (aR cap f) ∧ s ≤ r := by
    rcases t2 with ⟨-, q, -⟩ | ⟨q, -⟩
    · omega
    · rcases s5 with e | e
      · rw [e, (wfH_z0 wf).1] at q
        cases q
      · exact ⟨q, e⟩
  refine Or.inl ⟨al, l, mc, r, cap, f, ws, Or.inl ⟨s1, Or.inl s3⟩, Or.inl ⟨t1, Or.inl s4⟩, Or.inl ⟨hr.1, Or.inl hr.2⟩, t3, t4, h1, fun q p hq => ⟨(s6 q p hq).1, ?_⟩, rfl⟩
  exact isTs_mono (Lp_go (fun a e ha hp => ⟨ha, hp.1⟩)) (Nat.le_refl _) _ _ _ _ (Nat.le_refl _) (s6 q p hq).2
theorem SV_xf {s : Nat} (R : RW G u sz n0 tl ta tx rd w so m k ky nd iv kt n1 i d h) (hn : n1 ≤ s) (S : SV G u sz n0 tx rd n1 ne al o l mc r cap f ws lv s h) (X : xf rd (nmA u sz tx) h h') : SV G u sz n0 tx rd n1 ne al o l mc r cap f ws lv s h' := by
  obtain ⟨s1, ⟨t1, t2, t3, t4⟩, s3, s4, s5, s6⟩ := S
  have kp : ∀ a e, s ≤ a → h.2 a = some e → h'.2 a = some e := fun a e ha he => X.2.1 a e he (RW_nw R (by omega)).1 (RW_nw R (by omega)).2
  refine ⟨kp _ _ s3 s1, ⟨kp _ _ s4 t1, ?_, t3, t4⟩, s3, s4, s5, fun q p hq => ⟨(s6 q p hq).1, ?_⟩⟩
  · rcases t2 with q | ⟨q, q2⟩
    · exact Or.inl q
    · rcases s5 with e | e
      · rw [e, (wfH_z0 R.1).1] at q
        cases q
      · exact Or.inr ⟨kp _ _ e q, q2⟩
  · refine isTs_mono (Lp_go (fun a e ha hp => ⟨?_, hp⟩)) (Nat.le_refl _) _ _ _ _ (Nat.le_refl _) (s6 q p hq).2
    obtain ⟨p1, p2⟩ := Rg_xf R hn hp.1
    exact X.2.1 a e ha p1 p2
theorem okQ_ts {P : Nat → sd_E → Prop} {a : Nat} {x : List (Int32 × Int32)} (wf : wfH G h) (T : isTs ne (Lp G P h) lv a x) : sd_okQ G h 4 (some a) = true := by
  obtain ⟨ci, fs, z1, z2⟩ := isTs_cls T
  unfold sd_okQ
  simp only [Lp_look wf z1]
  revert z2
  revert ci
  intro ci z1 z2
  simp only [List.mem_cons, List.not_mem_nil, or_false] at z2
  rcases z2 with rfl | rfl | rfl | rfl | rfl | rfl <;> rfl
/-- a test more -/
theorem w_add {s1 a v' : Nat} {x : List (Int32 × Int32)} {Q : Int32 → sd_H → Nat × Nat → Prop} (hw : wfH G hs) (X : xf rd (nmA u sz tx) hs h) (R : RW G u sz n0 tl ta tx rd w so m k ky nd iv kt n1 i d h) (hn : n1 ≤ hs.1) (S : SV G u sz n0 tx rd n1 ne al o l mc r cap f ws lv hs.1 h) (T : isTs ne (Lp G (Rg n0 n1 rd (nmA u sz tx) s1) h) lv a x) (hl : l < s1) (hr : r < s1) (hlen : ws.length ≤ 400) (hb : bud β b v) (hv : v' + 1 ≤ v) (hv2 : 20 * v' + (2 * ws.length + 10) ≤ 20 * v)
    (kk : ∀ h' b' mc' r' cap' f', RW G u sz n0 tl ta tx rd w so m k ky nd iv kt n1 i d h' → SV G u sz n0 tx rd n1 ne al o l mc' r' cap' f' (ws ++ [(a, x)]) lv hs.1 h' → xf rd (nmA u sz tx) hs h' → r' < h'.1 → bud β b' v' → Q 1 h' b') : wp (fJ2_add G l a) h b Q := by
  have S0 := S
  obtain ⟨c1, c2, c3, c4, c5, c6⟩ := S
  have hb1 := hb.1
  have hb2 := hb.2
  have z0 := wfH_z0 R.1
  have lo := (R.1.1 _ _ c1).2
  have X1 := X.1
  have lenq : ∀ (q : Nat) p, ws[q]? = some p → q < ws.length := by
    intro q p hq
    rcases Nat.lt_or_ge q ws.length with e | e
    · exact e
    · rw [List.getElem?_eq_none e] at hq
      cases hq
  have rne : ∀ z e, h.2 z = some e → z < hs.1 → z ≠ r := by
    rintro z e hz hlt rfl
    rcases c5 with e5 | e5
    · rw [e5, z0.1] at hz
      cases hz
    · omega
  have ol : o ≠ l := by
    rintro rfl
    rw [c2.1] at c1
    cases c1
  have orr : o ≠ r := by
    rintro rfl
    rcases c2.2.1 with ⟨q, -⟩ | ⟨q, -⟩
    · rw [q, z0.1] at c1
      cases c1
    · rw [q] at c1
      cases c1
  refine g_add R.1 c2 (by omega) (fun j hj => ?_) (okQ_ts R.1 T) (by omega) (by omega) (fun h' r' cap' f' b' w' L' k1 k2 k3 k4 k5 k6 k7 => ?_)
  · have hx : ws[j]? = some ws[j] := List.getElem?_eq_getElem hj
    rw [(c6 j _ hx).1]
    exact okQ_ts R.1 (c6 j _ hx).2
  · have r'lt : r' < h'.1 := by
      rcases L'.2.1 with ⟨q, -⟩ | ⟨q, -⟩
      · have := w'.2.1
        omega
      · exact (w'.1 _ _ q).2
    have r'ne : ∀ z e, h.2 z = some e → z ≠ r → z ≠ r' := by
      intro z e hz hne
      rcases k4 with ⟨-, q⟩ | ⟨-, -, q, -⟩
      · rw [q]
        exact hne
      · have := (R.1.1 _ _ hz).2
        omega
    refine kk h' b' (mc + 1) r' cap' f' (RW_fr w' k3 R (fun z e hz he => ?_)) ⟨?_, ?_, c3, c4, ?_, fun q p hq => ?_⟩ ⟨by omega, fun z e hz q1 q2 => ?_, fun z hz q1 q2 => ?_⟩ r'lt ⟨by omega, by omega⟩
    · rw [k5 z (by omega) (rne z e he (by omega)) (R.1.1 _ _ he).2]
      exact he
    · rw [k5 o ol orr lo]
      exact c1
    · rw [List.length_append]
      exact L'
    · rcases k4 with ⟨-, q⟩ | ⟨-, -, q, -⟩
      · rw [q]
        exact c5
      · exact Or.inr (by omega)
    · by_cases hq2 : q < ws.length
      · rw [List.getElem?_append_left hq2] at hq
        obtain ⟨g1, g2⟩ := c6 q p hq
        refine ⟨(k1 q hq2).trans g1, isTs_mono (Lp_go (fun z e hz hp => ⟨?_, hp.1, hp.2.1, r'ne z e hz hp.2.2⟩)) (Nat.le_refl _) _ _ _ _ (Nat.le_refl _) g2⟩
        rw [k5 z hp.2.1 hp.2.2 (R.1.1 _ _ hz).2]
        exact hz
      · have hq3 := lenq
        rw [List.getElem?_append_right (by omega)] at hq
        have hq4 : q - ws.length = 0 := by
          rcases Nat.eq_zero_or_pos (q - ws.length) with e | e
          · exact e
          · rw [List.getElem?_eq_none (by show 1 ≤ _; exact e)] at hq
            cases hq
        rw [hq4] at hq
        cases hq
        rw [show q = ws.length by omega]
        refine ⟨k2, isTs_mono (Lp_go (fun z e hz hp => ?_)) (Nat.le_refl _) _ _ _ _ (Nat.le_refl _) T⟩
        have zl : z ≠ l := Rg_lt (n0 := n0) (n1 := n1) (rd := rd) (u := u) (sz := sz) (tx := tx) (by omega) hl hp
        have zr : z ≠ r := by
          rcases hp with q | q
          · omega
          · exact rne z e hz (by omega)
        refine ⟨by rw [k5 z zl zr (R.1.1 _ _ hz).2]; exact hz, ?_, zl, r'ne z e hz zr⟩
        rcases hp with q | q
        · exact Or.inl (by omega)
        · exact Or.inr q
    · have e1 := X.2.1 z e hz q1 q2
      have e2 := (hw.1 _ _ hz).2
      rw [k5 z (by omega) (rne z e e1 e2) (by omega)]
      exact e1
    · by_cases cr : z = r
      · have r0 : r = sd_ad G 0 := by
          rcases c5 with q | q
          · exact q
          · omega
        have hz0 : z = sd_ad G 0 := cr.trans r0
        rw [hz0, (wfH_z0 w').1, (wfH_z0 hw).1]
      · rw [k5 z (by omega) cr (by omega)]
        exact X.2.2 z hz q1 q2
end SEV
