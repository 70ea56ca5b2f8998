/-! THE PLAIN LAW: the reader's own cells lie below n1 -/
def cut (n1 : Nat) (h : sd_H) : sd_H := (h.1, fun a => if a < n1 then h.2 a else none)
theorem cut_in {n1 a : Nat} {h : sd_H} {e : sd_E} : (cut n1 h).2 a = some e ↔ a < n1 ∧ h.2 a = some e := by
  unfold cut
  by_cases c : a < n1
  · simp only [if_pos c]
    exact ⟨fun q => ⟨c, q⟩, fun q => q.2⟩
  · simp only [if_neg c]
    exact ⟨fun q => (by cases q), fun q => absurd q.1 c⟩
section CUT
variable {G : sd_G} {h h' : sd_H} {u : Nat → Nat} {sz n0 n1 tl i d i' d' so m rd k : Nat} {ta tx : Nat → Nat} {w : Int32} {ky nd iv : Nat → Nat} {kt : Nat → List Nat}
def RC (G : sd_G) (u : Nat → Nat) (sz n0 tl : Nat) (ta tx : Nat → Nat) (rd : Nat) (w : Int32) (so m k : Nat) (ky nd iv : Nat → Nat) (kt : Nat → List Nat) (i d : Nat) (h : sd_H) : Prop := TK G u sz n0 tl ta tx h ∧ h.2 rd = some (aRd tl i d w so m) ∧ HM (nmA u sz tx) m k ky nd iv kt h
theorem strN_mono {x : Nat} {l : List Nat} (hk : ∀ a e, h.2 a = some e → h'.2 a = some e) (H : strN h x l) : strN h' x l := by
  obtain ⟨v, hs, hz, g, e1, e2, e3⟩ := H
  exact ⟨v, hs, hz, g, hk _ _ e1, hk _ _ e2, e3⟩
theorem RC_mono (hk : ∀ a e, h.2 a = some e → h'.2 a = some e) (R : RC G u sz n0 tl ta tx rd w so m k ky nd iv kt i d h) : RC G u sz n0 tl ta tx rd w so m k ky nd iv kt i d h' := by
  obtain ⟨⟨⟨mc, r, cap, f, e1, e2, e3⟩, B⟩, r1, ⟨tb, mc', thr, fl, m1, m2⟩, m3, m4, m5⟩ := R
  refine ⟨⟨⟨mc, r, cap, f, hk _ _ e1, hk _ _ e2, e3⟩, TB_keep B (fun a e ha _ => hk a e ha)⟩, hk _ _ r1, ⟨tb, mc', thr, fl, hk _ _ m1, ?_⟩, m3, fun j hj => ⟨strN_mono hk (m4 j hj).1, (m4 j hj).2⟩, m5⟩
  rcases m2 with m2 | ⟨t, f, q1, q2, q3, q4⟩
  · exact Or.inl m2
  · exact Or.inr ⟨t, f, q1, q2, hk _ _ q3, fun j hj => chn_keep (fun a z y v nx ha => hk _ _ ha) _ _ (q4 j hj)⟩
/-- the reader's world; new cells lie from n1 on -/
def RW (G : sd_G) (u : Nat → Nat) (sz n0 tl : Nat) (ta tx : Nat → Nat) (rd : Nat) (w : Int32) (so m k : Nat) (ky nd iv : Nat → Nat) (kt : Nat → List Nat) (n1 i d : Nat) (h : sd_H) : Prop := wfH G h ∧ n1 ≤ h.1 ∧ RC G u sz n0 tl ta tx rd w so m k ky nd iv kt i d (cut n1 h)
theorem RW_in (R : RW G u sz n0 tl ta tx rd w so m k ky nd iv kt n1 i d h) : RC G u sz n0 tl ta tx rd w so m k ky nd iv kt i d h := RC_mono (fun _ _ ha => (cut_in.mp ha).2) R.2.2
theorem RW_rdn (R : RW G u sz n0 tl ta tx rd w so m k ky nd iv kt n1 i d h) : rd < n1 := (cut_in.mp R.2.2.2.1).1
theorem RW_of (wf : wfH G h) (R : RC G u sz n0 tl ta tx rd w so m k ky nd iv kt i d h) : RW G u sz n0 tl ta tx rd w so m k ky nd iv kt h.1 i d h := ⟨wf, Nat.le_refl _, RC_mono (fun a e ha => cut_in.mpr ⟨(wf.1 _ _ ha).2, ha⟩) R⟩
theorem RW_up {a : Nat} {e0 e : sd_E} (R : RW G u sz n0 tl ta tx rd w so m k ky nd iv kt n1 i d h) (ha : h.2 a = some e0) (hn : n1 ≤ a) : RW G u sz n0 tl ta tx rd w so m k ky nd iv kt n1 i d (sd_up h a e) := by
  refine ⟨wfH_up R.1 ha, R.2.1, RC_mono (fun z e' hz => ?_) R.2.2⟩
  have := cut_in.mp hz
  exact cut_in.mpr ⟨this.1, (up_ne (by omega)).trans this.2⟩
theorem RW_pu {e : sd_E} (R : RW G u sz n0 tl ta tx rd w so m k ky nd iv kt n1 i d h) : RW G u sz n0 tl ta tx rd w so m k ky nd iv kt n1 i d (sd_pu h e) := by
  have := R.2.1
  refine ⟨wfH_pu R.1, Nat.le_succ_of_le R.2.1, RC_mono (fun z e' hz => ?_) R.2.2⟩
  have hz := cut_in.mp hz
  exact cut_in.mpr ⟨hz.1, (pu_ne (by omega)).trans hz.2⟩
theorem RW_fr (wf : wfH G h') (hn : h.1 ≤ h'.1) (R : RW G u sz n0 tl ta tx rd w so m k ky nd iv kt n1 i d h) (hk : ∀ a e, a < n1 → h.2 a = some e → h'.2 a = some e) : RW G u sz n0 tl ta tx rd w so m k ky nd iv kt n1 i d h' := by
  refine ⟨wf, Nat.le_trans R.2.1 hn, RC_mono (fun z e' hz => ?_) R.2.2⟩
  have hz := cut_in.mp hz
  exact cut_in.mpr ⟨hz.1, hk _ _ hz.1 hz.2⟩
theorem RW_rd (R : RW G u sz n0 tl ta tx rd w so m k ky nd iv kt n1 i d h) : RW G u sz n0 tl ta tx rd w so m k ky nd iv kt n1 i' d' (sd_up h rd (aRd tl i' d' w so m)) := by
  have hr := R.2.2.2.1
  have lr := RW_rdn R
  have T := TK_up (e := aRd tl i' d' w so m) hr R.2.2.1
  have M := HM_up (e := aRd tl i' d' w so m) hr R.2.2.2.2
  have e1 : ∀ z e', (sd_up (cut n1 h) rd (aRd tl i' d' w so m)).2 z = some e' → (cut n1 (sd_up h rd (aRd tl i' d' w so m))).2 z = some e' := by
    intro z e' hz
    by_cases c : z = rd
    · subst c
      rw [up_at] at hz
      exact cut_in.mpr ⟨lr, (up_at _ _ _).trans hz⟩
    · rw [up_ne c] at hz
      have hz := cut_in.mp hz
      exact cut_in.mpr ⟨hz.1, (up_ne c).trans hz.2⟩
  exact ⟨wfH_up R.1 (RW_in R).2.1, R.2.1, RC_mono e1 ⟨T, up_at _ _ _, M⟩⟩
theorem sfr_cut {N : Nat → Prop} (s : sfr G N h h') (wf : wfH G h') : sfr G N (cut n1 h) (cut n1 h') := by
  obtain ⟨s1, s2, s3, s4, s5⟩ := id s
  refine ⟨s1, fun a ha => ?_, fun x l H => ?_, fun _ => ⟨fun a e ha => wf.1 a e (cut_in.mp ha).2, wf.2⟩, fun a ha he => ?_⟩
  · show (if a < n1 then h'.2 a else none) = (if a < n1 then h.2 a else none)
    rw [s2 a ha]
  · have H' := s3 x l (strN_mono (fun _ _ ha => (cut_in.mp ha).2) H)
    obtain ⟨v, hs, hz, g, e1, e2, e3⟩ := H
    have e1 := cut_in.mp e1
    have e2 := cut_in.mp e2
    obtain ⟨v', hs', hz', g', f1, f2, f3⟩ := H'
    have ev : v' = v := by
      by_cases c : N x
      · obtain ⟨v2, hs2, hz2, hs3, hz3, q1, q2⟩ := s5 x c ⟨_, e1.2⟩
        rw [e1.2] at q1
        cases q1
        rw [f1] at q2
        cases q2
        rfl
      · have := s2 x c
        rw [f1, e1.2] at this
        cases this
        rfl
    subst ev
    exact ⟨v', hs', hz', g', cut_in.mpr ⟨e1.1, f1⟩, cut_in.mpr ⟨e2.1, f2⟩, f3⟩
  · obtain ⟨e, he⟩ := he
    have he := cut_in.mp he
    obtain ⟨v, hs, hz, hs', hz', q1, q2⟩ := s5 a ha ⟨e, he.2⟩
    exact ⟨v, hs, hz, hs', hz', cut_in.mpr ⟨he.1, q1⟩, cut_in.mpr ⟨he.1, q2⟩⟩
theorem RW_sfr (R : RW G u sz n0 tl ta tx rd w so m k ky nd iv kt n1 i d h) (s : sfr G (nmA u sz tx) h h') : RW G u sz n0 tl ta tx rd w so m k ky nd iv kt n1 i d h' := by
  have wf := s.2.2.2.1 R.1
  have sc := sfr_cut (n1 := n1) s wf
  exact ⟨wf, by rw [s.1]; exact R.2.1, TK_sfr R.2.2.1 sc, sfr_kp sc R.2.2.2.1 (fun _ _ _ q => by cases q), HM_sfr R.2.2.2.2 sc⟩
end CUT
