/-! THE PLAIN LAW: what a walk over a sum or a test comes to -/
/-- cells of a tree lie where P says, or are constants -/
def Lp (G : sd_G) (P : Nat → sd_E → Prop) (h : sd_H) (a : Nat) (e : sd_E) : Prop := (h.2 a = some e ∧ P a e) ∨ sd_c G a = some e
/-- made since s; or an old string that is no name's, or letters of a sign -/
def Rg (n0 n1 rd : Nat) (N : Nat → Prop) (s a : Nat) (e : sd_E) : Prop := s ≤ a ∨ (a < n1 ∧ a ≠ rd ∧ ¬ N a ∧ ((n0 ≤ a ∧ ∃ v hs hz, e = aS v hs hz) ∨ ∃ ln g, e = aB ln g ∧ ln ≤ 2))
theorem Lp_go {G : sd_G} {P P' : Nat → sd_E → Prop} {h h' : sd_H} (hk : ∀ a e, h.2 a = some e → P a e → h'.2 a = some e ∧ P' a e) : ∀ a e, Lp G P h a e → Lp G P' h' a e := by
  rintro a e (⟨h1, h2⟩ | H)
  · exact Or.inl (hk a e h1 h2)
  · exact Or.inr H
theorem Lp_look {G : sd_G} {P : Nat → sd_E → Prop} {h : sd_H} {a : Nat} {e : sd_E} (w : wfH G h) (H : Lp G P h a e) : sd_look G h a = some e := by
  rcases H with ⟨h1, -⟩ | H
  · exact sd_look_new h1
  · exact look_k w H
/-- the constants of the walk -/
def whC (G : sd_G) : Prop := ∃ f, sd_c G (sd_ad G 10) = some (.inl (8, 6, .inr (.inr (.inr (.inr f))))) ∧ ∀ j, j < 6 → ∃ wa ws kd, f j = some wa ∧ sd_c G wa = some (.inr (24 + j, [])) ∧ sd_cf G 1 wa = some ws ∧ strC G ws (wdL (15 + j)) ∧ sd_cf G 2 wa = some kd ∧ (kd = sd_ad G 11 ↔ j < 4)
def sgC (G : sd_G) : Prop := (∀ n j, (n, j) ∈ [(16, 0), (17, 1), (14, 2), (15, 3), (12, 4), (13, 5)] → sd_c G (sd_ad G n) = some (.inr (33 + j, []))) ∧ sd_ad G 16 ≠ sd_ad G 17 ∧ sd_ad G 14 ≠ sd_ad G 15 ∧ (∃ s, sd_cf G 3 (sd_ad G 12) = some s ∧ strC G s (wdL 27)) ∧ ∃ s, sd_cf G 3 (sd_ad G 13) = some s ∧ strC G s (wdL 28)
def wlC (G : sd_G) : Prop := srD G ∧ wdsC G ∧ whC G ∧ sgC G
/-- the number of a name's token -/
def wkF (w : Int32) (k : Nat) (kt : Nat → List Nat) (u : Nat → Nat) (sz : Nat) (j : Nat) : Option Nat := if w = 0 then some 0 else fdK kt (txT u sz j) (List.range k)
def neF (w : Int32) (k : Nat) : Nat := if w = 0 then 1 else k
theorem wkF_lt {w : Int32} {k : Nat} {kt : Nat → List Nat} {u : Nat → Nat} {sz j e : Nat} (h : wkF w k kt u sz j = some e) : e < neF w k := by
  unfold wkF at h
  unfold neF
  by_cases c : w = 0
  · rw [if_pos c] at h ⊢
    cases h
    decide
  · rw [if_neg c] at h ⊢
    have := List.mem_of_find?_eq_some h
    rw [List.mem_range] at this
    exact this
/-- the fault of a result -/
def fo (wk : Nat → Option Nat) : PR → Option (Int32 × Nat)
  | .inr j => some (1, j)
  | .inl (_, _, ks) => (fstU wk ks).map (fun t => (3, t))
/-- a form that fails is met in the first walk alone -/
def okw (w : Int32) (r : PR) : Prop := ∀ j, r = .inr j → w = 0
/-- β is left behind v -/
def bud (β b : Nat × Nat) (v : Nat) : Prop := β.1 + v ≤ b.1 ∧ β.2 + 20 * v ≤ b.2
section OUT
variable {G : sd_G} {u : Nat → Nat} {sz n0 n1 tl so m rd k : Nat} {ta tx : Nat → Nat} {w : Int32} {ky nd iv : Nat → Nat} {kt : Nat → List Nat} {wk : Nat → Option Nat} {β b : Nat × Nat} {h h' : sd_H} {i d : Nat}
theorem fo_add1 {j : Nat} {ws : List (Int32 × Int32)} {ks : List Nat} {r' : PR} (h0 : w = 0 → ∀ t, wk t ≠ none) (ow : okw w r') {e : Int32 × Nat} (hf : fo wk (.inl (j, ws, ks)) = some e) : fo wk (addR ws ks r') = some e := by
  have hf : (fstU wk ks).map (fun t => ((3 : Int32), t)) = some e := hf
  cases hu : fstU wk ks with
  | none =>
    rw [hu] at hf
    cases hf
  | some t =>
    cases r' with
    | inr j' =>
      have := List.find?_some hu
      exact absurd (Option.isNone_iff_eq_none.mp this) (h0 (ow j' rfl) t)
    | inl p =>
      obtain ⟨j', w', ks'⟩ := p
      show (fstU wk (ks ++ ks')).map _ = some e
      rw [fstU_app, hu]
      rw [hu] at hf
      exact hf
theorem fo_add2 {j : Nat} {ws : List (Int32 × Int32)} {ks : List Nat} {r' : PR} (hf : fo wk (.inl (j, ws, ks)) = none) : fo wk (addR ws ks r') = fo wk r' := by
  have hu : fstU wk ks = none := by
    have hf : (fstU wk ks).map (fun t => ((3 : Int32), t)) = none := hf
    cases hu : fstU wk ks with
    | none => rfl
    | some t =>
      rw [hu] at hf
      cases hf
  cases r' with
  | inr j' => rfl
  | inl p =>
    obtain ⟨j', w', ks'⟩ := p
    show (fstU wk (ks ++ ks')).map _ = (fstU wk ks').map _
    rw [fstU_app, hu, Option.none_or]
theorem sqc_go {a : Option PR} {kn : Nat → Option PR} {r : PR} (h0 : w = 0 → ∀ t, wk t ≠ none) (hs : sqc a kn = some r) (ow : okw w r) : ∃ r0, a = some r0 ∧ okw w r0 ∧ (∀ e, fo wk r0 = some e → fo wk r = some e) ∧ ∀ j ws ks, r0 = .inl (j, ws, ks) → fo wk r0 = none → ∃ r', kn j = some r' ∧ okw w r' ∧ r = addR ws ks r' ∧ fo wk r = fo wk r' := by
  rcases sqc_some hs with ⟨j, e1, rfl⟩ | ⟨j, ws, ks, r', e1, e2, rfl⟩
  · exact ⟨_, e1, ow, fun e he => he, fun j ws ks q => by cases q⟩
  · have ow' : okw w r' := by
      intro j' hj
      subst hj
      exact ow j' rfl
    refine ⟨_, e1, (fun j q => by cases q), fun e he => fo_add1 h0 ow' he, fun j' ws' ks' q hf => ?_⟩
    cases q
    exact ⟨r', e2, ow', rfl, fo_add2 hf⟩
theorem prT_pos {κ : Nat → Nat} {c j : Nat} {kn : Option PR} {r : PR} (hp : prT κ c j kn = some r) (e : κ j = c) : kn = some r := by
  unfold prT at hp
  rw [if_pos e] at hp
  exact hp
theorem prT_neg {κ : Nat → Nat} {c j : Nat} {kn : Option PR} {r : PR} (hp : prT κ c j kn = some r) (e : κ j ≠ c) : r = .inr j := by
  unfold prT at hp
  rw [if_neg e] at hp
  cases hp
  rfl
theorem wk_tot (hw : w = 0) (t : Nat) : wkF w k kt u sz t ≠ none := by
  unfold wkF
  rw [if_pos hw]
  exact fun q => by cases q
/-- new cells are neither the reader's nor a name's -/
theorem RW_nw (R : RW G u sz n0 tl ta tx rd w so m k ky nd iv kt n1 i d h) {a : Nat} (ha : n1 ≤ a) : a ≠ rd ∧ ¬ nmA u sz tx a := by
  have h1 := RW_rdn R
  refine ⟨by omega, ?_⟩
  rintro ⟨j, j1, j2, rfl⟩
  obtain ⟨⟨v, hs, hz, g, e1, -⟩, -⟩ := (R.2.2.1.2 j (by omega)).2.2 (by omega) (by omega)
  have := (cut_in.mp e1).1
  omega
theorem Rg_xf {s : Nat} (R : RW G u sz n0 tl ta tx rd w so m k ky nd iv kt n1 i d h) (hs : n1 ≤ s) {a : Nat} {e : sd_E} (ha : Rg n0 n1 rd (nmA u sz tx) s a e) : a ≠ rd ∧ ¬ nmA u sz tx a := by
  rcases ha with ha | ha
  · exact RW_nw R (by omega)
  · exact ⟨ha.2.1, ha.2.2.1⟩
/-- trees stay -/
theorem Lp_xf {s s' : Nat} (R : RW G u sz n0 tl ta tx rd w so m k ky nd iv kt n1 i d h) (hs : n1 ≤ s) (hs' : s' ≤ s) (f : xf rd (nmA u sz tx) h h') : ∀ a e, Lp G (Rg n0 n1 rd (nmA u sz tx) s) h a e → Lp G (Rg n0 n1 rd (nmA u sz tx) s') h' a e := by
  refine Lp_go (fun a e ha hp => ?_)
  obtain ⟨p1, p2⟩ := Rg_xf R hs hp
  refine ⟨f.2.1 a e ha p1 p2, ?_⟩
  rcases hp with hp | hp
  · exact Or.inl (by omega)
  · exact Or.inr hp
theorem Rg_lt {s o : Nat} (hs : n1 ≤ o) (ho : o < s) {a : Nat} {e : sd_E} (ha : Rg n0 n1 rd (nmA u sz tx) s a e) : a ≠ o := by
  rcases ha with ha | ha
  · omega
  · omega
/-- a cell outside of the tree changes -/
theorem Lp_up {s s' o : Nat} {e0 : sd_E} (hs : n1 ≤ o) (ho : o < s) (hs' : s' ≤ s) : ∀ a e, Lp G (Rg n0 n1 rd (nmA u sz tx) s) h a e → Lp G (Rg n0 n1 rd (nmA u sz tx) s') (sd_up h o e0) a e := by
  refine Lp_go (fun a e ha hp => ⟨(up_ne (Rg_lt hs ho hp)).trans ha, ?_⟩)
  rcases hp with hp | hp
  · exact Or.inl (by omega)
  · exact Or.inr hp
theorem xf_upn {N : Nat → Prop} {o : Nat} {e : sd_E} (wf : wfH G h) (f : xf rd N h h') (ho : h.1 ≤ o) : xf rd N h (sd_up h' o e) := by
  refine ⟨f.1, fun a e' ha h1 h2 => ?_, fun a ha h1 h2 => (up_ne (by omega)).trans (f.2.2 a ha h1 h2)⟩
  have := (wf.1 _ _ ha).2
  exact (up_ne (by omega)).trans (f.2.1 a e' ha h1 h2)
/-- how it may fail -/
def FK (G : sd_G) (u : Nat → Nat) (sz : Nat) (tx : Nat → Nat) (rd : Nat) (wk : Nat → Option Nat) (r : PR) (h : sd_H) (β : Nat × Nat) {α : Type} (Q : α ⊕ Nat → sd_H → Nat × Nat → Prop) : Prop := ∀ er t h' q b', fo wk r = some (er, t) → h'.2 q = some (aFt er (plT u sz t)) → wfH G h' → xf rd (nmA u sz tx) h h' → bud β b' 0 → Q (.inr q) h' b'
theorem FK_sub {α : Type} {Q : α ⊕ Nat → sd_H → Nat × Nat → Prop} {r r0 : PR} (kf : FK G u sz tx rd wk r h β Q) (pf : ∀ e, fo wk r0 = some e → fo wk r = some e) (f : xf rd (nmA u sz tx) h h') : FK G u sz tx rd wk r0 h' β Q := fun er t h2 q b' q1 q2 q3 q4 q5 => kf er t h2 q b' (pf _ q1) q2 q3 (f.trans q4) q5
/-- a walk F: tr = the tree (size at the start, heap, address, token behind, rows) -/
def PW (G : sd_G) (u : Nat → Nat) (sz n0 tl : Nat) (ta tx : Nat → Nat) (rd : Nat) (w : Int32) (so m k : Nat) (ky nd iv : Nat → Nat) (kt : Nat → List Nat) (n1 : Nat) (F : sd_M (Nat ⊕ Nat)) (sl bo : Nat) (tr : Nat → sd_H → Nat → Nat → List (Int32 × Int32) → Prop) (i d : Nat) (r : PR) (h : sd_H) : Prop := ∀ (b β : Nat × Nat) (v : Nat) (Q : Nat ⊕ Nat → sd_H → Nat × Nat → Prop), RW G u sz n0 tl ta tx rd w so m k ky nd iv kt n1 i d h → bud β b v → 50 * (nT u sz + 1 - i) ≤ v + sl → FK G u sz tx rd (wkF w k kt u sz) r h β Q → (∀ j ws ks a h' b', r = .inl (j, ws, ks) → fo (wkF w k kt u sz) r = none → RW G u sz n0 tl ta tx rd w so m k ky nd iv kt n1 j d h' → tr h.1 h' a j (res (wkF w k kt u sz) ws) → xf rd (nmA u sz tx) h h' → bud β b' (50 * (nT u sz + 1 - j) + bo) → Q (.inl a) h' b') → wp F h b Q
theorem PW_bx {F : sd_M (Nat ⊕ Nat)} {K : Nat → sd_M (Nat ⊕ Nat)} {sl bo v : Nat} {tr : Nat → sd_H → Nat → Nat → List (Int32 × Int32) → Prop} {r : PR} {Q : Nat ⊕ Nat → sd_H → Nat × Nat → Prop} (W : PW G u sz n0 tl ta tx rd w so m k ky nd iv kt n1 F sl bo tr i d r h) (R : RW G u sz n0 tl ta tx rd w so m k ky nd iv kt n1 i d h) (hb : bud β b v) (hv : 50 * (nT u sz + 1 - i) ≤ v + sl) (kf : FK G u sz tx rd (wkF w k kt u sz) r h β Q) (ks : ∀ j ws ks a h' b', r = .inl (j, ws, ks) → fo (wkF w k kt u sz) r = none → RW G u sz n0 tl ta tx rd w so m k ky nd iv kt n1 j d h' → tr h.1 h' a j (res (wkF w k kt u sz) ws) → xf rd (nmA u sz tx) h h' → bud β b' (50 * (nT u sz + 1 - j) + bo) → wp (K a) h' b' Q) : wp (sd_bx F (fun e => sd_ret (.inr e)) K) h b Q := by
  rw [wp_bx]
  refine W b β v _ R hb hv (fun er t h' q b' q1 q2 q3 q4 q5 => ?_) ks
  show wp (sd_ret (.inr q)) h' b' Q
  rw [wp_ret]
  exact kf er t h' q b' q1 q2 q3 q4 q5
end OUT
