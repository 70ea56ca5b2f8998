/-! THE PLAIN LAW: the model as a whole: one predicate of a heap, what a call of it does -/
/-- what is thrown, what is answered -/
def anT : Int32 ⊕ Nat → Int32
  | .inl _ => 0
  | .inr d => if d = 48 then 2 else 1
def anV : Int32 ⊕ Nat → Int32
  | .inl v => v
  | .inr _ => 0
def MI (ρ : Nat → Option Nat) (ad : Nat → Nat) (q : Nat → Nat) (x : Nat → Nat → Int32) (ea : Int32) (sz : Nat) (th : Int32) (h : sd_H) (t : TT) : Prop := ∃ n K v y κ g, h = (hMo n ρ ad K v (sx (s7 x κ g) (enc t)) y) ∧ mOk n ρ ad ∧ ad 4 = ad 20 ∧ okV q v ∧ okP q x ∧ okO q x ∧ okT (q 20) (q 26) t ∧ v 0 = th ∧ v 2 = n3 sz ∧ v 3 = ea
/-- what is not the model's stays -/
def mf (G : sd_G) (ρ : Nat → Option Nat) (h h' : sd_H) : Prop := h.1 ≤ h'.1 ∧ (∀ a, a < h.1 → ρ a = none → h'.2 a = h.2 a) ∧ (wfH G h → wfH G h')
theorem mf.refl {G : sd_G} {ρ : Nat → Option Nat} {h : sd_H} : mf G ρ h h := ⟨Nat.le_refl _, fun _ _ _ => rfl, fun w => w⟩
theorem mf.trans {G : sd_G} {ρ : Nat → Option Nat} {h h' h'' : sd_H} (p : mf G ρ h h') (p' : mf G ρ h' h'') : mf G ρ h h'' := ⟨Nat.le_trans p.1 p'.1, fun a ha hr => (p'.2.1 a (Nat.lt_of_lt_of_le ha p.1) hr).trans (p.2.1 a ha hr), fun w => p'.2.2 (p.2.2 w)⟩
def MO (G : sd_G) (ρ : Nat → Option Nat) (ad : Nat → Nat) (q : Nat → Nat) (x : Nat → Nat → Int32) (ea : Int32) (sz : Nat) {α : Type} (f : sd_M α) (h : sd_H) (t' : TT) (z : Int32) (r : α) : Prop := ∀ (b : Nat × Nat) (Q : α → sd_H → Nat × Nat → Prop), 1 ≤ b.1 → 20 ≤ b.2 → (∀ h' b', MI ρ ad q x ea sz z h' t' → mf G ρ h h' → b.1 ≤ b'.1 + 1 → b.2 ≤ b'.2 + 20 → Q r h' b') → wp f h b Q
section MIO
variable {n : Nat} {ρ : Nat → Option Nat} {ad : Nat → Nat} {K : Nat → Option sd_E} {v : Nat → Int32} {x : Nat → Nat → Int32} {y : Nat → Nat → Int64} {G : sd_G} {t : TT} {b : Nat × Nat} {h : sd_H} {q : Nat → Nat} {κ g : Nat → Int32} {ea th : Int32} {sz : Nat}
theorem wfH_mo {v' : Nat → Int32} {x' : Nat → Nat → Int32} {y' : Nat → Nat → Int64} (w : wfH G (hMo n ρ ad K v x y)) : wfH G (hMo n ρ ad K v' x' y') := by
  obtain ⟨w1, w2, w3, w4⟩ := w
  refine ⟨fun a e ha => ?_, w2, w3, w4⟩
  unfold hMo at ha w1
  cases hr : ρ a with
  | some i => exact w1 a _ (nh_at hr)
  | none =>
    rw [nh_out hr] at ha
    exact w1 a e ((nh_out hr).trans ha)
theorem mf_same {v' : Nat → Int32} {x' : Nat → Nat → Int32} {y' : Nat → Nat → Int64} : mf G ρ (hMo n ρ ad K v x y) (hMo n ρ ad K v' x' y') := by
  refine ⟨Nat.le_refl _, fun a _ hr => ?_, wfH_mo⟩
  unfold hMo
  rw [nh_out hr, nh_out hr]
theorem MO_mk {α : Type} {f : sd_M α} {r : α} {z : Int32} {t' : TT} (E : mOk n ρ ad) (hp : ad 4 = ad 20) (hv : okV q v) (hP : okP q x) (hO : okO q x) (ok' : okT (q 20) (q 26) t') (h2 : v 2 = n3 sz) (h3 : v 3 = ea) (H : ∀ (b : Nat × Nat) (Q : α → sd_H → Nat × Nat → Prop), (∀ κ' g', Q r (hMo n ρ ad K (upd v 0 z) (sx (s7 x κ' g') (enc t')) y) b) → wp f (hMo n ρ ad K v (sx (s7 x κ g) (enc t)) y) b Q) : MO G ρ ad q x ea sz f (hMo n ρ ad K v (sx (s7 x κ g) (enc t)) y) t' z r := by
  intro b Q b1 b2 kk
  exact H b Q (fun κ' g' => kk _ _ ⟨n, K, upd v 0 z, y, κ', g', rfl, E, hp, hv, hP, hO, ok', rfl, h2, h3⟩ mf_same (by omega) (by omega))
theorem n3_0 {s : Nat} (h : s < 2147483648) : ¬ n3 s < 0 := by
  rw [show (0 : Int32) = n3 0 from rfl, n3_lt (by omega) (by omega)]
  omega
theorem bad_le {a : Int32} {m : Nat} (hb : a < 0 ∨ ¬ a < n3 m) : a < 0 ∨ n3 m ≤ a := by
  rcases hb with h | h
  · exact Or.inl h
  · refine Or.inr ?_
    rw [Int32.le_iff_toInt_le]
    rw [Int32.lt_iff_toInt_lt] at h
    omega
theorem ite_bad {a : Int32} {m : Nat} {P P' : Prop} (hb : a < 0 ∨ ¬ a < n3 m) : (if a < 0 then P else if n3 m ≤ a then P else P') = P := by
  rcases bad_le hb with h | h
  · rw [if_pos h]
  · by_cases c : a < 0
    · rw [if_pos c]
    · rw [if_neg c, if_pos h]
theorem ite_in {s m : Nat} {P P' : Prop} (hs : s < m) (hm : m ≤ 1000000) : (if n3 s < 0 then P else if n3 m ≤ n3 s then P else P') = P' := by
  rw [if_neg (n3_0 (by omega)), if_neg (by rw [n3_le (by omega) (by omega)]; omega)]
theorem m_in1 {s m : Nat} {Q : Int32 → sd_H → Nat × Nat → Prop} (hs : s < m) (hm : m ≤ 1000000) : wp (fX5_isIn G (n3 s) 0 (n3 m - 1)) h b Q = Q 1 h b := by
  rw [m_isIn]
  simp only [n3_sub1 _ m (show m < 2147483648 by omega)]
  exact ite_in hs hm
theorem m_in0 {a : Int32} {m : Nat} {Q : Int32 → sd_H → Nat × Nat → Prop} (hb : a < 0 ∨ ¬ a < n3 m) (hm : m ≤ 1000000) : wp (fX5_isIn G a 0 (n3 m - 1)) h b Q = Q 0 h b := by
  rw [m_isIn]
  simp only [n3_sub1 _ m (show m < 2147483648 by omega)]
  exact ite_bad hb
theorem m_seat1 {s : Nat} {Q : Int32 → sd_H → Nat × Nat → Prop} (E : mOk n ρ ad) (hp : ad 4 = ad 20) (hv : okV q v) (hP : okP q x) (hs : s < q 20) {x : Nat → Nat → Int32} : wp (fX5_isSeat G (ad 0) (n3 s)) (hMo n ρ ad K v x y) b Q = Q 1 (hMo n ρ ad K v x y) b := by
  have := hP.1.2
  rw [m_isSeat E hp hv.1 (by omega), ite_in hs (by omega)]
theorem m_seat0 {a : Int32} {Q : Int32 → sd_H → Nat × Nat → Prop} (E : mOk n ρ ad) (hp : ad 4 = ad 20) (hv : okV q v) (hP : okP q x) (hb : a < 0 ∨ ¬ a < n3 (q 20)) {x : Nat → Nat → Int32} : wp (fX5_isSeat G (ad 0) a) (hMo n ρ ad K v x y) b Q = Q 0 (hMo n ρ ad K v x y) b := by
  have := hP.1.2
  rw [m_isSeat E hp hv.1 (by omega), ite_bad hb]
theorem m_find1 {s : Nat} {Q : Int32 → sd_H → Nat × Nat → Prop} (E : mOk n ρ ad) (hp : ad 4 = ad 20) (hv : okV q v) (hP : okP q x) (hs : s < q 26) {x : Nat → Nat → Int32} : wp (fX5_isFind G (ad 0) (n3 s)) (hMo n ρ ad K v x y) b Q = Q 1 (hMo n ρ ad K v x y) b := by
  have := hP.2.2.2.1
  rw [m_isFind E hp hv.2.2.2.1 (by omega), ite_in hs (by omega)]
theorem m_find0 {a : Int32} {Q : Int32 → sd_H → Nat × Nat → Prop} (E : mOk n ρ ad) (hp : ad 4 = ad 20) (hv : okV q v) (hP : okP q x) (hb : a < 0 ∨ ¬ a < n3 (q 26)) {x : Nat → Nat → Int32} : wp (fX5_isFind G (ad 0) a) (hMo n ρ ad K v x y) b Q = Q 0 (hMo n ρ ad K v x y) b := by
  have := hP.2.2.2.1
  rw [m_isFind E hp hv.2.2.2.1 (by omega), ite_bad hb]
theorem m_stra1 {s : Nat} {Q : Int32 → sd_H → Nat × Nat → Prop} (E : mOk n ρ ad) (hp : ad 4 = ad 20) (hv : okV q v) (hP : okP q x) (hs : s < q 21) {x : Nat → Nat → Int32} : wp (fX5_isStratum G (ad 0) (n3 s)) (hMo n ρ ad K v x y) b Q = Q 1 (hMo n ρ ad K v x y) b := by
  have := hP.2.1.2
  rw [m_isStratum E hp hv.2.1 (by omega), ite_in hs (by omega)]
theorem m_stra0 {a : Int32} {Q : Int32 → sd_H → Nat × Nat → Prop} (E : mOk n ρ ad) (hp : ad 4 = ad 20) (hv : okV q v) (hP : okP q x) (hb : a < 0 ∨ ¬ a < n3 (q 21)) {x : Nat → Nat → Int32} : wp (fX5_isStratum G (ad 0) a) (hMo n ρ ad K v x y) b Q = Q 0 (hMo n ρ ad K v x y) b := by
  have := hP.2.1.2
  rw [m_isStratum E hp hv.2.1 (by omega), ite_bad hb]
theorem m_day1 {m : Nat} {Q : Int32 → sd_H → Nat × Nat → Prop} (h1 : 1 ≤ m) (h2 : m ≤ 30) : wp (fX5_isIn G (n3 m) 1 30) h b Q = Q 1 h b := by
  rw [m_isIn, if_neg (by rw [show (1 : Int32) = n3 1 from rfl, n3_lt (by omega) (by omega)]; omega), if_neg (by rw [show (30 : Int32) = n3 30 from rfl, n3_lt (by omega) (by omega)]; omega)]
theorem m_day0 {a : Int32} {Q : Int32 → sd_H → Nat × Nat → Prop} (hb : a < 1 ∨ 30 < a) : wp (fX5_isIn G a 1 30) h b Q = Q 0 h b := by
  rw [m_isIn]
  by_cases c : a < 1
  · rw [if_pos c]
  · rw [if_neg c, if_pos (hb.resolve_left c)]
theorem m_top00 {a : Int32} {Q : Int32 → sd_H → Nat × Nat → Prop} (E : mOk n ρ ad) (hp : ad 4 = ad 20) (hv : okV q v) (hP : okP q x) (hb : a < 0 ∨ ¬ a < n3 (q 20)) : wp (fX5_hasTop G (ad 0) a) (hMo n ρ ad K v (sx (s7 x κ g) (enc t)) y) b Q = Q 0 (hMo n ρ ad K (upd v 0 1) (sx (s7 x κ g) (enc t)) y) b := by
  unfold fX5_hasTop fX5_hasTop_b26
  simp (disch := omega) only [↓wp_bnd, ↓wp_ret, ↓wp_ite, ↓reduceIte, ↓mFl E, ↓mPu E, m_seat0 E hp hv hP hb, upd_same, show ((1 : Int32) = 0) = False from by decide]
theorem m_top0 {s : Nat} {Q : Int32 → sd_H → Nat × Nat → Prop} (E : mOk n ρ ad) (hp : ad 4 = ad 20) (hv : okV q v) (hP : okP q x) (hs : s < q 20) (h0 : t.2.1 s = 0) : wp (fX5_hasTop G (ad 0) (n3 s)) (hMo n ρ ad K v (sx (s7 x κ g) (enc t)) y) b Q = Q 0 (hMo n ρ ad K (upd v 0 2) (sx (s7 x κ g) (enc t)) y) b := by
  have := hP.1.2
  have e : n3 (t.2.1 s) = 0 := by rw [h0]; rfl
  unfold fX5_hasTop fX5_hasTop_b26
  simp (disch := omega) only [↓wp_bnd, ↓wp_ret, ↓wp_ite, ↓reduceIte, ↓mFl E, ↓mPu E, m_seat1 E hp hv hP hs, m_tall E, e, upd_same, show ((1 : Int32) = 0) = False from by decide, show ((2 : Int32) = 0) = False from by decide]
theorem m_top1 {s : Nat} {Q : Int32 → sd_H → Nat × Nat → Prop} (E : mOk n ρ ad) (hp : ad 4 = ad 20) (hv : okV q v) (hP : okP q x) (hs : s < q 20) (h0 : t.2.1 s ≠ 0) (h10 : t.2.1 s ≤ 10) : wp (fX5_hasTop G (ad 0) (n3 s)) (hMo n ρ ad K v (sx (s7 x κ g) (enc t)) y) b Q = Q 1 (hMo n ρ ad K (upd v 0 0) (sx (s7 x κ g) (enc t)) y) b := by
  have := hP.1.2
  have e : (n3 (t.2.1 s) = 0) = False := by
    rw [show (0 : Int32) = n3 0 from rfl, n3_eq (by omega) (by omega)]
    exact eq_false h0
  unfold fX5_hasTop fX5_hasTop_b26
  simp (disch := omega) only [↓wp_bnd, ↓wp_ret, ↓wp_ite, ↓reduceIte, ↓mFl E, ↓mPu E, m_seat1 E hp hv hP hs, m_tall E, e, upd_same, show ((1 : Int32) = 0) = False from by decide]
end MIO
