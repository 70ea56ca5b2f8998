/-! THE PLAIN LAW: rules for the exact functions; b is what may still be made (cells, slots) -/
def wp {α : Type} (f : sd_M α) (h : sd_H) (b : Nat × Nat) (Q : α → sd_H → Nat × Nat → Prop) : Prop := ∃ (a : α) (c : Nat × Nat) (h1 : sd_H), f h = some (a, c, h1) ∧ c.1 ≤ b.1 ∧ c.2 ≤ b.2 ∧ Q a h1 (b.1 - c.1, b.2 - c.2)
theorem wp_ret {α : Type} {a : α} {h : sd_H} {b : Nat × Nat} {Q : α → sd_H → Nat × Nat → Prop} : wp (sd_ret a) h b Q = Q a h b := by
  apply propext
  constructor
  · rintro ⟨a', c, h1, e, -, -, q⟩
    cases e
    simpa using q
  · intro q
    exact ⟨a, (0, 0), h, rfl, Nat.zero_le _, Nat.zero_le _, by simpa using q⟩
theorem wp_bnd {α β : Type} {f : sd_M α} {k : α → sd_M β} {h : sd_H} {b : Nat × Nat} {Q : β → sd_H → Nat × Nat → Prop} : wp (sd_bnd f k) h b Q = wp f h b (fun a h1 b1 => wp (k a) h1 b1 Q) := by
  apply propext
  constructor
  · rintro ⟨r, c, h2, e, l1, l2, q⟩
    obtain ⟨a, c1, c2, h1, e1, e2, rfl⟩ := sd_bnd_some e
    simp only at l1 l2 q
    refine ⟨a, c1, h1, e1, by omega, by omega, r, c2, h2, e2, by simp only; omega, by simp only; omega, ?_⟩
    simp only [Nat.sub_sub]
    exact q
  · rintro ⟨a, c1, h1, e1, l1, l2, r, c2, h2, e2, l3, l4, q⟩
    simp only at l3 l4 q
    refine ⟨r, (c1.1 + c2.1, c1.2 + c2.2), h2, ?_, by simp only; omega, by simp only; omega, ?_⟩
    · simp only [sd_bnd, e1, e2]
    · simp only [Nat.sub_sub] at q
      exact q
theorem wp_eq {α : Type} {f : sd_M α} {a : α} {h h1 : sd_H} {b : Nat × Nat} {Q : α → sd_H → Nat × Nat → Prop} (e : f h = some (a, (0, 0), h1)) : wp f h b Q = Q a h1 b := by
  apply propext
  constructor
  · rintro ⟨a', c, h1, e', -, -, q⟩
    rw [e] at e'
    cases e'
    simpa using q
  · intro q
    exact ⟨a, (0, 0), h1, e, Nat.zero_le _, Nat.zero_le _, by simpa using q⟩
theorem wp_mono {α : Type} {f : sd_M α} {h : sd_H} {b : Nat × Nat} {Q Q' : α → sd_H → Nat × Nat → Prop} (w : wp f h b Q) (i : ∀ a h1 b1, Q a h1 b1 → Q' a h1 b1) : wp f h b Q' := by
  obtain ⟨a, c, h1, e, l1, l2, q⟩ := w
  exact ⟨a, c, h1, e, l1, l2, i _ _ _ q⟩
theorem sd_look_new {G : sd_G} {h : sd_H} {a : Nat} {e : sd_E} (he : h.2 a = some e) : sd_look G h a = some e := by unfold sd_look; rw [he]
section WPR
variable {G : sd_G} {h : sd_H} {b : Nat × Nat} {ci k a : Nat} {fs : List Value}
theorem wp_getI {v : Int32} {Q : Int32 → sd_H → Nat × Nat → Prop} (e : sd_look G h a = some (.inr (ci, fs))) (e2 : fs[k]? = some (.int v)) : wp (sd_getI G ci k a) h b Q = Q v h b := wp_eq (by simp [sd_getI, sd_fv, e, e2])
theorem wp_getR {v : Nat} {Q : Nat → sd_H → Nat × Nat → Prop} (e : sd_look G h a = some (.inr (ci, fs))) (e2 : fs[k]? = some (.ref v)) : wp (sd_getR G ci k a) h b Q = Q v h b := wp_eq (by simp [sd_getR, sd_fv, e, e2])
theorem wp_isC {Q : Unit → sd_H → Nat × Nat → Prop} (e : sd_look G h a = some (.inr (ci, fs))) : wp (sd_isC G ci a) h b Q = Q () h b := wp_eq (by simp [sd_isC, e])
theorem wp_put {ty : FieldType} {v : Value} {Q : Unit → sd_H → Nat × Nat → Prop} (e : h.2 a = some (.inr (ci, fs))) (e1 : k < fs.length) (e2 : narrow ty v = v) (e3 : fits ty v = true) : wp (sd_put ci k ty a v) h b Q = Q () (sd_up h a (.inr (ci, fs.set k v))) b := wp_eq (by simp [sd_put, e, e1, e2, e3])
theorem wp_aldI {t n : Nat} {f : Nat → Int32} {i : Int32} {Q : Int32 → sd_H → Nat × Nat → Prop} (e : sd_look G h a = some (.inl (t, n, .inl f))) (e1 : sd_ix i n = true) : wp (sd_aldI G t a i) h b Q = Q (f i.toNatClampNeg) h b := wp_eq (by simp [sd_aldI, e, e1])
theorem wp_astI {t n : Nat} {f : Nat → Int32} {i x : Int32} {Q : Unit → sd_H → Nat × Nat → Prop} (e : h.2 a = some (.inl (t, n, .inl f))) (e1 : sd_ix i n = true) : wp (sd_astI t a i x) h b Q = Q () (sd_up h a (.inl (t, n, .inl (upd f i.toNatClampNeg (sd_nar t x))))) b := wp_eq (by simp [sd_astI, e, e1])
theorem wp_new {n : Nat} {Q : Nat → sd_H → Nat × Nat → Prop} (h1 : 1 ≤ b.1) (h2 : n ≤ b.2) (q : Q h.1 (sd_pu h (.inr (ci, fs))) (b.1 - 1, b.2 - n)) : wp (sd_new ci n fs) h b Q := ⟨_, _, _, rfl, h1, h2, q⟩
end WPR
/-- a loop, by rounds that are left -/
theorem wp_loop {α σ : Type} {F : (σ → sd_M α) → σ → sd_M α} {Q : α → sd_H → Nat × Nat → Prop} (I : Nat → σ → sd_H → Nat × Nat → Prop)
    (step : ∀ (k : σ → sd_M α) n s h b, I n s h b → (∀ m s' h' b', m < n → I m s' h' b' → wp (k s') h' b' Q) → wp (F k s) h b Q) : ∀ (fuel n : Nat) (s : σ) (h : sd_H) (b : Nat × Nat), n < fuel → I n s h b → wp (sd_loop F fuel s) h b Q := by
  intro fuel
  induction fuel with
  | zero => intro n s h b hn; exact absurd hn (Nat.not_lt_zero n)
  | succ fuel ih =>
    intro n s h b hn hi
    exact step _ n s h b hi (fun m s' h' b' hm hi' => ih m s' h' b' (by omega) hi')
/-- test: what the model's tall reads -/
theorem wt_tall {G : sd_G} {m now : Nat} {fs : List Value} {w : Nat → Int32} {s : Int32} {h : sd_H} {b : Nat × Nat} {Q : Int32 → sd_H → Nat × Nat → Prop} (hm : sd_look G h m = some (.inr (4, fs))) (hn : fs[15]? = some (.ref now)) (ha : sd_look G h now = some (.inl (0, 197, .inl w))) (hs : sd_ix (5 + s) 197 = true) : wp (fX5_tall G m s) h b Q = Q (w (5 + s).toNatClampNeg) h b := by
  unfold fX5_tall
  simp only [wp_bnd, wp_getR hm hn, wp_aldI ha hs, wp_ret]
