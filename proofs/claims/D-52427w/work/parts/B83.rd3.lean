/-! THE PLAIN LAW: numbers the reader takes -/
section RD3
variable {G : sd_G} {h : sd_H} {b : Nat × Nat} {u : Nat → Nat} {sz n0 tl i d so m rd a c : Nat} {ta tx : Nat → Nat} {w : Int32} {l : List Nat}
theorem tk_lt31 {k : Nat} (hi : i ≤ nT u sz) (hk : kdT u sz i = k) (h1 : k ≠ 32) (h2 : k ≠ 33) : i < nT u sz := by
  by_cases c : i = nT u sz
  · have := nT_stop (u := u) (sz := sz)
    unfold spT at this
    simp only [Bool.or_eq_true, decide_eq_true_eq] at this
    rw [← c] at this
    omega
  · omega
/-- behind the number's token -/
theorem c_numB {lo hi' : Int32} {Q : Int32 ⊕ Nat → sd_H → Nat × Nat → Prop} (hS : srD G) (wf : wfH G h) (T : TK G u sz n0 tl ta tx h) (hr : h.2 rd = some (aRd tl (i + 1) d w so m)) (hi : i < nT u sz) (hk : kdT u sz i = 31) (b1 : 1 ≤ b.1) (b2 : 8 ≤ b.2)
    (k1 : (w = 0 ∨ (¬ n3 (nbT u sz i) < lo ∧ ¬ hi' < n3 (nbT u sz i))) → Q (.inl (n3 (nbT u sz i))) h b)
    (k2 : w ≠ 0 → ¬ (¬ n3 (nbT u sz i) < lo ∧ ¬ hi' < n3 (nbT u sz i)) → Q (.inr h.1) (sd_pu h (aFt 5 (plT u sz i))) (b.1 - 1, b.2 - 8)) : wp (sd_bnd (sd_isC G 8 (ta i)) fun _ => sd_bnd (fX9_number G (ta i)) fun r2 => if r2 < lo then fX7_number_b30 G (ta i) 5 rd else sd_bnd (sd_isC G 8 (ta i)) fun _ => sd_bnd (fX9_number G (ta i)) fun r4 => if hi' < r4 then fX7_number_b30 G (ta i) 5 rd else fX7_number_b31 G (ta i) 1 5 rd) h b Q := by
  have nm : ∀ b (Q : Int32 → sd_H → Nat × Nat → Prop), wp (fX9_number G (ta i)) h b Q = Q (n3 (nbT u sz i)) h b := fun b Q => c_num T hi hk Q
  have fin : ∀ z : Int32, (z ≠ 0 ↔ (¬ n3 (nbT u sz i) < lo ∧ ¬ hi' < n3 (nbT u sz i))) → wp (fX7_number_b31 G (ta i) z 5 rd) h b Q := by
    intro z hz
    unfold fX7_number_b31
    rw [wp_bnd, (rd_rd hr).2.2.2.2.2.2, wp_bx]
    refine c_check wf T hr (show i ≤ nT u sz by omega) b1 b2 (fun e => ?_) (fun e1 e2 => ?_)
    · show wp (sd_bnd (sd_isC G 8 (ta i)) _) h b Q
      rw [wp_bnd, (tk_rd T (by omega)).2.2.2.1, wp_bnd, nm, wp_ret]
      exact k1 (e.elim Or.inl (fun q => Or.inr (hz.mp q)))
    · show wp (sd_ret (.inr h.1)) _ _ Q
      rw [wp_ret]
      exact k2 e1 (fun q => hz.mpr q e2)
  rw [wp_bnd, (tk_rd T (by omega)).2.2.2.1, wp_bnd, nm, wp_ite]
  by_cases c1 : n3 (nbT u sz i) < lo
  · rw [if_pos c1]
    exact fin 0 ⟨fun q => absurd rfl q, fun q => absurd c1 q.1⟩
  · rw [if_neg c1, wp_bnd, (tk_rd T (by omega)).2.2.2.1, wp_bnd, nm, wp_ite]
    by_cases c2 : hi' < n3 (nbT u sz i)
    · rw [if_pos c2]
      exact fin 0 ⟨fun q => absurd rfl q, fun q => absurd c2 q.2⟩
    · rw [if_neg c2]
      exact fin 1 ⟨fun _ => ⟨c1, c2⟩, fun _ => by decide⟩
theorem c_number {lo hi' : Int32} {Q : Int32 ⊕ Nat → sd_H → Nat × Nat → Prop} (hS : srD G) (wf : wfH G h) (T : TK G u sz n0 tl ta tx h) (hr : h.2 rd = some (aRd tl i d w so m)) (hi : i ≤ nT u sz) (b1 : 1 ≤ b.1) (b2 : 8 ≤ b.2)
    (k0 : kdT u sz i ≠ 31 → Q (.inr h.1) (sd_pu h (aFt 1 (plT u sz i))) (b.1 - 1, b.2 - 8))
    (k1 : kdT u sz i = 31 → (w = 0 ∨ (¬ n3 (nbT u sz i) < lo ∧ ¬ hi' < n3 (nbT u sz i))) → Q (.inl (n3 (nbT u sz i))) (sd_up h rd (aRd tl (i + 1) d w so m)) b)
    (k2 : kdT u sz i = 31 → w ≠ 0 → ¬ (¬ n3 (nbT u sz i) < lo ∧ ¬ hi' < n3 (nbT u sz i)) → Q (.inr h.1) (sd_pu (sd_up h rd (aRd tl (i + 1) d w so m)) (aFt 5 (plT u sz i))) (b.1 - 1, b.2 - 8)) : wp (fX7_number G rd lo hi') h b Q := by
  unfold fX7_number
  rw [wp_bnd, (rd_rd hr).2.2.2.2.2.2, wp_bx]
  refine c_takeS (k := 31) wf T hr hi (srt_eq hS _).2.2.1 b1 b2 (fun e => ?_) (fun e => ?_)
  · exact c_numB hS (wfH_up wf hr) (TK_up hr T) (up_at _ _ _) (tk_lt31 hi e (by decide) (by decide)) e b1 b2 (k1 e) (k2 e)
  · show wp (sd_ret (.inr h.1)) _ _ Q
    rw [wp_ret]
    exact k0 e
theorem c_numberOf {lo hi' : Int32} {Q : Int32 ⊕ Nat → sd_H → Nat × Nat → Prop} (hS : srD G) (wf : wfH G h) (T : TK G u sz n0 tl ta tx h) (hr : h.2 rd = some (aRd tl i d w so m)) (hi : i ≤ nT u sz) (hw : wcd l c) (hc : strC G a l) (b1 : 1 ≤ b.1) (b2 : 8 ≤ b.2)
    (kw : kdT u sz i ≠ c → Q (.inr h.1) (sd_pu h (aFt 1 (plT u sz i))) (b.1 - 1, b.2 - 8))
    (k0 : kdT u sz i = c → kdT u sz (i + 1) ≠ 31 → Q (.inr h.1) (sd_pu (sd_up h rd (aRd tl (i + 1) d w so m)) (aFt 1 (plT u sz (i + 1)))) (b.1 - 1, b.2 - 8))
    (k1 : kdT u sz i = c → kdT u sz (i + 1) = 31 → (w = 0 ∨ (¬ n3 (nbT u sz (i + 1)) < lo ∧ ¬ hi' < n3 (nbT u sz (i + 1)))) → Q (.inl (n3 (nbT u sz (i + 1)))) (sd_up h rd (aRd tl (i + 2) d w so m)) b)
    (k2 : kdT u sz i = c → kdT u sz (i + 1) = 31 → w ≠ 0 → ¬ (¬ n3 (nbT u sz (i + 1)) < lo ∧ ¬ hi' < n3 (nbT u sz (i + 1))) → Q (.inr h.1) (sd_pu (sd_up h rd (aRd tl (i + 2) d w so m)) (aFt 5 (plT u sz (i + 1)))) (b.1 - 1, b.2 - 8)) : wp (fX7_numberOf G rd a lo hi') h b Q := by
  unfold fX7_numberOf
  rw [wp_bnd, (rd_rd hr).2.2.2.2.2.2, wp_bx]
  refine c_take2 hS wf T hr hi hw hc b1 b2 (fun e => ?_) (fun e => ?_)
  · have cn : c ≠ 32 ∧ c ≠ 33 := by
      rcases hw with ⟨q, -⟩ | ⟨q, -⟩
      · omega
      · have := sym_not q
        omega
    have iN := tk_lt31 hi e cn.1 cn.2
    have u1 := up_at h rd (aRd tl (i + 1) d w so m)
    show wp (sd_bnd (sd_isC G 6 rd) _) (sd_up h rd (aRd tl (i + 1) d w so m)) b Q
    rw [wp_bnd, (rd_rd u1).2.2.2.2.2.2, wp_bx]
    refine c_takeS (k := 31) (wfH_up wf hr) (TK_up hr T) u1 iN (srt_eq hS _).2.2.1 b1 b2 (fun e2 => ?_) (fun e2 => ?_)
    · rw [up_up]
      exact c_numB hS (wfH_up wf hr) (TK_up hr T) (up_at _ _ _) (tk_lt31 iN e2 (by decide) (by decide)) e2 b1 b2 (k1 e e2) (k2 e e2)
    · show wp (sd_ret (.inr h.1)) _ _ Q
      rw [wp_ret]
      exact k0 e e2
  · show wp (sd_ret (.inr h.1)) _ _ Q
    rw [wp_ret]
    exact kw e
end RD3
