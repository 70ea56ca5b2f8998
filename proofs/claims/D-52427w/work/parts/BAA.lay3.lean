/-! THE PLAIN LAW: all cushions are laid, all of it -/
section LA3
variable {G : sd_G} {so E0 : Nat} {F : Nat → Nat} {β b : Nat × Nat} {h : sd_H}
theorem c_lay {ns st r20 sz0 cap v : Nat} {mc : Int32} {f : Nat → Option Nat} {x : Nat → Nat → Int32} {Q : Nat → sd_H → Nat × Nat → Prop} (hns : ns ≤ 8) (hns1 : 1 ≤ ns) (hst : st ≤ 10) (hst1 : 1 ≤ st) (wf : wfH G h) (hso : h.2 so = some (aSo (n3 st) (n3 ns) F E0)) (L : lsO G h (F 2) mc r20 sz0 cap f) (hx : ∀ s k, s < ns → k < st → x 30 (10 * s + k) = -1 ∧ x 31 (10 * s + k) = 0) (hb : bud β b v) (hv : 720 ≤ v)
    (kk : ∀ h' b' ad mcs, wfH G h' → h.1 ≤ h'.1 → STK x ad mcs ns st (F 2) h' → (∀ m r n, h'.2 (F 2) = some (aL m r n) → r = r20 ∨ h.1 ≤ r) → (∀ s, s < ns → h.1 ≤ ad (10 + s) ∧ h.1 ≤ ad (20 + s)) → (∀ s k, s < ns → k < st → h.1 ≤ ad (100 + (10 * s + k))) → (∀ s s', s < s' → s' < ns → ad (10 + s) < ad (10 + s') ∧ ad (20 + s) < ad (20 + s') ∧ ∀ k k', k < st → k' < st → ad (100 + (10 * s + k)) < ad (100 + (10 * s' + k'))) → (∀ s k k', s < ns → k < k' → k' < st → ad (100 + (10 * s + k)) < ad (100 + (10 * s + k'))) → (∀ z, z < h.1 → z ≠ F 2 → z ≠ r20 → h'.2 z = h.2 z) → bud β b' (v - 720) → Q so h' b') : wp (fX3_lay G so) h b Q := by
  have hso2 : F 2 ≠ so := by
    intro q
    rw [← q, L.1] at hso
    cases hso
  have hsor : r20 ≠ so := by
    intro q
    rcases L.2.1 with ⟨q', -⟩ | ⟨q', -⟩
    · rw [← q, q', (wfH_z0 wf).1] at hso
      cases hso
    · rw [← q, q'] at hso
      cases hso
  have lF := (wf.1 _ _ L.1).2
  have lr : r20 < h.1 := by
    rcases L.2.1 with ⟨q, -⟩ | ⟨q, -⟩
    · have := wf.2.1
      have := (wfH_z0 wf).2
      omega
    · exact (wf.1 _ _ q).2
  unfold fX3_lay
  rw [wp_bnd, (aSo_rd hso).2.2.1, wp_bnd, wp_isC (sd_look_new L.1), wp_bnd]
  refine g_clear wf L (fun h1 w1 L1 e1 fr1 => ?_)
  have so1 : h1.2 so = some (aSo (n3 st) (n3 ns) F E0) := (fr1 so (fun q => hso2 q.symm) (fun q => hsor q.symm)).trans hso
  have hb' : bud (β.1 + (v - 720), β.2 + 20 * (v - 720)) b (90 * ns) := bud_sh.mp (bud_le hb (by omega))
  refine lay_out (β := (β.1 + (v - 720), β.2 + 20 * (v - 720))) (n00 := h1.1) (r20 := r20) hns hst hst1 rfl w1 so1 hso2 hsor (by omega) (by omega) (fun h' b' A R Cc mcs mc2 r2 cap2 f2 w' hn Y L2 g2 gr fr B => ?_) ns 0 h1 b (fun _ => 0) (fun _ => 0) (fun _ _ => 0) (fun _ => 0) _ r20 cap (fun _ => none) sd_FU (by omega) (by unfold sd_FU; omega) w1 (Nat.le_refl _) ⟨fun s hs => absurd hs (Nat.not_lt_zero _), fun _ s _ hs => absurd hs (Nat.not_lt_zero _), fun s _ _ hs => absurd hs (Nat.not_lt_zero _)⟩ L1 (fun s hs => absurd hs (Nat.not_lt_zero _)) (Or.inl rfl) (fun _ _ _ _ => rfl) hb'
  obtain ⟨ad, a10, a20, a100⟩ : ∃ ad : Nat → Nat, (∀ s, s < ns → ad (10 + s) = A s) ∧ (∀ s, s < ns → ad (20 + s) = R s) ∧ ∀ s k, k < st → ad (100 + (10 * s + k)) = Cc s k := by
    refine ⟨fun j => if j < 20 then A (j - 10) else if j < 100 then R (j - 20) else Cc ((j - 100) / 10) ((j - 100) % 10), fun s hs => ?_, fun s hs => ?_, fun s k hk => ?_⟩
    · show (if 10 + s < 20 then A (10 + s - 10) else _) = A s
      rw [if_pos (by omega), Nat.add_sub_cancel_left]
    · show (if 20 + s < 20 then _ else if 20 + s < 100 then R (20 + s - 20) else _) = R s
      rw [if_neg (by omega), if_pos (by omega), Nat.add_sub_cancel_left]
    · show (if 100 + (10 * s + k) < 20 then _ else if 100 + (10 * s + k) < 100 then _ else Cc ((100 + (10 * s + k) - 100) / 10) ((100 + (10 * s + k) - 100) % 10)) = Cc s k
      rw [if_neg (by omega), if_neg (by omega), Nat.add_sub_cancel_left, show (10 * s + k) / 10 = s by omega, show (10 * s + k) % 10 = k by omega]
  have ar2 : h'.2 r2 = some (aR cap2 f2) := by
    rcases L2.2.1 with ⟨-, q, -⟩ | ⟨q, -⟩
    · omega
    · exact q
  refine kk h' b' ad mcs w' (by omega) ⟨⟨mc2, r2, cap2, f2, L2.1, ar2, L2.2.2.1, L2.2.2.2, fun s hs => by rw [a10 s hs]; exact g2 s hs⟩, fun s hs => ?_, fun s k hs hk => ?_⟩ (fun m r n q => ?_) (fun s hs => ?_) (fun s k hs hk => ?_) (fun s s' h1' h2 => ?_) (fun s k k' hs h1' h2 => ?_) (fun z z1 z2 z3 => ?_) (bud_le (bud_sh.mpr B) (by omega))
  · rw [a10 s hs, a20 s hs]
    obtain ⟨y1, y2, -⟩ := Y.1 s hs
    refine ⟨y1, y2.trans ?_⟩
    congr 1
    congr 1
    congr 1
    congr 1
    congr 1
    congr 1
    congr 1
    congr 1
    funext k
    by_cases c : k < st
    · rw [if_pos c, if_pos c, a100 s k c]
    · rw [if_neg c, if_neg c]
  · rw [a100 s k hk, (hx s k hs hk).1, (hx s k hs hk).2]
    exact ((Y.1 s hs).2.2.2.2 k hk).1
  · rw [L2.1] at q
    rw [← aL_r (Option.some.inj q)]
    rcases gr with q | q
    · exact Or.inl q
    · exact Or.inr (by omega)
  · rw [a10 s hs, a20 s hs]
    obtain ⟨-, -, y1, y2, -⟩ := Y.1 s hs
    exact ⟨by omega, by omega⟩
  · rw [a100 s k hk]
    have := ((Y.1 s hs).2.2.2.2 k hk).2
    omega
  · rw [a10 s (by omega), a10 s' h2, a20 s (by omega), a20 s' h2]
    obtain ⟨y1, y2, y3⟩ := Y.2.1 s s' h1' h2
    refine ⟨y1, y2, fun k k' hk hk' => ?_⟩
    rw [a100 s k hk, a100 s' k' hk']
    exact y3 k k' hk hk'
  · rw [a100 s k (by omega), a100 s k' h2]
    exact Y.2.2 s k k' hs h1' h2
  · rw [fr z (by omega) z2 z3]
    exact fr1 z z2 z3
end LA3
