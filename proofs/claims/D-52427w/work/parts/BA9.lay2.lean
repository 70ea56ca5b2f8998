/-! THE PLAIN LAW: all cushions are laid, seat by seat -/
/-- s seats laid, all from n00 on -/
def LYs (st n00 : Nat) (A R : Nat → Nat) (Cc : Nat → Nat → Nat) (mcs : Nat → Int32) (s : Nat) (h : sd_H) : Prop := (∀ s', s' < s → h.2 (A s') = some (aL (mcs s') (R s') st) ∧ h.2 (R s') = some (aR 10 (fun k => if k < st then some (Cc s' k) else none)) ∧ n00 ≤ A s' ∧ n00 ≤ R s' ∧ ∀ k, k < st → h.2 (Cc s' k) = some (.inr (3, [.int (n3 k), .int (-1), .int 0, .int 0])) ∧ n00 ≤ Cc s' k) ∧ (∀ s' s'', s' < s'' → s'' < s → A s' < A s'' ∧ R s' < R s'' ∧ ∀ k k', k < st → k' < st → Cc s' k < Cc s'' k') ∧ ∀ s' k k', s' < s → k < k' → k' < st → Cc s' k < Cc s' k'
def up2N (c : Nat → Nat → Nat) (s : Nat) (g : Nat → Nat) : Nat → Nat → Nat := fun j => if j = s then g else c j
def updM (c : Nat → Int32) (s : Nat) (g : Int32) : Nat → Int32 := fun j => if j = s then g else c j
section LA2
variable {G : sd_G} {so E0 : Nat} {F : Nat → Nat} {β : Nat × Nat}
theorem lay_out {ns st n00 r20 : Nat} {h00 : sd_H} {Q : Nat → sd_H → Nat × Nat → Prop} (hns : ns ≤ 8) (hst : st ≤ 10) (hst1 : 1 ≤ st) (hn : n00 = h00.1) (w00 : wfH G h00) (hso : h00.2 so = some (aSo (n3 st) (n3 ns) F E0)) (hsoF : F 2 ≠ so) (hsor : r20 ≠ so) (hF2 : F 2 < n00) (hr20 : r20 < n00)
    (kk : ∀ h b A R Cc mcs mc2 r2 cap2 f2, wfH G h → n00 ≤ h.1 → LYs st n00 A R Cc mcs ns h → lsO G h (F 2) mc2 r2 ns cap2 f2 → (∀ s, s < ns → f2 s = some (A s)) → (r2 = r20 ∨ n00 ≤ r2) → (∀ z, z < n00 → z ≠ F 2 → z ≠ r20 → h.2 z = h00.2 z) → bud β b 0 → Q so h b) : ∀ (q s : Nat) (h : sd_H) (b : Nat × Nat) (A R : Nat → Nat) (Cc : Nat → Nat → Nat) (mcs : Nat → Int32) (mc2 : Int32) (r2 cap2 : Nat) (f2 : Nat → Option Nat) (fuel : Nat), q + s = ns → q < fuel → wfH G h → n00 ≤ h.1 → LYs st n00 A R Cc mcs s h → lsO G h (F 2) mc2 r2 s cap2 f2 → (∀ s', s' < s → f2 s' = some (A s') ∧ (R s' ≠ r2 ∨ r2 = sd_ad G 0)) → (r2 = r20 ∨ n00 ≤ r2) → (∀ z, z < n00 → z ≠ F 2 → z ≠ r20 → h.2 z = h00.2 z) → bud β b (90 * q) → wp (sd_loop (fun k s => fX3_lay_b9 G k s.1 s.2) fuel (so, n3 s)) h b Q := by
  have lso := (w00.1 _ _ hso).2
  intro q
  induction q with
  | zero =>
    intro s h b A R Cc mcs mc2 r2 cap2 f2 fuel hq hf wf hn0 Y L2 g2 gr fr hb
    cases fuel with
    | zero => omega
    | succ fuel =>
      have hs : s = ns := by omega
      subst hs
      have so1 : h.2 so = some (aSo (n3 st) (n3 s) F E0) := (fr so (by omega) (fun q => hsoF q.symm) (fun q => hsor q.symm)).trans hso
      show wp (fX3_lay_b9 G (sd_loop _ fuel) so (n3 s)) h b Q
      unfold fX3_lay_b9
      rw [wp_bnd, (aSo_rd so1).2.1, wp_ite, if_pos (by rw [n3_le (by omega) (by omega)]; omega), wp_ret]
      exact kk h b A R Cc mcs mc2 r2 cap2 f2 wf hn0 Y L2 (fun s hs => (g2 s hs).1) gr fr (bud_le hb (Nat.zero_le _))
  | succ q ih =>
    intro s h b A R Cc mcs mc2 r2 cap2 f2 fuel hq hf wf hn0 Y L2 g2 gr fr hb
    cases fuel with
    | zero => omega
    | succ fuel =>
      have hb1 := hb.1
      have hb2 := hb.2
      have so1 : h.2 so = some (aSo (n3 st) (n3 ns) F E0) := (fr so (by omega) (fun q => hsoF q.symm) (fun q => hsor q.symm)).trans hso
      show wp (fX3_lay_b9 G (sd_loop (fun k s => fX3_lay_b9 G k s.1 s.2) fuel) so (n3 s)) h b Q
      unfold fX3_lay_b9
      rw [wp_bnd, (aSo_rd so1).2.1, wp_ite, if_neg (by rw [n3_le (by omega) (by omega)]; omega)]
      simp only [wp_bnd]
      refine g_new wf (by omega) (by omega) ?_
      have w1 : wfH G (sd_pu h (aL 0 (sd_ad G 0) 0)) := wfH_pu wf
      have kp1 : ∀ z e, h.2 z = some e → (sd_pu h (aL 0 (sd_ad G 0) 0)).2 z = some e := fun z e hz => (pu_ne (by have := (wf.1 _ _ hz).2; omega)).trans hz
      have fr1 : ∀ z, z < h.1 → (sd_pu h (aL 0 (sd_ad G 0) 0)).2 z = h.2 z := fun z hz => pu_ne (by omega)
      have S1 : SEk G h.1 h.1 (sd_ad G 0) 0 0 0 (fun _ => none) (fun _ => 0) (sd_pu h (aL 0 (sd_ad G 0) 0)) := ⟨g_newls wf, Or.inl ⟨rfl, rfl, rfl⟩, Nat.le_refl _, fun j hj => absurd hj (Nat.not_lt_zero _), fun j j' _ hj => absurd hj (Nat.not_lt_zero _)⟩
      -- the seat's own cells; h stands for what lay before it
      refine lay_in (β := (β.1 + 90 * q, β.2 + 20 * (90 * q))) (ns := ns) (n1 := h.1) (h0 := h) hst rfl wf so1 (fun h3 b3 mc3 r3 cap3 f3 c3 w3 n3' fr3 S3 B3 => ?_) st 0 _ _ 0 (sd_ad G 0) 0 (fun _ => none) (fun _ => 0) sd_FU (by omega) (by unfold sd_FU; omega) w1 (Nat.le_succ _) fr1 S1 ?_
      · obtain ⟨s1, s2, s3, s4, s5⟩ := S3
        have kp3 : ∀ z e, h.2 z = some e → h3.2 z = some e := fun z e hz => (fr3 z (wf.1 _ _ hz).2).trans hz
        have so3 := kp3 _ _ so1
        have z0 := wfH_z0 w3
        have L3 : lsO G h3 (F 2) mc2 r2 s cap2 f2 := by
          obtain ⟨l1, l2, l3⟩ := L2
          refine ⟨kp3 _ _ l1, ?_, l3⟩
          rcases l2 with q | ⟨q, q'⟩
          · exact Or.inl q
          · exact Or.inr ⟨kp3 _ _ q, q'⟩
        have s2 : cap3 = 10 ∧ h.1 ≤ r3 := by
          rcases s2 with ⟨q, -⟩ | ⟨-, q1, q2⟩
          · omega
          · exact ⟨q1, q2⟩
        obtain ⟨c10, hr3⟩ := s2
        subst c10
        have ar3 : h3.2 r3 = some (aR 10 f3) := by
          rcases s1.2.1 with ⟨q, -⟩ | ⟨q, -⟩
          · have := wf.2.1
            omega
          · exact q
        have lr3 := (w3.1 _ _ ar3).2
        have la3 := (w3.1 _ _ s1.1).2
        have ff3 : f3 = fun k => if k < st then some (c3 k) else none := by
          funext j
          by_cases cj : j < st
          · rw [if_pos cj]
            exact (s4 j cj).1
          · rw [if_neg cj]
            rcases s1.2.1 with ⟨q, -⟩ | ⟨-, -, q⟩
            · have := wf.2.1
              omega
            · exact q j (by omega)
        have okL : ∀ z mc' r' k', h3.2 z = some (aL mc' r' k') → sd_okQ G h3 4 (some z) = true := by
          intro z mc' r' k' hz
          unfold sd_okQ
          simp only [sd_look_new hz]
          rfl
        have B3b := B3.1
        have B3c := B3.2
        simp only at B3b B3c
        rw [wp_bnd, (aSo_rd so3).2.2.1, wp_bnd, wp_isC (sd_look_new L3.1), wp_bnd]
        refine g_add w3 L3 (by omega) (fun j hj => by rw [(g2 j hj).1]; exact okL _ _ _ _ (kp3 _ _ (Y.1 j hj).1)) (okL _ _ _ _ s1.1) (by omega) (by omega) (fun h4 r4 cap4 f4 b4 w4 L4 k1 k2 k3 k4 k5 k6 k7 => ?_)
        have r2lt : r2 < h.1 := by
          rcases L2.2.1 with ⟨q, -⟩ | ⟨q, -⟩
          · have := wf.2.1
            have := (wfH_z0 wf).2
            omega
          · exact (wf.1 _ _ q).2
        rw [wp_bnd, wp_ret, show n3 s + 1 = n3 (s + 1) from n3_add s 1]
        -- what lies there stays
        have kp4 : ∀ z e, h3.2 z = some e → z ≠ F 2 → (z = r2 → r2 = sd_ad G 0) → h4.2 z = some e := by
          intro z e hz q1 q2
          rw [k5 z q1 (fun q => ?_) (w3.1 _ _ hz).2]
          · exact hz
          · have := q2 q
            rw [q, this, z0.1] at hz
            cases hz
        have old : ∀ s', s' < s → R s' = r2 → r2 = sd_ad G 0 := fun s' hs' q => (g2 s' hs').2.resolve_left (fun q' => q' q)
        have Y4 : LYs st n00 (updN A s h.1) (updN R s r3) (up2N Cc s c3) (updM mcs s mc3) (s + 1) h4 := by
          refine ⟨fun s' hs' => ?_, fun s' s'' h1 h2 => ?_, fun s' k k' h1 h2 h3' => ?_⟩
          · by_cases cs : s' = s
            · subst cs
              rw [updN_same, updN_same, show up2N Cc s' c3 s' = c3 from if_pos rfl, show updM mcs s' mc3 s' = mc3 from if_pos rfl]
              refine ⟨kp4 _ _ s1.1 (by omega) (fun q => by omega), ?_, by omega, by omega, fun k hk => ⟨kp4 _ _ (s4 k hk).2.2 ?_ ?_, by have := (s4 k hk).2.1; omega⟩⟩
              · rw [← ff3]
                exact kp4 _ _ ar3 (by omega) (fun q => by omega)
              · have := (s4 k hk).2.1
                omega
              · have := (s4 k hk).2.1
                intro q
                omega
            · rw [updN_ne cs, updN_ne cs, show up2N Cc s c3 s' = Cc s' from if_neg cs, show updM mcs s mc3 s' = mcs s' from if_neg cs]
              obtain ⟨y1, y2, y3, y4, y5⟩ := Y.1 s' (by omega)
              have nr : ∀ z d' fs, h.2 z = some (.inr (d', fs)) → z = r2 → r2 = sd_ad G 0 := by
                intro z d' fs hz q
                rcases L2.2.1 with ⟨q', -⟩ | ⟨q', -⟩
                · exact q'
                · rw [← q, hz] at q'
                  cases q'
              refine ⟨kp4 _ _ (kp3 _ _ y1) (by omega) (nr _ _ _ y1), kp4 _ _ (kp3 _ _ y2) (by omega) (old s' (by omega)), y3, y4, fun k hk => ⟨kp4 _ _ (kp3 _ _ (y5 k hk).1) (by have := (y5 k hk).2; omega) (nr _ _ _ (y5 k hk).1), (y5 k hk).2⟩⟩
          · rw [updN_ne (show s' ≠ s by omega), updN_ne (show s' ≠ s by omega), show up2N Cc s c3 s' = Cc s' from if_neg (by omega)]
            by_cases cs : s'' = s
            · subst cs
              rw [updN_same, updN_same, show up2N Cc s'' c3 s'' = c3 from if_pos rfl]
              obtain ⟨y1, y2, y3, y4, y5⟩ := Y.1 s' h1
              refine ⟨(wf.1 _ _ y1).2, by have := (wf.1 _ _ y2).2; omega, fun k k' hk hk' => ?_⟩
              have := (wf.1 _ _ (y5 k hk).1).2
              have := (s4 k' hk').2.1
              omega
            · rw [updN_ne cs, updN_ne cs, show up2N Cc s c3 s'' = Cc s'' from if_neg cs]
              exact Y.2.1 s' s'' h1 (by omega)
          · by_cases cs : s' = s
            · rw [cs, show up2N Cc s c3 s = c3 from if_pos rfl]
              exact s5 k k' h2 h3'
            · rw [show up2N Cc s c3 s' = Cc s' from if_neg cs]
              exact Y.2.2 s' k k' (by omega) h2 h3'
        refine ih (s + 1) h4 b4 _ _ _ _ (mc2 + 1) r4 cap4 f4 fuel (by omega) (by omega) w4 (by omega) Y4 L4 (fun s' hs' => ?_) ?_ (fun z z1 z2 z3 => ?_) ⟨by omega, by omega⟩
        · by_cases cs : s' = s
          · subst cs
            rw [updN_same, updN_same]
            refine ⟨k2, ?_⟩
            rcases k4 with ⟨-, q⟩ | ⟨-, -, q, -⟩
            · exact Or.inl (by omega)
            · exact Or.inl (by omega)
          · rw [updN_ne cs, updN_ne cs]
            obtain ⟨y1, y2⟩ := g2 s' (by omega)
            refine ⟨(k1 s' (by omega)).trans y1, ?_⟩
            rcases k4 with ⟨-, q⟩ | ⟨-, -, q, -⟩
            · rw [q]
              exact y2
            · have := (wf.1 _ _ (Y.1 s' (by omega)).2.1).2
              exact Or.inl (by omega)
        · rcases k4 with ⟨-, q⟩ | ⟨-, -, q, -⟩
          · rw [q]
            exact gr
          · exact Or.inr (by omega)
        · have e3 : h3.2 z = h00.2 z := (fr3 z (by omega)).trans (fr z z1 z2 z3)
          by_cases c : z = r2
          · rcases gr with q | q
            · exact absurd (c.trans q) z3
            · omega
          · rw [k5 z z2 c (by omega)]
            exact e3
      · refine ⟨?_, ?_⟩
        · simp only
          omega
        · simp only
          omega
end LA2
