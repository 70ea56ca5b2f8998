/-! THE PLAIN LAW: a tape's text as a string -/
theorem wp_clB {G : sd_G} {h : sd_H} {b : Nat × Nat} {a n : Nat} {f : Nat → Int32} {Q : Nat → sd_H → Nat × Nat → Prop} (e : sd_look G h a = some (aB n f)) (hf : fB n f) (h1 : 1 ≤ b.1) (h2 : n ≤ b.2) (kk : Q h.1 (sd_pu h (aB n f)) (b.1 - 1, b.2 - n)) : wp (sd_clB G a) h b Q := by
  refine ⟨h.1, (1, n), _, ?_, h1, h2, kk⟩
  unfold sd_clB
  simp only [e]
  rw [if_pos]
  refine ⟨trivial, ?_⟩
  rw [List.all_eq_true]
  intro i hi
  rw [List.mem_range] at hi
  exact hf i hi
section TX
variable {G : sd_G} {h : sd_H} {b : Nat × Nat} {o r cap cnt tp bt sz : Nat} {z : Int32} {g bs : Nat → Int32} {u : Nat → Nat}
theorem j_toS {Q : Nat → sd_H → Nat × Nat → Prop} (w : wfH G h) (ho : h.2 o = some (aSB r z cnt)) (hr : h.2 r = some (aB cap g)) (hf : fB cap g) (hc : cnt ≤ cap) (hcap : cap ≤ 100000) (b1 : 2 ≤ b.1) (b2 : 4 + cnt ≤ b.2)
    (kk : ∀ h' g', wfH G h' → h'.2 h.1 = some (aS (h.1 + 1) 0 0) → h'.2 (h.1 + 1) = some (aB cnt g') → (∀ j, j < cnt → g' j = g j) → h'.1 = h.1 + 2 → (∀ a, a < h.1 → h'.2 a = h.2 a) → Q h.1 h' (b.1 - 2, b.2 - (4 + cnt))) : wp (fJ13_toString G o) h b Q := by
  have lo := (w.1 _ _ ho).2
  have lr := (w.1 _ _ hr).2
  unfold fJ13_toString fJ14_init fJ14_init_2 fJ12_getValue fJ13_length fJ12_length fJ12_isLatin1
  rw [wp_bnd]
  refine wp_new (by omega) (by omega) ?_
  have l1 : ∀ e, sd_look G (sd_pu h e) o = some (aSB r z cnt) := fun e => (look_eq (pu_ne (by omega))).trans (sd_look_new ho)
  have l2 : ∀ e, sd_look G (sd_pu h e) r = some (aB cap g) := fun e => (look_eq (pu_ne (by omega))).trans (sd_look_new hr)
  rw [wp_bnd, wp_bnd, wp_bnd, (sb_rd (l1 _)).2.2.2, wp_bnd, wp_bnd, (sb_rd (l1 _)).1, wp_ret, wp_bnd, (sb_rd (l1 _)).2.2.2, wp_bnd, wp_bnd, (sb_rd (l1 _)).2.2.2, wp_bnd, wp_bnd, (sb_rd (l1 _)).2.2.1, wp_ret, wp_ret, wp_bnd, (sb_rd (l1 _)).2.2.2, wp_bnd, wp_bnd, (sb_rd (l1 _)).2.1, wp_ite, if_pos rfl, wp_ret, wp_ite, if_neg (by decide), wp_bnd, g_put (pu_at h _) (Nat.le_of_ble_eq_true rfl) rfl rfl, pu_up, wp_bnd]
  -- behind the copy
  have tail : ∀ g', (∀ j, j < cnt → g' j = g j) → wp (sd_bnd (sd_put 45 0 (.array .byte) h.1 (.ref (h.1 + 1))) fun _ => sd_ret ()) (sd_pu (sd_pu h (.inr (45, [.null, .int 0, .int 0, .int 0]))) (aB cnt g')) (b.1 - 1 - 1, b.2 - 4 - cnt) (fun _ h1 b1 => wp (sd_ret ()) h1 b1 (fun _ h1 b1 => wp (sd_ret h.1) h1 b1 Q)) := by
    intro g' hg
    have p1 : (sd_pu (sd_pu h (.inr (45, [.null, .int 0, .int 0, .int 0]))) (aB cnt g')).2 h.1 = some (.inr (45, [.null, .int 0, .int 0, .int 0])) := (pu_ne (show h.1 ≠ h.1 + 1 by omega)).trans (pu_at h _)
    rw [wp_bnd, g_put p1 (Nat.le_of_ble_eq_true rfl) rfl rfl, wp_ret, wp_ret, wp_ret]
    have := kk (sd_up (sd_pu (sd_pu h (.inr (45, [.null, .int 0, .int 0, .int 0]))) (aB cnt g')) h.1 (aS (h.1 + 1) 0 0)) g' (wfH_up (wfH_pu (wfH_pu w)) p1) (up_at _ _ _) ((up_ne (by omega)).trans (pu_at (sd_pu h (.inr (45, [.null, .int 0, .int 0, .int 0]))) _)) hg rfl (fun a ha => ?_)
    · rw [show b.1 - 1 - 1 = b.1 - 2 by omega, show b.2 - 4 - cnt = b.2 - (4 + cnt) by omega]
      exact this
    · rw [up_ne (by omega), pu_ne (show a ≠ h.1 + 1 by omega), pu_ne (by omega)]
  unfold fJ5_copyOfRange fJ5_copyOfRangeByte fJ5_checkLength
  rw [wp_ite, if_pos rfl, wp_bnd, wp_alen (l2 _), wp_ite]
  by_cases c : cnt = cap
  · subst c
    rw [if_pos rfl, wp_bnd]
    refine wp_clB (l2 _) hf (by simp only; omega) (by simp only; omega) ?_
    rw [wp_bnd, wp_isA (x := (cnt, .inl g)) (sd_look_new (pu_at (sd_pu h _) _)), wp_ret]
    exact tail g (fun _ _ => rfl)
  · rw [if_neg (by show ¬ n3 cnt = n3 cap; rw [n3_eq (by omega) (by omega)]; exact c), wp_bnd, wp_bnd, wp_ite, if_pos (by rw [show (0 : Int32) = n3 0 from rfl, n3_le (by omega) (by omega)]; omega), wp_ret, wp_bnd, wp_ret, wp_bnd, show n3 cnt - 0 = n3 cnt from n3_sub (a := cnt) (b := 0) (by omega)]
    refine wp_newI (by omega) (by simp only; omega) (by simp only; omega) ?_
    have l3 : ∀ e, sd_look G (sd_pu (sd_pu h e) (.inl (2, cnt, .inl fun _ => 0))) r = some (aB cap g) := fun e => (look_eq (pu_ne (show r ≠ h.1 + 1 by omega))).trans (l2 _)
    have e1 : ∀ (z1 : Int32), z1 = n3 cap → (if n3 cnt < z1 - 0 then n3 cnt else z1 - 0) = n3 cnt := by
      rintro z1 rfl
      rw [show n3 cap - 0 = n3 cap from n3_sub (a := cap) (b := 0) (by omega), if_pos (by rw [n3_lt (by omega) (by omega)]; omega)]
    rw [wp_bnd, wp_alen (l3 _), wp_bnd, j_min, e1 _ rfl, wp_bnd]
    show wp (sd_cpI G 2 r 0 (sd_pu h (.inr (45, [.null, .int 0, .int 0, .int 0]))).1 0 (n3 cnt)) (sd_pu (sd_pu h (.inr (45, [.null, .int 0, .int 0, .int 0]))) (aB cnt fun _ => 0)) _ _
    rw [wp_cpB (l3 _) (pu_at _ _) hc (Nat.le_refl _) (by omega) hf, pu_up, wp_ret, wp_ret]
    refine tail _ (fun j hj => ?_)
    unfold va_cpy
    rw [if_pos (by omega), show 0 + (j - 0) = j by omega]
/-- the tape -/
def tapH (h : sd_H) (tp bt sz : Nat) (u : Nat → Nat) : Prop := ∃ bs, h.2 tp = some (.inr (1, [.ref bt, .int (n3 sz)])) ∧ h.2 bt = some (.inl (2, 2000, .inl bs)) ∧ (∀ k, k < sz → bs k &&& 255 = n3 (u k) ∧ u k < 256) ∧ sz ≤ 2000
def chA (u : Nat → Nat) (sz k : Nat) : Nat := if k < sz then u k else 0
theorem tapH_fr {h' : sd_H} (w : wfH G h) (T : tapH h tp bt sz u) (hf : ∀ a, a < h.1 → h'.2 a = h.2 a) : tapH h' tp bt sz u := by
  obtain ⟨bs, t1, t2, t3, t4⟩ := T
  exact ⟨bs, (hf _ (w.1 _ _ t1).2).trans t1, (hf _ (w.1 _ _ t2).2).trans t2, t3, t4⟩
theorem c_at {k : Nat} {Q : Int32 → sd_H → Nat × Nat → Prop} (T : tapH h tp bt sz u) (hk : k < 2147483648) : wp (fX2_at G tp (n3 k)) h b Q = Q (n3 (chA u sz k)) h b := by
  obtain ⟨bs, t1, t2, t3, t4⟩ := T
  unfold fX2_at chA
  rw [wp_bnd, wp_getI (sd_look_new t1) rfl, wp_ite]
  by_cases c : k < sz
  · rw [if_neg (by rw [n3_le (by omega) (by omega)]; omega), wp_bnd, wp_getR (sd_look_new t1) rfl, wp_bnd, wp_aldI (sd_look_new t2) (n3_ix (by omega) (by omega)), n3_nn (by omega), wp_ret, (t3 k c).1, if_pos c]
  · rw [if_pos (by rw [n3_le (by omega) (by omega)]; omega), wp_ret, if_neg c]
    rfl
theorem tp_isC {Q : Unit → sd_H → Nat × Nat → Prop} (T : tapH h tp bt sz u) : wp (sd_isC G 1 tp) h b Q = Q () h b := by
  obtain ⟨bs, t1, t2, t3, t4⟩ := T
  exact wp_isC (sd_look_new t1)
theorem chA_id {c : Nat} (hc : c < 256) : ((n3 c).toUInt32 % 65536).toInt32 = n3 c := by
  have key : ∀ c : Fin 256, ((n3 c.val).toUInt32 % 65536).toInt32 = n3 c.val := by decide +kernel
  exact key ⟨c, hc⟩
theorem c_text {fm to : Nat} {Q : Nat → sd_H → Nat × Nat → Prop} (w : wfH G h) (T : tapH h tp bt sz u) (h1 : fm ≤ to) (h2 : to ≤ sz) (b1 : to - fm + 5 ≤ b.1) (b2 : 9 * (to - fm) + 200 ≤ b.2)
    (kk : ∀ h' s v g b', wfH G h' → h'.2 s = some (aS v 0 0) → h'.2 v = some (aB (to - fm) g) → (∀ j, j < to - fm → g j = sb (u (fm + j))) → h.1 ≤ s → h.1 ≤ v → h.1 ≤ h'.1 → (∀ a, a < h.1 → h'.2 a = h.2 a) → b.1 ≤ b'.1 + (to - fm + 4) → b.2 ≤ b'.2 + (5 * (to - fm) + 76) → Q s h' b') : wp (fX2_text G tp (n3 fm) (n3 to)) h b Q := by
  have h2000 : sz ≤ 2000 := by
    obtain ⟨bs, t1, t2, t3, t4⟩ := T
    exact t4
  have hu : ∀ k, k < sz → u k < 256 := by
    obtain ⟨bs, t1, t2, t3, t4⟩ := T
    exact fun k hk => (t3 k hk).2
  unfold fX2_text fJ13_init fJ12_init
  rw [wp_bnd]
  refine wp_new (by omega) (by omega) ?_
  rw [wp_bnd, wp_bnd, wp_bnd]
  refine wp_newI (t := 2) (n := 16) (by omega) (by simp only; omega) (by simp only; omega) ?_
  have p1 : (sd_pu (sd_pu h (.inr (46, [.null, .int 0, .int 0, .int 0]))) (aB 16 fun _ => 0)).2 h.1 = some (.inr (46, [.null, .int 0, .int 0, .int 0])) := (pu_ne (show h.1 ≠ h.1 + 1 by omega)).trans (pu_at h _)
  rw [wp_bnd, g_put p1 (Nat.le_of_ble_eq_true rfl) rfl rfl, wp_bnd, g_put (up_at _ _ _) (Nat.le_of_ble_eq_true rfl) rfl rfl, up_up, wp_ret, wp_ret]
  have w0 : wfH G (sd_up (sd_pu (sd_pu h (.inr (46, [.null, .int 0, .int 0, .int 0]))) (aB 16 fun _ => 0)) h.1 (aSB (h.1 + 1) 0 0)) := wfH_up (wfH_pu (wfH_pu w)) p1
  refine wp_for (F := fun k s => fX2_text_b11 G k s.1 s.2.1 s.2.2.1 s.2.2.2) (to - fm) (fun i (_ : Unit) => (tp, n3 to, h.1, n3 (fm + i))) (fun i _ h' b' => ∃ r cap g, wfH G h' ∧ h'.2 h.1 = some (aSB r 0 i) ∧ h'.2 r = some (aB cap g) ∧ fB cap g ∧ (∀ j, j < i → g j = sb (u (fm + j))) ∧ i ≤ cap ∧ cap ≤ 2 * i + 34 ∧ h.1 < r ∧ h.1 ≤ h'.1 ∧ (∀ a, a < h.1 → h'.2 a = h.2 a) ∧ b.1 ≤ b'.1 + (2 + i) ∧ b.2 ≤ b'.2 + (4 + 2 * cap)) ?_ ?_ sd_FU 0 () _ _ (Nat.zero_le _) (by unfold sd_FU; omega) ⟨h.1 + 1, 16, fun _ => 0, w0, up_at _ _ _, (up_ne (by omega)).trans (pu_at (sd_pu h _) _), fun j _ => sb_fit 0 (by omega), fun j hj => by omega, by omega, by omega, by omega, by show h.1 ≤ h.1 + 1 + 1; omega, fun a ha => ?_, by simp only; omega, by simp only; omega⟩
  · rintro K _ h' b' ⟨r, cap, g, w', e1, e2, e3, e4, e5, e6, e7, e8, e9, e10, e11⟩
    show wp (fX2_text_b11 G K tp (n3 to) h.1 (n3 (fm + (to - fm)))) _ _ Q
    unfold fX2_text_b11
    rw [wp_ite, if_pos (by rw [n3_le (by omega) (by omega)]; omega), wp_bnd, (sb_rd (sd_look_new e1)).2.2.2, wp_bnd]
    refine j_toS w' e1 e2 e3 e5 (by omega) (by omega) (by omega) (fun h3 g3 w3 q1 q2 q3 q4 q5 => ?_)
    rw [wp_ret]
    exact kk h3 h'.1 (h'.1 + 1) g3 _ w3 q1 q2 (fun j hj => (q3 j hj).trans (e4 j hj)) e8 (by omega) (by omega) (fun a ha => (q5 a (by omega)).trans (e9 a ha)) (by simp only; omega) (by simp only; omega)
  · rintro K i _ h' b' hi ⟨r, cap, g, w', e1, e2, e3, e4, e5, e6, e7, e8, e9, e10, e11⟩ nx
    show wp (fX2_text_b11 G K tp (n3 to) h.1 (n3 (fm + i))) _ _ Q
    have T' := tapH_fr w T e9
    unfold fX2_text_b11
    have hc : chA u sz (fm + i) = u (fm + i) := if_pos (by omega)
    have hlt := hu (fm + i) (by omega)
    rw [wp_ite, if_neg (by rw [n3_le (by omega) (by omega)]; omega), wp_bnd, tp_isC T', wp_bnd, c_at T' (by omega), hc, chA_id hlt, wp_bnd, (sb_rd (sd_look_new e1)).2.2.2, wp_bnd]
    refine j_app w' e1 e2 e3 e5 (by omega) hlt (by omega) (by omega) (fun h3 r3 cap3 g3 b3 w3 q1 q2 q3 q4 q5 q6 q7 q8 => ?_)
    rw [wp_bnd, wp_ret, show n3 (fm + i) + 1 = n3 (fm + (i + 1)) from n3_add (fm + i) 1]
    refine nx () h3 b3 ⟨r3, cap3, g3, w3, q1, q2, q3, fun j hj => ?_, q6, ?_, ?_, ?_, fun a ha => (q8 a (by omega) (by omega) (by omega)).trans (e9 a ha), ?_, ?_⟩
    · by_cases cj : j = i
      · rw [cj]
        exact q5
      · rw [q4 j (by omega)]
        exact e4 j (by omega)
    · rcases q7 with ⟨x1, x2, x3, x4⟩ | ⟨x1, x2, x3, x4, x5⟩ <;> omega
    · rcases q7 with ⟨x1, x2, x3, x4⟩ | ⟨x1, x2, x3, x4, x5⟩
      · omega
      · have := (w'.1 _ _ e1).2
        omega
    · rcases q7 with ⟨x1, x2, x3, x4⟩ | ⟨x1, x2, x3, x4, x5⟩ <;> omega
    · rcases q7 with ⟨x1, x2, x3, x4⟩ | ⟨x1, x2, x3, x4, x5⟩
      · rw [x4]
        omega
      · rw [x5]
        simp only
        omega
    · rcases q7 with ⟨x1, x2, x3, x4⟩ | ⟨x1, x2, x3, x4, x5⟩
      · rw [x4, x1]
        omega
      · rw [x5, x2]
        simp only
        omega
  · rw [up_ne (by omega), pu_ne (show a ≠ h.1 + 1 by omega), pu_ne (by omega)]
end TX
