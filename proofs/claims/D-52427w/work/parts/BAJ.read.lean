/-! THE PLAIN LAW: a new sofa; the reader reads -/
/-- the cells of a new sofa at o -/
def nSo (G : sd_G) (o : Nat) (F : Nat → Nat) (E0 : Nat) (h : sd_H) : Prop := h.2 o = some (aSo 6 4 F E0) ∧ h.2 E0 = some (.inl (0, 24, .inl (fun _ => 0))) ∧ (∀ k, 2 ≤ k → k ≤ 5 → h.2 (F k) = some (aL 0 (sd_ad G 0) 0) ∧ o ≤ F k) ∧ (∀ k k', 2 ≤ k → k < k' → k' ≤ 5 → F k ≠ F k') ∧ o ≤ E0
section NSO
variable {G : sd_G} {h : sd_H} {b β : Nat × Nat} {v : Nat}
/-- one more list in a field -/
theorem c_fld {k o : Nat} {ob : List Value} {REST : Nat → sd_M Unit} {Q : Unit → sd_H → Nat × Nat → Prop} (wf : wfH G h) (ho : h.2 o = some (.inr (2, ob))) (hk : k < ob.length) (hb : bud β b v) (hv : 1 ≤ v) (kk : ∀ h', wfH G h' → h'.1 = h.1 + 1 → h'.2 h.1 = some (aL 0 (sd_ad G 0) 0) → h'.2 o = some (.inr (2, ob.set k (.ref h.1))) → (∀ z, z < h.1 → z ≠ o → h'.2 z = h.2 z) → bud β (b.1 - 1, b.2 - 3) (v - 1) → wp (REST h.1) h' (b.1 - 1, b.2 - 3) Q) : wp (sd_bnd (sd_new 41 3 [.int 0, .null, .int 0]) fun o1 => sd_bnd (fJ2_init G o1) fun _ => sd_bnd (sd_put 2 k (.object "java/util/ArrayList") o (.ref o1)) fun _ => REST o1) h b Q := by
  have hb1 := hb.1
  have hb2 := hb.2
  have lo := (wf.1 _ _ ho).2
  simp only [wp_bnd]
  refine g_new wf (by omega) (by omega) ?_
  have o1 : (sd_pu h (aL 0 (sd_ad G 0) 0)).2 o = some (.inr (2, ob)) := (pu_ne (by omega)).trans ho
  rw [wp_put o1 hk rfl rfl]
  refine kk _ (wfH_up (wfH_pu wf) o1) rfl ((up_ne (by omega)).trans (pu_at _ _)) (up_at _ _ _) (fun z z1 z2 => (up_ne z2).trans (pu_ne (by omega))) (bud_new (c := 1) hb (by omega) (by omega))
theorem c_soI {Q : Unit → sd_H → Nat × Nat → Prop} (wf : wfH G h) (hb : bud β b v) (hv : 20 ≤ v) (kk : ∀ h' F E0 b', wfH G h' → h.1 ≤ h'.1 → nSo G h.1 F E0 h' → (∀ z, z < h.1 → h'.2 z = h.2 z) → bud β b' (v - 20) → Q () h' b') : wp (sd_bnd (sd_new 2 12 [.int 0, .int 0, .null, .null, .null, .null, .null, .int 0, .int 0, .int 0, .int 0, .int 0]) fun o1 => fX3_init G o1) h b Q := by
  have hb1 := hb.1
  have hb2 := hb.2
  rw [wp_bnd]
  refine wp_new (by omega) (by omega) ?_
  unfold fX3_init
  rw [wp_bnd, wp_put (pu_at _ _) (Nat.le_of_ble_eq_true rfl) rfl rfl, pu_up, wp_bnd, wp_put (pu_at _ _) (Nat.le_of_ble_eq_true rfl) rfl rfl, pu_up]
  show wp _ (sd_pu h (.inr (2, [.int 6, .int 4, .null, .null, .null, .null, .null, .int 0, .int 0, .int 0, .int 0, .int 0]))) _ Q
  have w1 : wfH G (sd_pu h (.inr (2, [.int 6, .int 4, .null, .null, .null, .null, .null, .int 0, .int 0, .int 0, .int 0, .int 0]))) := wfH_pu wf
  have o1 := pu_at h (.inr (2, [.int 6, .int 4, .null, .null, .null, .null, .null, .int 0, .int 0, .int 0, .int 0, .int 0]))
  have n1 : (sd_pu h (.inr (2, [.int 6, .int 4, .null, .null, .null, .null, .null, .int 0, .int 0, .int 0, .int 0, .int 0]))).1 = h.1 + 1 := rfl
  have f1 : ∀ z, z < h.1 → (sd_pu h (.inr (2, [.int 6, .int 4, .null, .null, .null, .null, .null, .int 0, .int 0, .int 0, .int 0, .int 0]))).2 z = h.2 z := fun z hz => pu_ne (by omega)
  have b1 : bud β (b.1 - 1, b.2 - 12) (v - 1) := bud_new (c := 1) hb (by omega) (by omega)
  generalize sd_pu h (.inr (2, [.int 6, .int 4, .null, .null, .null, .null, .null, .int 0, .int 0, .int 0, .int 0, .int 0])) = h1 at w1 o1 n1 f1 ⊢
  refine c_fld (k := 2) w1 o1 (Nat.le_of_ble_eq_true rfl) b1 (by omega) (fun h2 w2 n2 l2 o2 f2 b2 => ?_)
  refine c_fld (k := 3) w2 o2 (Nat.le_of_ble_eq_true rfl) b2 (by omega) (fun h3 w3 n3' l3 o3 f3 b3 => ?_)
  refine c_fld (k := 4) w3 o3 (Nat.le_of_ble_eq_true rfl) b3 (by omega) (fun h4 w4 n4 l4 o4 f4 b4 => ?_)
  refine c_fld (k := 5) w4 o4 (Nat.le_of_ble_eq_true rfl) b4 (by omega) (fun h5 w5 n5 l5 o5 f5 b5 => ?_)
  have b5b := b5.1
  have b5c := b5.2
  rw [wp_bnd]
  refine wp_newI (t := 0) (n := 24) (by omega) (by omega) (by omega) ?_
  have o6 : (sd_pu h5 (.inl (0, 24, .inl (fun _ => 0)))).2 h.1 = _ := (pu_ne (by omega)).trans o5
  rw [wp_bnd, wp_put o6 (Nat.le_of_ble_eq_true rfl) rfl rfl, wp_ret]
  have up : ∀ z e, z ≠ h.1 → h5.2 z = some e → (sd_up (sd_pu h5 (.inl (0, 24, .inl (fun _ => 0)))) h.1 (.inr (2, [.int 6, .int 4, .ref h1.1, .ref h2.1, .ref h3.1, .ref h4.1, .ref h5.1, .int 0, .int 0, .int 0, .int 0, .int 0]))).2 z = some e := fun z e q1 q2 => (up_ne q1).trans ((pu_ne (by have := (w5.1 _ _ q2).2; omega)).trans q2)
  have L5 : h5.2 h4.1 = some (aL 0 (sd_ad G 0) 0) := l5
  have L4 : h5.2 h3.1 = some (aL 0 (sd_ad G 0) 0) := (f5 _ (by omega) (by omega)).trans l4
  have L3 : h5.2 h2.1 = some (aL 0 (sd_ad G 0) 0) := (f5 _ (by omega) (by omega)).trans ((f4 _ (by omega) (by omega)).trans l3)
  have L2 : h5.2 h1.1 = some (aL 0 (sd_ad G 0) 0) := (f5 _ (by omega) (by omega)).trans ((f4 _ (by omega) (by omega)).trans ((f3 _ (by omega) (by omega)).trans l2))
  refine kk _ (fun k => if k = 2 then h1.1 else if k = 3 then h2.1 else if k = 4 then h3.1 else h4.1) h5.1 _ (wfH_up (wfH_pu w5) o6) (by show h.1 ≤ h5.1 + 1; omega) ⟨up_at _ _ _, (up_ne (by omega)).trans (pu_at _ _), fun k k1 k2 => ?_, fun k k' k1 k2 k3 => ?_, by omega⟩ (fun z hz => ?_) ⟨by simp only at b5b ⊢; omega, by simp only at b5c ⊢; omega⟩
  · have : k = 2 ∨ k = 3 ∨ k = 4 ∨ k = 5 := by omega
    rcases this with rfl | rfl | rfl | rfl
    · exact ⟨up _ _ (by show h1.1 ≠ h.1; omega) L2, by show h.1 ≤ h1.1; omega⟩
    · exact ⟨up _ _ (by show h2.1 ≠ h.1; omega) L3, by show h.1 ≤ h2.1; omega⟩
    · exact ⟨up _ _ (by show h3.1 ≠ h.1; omega) L4, by show h.1 ≤ h3.1; omega⟩
    · exact ⟨up _ _ (by show h4.1 ≠ h.1; omega) L5, by show h.1 ≤ h4.1; omega⟩
  · have : (k = 2 ∧ k' = 3) ∨ (k = 2 ∧ k' = 4) ∨ (k = 2 ∧ k' = 5) ∨ (k = 3 ∧ k' = 4) ∨ (k = 3 ∧ k' = 5) ∨ (k = 4 ∧ k' = 5) := by omega
    rcases this with ⟨rfl, rfl⟩ | ⟨rfl, rfl⟩ | ⟨rfl, rfl⟩ | ⟨rfl, rfl⟩ | ⟨rfl, rfl⟩ | ⟨rfl, rfl⟩
    · show h1.1 ≠ h2.1; omega
    · show h1.1 ≠ h3.1; omega
    · show h1.1 ≠ h4.1; omega
    · show h2.1 ≠ h3.1; omega
    · show h2.1 ≠ h4.1; omega
    · show h3.1 ≠ h4.1; omega
  · rw [up_ne (by omega), pu_ne (by omega), f5 z (by omega) (by omega), f4 z (by omega) (by omega), f3 z (by omega) (by omega), f2 z (by omega) (by omega)]
    exact f1 z hz
end NSO
section RDD
variable {G : sd_G} {u : Nat → Nat} {sz n0 n2 tl so m rd E0 : Nat} {ta tx : Nat → Nat} {ky nd iv : Nat → Nat} {kt : Nat → List Nat} {F : Nat → Nat} {β b : Nat × Nat} {h : sd_H} {X : Nat → Nat → Int32} {Q : Nat ⊕ Nat → sd_H → Nat × Nat → Prop}
theorem c_read (C : wlC G) (K : crC G) (I : icC G) (hrd : n0 ≤ rd) (h02 : n0 ≤ n2) (hsn : n0 ≤ so) (h2h : n2 ≤ h.1) (W : W1 G u sz n0 tl ta tx rd 0 so m 0 ky nd iv kt n2 E0 F 0 h) (hX : ∀ c, c < 80 → X 30 c = -1 ∧ X 31 c = 0) (hb : bud β b (100 * (nT u sz + 1) + 740))
    (k1 : ∀ t h' q b', pBook (kdT u sz) (vlT u sz) = .inr t → h'.2 q = some (aFt 1 (plT u sz t)) → wfH G h' → fz n0 h h' → bud β b' 0 → Q (.inr q) h' b')
    (k2 : ∀ L e t h' q b', pBook (kdT u sz) (vlT u sz) = .inl L → lBook (kdT u sz) (nbT u sz) (nwT u sz) (q0S, (fun _ => 0), X) L = .inr (e, t) → h'.2 q = some (aFt (n3 e) (plT u sz t)) → wfH G h' → fz n0 h h' → bud β b' 0 → Q (.inr q) h' b')
    (kk : ∀ L S TZ so2 E2 F2 n4 ad mcs j h' b', pBook (kdT u sz) (vlT u sz) = .inl L → lBook (kdT u sz) (nbT u sz) (nwT u sz) (q0S, (fun _ => 0), X) L = .inl S → W2 G u sz n0 tl ta tx rd 1 so2 m n2 n4 E2 F2 ad mcs TZ S (flO (kdT u sz) L) j h' → (∀ s s', s < s' → s' < S.1 20 → ad (10 + s) < ad (10 + s') ∧ ad (20 + s) < ad (20 + s')) → (∃ nL, n0 ≤ nL ∧ (∀ s, s < S.1 20 → nL ≤ ad (10 + s) ∧ nL ≤ ad (20 + s)) ∧ ∀ k, 2 ≤ k → k ≤ 5 → F2 k < nL ∧ n0 ≤ F2 k) → n0 ≤ so2 → n0 ≤ E2 → fz n0 h h' → bud β b' 0 → Q (.inl so2) h' b') : wp (fX7_read G rd) h b Q := by
  have R : RW G u sz n0 tl ta tx rd 0 so m 0 ky nd iv kt h.1 0 0 h := RW_of W.1 W.2.1
  unfold fX7_read
  rw [wp_bnd, w_isC R, wp_bx]
  have hb1 : bud (β.1 + (50 * (nT u sz + 1) + 740), β.2 + 20 * (50 * (nT u sz + 1) + 740)) b (50 * (nT u sz + 1)) := bud_sh.mp (bud_le hb (by omega))
  have un : ∀ b', bud (β.1 + (50 * (nT u sz + 1) + 740), β.2 + 20 * (50 * (nT u sz + 1) + 740)) b' 0 → bud β b' (50 * (nT u sz + 1) + 740) := fun b' q => bud_le (bud_sh.mpr q) (by omega)
  refine w_sofa1 rfl C K I (fun j hj => absurd hj (Nat.not_lt_zero _)) hrd h02 hsn W hb1 (fun t h' q b' q1 q2 q3 q4 q5 => ?_) (fun L j h1 b1 q1 W1' f1 B1 => ?_)
  · show wp (sd_ret (.inr q)) h' b' Q
    rw [wp_ret]
    exact k1 t h' q b' q1 q2 q3 q4 (bud_le (un _ q5) (Nat.zero_le _))
  · have B1 := un _ B1
    obtain ⟨w1, w2, w3, w4, -, -⟩ := W1'
    show wp (sd_bnd (sd_put 6 1 .int rd (.int 0)) _) h1 b1 Q
    rw [wp_bnd, wp_put w2.2.1 (Nat.le_of_ble_eq_true rfl) rfl rfl, wp_bnd, wp_put (up_at _ _ _) (Nat.le_of_ble_eq_true rfl) rfl rfl, up_up]
    show wp _ (sd_up h1 rd (aRd tl 0 0 1 so m)) b1 Q
    have w5 : wfH G (sd_up h1 rd (aRd tl 0 0 1 so m)) := wfH_up w1 w2.2.1
    have T5 : TK G u sz n0 tl ta tx (sd_up h1 rd (aRd tl 0 0 1 so m)) := TK_up w2.2.1 w2.1
    have M5 : HM (nmA u sz tx) m 0 ky nd iv kt (sd_up h1 rd (aRd tl 0 0 1 so m)) := HM_up w2.2.1 w2.2.2
    have r5 := up_at h1 rd (aRd tl 0 0 1 so m)
    have f5 : fz n0 h (sd_up h1 rd (aRd tl 0 0 1 so m)) := f1.trans (fz_up hrd)
    have n5 : (sd_up h1 rd (aRd tl 0 0 1 so m)).1 = h1.1 := rfl
    have ne5 : ∀ z, z ≠ rd → (sd_up h1 rd (aRd tl 0 0 1 so m)).2 z = h1.2 z := fun z hz => up_ne hz
    generalize sd_up h1 rd (aRd tl 0 0 1 so m) = h5 at w5 T5 M5 r5 f5 n5 ne5 ⊢
    have tn : tl ≠ rd := by
      intro q
      obtain ⟨mc0, r0, cap0, f0, e1, -⟩ := w2.1.1
      rw [q, w2.2.1] at e1
      cases e1
    have mn : m ≠ rd := by
      intro q
      obtain ⟨tb, mc', thr, fl, q1, -⟩ := w2.2.2.1
      rw [q, w2.2.1] at q1
      cases q1
    -- the new sofa
    have assoc : ∀ (K : Nat → sd_M (Nat ⊕ Nat)) (Q : Nat ⊕ Nat → sd_H → Nat × Nat → Prop), wp (sd_bnd (sd_new 2 12 [.int 0, .int 0, .null, .null, .null, .null, .null, .int 0, .int 0, .int 0, .int 0, .int 0]) fun o1 => fX3_init G o1) h5 b1 (fun _ h' b' => wp (K h5.1) h' b' Q) → wp (sd_bnd (sd_new 2 12 [.int 0, .int 0, .null, .null, .null, .null, .null, .int 0, .int 0, .int 0, .int 0, .int 0]) fun o1 => sd_bnd (fX3_init G o1) fun _ => K o1) h5 b1 Q := by
      intro K Q w
      rw [wp_bnd] at w ⊢
      obtain ⟨a, c, h', e1, e2, e3, e4⟩ := w
      refine ⟨a, c, h', e1, e2, e3, ?_⟩
      unfold sd_new at e1
      cases e1
      rw [wp_bnd]
      exact e4
    refine assoc _ Q (c_soI w5 B1 (by omega) (fun h6 F2 E2 b6 w6 n6 S6 f6 B6 => ?_))
    have lr5 := (w5.1 _ _ r5).2
    have kp6 : ∀ z e, h5.2 z = some e → h6.2 z = some e := fun z e hz => (f6 z (w5.1 _ _ hz).2).trans hz
    have r6 := kp6 _ _ r5
    rw [wp_bnd, wp_put r6 (Nat.le_of_ble_eq_true rfl) rfl rfl]
    show wp _ (sd_up h6 rd (aRd tl 0 0 1 h5.1 m)) b6 Q
    have rc6 : RC G u sz n0 tl ta tx rd 1 so m 0 ky nd iv kt 0 0 h6 := RC_mono kp6 ⟨T5, r5, M5⟩
    have rc7 : RC G u sz n0 tl ta tx rd 1 h5.1 m 0 ky nd iv kt 0 0 (sd_up h6 rd (aRd tl 0 0 1 h5.1 m)) := ⟨TK_up r6 rc6.1, up_at _ _ _, HM_up r6 rc6.2.2⟩
    have w7 : wfH G (sd_up h6 rd (aRd tl 0 0 1 h5.1 m)) := wfH_up w6 r6
    have ne7 : ∀ z, z ≠ rd → (sd_up h6 rd (aRd tl 0 0 1 h5.1 m)).2 z = h6.2 z := fun z hz => up_ne hz
    have n7 : (sd_up h6 rd (aRd tl 0 0 1 h5.1 m)).1 = h6.1 := rfl
    have f7 : fz n0 h (sd_up h6 rd (aRd tl 0 0 1 h5.1 m)) := by
      refine f5.trans (fz.trans ⟨n6, fun a ha => f6 a ?_⟩ (fz_up hrd))
      have := f5.1
      omega
    generalize sd_up h6 rd (aRd tl 0 0 1 h5.1 m) = h7 at rc7 w7 ne7 n7 f7 ⊢
    obtain ⟨s1, s2, s3, s4, s5⟩ := S6
    have h15 := f5.1
    have R7 : RW G u sz n0 tl ta tx rd 1 h5.1 m 0 ky nd iv kt h7.1 0 0 h7 := RW_of w7 rc7
    rw [wp_bnd, w_isC R7, wp_bx]
    refine w_sofa2 (X := X) (L := L) (F := F2) (E0 := E2) (n2 := n2) (by decide) C K I hrd h02 (by omega) w7 rc7 (tlw_kp w3 w2.1 (fun mc r n q => ?_)) (by omega) (mow_eq w4 ?_) ((ne7 _ (by omega)).trans s1) ((ne7 _ (by omega)).trans s2) (fun k k1 k2 => ⟨(ne7 _ ?_).trans (s3 k k1 k2).1, ?_⟩) s4 hX q1 (bud_le B6 (by omega)) (fun e t h' q b' p1 p2 p3 p4 p5 => ?_) (fun S TZ n4 ad mcs j' h' b' p1 p2 p3 p4 p5 p6 => ?_)
    · rw [ne7 _ tn, f6 _ (by rw [n5]; exact (w1.1 _ _ q).2), ne5 _ tn]
      exact q
    · obtain ⟨tb, mc', thr, fl, q1, -⟩ := w2.2.2.1
      rw [ne7 _ mn, f6 _ (by rw [n5]; exact (w1.1 _ _ q1).2), ne5 _ mn]
    · have := (s3 k k1 k2).2
      omega
    · have := (s3 k k1 k2).2
      have := f1.1
      omega
    · show wp (sd_ret (.inr q)) h' b' Q
      rw [wp_ret]
      exact k2 L e t h' q b' q1 p1 p2 p3 (f7.trans p4) p5
    · show wp (sd_bnd (sd_getR G 6 4 rd) _) h' b' Q
      have rr : ∃ i, h'.2 rd = some (aRd tl i 0 1 h5.1 m) := by
        obtain ⟨ky', nd', iv', kt', Wm⟩ := p2
        exact ⟨_, Wm.2.2.1.2.1⟩
      obtain ⟨i, rr⟩ := rr
      rw [wp_bnd, (rd_rd rr).2.2.2.2.1, wp_ret]
      exact kk L S TZ h5.1 E2 F2 n4 ad mcs j' h' b' q1 p1 p2 p3 ⟨h7.1, by have := f7.1; omega, p4, fun k k1 k2 => by have := (w6.1 _ _ (s3 k k1 k2).1).2; have := (s3 k k1 k2).2; omega⟩ (by omega) (by omega) (f7.trans p5) p6
end RDD
