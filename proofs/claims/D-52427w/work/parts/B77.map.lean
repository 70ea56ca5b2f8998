/-! THE PLAIN LAW: the map of names, looked into -/
def spr (z : Int32) : Int32 := z ^^^ (z.toUInt32 >>> ((16 : Int32).toUInt32 &&& Int32.toUInt32 31)).toInt32
theorem and15 (z : Int32) : ∃ k, k < 16 ∧ (n3 16 - 1) &&& z = n3 k := by
  refine ⟨(15#32 &&& z.toBitVec).toNat, ?_, ?_⟩
  · rw [BitVec.toNat_and]
    exact Nat.lt_of_le_of_lt Nat.and_le_left (by decide)
  · refine Int32.toBitVec_inj.1 ?_
    show (n3 16 - 1).toBitVec &&& z.toBitVec = BitVec.ofNat 32 (15#32 &&& z.toBitVec).toNat
    rw [BitVec.ofNat_toNat, BitVec.setWidth_eq]
    rfl
/-- the place of a hash -/
def bk (z : Int32) : Nat := ((n3 16 - 1) &&& z).toNatClampNeg
theorem bk_ok (z : Int32) : bk z < 16 ∧ (n3 16 - 1) &&& z = n3 (bk z) := by
  obtain ⟨k, h1, h2⟩ := and15 z
  unfold bk
  rw [h2, n3_nn (by omega)]
  exact ⟨h1, rfl⟩
def ndC (z : Int32) (y v : Nat) (nx : Option Nat) : sd_E := .inr (44, [.int z, .ref y, .ref v, va_rf nx])
/-- a chain of nodes -/
def chn (h : sd_H) (ky nd iv : Nat → Nat) (kt : Nat → List Nat) : Option Nat → List Nat → Prop
  | p, [] => p = none
  | p, j :: r => p = some (nd j) ∧ ∃ nx, h.2 (nd j) = some (ndC (spr (hsh (kt j))) (ky j) (iv j) nx) ∧ chn h ky nd iv kt nx r
def bks (kt : Nat → List Nat) (k i : Nat) : List Nat := (List.range k).filter (fun j => decide (bk (spr (hsh (kt j))) = i))
abbrev aHM (tb : Option Nat) (k : Nat) (mc thr : Int32) (fl : UInt32) : sd_E := .inr (43, [.null, .null, va_rf tb, .null, .int (n3 k), .int mc, .int thr, .float fl])
/-- the map with k names -/
def HM (N : Nat → Prop) (m k : Nat) (ky nd iv : Nat → Nat) (kt : Nat → List Nat) (h : sd_H) : Prop := (∃ tb mc thr fl, h.2 m = some (aHM tb k mc thr fl) ∧ ((tb = none ∧ k = 0 ∧ thr = 0) ∨ ∃ t f, tb = some t ∧ thr = 12 ∧ h.2 t = some (.inl (5, 16, .inr (.inr (.inr (.inr f))))) ∧ ∀ i, i < 16 → chn h ky nd iv kt (f i) (bks kt k i))) ∧ k ≤ 6 ∧ (∀ j, j < k → strN h (ky j) (kt j) ∧ N (ky j)) ∧ (∀ i j, i < j → j < k → kt i ≠ kt j ∧ nd i ≠ nd j)
theorem ndC_rd {G : sd_G} {h : sd_H} {a y v : Nat} {z : Int32} {nx : Option Nat} (ha : h.2 a = some (ndC z y v nx)) : (∀ b (Q : Int32 → sd_H → Nat × Nat → Prop), wp (sd_getI G 44 0 a) h b Q = Q z h b) ∧ (∀ b (Q : Nat → sd_H → Nat × Nat → Prop), wp (sd_getR G 44 1 a) h b Q = Q y h b) ∧ (∀ b (Q : Nat → sd_H → Nat × Nat → Prop), wp (sd_getR G 44 2 a) h b Q = Q v h b) ∧ (∀ b (Q : Option Nat → sd_H → Nat × Nat → Prop), wp (sd_getQ G 44 3 a) h b Q = Q nx h b) ∧ (∀ b (Q : Unit → sd_H → Nat × Nat → Prop), wp (sd_isC G 44 a) h b Q = Q () h b) := ⟨fun _ _ => wp_getI (sd_look_new ha) rfl, fun _ _ => wp_getR (sd_look_new ha) rfl, fun _ _ => wp_getR (sd_look_new ha) rfl, fun _ _ => wp_getQ (sd_look_new ha) rfl, fun _ _ => wp_isC (sd_look_new ha)⟩
section MAP
variable {G : sd_G} {h : sd_H} {b : Nat × Nat} {x m k : Nat} {l : List Nat} {ky nd iv : Nat → Nat} {kt : Nat → List Nat} {N : Nat → Prop}
def fdK (kt : Nat → List Nat) (l : List Nat) (r : List Nat) : Option Nat := r.find? (fun j => decide (kt j = l))
theorem chn_keep {h' : sd_H} (hk : ∀ a z y v nx, h.2 a = some (ndC z y v nx) → h'.2 a = some (ndC z y v nx)) : ∀ (r : List Nat) (p : Option Nat), chn h ky nd iv kt p r → chn h' ky nd iv kt p r := by
  intro r
  induction r with
  | nil => intro p H; exact H
  | cons j r ih =>
    intro p H
    obtain ⟨h1, nx, h2, h3⟩ := H
    exact ⟨h1, nx, hk _ _ _ _ _ h2, ih nx h3⟩
/-- the rest of a chain -/
theorem c_chain {Q : Option Nat → sd_H → Nat × Nat → Prop} (H : strN h x l) (hy : ∀ j, j < k → strN h (ky j) (kt j)) : ∀ (r : List Nat) (p : Nat) (fuel : Nat), r.length < fuel → (∀ j, j ∈ r → j < k) → chn h ky nd iv kt (some p) r → wp (sd_loop (fun k s => fJ22_getNode_b99 G k s.1 s.2.1 s.2.2) fuel (x, p, spr (hsh l))) h b Q = Q ((fdK kt l r).map nd) h b := by
  intro r
  induction r with
  | nil =>
    intro p fuel _ _ C
    cases C
  | cons j r ih =>
    intro p fuel hf hj C
    obtain ⟨c1, nx, c2, c3⟩ := C
    cases c1
    cases fuel with
    | zero => cases hf
    | succ fuel =>
      rw [List.length_cons] at hf
      show wp (fJ22_getNode_b99 G (sd_loop (fun k s => fJ22_getNode_b99 G k s.1 s.2.1 s.2.2) fuel) x (nd j) (spr (hsh l))) h b Q = _
      have rd := ndC_rd (G := G) c2
      have hjk := hy j (hj j (by simp))
      -- on to the next
      have go : kt j ≠ l → wp (sd_bnd (sd_getQ G 44 3 (nd j)) fun v15 => match v15 with
          | none => sd_ret none
          | some p16 => sd_loop (fun k s => fJ22_getNode_b99 G k s.1 s.2.1 s.2.2) fuel (x, p16, spr (hsh l))) h b Q = Q ((fdK kt l (j :: r)).map nd) h b := by
        intro hne
        rw [wp_bnd, rd.2.2.2.1]
        have ef : fdK kt l (j :: r) = fdK kt l r := by
          unfold fdK
          rw [List.find?_cons_of_neg (by simpa using hne)]
        rw [ef]
        cases nx with
        | none =>
          cases r with
          | nil =>
            show wp (sd_ret none) h b Q = _
            rw [wp_ret]
            rfl
          | cons j2 r2 =>
            obtain ⟨q, -⟩ := c3
            cases q
        | some p2 => exact ih p2 fuel (by omega) (fun j' hj' => hj j' (by simp [hj'])) c3
      have hit : kt j = l → fdK kt l (j :: r) = some j := by
        intro e
        unfold fdK
        rw [List.find?_cons_of_pos (by simpa using e)]
      unfold fJ22_getNode_b99
      rw [wp_bnd, rd.1, wp_ite]
      by_cases ch : spr (hsh (kt j)) = spr (hsh l)
      · rw [if_pos ch, wp_bnd, rd.2.1, wp_ite]
        by_cases cx : ky j = x
        · rw [if_pos cx, wp_ret]
          rw [cx] at hjk
          rw [hit (strN_u hjk H)]
          rfl
        · rw [if_neg cx, wp_bnd, strH_isC (strN_H H), wp_bnd, j_eq (strN_H H) (strN_H hjk), wp_ite]
          by_cases cl : l = kt j
          · rw [if_pos cl, if_neg (by decide), wp_ret, hit cl.symm]
            rfl
          · rw [if_neg cl, if_pos rfl]
            exact go (fun e => cl e.symm)
      · rw [if_neg ch]
        exact go (fun e => ch (by rw [e]))
theorem bks_fd : fdK kt l (bks kt k (bk (spr (hsh l)))) = fdK kt l (List.range k) := by
  unfold fdK bks
  rw [List.find?_filter]
  congr 1
  funext j
  by_cases c : kt j = l
  · rw [c]
    simp
  · simp [c]
theorem HM_sfr {h' : sd_H} (M : HM N m k ky nd iv kt h) (s : sfr G N h h') : HM N m k ky nd iv kt h' := by
  obtain ⟨s1, s2, s3, s4, s5⟩ := s
  have kp : ∀ a e, h.2 a = some e → (∀ v hs hz, e ≠ aS v hs hz) → h'.2 a = some e := by
    intro a e ha hne
    by_cases c : N a
    · obtain ⟨v, hs, hz, -, -, q, -⟩ := s5 a c ⟨e, ha⟩
      rw [ha] at q
      cases q
      exact absurd rfl (hne v hs hz)
    · rw [s2 a c]
      exact ha
  obtain ⟨⟨tb, mc, thr, fl, m1, m2⟩, m3, m4, m5⟩ := M
  refine ⟨⟨tb, mc, thr, fl, kp _ _ m1 (fun v hs hz q => by cases q), ?_⟩, m3, fun j hj => ⟨s3 _ _ (m4 j hj).1, (m4 j hj).2⟩, m5⟩
  rcases m2 with m2 | ⟨t, f, q1, q2, q3, q4⟩
  · exact Or.inl m2
  · refine Or.inr ⟨t, f, q1, q2, kp _ _ q3 (fun v hs hz q => by cases q), fun i hi => ?_⟩
    exact chn_keep (fun a z y v nx ha => kp _ _ ha (fun v hs hz q => by cases q)) _ _ (q4 i hi)
theorem j_spr {Q : Int32 → sd_H → Nat × Nat → Prop} (H : strN h x l) (hx : N x) (hN : ∀ a e, N a → h.2 a = some e → ∃ v hs hz, e = aS v hs hz) (kk : ∀ h', sfr G N h h' → Q (spr (hsh l)) h' b) : wp (fJ22_hash G x) h b Q := by
  unfold fJ22_hash
  rw [wp_bnd, strH_isC (strN_H H), wp_bnd]
  refine j_hash H hx hN (fun h' s => ?_)
  rw [wp_bnd, wp_ret, wp_ret]
  exact kk h' s
theorem c_node {Q : Option Nat → sd_H → Nat × Nat → Prop} (M : HM N m k ky nd iv kt h) (H : strN h x l) (hx : N x) (hN : ∀ a e, N a → h.2 a = some e → ∃ v hs hz, e = aS v hs hz) (kk : ∀ h', sfr G N h h' → Q ((fdK kt l (List.range k)).map nd) h' b) : wp (fJ22_getNode G m x) h b Q := by
  have M0 := M
  obtain ⟨⟨tb, mc, thr, fl, m1, m2⟩, m3, m4, m5⟩ := M
  unfold fJ22_getNode
  rw [wp_bnd, wp_getQ (sd_look_new m1) rfl]
  rcases m2 with ⟨q1, q2, q3⟩ | ⟨t, f, q1, q2, q3, q4⟩
  · subst q1 q2
    show wp (sd_ret none) h b Q
    rw [wp_ret]
    exact kk h (sfr_refl hN)
  · subst q1
    show wp (sd_bnd (sd_alen G t) _) h b Q
    rw [wp_bnd, wp_alen (sd_look_new q3), wp_ite, if_neg (show ¬ n3 16 ≤ 0 by decide), wp_bnd]
    refine j_spr H hx hN (fun h' s => ?_)
    have kk := kk h' s
    obtain ⟨⟨tb', mc', thr', fl', m1', m2'⟩, -, m4', -⟩ := HM_sfr M0 s
    have t3 : h'.2 t = some (.inl (5, 16, .inr (.inr (.inr (.inr f))))) ∧ ∀ i, i < 16 → chn h' ky nd iv kt (f i) (bks kt k i) := by
      have kp : ∀ a e, h.2 a = some e → (∀ v hs hz, e ≠ aS v hs hz) → h'.2 a = some e := by
        intro a e ha hne
        by_cases c : N a
        · obtain ⟨v, hs, hz, -, -, q, -⟩ := s.2.2.2.2 a c ⟨e, ha⟩
          rw [ha] at q
          cases q
          exact absurd rfl (hne v hs hz)
        · rw [s.2.1 a c]
          exact ha
      exact ⟨kp _ _ q3 (fun v hs hz q => by cases q), fun i hi => chn_keep (fun a z y v nx ha => kp _ _ ha (fun v hs hz q => by cases q)) _ _ (q4 i hi)⟩
    obtain ⟨t3, t4⟩ := t3
    have H' := s.2.2.1 _ _ H
    obtain ⟨bk1, bk2⟩ := bk_ok (spr (hsh l))
    show wp (sd_bnd (sd_aldQ G 5 t ((n3 16 - 1) &&& spr (hsh l))) _) h' b Q
    rw [wp_bnd, bk2, wp_aldQ (sd_look_new t3) (n3_ix bk1 (by omega)), n3_nn (by omega)]
    have C := t4 _ bk1
    rw [← bks_fd] at kk
    have mem : ∀ j, j ∈ bks kt k (bk (spr (hsh l))) → j < k := by
      intro j hj
      unfold bks at hj
      rw [List.mem_filter, List.mem_range] at hj
      exact hj.1
    have len : (bks kt k (bk (spr (hsh l)))).length ≤ k := by
      unfold bks
      exact Nat.le_trans (List.length_filter_le _ _) (by rw [List.length_range]; exact Nat.le_refl _)
    generalize hB : bks kt k (bk (spr (hsh l))) = B at C kk mem len
    generalize f (bk (spr (hsh l))) = p at C
    cases B with
    | nil =>
      cases C
      show wp (sd_ret none) h' b Q
      rw [wp_ret]
      exact kk
    | cons j r =>
      obtain ⟨c1, nx, c2, c3⟩ := C
      subst c1
      have rd := ndC_rd (G := G) c2
      have hjk := (m4' j (mem j (by simp))).1
      rw [List.length_cons] at len
      have go : kt j ≠ l → wp (fJ22_getNode_b71 G x (nd j) (spr (hsh l))) h' b Q := by
        intro hne
        have ef : fdK kt l (j :: r) = fdK kt l r := by
          unfold fdK
          rw [List.find?_cons_of_neg (by simpa using hne)]
        rw [ef] at kk
        unfold fJ22_getNode_b71
        rw [wp_bnd, rd.2.2.2.1]
        cases nx with
        | none =>
          cases r with
          | nil =>
            show wp (sd_ret none) h' b Q
            rw [wp_ret]
            exact kk
          | cons j2 r2 =>
            obtain ⟨q, -⟩ := c3
            cases q
        | some p2 =>
          show wp (sd_bnd (sd_isC G 44 (nd j)) _) h' b Q
          rw [wp_bnd, rd.2.2.2.2, c_chain (k := k) H' (fun j hj => (m4' j hj).1) r p2 sd_FU (by unfold sd_FU; omega) (fun j' hj' => mem j' (by simp [hj'])) c3]
          exact kk
      have hit : kt j = l → fdK kt l (j :: r) = some j := by
        intro e
        unfold fdK
        rw [List.find?_cons_of_pos (by simpa using e)]
      show wp (sd_bnd (sd_getI G 44 0 (nd j)) _) h' b Q
      rw [wp_bnd, rd.1, wp_ite]
      by_cases ch : spr (hsh (kt j)) = spr (hsh l)
      · rw [if_pos ch, wp_bnd, rd.2.1, wp_ite]
        by_cases cx : ky j = x
        · rw [if_pos cx, wp_ret]
          rw [cx] at hjk
          rw [hit (strN_u hjk H')] at kk
          exact kk
        · rw [if_neg cx, wp_bnd, strH_isC (strN_H H'), wp_bnd, j_eq (strN_H H') (strN_H hjk), wp_ite]
          by_cases cl : l = kt j
          · rw [if_pos cl, if_neg (by decide), wp_ret]
            rw [hit cl.symm] at kk
            exact kk
          · rw [if_neg cl, if_pos rfl]
            exact go (fun e => cl e.symm)
      · rw [if_neg ch]
        exact go (fun e => ch (by rw [e]))
end MAP
