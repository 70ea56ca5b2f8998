/-! THE PLAIN LAW: the map of names gets a name -/
def updT (kt : Nat → List Nat) (k : Nat) (l : List Nat) : Nat → List Nat := fun j => if j = k then l else kt j
theorem updT_same {kt : Nat → List Nat} {k : Nat} {l : List Nat} : updT kt k l k = l := if_pos rfl
theorem updT_ne {kt : Nat → List Nat} {k j : Nat} {l : List Nat} (h : j ≠ k) : updT kt k l j = kt j := if_neg h
/-- cells of the map -/
def isHm : sd_E → Bool
  | .inl (t, _) => decide (t = 5)
  | .inr (d, _) => decide (d = 43) || decide (d = 44)
def lst (j : Nat) : List Nat → Nat
  | [] => j
  | i :: r => lst i r
theorem lst_mem : ∀ (r : List Nat) (j : Nat), lst j r ∈ j :: r := by
  intro r
  induction r with
  | nil => intro j; exact List.mem_singleton.mpr rfl
  | cons i r ih =>
    intro j
    exact List.mem_cons_of_mem _ (ih i)
section MPT
variable {G : sd_G} {h h' : sd_H} {b : Nat × Nat} {x m k v : Nat} {l : List Nat} {ky nd iv ky' nd' iv' : Nat → Nat} {kt kt' : Nat → List Nat} {N : Nat → Prop}
theorem chn_on : ∀ (r : List Nat) (p : Option Nat), (∀ j, j ∈ r → nd' j = nd j ∧ ky' j = ky j ∧ iv' j = iv j ∧ kt' j = kt j ∧ ∀ e, h.2 (nd j) = some e → h'.2 (nd j) = some e) → chn h ky nd iv kt p r → chn h' ky' nd' iv' kt' p r := by
  intro r
  induction r with
  | nil => intro p _ H; exact H
  | cons j r ih =>
    intro p hj H
    obtain ⟨h1, nx, h2, h3⟩ := H
    obtain ⟨q1, q2, q3, q4, q5⟩ := hj j (by simp)
    refine ⟨by rw [q1]; exact h1, nx, ?_, ih nx (fun i hi => hj i (by simp [hi])) h3⟩
    rw [q1, q2, q3, q4]
    exact q5 _ h2
theorem chn_ext {o : Nat} : ∀ (r : List Nat) (j : Nat) (p : Option Nat), (∀ i, i ∈ j :: r → nd' i = nd i ∧ ky' i = ky i ∧ iv' i = iv i ∧ kt' i = kt i) → (j :: r).Pairwise (fun i i' => nd i ≠ nd i') → (∀ a e, a ≠ nd (lst j r) → h.2 a = some e → h'.2 a = some e) → h'.2 (nd (lst j r)) = some (ndC (spr (hsh (kt (lst j r)))) (ky (lst j r)) (iv (lst j r)) (some o)) → nd' k = o → h'.2 o = some (ndC (spr (hsh (kt' k))) (ky' k) (iv' k) none) → chn h ky nd iv kt p (j :: r) → chn h' ky' nd' iv' kt' p (j :: r ++ [k]) := by
  intro r
  induction r with
  | nil =>
    intro j p hj _ _ e1 e2 e3 H
    obtain ⟨h1, nx, h2, h3⟩ := H
    obtain ⟨q1, q2, q3, q4⟩ := hj j (by simp)
    refine ⟨by rw [q1]; exact h1, some o, ?_, ?_⟩
    · rw [q1, q2, q3, q4]
      exact e1
    · refine ⟨by rw [e2], none, ?_, rfl⟩
      rw [e2]
      exact e3
  | cons i r ih =>
    intro j p hj nd0 e0 e1 e2 e3 H
    obtain ⟨h1, nx, h2, h3⟩ := H
    obtain ⟨q1, q2, q3, q4⟩ := hj j (by simp)
    rw [List.pairwise_cons] at nd0
    refine ⟨by rw [q1]; exact h1, nx, ?_, ih i nx (fun i' hi' => hj i' (List.mem_cons_of_mem _ hi')) nd0.2 e0 e1 e2 e3 h3⟩
    rw [q1, q2, q3, q4]
    exact e0 _ _ (nd0.1 _ (lst_mem r i)) h2
theorem j_node {z : Int32} {Q : Nat → sd_H → Nat × Nat → Prop} (b1 : 1 ≤ b.1) (b2 : 4 ≤ b.2) (kk : Q h.1 (sd_pu h (ndC z x v none)) (b.1 - 1, b.2 - 4)) : wp (fJ22_newNode G m z x v none) h b Q := by
  unfold fJ22_newNode fJ26_init
  rw [wp_bnd]
  refine wp_new b1 b2 ?_
  rw [wp_bnd, wp_bnd, g_put (pu_at h _) (Nat.le_of_ble_eq_true rfl) rfl rfl, pu_up, wp_bnd, g_put (pu_at h _) (Nat.le_of_ble_eq_true rfl) rfl rfl, pu_up, wp_bnd, g_put (pu_at h _) (Nat.le_of_ble_eq_true rfl) rfl rfl, pu_up, wp_bnd, g_put (pu_at h _) (Nat.le_of_ble_eq_true rfl) rfl rfl, pu_up, wp_ret, wp_ret]
  exact kk
/-- on to the end of a chain -/
theorem c_ext {tb : Option Nat} {mc thr : Int32} {fl : UInt32} {Q : Option Nat → sd_H → Nat × Nat → Prop} (hm : h.2 m = some (aHM tb k mc thr fl)) (w : wfH G h) (H : strN h x l) (hy : ∀ j, j < k → strN h (ky j) (kt j)) (hne : ∀ j, j < k → kt j ≠ l) (b1 : 1 ≤ b.1) (b2 : 4 ≤ b.2) : ∀ (r : List Nat) (j c fuel : Nat), r.length < fuel → r.length + c < 7 → (∀ i, i ∈ j :: r → i < k) → chn h ky nd iv kt (some (nd j)) (j :: r) → wp (fJ22_putVal_b259 G m 1) (sd_up (sd_pu h (ndC (spr (hsh l)) x v none)) (nd (lst j r)) (ndC (spr (hsh (kt (lst j r)))) (ky (lst j r)) (iv (lst j r)) (some h.1))) (b.1 - 1, b.2 - 4) Q → wp (sd_loop (fun k s => fJ22_putVal_b134 G k s.1 s.2.1 s.2.2.1 s.2.2.2.1 s.2.2.2.2.1 s.2.2.2.2.2.1 s.2.2.2.2.2.2.1 s.2.2.2.2.2.2.2) fuel (m, spr (hsh l), x, v, 0, 1, nd j, n3 c)) h b Q := by
  intro r
  induction r with
  | nil =>
    intro j c fuel hf hc hj C kk
    obtain ⟨-, nx, c2, c3⟩ := C
    cases c3
    cases fuel with
    | zero => cases hf
    | succ fuel =>
      have rd := ndC_rd (G := G) c2
      have lj := (w.1 _ _ c2).2
      show wp (fJ22_putVal_b134 G _ m (spr (hsh l)) x v 0 1 (nd j) (n3 c)) h b Q
      unfold fJ22_putVal_b134
      rw [wp_bnd, rd.2.2.2.1]
      show wp (sd_bnd (sd_isC G 43 m) _) h b Q
      rw [wp_bnd, wp_isC (sd_look_new hm), wp_bnd]
      refine j_node b1 b2 ?_
      have c4 : (sd_pu h (ndC (spr (hsh l)) x v none)).2 (nd j) = some (ndC (spr (hsh (kt j))) (ky j) (iv j) none) := (pu_ne (by omega)).trans c2
      rw [wp_bnd, wp_put c4 (Nat.le_of_ble_eq_true rfl) rfl rfl, wp_ite, if_pos (by rw [show (7 : Int32) = n3 7 from rfl, n3_lt (by omega) (by omega)]; simp at hc; omega)]
      exact kk
  | cons i r ih =>
    intro j c fuel hf hc hj C kk
    obtain ⟨-, nx, c2, c3⟩ := C
    have c3' := c3
    obtain ⟨c5, nx2, c6, c7⟩ := c3
    subst c5
    rw [List.length_cons] at hf hc
    cases fuel with
    | zero => cases hf
    | succ fuel =>
      have rd := ndC_rd (G := G) c2
      have rd2 := ndC_rd (G := G) c6
      have hi : i < k := hj i (by simp)
      have hik := hy i hi
      have go : wp (sd_bnd (sd_ret (n3 c + 1)) fun x23 => sd_loop (fun k s => fJ22_putVal_b134 G k s.1 s.2.1 s.2.2.1 s.2.2.2.1 s.2.2.2.2.1 s.2.2.2.2.2.1 s.2.2.2.2.2.2.1 s.2.2.2.2.2.2.2) fuel (m, spr (hsh l), x, v, 0, 1, nd i, x23)) h b Q := by
        rw [wp_bnd, wp_ret, show n3 c + 1 = n3 (c + 1) from n3_add c 1]
        exact ih i (c + 1) fuel (by omega) (by omega) (fun i' hi' => hj i' (List.mem_cons_of_mem _ hi')) c3' kk
      show wp (fJ22_putVal_b134 G _ m (spr (hsh l)) x v 0 1 (nd j) (n3 c)) h b Q
      unfold fJ22_putVal_b134
      rw [wp_bnd, rd.2.2.2.1]
      show wp (sd_bnd (sd_getI G 44 0 (nd i)) _) h b Q
      rw [wp_bnd, rd2.1, wp_ite]
      by_cases ch : spr (hsh (kt i)) = spr (hsh l)
      · rw [if_pos ch, wp_bnd, rd2.2.1, wp_ite, if_neg (fun e => hne i hi (by rw [e] at hik; exact strN_u hik H)), wp_bnd, strH_isC (strN_H H), wp_bnd, j_eq (strN_H H) (strN_H hik), wp_ite, if_neg (fun e : l = kt i => hne i hi e.symm), if_pos rfl]
        exact go
      · rw [if_neg ch]
        exact go
end MPT
