/-! THE PLAIN LAW: strings compared and looked into; a tape's text -/
theorem wp_det {α : Type} {f : sd_M α} {v : α} {h : sd_H} {b : Nat × Nat} (hw : wp f h b (fun r h' b' => r = v ∧ h' = h ∧ b' = b)) (Q : α → sd_H → Nat × Nat → Prop) : wp f h b Q = Q v h b := by
  obtain ⟨a, c, h1, e, c1, c2, rfl, rfl, e4⟩ := hw
  apply propext
  constructor
  · rintro ⟨a', c', h', e', -, -, q⟩
    rw [e] at e'
    cases e'
    rw [e4] at q
    exact q
  · intro q
    refine ⟨a, c, h1, e, c1, c2, ?_⟩
    rw [e4]
    exact q
/-- a string with these letters -/
def strH (G : sd_G) (h : sd_H) (a : Nat) (l : List Nat) : Prop := ∃ v hs hz g, sd_look G h a = some (aS v hs hz) ∧ sd_look G h v = some (aB l.length g) ∧ (∀ i c, l[i]? = some c → g i = n3 c ∧ c < 128) ∧ l.length ≤ 2000
section SH
variable {G : sd_G} {h : sd_H} {b : Nat × Nat} {a a' : Nat} {l l' : List Nat}
theorem ls_ext {g g' : Nat → Int32} {k : Nat} (h1 : ∀ i c, l[i]? = some c → g i = n3 c ∧ c < 128) (h2 : ∀ i c, l'[i]? = some c → g' i = n3 c ∧ c < 128) (e1 : l.length = k) (e2 : l'.length = k) (he : ∀ i, i < k → g i = g' i) : l = l' := by
  refine List.ext_getElem? (fun i => ?_)
  by_cases c : i < k
  · obtain ⟨x1, e3⟩ : ∃ x, l[i]? = some x := ⟨_, List.getElem?_eq_getElem (by omega)⟩
    obtain ⟨x2, e4⟩ : ∃ x, l'[i]? = some x := ⟨_, List.getElem?_eq_getElem (by omega)⟩
    have a1 := h1 _ _ e3
    have a2 := h2 _ _ e4
    have := he i c
    rw [a1.1, a2.1, n3_eq (by omega) (by omega)] at this
    rw [e3, e4, this]
  · rw [List.getElem?_eq_none (by omega), List.getElem?_eq_none (by omega)]
theorem j_eqB {v v' n n' : Nat} {g g' : Nat → Int32} (hv : sd_look G h v = some (aB n g)) (hv' : sd_look G h v' = some (aB n' g')) (hn : n ≤ 2000) (hn' : n' ≤ 2000) (z : Int32) (hz : z = if n = n' ∧ ∀ i, i < n → g i = g' i then 1 else 0) (Q : Int32 → sd_H → Nat × Nat → Prop) : wp (fJ16_equals G v v') h b Q = Q z h b := by
  refine wp_det ?_ Q
  unfold fJ16_equals
  rw [wp_bnd, wp_alen hv, wp_bnd, wp_alen hv', wp_ite]
  by_cases c : n = n'
  · subst c
    rw [if_pos rfl]
    refine wp_for (F := fun k s => fJ16_equals_b9 G k s.1 s.2.1 s.2.2) n (fun i (_ : Unit) => (v, v', n3 i)) (fun i _ h' b' => h' = h ∧ b' = b ∧ ∀ j, j < i → g j = g' j) ?_ ?_ sd_FU 0 () h b (Nat.zero_le _) (by unfold sd_FU; omega) ⟨rfl, rfl, fun j hj => by omega⟩
    · rintro K _ h1 b1 ⟨rfl, rfl, he⟩
      show wp (fJ16_equals_b9 G K v v' (n3 n)) _ _ _
      unfold fJ16_equals_b9
      rw [wp_bnd, wp_alen hv, wp_ite, if_pos (by show n3 n ≤ n3 n; rw [n3_le (by omega) (by omega)]; exact Nat.le_refl _), wp_ret, hz, if_pos ⟨rfl, he⟩]
      exact ⟨rfl, rfl, rfl⟩
    · rintro K i _ h1 b1 hi ⟨rfl, rfl, he⟩ nx
      show wp (fJ16_equals_b9 G K v v' (n3 i)) _ _ _
      unfold fJ16_equals_b9
      rw [wp_bnd, wp_alen hv, wp_ite, if_neg (by show ¬ n3 n ≤ n3 i; rw [n3_le (by omega) (by omega)]; omega), wp_bnd, wp_aldI hv (n3_ix hi (by omega)), n3_nn (by omega), wp_bnd, wp_aldI hv' (n3_ix hi (by omega)), n3_nn (by omega), wp_ite]
      by_cases c : g i = g' i
      · rw [if_pos c, wp_bnd, wp_ret, show n3 i + 1 = n3 (i + 1) from n3_add i 1]
        refine nx () _ _ ⟨rfl, rfl, fun j hj => ?_⟩
        by_cases cj : j = i
        · rw [cj]
          exact c
        · exact he j (by omega)
      · rw [if_neg c, wp_ret, hz, if_neg (fun q => c (q.2 i hi))]
        exact ⟨rfl, rfl, rfl⟩
  · rw [if_neg (by show ¬ n3 n = n3 n'; rw [n3_eq (by omega) (by omega)]; exact c), wp_ret, hz, if_neg (fun q => c q.1)]
    exact ⟨rfl, rfl, rfl⟩
theorem j_eq (H : strH G h a l) (H' : strH G h a' l') (Q : Int32 → sd_H → Nat × Nat → Prop) : wp (fJ14_equals G a a') h b Q = Q (if l = l' then 1 else 0) h b := by
  obtain ⟨v, hs, hz, g, e1, e2, e3, e4⟩ := H
  obtain ⟨v', hs', hz', g', e1', e2', e3', e4'⟩ := H'
  unfold fJ14_equals fJ14_equals_b36
  rw [wp_ite]
  by_cases c : a = a'
  · subst c
    rw [e1] at e1'
    cases e1'
    rw [e2] at e2'
    injection e2' with q
    injection q with q
    injection q with q1 q
    injection q with q2 q
    injection q with q
    rw [if_pos rfl, wp_ret, if_pos (ls_ext e3 e3' rfl q2.symm (fun i _ => congrFun q i))]
  · rw [if_neg c, wp_bnd, (str_rd e1').2.2.2.2.1, wp_bnd, (str_rd e1').2.2.2.2.2, wp_bnd, (str_rd e1).2.1, wp_bnd, (str_rd e1').2.1, wp_ite, if_pos rfl, wp_bnd, (str_rd e1).1, wp_bnd, (str_rd e1').1, wp_bnd, j_eqB e2 e2' e4 e4' (if l = l' then 1 else 0) ?_]
    · by_cases c2 : l = l'
      · rw [if_pos c2, wp_ite, if_neg (by decide), wp_ret]
      · rw [if_neg c2, wp_ite, if_pos rfl, wp_ret]
    · by_cases c2 : l = l'
      · subst c2
        rw [if_pos rfl, if_pos]
        refine ⟨rfl, fun i hi => ?_⟩
        obtain ⟨x1, e3x⟩ : ∃ x, l[i]? = some x := ⟨_, List.getElem?_eq_getElem hi⟩
        rw [(e3 _ _ e3x).1, (e3' _ _ e3x).1]
      · rw [if_neg c2, if_neg]
        rintro ⟨q1, q2⟩
        exact c2 (ls_ext e3 e3' rfl q1.symm q2)
theorem strC_H {G : sd_G} {h : sd_H} (w : wfH G h) (hc : strC G a l) (h1 : ∀ c, c ∈ l → c < 128) (h2 : l.length ≤ 2000) : strH G h a l := by
  obtain ⟨v, hs, hz, g, e1, e2, e3⟩ := hc
  have lk : ∀ a e, sd_c G a = some e → sd_look G h a = some e := by
    intro a e he
    unfold sd_look
    cases hq : h.2 a with
    | none => exact he
    | some e' =>
      have q1 := (w.1 _ _ hq).1
      have q2 := w.2.2.1 _ _ he
      omega
  exact ⟨v, hs, hz, g, lk _ _ e1, lk _ _ e2, fun i c hi => ⟨e3 i c hi, h1 c (List.mem_of_getElem? hi)⟩, h2⟩
theorem strH_len {Q : Int32 → sd_H → Nat × Nat → Prop} (H : strH G h a l) : wp (fJ14_length G a) h b Q = Q (n3 l.length) h b := by
  obtain ⟨v, hs, hz, g, e1, e2, e3, e4⟩ := H
  exact j_length e1 e2
theorem strH_chr {k c : Nat} {Q : Int32 → sd_H → Nat × Nat → Prop} (H : strH G h a l) (hc : l[k]? = some c) : wp (fJ14_charAt G a (n3 k)) h b Q = Q (n3 c) h b := by
  obtain ⟨v, hs, hz, g, e1, e2, e3, e4⟩ := H
  have hk : k < l.length := by
    rcases Nat.lt_or_ge k l.length with h | h
    · exact h
    · rw [List.getElem?_eq_none h] at hc
      cases hc
  exact j_charAt e1 e2 hk (by omega) (e3 _ _ hc).1 (e3 _ _ hc).2
theorem strH_isC {Q : Unit → sd_H → Nat × Nat → Prop} (H : strH G h a l) : wp (sd_isC G 45 a) h b Q = Q () h b := by
  obtain ⟨v, hs, hz, g, e1, e2, e3, e4⟩ := H
  exact (str_rd e1).2.2.2.2.1 b Q
/-- the first place of a letter -/
def ixL (c : Nat) : List Nat → Nat → Int32
  | [], _ => -1
  | d :: r, k => if d = c then n3 k else ixL c r (k + 1)
theorem sb_inj : ∀ c d, c < 256 → d < 128 → (n3 d = (n3 c).toInt8.toInt32) = (d = c) := by
  have key : ∀ c : Fin 256, ∀ d : Fin 128, (n3 d.val = (n3 c.val).toInt8.toInt32) = (d.val = c.val) := by
    intro c d
    apply propext
    revert d
    revert c
    decide +kernel
  exact fun c d hc hd => key ⟨c, hc⟩ ⟨d, hd⟩
theorem j_ixL {c : Nat} (H : strH G h a l) (hc : c < 256) (Q : Int32 → sd_H → Nat × Nat → Prop) : wp (fJ14_indexOf G a (n3 c)) h b Q = Q (ixL c l 0) h b := by
  obtain ⟨v, hs, hz, g, e1, e2, e3, e4⟩ := H
  refine wp_det ?_ Q
  unfold fJ14_indexOf fJ14_indexOf_2 fJ14_isLatin1 fJ16_indexOf fJ16_canEncode_2 fJ16_indexOfChar
  have rd := str_rd e1
  rw [wp_bnd, rd.2.2.2.2.1, wp_bnd, wp_bnd, rd.2.2.2.2.1, wp_bnd, wp_bnd, rd.2.1, wp_ite, if_pos rfl, wp_ret, wp_ite, if_neg (by decide), wp_bnd, rd.1, wp_bnd, rd.2.2.2.2.1, wp_bnd, j_length e1 e2, wp_bnd, wp_bnd, wp_ite, if_neg (n3_0 (by omega)), wp_ite, if_neg (by rw [show (255 : Int32) = n3 255 from rfl, n3_lt (by omega) (by omega)]; omega), wp_ret, wp_ite, if_neg (by decide), wp_bnd, j_max, wp_bnd, wp_alen e2, wp_bnd, j_min, show mxI 0 0 = 0 from by decide]
  show wp (if (0 : Int32) < (if n3 l.length < n3 l.length then n3 l.length else n3 l.length) then _ else _) h b _
  rw [show (if n3 l.length < n3 l.length then n3 l.length else n3 l.length) = n3 l.length by split <;> rfl, wp_ite]
  by_cases c0 : 0 < l.length
  · rw [if_pos (by rw [show (0 : Int32) = n3 0 from rfl, n3_lt (by omega) (by omega)]; exact c0), wp_bnd, wp_bnd, wp_ret]
    have dp : ∀ i, i ≤ l.length → (∀ j d, j < i → l[j]? = some d → d ≠ c) → ixL c (l.drop i) i = ixL c l 0 := by
      intro i
      induction i with
      | zero => intro _ _; rfl
      | succ i ih =>
        intro hi hj
        rw [← ih (by omega) (fun j d h1 h2 => hj j d (by omega) h2)]
        obtain ⟨x, hx⟩ : ∃ x, l[i]? = some x := ⟨_, List.getElem?_eq_getElem (by omega)⟩
        rw [List.drop_eq_getElem_cons (i := i) (by omega)]
        have : l[i] ≠ c := hj i _ (by omega) (List.getElem?_eq_getElem (by omega))
        simp only [ixL]
        rw [if_neg this]
    refine wp_for (F := fun k s => fJ16_indexOfChar_b7 G k s.1 s.2.1 s.2.2.1 s.2.2.2) l.length (fun i (_ : Unit) => (v, n3 l.length, (n3 c).toInt8.toInt32, n3 i)) (fun i _ h' b' => h' = h ∧ b' = b ∧ ∀ j d, j < i → l[j]? = some d → d ≠ c) ?_ ?_ sd_FU 0 () h b (Nat.zero_le _) (by unfold sd_FU; omega) ⟨rfl, rfl, fun j d hj => by omega⟩
    · rintro K _ h1 b1 ⟨rfl, rfl, he⟩
      show wp (fJ16_indexOfChar_b7 G K v (n3 l.length) _ (n3 l.length)) _ _ _
      unfold fJ16_indexOfChar_b7
      have := dp l.length (Nat.le_refl _) he
      rw [List.drop_length] at this
      rw [wp_ite, if_pos (by rw [n3_le (by omega) (by omega)]; exact Nat.le_refl _), wp_ret, wp_ret, wp_ret, wp_ret, ← this]
      exact ⟨rfl, rfl, rfl⟩
    · rintro K i _ h1 b1 hi ⟨rfl, rfl, he⟩ nx
      show wp (fJ16_indexOfChar_b7 G K v (n3 l.length) _ (n3 i)) _ _ _
      unfold fJ16_indexOfChar_b7
      have hx : l[i]? = some l[i] := List.getElem?_eq_getElem hi
      obtain ⟨x1, x2⟩ := e3 _ _ hx
      rw [wp_ite, if_neg (by rw [n3_le (by omega) (by omega)]; omega), wp_bnd, wp_aldI e2 (n3_ix hi (by omega)), n3_nn (by omega), wp_ite, x1]
      by_cases c1 : l[i] = c
      · rw [if_pos (by rw [sb_inj c _ hc x2]; exact c1), wp_ret, wp_ret, wp_ret, wp_ret, ← dp i (by omega) he, List.drop_eq_getElem_cons (i := i) hi]
        exact ⟨(if_pos c1).symm, rfl, rfl⟩
      · rw [if_neg (by rw [sb_inj c _ hc x2]; exact c1), wp_bnd, wp_ret, show n3 i + 1 = n3 (i + 1) from n3_add i 1]
        refine nx () _ _ ⟨rfl, rfl, fun j d hj hd => ?_⟩
        by_cases cj : j = i
        · subst cj
          rw [hx] at hd
          cases hd
          exact c1
        · exact he j d (by omega) hd
  · rw [if_neg (by rw [show (0 : Int32) = n3 0 from rfl, n3_lt (by omega) (by omega)]; exact c0), wp_ret, wp_ret, wp_ret]
    have : l = [] := List.eq_nil_of_length_eq_zero (by omega)
    rw [this]
    exact ⟨rfl, rfl, rfl⟩
end SH
