/-! THE PLAIN LAW: a string's hash -/
theorem strN_u {h : sd_H} {x : Nat} {l l' : List Nat} (H : strN h x l) (H' : strN h x l') : l = l' := by
  obtain ⟨v, hs, hz, g, e1, e2, e3, -⟩ := H
  obtain ⟨v', hs', hz', g', e1', e2', e3', -⟩ := H'
  rw [e1] at e1'
  cases e1'
  rw [e2] at e2'
  injection e2' with q
  injection q with q
  injection q with q1 q
  injection q with q2 q
  injection q with q
  exact ls_ext e3 e3' rfl q2.symm (fun i _ => congrFun q i)
theorem strN_fr {h h' : sd_H} {x : Nat} {l : List Nat} (hk : ∀ a e, h.2 a = some e → (∃ v hs hz, e = aS v hs hz) ∨ (∃ n g, e = aB n g) → h'.2 a = some e) (H : strN h x l) : strN h' x l := by
  obtain ⟨v, hs, hz, g, e1, e2, e3⟩ := H
  exact ⟨v, hs, hz, g, hk _ _ e1 (Or.inl ⟨_, _, _, rfl⟩), hk _ _ e2 (Or.inr ⟨_, _, rfl⟩), e3⟩
theorem and255 : ∀ c, c < 128 → n3 c &&& 255 = n3 c := by
  have key : ∀ c : Fin 128, n3 c.val &&& 255 = n3 c.val := by decide +kernel
  exact fun c hc => key ⟨c, hc⟩
/-- only hashes of strings in N may have been told -/
def sfr (G : sd_G) (N : Nat → Prop) (h h' : sd_H) : Prop := h'.1 = h.1 ∧ (∀ a, ¬ N a → h'.2 a = h.2 a) ∧ (∀ x l, strN h x l → strN h' x l) ∧ (wfH G h → wfH G h') ∧ ∀ a, N a → (∃ e, h.2 a = some e) → ∃ v hs hz hs' hz', h.2 a = some (aS v hs hz) ∧ h'.2 a = some (aS v hs' hz')
section HSH
variable {G : sd_G} {h : sd_H} {b : Nat × Nat} {x : Nat} {l : List Nat}
theorem hsh_sn {c : Nat} : hsh (l ++ [c]) = 31 * hsh l + n3 c := by
  unfold hsh
  rw [List.foldl_append]
  rfl
theorem j_hashB {v : Nat} {g : Nat → Int32} (hv : sd_look G h v = some (aB l.length g)) (hg : ∀ i c, l[i]? = some c → g i = n3 c ∧ c < 128) (hl : l.length ≤ 2000) (Q : Int32 → sd_H → Nat × Nat → Prop) : wp (fJ16_hashCode G v) h b Q = Q (hsh l) h b := by
  refine wp_det ?_ Q
  unfold fJ16_hashCode
  rw [wp_bnd, wp_alen hv, wp_ite]
  by_cases c0 : l.length = 0
  · rw [if_pos (by show n3 l.length = 0; rw [c0]; rfl), wp_ret]
    have : l = [] := List.length_eq_zero_iff.mp c0
    rw [this]
    exact ⟨rfl, rfl, rfl⟩
  · rw [if_neg (by show ¬ n3 l.length = n3 0; rw [n3_eq (by omega) (by omega)]; exact c0), wp_ite]
    by_cases c1 : l.length = 1
    · rw [if_pos (by show n3 l.length = 1; rw [c1]; rfl), wp_bnd, show (0 : Int32) = n3 0 from rfl, wp_aldI hv (n3_ix (by omega) (by omega)), n3_nn (by omega), wp_ret]
      obtain ⟨c, hc⟩ := List.length_eq_one_iff.mp c1
      subst hc
      have := hg 0 c rfl
      rw [this.1, and255 _ this.2]
      refine ⟨?_, rfl, rfl⟩
      show n3 c = 31 * 0 + n3 c
      rw [Int32.mul_zero, Int32.zero_add]
    · rw [if_neg (by show ¬ n3 l.length = n3 1; rw [n3_eq (by omega) (by omega)]; exact c1), wp_bnd, wp_alen hv, wp_bnd]
      unfold fJ3_vectorizedHashCode fJ3_signedHashCode
      rw [wp_ite, if_pos rfl, wp_bnd, wp_isA hv, wp_bnd, wp_bnd, wp_ret, show (0 : Int32) + n3 l.length = n3 l.length from Int32.zero_add _]
      have tk : ∀ i, i < l.length → ∀ c, l[i]? = some c → hsh (l.take (i + 1)) = 31 * hsh (l.take i) + n3 c := by
        intro i hi c hc
        rw [List.take_add_one, hc]
        exact hsh_sn
      refine wp_for (F := fun k s => fJ3_signedHashCode_b8 G k s.1 s.2.1 s.2.2.1 s.2.2.2) l.length (fun i (_ : Unit) => (hsh (l.take i), v, n3 l.length, n3 i)) (fun i _ h' b' => h' = h ∧ b' = b) ?_ ?_ sd_FU 0 () h b (Nat.zero_le _) (by unfold sd_FU; omega) ⟨rfl, rfl⟩
      · rintro K _ h1 b1 ⟨rfl, rfl⟩
        show wp (fJ3_signedHashCode_b8 G K _ v (n3 l.length) (n3 l.length)) _ _ _
        unfold fJ3_signedHashCode_b8
        rw [wp_ite, if_pos (by rw [n3_le (by omega) (by omega)]; exact Nat.le_refl _), wp_ret, wp_ret, wp_ret, List.take_length]
        exact ⟨rfl, rfl, rfl⟩
      · rintro K i _ h1 b1 hi ⟨rfl, rfl⟩ nx
        show wp (fJ3_signedHashCode_b8 G K _ v (n3 l.length) (n3 i)) _ _ _
        unfold fJ3_signedHashCode_b8
        have hx : l[i]? = some l[i] := List.getElem?_eq_getElem hi
        obtain ⟨x1, x2⟩ := hg _ _ hx
        rw [wp_ite, if_neg (by rw [n3_le (by omega) (by omega)]; omega), wp_bnd, wp_aldI hv (n3_ix hi (by omega)), n3_nn (by omega), wp_bnd, wp_ret, wp_bnd, wp_ret, x1, and255 _ x2, show n3 i + 1 = n3 (i + 1) from n3_add i 1, ← tk i hi _ hx]
        exact nx () _ _ ⟨rfl, rfl⟩
theorem sfr_refl {N : Nat → Prop} (hN : ∀ a e, N a → h.2 a = some e → ∃ v hs hz, e = aS v hs hz) : sfr G N h h := ⟨rfl, fun _ _ => rfl, fun _ _ H => H, fun w => w, fun a ha he => by
  obtain ⟨e, he⟩ := he
  obtain ⟨v, hs, hz, rfl⟩ := hN a e ha he
  exact ⟨v, hs, hz, hs, hz, he, he⟩⟩
theorem j_hash {N : Nat → Prop} {Q : Int32 → sd_H → Nat × Nat → Prop} (H : strN h x l) (hx : N x) (hN : ∀ a e, N a → h.2 a = some e → ∃ v hs hz, e = aS v hs hz) (kk : ∀ h', sfr G N h h' → Q (hsh l) h' b) : wp (fJ14_hashCode G x) h b Q := by
  have H0 := H
  obtain ⟨v, hs, hz, g, e1, e2, e3, e4, e5, e6⟩ := H
  have rd := str_rd (G := G) (sd_look_new e1)
  have K := sfr_refl (G := G) hN
  -- a hash told
  have up : ∀ hs' hz', (hs' = 0 ∨ hs' = hsh l) → (hz' = 0 ∨ (hz' = 1 ∧ hsh l = 0)) → sfr G N h (sd_up h x (aS v hs' hz')) := by
    intro hs' hz' q1 q2
    refine ⟨rfl, fun a ha => up_ne (fun e => ha (e ▸ hx)), fun x' l' H' => ?_, fun w => wfH_up w e1, fun a ha he => ?_⟩
    · by_cases c : x' = x
      · subst c
        have := strN_u H0 H'
        subst this
        refine ⟨v, hs', hz', g, up_at _ _ _, ?_, e3, e4, q1, q2⟩
        rw [up_ne]
        · exact e2
        · intro e
          rw [e, e1] at e2
          cases e2
      · obtain ⟨v2, hs2, hz2, g2, r1, r2, r3⟩ := H'
        refine ⟨v2, hs2, hz2, g2, (up_ne c).trans r1, ?_, r3⟩
        rw [up_ne]
        · exact r2
        · intro e
          rw [e, e1] at r2
          cases r2
    · by_cases c : a = x
      · subst c
        exact ⟨v, hs, hz, hs', hz', e1, up_at _ _ _⟩
      · obtain ⟨e, he⟩ := he
        obtain ⟨v2, hs2, hz2, rfl⟩ := hN a e ha he
        exact ⟨v2, hs2, hz2, hs2, hz2, he, (up_ne c).trans he⟩
  unfold fJ14_hashCode fJ14_isLatin1
  rw [wp_bnd, rd.2.2.1, wp_ite]
  by_cases c1 : hs = 0
  · rw [if_pos c1, wp_bnd, rd.2.2.2.1, wp_ite]
    by_cases c2 : hz = 0
    · rw [if_pos c2, wp_bnd, rd.2.2.2.2.1, wp_bnd, wp_bnd, rd.2.1, wp_ite, if_pos rfl, wp_ret, wp_ite, if_neg (by decide), wp_bnd, rd.1, wp_bnd, j_hashB (sd_look_new e2) e3 e4, wp_ite]
      by_cases c3 : hsh l = 0
      · rw [if_pos c3, wp_bnd, g_put e1 (Nat.le_of_ble_eq_true rfl) rfl rfl, wp_ret]
        refine kk _ (up hs 1 e5 (Or.inr ⟨rfl, c3⟩))
      · rw [if_neg c3, wp_bnd, g_put e1 (Nat.le_of_ble_eq_true rfl) rfl rfl, wp_ret]
        refine kk _ (up (hsh l) hz (Or.inr rfl) e6)
    · rw [if_neg c2, wp_ret]
      have : hsh l = 0 := by
        rcases e6 with q | q
        · exact absurd q c2
        · exact q.2
      rw [c1, ← this]
      exact kk h K
  · rw [if_neg c1, wp_ret]
    have : hs = hsh l := by
      rcases e5 with q | q
      · exact absurd q c1
      · exact q
    rw [this]
    exact kk h K
end HSH
