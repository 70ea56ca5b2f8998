/-! THE PLAIN LAW: sums of the component, as trees outside, and rows -/
def evlL (q : Nat → Nat) (x : Nat → Nat → Int32) (t : TT) (w : List (Int32 × Int32)) (st : List Int32) : List Int32 := w.foldl (fun st r => stpE q x t r.1 r.2 st) st
theorem evlL_app {q : Nat → Nat} {x : Nat → Nat → Int32} {t : TT} {w w' : List (Int32 × Int32)} {st : List Int32} : evlL q x t (w ++ w') st = evlL q x t w' (evlL q x t w st) := List.foldl_append
theorem evlL_one {q : Nat → Nat} {x : Nat → Nat → Int32} {t : TT} {o a : Int32} {st : List Int32} : evlL q x t [(o, a)] st = stpE q x t o a st := rfl
def signO (j : Nat) : Int32 := if j = 0 then 101 else if j = 1 then 102 else if j = 2 then 103 else if j = 3 then 104 else if j = 4 then 27 else 28
/-- a tree at a that tells what the rows w tell, at most d deep, heights m deep; L: what lies where -/
def isSm (ne : Nat) (L : Nat → sd_E → Prop) : Nat → Nat → Nat → List (Int32 × Int32) → Prop
  | 0, _, _, _ => False
  | d + 1, m, a, w => (∃ z, L a (.inr (12, [.int z])) ∧ w = [(100, z)]) ∨
    (∃ wa j z, j < 6 ∧ L a (.inr (13, [.ref wa, .int z])) ∧ L wa (.inr (24 + j, [])) ∧ ((j < 4 ∧ w = [(n3 (15 + j), 0)]) ∨ (4 ≤ j ∧ (∃ e, e < ne ∧ z = n3 e) ∧ w = [(n3 (15 + j), z)]))) ∨
    (∃ s w', L a (.inr (14, [.ref s])) ∧ 1 ≤ m ∧ isSm ne L d (m - 1) s w' ∧ w = w' ++ [(21, 0)]) ∨
    (∃ s w', L a (.inr (15, [.ref s])) ∧ isSm ne L d m s w' ∧ w = w' ++ [(105, 0)]) ∨
    (∃ g j l r wl wr, j < 6 ∧ L a (.inr (16, [.ref g, .ref l, .ref r])) ∧ L g (.inr (33 + j, [])) ∧ isSm ne L d m l wl ∧ isSm ne L d m r wr ∧ w = wl ++ wr ++ [(signO j, 0)])
theorem isSm_mono {ne ne' : Nat} {L L' : Nat → sd_E → Prop} (h : ∀ a e, L a e → L' a e) (hne : ne ≤ ne') : ∀ d d' m m' a w, d ≤ d' → m ≤ m' → isSm ne L d m a w → isSm ne' L' d' m' a w := by
  intro d
  induction d with
  | zero => intro d' m m' a w _ _ hs; exact hs.elim
  | succ d ih =>
    intro d' m m' a w hd hm hs
    cases d' with
    | zero => omega
    | succ d' =>
      rcases hs with ⟨z, h1, h2⟩ | ⟨wa, j, z, h1, h2, h3, h4⟩ | ⟨s, w', h1, h0, h2, h3⟩ | ⟨s, w', h1, h2, h3⟩ | ⟨g, j, l, r, wl, wr, h0, h1, h2, h3, h4, h5⟩
      · exact Or.inl ⟨z, h _ _ h1, h2⟩
      · refine Or.inr (Or.inl ⟨wa, j, z, h1, h _ _ h2, h _ _ h3, ?_⟩)
        rcases h4 with h4 | ⟨h4, ⟨e, h5, h6⟩, h7⟩
        · exact Or.inl h4
        · exact Or.inr ⟨h4, ⟨e, by omega, h6⟩, h7⟩
      · exact Or.inr (Or.inr (Or.inl ⟨s, w', h _ _ h1, by omega, ih d' _ _ s w' (by omega) (by omega) h2, h3⟩))
      · exact Or.inr (Or.inr (Or.inr (Or.inl ⟨s, w', h _ _ h1, ih d' _ _ s w' (by omega) hm h2, h3⟩)))
      · exact Or.inr (Or.inr (Or.inr (Or.inr ⟨g, j, l, r, wl, wr, h0, h _ _ h1, h _ _ h2, ih d' _ _ l wl (by omega) hm h3, ih d' _ _ r wr (by omega) hm h4, h5⟩)))
section SE
variable {G : sd_G} {n : Nat} {ρ : Nat → Option Nat} {K : Nat → Option sd_E} {ad F : Nat → Nat} {q : Nat → Nat} {x : Nat → Nat → Int32} {mc : Nat → Int32} {em cs : Nat → Bool} {t : TT}
theorem im_lk {a : Nat} {e : sd_E} (h : im G n ρ K a e) : sd_look G (hSo G n ρ K ad F q x mc em t) a = some e := im_look h
theorem j_min {a c : Int32} {h : sd_H} {b : Nat × Nat} {Q : Int32 → sd_H → Nat × Nat → Prop} : wp (fJ4_min G a c) h b Q = Q (if c < a then c else a) h b := by
  unfold fJ4_min
  simp only [↓wp_bnd, ↓wp_ret, ↓wp_ite, ↓reduceIte]
  split <;> rfl
theorem j_max {a c : Int32} {h : sd_H} {b : Nat × Nat} {Q : Int32 → sd_H → Nat × Nat → Prop} : wp (fJ4_max G a c) h b Q = Q (mxI a c) h b := by
  unfold fJ4_max mxI
  simp only [↓wp_bnd, ↓wp_ret, ↓wp_ite, ↓reduceIte]
  split <;> rfl
theorem s_told {D s : Nat} {v : Int32} {b : Nat × Nat} {Q : Int32 → sd_H → Nat × Nat → Prop} (A : sA G n ρ K ad F q x em cs t) (hv : ∀ b (Q : Int32 → sd_H → Nat × Nat → Prop), wp (sd_bnd (sd_cls G s) fun k2 => if k2 = 12 then (pRS G D).1 s (ad 0) else if k2 = 13 then (pRS G D).2.1 s (ad 0) else if k2 = 14 then (pRS G D).2.2.1 s (ad 0) else if k2 = 15 then (pRS G D).2.2.2.1 s (ad 0) else if k2 = 16 then (pRS G D).2.2.2.2.1 s (ad 0) else sd_fail) (hSo G n ρ K ad F q x mc em t) b Q = Q v (hSo G n ρ K ad F q x mc em t) b) : wp (fX3_told G (pRS G D) (ad 0) s) (hSo G n ρ K ad F q x mc em t) b Q = Q (fmd v (n3 (q 20))) (hSo G n ρ K ad F q x mc em t) b := by
  have hs := A.2.2.2.1.1
  have hz : n3 (q 20) ≠ 0 := by
    intro e
    have := (n3_eq (a := q 20) (b := 0) (by omega) (by omega)).mp e
    omega
  obtain ⟨k, h1, h2, h3⟩ := fmd_lt hs.1 hs.2 v
  unfold fX3_told
  rw [wp_bnd, hv, h2]
  simp only [↓wp_bnd, ↓wp_ret, ↓wp_ite, ↓reduceIte, s_rd A, wp_nz hz]
  split at h3
  · next c => rw [if_pos c, h3]
  · next c => rw [if_neg c, h3]
theorem ev_sum (A : sA G n ρ K ad F q x em cs t) : ∀ d m a w, isSm (q 22) (im G n ρ K) d m a w → ∃ v, (∀ st, evlL q x t w st = v :: st) ∧ ∀ D, d + m ≤ D → ∀ b (Q : Int32 → sd_H → Nat × Nat → Prop), wp (sd_bnd (sd_cls G a) fun k2 => if k2 = 12 then (pRS G D).1 a (ad 0) else if k2 = 13 then (pRS G D).2.1 a (ad 0) else if k2 = 14 then (pRS G D).2.2.1 a (ad 0) else if k2 = 15 then (pRS G D).2.2.2.1 a (ad 0) else if k2 = 16 then (pRS G D).2.2.2.2.1 a (ad 0) else sd_fail) (hSo G n ρ K ad F q x mc em t) b Q = Q v (hSo G n ρ K ad F q x mc em t) b := by
  have hP := A.2.2.2.1
  intro d
  induction d with
  | zero => intro m a w hs; exact hs.elim
  | succ d ih =>
      intro m a w hs
      rcases hs with ⟨z, h1, h2⟩ | ⟨wa, j, z, h1, h2, h3, h4⟩ | ⟨s, w', h1, h0, h2, h3⟩ | ⟨s, w', h1, h2, h3⟩ | ⟨g, j, l, r, wl, wr, h0, h1, h2, h3, h4, h5⟩
      · refine ⟨z, fun st => ?_, fun D hD b Q => ?_⟩
        · subst h2
          rw [evlL_one]
          unfold stpE
          rw [if_pos (by decide)]
          rfl
        · cases D with
          | zero => omega
          | succ D =>
            rw [wp_bnd, wp_cls (im_lk h1), if_pos rfl]
            show wp (fX14_of G (pRS G D) a (ad 0)) _ _ _ = _
            unfold fX14_of
            rw [wp_bnd, wp_getI (k := 0) (v := z) (im_lk h1) rfl, wp_ret]
      · have main : ∃ v, askI q x t (n3 (15 + j)) z = v ∧ (j < 4 → askI q x t (n3 (15 + j)) 0 = v) ∧ isAs (n3 (15 + j)) = true ∧ ((4 ≤ j → ∃ e, e < q 22 ∧ z = n3 e) → ∀ b (Q : Int32 → sd_H → Nat × Nat → Prop), wp (sd_bnd (sd_cls G wa) fun k9 => if k9 = 24 then fX29_of G wa (ad 0) z else if k9 = 25 then fX40_of G wa (ad 0) z else if k9 = 26 then fX30_of G wa (ad 0) z else if k9 = 27 then fX41_of G wa (ad 0) z else if k9 = 28 then fX27_of G wa (ad 0) z else if k9 = 29 then fX28_of G wa (ad 0) z else sd_fail) (hSo G n ρ K ad F q x mc em t) b Q = Q v (hSo G n ρ K ad F q x mc em t) b) := by
          have hj : j = 0 ∨ j = 1 ∨ j = 2 ∨ j = 3 ∨ j = 4 ∨ j = 5 := by omega
          rcases hj with rfl | rfl | rfl | rfl | rfl | rfl
          · refine ⟨t.1 0, rfl, fun _ => rfl, by decide, fun _ b Q => ?_⟩
            rw [wp_bnd, wp_cls (im_lk h3), if_pos (by decide)]
            unfold fX29_of
            simp only [↓wp_bnd, ↓wp_ret, ↓wp_ite, ↓reduceIte, s_rd A]
          · refine ⟨cnt (fndB t 1) (q 26), rfl, fun _ => rfl, by decide, fun _ b Q => ?_⟩
            rw [wp_bnd, wp_cls (im_lk h3), if_neg (by decide), if_pos (by decide)]
            unfold fX40_of
            simp only [↓wp_bnd, ↓wp_ret, ↓wp_ite, ↓reduceIte, s_rd A, s_found A]
          · refine ⟨t.1 3, rfl, fun _ => rfl, by decide, fun _ b Q => ?_⟩
            rw [wp_bnd, wp_cls (im_lk h3), if_neg (by decide), if_neg (by decide), if_pos (by decide)]
            unfold fX30_of
            simp only [↓wp_bnd, ↓wp_ret, ↓wp_ite, ↓reduceIte, s_rd A]
          · refine ⟨bitc (t.1 4), rfl, fun _ => rfl, by decide, fun _ b Q => ?_⟩
            rw [wp_bnd, wp_cls (im_lk h3), if_neg (by decide), if_neg (by decide), if_neg (by decide), if_pos (by decide)]
            unfold fX41_of
            simp only [↓wp_bnd, ↓wp_ret, ↓wp_ite, ↓reduceIte, s_rd A, s_props A]
          · refine ⟨x 24 z.toNatClampNeg, rfl, fun h => absurd h (by decide), by decide, fun hz b Q => ?_⟩
            obtain ⟨e, he, rfl⟩ := hz (by decide)
            obtain ⟨a1, k1, k2, k3, k4⟩ := s_empat (mc := mc) A he
            have he6 := hP.2.2.1
            rw [wp_bnd, wp_cls (im_lk h3), if_neg (by decide), if_neg (by decide), if_neg (by decide), if_neg (by decide), if_pos (by decide), n3_nn (by omega)]
            unfold fX27_of
            simp only [↓wp_bnd, ↓wp_ret, ↓wp_ite, ↓reduceIte, s_rd A, s_emp A, k1, k2, k3]
          · refine ⟨x 25 z.toNatClampNeg, rfl, fun h => absurd h (by decide), by decide, fun hz b Q => ?_⟩
            obtain ⟨e, he, rfl⟩ := hz (by decide)
            obtain ⟨a1, k1, k2, k3, k4⟩ := s_empat (mc := mc) A he
            have he6 := hP.2.2.1
            rw [wp_bnd, wp_cls (im_lk h3), if_neg (by decide), if_neg (by decide), if_neg (by decide), if_neg (by decide), if_neg (by decide), if_pos (by decide), n3_nn (by omega)]
            unfold fX28_of
            simp only [↓wp_bnd, ↓wp_ret, ↓wp_ite, ↓reduceIte, s_rd A, s_emp A, k1, k2, k4]
        obtain ⟨v, v1, v2, v3, v4⟩ := main
        have hz : 4 ≤ j → ∃ e, e < q 22 ∧ z = n3 e := by
          intro hj
          rcases h4 with ⟨h5, -⟩ | ⟨-, h6, -⟩
          · omega
          · exact h6
        refine ⟨v, fun st => ?_, fun D hD b Q => ?_⟩
        · rcases h4 with ⟨h5, h6⟩ | ⟨h5, -, h6⟩
          · rw [h6, evlL_one]
            unfold stpE
            rw [if_pos v3, v2 h5]
          · rw [h6, evlL_one]
            unfold stpE
            rw [if_pos v3, v1]
        · cases D with
          | zero => omega
          | succ D =>
            rw [wp_bnd, wp_cls (im_lk h2), if_neg (by decide), if_pos rfl]
            show wp (fX15_of G (pRS G D) a (ad 0)) _ _ _ = _
            unfold fX15_of
            rw [wp_bnd, wp_getR (k := 0) (v := wa) (im_lk h2) rfl, wp_bnd, wp_getI (k := 1) (v := z) (im_lk h2) rfl, wp_bnd, v4 hz, wp_ret]
      · next =>
          obtain ⟨v, v1, v2⟩ := ih _ s w' h2
          obtain ⟨k, k1, k2, -⟩ := fmd_lt hP.1.1 hP.1.2 v
          have hk8 := hP.1.2
          refine ⟨n3 (t.2.1 k), fun st => ?_, fun D hD b Q => ?_⟩
          · rw [h3, evlL_app, v1, evlL_one]
            unfold stpE
            rw [if_neg (by decide), if_pos (by decide)]
            show turI q t 21 v :: st = _
            unfold turI
            rw [if_pos rfl, k2, n3_nn (by omega)]
          · cases D with
            | zero => omega
            | succ D =>
              cases D with
              | zero => omega
              | succ D =>
                rw [wp_bnd, wp_cls (im_lk h1), if_neg (by decide), if_neg (by decide), if_pos rfl]
                show wp (fX16_of G (pRS G (D + 1)) a (ad 0)) _ _ _ = _
                unfold fX16_of
                rw [wp_bnd, wp_getR (k := 0) (v := s) (im_lk h1) rfl, wp_bnd, (s_rd A).2.2.2.2.2.2.2.2.2.2.2.2.1, wp_bnd]
                show wp (fX3_told G (pRS G D) (ad 0) s) _ _ _ = _
                rw [s_told A (v2 D (by omega)), k2]
                simp only [↓wp_bnd, ↓wp_ret, ↓wp_ite, ↓reduceIte, s_rd A, s_height A k1]
      · obtain ⟨v, v1, v2⟩ := ih _ s w' h2
        refine ⟨-v, fun st => ?_, fun D hD b Q => ?_⟩
        · rw [h3, evlL_app, v1, evlL_one]
          rfl
        · cases D with
          | zero => omega
          | succ D =>
            rw [wp_bnd, wp_cls (im_lk h1), if_neg (by decide), if_neg (by decide), if_neg (by decide), if_pos rfl]
            show wp (fX17_of G (pRS G D) a (ad 0)) _ _ _ = _
            unfold fX17_of
            rw [wp_bnd, wp_getR (k := 0) (v := s) (im_lk h1) rfl, wp_bnd, v2 D (by omega), wp_ret]
      · obtain ⟨v, v1, v2⟩ := ih _ l wl h3
        obtain ⟨u, u1, u2⟩ := ih _ r wr h4
        have main : stpE q x t (signO j) 0 = (fun st => match st with
            | c :: a :: r => recI (signO j) a c :: r
            | _ => []) ∧ ∀ b (Q : Int32 → sd_H → Nat × Nat → Prop), wp (sd_bnd (sd_cls G g) fun k20 => if k20 = 33 then fX34_join G g v u else if k20 = 34 then fX35_join G g v u else if k20 = 35 then fX36_join G g v u else if k20 = 36 then fX37_join G g v u else if k20 = 37 then fX38_join G g v u else if k20 = 38 then fX39_join G g v u else sd_fail) (hSo G n ρ K ad F q x mc em t) b Q = Q (recI (signO j) v u) (hSo G n ρ K ad F q x mc em t) b := by
          have hj : j = 0 ∨ j = 1 ∨ j = 2 ∨ j = 3 ∨ j = 4 ∨ j = 5 := by omega
          rcases hj with rfl | rfl | rfl | rfl | rfl | rfl
          · refine ⟨rfl, fun b Q => ?_⟩
            rw [wp_bnd, wp_cls (im_lk h2), if_pos (by decide)]
            unfold fX34_join
            rw [wp_ret]
            rfl
          · refine ⟨rfl, fun b Q => ?_⟩
            rw [wp_bnd, wp_cls (im_lk h2), if_neg (by decide), if_pos (by decide)]
            unfold fX35_join
            rw [wp_ret]
            rfl
          · refine ⟨rfl, fun b Q => ?_⟩
            rw [wp_bnd, wp_cls (im_lk h2), if_neg (by decide), if_neg (by decide), if_pos (by decide)]
            unfold fX36_join
            rw [wp_ret]
            rfl
          · refine ⟨rfl, fun b Q => ?_⟩
            rw [wp_bnd, wp_cls (im_lk h2), if_neg (by decide), if_neg (by decide), if_neg (by decide), if_pos (by decide)]
            unfold fX37_join
            have e : recI (signO 3) v u = if u = 0 then 0 else v / u := rfl
            rw [e]
            by_cases c : u = 0
            · rw [if_pos c, if_pos c, wp_ret]
            · rw [if_neg c, if_neg c, wp_bnd, wp_nz c, wp_ret]
          · refine ⟨rfl, fun b Q => ?_⟩
            rw [wp_bnd, wp_cls (im_lk h2), if_neg (by decide), if_neg (by decide), if_neg (by decide), if_neg (by decide), if_pos (by decide)]
            unfold fX38_join
            rw [wp_bnd, j_min, wp_ret]
            rfl
          · refine ⟨rfl, fun b Q => ?_⟩
            rw [wp_bnd, wp_cls (im_lk h2), if_neg (by decide), if_neg (by decide), if_neg (by decide), if_neg (by decide), if_neg (by decide), if_pos (by decide)]
            unfold fX39_join
            rw [wp_bnd, j_max, wp_ret]
            rfl
        obtain ⟨m1, m2⟩ := main
        refine ⟨recI (signO j) v u, fun st => ?_, fun D hD b Q => ?_⟩
        · rw [h5, evlL_app, evlL_app, v1, u1, evlL_one, m1]
        · cases D with
          | zero => omega
          | succ D =>
            rw [wp_bnd, wp_cls (im_lk h1), if_neg (by decide), if_neg (by decide), if_neg (by decide), if_neg (by decide), if_pos rfl]
            show wp (fX18_of G (pRS G D) a (ad 0)) _ _ _ = _
            unfold fX18_of
            rw [wp_bnd, wp_getR (k := 0) (v := g) (im_lk h1) rfl, wp_bnd, wp_getR (k := 1) (v := l) (im_lk h1) rfl, wp_bnd, v2 D (by omega), wp_bnd, wp_getR (k := 2) (v := r) (im_lk h1) rfl, wp_bnd, u2 D (by omega), wp_bnd, m2, wp_ret]
end SE
