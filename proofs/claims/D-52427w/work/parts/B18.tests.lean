/-! THE PLAIN LAW: strings, read; tests of the component and rows -/
abbrev aS (v : Nat) (hs hz : Int32) : sd_E := .inr (45, [.ref v, .int 0, .int hs, .int hz])
abbrev aB (n : Nat) (g : Nat → Int32) : sd_E := .inl (2, n, .inl g)
section ST
variable {G : sd_G} {h : sd_H} {a v n : Nat} {hs hz : Int32} {g : Nat → Int32} {b : Nat × Nat}
theorem str_rd (ha : sd_look G h a = some (aS v hs hz)) : (∀ b (Q : Nat → sd_H → Nat × Nat → Prop), wp (sd_getR G 45 0 a) h b Q = Q v h b) ∧ (∀ b (Q : Int32 → sd_H → Nat × Nat → Prop), wp (sd_getI G 45 1 a) h b Q = Q 0 h b) ∧ (∀ b (Q : Int32 → sd_H → Nat × Nat → Prop), wp (sd_getI G 45 2 a) h b Q = Q hs h b) ∧ (∀ b (Q : Int32 → sd_H → Nat × Nat → Prop), wp (sd_getI G 45 3 a) h b Q = Q hz h b) ∧ (∀ b (Q : Unit → sd_H → Nat × Nat → Prop), wp (sd_isC G 45 a) h b Q = Q () h b) ∧ (∀ b (Q : Unit → sd_H → Nat × Nat → Prop), wp (sd_cast G [45] a) h b Q = Q () h b) := ⟨fun _ _ => wp_getR ha rfl, fun _ _ => wp_getI ha rfl, fun _ _ => wp_getI ha rfl, fun _ _ => wp_getI ha rfl, fun _ _ => wp_isC ha, fun _ _ => wp_cast ha (by decide)⟩
theorem j_length {Q : Int32 → sd_H → Nat × Nat → Prop} (ha : sd_look G h a = some (aS v hs hz)) (hv : sd_look G h v = some (aB n g)) : wp (fJ14_length G a) h b Q = Q (n3 n) h b := by
  unfold fJ14_length fJ14_coder
  simp only [↓wp_bnd, ↓wp_ret, ↓wp_ite, ↓reduceIte, str_rd ha, wp_alen hv, wp_retN (show narrow .byte (.int 0) = .int 0 from rfl)]
  rw [show ((0 : Int32) &&& 31) = 0 from by decide, show n3 n >>> (0 : Int32) = n3 n from Int32.toBitVec_inj.1 (by simp)]
theorem chr_n3 : ∀ c, c < 128 → ((n3 c &&& 255).toUInt32 % 65536).toInt32 = n3 c ∧ (n3 c).toUInt32.toUInt16.toUInt32.toInt32 = n3 c := by
  have key : ∀ c : Fin 128, ((n3 c.val &&& 255).toUInt32 % 65536).toInt32 = n3 c.val ∧ (n3 c.val).toUInt32.toUInt16.toUInt32.toInt32 = n3 c.val := by decide +kernel
  exact fun c hc => key ⟨c, hc⟩
theorem nar_ch {c : Nat} (hc : c < 128) : narrow .char (.int (n3 c)) = .int (n3 c) := by
  show Value.int _ = _
  rw [(chr_n3 c hc).2]
theorem j_charAt {k c : Nat} {Q : Int32 → sd_H → Nat × Nat → Prop} (ha : sd_look G h a = some (aS v hs hz)) (hv : sd_look G h v = some (aB n g)) (hk : k < n) (hn : n ≤ 1000000) (hg : g k = n3 c) (hc : c < 128) : wp (fJ14_charAt G a (n3 k)) h b Q = Q (n3 c) h b := by
  have h2 : (n3 k < n3 n) = True := by
    rw [n3_lt (by omega) (by omega)]
    exact eq_true hk
  unfold fJ14_charAt fJ14_isLatin1 fJ16_charAt fJ14_checkIndex fJ17_checkIndex
  simp only [↓wp_bnd, ↓wp_ret, ↓wp_ite, ↓reduceIte, str_rd ha, wp_alen hv, n3_nlt0 (show k < 2147483648 by omega), h2, show ((1 : Int32) = 0) = False from by decide]
  rw [wp_aldI hv (n3_ix hk (by omega)), n3_nn (by omega), hg, (chr_n3 c hc).1, wp_retN (nar_ch hc), wp_retN (nar_ch hc)]
end ST
def sgn (ln : Nat) (g : Nat → Int32) (o : Int32) : Prop := (ln = 1 ∧ g 0 = 60 ∧ o = 106) ∨ (ln = 1 ∧ g 0 = 62 ∧ o = 107) ∨ (ln = 1 ∧ g 0 = 61 ∧ o = 108) ∨ (ln = 2 ∧ g 0 = 60 ∧ g 1 = 61 ∧ o = 109) ∨ (ln = 2 ∧ g 0 = 62 ∧ g 1 = 61 ∧ o = 110)
def oprO (al : Bool) : Int32 := if al then 25 else 26
/-- the rows of several tests -/
def joiR (al : Bool) : List (Nat × List (Int32 × Int32)) → List (Int32 × Int32)
  | [] => []
  | p :: r => p.2 ++ r.flatMap (fun p => p.2 ++ [(oprO al, 0)])
def isTs (ne : Nat) (L : Nat → sd_E → Prop) : Nat → Nat → List (Int32 × Int32) → Prop
  | 0, _, _ => False
  | d + 1, a, w => (∃ (al : Bool) (l : Nat) (m : Int32) (r c : Nat) (f : Nat → Option Nat) (ws : List (Nat × List (Int32 × Int32))), L a (.inr (18, [.int (bI al), .ref l])) ∧ L l (aL m r ws.length) ∧ L r (aR c f) ∧ ws.length ≤ c ∧ c ≤ 1000 ∧ 1 ≤ ws.length ∧ (∀ (i : Nat) (p : Nat × List (Int32 × Int32)), ws[i]? = some p → f i = some p.1 ∧ isTs ne L d p.1 p.2) ∧ w = joiR al ws) ∨
    (∃ s w', L a (.inr (19, [.ref s])) ∧ isTs ne L d s w' ∧ w = w' ++ [(24, 0)]) ∨
    (∃ e, L a (.inr (20, [.int e])) ∧ w = [(22, e)]) ∨
    (∃ s w', L a (.inr (21, [.ref s])) ∧ isSm ne L 420 9 s w' ∧ w = w' ++ [(23, 0)]) ∨
    (∃ sg v hs hz ln g l r wl wr o, L a (.inr (22, [.ref sg, .ref l, .ref r])) ∧ L sg (aS v hs hz) ∧ L v (aB ln g) ∧ sgn ln g o ∧ isSm ne L 420 9 l wl ∧ isSm ne L 420 9 r wr ∧ w = wl ++ wr ++ [(o, 0)])
theorem isTs_mono {ne ne' : Nat} {L L' : Nat → sd_E → Prop} (h : ∀ a e, L a e → L' a e) (hne : ne ≤ ne') : ∀ d d' a w, d ≤ d' → isTs ne L d a w → isTs ne' L' d' a w := by
  intro d
  induction d with
  | zero => intro d' a w _ hs; exact hs.elim
  | succ d ih =>
    intro d' a w hd hs
    cases d' with
    | zero => omega
    | succ d' =>
      rcases hs with ⟨al, l, m, r, c, f, ws, h1, h2, h3, h4, h5, h6, h7, h8⟩ | ⟨s, w', h1, h2, h3⟩ | ⟨e, h1, h2⟩ | ⟨s, w', h1, h2, h3⟩ | ⟨sg, v, hs, hz, ln, g, l, r, wl, wr, o, h1, h2, h3, h4, h5, h6, h7⟩
      · exact Or.inl ⟨al, l, m, r, c, f, ws, h _ _ h1, h _ _ h2, h _ _ h3, h4, h5, h6, fun i p hp => ⟨(h7 i p hp).1, ih d' _ _ (by omega) (h7 i p hp).2⟩, h8⟩
      · exact Or.inr (Or.inl ⟨s, w', h _ _ h1, ih d' _ _ (by omega) h2, h3⟩)
      · exact Or.inr (Or.inr (Or.inl ⟨e, h _ _ h1, h2⟩))
      · exact Or.inr (Or.inr (Or.inr (Or.inl ⟨s, w', h _ _ h1, isSm_mono h hne _ _ _ _ _ _ (Nat.le_refl _) (Nat.le_refl _) h2, h3⟩)))
      · exact Or.inr (Or.inr (Or.inr (Or.inr ⟨sg, v, hs, hz, ln, g, l, r, wl, wr, o, h _ _ h1, h _ _ h2, h _ _ h3, h4, isSm_mono h hne _ _ _ _ _ _ (Nat.le_refl _) (Nat.le_refl _) h5, isSm_mono h hne _ _ _ _ _ _ (Nat.le_refl _) (Nat.le_refl _) h6, h7⟩)))
/-- a test is an object of one of six kinds -/
theorem isTs_cls {ne d a : Nat} {L : Nat → sd_E → Prop} {w : List (Int32 × Int32)} (h : isTs ne L d a w) : ∃ ci fs, L a (.inr (ci, fs)) ∧ ci ∈ [18, 19, 20, 21, 22, 23] := by
  cases d with
  | zero => exact h.elim
  | succ d =>
    rcases h with ⟨al, l, m, r, c, f, ws, h1, -⟩ | ⟨s, w', h1, -⟩ | ⟨e, h1, -⟩ | ⟨s, w', h1, -⟩ | ⟨sg, v, hs, hz, ln, g, l, r, wl, wr, o, h1, -⟩
    · exact ⟨_, _, h1, by decide⟩
    · exact ⟨_, _, h1, by decide⟩
    · exact ⟨_, _, h1, by decide⟩
    · exact ⟨_, _, h1, by decide⟩
    · exact ⟨_, _, h1, by decide⟩
theorem bI_and (a c : Bool) : bI a &&& bI c = bI (a && c) := by cases a <;> cases c <;> decide
theorem bI_or (a c : Bool) : bI a ||| bI c = bI (a || c) := by cases a <;> cases c <;> decide
theorem bI_inj (a c : Bool) : (bI a = bI c) = (a = c) := by cases a <;> cases c <;> simp [bI]
theorem tri (a c : Int32) : (¬ c ≤ a ∧ a ≤ c ∧ a ≠ c ∧ ¬ c < a ∧ a < c) ∨ (a = c ∧ c ≤ a ∧ a ≤ c ∧ ¬ c < a ∧ ¬ a < c) ∨ (c ≤ a ∧ ¬ a ≤ c ∧ a ≠ c ∧ c < a ∧ ¬ a < c) := by
  simp only [Int32.le_iff_toInt_le, Int32.lt_iff_toInt_lt, ne_eq, ← Int32.toInt_inj]
  omega
section SG
variable {G : sd_G} {n : Nat} {ρ : Nat → Option Nat} {K : Nat → Option sd_E} {ad F : Nat → Nat} {q : Nat → Nat} {x : Nat → Nat → Int32} {mc : Nat → Int32} {em cs : Nat → Bool} {t : TT}
theorem s_seen {e : Int32} {a : Nat} {b : Nat × Nat} {Q : Int32 → sd_H → Nat × Nat → Prop} (A : sA G n ρ K ad F q x em cs t) (ha : im G n ρ K a (.inr (20, [.int e]))) : wp (fX22_holds G a (ad 0)) (hSo G n ρ K ad F q x mc em t) b Q = Q (bI (seeN (q 21) (q 26) x t e)) (hSo G n ρ K ad F q x mc em t) b := by
  have q10 := A.2.2.2.1.2.1.2
  unfold fX22_holds
  refine Eq.trans (wp_lp (F := fun k s => fX22_holds_b2 G k s.1 s.2.1 s.2.2) (q 21) (fun i (_ : Unit) => (a, ad 0, n3 i)) (fun _ => hSo G n ρ K ad F q x mc em t) (fun _ _ => True) (fun i _ => if seeS (q 26) x t (n3 i) e then .inr true else .inl ()) (fun _ => false) (fun g => Q (bI g) (hSo G n ρ K ad F q x mc em t) b) ?_ ?_ sd_FU 0 () (Nat.zero_le _) (by unfold sd_FU; omega) trivial) rfl
  · intro k a _
    unfold fX22_holds_b2
    simp (disch := omega) only [↓wp_bnd, ↓wp_ret, ↓wp_ite, ↓reduceIte, s_rd A, n3_le, Nat.le_refl, bI_f]
  · intro kk i u hi _
    refine ⟨fun _ _ => trivial, ?_⟩
    have h1 : ¬ q 21 ≤ i := by omega
    unfold fX22_holds_b2
    simp (disch := omega) only [↓wp_bnd, ↓wp_ret, ↓wp_ite, ↓reduceIte, s_rd A, n3_le, h1]
    rw [wp_getI (k := 0) (v := e) (im_lk ha) rfl]
    simp (disch := omega) only [↓wp_bnd, ↓wp_ret, ↓wp_ite, ↓reduceIte, s_rd A, s_seenIn A, bI_0, n3_addl]
    cases seeS (q 26) x t (n3 i) e <;> simp [bI]
theorem s_sureT {a s : Nat} {v : Int32} {b : Nat × Nat} {Q : Int32 → sd_H → Nat × Nat → Prop} (A : sA G n ρ K ad F q x em cs t) (ha : im G n ρ K a (.inr (21, [.ref s]))) (hv : ∀ b (Q : Int32 → sd_H → Nat × Nat → Prop), wp (sd_bnd (sd_cls G s) fun k2 => if k2 = 12 then (pRS G 450).1 s (ad 0) else if k2 = 13 then (pRS G 450).2.1 s (ad 0) else if k2 = 14 then (pRS G 450).2.2.1 s (ad 0) else if k2 = 15 then (pRS G 450).2.2.2.1 s (ad 0) else if k2 = 16 then (pRS G 450).2.2.2.2.1 s (ad 0) else sd_fail) (hSo G n ρ K ad F q x mc em t) b Q = Q v (hSo G n ρ K ad F q x mc em t) b) : wp (fX23_holds G a (ad 0)) (hSo G n ρ K ad F q x mc em t) b Q = Q (bI (!decide (v < 0) && !decide (n3 (q 26) ≤ v) && decide (t.2.2.2.2 v.toNatClampNeg = 2))) (hSo G n ρ K ad F q x mc em t) b := by
  have q24 := A.2.2.2.1.2.2.2.1
  unfold fX23_holds
  rw [wp_bnd, wp_getR (k := 0) (v := s) (im_lk ha) rfl, wp_bnd, hv]
  by_cases c1 : v < 0
  · simp only [↓wp_bnd, ↓wp_ret, ↓wp_ite, ↓reduceIte, c1]
    simp [bI]
  · by_cases c2 : n3 (q 26) ≤ v
    · simp only [↓wp_bnd, ↓wp_ret, ↓wp_ite, ↓reduceIte, c1, c2, s_rd A, s_fin A]
      simp [bI]
    · obtain c3 | ⟨f, c3, c4⟩ := n3_cases v
      · exact absurd c3 c1
      · subst c4
        have c5 : ¬ q 26 ≤ f := by
          rw [n3_le (by omega) c3] at c2
          exact c2
        have c6 := cnv_eq1 (A.2.2.2.2.2.2.2.2.2.1 f).1
        simp (disch := omega) only [↓wp_bnd, ↓wp_ret, ↓wp_ite, ↓reduceIte, c1, c2, s_rd A, s_fin A, c6, n3_nn]
        by_cases c7 : t.2.2.2.2 f = 2 <;> simp [c7, bI]
theorem s_comp {a sg v l r ln : Nat} {hs hz o v1 v2 : Int32} {g : Nat → Int32} {b : Nat × Nat} {Q : Int32 → sd_H → Nat × Nat → Prop} (ha : im G n ρ K a (.inr (22, [.ref sg, .ref l, .ref r]))) (hsg : im G n ρ K sg (aS v hs hz)) (hv : im G n ρ K v (aB ln g)) (ho : sgn ln g o)
    (h1 : ∀ b (Q : Int32 → sd_H → Nat × Nat → Prop), wp (sd_bnd (sd_cls G l) fun k2 => if k2 = 12 then (pRS G 450).1 l (ad 0) else if k2 = 13 then (pRS G 450).2.1 l (ad 0) else if k2 = 14 then (pRS G 450).2.2.1 l (ad 0) else if k2 = 15 then (pRS G 450).2.2.2.1 l (ad 0) else if k2 = 16 then (pRS G 450).2.2.2.2.1 l (ad 0) else sd_fail) (hSo G n ρ K ad F q x mc em t) b Q = Q v1 (hSo G n ρ K ad F q x mc em t) b)
    (h2 : ∀ b (Q : Int32 → sd_H → Nat × Nat → Prop), wp (sd_bnd (sd_cls G r) fun k2 => if k2 = 12 then (pRS G 450).1 r (ad 0) else if k2 = 13 then (pRS G 450).2.1 r (ad 0) else if k2 = 14 then (pRS G 450).2.2.1 r (ad 0) else if k2 = 15 then (pRS G 450).2.2.2.1 r (ad 0) else if k2 = 16 then (pRS G 450).2.2.2.2.1 r (ad 0) else sd_fail) (hSo G n ρ K ad F q x mc em t) b Q = Q v2 (hSo G n ρ K ad F q x mc em t) b) : ∃ c : Bool, recI o v1 v2 = bI c ∧ isAs o = false ∧ isOn o = false ∧ wp (fX24_holds G a (ad 0)) (hSo G n ρ K ad F q x mc em t) b Q = Q (bI c) (hSo G n ρ K ad F q x mc em t) b := by
  have hlen : 1 ≤ ln ∧ ln ≤ 2 := by
    rcases ho with h | h | h | h | h <;> omega
  have hp : ∃ p, g 0 = n3 p ∧ p < 128 := by
    rcases ho with ⟨-, h, -⟩ | ⟨-, h, -⟩ | ⟨-, h, -⟩ | ⟨-, h, -⟩ | ⟨-, h, -⟩
    · exact ⟨60, h, by decide⟩
    · exact ⟨62, h, by decide⟩
    · exact ⟨61, h, by decide⟩
    · exact ⟨60, h, by decide⟩
    · exact ⟨62, h, by decide⟩
  have he : ∃ p, g (ln - 1) = n3 p ∧ p < 128 := by
    rcases ho with ⟨e, h, -⟩ | ⟨e, h, -⟩ | ⟨e, h, -⟩ | ⟨e, -, h, -⟩ | ⟨e, -, h, -⟩ <;> subst e
    · exact ⟨60, h, by decide⟩
    · exact ⟨62, h, by decide⟩
    · exact ⟨61, h, by decide⟩
    · exact ⟨61, h, by decide⟩
    · exact ⟨61, h, by decide⟩
  obtain ⟨p, hp1, hp2⟩ := hp
  obtain ⟨e, he1, he2⟩ := he
  have hw : wp (fX24_holds G a (ad 0)) (hSo G n ρ K ad F q x mc em t) b Q = Q (bI (if v2 ≤ v1 then (if v1 = v2 then decide (g (ln - 1) = 61) else decide (g 0 = 62)) else decide (g 0 = 60))) (hSo G n ρ K ad F q x mc em t) b := by
    unfold fX24_holds fJ19_compare
    rw [wp_bnd, wp_getR (k := 1) (v := l) (im_lk ha) rfl, wp_bnd, h1, wp_bnd, wp_getR (k := 2) (v := r) (im_lk ha) rfl, wp_bnd, h2]
    have g0 : ∀ b (Q : Nat → sd_H → Nat × Nat → Prop), wp (sd_getR G 22 0 a) (hSo G n ρ K ad F q x mc em t) b Q = Q sg (hSo G n ρ K ad F q x mc em t) b := fun _ _ => wp_getR (im_lk ha) rfl
    have gl : ∀ b (Q : Int32 → sd_H → Nat × Nat → Prop), wp (fJ14_length G sg) (hSo G n ρ K ad F q x mc em t) b Q = Q (n3 ln) (hSo G n ρ K ad F q x mc em t) b := fun _ _ => j_length (im_lk hsg) (im_lk hv)
    have c0 : ∀ b (Q : Int32 → sd_H → Nat × Nat → Prop), wp (fJ14_charAt G sg 0) (hSo G n ρ K ad F q x mc em t) b Q = Q (n3 p) (hSo G n ρ K ad F q x mc em t) b := fun _ _ => j_charAt (k := 0) (im_lk hsg) (im_lk hv) (by omega) (by omega) hp1 hp2
    have c1 : ∀ b (Q : Int32 → sd_H → Nat × Nat → Prop), wp (fJ14_charAt G sg (n3 ln - 1)) (hSo G n ρ K ad F q x mc em t) b Q = Q (n3 e) (hSo G n ρ K ad F q x mc em t) b := by
      intro b Q
      rw [show n3 ln - 1 = n3 (ln - 1) from n3_sub hlen.1]
      exact j_charAt (im_lk hsg) (im_lk hv) (by omega) (by omega) he1 he2
    rw [hp1, he1]
    by_cases d1 : v2 ≤ v1
    · by_cases d2 : v1 = v2
      · simp only [↓wp_bnd, ↓wp_ret, ↓wp_ite, ↓reduceIte, d1, d2, Int32.le_refl, g0, gl, c1, str_rd (im_lk (ad := ad) (F := F) (q := q) (x := x) (mc := mc) (em := em) (t := t) hsg)]
        by_cases d3 : n3 e = 61 <;> simp [d3, bI]
      · simp only [↓wp_bnd, ↓wp_ret, ↓wp_ite, ↓reduceIte, d1, d2, g0, gl, c0, str_rd (im_lk (ad := ad) (F := F) (q := q) (x := x) (mc := mc) (em := em) (t := t) hsg), show ((0 : Int32) ≤ 1) = True from by decide, show ((1 : Int32) ≤ 0) = False from by decide]
        by_cases d3 : n3 p = 62 <;> simp [d3, bI]
    · simp only [↓wp_bnd, ↓wp_ret, ↓wp_ite, ↓reduceIte, d1, g0, gl, c0, str_rd (im_lk (ad := ad) (F := F) (q := q) (x := x) (mc := mc) (em := em) (t := t) hsg), show ((0 : Int32) ≤ -1) = False from by decide]
      by_cases d3 : n3 p = 60 <;> simp [d3, bI]
  refine ⟨_, ?_, ?_, ?_, hw⟩
  · rcases ho with ⟨z0, z1, z2⟩ | ⟨z0, z1, z2⟩ | ⟨z0, z1, z2⟩ | ⟨z0, z1, z3, z2⟩ | ⟨z0, z1, z3, z2⟩ <;> subst z0 <;> subst z2
    · show bI (!decide (v2 ≤ v1)) = _
      rcases tri v1 v2 with t1 | t1 | t1 <;> simp [t1, z1]
    · show bI (!decide (v1 ≤ v2)) = _
      rcases tri v1 v2 with t1 | t1 | t1 <;> simp [t1, z1]
    · show bI (decide (v1 = v2)) = _
      rcases tri v1 v2 with t1 | t1 | t1 <;> simp [t1, z1]
    · show bI (!decide (v2 < v1)) = _
      rcases tri v1 v2 with t1 | t1 | t1 <;> simp [t1, z1, z3]
    · show bI (!decide (v1 < v2)) = _
      rcases tri v1 v2 with t1 | t1 | t1 <;> simp [t1, z1, z3]
  · rcases ho with ⟨-, -, z2⟩ | ⟨-, -, z2⟩ | ⟨-, -, z2⟩ | ⟨-, -, -, z2⟩ | ⟨-, -, -, z2⟩ <;> subst z2 <;> decide
  · rcases ho with ⟨-, -, z2⟩ | ⟨-, -, z2⟩ | ⟨-, -, z2⟩ | ⟨-, -, -, z2⟩ | ⟨-, -, -, z2⟩ <;> subst z2 <;> decide
end SG
