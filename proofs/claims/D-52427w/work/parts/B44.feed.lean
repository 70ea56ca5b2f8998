/-! THE PLAIN LAW: the tape: what the component's own cells are, feed and trim of both -/
/-- sorts of the component's own cells -/
def isT : sd_E → Bool
  | .inl (k, _) => decide (k = 2)
  | .inr (d, _) => decide (d = 0) || decide (d = 1)
theorem cS_isT {ad F : Nat → Nat} {q : Nat → Nat} {x : Nat → Nat → Int32} {z0 : Nat} {mc : Nat → Int32} {em : Nat → Bool} {t : TT} {i : Nat} : isT (cS ad F q x z0 mc em t i) = false := by
  unfold cS
  split
  · rfl
  · split
    · rfl
    · split
      · rfl
      · split
        · rfl
        · rfl
section CT
variable {t : TT} {b : Nat × Nat} {G : sd_G} {cx tp bt s0 E1 : Nat} {B : Nat → Nat} {Z : Nat → Prop} {q : Nat → Nat} {x : Nat → Nat → Int32} {ea : Int32} {sz : Nat} {bs : Nat → Int32} {h h' : sd_H}
/-- its own cells changed, and the model's -/
theorem CI_own {ea' : Int32} {sz' : Nat} {bs' : Nat → Int32} (C : CI G cx tp bt s0 E1 B Z q x ea sz bs h t) (w' : wfH G h') (hn : h.1 ≤ h'.1) (zt : ¬ Z tp) (zb : ¬ Z bt) (zc : ¬ Z cx) (hk : ∀ a, a < h.1 → a ≠ tp → a ≠ bt → a ≠ cx → (∀ e, h.2 a = some e → isM e = false ∨ a = E1 ∨ a = B 1) → h'.2 a = h.2 a) (c1' : h'.2 tp = some (.inr (1, [.ref bt, .int (n3 sz')]))) (c2' : h'.2 bt = some (.inl (2, 2000, .inl bs'))) (c3' : h'.2 cx = some (.inr (0, [.ref tp, .int ea', .ref s0, .ref (B 0)]))) : CI G cx tp bt s0 E1 B Z q x ea' sz' bs' h' t := by
  obtain ⟨w, Zk, h3, hd, c1, c2, c3, n, ρ, K, ad, F, mc, em, cs, R, rfl, A, O, H, D, e0, e1⟩ := C
  have tne : ∀ {a : Nat} {e : sd_E}, (hSo G n ρ K ad F q x mc em t).2 a = some e → isT e = false → a ≠ tp ∧ a ≠ bt ∧ a ≠ cx := by
    intro a e ha he
    refine ⟨fun c => ?_, fun c => ?_, fun c => ?_⟩
    · rw [c, c1] at ha
      cases ha
      cases he
    · rw [c, c2] at ha
      cases ha
      cases he
    · rw [c, c3] at ha
      cases ha
      cases he
  have tnn : ∀ {a : Nat}, (hSo G n ρ K ad F q x mc em t).2 a = none → a ≠ tp ∧ a ≠ bt ∧ a ≠ cx := by
    intro a ha
    refine ⟨fun c => ?_, fun c => ?_, fun c => ?_⟩
    · rw [c, c1] at ha
      cases ha
    · rw [c, c2] at ha
      cases ha
    · rw [c, c3] at ha
      cases ha
  have tni : ∀ {a : Nat} {e : sd_E}, im G n ρ K a e → isT e = false → a ≠ tp ∧ a ≠ bt ∧ a ≠ cx := by
    intro a e hi he
    rcases im_at (ad := ad) (F := F) (q := q) (x := x) (mc := mc) (em := em) (t := t) hi with h1 | ⟨h1, -⟩
    · exact tne h1 he
    · exact tnn h1
  have keep : ∀ {a : Nat} {e : sd_E}, (hSo G n ρ K ad F q x mc em t).2 a = some e → isM e = false → isT e = false → h'.2 a = some e := fun h1 h2 h3 => (hk _ (w.1 _ _ h1).2 (tne h1 h3).1 (tne h1 h3).2.1 (tne h1 h3).2.2 (fun e' he => Or.inl (by rw [h1] at he; cases he; exact h2))).trans h1
  have key := so_back w A O w' hn (fun a => (∀ e, (hSo G n ρ K ad F q x mc em t).2 a = some e → isM e = false ∨ a = E1 ∨ a = B 1) ∧ a ≠ tp ∧ a ≠ bt ∧ a ≠ cx) (fun a h1 h2 => hk a h1 h2.2.1 h2.2.2.1 h2.2.2.2 h2.1) (fun a i hr => ⟨fun e he => ?_, tne (nh_at hr) cS_isT⟩) (fun a d fs hi hd => ⟨fun e' h => ?_, tni hi (by rcases hd with rfl | rfl <;> rfl)⟩) ⟨fun e h => (by rw [(wfH_z0 w).1] at h; cases h), tnn (wfH_z0 w).1⟩ (fun a k m l c f k2 k5 _ hi => ⟨fun e' h => ?_, tni hi rfl⟩) (fun k k2 k5 => ?_) (fun a ha => ⟨fun e h => Or.inl ((Zk a ha).2 e h), fun c => zt (c ▸ ha), fun c => zb (c ▸ ha), fun c => zc (c ▸ ha)⟩)
  · obtain ⟨k1, k2, k3, k4⟩ := key
    obtain ⟨d1, d2, d3, d4⟩ := D
    refine ⟨w', fun a ha => ⟨Nat.lt_of_lt_of_le (Zk a ha).1 hn, fun e he => ?_⟩, h3, hd, c1', c2', c3', h'.1, ρ, h'.2, ad, F, mc, em, cs, R, k1, k2, k3, ahB_keep H ?_ ?_ (fun k k2 k5 => ?_) (fun k k2 k5 => ?_), ⟨d1, d2, fun k k' k2 k5 k2' k5' => ⟨(d3 k k' k2 k5 k2' k5').1, fun m r l hi => ?_⟩, d4⟩, e0, e1⟩
    · rw [hk a (Zk a ha).1 (fun c => zt (c ▸ ha)) (fun c => zb (c ▸ ha)) (fun c => zc (c ▸ ha)) (fun e h => Or.inl ((Zk a ha).2 e h))] at he
      exact (Zk a ha).2 e he
    · obtain ⟨i0, i1, v7, v8, v9, v10, v11, h0⟩ := H.1
      exact (keep h0 rfl rfl).trans h0.symm
    · obtain ⟨e, h0, -⟩ := H.2.1
      have y := tne h0 rfl
      exact hk _ (w.1 _ _ h0).2 y.1 y.2.1 y.2.2 (fun _ _ => Or.inr (Or.inr rfl))
    · obtain ⟨m, sz, cap, f, l, -⟩ := H.2.2.1 k k2 k5
      exact (keep l.1 rfl rfl).trans l.1.symm
    · obtain ⟨m, sz, cap, f, l, -⟩ := H.2.2.1 k k2 k5
      rcases l.2.1 with ⟨l1, -⟩ | ⟨l1, -⟩
      · rw [l1, (wfH_z0 w').1, (wfH_z0 w).1]
      · exact (keep l1 rfl rfl).trans l1.symm
    · obtain ⟨m0, r0, l0, c0, f0, i1, i2⟩ := im_F A O k2 k5
      have i0 : ∀ e, (hSo G n ρ K ad F q x mc em t).2 (F k) = some e → isM e = false ∨ F k = E1 ∨ F k = B 1 := by
        intro e h
        rcases im_at (ad := ad) (F := F) (q := q) (x := x) (mc := mc) (em := em) (t := t) i1 with h1 | ⟨h1, -⟩
        · rw [h1] at h; cases h; exact Or.inl rfl
        · rw [h1] at h; cases h
      have i3 := k4 _ _ ⟨i0, tni i1 rfl⟩ i1
      rw [aL_r (im_val hi i3)]
      exact (d3 k k' k2 k5 k2' k5').2 _ _ _ i1
  · by_cases c : a = ad 3
    · exact Or.inr (Or.inl (c.trans e1))
    · refine Or.inl ?_
      cases hm : isM e with
      | false => rfl
      | true =>
        have := so_M A.1 he hm c
        rw [hr] at this
        cases this
  · refine Or.inl ?_
    rcases im_at (ad := ad) (F := F) (q := q) (x := x) (mc := mc) (em := em) (t := t) hi with h1 | ⟨h1, -⟩
    · rw [h1] at h
      cases h
      rcases hd with rfl | rfl
      · rfl
      · rfl
    · rw [h1] at h; cases h
  · refine Or.inl ?_
    rcases im_at (ad := ad) (F := F) (q := q) (x := x) (mc := mc) (em := em) (t := t) hi with h1 | ⟨h1, -⟩
    · rw [h1] at h; cases h; rfl
    · rw [h1] at h; cases h
  · obtain ⟨m0, r0, l0, c0, f0, i1, i2⟩ := im_F A O k2 k5
    refine ⟨fun e h => Or.inl ?_, tni i1 rfl⟩
    rcases im_at (ad := ad) (F := F) (q := q) (x := x) (mc := mc) (em := em) (t := t) i1 with h1 | ⟨h1, -⟩
    · rw [h1] at h; cases h; rfl
    · rw [h1] at h; cases h
theorem rwL_x {x x' : Nat → Nat → Int32} (h36 : x' 36 = x 36) (h37 : x' 37 = x 37) : ∀ r i, rwL x' r i = rwL x r i := by
  intro r
  induction r with
  | zero => intro i; rfl
  | succ r ih =>
    intro i
    show (x' 36 i, x' 37 i) :: rwL x' r (i + 1) = (x 36 i, x 37 i) :: rwL x r (i + 1)
    rw [h36, h37, ih]
theorem prt_x {x x' : Nat → Nat → Int32} (hx : ∀ j, 20 ≤ j → x' j = x j) (p : Nat) : prt x' p = prt x p := by
  unfold prt
  rw [hx 34 (by omega), hx 35 (by omega), rwL_x (hx 36 (by omega)) (hx 37 (by omega))]
theorem chk_x {ne : Nat} {x x' : Nat → Nat → Int32} (h36 : x' 36 = x 36) (h37 : x' 37 = x 37) : ∀ r i d, chk ne x' r i d = chk ne x r i d := by
  intro r
  induction r with
  | zero => intro i d; rfl
  | succ r ih =>
    intro i d
    unfold chk
    rw [h36, h37]
    simp only [ih]
theorem okO_x {x x' : Nat → Nat → Int32} (hx : ∀ j, 20 ≤ j → x' j = x j) (h : okO q x) : okO q x' := by
  have hR : ∀ p d, okR (q 22) x p d → okR (q 22) x' p d := by
    rintro p d ⟨i0, i1, h1, h2, h3, h4, h5⟩
    exact ⟨i0, i1, by rw [hx 34 (by omega)]; exact h1, by rw [hx 35 (by omega)]; exact h2, h3, h4, by rw [chk_x (hx 36 (by omega)) (hx 37 (by omega))]; exact h5⟩
  intro k hk
  obtain ⟨h1, d, h2, h3⟩ := h k hk
  exact ⟨hR _ _ h1, d, h2, hR _ _ h3⟩
theorem okP_x {x x' : Nat → Nat → Int32} (hx : ∀ j, 20 ≤ j → x' j = x j) (h : okP q x) : okP q x' := by
  unfold okP
  rw [hx 27 (by omega), hx 28 (by omega), hx 29 (by omega), hx 30 (by omega), hx 31 (by omega)]
  exact h
theorem CI_x {x' : Nat → Nat → Int32} (hx : ∀ j, 20 ≤ j → x' j = x j) (C : CI G cx tp bt s0 E1 B Z q x ea sz bs h t) : CI G cx tp bt s0 E1 B Z q x' ea sz bs h t := by
  obtain ⟨w, Zk, h3, hd, c1, c2, c3, n, ρ, K, ad, F, mc, em, cs, R, rfl, A, O, H, D, e0, e1⟩ := C
  have e : hSo G n ρ K ad F q x mc em t = hSo G n ρ K ad F q x' mc em t := by
    unfold hSo cS
    rw [hx 30 (by omega), hx 31 (by omega)]
  refine ⟨w, Zk, h3, hd, c1, c2, c3, n, ρ, K, ad, F, mc, em, cs, R, e, ⟨A.1, A.2.1, ?_, okP_x hx A.2.2.2.1, A.2.2.2.2⟩, ?_, H, D, e0, e1⟩
  · have := A.2.2.1
    unfold sF strm at this ⊢
    rw [hx 24 (by omega), hx 25 (by omega), hx 27 (by omega), hx 28 (by omega), hx 29 (by omega)]
    exact this
  · unfold sO at O ⊢
    simp only [prt_x hx, hx 33 (by omega)]
    exact O
end CT
/-! bytes -/
theorem by_and (y : Int32) : y.toInt8.toInt32 &&& 255 = y &&& 255 := by
  apply Int32.toBitVec_inj.mp
  apply BitVec.eq_of_getLsbD_eq
  intro i hi
  have e : (255 : Int32).toBitVec = 255#32 := rfl
  simp only [Int32.toBitVec_and, e, BitVec.getLsbD_and, Int8.toBitVec_toInt32, Int32.toBitVec_toInt8, BitVec.getLsbD_signExtend, BitVec.getLsbD_setWidth]
  by_cases c : i < 8
  · simp [c, hi]
  · have : (255#32).getLsbD i = false := by
      have h2 : ∀ j, j < 32 → ¬ j < 8 → (255#32).getLsbD j = false := by decide
      exact h2 i hi c
    rw [this, Bool.and_false, Bool.and_false]
/-- the k-th byte of some ints, with what lies above it -/
def fdB (p : Nat → Int32) (k : Nat) : Int32 := p (k / 4) >>> (n3 (24 - 8 * (k % 4)) &&& 31)
def tpH (h : sd_H) (tp bt sz : Nat) (bs : Nat → Int32) : sd_H := sd_up (sd_up h bt (.inl (2, 2000, .inl bs))) tp (.inr (1, [.ref bt, .int (n3 sz)]))
section TP
variable {G : sd_G} {h : sd_H} {b : Nat × Nat} {tp bt sz : Nat} {bs : Nat → Int32}
theorem tpH_tp : (tpH h tp bt sz bs).2 tp = some (.inr (1, [.ref bt, .int (n3 sz)])) := up_at _ _ _
theorem tpH_bt (ne : bt ≠ tp) : (tpH h tp bt sz bs).2 bt = some (.inl (2, 2000, .inl bs)) := (up_ne ne).trans (up_at _ _ _)
theorem tpH_ne {a : Nat} (n1 : a ≠ tp) (n2 : a ≠ bt) : (tpH h tp bt sz bs).2 a = h.2 a := (up_ne n1).trans (up_ne n2)
theorem tpH_self (h1 : h.2 tp = some (.inr (1, [.ref bt, .int (n3 sz)]))) (h2 : h.2 bt = some (.inl (2, 2000, .inl bs))) : tpH h tp bt sz bs = h := by
  refine Prod.ext rfl (funext fun a => ?_)
  by_cases c : a = tp
  · subst c
    rw [tpH_tp, h1]
  · by_cases c2 : a = bt
    · subst c2
      rw [tpH_bt c, h2]
    · exact tpH_ne c c2
theorem tp_put1 {p z : Int32} {k : Nat × Int32 × Int32 → sd_M Unit} {Q : Unit → sd_H → Nat × Nat → Prop} (ne : bt ≠ tp) (hs : sz < 2000) (hz : ¬ z < 0) : wp (fX2_put_b3 G k tp p z) (tpH h tp bt sz bs) b Q = wp (k (tp, p, z + (-8))) (tpH h tp bt (sz + 1) (upd bs sz ((p >>> (z &&& 31)).toInt8.toInt32))) b Q := by
  unfold fX2_put_b3
  have e : sd_up (sd_up (tpH h tp bt sz bs) bt (.inl (2, 2000, .inl (upd bs sz ((p >>> (z &&& 31)).toInt8.toInt32))))) tp (.inr (1, [.ref bt, .int (n3 (sz + 1))])) = tpH h tp bt (sz + 1) (upd bs sz ((p >>> (z &&& 31)).toInt8.toInt32)) := by
    refine Prod.ext rfl (funext fun a => ?_)
    by_cases c : a = tp
    · subst c
      rw [up_at, tpH_tp]
    · rw [up_ne c]
      by_cases c2 : a = bt
      · subst c2
        rw [up_at, tpH_bt c]
      · rw [up_ne c2, tpH_ne c c2, tpH_ne c c2]
  have g2 : (sd_up (tpH h tp bt sz bs) bt (.inl (2, 2000, .inl (upd bs sz ((p >>> (z &&& 31)).toInt8.toInt32))))).2 tp = some (.inr (1, [.ref bt, .int (n3 sz)])) := (up_ne ne.symm).trans tpH_tp
  have nr : sd_nar 2 ((p >>> (z &&& 31)).toInt8.toInt32) = (p >>> (z &&& 31)).toInt8.toInt32 := by
    unfold sd_nar
    rw [if_pos rfl]
    exact pk_vb _
  rw [wp_ite, if_neg hz, wp_bnd, wp_getR (sd_look_new tpH_tp) rfl, wp_bnd, wp_getI (sd_look_new tpH_tp) rfl, wp_bnd, wp_astI (tpH_bt ne) (n3_ix hs (by omega)), n3_nn (by omega), nr, wp_bnd, wp_getI (sd_look_new g2) rfl, wp_bnd, wp_put g2 (by simp) rfl rfl, wp_bnd, wp_ret, n3_suc]
  show wp (k (tp, p, z + (-8))) (sd_up (sd_up (tpH h tp bt sz bs) bt (.inl (2, 2000, .inl (upd bs sz ((p >>> (z &&& 31)).toInt8.toInt32))))) tp (.inr (1, [.ref bt, .int (n3 (sz + 1))]))) b Q = _
  rw [e]
def put4 (bs : Nat → Int32) (sz : Nat) (p : Int32) : Nat → Int32 := upd (upd (upd (upd bs sz ((p >>> (n3 24 &&& 31)).toInt8.toInt32)) (sz + 1) ((p >>> (n3 16 &&& 31)).toInt8.toInt32)) (sz + 2) ((p >>> (n3 8 &&& 31)).toInt8.toInt32)) (sz + 3) ((p >>> (n3 0 &&& 31)).toInt8.toInt32)
theorem tp_put {p : Int32} {Q : Unit → sd_H → Nat × Nat → Prop} (ne : bt ≠ tp) (hs : sz + 4 ≤ 2000) : wp (fX2_put G tp p) (tpH h tp bt sz bs) b Q = Q () (tpH h tp bt (sz + 4) (put4 bs sz p)) b := by
  unfold fX2_put
  show wp (sd_loop (fun k s => fX2_put_b3 G k s.1 s.2.1 s.2.2) (999995 + 1 + 1 + 1 + 1 + 1) (tp, p, 24)) _ b Q = _
  show wp (fX2_put_b3 G _ tp p 24) _ b Q = _
  rw [tp_put1 ne (by omega) (by decide)]
  show wp (fX2_put_b3 G _ tp p 16) _ b Q = _
  rw [tp_put1 ne (by omega) (by decide)]
  show wp (fX2_put_b3 G _ tp p 8) _ b Q = _
  rw [tp_put1 ne (by omega) (by decide)]
  show wp (fX2_put_b3 G _ tp p 0) _ b Q = _
  rw [tp_put1 ne (by omega) (by decide)]
  show wp (fX2_put_b3 G _ tp p (-8)) _ b Q = _
  unfold fX2_put_b3
  rw [wp_ite, if_pos (by decide), wp_ret]
  rfl
theorem put4_lt {p : Int32} {k : Nat} (h : k < sz) : put4 bs sz p k = bs k := by
  unfold put4
  rw [upd_ne (by omega), upd_ne (by omega), upd_ne (by omega), upd_ne (by omega)]
theorem put4_at {p : Int32} {k : Nat} (h : k < 4) : put4 bs sz p (sz + k) = (p >>> (n3 (24 - 8 * k) &&& 31)).toInt8.toInt32 := by
  unfold put4
  have hk : k = 0 ∨ k = 1 ∨ k = 2 ∨ k = 3 := by omega
  rcases hk with rfl | rfl | rfl | rfl
  · rw [upd_ne (by omega), upd_ne (by omega), upd_ne (by omega)]
    exact upd_same _ _ _
  · rw [upd_ne (by omega), upd_ne (by omega), upd_same]
  · rw [upd_ne (by omega), upd_same]
  · rw [upd_same]
def put20 (bs : Nat → Int32) (sz : Nat) (p : Nat → Int32) : Nat → Int32 := put4 (put4 (put4 (put4 (put4 bs sz (p 0)) (sz + 4) (p 1)) (sz + 8) (p 2)) (sz + 12) (p 3)) (sz + 16) (p 4)
theorem put20_lt {p : Nat → Int32} {k : Nat} (h : k < sz) : put20 bs sz p k = bs k := by
  unfold put20
  rw [put4_lt (by omega), put4_lt (by omega), put4_lt (by omega), put4_lt (by omega), put4_lt (by omega)]
theorem put20_at {p : Nat → Int32} {k : Nat} (h : k < 20) : put20 bs sz p (sz + k) = (fdB p k).toInt8.toInt32 := by
  unfold put20 fdB
  by_cases c4 : 16 ≤ k
  · rw [show sz + k = sz + 16 + (k - 16) by omega, put4_at (by omega), show k / 4 = 4 by omega, show k - 16 = k % 4 by omega]
  · rw [put4_lt (by omega)]
    by_cases c3 : 12 ≤ k
    · rw [show sz + k = sz + 12 + (k - 12) by omega, put4_at (by omega), show k / 4 = 3 by omega, show k - 12 = k % 4 by omega]
    · rw [put4_lt (by omega)]
      by_cases c2 : 8 ≤ k
      · rw [show sz + k = sz + 8 + (k - 8) by omega, put4_at (by omega), show k / 4 = 2 by omega, show k - 8 = k % 4 by omega]
      · rw [put4_lt (by omega)]
        by_cases c1 : 4 ≤ k
        · rw [show sz + k = sz + 4 + (k - 4) by omega, put4_at (by omega), show k / 4 = 1 by omega, show k - 4 = k % 4 by omega]
        · rw [put4_lt (by omega), put4_at (by omega), show k / 4 = 0 by omega, show k % 4 = k by omega]
end TP
section FE
variable {t : TT} {b : Nat × Nat} {G : sd_G} {cx tp bt s0 E1 : Nat} {B : Nat → Nat} {Z : Nat → Prop} {q : Nat → Nat} {x : Nat → Nat → Int32} {ea : Int32} {sz : Nat} {bs : Nat → Int32} {h h' : sd_H}
theorem bt_ne (C : CI G cx tp bt s0 E1 B Z q x ea sz bs h t) : bt ≠ tp ∧ cx ≠ tp ∧ cx ≠ bt := by
  obtain ⟨w, Zk, h3, hd, c1, c2, c3, -⟩ := C
  refine ⟨fun e => ?_, fun e => ?_, fun e => ?_⟩
  · rw [e, c1] at c2
    cases c2
  · rw [e, c1] at c3
    cases c3
  · rw [e, c2] at c3
    cases c3
theorem CI_tp {sz' : Nat} {bs' : Nat → Int32} (C : CI G cx tp bt s0 E1 B Z q x ea sz bs h t) (zt : ¬ Z tp) (zb : ¬ Z bt) (zc : ¬ Z cx) : CI G cx tp bt s0 E1 B Z q x ea sz' bs' (tpH h tp bt sz' bs') t ∧ fr h (tpH h tp bt sz' bs') E1 (B 1) := by
  obtain ⟨ne, n2, n3⟩ := bt_ne C
  obtain ⟨w, Zk, h3, hd, c1, c2, c3, -⟩ := id C
  refine ⟨CI_own C (wfH_up (wfH_up w c2) ((up_ne ne.symm).trans c1)) (Nat.le_refl _) zt zb zc (fun a _ a1 a2 _ _ => tpH_ne a1 a2) tpH_tp (tpH_bt ne) ((tpH_ne n2 n3).trans c3), Nat.le_refl _, fun a e ha hm _ _ => ?_⟩
  rw [tpH_ne, ha]
  · intro c
    rw [c, c1] at ha
    cases ha
    cases hm
  · intro c
    rw [c, c2] at ha
    cases ha
    cases hm
/-- five ints fed -/
theorem a_feed {p : Nat → Int32} {Q : Int32 ⊕ Nat → sd_H → Nat × Nat → Prop} (C : CI G cx tp bt s0 E1 B Z q x ea sz bs h t) (zt : ¬ Z tp) (zb : ¬ Z bt) (zc : ¬ Z cx) (hs : sz ≤ 2000) (b1 : 1 ≤ b.1) (b2 : 6 ≤ b.2) (kbad : 1980 < sz → ∀ h', CI G cx tp bt s0 E1 B Z q x ea sz bs h' t → fr h h' E1 (B 1) → h'.2 h.1 = some (.inr (48, [])) → Q (.inr h.1) h' (b.1 - 1, b.2 - 6)) (kgood : sz ≤ 1980 → ∀ h', CI G cx tp bt s0 E1 B Z q x ea (sz + 20) (put20 bs sz p) h' t → fr h h' E1 (B 1) → Q (.inl (n3 (sz + 20))) h' b) : wp (fX1_feed G cx (p 0) (p 1) (p 2) (p 3) (p 4)) h b Q := by
  obtain ⟨ne, n2, nb⟩ := bt_ne C
  have c1 := C.2.2.2.2.1
  have c2 := C.2.2.2.2.2.1
  have c3 := C.2.2.2.2.2.2.1
  have r0 := (c_rd C).2.1
  unfold fX1_feed
  rw [wp_bnd, r0, wp_bnd, wp_getI (sd_look_new c1) rfl, wp_ite]
  have ec : ((2000 : Int32) < n3 sz + 20) = (2000 < sz + 20) := by
    rw [show n3 sz + 20 = n3 (sz + 20) from n3_add sz 20, show (2000 : Int32) = n3 2000 from rfl, n3_lt (by omega) (by omega)]
  by_cases c : 2000 < sz + 20
  · rw [if_pos (ec.mpr c)]
    unfold fX1_feed_b21
    rw [wp_bx, r_st0 b1 b2]
    show wp (sd_ret _) _ _ _
    rw [wp_ret]
    exact kbad (by omega) _ (CI_pu C).1 (CI_pu C).2 (pu_at _ _)
  · rw [if_neg (fun h => c (ec.mp h))]
    unfold fX1_feed_b21
    rw [wp_bx, r_st1]
    have lc : ∀ sz' bs' (b : Nat × Nat) (Q : Nat → sd_H → Nat × Nat → Prop), wp (sd_getR G 0 0 cx) (tpH h tp bt sz' bs') b Q = Q tp (tpH h tp bt sz' bs') b := fun sz' bs' b Q => wp_getR (sd_look_new ((tpH_ne n2 nb).trans c3)) rfl
    have lt : ∀ sz' bs' (b : Nat × Nat) (Q : Unit → sd_H → Nat × Nat → Prop), wp (sd_isC G 1 tp) (tpH h tp bt sz' bs') b Q = Q () (tpH h tp bt sz' bs') b := fun sz' bs' b Q => wp_isC (sd_look_new tpH_tp)
    have e := tpH_self c1 c2
    show wp _ h b Q
    rw [← e]
    rw [wp_bnd, lc, wp_bnd, lt, wp_bnd, tp_put ne (by omega), wp_bnd, lc, wp_bnd, lt, wp_bnd, tp_put ne (by omega), wp_bnd, lc, wp_bnd, lt, wp_bnd, tp_put ne (by omega), wp_bnd, lc, wp_bnd, lt, wp_bnd, tp_put ne (by omega), wp_bnd, lc, wp_bnd, lt, wp_bnd, tp_put ne (by omega), wp_bnd, lc, wp_bnd, wp_getI (sd_look_new tpH_tp) rfl, wp_ret]
    obtain ⟨C', f'⟩ := CI_tp (sz' := sz + 20) (bs' := put20 bs sz p) C zt zb zc
    exact kgood (by omega) _ C' f'
theorem a_trim {a : Int32} {Q : Int32 ⊕ Nat → sd_H → Nat × Nat → Prop} (C : CI G cx tp bt s0 E1 B Z q x ea sz bs h t) (zt : ¬ Z tp) (zb : ¬ Z bt) (zc : ¬ Z cx) (hs : sz ≤ 2000) (b1 : 1 ≤ b.1) (b2 : 6 ≤ b.2) (kbad : inR a (sz + 1) = none → ∀ h', CI G cx tp bt s0 E1 B Z q x ea sz bs h' t → fr h h' E1 (B 1) → h'.2 h.1 = some (.inr (49, [])) → Q (.inr h.1) h' (b.1 - 1, b.2 - 6)) (kgood : ∀ m, m ≤ sz → a = n3 m → ∀ h', CI G cx tp bt s0 E1 B Z q x ea m bs h' t → fr h h' E1 (B 1) → Q (.inl a) h' b) : wp (fX1_trim G cx a) h b Q := by
  obtain ⟨ne, n2, nb⟩ := bt_ne C
  have c1 := C.2.2.2.2.1
  have c2 := C.2.2.2.2.2.1
  have r0 := (c_rd C).2.1
  unfold fX1_trim
  rw [wp_bnd, r0, wp_bnd, wp_getI (sd_look_new c1) rfl, wp_bx]
  rcases inR_cases a (n := sz + 1) (by omega) with ⟨m, hm, rfl⟩ | ⟨hb, hn⟩
  · rw [show (0 : Int32) = n3 0 from rfl, r_frm (by omega) (by omega) (by omega)]
    show wp _ h b Q
    obtain ⟨C', f'⟩ := CI_tp (sz' := m) (bs' := bs) C zt zb zc
    have e : sd_up h tp (.inr (1, [.ref bt, .int (n3 m)])) = tpH h tp bt m bs := by
      refine Prod.ext rfl (funext fun a => ?_)
      by_cases c : a = tp
      · subst c
        rw [up_at, tpH_tp]
      · rw [up_ne c]
        by_cases c3 : a = bt
        · subst c3
          rw [tpH_bt c, c2]
        · rw [tpH_ne c c3]
    rw [wp_bnd, r0, wp_bnd, wp_put c1 (by simp) rfl rfl, wp_ret]
    show Q _ (sd_up h tp (.inr (1, [.ref bt, .int (n3 m)]))) b
    rw [e]
    exact kgood m (by omega) rfl _ C' f'
  · rw [r_frb ?_ b1 b2]
    · show wp (sd_ret _) _ _ _
      rw [wp_ret]
      exact kbad hn _ (CI_pu C).1 (CI_pu C).2 (pu_at _ _)
    · rcases hb with h1 | h1
      · exact Or.inl h1
      · refine Or.inr ?_
        rw [Int32.lt_iff_toInt_lt] at h1 ⊢
        rw [n3_toInt (by omega)] at h1 ⊢
        omega
end FE
section FM
variable {n : Nat} {ρ : Nat → Option Nat} {ad : Nat → Nat} {K : Nat → Option sd_E} {v : Nat → Int32} {x : Nat → Nat → Int32} {y : Nat → Nat → Int64} {G : sd_G} {t : TT} {b : Nat × Nat} {h : sd_H} {q : Nat → Nat} {κ g : Nat → Int32} {ea th : Int32} {sz : Nat}
/-- the model's tape with i bytes more -/
def xF (x : Nat → Nat → Int32) (sz : Nat) (p : Nat → Int32) (i : Nat) : Nat → Nat → Int32 := fun j => if j = 1 then (fun k => if sz ≤ k ∧ k < sz + i then fdB p (k - sz) &&& 255 else x 1 k) else x j
theorem xF_hi {p : Nat → Int32} {i j : Nat} (h : 20 ≤ j) : xF x sz p i j = x j := if_neg (by omega)
theorem xF_0 {p : Nat → Int32} : xF x sz p 0 = x := by
  funext j
  unfold xF
  by_cases h : j = 1
  · rw [if_pos h, h]
    funext k
    rw [if_neg (by omega)]
  · rw [if_neg h]
theorem xF_st {p w : Nat → Int32} {i : Nat} : up2 (sx (s7 (xF x sz p i) κ g) w) 1 (sz + i) (fdB p i &&& 255) = sx (s7 (xF x sz p (i + 1)) κ g) w := by
  funext j
  unfold up2
  by_cases h : j = 1
  · subst h
    rw [if_pos rfl]
    show upd (xF x sz p i 1) (sz + i) (fdB p i &&& 255) = xF x sz p (i + 1) 1
    funext k
    unfold upd xF
    rw [if_pos rfl, if_pos rfl]
    by_cases hk : k = sz + i
    · rw [if_pos hk, if_pos (by omega), hk, Nat.add_sub_cancel_left]
    · rw [if_neg hk]
      by_cases hk2 : sz ≤ k ∧ k < sz + i
      · rw [if_pos hk2, if_pos (by omega)]
      · rw [if_neg hk2, if_neg (by omega)]
  · rw [if_neg h]
    unfold sx s7 xF
    by_cases h15 : j = 15
    · rw [if_pos h15, if_pos h15]
    · rw [if_neg h15, if_neg h15]
      by_cases h16 : j = 16
      · rw [if_pos h16, if_pos h16]
      · rw [if_neg h16, if_neg h16]
        by_cases h17 : j = 17
        · rw [if_pos h17, if_pos h17]
        · rw [if_neg h17, if_neg h17, if_neg h, if_neg h]
theorem o_feed {p : Nat → Int32} {Q : Int32 → sd_H → Nat × Nat → Prop} (M : MI ρ ad q x ea sz th h t) (hs : sz ≤ 2000) (b1 : 1 ≤ b.1) (b2 : 5 ≤ b.2) (kbad : 1980 < sz → ∀ h', MI ρ ad q x ea sz 1 h' t → mf G ρ h h' → Q 0 h' b) (kgood : sz ≤ 1980 → ∀ h', MI ρ ad q (xF x sz p 20) ea (sz + 20) 0 h' t → mf G ρ h h' → Q (n3 (sz + 20)) h' (b.1 - 1, b.2 - 5)) : wp (fX5_feed G (ad 0) (p 0) (p 1) (p 2) (p 3) (p 4)) h b Q := by
  obtain ⟨n, K, v, y, κ, g, rfl, E, hp, hv, hP, hO, ok, h0, h2, h3⟩ := M
  have ho := mOk_none E
  have E' := mOk_suc E
  have h2' : upd v 0 0 2 = n3 sz := h2
  unfold fX5_feed
  have ec : (n3 sz ≤ (1980 : Int32)) = (sz ≤ 1980) := by
    rw [show (1980 : Int32) = n3 1980 from rfl, n3_le (by omega) (by omega)]
  rw [wp_bnd, (mPu E).1, wp_bnd, hMo_getI4 E rfl, h2', wp_ite]
  by_cases c : sz ≤ 1980
  · rw [if_pos (ec.mpr c), wp_bnd]
    refine wp_newI (n := 5) (by omega) (by omega) (by omega) ?_
    rw [mo_pu E]
    show wp (sd_bnd (sd_astI 0 n (n3 0) (p 0)) fun _ => sd_bnd (sd_astI 0 n (n3 1) (p 1)) fun _ => sd_bnd (sd_astI 0 n (n3 2) (p 2)) fun _ => sd_bnd (sd_astI 0 n (n3 3) (p 3)) fun _ => sd_bnd (sd_astI 0 n (n3 4) (p 4)) fun _ => sd_loop (fun k s => fX5_feed_b51 G k s.1 s.2.1 s.2.2) sd_FU (ad 0, n, 0)) (hMo (n + 1) ρ ad (updK K n (.inl (0, 5, .inl fun _ => 0))) (upd v 0 0) (sx (s7 x κ g) (enc t)) y) _ Q
    rw [wp_bnd, mo_st ho (by omega) (by omega), wp_bnd, mo_st ho (by omega) (by omega), wp_bnd, mo_st ho (by omega) (by omega), wp_bnd, mo_st ho (by omega) (by omega), wp_bnd, mo_st ho (by omega) (by omega)]
    refine wp_for 20 (fun i (_ : Unit) => (ad 0, n, n3 i)) (fun i _ h' b' => h' = hMo (n + 1) ρ ad (updK K n (.inl (0, 5, .inl (upd (upd (upd (upd (upd (fun _ => 0) 0 (p 0)) 1 (p 1)) 2 (p 2)) 3 (p 3)) 4 (p 4))))) (upd v 0 0) (sx (s7 (xF x sz p i) κ g) (enc t)) y ∧ b' = (b.1 - 1, b.2 - 5)) ?_ ?_ sd_FU 0 () _ _ (Nat.zero_le _) (by unfold sd_FU; omega) ⟨by rw [xF_0], rfl⟩
    · rintro k a h' b' ⟨rfl, rfl⟩
      show wp (fX5_feed_b51 G k (ad 0) n (n3 20)) _ _ Q
      unfold fX5_feed_b51
      rw [wp_ite, if_pos (by decide), wp_bnd, hMo_getI4 E' rfl, h2', show n3 sz + 20 = n3 (sz + 20) from n3_add sz 20, wp_bnd, (mPu E').2.1, wp_bnd, hMo_getI4 E' rfl, wp_ret]
      refine kgood c _ ⟨n + 1, _, _, y, κ, g, rfl, E', hp, hv, okP_x (fun j hj => xF_hi hj) hP, okO_x (fun j hj => xF_hi hj) hO, ok, rfl, rfl, h3⟩ (mf_K E (fun a ha => updK_ne ha))
    · rintro k i a h' b' hi ⟨rfl, rfl⟩ nx
      have nx := nx () _ _ ⟨rfl, rfl⟩
      have hn : ¬ (20 : Int32) ≤ n3 i := by
        rw [show (20 : Int32) = n3 20 from rfl, n3_le (by omega) (by omega)]
        omega
      have ed : n3 i / 4 = n3 (i / 4) := n3_div (a := i) (b := 4) (by omega) (by decide)
      have em : n3 i - n3 (i / 4) * 4 = n3 (i % 4) := by
        rw [show n3 (i / 4) * 4 = n3 (i / 4 * 4) from n3_mul _ 4, n3_sub (by omega)]
        congr 1
        omega
      have es : (24 : Int32) - 8 * n3 (i % 4) = n3 (24 - 8 * (i % 4)) := by
        rw [show (8 : Int32) * n3 (i % 4) = n3 (8 * (i % 4)) from n3_mul 8 _, show (24 : Int32) = n3 24 from rfl, n3_sub (by omega)]
      have ef : ∀ j, j < 5 → upd (upd (upd (upd (upd (fun _ => 0) 0 (p 0)) 1 (p 1)) 2 (p 2)) 3 (p 3)) 4 (p 4) j = p j := by
        intro j hj
        have : j = 0 ∨ j = 1 ∨ j = 2 ∨ j = 3 ∨ j = 4 := by omega
        rcases this with rfl | rfl | rfl | rfl | rfl <;> rfl
      show wp (fX5_feed_b51 G k (ad 0) n (n3 i)) _ _ Q
      unfold fX5_feed_b51
      rw [wp_ite, if_neg hn, wp_bnd, hMo_getR4 E' rfl, wp_bnd, hMo_getI4 E' rfl, h2', wp_bnd, ed, mo_ld ho (by omega) (by omega), ef _ (by omega), wp_bnd, em, es, wp_ret, n3_add, wp_bnd, (mAs E').1 _ _ _ _ _ _ _ (by omega), wp_bnd, wp_ret, n3_suc]
      rw [← xF_st] at nx
      exact nx
  · rw [if_neg (fun h => c (ec.mp h)), wp_bnd, hMo_isC4 E, wp_bnd, m_no E, wp_ret, upd_upd]
    exact kbad (by omega) _ ⟨n, K, _, y, κ, g, rfl, E, hp, hv, hP, hO, ok, rfl, h2, h3⟩ mf_same
theorem o_trim {a : Int32} {Q : Int32 → sd_H → Nat × Nat → Prop} (M : MI ρ ad q x ea sz th h t) (hs : sz ≤ 2000) (kbad : inR a (sz + 1) = none → ∀ h', MI ρ ad q x ea sz 1 h' t → mf G ρ h h' → Q 0 h' b) (kgood : ∀ m, m ≤ sz → a = n3 m → ∀ h', MI ρ ad q x ea m 0 h' t → mf G ρ h h' → Q a h' b) : wp (fX5_trim G (ad 0) a) h b Q := by
  obtain ⟨n, K, v, y, κ, g, rfl, E, hp, hv, hP, hO, ok, h0, h2, h3⟩ := M
  have h2' : upd v 0 0 2 = n3 sz := h2
  unfold fX5_trim
  rw [wp_bnd, (mPu E).1, wp_bnd, hMo_getI4 E rfl, h2', wp_bnd, m_isIn]
  rcases inR_cases a (n := sz + 1) (by omega) with ⟨m, hm, rfl⟩ | ⟨hb, hn⟩
  · rw [if_neg (n3_0 (by omega)), if_neg (by rw [n3_lt (by omega) (by omega)]; omega), wp_ite, if_neg (by decide), wp_bnd, (mPu E).2.1, wp_ret]
    exact kgood m (by omega) rfl _ ⟨n, K, _, y, κ, g, rfl, E, hp, hv, hP, hO, ok, rfl, rfl, h3⟩ mf_same
  · have e : (if a < 0 then wp (if (0 : Int32) = 0 then sd_bnd (sd_isC G 4 (ad 0)) fun _ => sd_bnd (fX5_no G (ad 0) 1) fun r3 => sd_ret r3 else sd_bnd (sd_put 4 2 .int (ad 0) (.int a)) fun _ => sd_ret a) (hMo n ρ ad K (upd v 0 0) (sx (s7 x κ g) (enc t)) y) b Q else if n3 sz < a then wp (if (0 : Int32) = 0 then sd_bnd (sd_isC G 4 (ad 0)) fun _ => sd_bnd (fX5_no G (ad 0) 1) fun r3 => sd_ret r3 else sd_bnd (sd_put 4 2 .int (ad 0) (.int a)) fun _ => sd_ret a) (hMo n ρ ad K (upd v 0 0) (sx (s7 x κ g) (enc t)) y) b Q else wp (if (1 : Int32) = 0 then sd_bnd (sd_isC G 4 (ad 0)) fun _ => sd_bnd (fX5_no G (ad 0) 1) fun r3 => sd_ret r3 else sd_bnd (sd_put 4 2 .int (ad 0) (.int a)) fun _ => sd_ret a) (hMo n ρ ad K (upd v 0 0) (sx (s7 x κ g) (enc t)) y) b Q) := by
      have fin : wp (if (0 : Int32) = 0 then sd_bnd (sd_isC G 4 (ad 0)) fun _ => sd_bnd (fX5_no G (ad 0) 1) fun r3 => sd_ret r3 else sd_bnd (sd_put 4 2 .int (ad 0) (.int a)) fun _ => sd_ret a) (hMo n ρ ad K (upd v 0 0) (sx (s7 x κ g) (enc t)) y) b Q := by
        rw [if_pos rfl, wp_bnd, hMo_isC4 E, wp_bnd, m_no E, wp_ret, upd_upd]
        exact kbad hn _ ⟨n, K, _, y, κ, g, rfl, E, hp, hv, hP, hO, ok, rfl, h2, h3⟩ mf_same
      by_cases c : a < 0
      · rw [if_pos c]
        exact fin
      · rw [if_neg c]
        have c2 : n3 sz < a := by
          rcases hb with h1 | h1
          · exact absurd h1 c
          · rw [Int32.lt_iff_toInt_lt] at h1 ⊢
            rw [n3_toInt (by omega)] at h1 ⊢
            omega
        rw [if_pos c2]
        exact fin
    exact e
end FM
