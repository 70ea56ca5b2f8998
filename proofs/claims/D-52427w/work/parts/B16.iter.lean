/-! THE PLAIN LAW: the component walks over lists -/
section NI
variable {G : sd_G} {n n' a l r it : Nat} {ρ : Nat → Option Nat} {c : Nat → sd_E} {K : Nat → Option sd_E} {b : Nat × Nat} {e : sd_E}
theorem nh_fst : (nh n ρ c K).1 = n := rfl
theorem nh_lookU (h : l ≠ a) : sd_look G (nh n' ρ c (updK K a e)) l = sd_look G (nh n ρ c K) l := by
  unfold sd_look nh updK
  simp only [if_neg h]
theorem updK_up (e e' : sd_E) : updK (updK K a e) a e' = updK K a e' := by
  funext j
  unfold updK
  split <;> rfl
theorem updK_same : updK K a e a = some e := if_pos rfl
theorem nh_putK {ci k : Nat} {fs : List Value} {ty : FieldType} {v : Value} {Q : Unit → sd_H → Nat × Nat → Prop} (hr : ρ a = none) (hc : K a = some (.inr (ci, fs))) (h1 : k < fs.length) (h2 : narrow ty v = v) (h3 : fits ty v = true) : wp (sd_put ci k ty a v) (nh n ρ c K) b Q = Q () (nh n ρ c (updK K a (.inr (ci, fs.set k v)))) b := by
  rw [wp_put ((nh_out hr).trans hc) h1 h2 h3, nh_upK hr]
theorem nh_iter {mc : Int32} {sz : Nat} {Q : Nat → sd_H → Nat × Nat → Prop} (hl : sd_look G (nh n ρ c K) l = some (aL mc r sz)) (hln : l ≠ n) (hn : ρ n = none) (h1 : 1 ≤ b.1) (h2 : 4 ≤ b.2) (kk : Q n (nh (n + 1) ρ c (updK K n (aI (n3 0) (-1) mc l))) (b.1 - 1, b.2 - 4)) : wp (fJ2_iterator G l) (nh n ρ c K) b Q := by
  unfold fJ2_iterator fJ31_init
  simp only [wp_bnd, wp_ret]
  refine wp_new h1 h2 ?_
  rw [nh_pu hn]
  simp only [nh_fst]
  rw [nh_putK hn updK_same (Nat.le_of_ble_eq_true rfl) rfl rfl, updK_up]
  rw [nh_putK hn updK_same (Nat.le_of_ble_eq_true rfl) rfl rfl, updK_up]
  have l1 : sd_look G (nh (n + 1) ρ c (updK K n (.inr (42, ([Value.int 0, .int 0, .int 0, .null].set 3 (.ref l)).set 1 (.int (-1)))))) n = some (aI 0 (-1) 0 l) := sd_look_new ((nh_out hn).trans updK_same)
  have l2 : sd_look G (nh (n + 1) ρ c (updK K n (.inr (42, ([Value.int 0, .int 0, .int 0, .null].set 3 (.ref l)).set 1 (.int (-1)))))) l = some (aL mc r sz) := (nh_lookU (n := n) hln).trans hl
  simp only [it_rd l1, al_rd l2]
  rw [nh_putK hn updK_same (Nat.le_of_ble_eq_true rfl) rfl rfl, updK_up]
  exact kk
theorem nh_hasNext {mc last em : Int32} {k sz : Nat} {Q : Int32 → sd_H → Nat × Nat → Prop} (hl : sd_look G (nh n ρ c K) l = some (aL mc r sz)) (hln : l ≠ it) (hi : ρ it = none) (hk : k < 2147483648) (hs : sz < 2147483648) : wp (fJ31_hasNext G it) (nh n' ρ c (updK K it (aI (n3 k) last em l))) b Q = if k = sz then Q 0 (nh n' ρ c (updK K it (aI (n3 k) last em l))) b else Q 1 (nh n' ρ c (updK K it (aI (n3 k) last em l))) b := j_hasNext (sd_look_new ((nh_out hi).trans updK_same)) ((nh_lookU (n := n) hln).trans hl) hk hs
theorem nh_next {mc last : Int32} {k sz cap w : Nat} {f : Nat → Option Nat} {Q : Nat → sd_H → Nat × Nat → Prop} (hl : sd_look G (nh n ρ c K) l = some (aL mc r sz)) (hr : sd_look G (nh n ρ c K) r = some (aR cap f)) (hln : l ≠ it) (hrn : r ≠ it) (hi : ρ it = none) (hk : k < sz) (hc : sz ≤ cap) (hb : cap ≤ 1000000) (hf : f k = some w) : wp (fJ31_next G it) (nh n' ρ c (updK K it (aI (n3 k) last mc l))) b Q = Q w (nh n' ρ c (updK K it (aI (n3 (k + 1)) (n3 k) mc l))) b := by
  rw [j_next (r := r) (sz := sz) (cap := cap) (f := f) (w := w) ((nh_out hi).trans updK_same) ((nh_lookU (n := n) hln).trans hl) ((nh_lookU (n := n) hrn).trans hr) (fun e => hln e.symm) (fun e => hrn e.symm) hk hc hb hf, nh_upK hi, updK_up]
theorem nh_isI {cur last em : Int32} {Q : Unit → sd_H → Nat × Nat → Prop} (hi : ρ it = none) : wp (sd_isC G 42 it) (nh n' ρ c (updK K it (aI cur last em l))) b Q = Q () (nh n' ρ c (updK K it (aI cur last em l))) b := wp_isC (sd_look_new ((nh_out hi).trans updK_same))
end NI
section SI
variable {G : sd_G} {n n' : Nat} {ρ : Nat → Option Nat} {K K' : Nat → Option sd_E} {ad F : Nat → Nat} {q : Nat → Nat} {x : Nat → Nat → Int32} {mc : Nat → Int32} {em cs : Nat → Bool} {t : TT} {b : Nat × Nat}
theorem im_K {a : Nat} {e : sd_E} (h : im G n ρ K a e) (h1 : n ≤ n') (h2 : ∀ a, a < n → K' a = K a) : im G n' ρ K' a e := ⟨h.1, Nat.lt_of_lt_of_le h.2.1 h1, by rw [h2 a h.2.1]; exact h.2.2⟩
theorem sF_K (h : sF G n ρ K ad F q x) (h1 : n ≤ n') (h2 : ∀ a, a < n → K' a = K a) : sF G n' ρ K' ad F q x := by
  obtain ⟨⟨m1, r1, c1, f1, a1, a2, a3, a4, a5⟩, ⟨m2, r2, c2, f2, b1, b2, b3, b4, b5⟩, ⟨m3, r3, c3, f3, d1, d2, d3, d4, d5⟩, f, e1⟩ := h
  have mo : ∀ {a : Nat} {e : sd_E}, im G n ρ K a e → im G n' ρ K' a e := fun h => im_K h h1 h2
  refine ⟨⟨m1, r1, c1, f1, mo a1, mo a2, a3, a4, a5⟩, ⟨m2, r2, c2, f2, mo b1, mo b2, b3, b4, fun i hi => ?_⟩, ⟨m3, r3, c3, f3, mo d1, mo d2, d3, d4, fun i hi => ?_⟩, f, mo e1⟩
  · obtain ⟨a, z1, z2⟩ := b5 i hi
    exact ⟨a, z1, mo z2⟩
  · obtain ⟨a, z1, z2⟩ := d5 i hi
    exact ⟨a, z1, mo z2⟩
theorem sA_K (A : sA G n ρ K ad F q x em cs t) (h1 : n ≤ n') (h2 : ∀ a, a < n → K' a = K a) : sA G n' ρ K' ad F q x em cs t := ⟨⟨A.1.1, A.1.2.1, fun a i ha => Nat.lt_of_lt_of_le (A.1.2.2 a i ha) h1⟩, A.2.1, sF_K A.2.2.1 h1 h2, A.2.2.2.1, A.2.2.2.2⟩
theorem sA_n (A : sA G n ρ K ad F q x em cs t) : ρ n = none := by
  cases h : ρ n with
  | none => rfl
  | some i =>
    have := A.1.2.2 n i h
    omega
theorem s_left {s : Nat} {Q : Int32 → sd_H → Nat × Nat → Prop} (A : sA G n ρ K ad F q x em cs t) (hs : s < q 20) (w : wfH G (hSo G n ρ K ad F q x mc em t)) (h1 : 1 ≤ b.1) (h2 : 4 ≤ b.2) (kk : ∀ K', (∀ a, a < n → K' a = K a) → sA G (n + 1) ρ K' ad F q x em cs t → wfH G (hSo G (n + 1) ρ K' ad F q x mc em t) → Q (cnt (lftB x t s) (t.2.1 s)) (hSo G (n + 1) ρ K' ad F q x mc em t) (b.1 - 1, b.2 - 4)) : wp (fX3_left G (ad 0) (n3 s)) (hSo G n ρ K ad F q x mc em t) b Q := by
  have q8 := A.2.2.2.1.1.2
  have h10 := A.2.2.2.2.2.2.1 s hs
  have hn := sA_n A
  have lt : ∀ i, sV (q 20) em cs i → ad i < n := fun i hi => A.1.2.2 _ i (A.1.1 i hi)
  have l10 := lt _ (sV10 hs)
  unfold fX3_left
  simp only [↓wp_bnd, ↓wp_ret, ↓wp_ite, ↓reduceIte, s_rd A, s_isS A, s_seat A hs, al_rd (s_list A hs)]
  have hl := s_list (mc := mc) A hs
  unfold hSo at hl ⊢
  refine nh_iter hl (by omega) hn h1 h2 ?_
  refine wp_for (F := fun k s => fX3_left_b17 G k s.1 s.2) (t.2.1 s) (fun i (a : Int32) => (a, n)) (fun i a h' b' => b' = (b.1 - 1, b.2 - 4) ∧ ∃ last, h' = nh (n + 1) ρ (cS ad F q x (sd_ad G 0) mc em t) (updK K n (aI (n3 i) last (mc s) (ad (10 + s)))) ∧ lp (fun i a => (.inl (a + if lftB x t s i then 1 else 0) : Int32 ⊕ Int32)) (fun a => a) (t.2.1 s - i) i a = cnt (lftB x t s) (t.2.1 s)) ?_ ?_ sd_FU 0 0 _ _ (Nat.zero_le _) (by unfold sd_FU; omega) ⟨rfl, -1, rfl, rfl⟩
  · rintro k a h' b' ⟨e1, last, e2, e3⟩
    subst e1
    subst e2
    rw [Nat.sub_self] at e3
    have e3 : a = cnt (lftB x t s) (t.2.1 s) := e3
    unfold fX3_left_b17
    simp only [↓wp_bnd, ↓wp_ret, ↓wp_ite, ↓reduceIte, nh_isI hn, nh_hasNext hl (show ad (10 + s) ≠ n by omega) hn (show t.2.1 s < 2147483648 by omega) (by omega)]
    rw [e3]
    have hK : ∀ a, a < n → updK K n (aI (n3 (t.2.1 s)) last (mc s) (ad (10 + s))) a = K a := fun a ha => if_neg (by omega)
    exact kk _ hK (sA_K A (Nat.le_succ n) hK) (by unfold hSo; rw [← nh_pu hn]; exact wfH_pu w)
  · rintro k i a h' b' hi ⟨e1, last, e2, e3⟩ K1
    subst e1
    subst e2
    have he : em s = false := by
      cases h : em s with
      | false => rfl
      | true =>
        have := A.2.1.2 s hs h
        omega
    have hr := s_arr (mc := mc) A hs he
    have l20 := lt _ (sV20 hs he)
    have hl2 : sd_look G (nh n ρ (cS ad F q x (sd_ad G 0) mc em t) K) (ad (10 + s)) = some (aL (mc s) (ad (20 + s)) (t.2.1 s)) := by
      rw [he] at hl
      exact hl
    have h9 : ¬ (i = t.2.1 s) := by omega
    unfold hSo at hr
    unfold fX3_left_b17
    simp only [↓wp_bnd, ↓wp_ret, ↓wp_ite, ↓reduceIte, nh_isI hn, nh_hasNext hl (show ad (10 + s) ≠ n by omega) hn (show i < 2147483648 by omega) (show t.2.1 s < 2147483648 by omega), h9]
    rw [nh_next (cap := 10) (w := ad (100 + t.2.2.1 (10 * s + i))) hl2 hr (by omega) (by omega) hn hi h10 (by omega) (if_pos hi)]
    have hc := s_cu (mc := mc) A hs hi
    have lc := lt _ (sV100 (A.2.2.2.2.2.2.2.1 s i hs hi) (A.2.1.1 s i hs hi))
    unfold hSo at hc
    have hc2 := (nh_lookU (n' := n + 1) (e := aI (n3 (i + 1)) (n3 i) (mc s) (ad (10 + s))) (show ad (100 + t.2.2.1 (10 * s + i)) ≠ n by omega)).trans hc
    simp only [↓wp_bnd, ↓wp_ret, ↓wp_ite, ↓reduceIte, wp_cast hc2 (show 3 ∈ [3] by decide), cu_rd hc2]
    have e4 : lp (fun i a => (.inl (a + if lftB x t s i then 1 else 0) : Int32 ⊕ Int32)) (fun a => a) (t.2.1 s - (i + 1)) (i + 1) (a + if lftB x t s i then 1 else 0) = cnt (lftB x t s) (t.2.1 s) := by
      rw [← e3, show t.2.1 s - i = (t.2.1 s - (i + 1)) + 1 by omega]
      rfl
    unfold lftB at e4
    by_cases c1 : x 30 (t.2.2.1 (10 * s + i)) = -1
    · simp only [c1, decide_true, Bool.not_true, Bool.false_eq_true, ↓reduceIte] at e4 ⊢
      exact K1 _ _ _ ⟨rfl, _, rfl, e4⟩
    · simp only [c1, decide_false, Bool.not_false, ↓reduceIte] at e4 ⊢
      exact K1 _ _ _ ⟨rfl, _, rfl, e4⟩
theorem s_above {f : Nat} {Q : Int32 → sd_H → Nat × Nat → Prop} (A : sA G n ρ K ad F q x em cs t) (hf : f < q 26) (w : wfH G (hSo G n ρ K ad F q x mc em t)) (h1 : 1 ≤ b.1) (h2 : 4 ≤ b.2) (kk : ∀ K', (∀ a, a < n → K' a = K a) → sA G (n + 1) ρ K' ad F q x em cs t → wfH G (hSo G (n + 1) ρ K' ad F q x mc em t) → Q (bur (q 20) x t (x 28 f)) (hSo G (n + 1) ρ K' ad F q x mc em t) (b.1 - 1, b.2 - 4)) : wp (fX3_above G (ad 0) (n3 f)) (hSo G n ρ K ad F q x mc em t) b Q := by
  have hP := A.2.2.2.1
  have q8 := hP.1.2
  have q24 := hP.2.2.2.1
  have hn := sA_n A
  obtain ⟨m2, r2, c2, f2, a1, a2, a3, a4, a5⟩ := A.2.2.1.1
  have hl : sd_look G (nh n ρ (cS ad F q x (sd_ad G 0) mc em t) K) (F 2) = some (aL m2 r2 (q 20)) := im_look a1
  have hr : sd_look G (nh n ρ (cS ad F q x (sd_ad G 0) mc em t) K) r2 = some (aR c2 f2) := im_look a2
  have pq : ∀ s k, s < q 20 → k < t.2.1 s → (x 30 (t.2.2.1 (10 * s + k)) = n3 f) = (n3 (t.2.2.1 (10 * s + k)) = x 28 f) := by
    intro s k hs hk
    have hc := A.2.2.2.2.2.2.2.1 s k hs hk
    apply propext
    constructor
    · intro e
      obtain ⟨z1 | ⟨g, z1, z2, z3⟩, -⟩ := hP.2.2.2.2.2.2 _ hc
      · rw [e, n3_neg1 (by omega)] at z1
        exact z1.elim
      · rw [e] at z2
        have := (n3_eq (a := f) (b := g) (by omega) (by omega)).mp z2
        subst this
        exact z3.symm
    · intro e
      obtain ⟨-, c, z1, z2, z3⟩ := hP.2.2.2.2.2.1 f hf
      rw [z2] at e
      have := (n3_eq (a := t.2.2.1 (10 * s + k)) (b := c) (by omega) (by omega)).mp e
      rw [this]
      exact z3
  unfold fX3_above
  simp only [↓wp_bnd, ↓wp_ret, ↓wp_ite, ↓reduceIte, s_rd A, s_isS A]
  unfold hSo
  refine nh_iter hl (by have := a1.2.1; omega) hn h1 h2 ?_
  refine wp_for (F := fun k s => fX3_above_b8 G k s.1 s.2) (q 20) (fun i (_ : Unit) => (n3 f, n)) (fun i _ h' b' => b' = (b.1 - 1, b.2 - 4) ∧ ∃ last, h' = nh (n + 1) ρ (cS ad F q x (sd_ad G 0) mc em t) (updK K n (aI (n3 i) last m2 (F 2))) ∧ lp (fun s (_ : Unit) => lp (fun k (_ : Unit) => if n3 (t.2.2.1 (10 * s + k)) = x 28 f then .inr (.inr (n3 (t.2.1 s) - 1 - n3 k)) else .inl ()) (fun _ => .inl ()) (t.2.1 s) 0 ()) (fun _ => -1) (q 20 - i) i () = bur (q 20) x t (x 28 f)) ?_ ?_ sd_FU 0 () _ _ (Nat.zero_le _) (by unfold sd_FU; omega) ⟨rfl, -1, rfl, rfl⟩
  · rintro k a h' b' ⟨e1, last, e2, e3⟩
    subst e1
    subst e2
    rw [Nat.sub_self] at e3
    have e3 : (-1 : Int32) = bur (q 20) x t (x 28 f) := e3
    unfold fX3_above_b8
    simp only [↓wp_bnd, ↓wp_ret, ↓wp_ite, ↓reduceIte, nh_isI hn, nh_hasNext hl (show F 2 ≠ n by have := a1.2.1; omega) hn (show q 20 < 2147483648 by omega) (by omega)]
    rw [e3]
    have hK : ∀ a, a < n → updK K n (aI (n3 (q 20)) last m2 (F 2)) a = K a := fun a ha => if_neg (by omega)
    exact kk _ hK (sA_K A (Nat.le_succ n) hK) (by unfold hSo; rw [← nh_pu hn]; exact wfH_pu w)
  · rintro k i a h' b' hi ⟨e1, last, e2, e3⟩ K1
    subst e1
    subst e2
    have h9 : ¬ (i = q 20) := by omega
    have h10 := A.2.2.2.2.2.2.1 i hi
    unfold fX3_above_b8
    simp only [↓wp_bnd, ↓wp_ret, ↓wp_ite, ↓reduceIte, nh_isI hn, nh_hasNext hl (show F 2 ≠ n by have := a1.2.1; omega) hn (show i < 2147483648 by omega) (show q 20 < 2147483648 by omega), h9]
    rw [nh_next (cap := c2) (w := ad (10 + i)) hl hr (by have := a1.2.1; omega) (by have := a2.2.1; omega) hn hi a3 (by omega) (a5 i hi)]
    have hK : ∀ a, a < n → updK K n (aI (n3 (i + 1)) (n3 i) m2 (F 2)) a = K a := fun a ha => if_neg (by omega)
    have A' := sA_K A (Nat.le_succ n) hK
    have hl' := s_list (mc := mc) A' hi
    rw [show nh (n + 1) ρ (cS ad F q x (sd_ad G 0) mc em t) (updK K n (aI (n3 (i + 1)) (n3 i) m2 (F 2))) = hSo G (n + 1) ρ (updK K n (aI (n3 (i + 1)) (n3 i) m2 (F 2))) ad F q x mc em t from rfl]
    simp only [↓wp_bnd, ↓wp_ret, ↓wp_ite, ↓reduceIte, al_rd hl']
    rw [show q 20 - i = (q 20 - (i + 1)) + 1 by omega] at e3
    simp only [lp] at e3
    refine Eq.mpr (wp_lp (F := fun k' s => fX3_above_b30 G k k' s.1 s.2.1 s.2.2.1 s.2.2.2) (t.2.1 i) (fun j (_ : Unit) => (n3 f, n, ad (10 + i), n3 j)) (fun _ => hSo G (n + 1) ρ (updK K n (aI (n3 (i + 1)) (n3 i) m2 (F 2))) ad F q x mc em t) (fun _ _ => True) (fun k (_ : Unit) => if n3 (t.2.2.1 (10 * i + k)) = x 28 f then .inr (.inr (n3 (t.2.1 i) - 1 - n3 k)) else .inl ()) (fun _ => (.inl () : Unit ⊕ Int32)) (fun g => match g with
      | .inl _ => wp (k (n3 f, n)) (hSo G (n + 1) ρ (updK K n (aI (n3 (i + 1)) (n3 i) m2 (F 2))) ad F q x mc em t) (b.1 - 1, b.2 - 4) Q
      | .inr g => Q g (hSo G (n + 1) ρ (updK K n (aI (n3 (i + 1)) (n3 i) m2 (F 2))) ad F q x mc em t) (b.1 - 1, b.2 - 4)) ?_ ?_ sd_FU 0 () (Nat.zero_le _) (by unfold sd_FU; omega) trivial) ?_
    · intro k' a _
      unfold fX3_above_b30
      simp (disch := omega) only [↓wp_bnd, ↓wp_ret, ↓wp_ite, ↓reduceIte, al_rd hl', j_size hl', n3_le, Nat.le_refl]
    · intro k' j a hj _
      refine ⟨fun _ _ => trivial, ?_⟩
      have h11 : ¬ t.2.1 i ≤ j := by omega
      have hc := s_cu (mc := mc) A' hi hj
      unfold fX3_above_b30
      simp (disch := omega) only [↓wp_bnd, ↓wp_ret, ↓wp_ite, ↓reduceIte, al_rd hl', j_size hl', n3_le, h11, s_get A' hi hj, wp_cast hc (show 3 ∈ [3] by decide), cu_rd hc, n3_addl, pq i j hi hj]
      split <;> rfl
    · rw [Nat.sub_zero]
      cases hx : lp (fun k (_ : Unit) => if n3 (t.2.2.1 (10 * i + k)) = x 28 f then (.inr (.inr (n3 (t.2.1 i) - 1 - n3 k)) : Unit ⊕ (Unit ⊕ Int32)) else .inl ()) (fun _ => .inl ()) (t.2.1 i) 0 () with
      | inl u =>
        rw [hx] at e3
        exact K1 () _ _ ⟨rfl, n3 i, rfl, e3⟩
      | inr g =>
        rw [hx] at e3
        have e3 : g = bur (q 20) x t (x 28 f) := e3
        rw [e3]
        exact kk _ hK A' (by unfold hSo; rw [← nh_pu hn]; exact wfH_pu w)
end SI
