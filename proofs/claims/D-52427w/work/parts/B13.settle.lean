/-! THE PLAIN LAW: the component's seats grow, settle, are dug -/
section NE
variable {G : sd_G} {n a i j w : Nat} {ρ : Nat → Option Nat} {c : Nat → sd_E} {K : Nat → Option sd_E} {b : Nat × Nat} {mc : Int32}
def nmd (ρ : Nat → Option Nat) (n j : Nat) : Nat → Option Nat := fun a => if a = n then some j else ρ a
theorem nh_name {e : sd_E} (hn : ∀ a j, ρ a = some j → a < n) (hj : ∀ a, ρ a ≠ some j) : sd_pu (nh n ρ c K) e = nh (n + 1) (nmd ρ n j) (updE c j e) K := by
  refine Prod.ext rfl (funext fun q => ?_)
  show (if q = n then some e else (nh n ρ c K).2 q) = (nh (n + 1) (nmd ρ n j) (updE c j e) K).2 q
  by_cases hq : q = n
  · subst hq
    rw [if_pos rfl, nh_at (i := j) (if_pos rfl), updE_same]
  · rw [if_neg hq]
    cases hqr : ρ q with
    | none => rw [nh_out hqr, nh_out (show nmd ρ n j q = none from (if_neg hq).trans hqr)]
    | some l =>
      rw [nh_at hqr, nh_at (show nmd ρ n j q = some l from (if_neg hq).trans hqr), updE_ne]
      intro e
      subst e
      exact hj q hqr
/-- a first element: an array of ten is made -/
theorem nh_addE {Q : Int32 → sd_H → Nat × Nat → Prop} {f0 : Nat → Option Nat} (ha : ρ a = some i) (hai : ∀ q, ρ q = some i → q = a) (hn : ∀ a j, ρ a = some j → a < n) (hj : ∀ a, ρ a ≠ some j) (hij : j ≠ i) (ci : c i = aL mc (sd_ad G 0) 0) (hz : im G n ρ K (sd_ad G 0) (aR 0 f0)) (hw : ∃ fs d, sd_look G (nh n ρ c K) w = some (.inr (d, fs)) ∧ sd_may 4 d = true ∧ w ≠ a ∧ w < n) (h1 : 1 ≤ b.1) (h2 : 10 ≤ b.2) (kk : Q 1 (nh (n + 1) (nmd ρ n j) (updE (updE c i (aL (mc + 1) n 1)) j (aR 10 (va_up (fun _ => none) 0 (some w)))) K) (b.1 - 1, b.2 - 10)) : wp (fJ2_add G a w) (nh n ρ c K) b Q := by
  have l1 : sd_look G (nh n ρ c K) a = some (aL mc (sd_ad G 0) 0) := (nh_look ha).trans (congrArg some ci)
  unfold fJ2_add fJ2_add_2 fJ2_add_2_b11 fJ2_grow fJ2_grow_2 fJ4_max
  simp only [wp_bnd, wp_ret, wp_ite, al_rd l1]
  rw [nh_put ha hai ci (Nat.le_of_ble_eq_true rfl) rfl rfl]
  have l3 : sd_look G (nh n ρ (updE c i (.inr (41, [Value.int mc, .ref (sd_ad G 0), .int (n3 0)].set 0 (.int (mc + 1))))) K) a = some (aL (mc + 1) (sd_ad G 0) 0) := (nh_look ha).trans (congrArg some (updE_same _ _ _))
  have l4 : sd_look G (nh n ρ (updE c i (.inr (41, [Value.int mc, .ref (sd_ad G 0), .int (n3 0)].set 0 (.int (mc + 1))))) K) (sd_ad G 0) = some (aR 0 f0) := im_look hz
  simp only [wp_bnd, wp_ret, wp_ite, al_rd l3, wp_alen l4, ↓reduceIte, show ((0 : Int32) < n3 0) = False from by decide, show ((10 : Int32) < n3 0 + 1) = False from by decide]
  rw [show (10 : Int32) = n3 10 from rfl]
  refine wp_newQ (by omega) h1 h2 ?_
  rw [show (nh n ρ (updE c i (.inr (41, [Value.int mc, .ref (sd_ad G 0), .int (n3 0)].set 0 (.int (mc + 1))))) K).1 = n from rfl]
  rw [nh_name (j := j) hn hj]
  have han : a ≠ n := by
    intro e
    have := hn a i ha
    omega
  have ha' : nmd ρ n j a = some i := (if_neg han).trans ha
  have hai' : ∀ q, nmd ρ n j q = some i → q = a := by
    intro q hq
    unfold nmd at hq
    split at hq
    · cases hq
      exact absurd rfl hij
    · exact hai q hq
  have hn' : nmd ρ n j n = some j := if_pos rfl
  have hnj' : ∀ q, nmd ρ n j q = some j → q = n := by
    intro q hq
    unfold nmd at hq
    split at hq
    · next e => exact e
    · exact absurd hq (hj q)
  try simp only [wp_bnd, wp_ret]
  rw [nh_put (c := updE (updE c i (.inr (41, [Value.int mc, .ref (sd_ad G 0), .int (n3 0)].set 0 (.int (mc + 1))))) j (aR 10 (fun _ => none))) (fs := [Value.int (mc + 1), .ref (sd_ad G 0), .int (n3 0)]) ha' hai' ((updE_ne (fun e => hij e.symm)).trans (updE_same _ _ _)) (Nat.le_of_ble_eq_true rfl) rfl rfl]
  have e : ∀ (e1 e2 e3 : sd_E), updE (updE (updE c i e1) j e2) i e3 = updE (updE c i e3) j e2 := by
    intro e1 e2 e3
    funext z
    unfold updE
    by_cases hz : z = i
    · subst hz
      rw [if_pos rfl, if_neg (fun e => hij e.symm), if_pos rfl]
    · rw [if_neg hz, if_neg hz, if_neg hz]
  rw [e]
  try simp only [wp_bnd, wp_ret]
  obtain ⟨fs, d, w1, w2, w3, w4⟩ := hw
  have wok : sd_okQ G (nh (n + 1) (nmd ρ n j) (updE (updE c i (.inr (41, [Value.int (mc + 1), .ref (sd_ad G 0), .int (n3 0)].set 1 (.ref n)))) j (aR 10 (fun _ => none))) K) 4 (some w) = true := by
    have : sd_look G (nh (n + 1) (nmd ρ n j) (updE (updE c i (.inr (41, [Value.int (mc + 1), .ref (sd_ad G 0), .int (n3 0)].set 1 (.ref n)))) j (aR 10 (fun _ => none))) K) w = some (.inr (d, fs)) := by
      cases hq : ρ w with
      | none =>
        unfold sd_look at w1 ⊢
        rw [nh_out hq] at w1
        rw [nh_out (show nmd ρ n j w = none from (if_neg (by omega)).trans hq)]
        exact w1
      | some l =>
        rw [nh_look hq] at w1
        rw [nh_look (show nmd ρ n j w = some l from (if_neg (by omega)).trans hq), updE_ne (by intro e; subst e; exact hj w hq), updE_ne (by intro e; subst e; exact w3 (hai w hq))]
        exact w1
    unfold sd_okQ
    simp only [this]
    exact w2
  rw [wp_astQ (t := 4) (n := 10) (f := fun _ => none) ((nh_at hn').trans (congrArg some (updE_same _ _ _))) (n3_ix (by omega) (by omega)) wok, n3_nn (by omega), nh_up hn' hnj', updE_up]
  rw [nh_put (c := updE (updE c i (.inr (41, [Value.int (mc + 1), .ref (sd_ad G 0), .int (n3 0)].set 1 (.ref n)))) j (aR 10 (va_up (fun _ => none) 0 (some w)))) (fs := [Value.int (mc + 1), .ref n, .int (n3 0)]) ha' hai' ((updE_ne (fun e => hij e.symm)).trans (updE_same _ _ _)) (Nat.le_of_ble_eq_true rfl) rfl rfl, e]
  rw [show n3 0 + 1 = n3 1 from rfl]
  exact kk
end NE
def cE (em : Nat → Bool) : Nat → Nat
  | 0 => 0
  | k + 1 => cE em k + (if em k = true then 1 else 0)
theorem cE_off {em : Nat → Bool} {s : Nat} : ∀ k, s < k → em s = true → cE (fun i => if i = s then false else em i) k + 1 = cE em k := by
  intro k
  induction k with
  | zero => intro h; omega
  | succ k ih =>
    intro h he
    simp only [cE]
    by_cases e : s = k
    · subst e
      have : ∀ m, m ≤ s → cE (fun i => if i = s then false else em i) m = cE em m := by
        intro m
        induction m with
        | zero => intro _; rfl
        | succ m im =>
          intro hm
          simp only [cE]
          rw [im (by omega)]
          simp only [if_neg (show ¬ m = s by omega)]
      rw [this s (Nat.le_refl s)]
      simp [he]
    · have := ih (by omega) he
      simp only [if_neg (show ¬ k = s from fun h => e h.symm)]
      omega
theorem cE_le {em : Nat → Bool} : ∀ k, cE em k ≤ k := by
  intro k
  induction k with
  | zero => exact Nat.le_refl 0
  | succ k ih =>
    simp only [cE]
    split <;> omega
/-- what may have become of the names -/
def xt (n : Nat) (ρ : Nat → Option Nat) (ad : Nat → Nat) (em : Nat → Bool) (n' : Nat) (ρ' : Nat → Option Nat) (ad' : Nat → Nat) (em' : Nat → Bool) : Prop := n ≤ n' ∧ (∀ a, a < n → ρ' a = ρ a) ∧ (∀ i, ad' i ≠ ad i → 20 ≤ i ∧ i < 28 ∧ em (i - 20) = true) ∧ ∀ i, em' i = true → em i = true
theorem xt.refl {n : Nat} {ρ : Nat → Option Nat} {ad : Nat → Nat} {em : Nat → Bool} : xt n ρ ad em n ρ ad em := ⟨Nat.le_refl _, fun _ _ => rfl, fun _ h => absurd rfl h, fun _ h => h⟩
theorem xt.trans {n n' n'' : Nat} {ρ ρ' ρ'' : Nat → Option Nat} {ad ad' ad'' : Nat → Nat} {em em' em'' : Nat → Bool} (h : xt n ρ ad em n' ρ' ad' em') (h' : xt n' ρ' ad' em' n'' ρ'' ad'' em'') : xt n ρ ad em n'' ρ'' ad'' em'' := by
  refine ⟨Nat.le_trans h.1 h'.1, fun a ha => (h'.2.1 a (Nat.lt_of_lt_of_le ha h.1)).trans (h.2.1 a ha), fun i hi => ?_, fun i hi => h.2.2.2 i (h'.2.2.2 i hi)⟩
  by_cases e : ad'' i = ad' i
  · exact h.2.2.1 i (fun e2 => hi (e.trans e2))
  · obtain ⟨h1, h2, h3⟩ := h'.2.2.1 i e
    exact ⟨h1, h2, h.2.2.2 _ h3⟩
theorem xt.ad {n n' : Nat} {ρ ρ' : Nat → Option Nat} {ad ad' : Nat → Nat} {em em' : Nat → Bool} (h : xt n ρ ad em n' ρ' ad' em') {i : Nat} (hi : i < 20 ∨ 28 ≤ i) : ad' i = ad i := Classical.byContradiction fun e => by
  have := h.2.2.1 i e
  omega
def bd (ns : Nat) (b : Nat × Nat) (em : Nat → Bool) (b' : Nat × Nat) (em' : Nat → Bool) : Prop := b.1 + cE em' ns ≤ b'.1 + cE em ns ∧ b.2 + 10 * cE em' ns ≤ b'.2 + 10 * cE em ns
def rq (ns : Nat) (b : Nat × Nat) (em : Nat → Bool) : Prop := cE em ns ≤ b.1 ∧ 10 * cE em ns ≤ b.2
theorem bd_rq {ns : Nat} {b b' : Nat × Nat} {em em' : Nat → Bool} (h : bd ns b em b' em') (r : rq ns b em) : rq ns b' em' := by
  unfold bd at h
  unfold rq at *
  omega
theorem bd.trans {ns : Nat} {b b' b'' : Nat × Nat} {em em' em'' : Nat → Bool} (h : bd ns b em b' em') (h' : bd ns b' em' b'' em'') : bd ns b em b'' em'' := by
  unfold bd at *
  omega
theorem bd.refl {ns : Nat} {b : Nat × Nat} {em : Nat → Bool} : bd ns b em b em := by
  unfold bd
  omega
theorem im_mono {G : sd_G} {n n' : Nat} {ρ ρ' : Nat → Option Nat} {K : Nat → Option sd_E} {a : Nat} {e : sd_E} (h : im G n ρ K a e) (h1 : n ≤ n') (h2 : ∀ a, a < n → ρ' a = ρ a) : im G n' ρ' K a e := ⟨(h2 a h.2.1).trans h.1, Nat.lt_of_lt_of_le h.2.1 h1, h.2.2⟩
theorem sF_mono {G : sd_G} {n n' : Nat} {ρ ρ' : Nat → Option Nat} {K : Nat → Option sd_E} {ad ad' F : Nat → Nat} {q : Nat → Nat} {x : Nat → Nat → Int32} {em em' : Nat → Bool} (h : sF G n ρ K ad F q x) (hx : xt n ρ ad em n' ρ' ad' em') (h8 : q 20 ≤ 8) : sF G n' ρ' K ad' F q x := by
  obtain ⟨⟨m1, r1, c1, f1, a1, a2, a3, a4, a5⟩, ⟨m2, r2, c2, f2, b1, b2, b3, b4, b5⟩, ⟨m3, r3, c3, f3, d1, d2, d3, d4, d5⟩, f, e1⟩ := h
  have mo : ∀ {a : Nat} {e : sd_E}, im G n ρ K a e → im G n' ρ' K a e := fun h => im_mono h hx.1 hx.2.1
  refine ⟨⟨m1, r1, c1, f1, mo a1, mo a2, a3, a4, fun i hi => ?_⟩, ⟨m2, r2, c2, f2, mo b1, mo b2, b3, b4, fun i hi => ?_⟩, ⟨m3, r3, c3, f3, mo d1, mo d2, d3, d4, fun i hi => ?_⟩, f, mo e1⟩
  · rw [hx.ad (by omega)]
    exact a5 i hi
  · obtain ⟨a, z1, z2⟩ := b5 i hi
    exact ⟨a, z1, mo z2⟩
  · obtain ⟨a, z1, z2⟩ := d5 i hi
    exact ⟨a, z1, mo z2⟩
section SS
variable {G : sd_G} {n : Nat} {ρ : Nat → Option Nat} {K : Nat → Option sd_E} {ad F : Nat → Nat} {q : Nat → Nat} {x : Nat → Nat → Int32} {mc : Nat → Int32} {em cs : Nat → Bool} {t : TT} {b : Nat × Nat}
theorem okT_put {ns nf s c : Nat} (ok : okT ns nf t) (hs : s < ns) (ht : t.2.1 s < 10) (hc : c < 80) : okT ns nf (putT t s c) := by
  obtain ⟨q1, q2, q3, q4, q5⟩ := ok
  refine ⟨q1, q2, fun r hr => ?_, fun r k hr hk => ?_, q5⟩
  · show updN t.2.1 s (t.2.1 s + 1) r ≤ 10
    unfold updN
    split
    · omega
    · exact q3 r hr
  · have hk : k < updN t.2.1 s (t.2.1 s + 1) r := hk
    show updN t.2.2.1 (10 * s + t.2.1 s) c (10 * r + k) < 80
    unfold updN at hk ⊢
    split
    · exact hc
    · refine q4 r k hr ?_
      split at hk
      · next e => subst e; omega
      · exact hk
/-- the cells when a cushion comes onto s -/
theorem putT_cells {s c : Nat} {i : Nat} {ad' : Nat → Nat} {em' : Nat → Bool} (q8 : q 20 ≤ 8) (ok : okT (q 20) (q 26) t) (hs : s < q 20) (ht : t.2.1 s < 10) (h1 : ∀ i, ad' i ≠ ad i → i = 20 + s) (h2 : ∀ i, i ≠ s → em' i = em i) (h3 : em' s = false) (hi : sV (q 20) em' cs i) : updE (updE (cS ad F q x (sd_ad G 0) mc em t) (10 + s) (aL (mc s + 1) (ad' (20 + s)) (t.2.1 s + 1))) (20 + s) (aR 10 (va_up (fun k => if k < t.2.1 s then some (ad (100 + t.2.2.1 (10 * s + k))) else none) (t.2.1 s) (some (ad (100 + c))))) i = cS ad' F q x (sd_ad G 0) (upd mc s (mc s + 1)) em' (putT t s c) i := by
  have hno : ∀ i, i ≠ 20 + s → ad' i = ad i := fun i hi => Classical.byContradiction fun e => hi (h1 i e)
  have q3 := ok.2.2.1
  refine sV_ind (P := fun i => updE (updE (cS ad F q x (sd_ad G 0) mc em t) (10 + s) (aL (mc s + 1) (ad' (20 + s)) (t.2.1 s + 1))) (20 + s) (aR 10 (va_up (fun k => if k < t.2.1 s then some (ad (100 + t.2.2.1 (10 * s + k))) else none) (t.2.1 s) (some (ad (100 + c))))) i = cS ad' F q x (sd_ad G 0) (upd mc s (mc s + 1)) em' (putT t s c) i) ?_ ?_ ?_ ?_ ?_ i hi
  · rw [updE_ne (by omega), updE_ne (by omega)]
    unfold cS
    rw [if_pos rfl, if_pos rfl, hno 3 (by omega)]
    rfl
  · rw [updE_ne (by omega), updE_ne (by omega)]
    rfl
  · intro r hr
    rw [updE_ne (by omega), cS_10 (by omega)]
    by_cases e : r = s
    · subst e
      rw [updE_same, h3]
      show _ = aL (upd mc r (mc r + 1) r) (ad' (20 + r)) (updN t.2.1 r (t.2.1 r + 1) r)
      rw [upd_same, updN_same]
    · rw [updE_ne (by omega), cS_10 (by omega), h2 r e, hno (20 + r) (by omega)]
      show _ = aL (upd mc s (mc s + 1) r) _ (updN t.2.1 s (t.2.1 s + 1) r)
      rw [upd_ne e, updN_ne e]
  · intro r hr her
    have hr10 := q3 r hr
    rw [cS_20 (by omega)]
    by_cases e : r = s
    · subst e
      rw [updE_same]
      show aR 10 (fun j => if j = t.2.1 r then some (ad (100 + c)) else if j < t.2.1 r then some (ad (100 + t.2.2.1 (10 * r + j))) else none) = aR 10 (fun j => if j < updN t.2.1 r (t.2.1 r + 1) r then some (ad' (100 + updN t.2.2.1 (10 * r + t.2.1 r) c (10 * r + j))) else none)
      congr 2
      congr 4
      funext j
      rw [updN_same]
      by_cases hj : j = t.2.1 r
      · rw [if_pos hj, if_pos (by omega), hj, updN_same, hno _ (by omega)]
      · rw [if_neg hj]
        by_cases hj2 : j < t.2.1 r
        · rw [if_pos hj2, if_pos (by omega), updN_ne (by omega), hno _ (by omega)]
        · rw [if_neg hj2, if_neg (by omega)]
    · rw [updE_ne (by omega), updE_ne (by omega), cS_20 (by omega)]
      show aR 10 (fun j => if j < t.2.1 r then some (ad (100 + t.2.2.1 (10 * r + j))) else none) = aR 10 (fun j => if j < updN t.2.1 s (t.2.1 s + 1) r then some (ad' (100 + updN t.2.2.1 (10 * s + t.2.1 s) c (10 * r + j))) else none)
      congr 2
      congr 4
      funext j
      rw [updN_ne e]
      by_cases hj2 : j < t.2.1 r
      · rw [if_pos hj2, if_pos hj2, updN_ne (by omega), hno _ (by omega)]
      · rw [if_neg hj2, if_neg hj2]
  · intro d hd hds
    rw [updE_ne (by omega), updE_ne (by omega), cS_100, cS_100]
    rfl
theorem s_add {s c : Nat} {Q : Int32 → sd_H → Nat × Nat → Prop} (A : sA G n ρ K ad F q x em cs t) (hs : s < q 20) (ht : t.2.1 s < 10) (hc : c < 80) (hcs : cs c = true) (hb : rq (q 20) b em) (kk : ∀ n' ρ' ad' mc' em' b', xt n ρ ad em n' ρ' ad' em' → bd (q 20) b em b' em' → sA G n' ρ' K ad' F q x em' cs (putT t s c) → Q 1 (hSo G n' ρ' K ad' F q x mc' em' (putT t s c)) b') : wp (fJ2_add G (ad (10 + s)) (ad (100 + c))) (hSo G n ρ K ad F q x mc em t) b Q := by
  obtain ⟨A1, A2, A3, A4, A5⟩ := A
  have q8 := A4.1.2
  have okp := okT_put A5 hs ht hc
  cases he : em s with
  | false =>
    have hw : sd_okQ G (nh n ρ (updE (cS ad F q x (sd_ad G 0) mc em t) (10 + s) (aL (mc s + 1) (ad (20 + s)) (t.2.1 s))) K) 4 (some (ad (100 + c))) = true := by
      unfold sd_okQ
      simp only [nh_look (A1.1 _ (sV100 hc hcs)), updE_ne (show 100 + c ≠ 10 + s by omega), cS_100]
      decide
    unfold hSo
    rw [nh_add (i := 10 + s) (j := 20 + s) (r := ad (20 + s)) (cap := 10) (sz := t.2.1 s) (mc := mc s) (f := fun k => if k < t.2.1 s then some (ad (100 + t.2.2.1 (10 * s + k))) else none) (A1.1 _ (sV10 hs)) A1.one (A1.1 _ (sV20 hs he)) A1.one (by omega) (by rw [cS_10 (by omega), he]; rfl) (cS_20 (by omega)) ht (by omega) hw]
    rw [nh_congr (c' := cS ad F q x (sd_ad G 0) (upd mc s (mc s + 1)) em (putT t s c)) (fun a i hi => putT_cells q8 A5 hs ht (fun i hi => absurd rfl hi) (fun _ _ => rfl) he (A1.2.1 a i hi).2)]
    refine kk n ρ ad (upd mc s (mc s + 1)) em b xt.refl bd.refl ⟨A1, ⟨fun r k hr hk => ?_, fun r hr her => ?_⟩, A3, A4, okp⟩
    · have hk : k < updN t.2.1 s (t.2.1 s + 1) r := hk
      show cs (updN t.2.2.1 (10 * s + t.2.1 s) c (10 * r + k)) = true
      unfold updN at hk ⊢
      split
      · exact hcs
      · refine A2.1 r k hr ?_
        split at hk
        · next e => subst e; omega
        · exact hk
    · show updN t.2.1 s (t.2.1 s + 1) r = 0
      rw [updN_ne (by intro e; subst e; rw [he] at her; cases her)]
      exact A2.2 r hr her
  | true =>
    have h0 := A2.2 s hs he
    have hcE := cE_off (q 20) hs he
    obtain ⟨f0, hz⟩ := A3.2.2.2
    have hnj : ∀ a, ρ a ≠ some (20 + s) := by
      intro a ha
      have := (A1.2.1 a _ ha).2
      rcases this with e | e | ⟨e1, e2⟩ | ⟨e1, e2, e3⟩ | ⟨e1, e2, e3⟩
      · omega
      · omega
      · omega
      · rw [show 20 + s - 20 = s by omega, he] at e3
        cases e3
      · omega
    have hb2 : 1 ≤ b.1 ∧ 10 ≤ b.2 := by
      unfold rq at hb
      omega
    unfold hSo
    refine nh_addE (i := 10 + s) (j := 20 + s) (mc := mc s) (A1.1 _ (sV10 hs)) A1.one A1.2.2 hnj (by omega) (by rw [cS_10 (by omega), he, h0]; rfl) hz ⟨_, 3, (nh_look (A1.1 _ (sV100 hc hcs))).trans (congrArg some cS_100), by decide, ?_, A1.2.2 _ _ (A1.1 _ (sV100 hc hcs))⟩ hb2.1 hb2.2 ?_
    · intro e
      have e1 := A1.1 _ (sV100 (ns := q 20) (em := em) hc hcs)
      rw [e, A1.1 _ (sV10 hs)] at e1
      have := Option.some.inj e1
      omega
    · have had : ∀ i, updN ad (20 + s) n i ≠ ad i → i = 20 + s := fun i hi => Classical.byContradiction fun e => hi (updN_ne e)
      have hxt : xt n ρ ad em (n + 1) (nmd ρ n (20 + s)) (updN ad (20 + s) n) (fun i => if i = s then false else em i) := by
        refine ⟨Nat.le_succ n, fun a ha => if_neg (by omega), fun i hi => ?_, fun i hi => ?_⟩
        · have := had i hi
          subst this
          exact ⟨by omega, by omega, by rw [show 20 + s - 20 = s by omega]; exact he⟩
        · simp only at hi
          split at hi
          · cases hi
          · exact hi
      have A1' : sOk (n + 1) (nmd ρ n (20 + s)) (updN ad (20 + s) n) (q 20) (fun i => if i = s then false else em i) cs := by
        refine ⟨sV_ind ?_ ?_ ?_ ?_ ?_, fun a i ha => ?_, fun a i ha => ?_⟩
        · rw [updN_ne (by omega)]
          exact (if_neg (by have := A1.2.2 _ _ (A1.1 0 (Or.inl rfl)); omega)).trans (A1.1 0 (Or.inl rfl))
        · rw [updN_ne (by omega)]
          exact (if_neg (by have := A1.2.2 _ _ (A1.1 3 (Or.inr (Or.inl rfl))); omega)).trans (A1.1 3 (Or.inr (Or.inl rfl)))
        · intro r hr
          rw [updN_ne (by omega)]
          exact (if_neg (by have := A1.2.2 _ _ (A1.1 _ (sV10 hr)); omega)).trans (A1.1 _ (sV10 hr))
        · intro r hr her
          by_cases e : r = s
          · subst e
            rw [updN_same]
            exact if_pos rfl
          · rw [updN_ne (by omega)]
            simp only [if_neg e] at her
            exact (if_neg (by have := A1.2.2 _ _ (A1.1 _ (sV20 hr her)); omega)).trans (A1.1 _ (sV20 hr her))
        · intro d hd hds
          rw [updN_ne (by omega)]
          exact (if_neg (by have := A1.2.2 _ _ (A1.1 _ (sV100 hd hds)); omega)).trans (A1.1 _ (sV100 hd hds))
        · unfold nmd at ha
          split at ha
          · next e =>
            cases ha
            subst e
            exact ⟨(updN_same _ _ _).symm, sV20 hs (if_pos rfl)⟩
          · obtain ⟨z1, z2⟩ := A1.2.1 a i ha
            have hne : i ≠ 20 + s := by
              intro e
              subst e
              exact hnj a ha
            refine ⟨by rw [updN_ne hne]; exact z1, ?_⟩
            rcases z2 with e | e | e | ⟨e1, e2, e3⟩ | e
            · exact Or.inl e
            · exact Or.inr (Or.inl e)
            · exact Or.inr (Or.inr (Or.inl e))
            · refine Or.inr (Or.inr (Or.inr (Or.inl ⟨e1, e2, ?_⟩)))
              show (if i - 20 = s then false else em (i - 20)) = false
              rw [if_neg (by omega)]
              exact e3
            · exact Or.inr (Or.inr (Or.inr (Or.inr e)))
        · unfold nmd at ha
          split at ha
          · omega
          · have := A1.2.2 a i ha
            omega
      have hcell : nh (n + 1) (nmd ρ n (20 + s)) (updE (updE (cS ad F q x (sd_ad G 0) mc em t) (10 + s) (aL (mc s + 1) n 1)) (20 + s) (aR 10 (va_up (fun _ => none) 0 (some (ad (100 + c)))))) K = hSo G (n + 1) (nmd ρ n (20 + s)) K (updN ad (20 + s) n) F q x (upd mc s (mc s + 1)) (fun i => if i = s then false else em i) (putT t s c) := by
        unfold hSo
        refine nh_congr (fun a i hi => ?_)
        have := putT_cells (G := G) (F := F) (x := x) (mc := mc) (em := em) (c := c) (ad := ad) q8 A5 hs ht had (fun i hi => if_neg hi) (if_pos rfl) (A1'.2.1 a i hi).2
        rw [updN_same, h0] at this
        rw [← this]
        congr 3
      rw [hcell]
      refine kk _ _ _ _ _ _ hxt ?_ ⟨A1', ⟨fun r k hr hk => ?_, fun r hr her => ?_⟩, sF_mono A3 hxt q8, A4, okp⟩
      · unfold bd
        simp only
        omega
      · have hk : k < updN t.2.1 s (t.2.1 s + 1) r := hk
        show cs (updN t.2.2.1 (10 * s + t.2.1 s) c (10 * r + k)) = true
        unfold updN at hk ⊢
        split
        · exact hcs
        · refine A2.1 r k hr ?_
          split at hk
          · next e => subst e; omega
          · exact hk
      · simp only at her
        split at her
        · cases her
        · next e =>
          show updN t.2.1 s (t.2.1 s + 1) r = 0
          rw [updN_ne e]
          exact A2.2 r hr her
end SS
