/-! THE PLAIN LAW, base: small ints, named heaps, loops -/
def n3 (n : Nat) : Int32 := Int32.ofNat n
theorem n3_toInt {a : Nat} (h : a < 2147483648) : (n3 a).toInt = (a : Int) := Int32.toInt_ofNat_of_lt (by omega)
theorem n3_nn {a : Nat} (h : a < 2147483648) : (n3 a).toNatClampNeg = a := Int32.toNatClampNeg_ofNat_of_lt (by omega)
theorem n3_add (a b : Nat) : n3 a + n3 b = n3 (a + b) := (Int32.ofNat_add a b).symm
theorem n3_mul (a b : Nat) : n3 a * n3 b = n3 (a * b) := (Int32.ofNat_mul a b).symm
theorem n3_sub {a b : Nat} (h : b ≤ a) : n3 a - n3 b = n3 (a - b) := (Int32.ofNat_sub a b h).symm
theorem n3_div {a b : Nat} (ha : a < 2147483648) (hb : b < 2147483648) : n3 a / n3 b = n3 (a / b) := (Int32.ofNat_div (by omega) (by omega)).symm
theorem n3_le {a b : Nat} (ha : a < 2147483648) (hb : b < 2147483648) : (n3 a ≤ n3 b) = (a ≤ b) := by
  rw [Int32.le_iff_toInt_le, n3_toInt ha, n3_toInt hb]
  exact propext Int.ofNat_le
theorem n3_lt {a b : Nat} (ha : a < 2147483648) (hb : b < 2147483648) : (n3 a < n3 b) = (a < b) := by
  rw [Int32.lt_iff_toInt_lt, n3_toInt ha, n3_toInt hb]
  exact propext Int.ofNat_lt
theorem n3_eq {a b : Nat} (ha : a < 2147483648) (hb : b < 2147483648) : (n3 a = n3 b) = (a = b) := by
  apply propext
  constructor
  · intro h
    have h1 := congrArg Int32.toInt h
    rw [n3_toInt ha, n3_toInt hb] at h1
    omega
  · intro h
    rw [h]
theorem n3_lit (k : Nat) : (OfNat.ofNat k : Int32) = n3 (OfNat.ofNat k) := rfl
theorem n3_ladd (k a : Nat) : (no_index (OfNat.ofNat k) : Int32) + n3 a = n3 (OfNat.ofNat k + a) := n3_add k a
theorem n3_addl (k a : Nat) : n3 a + (no_index (OfNat.ofNat k) : Int32) = n3 (a + OfNat.ofNat k) := n3_add a k
theorem n3_lmul (k a : Nat) : (no_index (OfNat.ofNat k) : Int32) * n3 a = n3 (OfNat.ofNat k * a) := n3_mul k a
theorem n3_mull (k a : Nat) : n3 a * (no_index (OfNat.ofNat k) : Int32) = n3 (a * OfNat.ofNat k) := n3_mul a k
theorem n3_subl {k a : Nat} (h : OfNat.ofNat k ≤ a) : n3 a - (no_index (OfNat.ofNat k) : Int32) = n3 (a - OfNat.ofNat k) := n3_sub h
theorem n3_lsub {k a : Nat} (h : a ≤ OfNat.ofNat k) : (no_index (OfNat.ofNat k) : Int32) - n3 a = n3 (OfNat.ofNat k - a) := n3_sub h
theorem n3_divl {k a : Nat} (ha : a < 2147483648) (hk : OfNat.ofNat k < 2147483648) : n3 a / (no_index (OfNat.ofNat k) : Int32) = n3 (a / OfNat.ofNat k) := n3_div ha hk
theorem n3_lle {k a : Nat} (hk : OfNat.ofNat k < 2147483648) (ha : a < 2147483648) : ((no_index (OfNat.ofNat k) : Int32) ≤ n3 a) = (OfNat.ofNat k ≤ a) := n3_le hk ha
theorem n3_lel {k a : Nat} (hk : OfNat.ofNat k < 2147483648) (ha : a < 2147483648) : (n3 a ≤ (no_index (OfNat.ofNat k) : Int32)) = (a ≤ OfNat.ofNat k) := n3_le ha hk
theorem n3_llt {k a : Nat} (hk : OfNat.ofNat k < 2147483648) (ha : a < 2147483648) : ((no_index (OfNat.ofNat k) : Int32) < n3 a) = (OfNat.ofNat k < a) := n3_lt hk ha
theorem n3_ltl {k a : Nat} (hk : OfNat.ofNat k < 2147483648) (ha : a < 2147483648) : (n3 a < (no_index (OfNat.ofNat k) : Int32)) = (a < OfNat.ofNat k) := n3_lt ha hk
theorem n3_leq {k a : Nat} (hk : OfNat.ofNat k < 2147483648) (ha : a < 2147483648) : ((no_index (OfNat.ofNat k) : Int32) = n3 a) = (OfNat.ofNat k = a) := n3_eq hk ha
theorem n3_eql {k a : Nat} (hk : OfNat.ofNat k < 2147483648) (ha : a < 2147483648) : (n3 a = (no_index (OfNat.ofNat k) : Int32)) = (a = OfNat.ofNat k) := n3_eq ha hk
theorem n3_neg1 {a : Nat} (ha : a < 2147483648) : (n3 a = -1) = False := by
  apply propext
  constructor
  · intro h
    have h1 := congrArg Int32.toInt h
    rw [n3_toInt ha] at h1
    have h2 : (-1 : Int32).toInt = -1 := by decide
    omega
  · exact fun h => h.elim
theorem n3_sub1 (x : Int32) (n : Nat) (hn : n < 2147483648) : (n3 n - 1 < x) = (n3 n ≤ x) := by
  apply propext
  rw [Int32.lt_iff_toInt_lt, Int32.le_iff_toInt_le]
  have h1 : (n3 n - 1).toInt = (n : Int) - 1 := by
    cases n with
    | zero => decide
    | succ k =>
      rw [show n3 (k + 1) - 1 = n3 k from n3_sub (show 1 ≤ k + 1 by omega)]
      rw [n3_toInt (by omega)]
      omega
  rw [h1, n3_toInt hn]
  omega
theorem n3_ix {a n : Nat} (h : a < n) (hn : n ≤ 2147483648) : sd_ix (n3 a) n = true := by
  unfold sd_ix
  have h1 : ¬ (n3 a < 0) := by
    rw [show (0 : Int32) = n3 0 from rfl, n3_lt (by omega) (by omega)]
    omega
  have h2 : ¬ (n ≤ (n3 a).toNatClampNeg) := by
    rw [n3_nn (by omega)]
    omega
  simp [h1, h2]
/-- any int: below zero, or a small natural number -/
theorem n3_cases (x : Int32) : x < 0 ∨ ∃ n, n < 2147483648 ∧ x = n3 n := by
  by_cases h : x < 0
  · exact Or.inl h
  · refine Or.inr ⟨x.toNatClampNeg, ?_, ?_⟩
    · have := Int32.toNatClampNeg_lt x
      omega
    · refine (Int32.ofNat_toNatClampNeg x ?_).symm
      rw [Int32.le_iff_toInt_le]
      rw [Int32.lt_iff_toInt_lt] at h
      omega
/-! rules -/
section PB
variable {α β : Type} {G : sd_G} {h : sd_H} {b : Nat × Nat}
theorem wp_ite {c : Prop} {d : Decidable c} {f g : sd_M α} {Q : α → sd_H → Nat × Nat → Prop} : wp (@ite _ c d f g) h b Q = @ite _ c d (wp f h b Q) (wp g h b Q) := by
  by_cases hc : c
  · rw [if_pos hc, if_pos hc]
  · rw [if_neg hc, if_neg hc]
theorem wp_bx {f : sd_M (α ⊕ Nat)} {KX : Nat → sd_M β} {K : α → sd_M β} {Q : β → sd_H → Nat × Nat → Prop} : wp (sd_bx f KX K) h b Q = wp f h b (fun x h1 b1 => match x with
    | .inl a => wp (K a) h1 b1 Q
    | .inr q => wp (KX q) h1 b1 Q) := by
  unfold sd_bx
  rw [wp_bnd]
  congr 1
  funext x h1 b1
  cases x <;> rfl
theorem wp_nz {y : Int32} {Q : Unit → sd_H → Nat × Nat → Prop} (hy : y ≠ 0) : wp (sd_nz y) h b Q = Q () h b := wp_eq (by simp [sd_nz, hy])
theorem wp_retN {ty : FieldType} {x : Int32} {Q : Int32 → sd_H → Nat × Nat → Prop} (e : narrow ty (.int x) = .int x) : wp (sd_retN ty x) h b Q = Q x h b := wp_eq (by simp [sd_retN, e])
theorem wp_retNX {ty : FieldType} {x : Int32} {Q : Int32 ⊕ Nat → sd_H → Nat × Nat → Prop} (e : narrow ty (.int x) = .int x) : wp (sd_retNX ty x) h b Q = Q (.inl x) h b := wp_eq (by simp [sd_retNX, e])
theorem wp_getQ {ci k a : Nat} {fs : List Value} {v : Option Nat} {Q : Option Nat → sd_H → Nat × Nat → Prop} (e : sd_look G h a = some (.inr (ci, fs))) (e2 : fs[k]? = some (va_rf v)) : wp (sd_getQ G ci k a) h b Q = Q v h b := wp_eq (by cases v <;> simp [sd_getQ, sd_fv, e, e2, va_rf])
theorem wp_aldL {a n : Nat} {f : Nat → Int64} {i : Int32} {Q : Int64 → sd_H → Nat × Nat → Prop} (e : sd_look G h a = some (.inl (1, n, .inr (.inl f)))) (e1 : sd_ix i n = true) : wp (sd_aldL G a i) h b Q = Q (f i.toNatClampNeg) h b := wp_eq (by simp [sd_aldL, e, e1])
theorem wp_astL {a n : Nat} {f : Nat → Int64} {i : Int32} {x : Int64} {Q : Unit → sd_H → Nat × Nat → Prop} (e : h.2 a = some (.inl (1, n, .inr (.inl f)))) (e1 : sd_ix i n = true) : wp (sd_astL a i x) h b Q = Q () (sd_up h a (.inl (1, n, .inr (.inl (vp_updL f i.toNatClampNeg x))))) b := wp_eq (by simp [sd_astL, e, e1])
theorem wp_aldQ {t a n : Nat} {f : Nat → Option Nat} {i : Int32} {Q : Option Nat → sd_H → Nat × Nat → Prop} (e : sd_look G h a = some (.inl (t, n, .inr (.inr (.inr (.inr f)))))) (e1 : sd_ix i n = true) : wp (sd_aldQ G t a i) h b Q = Q (f i.toNatClampNeg) h b := wp_eq (by simp [sd_aldQ, e, e1])
theorem wp_aldR {t a n v : Nat} {f : Nat → Option Nat} {i : Int32} {Q : Nat → sd_H → Nat × Nat → Prop} (e : sd_look G h a = some (.inl (t, n, .inr (.inr (.inr (.inr f)))))) (e1 : sd_ix i n = true) (e2 : f i.toNatClampNeg = some v) : wp (sd_aldR G t a i) h b Q = Q v h b := wp_eq (by simp [sd_aldR, e, e1, e2])
theorem wp_astQ {t a n : Nat} {f : Nat → Option Nat} {i : Int32} {v : Option Nat} {Q : Unit → sd_H → Nat × Nat → Prop} (e : h.2 a = some (.inl (t, n, .inr (.inr (.inr (.inr f)))))) (e1 : sd_ix i n = true) (e2 : sd_okQ G h t v = true) : wp (sd_astQ G t a i v) h b Q = Q () (sd_up h a (.inl (t, n, .inr (.inr (.inr (.inr (va_up f i.toNatClampNeg v))))))) b := wp_eq (by simp [sd_astQ, e, e1, e2])
theorem wp_alen {a : Nat} {x : Nat × vp_A} {Q : Int32 → sd_H → Nat × Nat → Prop} (e : sd_look G h a = some (.inl x)) : wp (sd_alen G a) h b Q = Q (n3 x.2.1) h b := wp_eq (by simp [sd_alen, e, n3])
theorem wp_cls {ci a : Nat} {fs : List Value} {Q : Nat → sd_H → Nat × Nat → Prop} (e : sd_look G h a = some (.inr (ci, fs))) : wp (sd_cls G a) h b Q = Q ci h b := wp_eq (by simp [sd_cls, e])
theorem wp_cast {ci a : Nat} {cis : List Nat} {fs : List Value} {Q : Unit → sd_H → Nat × Nat → Prop} (e : sd_look G h a = some (.inr (ci, fs))) (e1 : ci ∈ cis) : wp (sd_cast G cis a) h b Q = Q () h b := wp_eq (by simp [sd_cast, e, e1])
theorem wp_isA {t a : Nat} {x : vp_A} {Q : Unit → sd_H → Nat × Nat → Prop} (e : sd_look G h a = some (.inl (t, x))) : wp (sd_isA G t a) h b Q = Q () h b := wp_eq (by simp [sd_isA, e])
theorem wp_isO {a : Nat} {x : vp_A} {Q : Unit → sd_H → Nat × Nat → Prop} (e : sd_look G h a = some (.inl (4, x))) : wp (sd_isO G a) h b Q = Q () h b := wp_eq (by simp [sd_isO, e])
theorem wp_cget {i a v : Nat} {Q : Nat → sd_H → Nat × Nat → Prop} (e : sd_cf G i a = some v) : wp (sd_cget G i a) h b Q = Q v h b := wp_eq (by simp [sd_cget, e])
theorem wp_nn {x : Option Nat} {v : Nat} {Q : Nat → sd_H → Nat × Nat → Prop} (e : x = some v) : wp (sd_nn x) h b Q = Q v h b := wp_eq (by simp [sd_nn, e])
theorem wp_own {q ci : Nat} {fs : List Value} {Q : Nat → sd_H → Nat × Nat → Prop} (e : h.2 q = some (.inr (ci, fs))) : wp (sd_own q) h b Q = Q ci h b := wp_eq (by simp [sd_own, e])
theorem wp_newI {t n : Nat} {Q : Nat → sd_H → Nat × Nat → Prop} (hn : n ≤ 1000000) (h1 : 1 ≤ b.1) (h2 : n ≤ b.2) (q : Q h.1 (sd_pu h (.inl (t, n, .inl (fun _ => 0)))) (b.1 - 1, b.2 - n)) : wp (sd_newI t (n3 n)) h b Q := by
  refine ⟨h.1, (1, n), _, ?_, h1, h2, q⟩
  unfold sd_newI
  have e1 : ¬ (n3 n < 0) := by
    rw [show (0 : Int32) = n3 0 from rfl, n3_lt (by omega) (by omega)]
    omega
  rw [n3_nn (by omega), if_pos ⟨e1, hn⟩]
theorem wp_newL {n : Nat} {Q : Nat → sd_H → Nat × Nat → Prop} (hn : n ≤ 1000000) (h1 : 1 ≤ b.1) (h2 : n ≤ b.2) (q : Q h.1 (sd_pu h (.inl (1, n, .inr (.inl (fun _ => 0))))) (b.1 - 1, b.2 - n)) : wp (sd_newL (n3 n)) h b Q := by
  refine ⟨h.1, (1, n), _, ?_, h1, h2, q⟩
  unfold sd_newL
  have e1 : ¬ (n3 n < 0) := by
    rw [show (0 : Int32) = n3 0 from rfl, n3_lt (by omega) (by omega)]
    omega
  rw [n3_nn (by omega), if_pos ⟨e1, hn⟩]
theorem wp_newQ {t n : Nat} {Q : Nat → sd_H → Nat × Nat → Prop} (hn : n ≤ 1000000) (h1 : 1 ≤ b.1) (h2 : n ≤ b.2) (q : Q h.1 (sd_pu h (.inl (t, n, .inr (.inr (.inr (.inr (fun _ => none))))))) (b.1 - 1, b.2 - n)) : wp (sd_newQ t (n3 n)) h b Q := by
  refine ⟨h.1, (1, n), _, ?_, h1, h2, q⟩
  unfold sd_newQ
  have e1 : ¬ (n3 n < 0) := by
    rw [show (0 : Int32) = n3 0 from rfl, n3_lt (by omega) (by omega)]
    omega
  rw [n3_nn (by omega), if_pos ⟨e1, hn⟩]
end PB
/-! named heaps: ρ names addresses, c holds what lies at a name, K the rest -/
def nh (n : Nat) (ρ : Nat → Option Nat) (c : Nat → sd_E) (K : Nat → Option sd_E) : sd_H := (n, fun a => match ρ a with
  | some i => some (c i)
  | none => K a)
def updE (c : Nat → sd_E) (i : Nat) (e : sd_E) : Nat → sd_E := fun j => if j = i then e else c j
def updK (K : Nat → Option sd_E) (i : Nat) (e : sd_E) : Nat → Option sd_E := fun j => if j = i then some e else K j
section NH
variable {n a i : Nat} {ρ : Nat → Option Nat} {c : Nat → sd_E} {K : Nat → Option sd_E} {e : sd_E} {G : sd_G}
theorem nh_at (hr : ρ a = some i) : (nh n ρ c K).2 a = some (c i) := by
  simp only [nh, hr]
theorem nh_out (hr : ρ a = none) : (nh n ρ c K).2 a = K a := by
  simp only [nh, hr]
theorem nh_look (hr : ρ a = some i) : sd_look G (nh n ρ c K) a = some (c i) := sd_look_new (nh_at hr)
theorem nh_lookK (hr : ρ a = none) (hk : K a = some e) : sd_look G (nh n ρ c K) a = some e := sd_look_new ((nh_out hr).trans hk)
theorem nh_up (hr : ρ a = some i) (hi : ∀ q, ρ q = some i → q = a) : sd_up (nh n ρ c K) a e = nh n ρ (updE c i e) K := by
  refine Prod.ext rfl (funext fun q => ?_)
  show (if q = a then some e else (nh n ρ c K).2 q) = (nh n ρ (updE c i e) K).2 q
  by_cases hq : q = a
  · subst hq
    rw [if_pos rfl, nh_at hr, updE, if_pos rfl]
  · rw [if_neg hq]
    cases hqr : ρ q with
    | none => rw [nh_out hqr, nh_out hqr]
    | some j =>
      rw [nh_at hqr, nh_at hqr, updE, if_neg]
      intro hj
      subst hj
      exact hq (hi q hqr)
theorem nh_upK (hr : ρ a = none) : sd_up (nh n ρ c K) a e = nh n ρ c (updK K a e) := by
  refine Prod.ext rfl (funext fun q => ?_)
  show (if q = a then some e else (nh n ρ c K).2 q) = (nh n ρ c (updK K a e)).2 q
  by_cases hq : q = a
  · subst hq
    rw [if_pos rfl, nh_out hr, updK, if_pos rfl]
  · rw [if_neg hq]
    cases hqr : ρ q with
    | none => rw [nh_out hqr, nh_out hqr, updK, if_neg hq]
    | some j => rw [nh_at hqr, nh_at hqr]
theorem nh_pu (hr : ρ n = none) : sd_pu (nh n ρ c K) e = nh (n + 1) ρ c (updK K n e) := by
  refine Prod.ext rfl (funext fun q => ?_)
  show (if q = n then some e else (nh n ρ c K).2 q) = (nh (n + 1) ρ c (updK K n e)).2 q
  by_cases hq : q = n
  · subst hq
    rw [if_pos rfl, nh_out hr, updK, if_pos rfl]
  · rw [if_neg hq]
    cases hqr : ρ q with
    | none => rw [nh_out hqr, nh_out hqr, updK, if_neg hq]
    | some j => rw [nh_at hqr, nh_at hqr]
end NH
/-! loops: a pure picture -/
def lp {β γ : Type} (f : Nat → β → β ⊕ γ) (e : β → γ) : Nat → Nat → β → γ
  | 0, _, a => e a
  | r + 1, i, a => match f i a with
    | .inl a' => lp f e r (i + 1) a'
    | .inr g => g
theorem lp_congr {β γ : Type} {f g : Nat → β → β ⊕ γ} {e : β → γ} : ∀ (r i : Nat) (a : β), (∀ j x, i ≤ j → j < i + r → f j x = g j x) → lp f e r i a = lp g e r i a := by
  intro r
  induction r with
  | zero => intro i a h; rfl
  | succ r ih =>
    intro i a h
    simp only [lp]
    rw [h i a (Nat.le_refl i) (by omega)]
    cases g i a with
    | inl a' => exact ih (i + 1) a' (fun j x h1 h2 => h j x (by omega) (by omega))
    | inr r => rfl
theorem wp_lp {α β γ σ : Type} {F : (σ → sd_M α) → σ → sd_M α} {b : Nat × Nat} {Q : α → sd_H → Nat × Nat → Prop} (n : Nat) (en : Nat → β → σ) (hh : β → sd_H) (I : Nat → β → Prop) (f : Nat → β → β ⊕ γ) (e : β → γ) (q : γ → Prop)
    (Hn : ∀ k a, I n a → wp (F k (en n a)) (hh a) b Q = q (e a))
    (Hs : ∀ k i a, i < n → I i a → (∀ a', f i a = .inl a' → I (i + 1) a') ∧ wp (F k (en i a)) (hh a) b Q = match f i a with
      | .inl a' => wp (k (en (i + 1) a')) (hh a') b Q
      | .inr g => q g) :
    ∀ fuel i a, i ≤ n → n - i < fuel → I i a → wp (sd_loop F fuel (en i a)) (hh a) b Q = q (lp f e (n - i) i a) := by
  intro fuel
  induction fuel with
  | zero => intro i a h1 h2; omega
  | succ fuel ih =>
    intro i a h1 h2 hi
    show wp (F (sd_loop F fuel) (en i a)) (hh a) b Q = _
    by_cases hin : i = n
    · subst hin
      rw [Hn _ _ hi, Nat.sub_self]
      rfl
    · have hlt : i < n := by omega
      obtain ⟨H1, H2⟩ := Hs (sd_loop F fuel) i a hlt hi
      rw [H2]
      have hs : n - i = (n - (i + 1)) + 1 := by omega
      rw [hs]
      simp only [lp]
      cases hf : f i a with
      | inl a' => exact ih (i + 1) a' (by omega) (by omega) (H1 a' hf)
      | inr g => rfl
