/-! THE PLAIN LAW: what the model answers of finds and strata; x: tables (24 begin, 25 end, 27 coin, 28 cushion, 29 what, 30 find, 31 spring), q: counts (20 seats, 21 strata, 22 empires, 26 finds, 32 orders) -/
def cnt (g : Nat → Bool) (n : Nat) : Int32 := lp (fun i a => (.inl (a + if g i then 1 else 0) : Int32 ⊕ Int32)) (fun a => a) n 0 0
def anyB (p : Nat → Bool) (n : Nat) : Bool := lp (fun i (_ : Unit) => if p i then .inr true else .inl ()) (fun _ => false) n 0 ()
def bI (c : Bool) : Int32 := if c then 1 else 0
theorem bI_t : bI true = 1 := rfl
theorem bI_f : bI false = 0 := rfl
theorem bI_0 (c : Bool) : (bI c = 0) = (c = false) := by cases c <;> simp [bI]
theorem bI_1 (c : Bool) : (bI c = 1) = (c = true) := by cases c <;> simp [bI]
theorem nar_bI (c : Bool) : narrow .boolean (.int (bI c)) = .int (bI c) := by cases c <;> rfl
/-- a plan within its bounds -/
def okP (q : Nat → Nat) (x : Nat → Nat → Int32) : Prop := (2 ≤ q 20 ∧ q 20 ≤ 8) ∧ (2 ≤ q 21 ∧ q 21 ≤ 10) ∧ q 22 ≤ 6 ∧ q 26 ≤ 24 ∧ q 32 ≤ 16 ∧
  (∀ f, f < q 26 → (x 27 f = 1 ∨ (x 27 f = 0 ∧ ∃ e, e < q 22 ∧ x 29 f = n3 e)) ∧ ∃ c, c < 80 ∧ x 28 f = n3 c ∧ x 30 c = n3 f) ∧
  (∀ c, c < 80 → (x 30 c = -1 ∨ ∃ f, f < q 26 ∧ x 30 c = n3 f ∧ x 28 f = n3 c) ∧ (x 31 c = 0 ∨ x 31 c = 1))
/-- the model's counts -/
def okV (q : Nat → Nat) (v : Nat → Int32) : Prop := v 20 = n3 (q 20) ∧ v 21 = n3 (q 21) ∧ v 22 = n3 (q 22) ∧ v 26 = n3 (q 26) ∧ v 32 = n3 (q 32)
def fndB (t : TT) (least : Int32) (f : Nat) : Bool := !decide (t.2.2.2.2 f < least)
def lftB (x : Nat → Nat → Int32) (t : TT) (s k : Nat) : Bool := !decide (x 30 (t.2.2.1 (10 * s + k)) = -1)
/-- a find's stratum -/
def strm (x : Nat → Nat → Int32) (f : Nat) : Int32 := x 28 f - x 28 f / 10 * 10
def mxI (a b : Int32) : Int32 := if a < b then b else a
def seeB (x : Nat → Nat → Int32) (t : TT) (k e : Int32) (f : Nat) : Bool := decide (t.2.2.2.2 f = 2) && decide (x 27 f = 0) && decide (x 29 f = e) && decide (strm x f = k)
def seeS (nf : Nat) (x : Nat → Nat → Int32) (t : TT) (k e : Int32) : Bool := anyB (seeB x t k e) nf
def seeN (nk nf : Nat) (x : Nat → Nat → Int32) (t : TT) (e : Int32) : Bool := anyB (fun k => seeS nf x t (n3 k) e) nk
def nbf (nf : Nat) (x : Nat → Nat → Int32) (t : TT) (k : Int32) : Int32 := lp (fun f a => (.inl (if t.2.2.2.2 f = 2 ∧ ¬ k < strm x f then mxI a (if x 27 f = 0 then x 24 (x 29 f).toNatClampNeg else x 29 f) else a) : Int32 ⊕ Int32)) (fun a => a) nf 0 (-1)
def mixB (ne nf : Nat) (x : Nat → Nat → Int32) (t : TT) (k : Int32) : Bool := anyB (fun a => anyB (fun c => !decide (x 24 c ≤ x 25 a) && seeS nf x t k (n3 a) && seeS nf x t k (n3 c)) ne) ne
def bur (ns : Nat) (x : Nat → Nat → Int32) (t : TT) (c : Int32) : Int32 := lp (fun s (_ : Unit) => lp (fun k (_ : Unit) => if n3 (t.2.2.1 (10 * s + k)) = c then .inr (.inr (n3 (t.2.1 s) - 1 - n3 k)) else .inl ()) (fun _ => .inl ()) (t.2.1 s) 0 ()) (fun _ => -1) ns 0 ()
section MQ
variable {n : Nat} {ρ : Nat → Option Nat} {ad : Nat → Nat} {K : Nat → Option sd_E} {v : Nat → Int32} {x : Nat → Nat → Int32} {y : Nat → Nat → Int64} {G : sd_G} {t : TT} {b : Nat × Nat} {h : sd_H} {ns nf : Nat} {q : Nat → Nat}
theorem m_foundNow {l : Int32} {Q : Int32 → sd_H → Nat × Nat → Prop} (E : mOk n ρ ad) (hp : ad 4 = ad 20) (hv : v 26 = n3 nf) (hn : nf ≤ 24) : wp (fX5_foundNow G (ad 0) l) (hMo n ρ ad K v (sx x (enc t)) y) b Q = Q (cnt (fndB t l) nf) (hMo n ρ ad K v (sx x (enc t)) y) b := by
  unfold fX5_foundNow
  refine Eq.trans (wp_lp (F := fun k s => fX5_foundNow_b4 G k s.1 s.2.1 s.2.2.1 s.2.2.2) nf (fun i (a : Int32) => (ad 0, l, a, n3 i)) (fun _ => (hMo n ρ ad K v (sx x (enc t)) y)) (fun _ _ => True) (fun i a => .inl (a + if fndB t l i then 1 else 0)) (fun a => a) (fun g => Q g (hMo n ρ ad K v (sx x (enc t)) y) b) ?_ ?_ sd_FU 0 0 (Nat.zero_le _) (by unfold sd_FU; omega) trivial) rfl
  · intro k a _
    unfold fX5_foundNow_b4
    simp (disch := omega) only [↓wp_bnd, ↓wp_ret, ↓wp_ite, ↓reduceIte, ↓mFl E, ↓mPu E, hp, hv, n3_le, Nat.le_refl]
  · intro k i a hi _
    refine ⟨fun _ _ => trivial, ?_⟩
    have h1 : ¬ nf ≤ i := by omega
    unfold fX5_foundNow_b4 fX5_foundNow_b35 fndB
    simp (disch := omega) only [↓wp_bnd, ↓wp_ret, ↓wp_ite, ↓reduceIte, ↓mFl E, ↓mPu E, ↓mAr E, mAr E, ↓mAs E, mAs E, hp, hv, n3_le, h1, n3_ladd, n3_addl, sxs, enc_ft, m_one]
    split
    · next h2 => simp [h2]
    · next h2 => simp [h2]
theorem m_left {s : Nat} {Q : Int32 → sd_H → Nat × Nat → Prop} (E : mOk n ρ ad) (hp : ad 4 = ad 20) (ok : okT ns nf t) (hs : s < ns) : wp (fX5_left G (ad 0) (n3 s)) (hMo n ρ ad K v (sx x (enc t)) y) b Q = Q (cnt (lftB x t s) (t.2.1 s)) (hMo n ρ ad K v (sx x (enc t)) y) b := by
  have q2 := ok.2.1
  have q3 := ok.2.2.1 s hs
  unfold fX5_left
  refine Eq.trans (wp_lp (F := fun k s => fX5_left_b4 G k s.1 s.2.1 s.2.2.1 s.2.2.2) (t.2.1 s) (fun i (a : Int32) => (ad 0, n3 s, a, n3 i)) (fun _ => (hMo n ρ ad K v (sx x (enc t)) y)) (fun _ _ => True) (fun i a => .inl (a + if lftB x t s i then 1 else 0)) (fun a => a) (fun g => Q g (hMo n ρ ad K v (sx x (enc t)) y) b) ?_ ?_ sd_FU 0 0 (Nat.zero_le _) (by unfold sd_FU; omega) trivial) rfl
  · intro k a _
    unfold fX5_left_b4
    simp (disch := omega) only [↓wp_bnd, ↓wp_ret, ↓wp_ite, ↓reduceIte, ↓mFl E, ↓mPu E, m_tall E, n3_le, Nat.le_refl]
  · intro k i a hi _
    refine ⟨fun _ _ => trivial, ?_⟩
    have h1 : ¬ t.2.1 s ≤ i := by omega
    have h2 := ok.2.2.2.1 s i hs hi
    unfold fX5_left_b4 fX5_left_b45 lftB
    simp (disch := omega) only [↓wp_bnd, ↓wp_ret, ↓wp_ite, ↓reduceIte, ↓mFl E, ↓mPu E, ↓mAr E, mAr E, ↓mAs E, mAs E, hp, m_tall E, n3_le, h1, n3_ladd, n3_lmul, n3_add, n3_addl, sxs, enc_st2, m_one]
    split
    · next h2 => simp [h2]
    · next h2 => simp [h2]
theorem m_stratum {f : Nat} {Q : Int32 → sd_H → Nat × Nat → Prop} (E : mOk n ρ ad) (hp : ad 4 = ad 20) (hf : f < 24) : wp (fX5_stratum G (ad 0) (n3 f)) (hMo n ρ ad K v (sx x (enc t)) y) b Q = Q (strm x f) (hMo n ρ ad K v (sx x (enc t)) y) b := by
  unfold fX5_stratum strm
  simp (disch := omega) only [↓wp_bnd, ↓wp_ret, ↓wp_ite, ↓reduceIte, ↓mFl E, ↓mPu E, ↓mAr E, mAr E, ↓mAs E, mAs E, hp, sxs]
theorem m_seenIn {k e : Int32} {Q : Int32 → sd_H → Nat × Nat → Prop} (E : mOk n ρ ad) (hp : ad 4 = ad 20) (hv : v 26 = n3 nf) (hn : nf ≤ 24) : wp (fX5_seenIn G (ad 0) k e) (hMo n ρ ad K v (sx x (enc t)) y) b Q = Q (bI (seeS nf x t k e)) (hMo n ρ ad K v (sx x (enc t)) y) b := by
  unfold fX5_seenIn
  refine Eq.trans (wp_lp (F := fun k s => fX5_seenIn_b2 G k s.1 s.2.1 s.2.2.1 s.2.2.2) nf (fun i (_ : Unit) => (ad 0, k, e, n3 i)) (fun _ => (hMo n ρ ad K v (sx x (enc t)) y)) (fun _ _ => True) (fun i _ => if seeB x t k e i then .inr true else .inl ()) (fun _ => false) (fun g => Q (bI g) (hMo n ρ ad K v (sx x (enc t)) y) b) ?_ ?_ sd_FU 0 () (Nat.zero_le _) (by unfold sd_FU; omega) trivial) rfl
  · intro k a _
    unfold fX5_seenIn_b2
    simp (disch := omega) only [↓wp_bnd, ↓wp_ret, ↓wp_ite, ↓reduceIte, ↓mFl E, ↓mPu E, hp, hv, n3_le, Nat.le_refl, bI_f]
  · intro kk i a hi _
    refine ⟨fun _ _ => trivial, ?_⟩
    have h1 : ¬ nf ≤ i := by omega
    unfold fX5_seenIn_b2 seeB
    simp (disch := omega) only [↓wp_bnd, ↓wp_ret, ↓wp_ite, ↓reduceIte, ↓mFl E, ↓mPu E, ↓mAr E, mAr E, ↓mAs E, mAs E, hp, hv, n3_le, h1, m_sure E, n3_addl, sxs, m_stratum E hp]
    by_cases c1 : t.2.2.2.2 i = 2
    · by_cases c2 : x 27 i = 0
      · by_cases c3 : x 29 i = e
        · by_cases c4 : strm x i = k
          · simp [c1, c2, c3, c4, bI]
          · simp [c1, c2, c3, c4]
        · simp [c1, c2, c3]
      · simp [c1, c2]
    · simp [c1]
theorem m_seen {e : Int32} {nk : Nat} {Q : Int32 → sd_H → Nat × Nat → Prop} (E : mOk n ρ ad) (hp : ad 4 = ad 20) (hv : v 26 = n3 nf) (hn : nf ≤ 24) (hk : v 21 = n3 nk) (hn2 : nk ≤ 10) : wp (fX5_seen G (ad 0) e) (hMo n ρ ad K v (sx x (enc t)) y) b Q = Q (bI (seeN nk nf x t e)) (hMo n ρ ad K v (sx x (enc t)) y) b := by
  unfold fX5_seen
  refine Eq.trans (wp_lp (F := fun k s => fX5_seen_b2 G k s.1 s.2.1 s.2.2) nk (fun i (_ : Unit) => (ad 0, e, n3 i)) (fun _ => (hMo n ρ ad K v (sx x (enc t)) y)) (fun _ _ => True) (fun i _ => if seeS nf x t (n3 i) e then .inr true else .inl ()) (fun _ => false) (fun g => Q (bI g) (hMo n ρ ad K v (sx x (enc t)) y) b) ?_ ?_ sd_FU 0 () (Nat.zero_le _) (by unfold sd_FU; omega) trivial) rfl
  · intro k a _
    unfold fX5_seen_b2
    simp (disch := omega) only [↓wp_bnd, ↓wp_ret, ↓wp_ite, ↓reduceIte, ↓mFl E, ↓mPu E, hp, hk, n3_le, Nat.le_refl, bI_f]
  · intro kk i a hi _
    refine ⟨fun _ _ => trivial, ?_⟩
    have h1 : ¬ nk ≤ i := by omega
    unfold fX5_seen_b2
    simp (disch := omega) only [↓wp_bnd, ↓wp_ret, ↓wp_ite, ↓reduceIte, ↓mFl E, ↓mPu E, hp, hk, n3_le, h1, n3_addl, m_seenIn E hp hv hn, bI_0]
    cases hc : seeS nf x t (n3 i) e <;> simp [bI]
theorem m_nbf {k : Int32} {Q : Int32 → sd_H → Nat × Nat → Prop} (E : mOk n ρ ad) (hp : ad 4 = ad 20) (hv : okV q v) (hP : okP q x) : wp (fX5_notBeforeNow G (ad 0) k) (hMo n ρ ad K v (sx x (enc t)) y) b Q = Q (nbf (q 26) x t k) (hMo n ρ ad K v (sx x (enc t)) y) b := by
  have hn := hP.2.2.2.1
  have he := hP.2.2.1
  have hv6 := hv.2.2.2.1
  unfold fX5_notBeforeNow
  refine Eq.trans (wp_lp (F := fun k s => fX5_notBeforeNow_b4 G k s.1 s.2.1 s.2.2.1 s.2.2.2) (q 26) (fun i (a : Int32) => (ad 0, k, a, n3 i)) (fun _ => (hMo n ρ ad K v (sx x (enc t)) y)) (fun _ _ => True) (fun f a => .inl (if t.2.2.2.2 f = 2 ∧ ¬ k < strm x f then mxI a (if x 27 f = 0 then x 24 (x 29 f).toNatClampNeg else x 29 f) else a)) (fun a => a) (fun g => Q g (hMo n ρ ad K v (sx x (enc t)) y) b) ?_ ?_ sd_FU 0 (-1) (Nat.zero_le _) (by unfold sd_FU; omega) trivial) rfl
  · intro k a _
    unfold fX5_notBeforeNow_b4
    simp (disch := omega) only [↓wp_bnd, ↓wp_ret, ↓wp_ite, ↓reduceIte, ↓mFl E, ↓mPu E, hp, hv6, n3_le, Nat.le_refl]
  · intro kk i a hi _
    refine ⟨fun _ _ => trivial, ?_⟩
    have h1 : ¬ q 26 ≤ i := by omega
    unfold fX5_notBeforeNow_b4 fJ4_max
    by_cases c1 : t.2.2.2.2 i = 2
    · by_cases c2 : k < strm x i
      · simp (disch := omega) only [↓wp_bnd, ↓wp_ret, ↓wp_ite, ↓reduceIte, ↓mFl E, ↓mPu E, ↓mAr E, mAr E, ↓mAs E, mAs E, hp, hv6, n3_le, h1, m_sure E, n3_addl, sxs, m_stratum E hp, c1, c2]
        simp
      · obtain ⟨c3 | ⟨c3, e, he2, c4⟩, -⟩ := hP.2.2.2.2.2.1 i hi
        · simp (disch := omega) only [↓wp_bnd, ↓wp_ret, ↓wp_ite, ↓reduceIte, ↓mFl E, ↓mPu E, ↓mAr E, mAr E, ↓mAs E, mAs E, hp, hv6, n3_le, h1, m_sure E, n3_addl, sxs, m_stratum E hp, c1, c2, c3]
          unfold mxI
          simp
          split <;> rfl
        · simp (disch := omega) only [↓wp_bnd, ↓wp_ret, ↓wp_ite, ↓reduceIte, ↓mFl E, ↓mPu E, ↓mAr E, mAr E, ↓mAs E, mAs E, hp, hv6, n3_le, h1, m_sure E, n3_addl, sxs, m_stratum E hp, c1, c2, c3, c4, n3_nn]
          unfold mxI
          simp
          split <;> rfl
    · simp (disch := omega) only [↓wp_bnd, ↓wp_ret, ↓wp_ite, ↓reduceIte, ↓mFl E, ↓mPu E, ↓mAr E, mAr E, ↓mAs E, mAs E, hp, hv6, n3_le, h1, m_sure E, n3_addl, sxs, m_stratum E hp, c1]
      simp
theorem m_mixed {k : Int32} {Q : Int32 → sd_H → Nat × Nat → Prop} (E : mOk n ρ ad) (hp : ad 4 = ad 20) (hv : okV q v) (hP : okP q x) : wp (fX5_mixed G (ad 0) k) (hMo n ρ ad K v (sx x (enc t)) y) b Q = Q (bI (mixB (q 22) (q 26) x t k)) (hMo n ρ ad K v (sx x (enc t)) y) b := by
  have hn := hP.2.2.2.1
  have he := hP.2.2.1
  have hv6 := hv.2.2.2.1
  have hv2 := hv.2.2.1
  unfold fX5_mixed
  refine Eq.trans (wp_lp (F := fun k s => fX5_mixed_b2 G k s.1 s.2.1 s.2.2) (q 22) (fun i (_ : Unit) => (ad 0, k, n3 i)) (fun _ => (hMo n ρ ad K v (sx x (enc t)) y)) (fun _ _ => True) (fun a _ => if anyB (fun c => !decide (x 24 c ≤ x 25 a) && seeS (q 26) x t k (n3 a) && seeS (q 26) x t k (n3 c)) (q 22) then .inr true else .inl ()) (fun _ => false) (fun g => Q (bI g) (hMo n ρ ad K v (sx x (enc t)) y) b) ?_ ?_ sd_FU 0 () (Nat.zero_le _) (by unfold sd_FU; omega) trivial) rfl
  · intro k a _
    unfold fX5_mixed_b2
    simp (disch := omega) only [↓wp_bnd, ↓wp_ret, ↓wp_ite, ↓reduceIte, ↓mFl E, ↓mPu E, hp, hv2, n3_le, Nat.le_refl, bI_f]
  · intro kk i a hi _
    refine ⟨fun _ _ => trivial, ?_⟩
    have h1 : ¬ q 22 ≤ i := by omega
    unfold fX5_mixed_b2
    simp (disch := omega) only [↓wp_bnd, ↓wp_ret, ↓wp_ite, ↓reduceIte, ↓mFl E, ↓mPu E, hp, hv2, n3_le, h1]
    refine Eq.trans (wp_lp (F := fun k s => fX5_mixed_b15 G kk k s.1 s.2.1 s.2.2.1 s.2.2.2) (q 22) (fun j (_ : Unit) => (ad 0, k, n3 i, n3 j)) (fun _ => (hMo n ρ ad K v (sx x (enc t)) y)) (fun _ _ => True) (fun c _ => if !decide (x 24 c ≤ x 25 i) && seeS (q 26) x t k (n3 i) && seeS (q 26) x t k (n3 c) then .inr true else .inl ()) (fun _ => false) (fun g => if g = true then Q 1 (hMo n ρ ad K v (sx x (enc t)) y) b else wp (kk (ad 0, k, n3 (i + 1))) (hMo n ρ ad K v (sx x (enc t)) y) b Q) ?_ ?_ sd_FU 0 () (Nat.zero_le _) (by unfold sd_FU; omega) trivial) ?_
    · intro k a _
      unfold fX5_mixed_b15
      simp (disch := omega) only [↓wp_bnd, ↓wp_ret, ↓wp_ite, ↓reduceIte, ↓mFl E, ↓mPu E, hp, hv2, n3_le, Nat.le_refl, n3_addl]
      simp
    · intro k2 j a hj _
      refine ⟨fun _ _ => trivial, ?_⟩
      have h2 : ¬ q 22 ≤ j := by omega
      unfold fX5_mixed_b15
      simp (disch := omega) only [↓wp_bnd, ↓wp_ret, ↓wp_ite, ↓reduceIte, ↓mFl E, ↓mPu E, ↓mAr E, mAr E, ↓mAs E, mAs E, hp, hv2, n3_le, h2, n3_addl, sxs, m_seenIn E hp hv6 hn, bI_0]
      by_cases c1 : x 24 j ≤ x 25 i
      · simp [c1]
      · cases c2 : seeS (q 26) x t k (n3 i)
        · simp [c1]
        · cases c3 : seeS (q 26) x t k (n3 j)
          · simp [c1]
          · simp [c1]
    · show (if anyB _ (q 22) = true then _ else _) = _
      split
      · next h3 => simp only [h3, ↓reduceIte, bI_t]
      · next h3 => simp only [h3]
theorem m_bur {f : Nat} {Q : Int32 → sd_H → Nat × Nat → Prop} (E : mOk n ρ ad) (hp : ad 4 = ad 20) (hv : v 20 = n3 ns) (ok : okT ns nf t) (hf : f < 24) : wp (fX5_buried G (ad 0) (n3 f)) (hMo n ρ ad K v (sx x (enc t)) y) b Q = Q (bur ns x t (x 28 f)) (hMo n ρ ad K v (sx x (enc t)) y) b := by
  have q2 := ok.2.1
  unfold fX5_buried
  refine Eq.trans (wp_lp (F := fun k s => fX5_buried_b2 G k s.1 s.2.1 s.2.2) ns (fun i (_ : Unit) => (ad 0, n3 f, n3 i)) (fun _ => (hMo n ρ ad K v (sx x (enc t)) y)) (fun _ _ => True) (fun s _ => lp (fun k (_ : Unit) => if n3 (t.2.2.1 (10 * s + k)) = x 28 f then .inr (.inr (n3 (t.2.1 s) - 1 - n3 k)) else .inl ()) (fun _ => .inl ()) (t.2.1 s) 0 ()) (fun _ => -1) (fun g => Q g (hMo n ρ ad K v (sx x (enc t)) y) b) ?_ ?_ sd_FU 0 () (Nat.zero_le _) (by unfold sd_FU; omega) trivial) rfl
  · intro k a _
    unfold fX5_buried_b2
    simp (disch := omega) only [↓wp_bnd, ↓wp_ret, ↓wp_ite, ↓reduceIte, ↓mFl E, ↓mPu E, hp, hv, n3_le, Nat.le_refl]
  · intro kk i a hi _
    refine ⟨fun _ _ => trivial, ?_⟩
    have h1 : ¬ ns ≤ i := by omega
    have q3 := ok.2.2.1 i hi
    unfold fX5_buried_b2
    simp (disch := omega) only [↓wp_bnd, ↓wp_ret, ↓wp_ite, ↓reduceIte, ↓mFl E, ↓mPu E, hp, hv, n3_le, h1]
    refine Eq.trans (wp_lp (F := fun k s => fX5_buried_b15 G kk k s.1 s.2.1 s.2.2.1 s.2.2.2) (t.2.1 i) (fun j (_ : Unit) => (ad 0, n3 f, n3 i, n3 j)) (fun _ => (hMo n ρ ad K v (sx x (enc t)) y)) (fun _ _ => True) (fun k (_ : Unit) => if n3 (t.2.2.1 (10 * i + k)) = x 28 f then .inr (.inr (n3 (t.2.1 i) - 1 - n3 k)) else .inl ()) (fun _ => (.inl () : Unit ⊕ Int32)) (fun g => match g with
      | .inl _ => wp (kk (ad 0, n3 f, n3 (i + 1))) (hMo n ρ ad K v (sx x (enc t)) y) b Q
      | .inr g => Q g (hMo n ρ ad K v (sx x (enc t)) y) b) ?_ ?_ sd_FU 0 () (Nat.zero_le _) (by unfold sd_FU; omega) trivial) ?_
    · intro k a _
      unfold fX5_buried_b15
      simp (disch := omega) only [↓wp_bnd, ↓wp_ret, ↓wp_ite, ↓reduceIte, ↓mFl E, ↓mPu E, m_tall E, n3_le, Nat.le_refl, n3_addl]
    · intro k2 j a hj _
      refine ⟨fun _ _ => trivial, ?_⟩
      have h2 : ¬ t.2.1 i ≤ j := by omega
      have h3 := ok.2.2.2.1 i j hi hj
      unfold fX5_buried_b15
      simp (disch := omega) only [↓wp_bnd, ↓wp_ret, ↓wp_ite, ↓reduceIte, ↓mFl E, ↓mPu E, ↓mAr E, mAr E, ↓mAs E, mAs E, hp, m_tall E, n3_le, h2, n3_ladd, n3_lmul, n3_add, n3_addl, sxs, enc_st2]
      split <;> rfl
    · rw [Nat.sub_zero]
      cases lp (fun k (_ : Unit) => if n3 (t.2.2.1 (10 * i + k)) = x 28 f then (.inr (.inr (n3 (t.2.1 i) - 1 - n3 k)) : Unit ⊕ (Unit ⊕ Int32)) else .inl ()) (fun _ => .inl ()) (t.2.1 i) 0 () <;> rfl
end MQ
