/-! THE PLAIN LAW: a sofa of the component, changed -/
theorem nh_congr {n : Nat} {ρ : Nat → Option Nat} {c c' : Nat → sd_E} {K : Nat → Option sd_E} (h : ∀ a i, ρ a = some i → c i = c' i) : nh n ρ c K = nh n ρ c' K := by
  refine Prod.ext rfl (funext fun q => ?_)
  cases hq : ρ q with
  | none => rw [nh_out hq, nh_out hq]
  | some i => rw [nh_at hq, nh_at hq, h q i hq]
section NW
variable {G : sd_G} {n a i r j k cap sz w : Nat} {ρ : Nat → Option Nat} {c : Nat → sd_E} {K : Nat → Option sd_E} {b : Nat × Nat} {mc : Int32} {f : Nat → Option Nat}
theorem nh_put {ci : Nat} {fs : List Value} {ty : FieldType} {v : Value} {Q : Unit → sd_H → Nat × Nat → Prop} (hr : ρ a = some i) (hi : ∀ q, ρ q = some i → q = a) (hc : c i = .inr (ci, fs)) (h1 : k < fs.length) (h2 : narrow ty v = v) (h3 : fits ty v = true) : wp (sd_put ci k ty a v) (nh n ρ c K) b Q = Q () (nh n ρ (updE c i (.inr (ci, fs.set k v))) K) b := by
  rw [wp_put ((nh_at hr).trans (congrArg some hc)) h1 h2 h3, nh_up hr hi]
theorem updE_same (c : Nat → sd_E) (i : Nat) (e : sd_E) : updE c i e i = e := if_pos rfl
theorem updE_ne {c : Nat → sd_E} {i j : Nat} {e : sd_E} (h : j ≠ i) : updE c i e j = c j := if_neg h
theorem updE_up (c : Nat → sd_E) (i : Nat) (e e' : sd_E) : updE (updE c i e) i e' = updE c i e' := by
  funext j
  unfold updE
  split <;> rfl
theorem nh_remove {Q : Nat → sd_H → Nat × Nat → Prop} (ha : ρ a = some i) (hai : ∀ q, ρ q = some i → q = a) (hr : ρ r = some j) (hrj : ∀ q, ρ q = some j → q = r) (hij : j ≠ i) (ci : c i = aL mc r (k + 1)) (cj : c j = aR cap f) (hk : k < cap) (hb : cap ≤ 1000000) (hf : f k = some w) : wp (fJ2_remove G a (n3 k)) (nh n ρ c K) b Q = Q w (nh n ρ (updE (updE c i (aL (mc + 1) r k)) j (aR cap (va_up f k none))) K) b := by
  have l1 : sd_look G (nh n ρ c K) a = some (aL mc r (k + 1)) := (nh_look ha).trans (congrArg some ci)
  have l2 : sd_look G (nh n ρ c K) r = some (aR cap f) := (nh_look hr).trans (congrArg some cj)
  have h1 : (n3 k < n3 (k + 1)) = True := by
    rw [n3_lt (by omega) (by omega)]
    exact eq_true (by omega)
  have h2 : n3 (k + 1) - 1 = n3 k := n3_sub (show 1 ≤ k + 1 by omega)
  unfold fJ2_remove fJ23_checkIndex fJ17_checkIndex fJ2_fastRemove
  simp only [wp_bnd, wp_ret, wp_ite, al_rd l1, n3_nlt0 (show k < 2147483648 by omega), h1, ↓reduceIte]
  rw [wp_aldR l2 (n3_ix hk (by omega)) (by rw [n3_nn (by omega)]; exact hf)]
  simp only [wp_bnd, wp_ret, wp_ite, al_rd l1]
  rw [nh_put ha hai ci (Nat.le_of_ble_eq_true rfl) rfl rfl]
  have l3 : sd_look G (nh n ρ (updE c i (.inr (41, [Value.int mc, .ref r, .int (n3 (k + 1))].set 0 (.int (mc + 1))))) K) a = some (aL (mc + 1) r (k + 1)) := (nh_look ha).trans (congrArg some (updE_same _ _ _))
  simp only [wp_bnd, wp_ret, wp_ite, al_rd l3, h2, Int32.le_refl, ↓reduceIte]
  rw [nh_put (c := updE c i (.inr (41, [Value.int mc, .ref r, .int (n3 (k + 1))].set 0 (.int (mc + 1))))) (fs := [Value.int (mc + 1), .ref r, .int (n3 (k + 1))]) ha hai (updE_same _ _ _) (Nat.le_of_ble_eq_true rfl) rfl rfl, updE_up]
  rw [wp_astQ (t := 4) (n := cap) (f := f) ((nh_at hr).trans (congrArg some ((updE_ne hij).trans cj))) (n3_ix hk (by omega)) rfl, n3_nn (by omega), nh_up hr hrj]
  rfl
theorem nh_add {Q : Int32 → sd_H → Nat × Nat → Prop} (ha : ρ a = some i) (hai : ∀ q, ρ q = some i → q = a) (hr : ρ r = some j) (hrj : ∀ q, ρ q = some j → q = r) (hij : j ≠ i) (ci : c i = aL mc r sz) (cj : c j = aR cap f) (hk : sz < cap) (hb : cap ≤ 1000000) (hw : sd_okQ G (nh n ρ (updE c i (aL (mc + 1) r sz)) K) 4 (some w) = true) : wp (fJ2_add G a w) (nh n ρ c K) b Q = Q 1 (nh n ρ (updE (updE c i (aL (mc + 1) r (sz + 1))) j (aR cap (va_up f sz (some w)))) K) b := by
  have l1 : sd_look G (nh n ρ c K) a = some (aL mc r sz) := (nh_look ha).trans (congrArg some ci)
  have h1 : (n3 sz = n3 cap) = False := by
    rw [n3_eq (by omega) (by omega)]
    exact eq_false (by omega)
  unfold fJ2_add fJ2_add_2 fJ2_add_2_b11
  simp only [wp_bnd, wp_ret, wp_ite, al_rd l1]
  rw [nh_put ha hai ci (Nat.le_of_ble_eq_true rfl) rfl rfl]
  have l3 : sd_look G (nh n ρ (updE c i (.inr (41, [Value.int mc, .ref r, .int (n3 sz)].set 0 (.int (mc + 1))))) K) a = some (aL (mc + 1) r sz) := (nh_look ha).trans (congrArg some (updE_same _ _ _))
  have l4 : sd_look G (nh n ρ (updE c i (.inr (41, [Value.int mc, .ref r, .int (n3 sz)].set 0 (.int (mc + 1))))) K) r = some (aR cap f) := (nh_look hr).trans (congrArg some ((updE_ne hij).trans cj))
  simp only [wp_bnd, wp_ret, wp_ite, al_rd l3, wp_alen l4, h1, ↓reduceIte]
  have hw' : sd_okQ G (nh n ρ (updE c i (.inr (41, [Value.int mc, .ref r, .int (n3 sz)].set 0 (.int (mc + 1))))) K) 4 (some w) = true := hw
  rw [wp_astQ (t := 4) (n := cap) (f := f) ((nh_at hr).trans (congrArg some ((updE_ne hij).trans cj))) (n3_ix hk (by omega)) hw', n3_nn (by omega), nh_up hr hrj]
  rw [nh_put (c := updE (updE c i (.inr (41, [Value.int mc, .ref r, .int (n3 sz)].set 0 (.int (mc + 1))))) j (aR cap (va_up f sz (some w)))) (fs := [Value.int (mc + 1), .ref r, .int (n3 sz)]) ha hai ((updE_ne (fun e => hij e.symm)).trans (updE_same _ _ _)) (Nat.le_of_ble_eq_true rfl) rfl rfl]
  have e : ∀ (e1 e2 e3 : sd_E), updE (updE (updE c i e1) j e2) i e3 = updE (updE c i e3) j e2 := by
    intro e1 e2 e3
    funext z
    unfold updE
    by_cases hz : z = i
    · subst hz
      rw [if_pos rfl, if_neg (fun e => hij e.symm), if_pos rfl]
    · rw [if_neg hz, if_neg hz, if_neg hz]
  rw [e, show n3 sz + 1 = n3 (sz + 1) from n3_add sz 1]
  rfl
end NW
theorem sV_ind {ns : Nat} {em cs : Nat → Bool} {P : Nat → Prop} (h0 : P 0) (h3 : P 3) (hl : ∀ s, s < ns → P (10 + s)) (ha : ∀ s, s < ns → em s = false → P (20 + s)) (hc : ∀ c, c < 80 → cs c = true → P (100 + c)) (i : Nat) (h : sV ns em cs i) : P i := by
  rcases h with rfl | rfl | ⟨a1, a2⟩ | ⟨a1, a2, a3⟩ | ⟨a1, a2, a3⟩
  · exact h0
  · exact h3
  · rw [show i = 10 + (i - 10) by omega]
    exact hl _ (by omega)
  · rw [show i = 20 + (i - 20) by omega]
    exact ha _ (by omega) a3
  · rw [show i = 100 + (i - 100) by omega]
    exact hc _ (by omega) a3
section SW
variable {G : sd_G} {n : Nat} {ρ : Nat → Option Nat} {K : Nat → Option sd_E} {ad F : Nat → Nat} {q : Nat → Nat} {x : Nat → Nat → Int32} {mc : Nat → Int32} {em cs : Nat → Bool} {t : TT} {b : Nat × Nat} {z0 : Nat}
theorem cS_10 {s : Nat} (hs : s < 8) : cS ad F q x z0 mc em t (10 + s) = aL (mc s) (if em s = true then z0 else ad (20 + s)) (t.2.1 s) := by
  unfold cS
  rw [if_neg (by omega), if_neg (by omega), if_pos (by omega), show 10 + s - 10 = s by omega, show 10 + s + 10 = 20 + s by omega]
theorem cS_20 {s : Nat} (hs : s < 8) : cS ad F q x z0 mc em t (20 + s) = aR 10 (fun k => if k < t.2.1 s then some (ad (100 + t.2.2.1 (10 * s + k))) else none) := by
  unfold cS
  rw [if_neg (by omega), if_neg (by omega), if_neg (by omega), if_pos (by omega), show 20 + s - 20 = s by omega]
theorem cS_100 {c : Nat} : cS ad F q x z0 mc em t (100 + c) = .inr (3, [.int (n3 (c % 10)), .int (x 30 c), .int (x 31 c), .int (t.2.2.2.1 c)]) := by
  unfold cS
  rw [if_neg (by omega), if_neg (by omega), if_neg (by omega), if_neg (by omega), show 100 + c - 100 = c by omega]
theorem sOk.one {ns : Nat} (A : sOk n ρ ad ns em cs) {i : Nat} : ∀ p, ρ p = some i → p = ad i := fun p hp => (A.2.1 p i hp).1
theorem sV10 {ns s : Nat} (hs : s < ns) : sV ns em cs (10 + s) := Or.inr (Or.inr (Or.inl ⟨by omega, by omega⟩))
theorem sV20 {ns s : Nat} (hs : s < ns) (h : em s = false) : sV ns em cs (20 + s) := Or.inr (Or.inr (Or.inr (Or.inl ⟨by omega, by omega, by rw [show 20 + s - 20 = s by omega]; exact h⟩)))
theorem sV100 {ns c : Nat} (hc : c < 80) (h : cs c = true) : sV ns em cs (100 + c) := Or.inr (Or.inr (Or.inr (Or.inr ⟨by omega, by omega, by rw [show 100 + c - 100 = c by omega]; exact h⟩)))
/-- a state with a lower seat -/
def lowT (t : TT) (s : Nat) : TT := (t.1, updN t.2.1 s (t.2.1 s - 1), t.2.2)
def looT (t : TT) (c : Nat) : TT := (t.1, t.2.1, t.2.2.1, upd t.2.2.2.1 c 1, t.2.2.2.2)
/-- a cushion c more on s -/
def putT (t : TT) (s c : Nat) : TT := (t.1, updN t.2.1 s (t.2.1 s + 1), updN t.2.2.1 (10 * s + t.2.1 s) c, t.2.2.2)
def numT (t : TT) (i : Nat) (z : Int32) : TT := (upd t.1 i z, t.2)
theorem sA_low {s : Nat} (A : sA G n ρ K ad F q x em cs t) (hs : s < q 20) : sA G n ρ K ad F q x em cs (lowT t s) := by
  obtain ⟨A1, A2, A3, A4, q1, q2, q3, q4, q5⟩ := A
  refine ⟨A1, ⟨fun r k hr hk => A2.1 r k hr ?_, fun r hr he => ?_⟩, A3, A4, q1, q2, fun r hr => ?_, fun r k hr hk => q4 r k hr ?_, q5⟩
  · have hk : k < updN t.2.1 s (t.2.1 s - 1) r := hk
    unfold updN at hk
    split at hk
    · next e => subst e; omega
    · exact hk
  · have := A2.2 r hr he
    show updN t.2.1 s (t.2.1 s - 1) r = 0
    unfold updN
    split
    · next e => subst e; omega
    · exact this
  · have := q3 r hr
    show updN t.2.1 s (t.2.1 s - 1) r ≤ 10
    unfold updN
    split
    · next e => subst e; omega
    · exact this
  · have hk : k < updN t.2.1 s (t.2.1 s - 1) r := hk
    unfold updN at hk
    split at hk
    · next e => subst e; omega
    · exact hk
theorem sA_loo {c : Nat} (A : sA G n ρ K ad F q x em cs t) : sA G n ρ K ad F q x em cs (looT t c) := by
  obtain ⟨A1, A2, A3, A4, q1, q2, q3, q4, q5, q6⟩ := A
  refine ⟨A1, A2, A3, A4, q1, q2, q3, q4, fun d hd => ?_, q6⟩
  show upd t.2.2.2.1 c 1 d = 0 ∨ upd t.2.2.2.1 c 1 d = 1
  unfold upd
  split
  · exact Or.inr rfl
  · exact q5 d hd
theorem sA_num {i : Nat} {z : Int32} (A : sA G n ρ K ad F q x em cs t) (hi : i ≠ 4) : sA G n ρ K ad F q x em cs (numT t i z) := ⟨A.1, A.2.1, A.2.2.1, A.2.2.2.1, okT_nu A.2.2.2.2 hi⟩
theorem s_remove {s : Nat} {Q : Nat → sd_H → Nat × Nat → Prop} (A : sA G n ρ K ad F q x em cs t) (hs : s < q 20) (h1 : 1 ≤ t.2.1 s) : wp (fJ2_remove G (ad (10 + s)) (n3 (t.2.1 s - 1))) (hSo G n ρ K ad F q x mc em t) b Q = Q (ad (100 + topC t s)) (hSo G n ρ K ad F q x (upd mc s (mc s + 1)) em (lowT t s)) b := by
  have q8 := A.2.2.2.1.1.2
  have h10 := A.2.2.2.2.2.2.1
  have he : em s = false := by
    cases h : em s with
    | false => rfl
    | true =>
      have := A.2.1.2 s hs h
      omega
  obtain ⟨k, hk⟩ : ∃ k, t.2.1 s = k + 1 := ⟨t.2.1 s - 1, by omega⟩
  have hk10 := h10 s hs
  unfold hSo topC
  rw [hk, Nat.add_sub_cancel]
  rw [nh_remove (i := 10 + s) (j := 20 + s) (r := ad (20 + s)) (cap := 10) (k := k) (mc := mc s) (f := fun k => if k < t.2.1 s then some (ad (100 + t.2.2.1 (10 * s + k))) else none) (w := ad (100 + t.2.2.1 (10 * s + k))) (A.1.1 _ (sV10 hs)) A.1.one (A.1.1 _ (sV20 hs he)) A.1.one (by omega) (by rw [cS_10 (by omega), he, hk]; rfl) (cS_20 (by omega)) (by omega) (by omega) (if_pos (by omega))]
  congr 1
  refine nh_congr (fun a i hi => sV_ind (P := fun i => updE (updE (cS ad F q x (sd_ad G 0) mc em t) (10 + s) (aL (mc s + 1) (ad (20 + s)) k)) (20 + s) (aR 10 (va_up (fun k => if k < t.2.1 s then some (ad (100 + t.2.2.1 (10 * s + k))) else none) k none)) i = cS ad F q x (sd_ad G 0) (upd mc s (mc s + 1)) em (lowT t s) i) ?_ ?_ ?_ ?_ ?_ i (A.1.2.1 a i hi).2)
  · rw [updE_ne (by omega), updE_ne (by omega)]
    rfl
  · rw [updE_ne (by omega), updE_ne (by omega)]
    rfl
  · intro r hr
    rw [updE_ne (by omega), cS_10 (by omega)]
    by_cases e : r = s
    · subst e
      rw [updE_same, he]
      show _ = aL (upd mc r (mc r + 1) r) (ad (20 + r)) (updN t.2.1 r (t.2.1 r - 1) r)
      rw [upd_same, updN_same, hk]
      rfl
    · rw [updE_ne (by omega), cS_10 (by omega)]
      show _ = aL (upd mc s (mc s + 1) r) _ (updN t.2.1 s (t.2.1 s - 1) r)
      rw [upd_ne e, updN_ne e]
  · intro r hr her
    rw [cS_20 (by omega)]
    by_cases e : r = s
    · subst e
      rw [updE_same]
      congr 2
      congr 4
      funext j
      show (if j = k then none else if j < t.2.1 r then some (ad (100 + t.2.2.1 (10 * r + j))) else none) = if j < updN t.2.1 r (t.2.1 r - 1) r then some (ad (100 + t.2.2.1 (10 * r + j))) else none
      rw [updN_same, hk]
      by_cases hj : j = k
      · subst hj
        rw [if_pos rfl, if_neg (by omega)]
      · rw [if_neg hj]
        by_cases hj2 : j < k
        · rw [if_pos (by omega), if_pos (by omega)]
        · rw [if_neg (by omega), if_neg (by omega)]
    · rw [updE_ne (by omega), updE_ne (by omega), cS_20 (by omega)]
      show _ = aR 10 (fun j => if j < updN t.2.1 s (t.2.1 s - 1) r then some (ad (100 + t.2.2.1 (10 * r + j))) else none)
      rw [updN_ne e]
  · intro c hc hcs
    rw [updE_ne (by omega), updE_ne (by omega), cS_100, cS_100]
    rfl
theorem s_putLoose {c : Nat} {Q : Unit → sd_H → Nat × Nat → Prop} (A : sA G n ρ K ad F q x em cs t) (hc : c < 80) (h : cs c = true) : wp (sd_put 3 3 .boolean (ad (100 + c)) (.int 1)) (hSo G n ρ K ad F q x mc em t) b Q = Q () (hSo G n ρ K ad F q x mc em (looT t c)) b := by
  have q8 := A.2.2.2.1.1.2
  unfold hSo
  rw [nh_put (i := 100 + c) (fs := [.int (n3 (c % 10)), .int (x 30 c), .int (x 31 c), .int (t.2.2.2.1 c)]) (A.1.1 _ (sV100 hc h)) A.1.one cS_100 (Nat.le_of_ble_eq_true rfl) rfl rfl]
  congr 1
  refine nh_congr (fun a i hi => sV_ind (P := fun i => updE (cS ad F q x (sd_ad G 0) mc em t) (100 + c) (.inr (3, [Value.int (n3 (c % 10)), .int (x 30 c), .int (x 31 c), .int (t.2.2.2.1 c)].set 3 (.int 1))) i = cS ad F q x (sd_ad G 0) mc em (looT t c) i) ?_ ?_ ?_ ?_ ?_ i (A.1.2.1 a i hi).2)
  · rw [updE_ne (by omega)]
    rfl
  · rw [updE_ne (by omega)]
    rfl
  · intro r hr
    rw [updE_ne (by omega), cS_10 (by omega), cS_10 (by omega)]
    rfl
  · intro r hr her
    rw [updE_ne (by omega), cS_20 (by omega), cS_20 (by omega)]
    rfl
  · intro d hd hds
    rw [cS_100]
    by_cases e : d = c
    · subst e
      rw [updE_same]
      show _ = (.inr (3, [.int (n3 (d % 10)), .int (x 30 d), .int (x 31 d), .int (upd t.2.2.2.1 d 1 d)]) : sd_E)
      rw [upd_same]
      rfl
    · rw [updE_ne (by omega), cS_100]
      show _ = (.inr (3, [.int (n3 (d % 10)), .int (x 30 d), .int (x 31 d), .int (upd t.2.2.2.1 c 1 d)]) : sd_E)
      rw [upd_ne e]
theorem s_putN {k i : Nat} {z : Int32} {Q : Unit → sd_H → Nat × Nat → Prop} (A : sA G n ρ K ad F q x em cs t) (hk : (k = 7 ∧ i = 4) ∨ (k = 8 ∧ i = 0) ∨ (k = 9 ∧ i = 1) ∨ (k = 10 ∧ i = 2) ∨ (k = 11 ∧ i = 3)) : wp (sd_put 2 k .int (ad 0) (.int z)) (hSo G n ρ K ad F q x mc em t) b Q = Q () (hSo G n ρ K ad F q x mc em (numT t i z)) b := by
  have q8 := A.2.2.2.1.1.2
  unfold hSo
  rw [nh_put (i := 0) (fs := [.int (n3 (q 21)), .int (n3 (q 20)), .ref (F 2), .ref (F 3), .ref (F 4), .ref (F 5), .ref (ad 3), .int (t.1 4), .int (t.1 0), .int (t.1 1), .int (t.1 2), .int (t.1 3)]) (A.1.1 _ (Or.inl rfl)) A.1.one rfl (by show k < 12; omega) rfl rfl]
  congr 1
  refine nh_congr (fun a j hj => sV_ind (P := fun j => updE (cS ad F q x (sd_ad G 0) mc em t) 0 (.inr (2, [Value.int (n3 (q 21)), .int (n3 (q 20)), .ref (F 2), .ref (F 3), .ref (F 4), .ref (F 5), .ref (ad 3), .int (t.1 4), .int (t.1 0), .int (t.1 1), .int (t.1 2), .int (t.1 3)].set k (.int z))) j = cS ad F q x (sd_ad G 0) mc em (numT t i z) j) ?_ ?_ ?_ ?_ ?_ j (A.1.2.1 a j hj).2)
  · rw [updE_same]
    rcases hk with ⟨rfl, rfl⟩ | ⟨rfl, rfl⟩ | ⟨rfl, rfl⟩ | ⟨rfl, rfl⟩ | ⟨rfl, rfl⟩ <;> rfl
  · rw [updE_ne (by omega)]
    rfl
  · intro r hr
    rw [updE_ne (by omega), cS_10 (by omega), cS_10 (by omega)]
    rfl
  · intro r hr her
    rw [updE_ne (by omega), cS_20 (by omega), cS_20 (by omega)]
    rfl
  · intro d hd hds
    rw [updE_ne (by omega), cS_100, cS_100]
    rfl
end SW
