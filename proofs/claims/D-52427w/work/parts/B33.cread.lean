/-! THE PLAIN LAW: what the component is asked: reads -/
/-- an answer: a number, or an exception of a class -/
def AN (h : sd_H) : Int32 ⊕ Nat → Int32 ⊕ Nat → Prop
  | .inl v, .inl w => v = w
  | .inr e, .inr d => h.2 e = some (.inr (d, []))
  | _, _ => False
/-- an index within n -/
def inR (a : Int32) (n : Nat) : Option Nat := if ¬ a < 0 ∧ a < n3 n then some a.toNatClampNeg else none
theorem inR_some {s n : Nat} (h : s < n) (hn : n ≤ 1000000) : inR (n3 s) n = some s := by
  have h1 : ¬ n3 s < 0 := by
    rw [show (0 : Int32) = n3 0 from rfl, n3_lt (by omega) (by omega)]
    omega
  have h2 : n3 s < n3 n := by
    rw [n3_lt (by omega) (by omega)]
    exact h
  unfold inR
  rw [if_pos ⟨h1, h2⟩, n3_nn (by omega)]
theorem inR_cases (a : Int32) {n : Nat} (hn : n ≤ 1000000) : (∃ s, s < n ∧ a = n3 s) ∨ ((a < 0 ∨ ¬ a < n3 n) ∧ inR a n = none) := by
  by_cases c1 : a < 0
  · exact Or.inr ⟨Or.inl c1, if_neg (fun h => h.1 c1)⟩
  · by_cases c2 : a < n3 n
    · rcases n3_cases a with h | ⟨k, hk, rfl⟩
      · exact absurd h c1
      · rw [n3_lt (by omega) (by omega)] at c2
        exact Or.inl ⟨k, c2, rfl⟩
    · exact Or.inr ⟨Or.inr c2, if_neg (fun h => c2 h.2)⟩
theorem wp_newE {h : sd_H} {b : Nat × Nat} {ci n : Nat} {fs : List Value} {Q : Nat → sd_H → Nat × Nat → Prop} (h1 : 1 ≤ b.1) (h2 : n ≤ b.2) : wp (sd_new ci n fs) h b Q = Q h.1 (sd_pu h (.inr (ci, fs))) (b.1 - 1, b.2 - n) := by
  apply propext
  constructor
  · rintro ⟨a', c, h1, e', -, -, q⟩
    cases e'
    exact q
  · exact wp_new h1 h2
section RQ
variable {G : sd_G} {h : sd_H} {b : Nat × Nat} {Q : Unit ⊕ Nat → sd_H → Nat × Nat → Prop} {a : Int32} {s n : Nat}
theorem r_idx (hs : s < n) (hn : n ≤ 1000000) : wp (fX1_requireIndex G (n3 s) (n3 n)) h b Q = Q (.inl ()) h b := by
  unfold fX1_requireIndex
  have h1 : ¬ n3 s < 0 := by
    rw [show (0 : Int32) = n3 0 from rfl, n3_lt (by omega) (by omega)]
    omega
  have h2 : n3 s < n3 n := by
    rw [n3_lt (by omega) (by omega)]
    exact hs
  simp only [↓wp_bnd, ↓wp_ret, ↓wp_ite, ↓reduceIte, h1, h2]
theorem r_idb (hs : a < 0 ∨ ¬ a < n3 n) (b1 : 1 ≤ b.1) (b2 : 6 ≤ b.2) : wp (fX1_requireIndex G a (n3 n)) h b Q = Q (.inr h.1) (sd_pu h (.inr (50, []))) (b.1 - 1, b.2 - 6) := by
  unfold fX1_requireIndex fX1_requireIndex_b9
  rcases hs with c | c
  · simp only [↓wp_bnd, ↓wp_ret, ↓wp_ite, ↓reduceIte, c, wp_newE b1 b2]
  · by_cases c1 : a < 0
    · simp only [↓wp_bnd, ↓wp_ret, ↓wp_ite, ↓reduceIte, c1, wp_newE b1 b2]
    · simp only [↓wp_bnd, ↓wp_ret, ↓wp_ite, ↓reduceIte, c, c1, wp_newE b1 b2]
theorem r_st1 : wp (fX1_requireState G 1) h b Q = Q (.inl ()) h b := by
  unfold fX1_requireState
  rw [if_neg (by decide), wp_ret]
theorem r_st0 (b1 : 1 ≤ b.1) (b2 : 6 ≤ b.2) : wp (fX1_requireState G 0) h b Q = Q (.inr h.1) (sd_pu h (.inr (48, []))) (b.1 - 1, b.2 - 6) := by
  unfold fX1_requireState
  rw [if_pos rfl, wp_bnd, wp_newE b1 b2, wp_ret]
theorem r_frm {l m : Nat} (hl : l ≤ s) (hm : s ≤ m) (h1 : m ≤ 1000000) : wp (fX1_requireFrom G (n3 l) (n3 m) (n3 s)) h b Q = Q (.inl ()) h b := by
  unfold fX1_requireFrom fX1_require
  have e1 : ¬ n3 s < n3 l := by
    rw [n3_lt (by omega) (by omega)]
    omega
  have e2 : ¬ n3 m < n3 s := by
    rw [n3_lt (by omega) (by omega)]
    omega
  rw [if_neg e1, if_neg e2, wp_bx, if_neg (by decide), wp_ret]
  exact wp_ret
theorem r_frb {l m : Int32} (hs : a < l ∨ m < a) (b1 : 1 ≤ b.1) (b2 : 6 ≤ b.2) : wp (fX1_requireFrom G l m a) h b Q = Q (.inr h.1) (sd_pu h (.inr (49, []))) (b.1 - 1, b.2 - 6) := by
  have key : wp (sd_bx (fX1_require G 0) (fun e15 => sd_ret (.inr e15)) fun _ => sd_ret (.inl ())) h b Q = Q (.inr h.1) (sd_pu h (.inr (49, []))) (b.1 - 1, b.2 - 6) := by
    unfold fX1_require
    rw [if_pos rfl, wp_bx, wp_bnd, wp_newE b1 b2, wp_ret]
    exact wp_ret
  unfold fX1_requireFrom
  by_cases c : a < l
  · rw [if_pos c]
    exact key
  · rw [if_neg c, if_pos (hs.resolve_left c)]
    exact key
end RQ
section CRD
variable {t : TT} {b : Nat × Nat} {G : sd_G} {cx tp bt s0 E1 : Nat} {B : Nat → Nat} {Z : Nat → Prop} {q : Nat → Nat} {x : Nat → Nat → Int32} {ea : Int32} {sz : Nat} {bs : Nat → Int32} {h : sd_H}
theorem CI_pu {e : sd_E} (C : CI G cx tp bt s0 E1 B Z q x ea sz bs h t) : CI G cx tp bt s0 E1 B Z q x ea sz bs (sd_pu h e) t ∧ fr h (sd_pu h e) E1 (B 1) := by
  have w := C.1
  refine ⟨CI_keep C (wfH_pu w) (Nat.le_succ _) (fun a ha _ => pu_ne (Nat.ne_of_lt ha)), Nat.le_succ _, fun a e ha _ _ _ => (pu_ne (Nat.ne_of_lt (w.1 _ _ ha).2)).trans ha⟩
theorem c_rd (C : CI G cx tp bt s0 E1 B Z q x ea sz bs h t) : (∀ b (Q : Unit → sd_H → Nat × Nat → Prop), wp (sd_isC G 0 cx) h b Q = Q () h b) ∧ (∀ b (Q : Nat → sd_H → Nat × Nat → Prop), wp (sd_getR G 0 0 cx) h b Q = Q tp h b) ∧ (∀ b (Q : Int32 → sd_H → Nat × Nat → Prop), wp (sd_getI G 0 1 cx) h b Q = Q ea h b) ∧ (∀ b (Q : Nat → sd_H → Nat × Nat → Prop), wp (sd_getR G 0 2 cx) h b Q = Q s0 h b) ∧ (∀ b (Q : Nat → sd_H → Nat × Nat → Prop), wp (sd_getR G 0 3 cx) h b Q = Q (B 0) h b) ∧ (∀ b (Q : Unit → sd_H → Nat × Nat → Prop), wp (sd_isC G 2 (B 0)) h b Q = Q () h b) := by
  obtain ⟨-, -, -, -, -, -, c, n, ρ, K, ad, F, mc, em, cs, R, -, A, O, H, D, -, -⟩ := C
  have l := sd_look_new (G := G) c
  obtain ⟨i0, i1, v7, v8, v9, v10, v11, H0⟩ := H.1
  exact ⟨fun _ _ => wp_isC l, fun _ _ => wp_getR l rfl, fun _ _ => wp_getI l rfl, fun _ _ => wp_getR l rfl, fun _ _ => wp_getR l rfl, fun _ _ => wp_isC (sd_look_new H0)⟩
theorem c_so (C : CI G cx tp bt s0 E1 B Z q x ea sz bs h t) : (∀ b (Q : Int32 → sd_H → Nat × Nat → Prop), wp (sd_getI G 2 0 s0) h b Q = Q (n3 (q 21)) h b) ∧ (∀ b (Q : Int32 → sd_H → Nat × Nat → Prop), wp (sd_getI G 2 1 s0) h b Q = Q (n3 (q 20)) h b) ∧ (∀ b (Q : Int32 → sd_H → Nat × Nat → Prop), wp (sd_getI G 2 8 s0) h b Q = Q (t.1 0) h b) ∧ (∀ b (Q : Int32 → sd_H → Nat × Nat → Prop), wp (sd_getI G 2 9 s0) h b Q = Q (t.1 1) h b) ∧ (∀ b (Q : Int32 → sd_H → Nat × Nat → Prop), wp (sd_getI G 2 10 s0) h b Q = Q (t.1 2) h b) ∧ (∀ b (Q : Int32 → sd_H → Nat × Nat → Prop), wp (sd_getI G 2 11 s0) h b Q = Q (t.1 3) h b) ∧ (∀ b (Q : Unit → sd_H → Nat × Nat → Prop), wp (sd_isC G 2 s0) h b Q = Q () h b) ∧ (∀ b (Q : Nat → sd_H → Nat × Nat → Prop), wp (sd_getR G 2 6 s0) h b Q = Q E1 h b) ∧ (∀ f b (Q : Int32 → sd_H → Nat × Nat → Prop), f < 24 → wp (sd_aldI G 0 E1 (n3 f)) h b Q = Q (cnv (t.2.2.2.2 f)) h b) := by
  obtain ⟨-, -, -, -, -, -, c, n, ρ, K, ad, F, mc, em, cs, R, rfl, A, O, H, D, rfl, rfl⟩ := C
  obtain ⟨r0, r1, -, -, -, -, r6, -, r8, r9, r10, r11, r12, r13⟩ := s_rd (mc := mc) A
  exact ⟨r0, r1, r8, r9, r10, r11, r12, r6, r13⟩
theorem c_ls (C : CI G cx tp bt s0 E1 B Z q x ea sz bs h t) : ∃ f3 f4, (∀ b (Q : Nat → sd_H → Nat × Nat → Prop), wp (sd_getR G 2 3 s0) h b Q = Q f3 h b) ∧ (∀ b (Q : Unit → sd_H → Nat × Nat → Prop), wp (sd_isC G 41 f3) h b Q = Q () h b) ∧ (∀ b (Q : Int32 → sd_H → Nat × Nat → Prop), wp (fJ2_size G f3) h b Q = Q (n3 (q 22)) h b) ∧ (∀ b (Q : Nat → sd_H → Nat × Nat → Prop), wp (sd_getR G 2 4 s0) h b Q = Q f4 h b) ∧ (∀ b (Q : Unit → sd_H → Nat × Nat → Prop), wp (sd_isC G 41 f4) h b Q = Q () h b) ∧ (∀ b (Q : Int32 → sd_H → Nat × Nat → Prop), wp (fJ2_size G f4) h b Q = Q (n3 (q 26)) h b) ∧ ∀ i, i < q 26 → ∃ a, (∀ b (Q : Nat → sd_H → Nat × Nat → Prop), wp (fJ2_get G f4 (n3 i)) h b Q = Q a h b) ∧ (∀ b (Q : Unit → sd_H → Nat × Nat → Prop), wp (sd_cast G [11] a) h b Q = Q () h b) ∧ (∀ b (Q : Int32 → sd_H → Nat × Nat → Prop), wp (sd_getI G 11 0 a) h b Q = Q (x 27 i) h b) ∧ (∀ b (Q : Int32 → sd_H → Nat × Nat → Prop), wp (sd_getI G 11 1 a) h b Q = Q (x 29 i) h b) ∧ (∀ b (Q : Int32 → sd_H → Nat × Nat → Prop), wp (sd_getI G 11 2 a) h b Q = Q (strm x i) h b) := by
  obtain ⟨-, -, -, -, -, -, c, n, ρ, K, ad, F, mc, em, cs, R, rfl, A, O, H, D, rfl, rfl⟩ := C
  obtain ⟨r0, r1, -, r3, r4, -⟩ := s_rd (mc := mc) A
  exact ⟨F 3, F 4, r3, (s_emp A).1, (s_emp A).2, r4, (s_fin A).1, (s_fin A).2, fun i hi => s_finat A hi⟩
theorem C_P (C : CI G cx tp bt s0 E1 B Z q x ea sz bs h t) : okP q x ∧ okT (q 20) (q 26) t ∧ ok3 t ∧ dst (q 20) t := by
  obtain ⟨-, -, h3, hd, -, -, c, n, ρ, K, ad, F, mc, em, cs, R, -, A, O, H, D, -, -⟩ := C
  exact ⟨A.2.2.2.1, A.2.2.2.2, h3, hd⟩
theorem c_height {s : Nat} {Q : Int32 → sd_H → Nat × Nat → Prop} (C : CI G cx tp bt s0 E1 B Z q x ea sz bs h t) (hs : s < q 20) : wp (fX3_height G s0 (n3 s)) h b Q = Q (n3 (t.2.1 s)) h b := by
  obtain ⟨-, -, -, -, -, -, c, n, ρ, K, ad, F, mc, em, cs, R, rfl, A, O, H, D, rfl, rfl⟩ := C
  exact s_height A hs
theorem c_isP {s : Nat} {Q : Int32 → sd_H → Nat × Nat → Prop} (C : CI G cx tp bt s0 E1 B Z q x ea sz bs h t) : wp (fX3_isPropped G s0 (n3 s)) h b Q = Q (bI (isP t s)) h b := by
  obtain ⟨-, -, -, -, -, -, c, n, ρ, K, ad, F, mc, em, cs, R, rfl, A, O, H, D, rfl, rfl⟩ := C
  exact s_isP A
theorem c_found {Q : Int32 → sd_H → Nat × Nat → Prop} (C : CI G cx tp bt s0 E1 B Z q x ea sz bs h t) : wp (fX3_found G s0) h b Q = Q (cnt (fndB t 1) (q 26)) h b := by
  obtain ⟨-, -, -, -, -, -, c, n, ρ, K, ad, F, mc, em, cs, R, rfl, A, O, H, D, rfl, rfl⟩ := C
  exact s_found A
theorem c_sure {Q : Int32 → sd_H → Nat × Nat → Prop} (C : CI G cx tp bt s0 E1 B Z q x ea sz bs h t) : wp (fX3_sure G s0) h b Q = Q (cnt (fndB t 2) (q 26)) h b := by
  obtain ⟨-, -, -, -, -, -, c, n, ρ, K, ad, F, mc, em, cs, R, rfl, A, O, H, D, rfl, rfl⟩ := C
  exact s_sure A
theorem c_props {Q : Int32 → sd_H → Nat × Nat → Prop} (C : CI G cx tp bt s0 E1 B Z q x ea sz bs h t) : wp (fX3_props G s0) h b Q = Q (bitc (t.1 4)) h b := by
  obtain ⟨-, -, -, -, -, -, c, n, ρ, K, ad, F, mc, em, cs, R, rfl, A, O, H, D, rfl, rfl⟩ := C
  exact s_props A
theorem c_seenIn {k e : Int32} {Q : Int32 → sd_H → Nat × Nat → Prop} (C : CI G cx tp bt s0 E1 B Z q x ea sz bs h t) : wp (fX3_isSeenIn G s0 k e) h b Q = Q (bI (seeS (q 26) x t k e)) h b := by
  obtain ⟨-, -, -, -, -, -, c, n, ρ, K, ad, F, mc, em, cs, R, rfl, A, O, H, D, rfl, rfl⟩ := C
  exact s_seenIn A
theorem c_nbf {k : Int32} {Q : Int32 → sd_H → Nat × Nat → Prop} (C : CI G cx tp bt s0 E1 B Z q x ea sz bs h t) : wp (fX3_notBefore G s0 k) h b Q = Q (nbf (q 26) x t k) h b := by
  obtain ⟨-, -, -, -, -, -, c, n, ρ, K, ad, F, mc, em, cs, R, rfl, A, O, H, D, rfl, rfl⟩ := C
  exact s_nbf A
theorem c_mixed {k : Int32} {Q : Int32 → sd_H → Nat × Nat → Prop} (C : CI G cx tp bt s0 E1 B Z q x ea sz bs h t) : wp (fX3_isMixed G s0 k) h b Q = Q (bI (mixB (q 22) (q 26) x t k)) h b := by
  obtain ⟨-, -, -, -, -, -, c, n, ρ, K, ad, F, mc, em, cs, R, rfl, A, O, H, D, rfl, rfl⟩ := C
  exact s_mixed A
theorem c_top {s : Nat} (C : CI G cx tp bt s0 E1 B Z q x ea sz bs h t) (hs : s < q 20) (h1 : 1 ≤ t.2.1 s) : ∃ a, (∀ b (Q : Nat → sd_H → Nat × Nat → Prop), wp (fX3_top G s0 (n3 s)) h b Q = Q a h b) ∧ (∀ b (Q : Int32 → sd_H → Nat × Nat → Prop), wp (sd_getI G 3 0 a) h b Q = Q (n3 (topC t s % 10)) h b) ∧ (∀ b (Q : Int32 → sd_H → Nat × Nat → Prop), wp (sd_getI G 3 2 a) h b Q = Q (x 31 (topC t s)) h b) ∧ (∀ b (Q : Int32 → sd_H → Nat × Nat → Prop), wp (sd_getI G 3 3 a) h b Q = Q (t.2.2.2.1 (topC t s)) h b) := by
  obtain ⟨-, -, -, -, -, -, c, n, ρ, K, ad, F, mc, em, cs, R, rfl, A, O, H, D, rfl, rfl⟩ := C
  obtain ⟨r0, -, r2, r3⟩ := cu_rd (s_cu (mc := mc) A hs (Nat.sub_lt (Nat.lt_of_lt_of_le Nat.zero_lt_one h1) Nat.zero_lt_one))
  exact ⟨_, fun _ _ => s_top A hs h1, r0, r2, r3⟩
/-- the iterator's cell in a step that makes one -/
theorem c_left {s : Nat} {Q : Int32 → sd_H → Nat × Nat → Prop} (C : CI G cx tp bt s0 E1 B Z q x ea sz bs h t) (hs : s < q 20) (h1 : 1 ≤ b.1) (h2 : 4 ≤ b.2) (kk : ∀ h', CI G cx tp bt s0 E1 B Z q x ea sz bs h' t → fr h h' E1 (B 1) → Q (cnt (lftB x t s) (t.2.1 s)) h' (b.1 - 1, b.2 - 4)) : wp (fX3_left G s0 (n3 s)) h b Q := by
  have C0 := C
  obtain ⟨w, -, h3, hd, -, -, c, n, ρ, K, ad, F, mc, em, cs, R, rfl, A, O, H, D, rfl, rfl⟩ := C
  refine s_left A hs w h1 h2 (fun K' hK A' w' => ?_)
  have X : XT n ρ K ad em (n + 1) ρ K' ad em := ⟨⟨Nat.le_succ _, fun _ _ => rfl, fun _ h => absurd rfl h, fun _ h => h⟩, hK⟩
  obtain ⟨C', f'⟩ := CI_X w C0 A O H D rfl rfl X A' w' h3 hd
  exact kk _ C' f'
theorem c_above {f : Nat} {Q : Int32 → sd_H → Nat × Nat → Prop} (C : CI G cx tp bt s0 E1 B Z q x ea sz bs h t) (hf : f < q 26) (h1 : 1 ≤ b.1) (h2 : 4 ≤ b.2) (kk : ∀ h', CI G cx tp bt s0 E1 B Z q x ea sz bs h' t → fr h h' E1 (B 1) → Q (bur (q 20) x t (x 28 f)) h' (b.1 - 1, b.2 - 4)) : wp (fX3_above G s0 (n3 f)) h b Q := by
  have C0 := C
  obtain ⟨w, -, h3, hd, -, -, c, n, ρ, K, ad, F, mc, em, cs, R, rfl, A, O, H, D, rfl, rfl⟩ := C
  refine s_above A hf w h1 h2 (fun K' hK A' w' => ?_)
  have X : XT n ρ K ad em (n + 1) ρ K' ad em := ⟨⟨Nat.le_succ _, fun _ _ => rfl, fun _ h => absurd rfl h, fun _ h => h⟩, hK⟩
  obtain ⟨C', f'⟩ := CI_X w C0 A O H D rfl rfl X A' w' h3 hd
  exact kk _ C' f'
end CRD
