/-! THE PLAIN LAW: the world of the second walk -/
/-- sorts of cells that trees are made of -/
def isTr : sd_E → Bool
  | .inl (t, _) => decide (t = 4) || decide (t = 2)
  | .inr (d, _) => (decide (12 ≤ d) && decide (d ≤ 41)) || decide (d = 45)
theorem isSm_tr {ne : Nat} {L : Nat → sd_E → Prop} : ∀ d m a w, isSm ne L d m a w → isSm ne (fun a e => L a e ∧ isTr e = true) d m a w := by
  intro d
  induction d with
  | zero => intro m a w hs; exact hs.elim
  | succ d ih =>
    intro m a w hs
    rcases hs with ⟨z, h1, h2⟩ | ⟨wa, j, z, h1, h2, h3, h4⟩ | ⟨s, w', h1, h0, h2, h3⟩ | ⟨s, w', h1, h2, h3⟩ | ⟨g, j, l, r, wl, wr, h0, h1, h2, h3, h4, h5⟩
    · exact Or.inl ⟨z, ⟨h1, rfl⟩, h2⟩
    · refine Or.inr (Or.inl ⟨wa, j, z, h1, ⟨h2, rfl⟩, ⟨h3, ?_⟩, h4⟩)
      show ((decide (12 ≤ 24 + j) && decide (24 + j ≤ 41)) || decide (24 + j = 45)) = true
      rw [decide_eq_true (show 12 ≤ 24 + j by omega), decide_eq_true (show 24 + j ≤ 41 by omega)]
      rfl
    · exact Or.inr (Or.inr (Or.inl ⟨s, w', ⟨h1, rfl⟩, h0, ih _ s w' h2, h3⟩))
    · exact Or.inr (Or.inr (Or.inr (Or.inl ⟨s, w', ⟨h1, rfl⟩, ih _ s w' h2, h3⟩)))
    · refine Or.inr (Or.inr (Or.inr (Or.inr ⟨g, j, l, r, wl, wr, h0, ⟨h1, rfl⟩, ⟨h2, ?_⟩, ih _ l wl h3, ih _ r wr h4, h5⟩)))
      show ((decide (12 ≤ 33 + j) && decide (33 + j ≤ 41)) || decide (33 + j = 45)) = true
      rw [decide_eq_true (show 12 ≤ 33 + j by omega), decide_eq_true (show 33 + j ≤ 41 by omega)]
      rfl
theorem isTs_tr {ne : Nat} {L : Nat → sd_E → Prop} : ∀ d a w, isTs ne L d a w → isTs ne (fun a e => L a e ∧ isTr e = true) d a w := by
  intro d
  induction d with
  | zero => intro a w hs; exact hs.elim
  | succ d ih =>
    intro a w hs
    rcases hs with ⟨al, l, m, r, c, f, ws, h1, h2, h3, h4, h5, h6, h7, h8⟩ | ⟨s, w', h1, h2, h3⟩ | ⟨e, h1, h2⟩ | ⟨s, w', h1, h2, h3⟩ | ⟨sg, v, hs, hz, ln, g, l, r, wl, wr, o, h1, h2, h3, h4, h5, h6, h7⟩
    · exact Or.inl ⟨al, l, m, r, c, f, ws, ⟨h1, rfl⟩, ⟨h2, rfl⟩, ⟨h3, rfl⟩, h4, h5, h6, fun i p hp => ⟨(h7 i p hp).1, ih _ _ (h7 i p hp).2⟩, h8⟩
    · exact Or.inr (Or.inl ⟨s, w', ⟨h1, rfl⟩, ih _ _ h2, h3⟩)
    · exact Or.inr (Or.inr (Or.inl ⟨e, ⟨h1, rfl⟩, h2⟩))
    · exact Or.inr (Or.inr (Or.inr (Or.inl ⟨s, w', ⟨h1, rfl⟩, isSm_tr _ _ _ _ h2, h3⟩)))
    · exact Or.inr (Or.inr (Or.inr (Or.inr ⟨sg, v, hs, hz, ln, g, l, r, wl, wr, o, ⟨h1, rfl⟩, ⟨h2, rfl⟩, ⟨h3, rfl⟩, h4, isSm_tr _ _ _ _ h5, isSm_tr _ _ _ _ h6, h7⟩)))
/-- where trees lie: TZ, or an old string of a sign -/
def PZ (n0 rd : Nat) (N TZ : Nat → Prop) (a : Nat) (c : sd_E) : Prop := isTr c = true ∧ (TZ a ∨ (a ≠ rd ∧ ¬ N a ∧ ((n0 ≤ a ∧ ∃ v hs hz, c = aS v hs hz) ∨ ∃ ln g, c = aB ln g ∧ ln ≤ 2)))
/-- an order made of the line l -/
def ORd (G : sd_G) (κ : Nat → Nat) (vl : Nat → Int32) (ne : Nat) (wk : Nat → Option Nat) (L : Nat → sd_E → Prop) (l : Ln) (o : Nat) : Prop := ∃ cr se te jj, L o (.inr (17, [.ref cr, .ref se, .ref te])) ∧ jj < 3 ∧ κ l.1 = 11 + jj ∧ sd_c G cr = some (.inr (30 + jj, [])) ∧ isSm ne L 420 9 se (res wk l.2.2.1) ∧ (isTs ne L 39 te (res wk l.2.2.2.1) ∨ (L te (.inr (23, [])) ∧ l.2.2.2.1 = [])) ∧ fstU wk l.2.2.2.2 = none ∧ pLin κ vl l.1 = .inl l
/-- an element of a list in the second walk -/
def EL2 (G : sd_G) (κ : Nat → Nat) (vl : Nat → Int32) (x : Nat → Nat → Int32) (ne : Nat) (wk : Nat → Option Nat) (L : Nat → sd_E → Prop) (os : List Ln) (h : sd_H) (k j o : Nat) : Prop := (k = 3 → h.2 o = some (.inr (10, [.int (x 24 j), .int (x 25 j)]))) ∧ (k = 4 → h.2 o = some (.inr (11, [.int (x 27 j), .int (x 29 j), .int (strm x j)]))) ∧ (k = 5 → ∃ l, os[j]? = some l ∧ ORd G κ vl ne wk L l o)
/-- what does not change in the second walk: sofa's cells against each other -/
def FX (G : sd_G) (u : Nat → Nat) (sz n0 n2 : Nat) (tx : Nat → Nat) (rd : Nat) (F ad : Nat → Nat) (n4 ns st : Nat) : Prop := n0 ≤ rd ∧ rd < n4 ∧ n0 ≤ n2 ∧ n2 ≤ n4 ∧ (∀ a, nmA u sz tx a → a < n4) ∧ (∀ k, 2 ≤ k → k ≤ 5 → F k < n4) ∧ (∀ k, 3 ≤ k → k ≤ 5 → F 2 ≠ F k) ∧ (∀ s, s < ns → ad (10 + s) < n4 ∧ ad (20 + s) < n4 ∧ ∀ k, 3 ≤ k → k ≤ 5 → ad (10 + s) ≠ F k) ∧ (∀ s k, s < ns → k < st → n0 ≤ ad (100 + (10 * s + k))) ∧ (∀ s s' k k', s < ns → s' < ns → k < st → k' < st → ad (100 + (10 * s + k)) = ad (100 + (10 * s' + k')) → s = s' ∧ k = k')
/-- the list a, its array between n0 and n4 -/
def tlv (n0 n4 a : Nat) (h : sd_H) : Prop := a < n4 ∧ ∀ mc r n, h.2 a = some (aL mc r n) → r < n4 ∧ n0 ≤ r
def W2m (G : sd_G) (u : Nat → Nat) (sz n0 tl : Nat) (ta tx : Nat → Nat) (rd : Nat) (w : Int32) (so m n2 n4 E0 : Nat) (F ad : Nat → Nat) (mcs : Nat → Int32) (TZ : Nat → Prop) (S : SS) (os : List Ln) (ky nd iv : Nat → Nat) (kt : Nat → List Nat) (i : Nat) (h : sd_H) : Prop := wfH G h ∧ n4 ≤ h.1 ∧ RC G u sz n0 tl ta tx rd w so m (S.1 22) ky nd iv kt i 0 h ∧ mow n0 m (S.1 22) nd h ∧ (∀ j, j < S.1 22 → sd_c G (iv j) = some (.inr (47, [.int (n3 j)]))) ∧ (∀ j, j < S.1 22 → S.2.1 j = nmW (kt j) ∧ okN (kt j)) ∧ (∃ rr sz', LL G n2 F rr sz' (EL2 G (kdT u sz) (vlT u sz) S.2.2 (S.1 22) (wkF w (S.1 22) kt u sz) (Lp G (PZ n0 rd (nmA u sz tx) TZ) h) os h) h ∧ sz' 3 = S.1 22 ∧ sz' 4 = S.1 26 ∧ sz' 5 = S.1 32 ∧ ∀ k, 3 ≤ k → k ≤ 5 → (rr k = sd_ad G 0 ∨ n4 ≤ rr k) ∧ ¬ TZ (rr k)) ∧ tlw n2 tl h ∧ h.2 so = some (aSo (n3 (S.1 21)) (n3 (S.1 20)) F E0) ∧ h.2 E0 = some (.inl (0, 24, .inl (fun _ => 0))) ∧ STK S.2.2 ad mcs (S.1 20) (S.1 21) (F 2) h ∧ tlv n0 n4 (F 2) h ∧ FX G u sz n0 n2 tx rd F ad n4 (S.1 20) (S.1 21) ∧ os.length = S.1 32 ∧ (∀ l, l ∈ os → l.1 ≤ nT u sz) ∧ (2 ≤ S.1 20 ∧ S.1 20 ≤ 8) ∧ (2 ≤ S.1 21 ∧ S.1 21 ≤ 10) ∧ S.1 22 ≤ 6 ∧ S.1 26 ≤ 24 ∧ S.1 32 ≤ 16 ∧ ∀ a, TZ a → n4 ≤ a ∧ a < h.1
def W2 (G : sd_G) (u : Nat → Nat) (sz n0 tl : Nat) (ta tx : Nat → Nat) (rd : Nat) (w : Int32) (so m n2 n4 E0 : Nat) (F ad : Nat → Nat) (mcs : Nat → Int32) (TZ : Nat → Prop) (S : SS) (os : List Ln) (i : Nat) (h : sd_H) : Prop := ∃ ky nd iv kt, W2m G u sz n0 tl ta tx rd w so m n2 n4 E0 F ad mcs TZ S os ky nd iv kt i h
section W2K
variable {G : sd_G} {u : Nat → Nat} {sz n0 n2 n4 tl so m rd E0 k i : Nat} {ta tx : Nat → Nat} {w : Int32} {ky nd iv : Nat → Nat} {kt : Nat → List Nat} {F ad : Nat → Nat} {mcs : Nat → Int32} {TZ M : Nat → Prop} {x : Nat → Nat → Int32} {h h' : sd_H}
/-- what a line may change -/
def okM (F rr : Nat → Nat) (h : sd_H) (M : Nat → Prop) : Prop := ∀ z, M z → (∃ k, 3 ≤ k ∧ k ≤ 5 ∧ (z = F k ∨ z = rr k)) ∨ ∃ fs, h.2 z = some (.inr (3, fs))
theorem PZ_kp {ns st : Nat} {rr sz' : Nat → Nat} {EL : Nat → Nat → Nat → Prop} {TZ' : Nat → Prop} (wf : wfH G h) (R : RC G u sz n0 tl ta tx rd w so m k ky nd iv kt i 0 h) (A : LL G n2 F rr sz' EL h) (X : FX G u sz n0 n2 tx rd F ad n4 ns st) (hT : ∀ a, TZ a → n4 ≤ a ∧ a < h.1) (hr : ∀ k, 3 ≤ k → k ≤ 5 → ¬ TZ (rr k)) (fr : lfr rd (nmA u sz tx) n0 M h h') (hM : okM F rr h M) (hTT : ∀ a, TZ a → TZ' a) : ∀ a c, Lp G (PZ n0 rd (nmA u sz tx) TZ) h a c → Lp G (PZ n0 rd (nmA u sz tx) TZ') h' a c := by
  obtain ⟨x1, x2, x3, x4, x5, x6, -⟩ := X
  refine Lp_go (fun a c ha hp => ?_)
  obtain ⟨p1, p2⟩ := hp
  refine ⟨fr.2 a c ha ?_ ?_ ?_ (fun q => ?_), p1, ?_⟩
  · rintro rfl
    rw [R.2.1] at ha
    cases ha
    cases p1
  · rcases p2 with q | q
    · intro q'
      have := x5 a q'
      have := (hT a q).1
      omega
    · exact q.2.1
  · cases c with
    | inl y =>
      obtain ⟨t, y⟩ := y
      have p1 : (decide (t = 4) || decide (t = 2)) = true := p1
      simp only [Bool.or_eq_true, decide_eq_true_eq] at p1
      show decide (t = 5) = false
      exact decide_eq_false (by omega)
    | inr y =>
      obtain ⟨t, y⟩ := y
      have p1 : ((decide (12 ≤ t) && decide (t ≤ 41)) || decide (t = 45)) = true := p1
      simp only [Bool.or_eq_true, Bool.and_eq_true, decide_eq_true_eq] at p1
      show (decide (t = 43) || decide (t = 44)) = false
      simp only [Bool.or_eq_false_iff, decide_eq_false_iff_not]
      omega
  · rcases hM a q with ⟨k', k1, k2, q' | q'⟩ | ⟨fs, q'⟩
    · rcases p2 with p | ⟨-, -, ⟨-, v, hs, hz, p⟩ | ⟨ln, g, p, -⟩⟩
      · have := x6 k' (by omega) k2
        have := (hT a p).1
        omega
      · obtain ⟨mc, cap, f, a1, -⟩ := A.1 k' k1 k2
        rw [q', a1.1, p] at ha
        cases ha
      · obtain ⟨mc, cap, f, a1, -⟩ := A.1 k' k1 k2
        rw [q', a1.1, p] at ha
        cases ha
    · rcases p2 with p | ⟨-, -, ⟨-, v, hs, hz, p⟩ | ⟨ln, g, p, -⟩⟩
      · rw [q'] at p
        exact hr k' k1 k2 p
      · obtain ⟨mc, cap, f, a1, -⟩ := A.1 k' k1 k2
        rcases a1.2.1 with ⟨q3, -⟩ | ⟨q3, -⟩
        · rw [q', q3, (wfH_z0 wf).1] at ha
          cases ha
        · rw [q', q3, p] at ha
          cases ha
      · obtain ⟨mc, cap, f, a1, -⟩ := A.1 k' k1 k2
        rcases a1.2.1 with ⟨q3, -⟩ | ⟨q3, -⟩
        · rw [q', q3, (wfH_z0 wf).1] at ha
          cases ha
        · rw [q', q3, p] at ha
          cases ha
    · rw [ha] at q'
      cases q'
      cases p1
  · rcases p2 with q | q
    · exact Or.inl (hTT a q)
    · exact Or.inr q
/-- cells of objects that a line leaves -/
theorem ob_kp {rr sz' : Nat → Nat} {EL : Nat → Nat → Nat → Prop} {a d' : Nat} {fs : List Value} (wf : wfH G h) (R : RC G u sz n0 tl ta tx rd w so m k ky nd iv kt i 0 h) (A : LL G n2 F rr sz' EL h) (fr : lfr rd (nmA u sz tx) n0 M h h') (hM : okM F rr h M) (ha : h.2 a = some (.inr (d', fs))) (h1 : d' ≠ 6 ∧ d' ≠ 45 ∧ d' ≠ 43 ∧ d' ≠ 44 ∧ d' ≠ 3 ∧ d' ≠ 41) : h'.2 a = some (.inr (d', fs)) := by
  refine fr.2 _ _ ha ?_ ?_ ?_ (fun q => ?_)
  · rintro rfl
    rw [R.2.1] at ha
    cases ha
    omega
  · intro q
    obtain ⟨v, hs, hz', e'⟩ := nmA_s R.1 _ _ q ha
    cases e'
    omega
  · show (decide (d' = 43) || decide (d' = 44)) = false
    simp only [Bool.or_eq_false_iff, decide_eq_false_iff_not]
    omega
  · rcases hM a q with ⟨k', k1, k2, q' | q'⟩ | ⟨fs', q'⟩
    · obtain ⟨mc, cap, f, a1, -⟩ := A.1 k' k1 k2
      rw [q', a1.1] at ha
      cases ha
      omega
    · obtain ⟨mc, cap, f, a1, -⟩ := A.1 k' k1 k2
      rcases a1.2.1 with ⟨q3, -⟩ | ⟨q3, -⟩
      · rw [q', q3, (wfH_z0 wf).1] at ha
        cases ha
      · rw [q', q3] at ha
        cases ha
    · rw [ha] at q'
      cases q'
      omega
/-- the stacks stay, but for a cushion -/
theorem STK_kp {rr sz' : Nat → Nat} {EL : Nat → Nat → Nat → Prop} {ns st : Nat} {x' : Nat → Nat → Int32} (wf : wfH G h) (R : RC G u sz n0 tl ta tx rd w so m k ky nd iv kt i 0 h) (A : LL G n2 F rr sz' EL h) (X : FX G u sz n0 n2 tx rd F ad n4 ns st) (hr : ∀ k, 3 ≤ k → k ≤ 5 → rr k = sd_ad G 0 ∨ n4 ≤ rr k) (T4 : tlv n0 n4 (F 2) h) (S : STK x ad mcs ns st (F 2) h) (fr : lfr rd (nmA u sz tx) n0 M h h') (hM : okM F rr h M) (hc : ∀ s k, s < ns → k < st → h'.2 (ad (100 + (10 * s + k))) = some (.inr (3, [.int (n3 k), .int (x' 30 (10 * s + k)), .int (x' 31 (10 * s + k)), .int 0]))) : STK x' ad mcs ns st (F 2) h' ∧ tlv n0 n4 (F 2) h' := by
  obtain ⟨x1, x2, x3, x4, x5, x6, x7, x8, -⟩ := X
  have lsk : ∀ a mc r n, h.2 a = some (aL mc r n) → (∀ k, 3 ≤ k → k ≤ 5 → a ≠ F k) → h'.2 a = some (aL mc r n) := by
    intro a mc r n ha hne
    refine fr.2 _ _ ha ?_ ?_ rfl (fun q => ?_)
    · rintro rfl
      rw [R.2.1] at ha
      cases ha
    · intro q
      obtain ⟨v, hs, hz', e'⟩ := nmA_s R.1 _ _ q ha
      cases e'
    · rcases hM a q with ⟨k', k1, k2, q' | q'⟩ | ⟨fs', q'⟩
      · exact hne k' k1 k2 q'
      · obtain ⟨mc, cap, f, a1, -⟩ := A.1 k' k1 k2
        rcases a1.2.1 with ⟨q3, -⟩ | ⟨q3, -⟩
        · rw [q', q3, (wfH_z0 wf).1] at ha
          cases ha
        · rw [q', q3] at ha
          cases ha
      · rw [ha] at q'
        cases q'
  have ark : ∀ a c f, h.2 a = some (aR c f) → a < n4 → h'.2 a = some (aR c f) := by
    intro a c f ha hlt
    refine fr.2 _ _ ha ?_ ?_ rfl (fun q => ?_)
    · rintro rfl
      rw [R.2.1] at ha
      cases ha
    · intro q
      obtain ⟨v, hs, hz', e'⟩ := nmA_s R.1 _ _ q ha
      cases e'
    · rcases hM a q with ⟨k', k1, k2, q' | q'⟩ | ⟨fs', q'⟩
      · obtain ⟨mc, cap, f, a1, -⟩ := A.1 k' k1 k2
        rw [q', a1.1] at ha
        cases ha
      · rcases hr k' k1 k2 with q3 | q3
        · rw [q', q3, (wfH_z0 wf).1] at ha
          cases ha
        · omega
      · rw [ha] at q'
        cases q'
  obtain ⟨⟨m', r, c, f, s1, s2, s3⟩, s4, s5⟩ := S
  have f2 := lsk _ _ _ _ s1 (fun k k1 k2 => x7 k k1 k2)
  refine ⟨⟨⟨m', r, c, f, f2, ark _ _ _ s2 (T4.2 _ _ _ s1).1, s3⟩, fun s hs => ⟨lsk _ _ _ _ (s4 s hs).1 (fun k k1 k2 => (x8 s hs).2.2 k k1 k2), ark _ _ _ (s4 s hs).2 (x8 s hs).2.1⟩, hc⟩, T4.1, fun mc' r' n q => ?_⟩
  rw [f2] at q
  rw [← aL_r (Option.some.inj q)]
  exact T4.2 _ _ _ s1
end W2K
