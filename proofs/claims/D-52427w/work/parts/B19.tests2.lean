/-! THE PLAIN LAW: tests, all of them -/
theorem oprO_stp {q : Nat → Nat} {x : Nat → Nat → Int32} {t : TT} {al a c : Bool} {st : List Int32} : stpE q x t (oprO al) 0 (bI c :: bI a :: st) = bI (if al then a && c else a || c) :: st := by
  cases al
  · show (bI a ||| bI c) :: st = _
    rw [bI_or]
    rfl
  · show (bI a &&& bI c) :: st = _
    rw [bI_and]
    rfl
/-- several tests by their rows: cf what each tells -/
theorem joiR_ev {q : Nat → Nat} {x : Nat → Nat → Int32} {t : TT} {al : Bool} {ws : List (Nat × List (Int32 × Int32))} {cf : Nat → Bool} (h : ∀ i p, ws[i]? = some p → ∀ st, evlL q x t p.2 st = bI (cf i) :: st) (h1 : 1 ≤ ws.length) (st : List Int32) : evlL q x t (joiR al ws) st = bI (lp (fun i (_ : Unit) => if cf i = al then .inl () else .inr (!al)) (fun _ => al) ws.length 0 ()) :: st := by
  have step : ∀ r i, i + r = ws.length → ∀ acc : Bool, evlL q x t ((ws.drop i).flatMap (fun p => p.2 ++ [(oprO al, 0)])) (bI acc :: st) = bI (if acc = al then lp (fun i (_ : Unit) => if cf i = al then .inl () else .inr (!al)) (fun _ => al) r i () else acc) :: st := by
    intro r
    induction r with
    | zero =>
      intro i hi acc
      rw [List.drop_eq_nil_of_le (by omega)]
      show bI acc :: st = _
      by_cases c : acc = al
      · rw [if_pos c, c]
        rfl
      · rw [if_neg c]
    | succ r ih =>
      intro i hi acc
      have hlt : i < ws.length := by omega
      rw [List.drop_eq_getElem_cons hlt, List.flatMap_cons, evlL_app, evlL_app, h i _ (List.getElem?_eq_getElem hlt), evlL_one, oprO_stp, ih (i + 1) (by omega)]
      simp only [lp]
      cases acc <;> cases al <;> cases cf i <;> simp
  cases ws with
  | nil => simp at h1
  | cons p r =>
    show evlL q x t (p.2 ++ r.flatMap _) st = _
    rw [evlL_app, h 0 p rfl]
    have := step r.length 1 (by simp; omega) (cf 0)
    rw [List.drop_succ_cons, List.drop_zero] at this
    rw [this]
    simp only [List.length_cons, lp]
    by_cases c : cf 0 = al
    · rw [if_pos c, if_pos c]
    · rw [if_neg c, if_neg c]
      cases al <;> cases hc : cf 0 <;> simp_all
section SG
variable {G : sd_G} {n : Nat} {ρ : Nat → Option Nat} {K : Nat → Option sd_E} {ad F : Nat → Nat} {q : Nat → Nat} {x : Nat → Nat → Int32} {mc : Nat → Int32} {em cs : Nat → Bool} {t : TT}
theorem ev_test (A : sA G n ρ K ad F q x em cs t) : ∀ d a w, isTs (q 22) (im G n ρ K) d a w → ∃ c : Bool, (∀ st, evlL q x t w st = bI c :: st) ∧ ∀ D, d ≤ D → ∀ b (Q : Int32 → sd_H → Nat × Nat → Prop), wp (sd_bnd (sd_cls G a) fun k41 => if k41 = 18 then (pRT G D).1 a (ad 0) else if k41 = 19 then (pRT G D).2 a (ad 0) else if k41 = 20 then fX22_holds G a (ad 0) else if k41 = 21 then fX23_holds G a (ad 0) else if k41 = 22 then fX24_holds G a (ad 0) else if k41 = 23 then fX26_holds G a (ad 0) else sd_fail) (hSo G n ρ K ad F q x mc em t) b Q = Q (bI c) (hSo G n ρ K ad F q x mc em t) b := by
  intro d
  induction d with
  | zero => intro a w hs; exact hs.elim
  | succ d ih =>
    intro a w hs
    rcases hs with ⟨al, l, m, r, c, f, ws, h1, h2, h3, h4, h5, h6, h7, h8⟩ | ⟨s, w', h1, h2, h3⟩ | ⟨e, h1, h2⟩ | ⟨s, w', h1, h2, h3⟩ | ⟨sg, v, hs, hz, ln, g, l, r, wl, wr, o, h1, h2, h3, h4, h5, h6, h7⟩
    · have pick : ∀ i : Nat, ∃ c : Bool, ∀ p : Nat × List (Int32 × Int32), ws[i]? = some p → (∀ st, evlL q x t p.2 st = bI c :: st) ∧ ∀ D, d ≤ D → ∀ b (Q : Int32 → sd_H → Nat × Nat → Prop), wp (sd_bnd (sd_cls G p.1) fun k41 => if k41 = 18 then (pRT G D).1 p.1 (ad 0) else if k41 = 19 then (pRT G D).2 p.1 (ad 0) else if k41 = 20 then fX22_holds G p.1 (ad 0) else if k41 = 21 then fX23_holds G p.1 (ad 0) else if k41 = 22 then fX24_holds G p.1 (ad 0) else if k41 = 23 then fX26_holds G p.1 (ad 0) else sd_fail) (hSo G n ρ K ad F q x mc em t) b Q = Q (bI c) (hSo G n ρ K ad F q x mc em t) b := by
        intro i
        cases hp : ws[i]? with
        | none => exact ⟨true, fun p hp2 => by cases hp2⟩
        | some p =>
          obtain ⟨c, c1, c2⟩ := ih p.1 p.2 (h7 i p hp).2
          exact ⟨c, fun p' hp2 => by cases hp2; exact ⟨c1, c2⟩⟩
      obtain ⟨cf, hcf⟩ := Classical.axiomOfChoice pick
      refine ⟨lp (fun i (_ : Unit) => if cf i = al then (.inl () : Unit ⊕ Bool) else .inr (!al)) (fun _ => al) ws.length 0 (), fun st => ?_, fun D hD b Q => ?_⟩
      · rw [h8]
        exact joiR_ev (fun i p hp => (hcf i p hp).1) h6 st
      · cases D with
        | zero => omega
        | succ D =>
          rw [wp_bnd, wp_cls (im_lk h1), if_pos rfl]
          show wp (fX20_holds G (pRT G D) a (ad 0)) _ _ _ = _
          unfold fX20_holds
          have g0 : ∀ b (Q : Int32 → sd_H → Nat × Nat → Prop), wp (sd_getI G 18 0 a) (hSo G n ρ K ad F q x mc em t) b Q = Q (bI al) (hSo G n ρ K ad F q x mc em t) b := fun _ _ => wp_getI (im_lk h1) rfl
          have g1 : ∀ b (Q : Nat → sd_H → Nat × Nat → Prop), wp (sd_getR G 18 1 a) (hSo G n ρ K ad F q x mc em t) b Q = Q l (hSo G n ρ K ad F q x mc em t) b := fun _ _ => wp_getR (im_lk h1) rfl
          have l2 := im_lk (ad := ad) (F := F) (q := q) (x := x) (mc := mc) (em := em) (t := t) h2
          have l3 := im_lk (ad := ad) (F := F) (q := q) (x := x) (mc := mc) (em := em) (t := t) h3
          refine Eq.trans (wp_lp (F := fun k s => fX20_holds_b2 G (pRT G D) k s.1 s.2.1 s.2.2) ws.length (fun i (_ : Unit) => (a, ad 0, n3 i)) (fun _ => hSo G n ρ K ad F q x mc em t) (fun _ _ => True) (fun i (_ : Unit) => if cf i = al then .inl () else .inr (!al)) (fun _ => al) (fun g => Q (bI g) (hSo G n ρ K ad F q x mc em t) b) ?_ ?_ sd_FU 0 () (Nat.zero_le _) (by unfold sd_FU; omega) trivial) rfl
          · intro k u _
            unfold fX20_holds_b2
            simp (disch := omega) only [↓wp_bnd, ↓wp_ret, ↓wp_ite, ↓reduceIte, ↓g0, ↓g1, ↓al_rd l2, ↓j_size l2, n3_le, Nat.le_refl, wp_retN (nar_bI al)]
          · intro k i u hi _
            refine ⟨fun _ _ => trivial, ?_⟩
            have hn1 : ¬ ws.length ≤ i := by omega
            have hp := List.getElem?_eq_getElem hi
            obtain ⟨f1, f2⟩ := h7 i _ hp
            obtain ⟨v1, v2⟩ := hcf i _ hp
            obtain ⟨ci, fs, z1, z2⟩ := isTs_cls f2
            have hn2 : ¬ (n3 ws.length ≤ n3 i) := by
              rw [n3_le (by omega) (by omega)]
              exact hn1
            unfold fX20_holds_b2
            rw [wp_bnd, g1, wp_bnd, (al_rd l2).2.2.2.1, wp_bnd, j_size l2, if_neg hn2, wp_bnd, g1, wp_bnd, (al_rd l2).2.2.2.1, wp_bnd, j_get l2 l3 hi h4 (by omega) f1, wp_bnd, wp_cast (im_lk z1) z2, wp_bnd, v2 D (by omega)]
            simp only [↓wp_bnd, ↓wp_ret, ↓wp_ite, ↓reduceIte, g0, bI_inj]
            by_cases c9 : cf i = al
            · simp only [c9, ↓reduceIte]
              rw [show n3 i + 1 = n3 (i + 1) from n3_add i 1]
            · simp only [c9, ↓reduceIte]
              cases al <;> simp [bI]
    · obtain ⟨c, c1, c2⟩ := ih s w' h2
      refine ⟨!c, fun st => ?_, fun D hD b Q => ?_⟩
      · rw [h3, evlL_app, c1, evlL_one]
        cases c <;> rfl
      · cases D with
        | zero => omega
        | succ D =>
          rw [wp_bnd, wp_cls (im_lk h1), if_neg (by decide), if_pos rfl]
          show wp (fX21_holds G (pRT G D) a (ad 0)) _ _ _ = _
          unfold fX21_holds
          rw [wp_bnd, wp_getR (k := 0) (v := s) (im_lk h1) rfl, wp_bnd, c2 D (by omega)]
          simp only [↓wp_bnd, ↓wp_ret, ↓wp_ite, ↓reduceIte, bI_0]
          cases c <;> simp [bI]
    · refine ⟨seeN (q 21) (q 26) x t e, fun st => ?_, fun D hD b Q => ?_⟩
      · rw [h2]
        rfl
      · rw [wp_bnd, wp_cls (im_lk h1), if_neg (by decide), if_neg (by decide), if_pos rfl]
        exact s_seen A h1
    · obtain ⟨v, v1, v2⟩ := ev_sum (mc := mc) A 420 9 s w' h2
      refine ⟨!decide (v < 0) && !decide (n3 (q 26) ≤ v) && decide (t.2.2.2.2 v.toNatClampNeg = 2), fun st => ?_, fun D hD b Q => ?_⟩
      · rw [h3, evlL_app, v1, evlL_one]
        rfl
      · rw [wp_bnd, wp_cls (im_lk h1), if_neg (by decide), if_neg (by decide), if_neg (by decide), if_pos rfl]
        exact s_sureT A h1 (v2 450 (by omega))
    · obtain ⟨v1, e1, e2⟩ := ev_sum (mc := mc) A 420 9 l wl h5
      obtain ⟨v2, e3, e4⟩ := ev_sum (mc := mc) A 420 9 r wr h6
      have main := fun (b : Nat × Nat) (Q : Int32 → sd_H → Nat × Nat → Prop) => s_comp (b := b) (Q := Q) h1 h2 h3 h4 (e2 450 (by omega)) (e4 450 (by omega))
      obtain ⟨c, c1, c2, c3, -⟩ := main (0, 0) (fun _ _ _ => True)
      refine ⟨c, fun st => ?_, fun D hD b Q => ?_⟩
      · rw [h7, evlL_app, evlL_app, e1, e3, evlL_one]
        unfold stpE
        rw [if_neg (by rw [c2]; decide), if_neg (by rw [c3]; decide)]
        show recI o v1 v2 :: st = _
        rw [c1]
      · rw [wp_bnd, wp_cls (im_lk h1), if_neg (by decide), if_neg (by decide), if_neg (by decide), if_neg (by decide), if_pos rfl]
        obtain ⟨c', d1, -, -, d2⟩ := main b Q
        rw [c1, bI_inj] at d1
        subst d1
        exact d2
end SG
